/-! DowryBoxes -/
set_option maxRecDepth 100000
def RX0 : String := "DowryBoxes"
def TX0 : u_T := fun k => match k with
  | 0 => ("DowryBoxes", "status", "I", false)
  | 1 => ("DowryBoxes", "refused", "[I", true)
  | 2 => ("DowryBoxes", "state", "LDowryBoxes$State;", true)
  | 3 => ("DowryBoxes", "images", "[LDowryBoxes$State;", true)
  | 4 => ("DowryBoxes", "undone", "[LDowryBoxes$Table;", true)
  | 5 => ("DowryBoxes", "ordersUndone", "[LDowryBoxes$Table;", true)
  | 6 => ("DowryBoxes", "undoneWhat", "[I", true)
  | 7 => ("DowryBoxes", "ordersWhat", "[I", true)
  | 8 => ("DowryBoxes", "ahead", "LDowryBoxes$Table;", true)
  | 9 => ("DowryBoxes", "tried", "LDowryBoxes$Table;", true)
  | 10 => ("DowryBoxes", "tape", "[B", true)
  | 11 => ("DowryBoxes", "taped", "I", false)
  | 12 => ("DowryBoxes", "fault", "I", false)
  | 13 => ("DowryBoxes", "rust", "I", false)
  | 14 => ("DowryBoxes", "stopped", "I", false)
  | 15 => ("DowryBoxes", "undoMany", "I", false)
  | 16 => ("DowryBoxes", "setting", "LDowryBoxes$Setting;", true)
  | 17 => ("DowryBoxes", "lost", "[I", true)
  | 18 => ("DowryBoxes", "gap", "[I", true)
  | 19 => ("DowryBoxes", "liked", "[I", true)
  | 20 => ("DowryBoxes", "keptBy", "[I", true)
  | 21 => ("DowryBoxes", "asked", "[I", true)
  | 22 => ("DowryBoxes", "most", "[I", true)
  | 23 => ("DowryBoxes", "within", "I", false)
  | 24 => ("DowryBoxes", "fewest", "[I", true)
  | 25 => ("DowryBoxes", "share", "[I", true)
  | 26 => ("DowryBoxes", "row", "[I", true)
  | 27 => ("DowryBoxes", "bestRow", "[I", true)
  | 28 => ("DowryBoxes", "years", "[I", true)
  | 29 => ("DowryBoxes", "bestLeast", "I", false)
  | 30 => ("DowryBoxes", "parts", "[J", true)
  | 31 => ("DowryBoxes", "drawnTable", "LDowryBoxes$Table;", true)
  | 32 => ("DowryBoxes", "drawnMany", "I", false)
  | _ => ("DowryBoxes", "drawn", "I", false)
def tyX0 : Nat → FieldType := fun k => match k with
  | 0 => .int
  | 1 => .array .int
  | 2 => .object "DowryBoxes$State"
  | 3 => .array (.object "DowryBoxes$State")
  | 4 => .array (.object "DowryBoxes$Table")
  | 5 => .array (.object "DowryBoxes$Table")
  | 6 => .array .int
  | 7 => .array .int
  | 8 => .object "DowryBoxes$Table"
  | 9 => .object "DowryBoxes$Table"
  | 10 => .array .byte
  | 11 => .int
  | 12 => .int
  | 13 => .int
  | 14 => .int
  | 15 => .int
  | 16 => .object "DowryBoxes$Setting"
  | 17 => .array .int
  | 18 => .array .int
  | 19 => .array .int
  | 20 => .array .int
  | 21 => .array .int
  | 22 => .array .int
  | 23 => .int
  | 24 => .array .int
  | 25 => .array .int
  | 26 => .array .int
  | 27 => .array .int
  | 28 => .array .int
  | 29 => .int
  | 30 => .array .long
  | 31 => .object "DowryBoxes$Table"
  | 32 => .int
  | _ => .int
abbrev wsX00 : List Cond := u_ws RX0 TX0 34
set_option maxRecDepth 100000 in
theorem nmX0 : ∀ a, a < 34 → ∀ b, b < 34 → a ≠ b → (TX0 a).2.1 ≠ (TX0 b).2.1 := by decide +kernel
set_option maxRecDepth 100000 in
theorem tyX0_ok : ∀ k, k < 34 → parseFieldDescriptor (TX0 k).2.2.1 = some (tyX0 k) := by decide +kernel
abbrev cX0_init : ByteArray := prog_1_method_10_code
def yX0_init : MethodName := ⟨RX0, "<init>", "()V"⟩
def dkwX0_init_11 : List UInt8 := [89, 183, 0, 62, 83, 132, 1, 1, 167, 255, 221, 177]
abbrev dktX0_init_11 : List UInt8 := dkwX0_init_11 ++ []
def dkwX0_init_10 : List UInt8 := [162, 0, 35, 42, 180, 0, 49, 27, 187, 0, 47, 89, 183, 0, 62, 83, 42, 180, 0, 53, 27, 187, 0, 47]
abbrev dktX0_init_10 : List UInt8 := dkwX0_init_10 ++ dktX0_init_11
def dkwX0_init_9 : List UInt8 := [181, 0, 120, 42, 187, 0, 47, 89, 183, 0, 62, 181, 0, 124, 42, 2, 181, 0, 127, 3, 60, 27, 16, 16]
abbrev dktX0_init_9 : List UInt8 := dkwX0_init_9 ++ dktX0_init_10
def dkwX0_init_8 : List UInt8 := [181, 0, 111, 42, 16, 6, 188, 10, 181, 0, 114, 42, 16, 6, 188, 10, 181, 0, 117, 42, 16, 21, 188, 11]
abbrev dktX0_init_8 : List UInt8 := dkwX0_init_8 ++ dktX0_init_9
def dkwX0_init_7 : List UInt8 := [181, 0, 102, 42, 17, 8, 0, 188, 10, 181, 0, 105, 42, 6, 188, 10, 181, 0, 108, 42, 16, 6, 188, 10]
abbrev dktX0_init_7 : List UInt8 := dkwX0_init_7 ++ dktX0_init_8
def dkwX0_init_6 : List UInt8 := [42, 16, 6, 188, 10, 181, 0, 96, 42, 16, 6, 188, 10, 181, 0, 99, 42, 17, 1, 192, 188, 10]
abbrev dktX0_init_6 : List UInt8 := dkwX0_init_6 ++ dktX0_init_7
def dkwX0_init_5 : List UInt8 := [42, 16, 6, 188, 10, 181, 0, 87, 42, 16, 36, 188, 10, 181, 0, 90, 42, 16, 36, 188, 10, 181, 0, 93]
abbrev dktX0_init_5 : List UInt8 := dkwX0_init_5 ++ dktX0_init_6
def dkwX0_init_4 : List UInt8 := [181, 0, 70, 42, 2, 181, 0, 74, 42, 2, 181, 0, 77, 42, 187, 0, 80, 89, 183, 0, 82, 181, 0, 83]
abbrev dktX0_init_4 : List UInt8 := dkwX0_init_4 ++ dktX0_init_5
def dkwX0_init_3 : List UInt8 := [183, 0, 62, 181, 0, 63, 42, 187, 0, 47, 89, 183, 0, 62, 181, 0, 67, 42, 17, 1, 144, 188, 8]
abbrev dktX0_init_3 : List UInt8 := dkwX0_init_3 ++ dktX0_init_4
def dkwX0_init_2 : List UInt8 := [181, 0, 53, 42, 16, 16, 188, 10, 181, 0, 56, 42, 16, 16, 188, 10, 181, 0, 59, 42, 187, 0, 47, 89]
abbrev dktX0_init_2 : List UInt8 := dkwX0_init_2 ++ dktX0_init_3
def dkwX0_init_1 : List UInt8 := [5, 189, 0, 36, 181, 0, 43, 42, 16, 16, 189, 0, 47, 181, 0, 49, 42, 16, 16, 189, 0, 47]
abbrev dktX0_init_1 : List UInt8 := dkwX0_init_1 ++ dktX0_init_2
def dkwX0_init_0 : List UInt8 := [42, 183, 0, 30, 42, 16, 7, 188, 10, 181, 0, 7, 42, 187, 0, 36, 89, 183, 0, 38, 181, 0, 39, 42]
abbrev dktX0_init_0 : List UInt8 := dkwX0_init_0 ++ dktX0_init_1
theorem dksX0_init_0 : cX0_init.data.toList.drop 0 = dktX0_init_0 := by decide +kernel
theorem dksX0_init_1 : cX0_init.data.toList.drop 24 = dktX0_init_1 := dk_seg dksX0_init_0 24 rfl rfl
theorem dksX0_init_2 : cX0_init.data.toList.drop 46 = dktX0_init_2 := dk_seg dksX0_init_1 22 rfl rfl
theorem dksX0_init_3 : cX0_init.data.toList.drop 70 = dktX0_init_3 := dk_seg dksX0_init_2 24 rfl rfl
theorem dksX0_init_4 : cX0_init.data.toList.drop 93 = dktX0_init_4 := dk_seg dksX0_init_3 23 rfl rfl
theorem dksX0_init_5 : cX0_init.data.toList.drop 117 = dktX0_init_5 := dk_seg dksX0_init_4 24 rfl rfl
theorem dksX0_init_6 : cX0_init.data.toList.drop 141 = dktX0_init_6 := dk_seg dksX0_init_5 24 rfl rfl
theorem dksX0_init_7 : cX0_init.data.toList.drop 163 = dktX0_init_7 := dk_seg dksX0_init_6 22 rfl rfl
theorem dksX0_init_8 : cX0_init.data.toList.drop 187 = dktX0_init_8 := dk_seg dksX0_init_7 24 rfl rfl
theorem dksX0_init_9 : cX0_init.data.toList.drop 211 = dktX0_init_9 := dk_seg dksX0_init_8 24 rfl rfl
theorem dksX0_init_10 : cX0_init.data.toList.drop 235 = dktX0_init_10 := dk_seg dksX0_init_9 24 rfl rfl
theorem dksX0_init_11 : cX0_init.data.toList.drop 259 = dktX0_init_11 := dk_seg dksX0_init_10 24 rfl rfl
theorem dX0_init_0 : decode cX0_init 0 = .ok (.aload_n 0, 1) := dk_42 (dk_at dksX0_init_0 0 rfl rfl)
theorem dX0_init_1 : decode cX0_init 1 = .ok (.invokespecial 30, 3) := dk_183 0 30 (dk_at dksX0_init_0 1 rfl rfl)
theorem dX0_init_4 : decode cX0_init 4 = .ok (.aload_n 0, 1) := dk_42 (dk_at dksX0_init_0 4 rfl rfl)
theorem dX0_init_5 : decode cX0_init 5 = .ok (.bipush 7, 2) := dk_16 7 (dk_at dksX0_init_0 5 rfl rfl)
theorem dX0_init_7 : decode cX0_init 7 = .ok (.newarray .int, 2) := dk_188_10 (dk_at dksX0_init_0 7 rfl rfl)
theorem dX0_init_9 : decode cX0_init 9 = .ok (.putfield 7, 3) := dk_181 0 7 (dk_at dksX0_init_0 9 rfl rfl)
theorem dX0_init_12 : decode cX0_init 12 = .ok (.aload_n 0, 1) := dk_42 (dk_at dksX0_init_0 12 rfl rfl)
theorem dX0_init_13 : decode cX0_init 13 = .ok (.new 36, 3) := dk_187 0 36 (dk_at dksX0_init_0 13 rfl rfl)
theorem dX0_init_16 : decode cX0_init 16 = .ok (.dup, 1) := dk_89 (dk_at dksX0_init_0 16 rfl rfl)
theorem dX0_init_17 : decode cX0_init 17 = .ok (.invokespecial 38, 3) := dk_183 0 38 (dk_at dksX0_init_0 17 rfl rfl)
theorem dX0_init_20 : decode cX0_init 20 = .ok (.putfield 39, 3) := dk_181 0 39 (dk_at dksX0_init_0 20 rfl rfl)
theorem dX0_init_23 : decode cX0_init 23 = .ok (.aload_n 0, 1) := dk_42 (dk_at dksX0_init_0 23 rfl rfl)
theorem dX0_init_24 : decode cX0_init 24 = .ok (.iconst 2, 1) := dk_5 (dk_at dksX0_init_1 0 rfl rfl)
theorem dX0_init_25 : decode cX0_init 25 = .ok (.anewarray 36, 3) := dk_189 0 36 (dk_at dksX0_init_1 1 rfl rfl)
theorem dX0_init_28 : decode cX0_init 28 = .ok (.putfield 43, 3) := dk_181 0 43 (dk_at dksX0_init_1 4 rfl rfl)
theorem dX0_init_31 : decode cX0_init 31 = .ok (.aload_n 0, 1) := dk_42 (dk_at dksX0_init_1 7 rfl rfl)
theorem dX0_init_32 : decode cX0_init 32 = .ok (.bipush 16, 2) := dk_16 16 (dk_at dksX0_init_1 8 rfl rfl)
theorem dX0_init_34 : decode cX0_init 34 = .ok (.anewarray 47, 3) := dk_189 0 47 (dk_at dksX0_init_1 10 rfl rfl)
theorem dX0_init_37 : decode cX0_init 37 = .ok (.putfield 49, 3) := dk_181 0 49 (dk_at dksX0_init_1 13 rfl rfl)
theorem dX0_init_40 : decode cX0_init 40 = .ok (.aload_n 0, 1) := dk_42 (dk_at dksX0_init_1 16 rfl rfl)
theorem dX0_init_41 : decode cX0_init 41 = .ok (.bipush 16, 2) := dk_16 16 (dk_at dksX0_init_1 17 rfl rfl)
theorem dX0_init_43 : decode cX0_init 43 = .ok (.anewarray 47, 3) := dk_189 0 47 (dk_at dksX0_init_1 19 rfl rfl)
theorem dX0_init_46 : decode cX0_init 46 = .ok (.putfield 53, 3) := dk_181 0 53 (dk_at dksX0_init_2 0 rfl rfl)
theorem dX0_init_49 : decode cX0_init 49 = .ok (.aload_n 0, 1) := dk_42 (dk_at dksX0_init_2 3 rfl rfl)
theorem dX0_init_50 : decode cX0_init 50 = .ok (.bipush 16, 2) := dk_16 16 (dk_at dksX0_init_2 4 rfl rfl)
theorem dX0_init_52 : decode cX0_init 52 = .ok (.newarray .int, 2) := dk_188_10 (dk_at dksX0_init_2 6 rfl rfl)
theorem dX0_init_54 : decode cX0_init 54 = .ok (.putfield 56, 3) := dk_181 0 56 (dk_at dksX0_init_2 8 rfl rfl)
theorem dX0_init_57 : decode cX0_init 57 = .ok (.aload_n 0, 1) := dk_42 (dk_at dksX0_init_2 11 rfl rfl)
theorem dX0_init_58 : decode cX0_init 58 = .ok (.bipush 16, 2) := dk_16 16 (dk_at dksX0_init_2 12 rfl rfl)
theorem dX0_init_60 : decode cX0_init 60 = .ok (.newarray .int, 2) := dk_188_10 (dk_at dksX0_init_2 14 rfl rfl)
theorem dX0_init_62 : decode cX0_init 62 = .ok (.putfield 59, 3) := dk_181 0 59 (dk_at dksX0_init_2 16 rfl rfl)
theorem dX0_init_65 : decode cX0_init 65 = .ok (.aload_n 0, 1) := dk_42 (dk_at dksX0_init_2 19 rfl rfl)
theorem dX0_init_66 : decode cX0_init 66 = .ok (.new 47, 3) := dk_187 0 47 (dk_at dksX0_init_2 20 rfl rfl)
theorem dX0_init_69 : decode cX0_init 69 = .ok (.dup, 1) := dk_89 (dk_at dksX0_init_2 23 rfl rfl)
theorem dX0_init_70 : decode cX0_init 70 = .ok (.invokespecial 62, 3) := dk_183 0 62 (dk_at dksX0_init_3 0 rfl rfl)
theorem dX0_init_73 : decode cX0_init 73 = .ok (.putfield 63, 3) := dk_181 0 63 (dk_at dksX0_init_3 3 rfl rfl)
theorem dX0_init_76 : decode cX0_init 76 = .ok (.aload_n 0, 1) := dk_42 (dk_at dksX0_init_3 6 rfl rfl)
theorem dX0_init_77 : decode cX0_init 77 = .ok (.new 47, 3) := dk_187 0 47 (dk_at dksX0_init_3 7 rfl rfl)
theorem dX0_init_80 : decode cX0_init 80 = .ok (.dup, 1) := dk_89 (dk_at dksX0_init_3 10 rfl rfl)
theorem dX0_init_81 : decode cX0_init 81 = .ok (.invokespecial 62, 3) := dk_183 0 62 (dk_at dksX0_init_3 11 rfl rfl)
theorem dX0_init_84 : decode cX0_init 84 = .ok (.putfield 67, 3) := dk_181 0 67 (dk_at dksX0_init_3 14 rfl rfl)
theorem dX0_init_87 : decode cX0_init 87 = .ok (.aload_n 0, 1) := dk_42 (dk_at dksX0_init_3 17 rfl rfl)
theorem dX0_init_88 : decode cX0_init 88 = .ok (.sipush 400, 3) := dk_17 1 144 (dk_at dksX0_init_3 18 rfl rfl)
theorem dX0_init_91 : decode cX0_init 91 = .ok (.newarray .byte, 2) := dk_188_8 (dk_at dksX0_init_3 21 rfl rfl)
theorem dX0_init_93 : decode cX0_init 93 = .ok (.putfield 70, 3) := dk_181 0 70 (dk_at dksX0_init_4 0 rfl rfl)
theorem dX0_init_96 : decode cX0_init 96 = .ok (.aload_n 0, 1) := dk_42 (dk_at dksX0_init_4 3 rfl rfl)
theorem dX0_init_97 : decode cX0_init 97 = .ok (.iconst (-1), 1) := dk_2 (dk_at dksX0_init_4 4 rfl rfl)
theorem dX0_init_98 : decode cX0_init 98 = .ok (.putfield 74, 3) := dk_181 0 74 (dk_at dksX0_init_4 5 rfl rfl)
theorem dX0_init_101 : decode cX0_init 101 = .ok (.aload_n 0, 1) := dk_42 (dk_at dksX0_init_4 8 rfl rfl)
theorem dX0_init_102 : decode cX0_init 102 = .ok (.iconst (-1), 1) := dk_2 (dk_at dksX0_init_4 9 rfl rfl)
theorem dX0_init_103 : decode cX0_init 103 = .ok (.putfield 77, 3) := dk_181 0 77 (dk_at dksX0_init_4 10 rfl rfl)
theorem dX0_init_106 : decode cX0_init 106 = .ok (.aload_n 0, 1) := dk_42 (dk_at dksX0_init_4 13 rfl rfl)
theorem dX0_init_107 : decode cX0_init 107 = .ok (.new 80, 3) := dk_187 0 80 (dk_at dksX0_init_4 14 rfl rfl)
theorem dX0_init_110 : decode cX0_init 110 = .ok (.dup, 1) := dk_89 (dk_at dksX0_init_4 17 rfl rfl)
theorem dX0_init_111 : decode cX0_init 111 = .ok (.invokespecial 82, 3) := dk_183 0 82 (dk_at dksX0_init_4 18 rfl rfl)
theorem dX0_init_114 : decode cX0_init 114 = .ok (.putfield 83, 3) := dk_181 0 83 (dk_at dksX0_init_4 21 rfl rfl)
theorem dX0_init_117 : decode cX0_init 117 = .ok (.aload_n 0, 1) := dk_42 (dk_at dksX0_init_5 0 rfl rfl)
theorem dX0_init_118 : decode cX0_init 118 = .ok (.bipush 6, 2) := dk_16 6 (dk_at dksX0_init_5 1 rfl rfl)
theorem dX0_init_120 : decode cX0_init 120 = .ok (.newarray .int, 2) := dk_188_10 (dk_at dksX0_init_5 3 rfl rfl)
theorem dX0_init_122 : decode cX0_init 122 = .ok (.putfield 87, 3) := dk_181 0 87 (dk_at dksX0_init_5 5 rfl rfl)
theorem dX0_init_125 : decode cX0_init 125 = .ok (.aload_n 0, 1) := dk_42 (dk_at dksX0_init_5 8 rfl rfl)
theorem dX0_init_126 : decode cX0_init 126 = .ok (.bipush 36, 2) := dk_16 36 (dk_at dksX0_init_5 9 rfl rfl)
theorem dX0_init_128 : decode cX0_init 128 = .ok (.newarray .int, 2) := dk_188_10 (dk_at dksX0_init_5 11 rfl rfl)
theorem dX0_init_130 : decode cX0_init 130 = .ok (.putfield 90, 3) := dk_181 0 90 (dk_at dksX0_init_5 13 rfl rfl)
theorem dX0_init_133 : decode cX0_init 133 = .ok (.aload_n 0, 1) := dk_42 (dk_at dksX0_init_5 16 rfl rfl)
theorem dX0_init_134 : decode cX0_init 134 = .ok (.bipush 36, 2) := dk_16 36 (dk_at dksX0_init_5 17 rfl rfl)
theorem dX0_init_136 : decode cX0_init 136 = .ok (.newarray .int, 2) := dk_188_10 (dk_at dksX0_init_5 19 rfl rfl)
theorem dX0_init_138 : decode cX0_init 138 = .ok (.putfield 93, 3) := dk_181 0 93 (dk_at dksX0_init_5 21 rfl rfl)
theorem dX0_init_141 : decode cX0_init 141 = .ok (.aload_n 0, 1) := dk_42 (dk_at dksX0_init_6 0 rfl rfl)
theorem dX0_init_142 : decode cX0_init 142 = .ok (.bipush 6, 2) := dk_16 6 (dk_at dksX0_init_6 1 rfl rfl)
theorem dX0_init_144 : decode cX0_init 144 = .ok (.newarray .int, 2) := dk_188_10 (dk_at dksX0_init_6 3 rfl rfl)
theorem dX0_init_146 : decode cX0_init 146 = .ok (.putfield 96, 3) := dk_181 0 96 (dk_at dksX0_init_6 5 rfl rfl)
theorem dX0_init_149 : decode cX0_init 149 = .ok (.aload_n 0, 1) := dk_42 (dk_at dksX0_init_6 8 rfl rfl)
theorem dX0_init_150 : decode cX0_init 150 = .ok (.bipush 6, 2) := dk_16 6 (dk_at dksX0_init_6 9 rfl rfl)
theorem dX0_init_152 : decode cX0_init 152 = .ok (.newarray .int, 2) := dk_188_10 (dk_at dksX0_init_6 11 rfl rfl)
theorem dX0_init_154 : decode cX0_init 154 = .ok (.putfield 99, 3) := dk_181 0 99 (dk_at dksX0_init_6 13 rfl rfl)
theorem dX0_init_157 : decode cX0_init 157 = .ok (.aload_n 0, 1) := dk_42 (dk_at dksX0_init_6 16 rfl rfl)
theorem dX0_init_158 : decode cX0_init 158 = .ok (.sipush 448, 3) := dk_17 1 192 (dk_at dksX0_init_6 17 rfl rfl)
theorem dX0_init_161 : decode cX0_init 161 = .ok (.newarray .int, 2) := dk_188_10 (dk_at dksX0_init_6 20 rfl rfl)
theorem dX0_init_163 : decode cX0_init 163 = .ok (.putfield 102, 3) := dk_181 0 102 (dk_at dksX0_init_7 0 rfl rfl)
theorem dX0_init_166 : decode cX0_init 166 = .ok (.aload_n 0, 1) := dk_42 (dk_at dksX0_init_7 3 rfl rfl)
theorem dX0_init_167 : decode cX0_init 167 = .ok (.sipush 2048, 3) := dk_17 8 0 (dk_at dksX0_init_7 4 rfl rfl)
theorem dX0_init_170 : decode cX0_init 170 = .ok (.newarray .int, 2) := dk_188_10 (dk_at dksX0_init_7 7 rfl rfl)
theorem dX0_init_172 : decode cX0_init 172 = .ok (.putfield 105, 3) := dk_181 0 105 (dk_at dksX0_init_7 9 rfl rfl)
theorem dX0_init_175 : decode cX0_init 175 = .ok (.aload_n 0, 1) := dk_42 (dk_at dksX0_init_7 12 rfl rfl)
theorem dX0_init_176 : decode cX0_init 176 = .ok (.iconst 3, 1) := dk_6 (dk_at dksX0_init_7 13 rfl rfl)
theorem dX0_init_177 : decode cX0_init 177 = .ok (.newarray .int, 2) := dk_188_10 (dk_at dksX0_init_7 14 rfl rfl)
theorem dX0_init_179 : decode cX0_init 179 = .ok (.putfield 108, 3) := dk_181 0 108 (dk_at dksX0_init_7 16 rfl rfl)
theorem dX0_init_182 : decode cX0_init 182 = .ok (.aload_n 0, 1) := dk_42 (dk_at dksX0_init_7 19 rfl rfl)
theorem dX0_init_183 : decode cX0_init 183 = .ok (.bipush 6, 2) := dk_16 6 (dk_at dksX0_init_7 20 rfl rfl)
theorem dX0_init_185 : decode cX0_init 185 = .ok (.newarray .int, 2) := dk_188_10 (dk_at dksX0_init_7 22 rfl rfl)
theorem dX0_init_187 : decode cX0_init 187 = .ok (.putfield 111, 3) := dk_181 0 111 (dk_at dksX0_init_8 0 rfl rfl)
theorem dX0_init_190 : decode cX0_init 190 = .ok (.aload_n 0, 1) := dk_42 (dk_at dksX0_init_8 3 rfl rfl)
theorem dX0_init_191 : decode cX0_init 191 = .ok (.bipush 6, 2) := dk_16 6 (dk_at dksX0_init_8 4 rfl rfl)
theorem dX0_init_193 : decode cX0_init 193 = .ok (.newarray .int, 2) := dk_188_10 (dk_at dksX0_init_8 6 rfl rfl)
theorem dX0_init_195 : decode cX0_init 195 = .ok (.putfield 114, 3) := dk_181 0 114 (dk_at dksX0_init_8 8 rfl rfl)
theorem dX0_init_198 : decode cX0_init 198 = .ok (.aload_n 0, 1) := dk_42 (dk_at dksX0_init_8 11 rfl rfl)
theorem dX0_init_199 : decode cX0_init 199 = .ok (.bipush 6, 2) := dk_16 6 (dk_at dksX0_init_8 12 rfl rfl)
theorem dX0_init_201 : decode cX0_init 201 = .ok (.newarray .int, 2) := dk_188_10 (dk_at dksX0_init_8 14 rfl rfl)
theorem dX0_init_203 : decode cX0_init 203 = .ok (.putfield 117, 3) := dk_181 0 117 (dk_at dksX0_init_8 16 rfl rfl)
theorem dX0_init_206 : decode cX0_init 206 = .ok (.aload_n 0, 1) := dk_42 (dk_at dksX0_init_8 19 rfl rfl)
theorem dX0_init_207 : decode cX0_init 207 = .ok (.bipush 21, 2) := dk_16 21 (dk_at dksX0_init_8 20 rfl rfl)
theorem dX0_init_209 : decode cX0_init 209 = .ok (.newarray .long, 2) := dk_188_11 (dk_at dksX0_init_8 22 rfl rfl)
theorem dX0_init_211 : decode cX0_init 211 = .ok (.putfield 120, 3) := dk_181 0 120 (dk_at dksX0_init_9 0 rfl rfl)
theorem dX0_init_214 : decode cX0_init 214 = .ok (.aload_n 0, 1) := dk_42 (dk_at dksX0_init_9 3 rfl rfl)
theorem dX0_init_215 : decode cX0_init 215 = .ok (.new 47, 3) := dk_187 0 47 (dk_at dksX0_init_9 4 rfl rfl)
theorem dX0_init_218 : decode cX0_init 218 = .ok (.dup, 1) := dk_89 (dk_at dksX0_init_9 7 rfl rfl)
theorem dX0_init_219 : decode cX0_init 219 = .ok (.invokespecial 62, 3) := dk_183 0 62 (dk_at dksX0_init_9 8 rfl rfl)
theorem dX0_init_222 : decode cX0_init 222 = .ok (.putfield 124, 3) := dk_181 0 124 (dk_at dksX0_init_9 11 rfl rfl)
theorem dX0_init_225 : decode cX0_init 225 = .ok (.aload_n 0, 1) := dk_42 (dk_at dksX0_init_9 14 rfl rfl)
theorem dX0_init_226 : decode cX0_init 226 = .ok (.iconst (-1), 1) := dk_2 (dk_at dksX0_init_9 15 rfl rfl)
theorem dX0_init_227 : decode cX0_init 227 = .ok (.putfield 127, 3) := dk_181 0 127 (dk_at dksX0_init_9 16 rfl rfl)
theorem dX0_init_230 : decode cX0_init 230 = .ok (.iconst 0, 1) := dk_3 (dk_at dksX0_init_9 19 rfl rfl)
theorem dX0_init_231 : decode cX0_init 231 = .ok (.istore_n 1, 1) := dk_60 (dk_at dksX0_init_9 20 rfl rfl)
theorem dX0_init_232 : decode cX0_init 232 = .ok (.iload_n 1, 1) := dk_27 (dk_at dksX0_init_9 21 rfl rfl)
theorem dX0_init_233 : decode cX0_init 233 = .ok (.bipush 16, 2) := dk_16 16 (dk_at dksX0_init_9 22 rfl rfl)
theorem dX0_init_235 : decode cX0_init 235 = .ok (.if_icmp .ge 35, 3) := dk_162 0 35 (dk_at dksX0_init_10 0 rfl rfl)
theorem dX0_init_238 : decode cX0_init 238 = .ok (.aload_n 0, 1) := dk_42 (dk_at dksX0_init_10 3 rfl rfl)
theorem dX0_init_239 : decode cX0_init 239 = .ok (.getfield 49, 3) := dk_180 0 49 (dk_at dksX0_init_10 4 rfl rfl)
theorem dX0_init_242 : decode cX0_init 242 = .ok (.iload_n 1, 1) := dk_27 (dk_at dksX0_init_10 7 rfl rfl)
theorem dX0_init_243 : decode cX0_init 243 = .ok (.new 47, 3) := dk_187 0 47 (dk_at dksX0_init_10 8 rfl rfl)
theorem dX0_init_246 : decode cX0_init 246 = .ok (.dup, 1) := dk_89 (dk_at dksX0_init_10 11 rfl rfl)
theorem dX0_init_247 : decode cX0_init 247 = .ok (.invokespecial 62, 3) := dk_183 0 62 (dk_at dksX0_init_10 12 rfl rfl)
theorem dX0_init_250 : decode cX0_init 250 = .ok (.aastore, 1) := dk_83 (dk_at dksX0_init_10 15 rfl rfl)
theorem dX0_init_251 : decode cX0_init 251 = .ok (.aload_n 0, 1) := dk_42 (dk_at dksX0_init_10 16 rfl rfl)
theorem dX0_init_252 : decode cX0_init 252 = .ok (.getfield 53, 3) := dk_180 0 53 (dk_at dksX0_init_10 17 rfl rfl)
theorem dX0_init_255 : decode cX0_init 255 = .ok (.iload_n 1, 1) := dk_27 (dk_at dksX0_init_10 20 rfl rfl)
theorem dX0_init_256 : decode cX0_init 256 = .ok (.new 47, 3) := dk_187 0 47 (dk_at dksX0_init_10 21 rfl rfl)
theorem dX0_init_259 : decode cX0_init 259 = .ok (.dup, 1) := dk_89 (dk_at dksX0_init_11 0 rfl rfl)
theorem dX0_init_260 : decode cX0_init 260 = .ok (.invokespecial 62, 3) := dk_183 0 62 (dk_at dksX0_init_11 1 rfl rfl)
theorem dX0_init_263 : decode cX0_init 263 = .ok (.aastore, 1) := dk_83 (dk_at dksX0_init_11 4 rfl rfl)
theorem dX0_init_264 : decode cX0_init 264 = .ok (.iinc 1 1, 3) := dk_132 1 1 (dk_at dksX0_init_11 5 rfl rfl)
theorem dX0_init_267 : decode cX0_init 267 = .ok (.goto (-35), 3) := dk_167 255 221 (dk_at dksX0_init_11 8 rfl rfl)
theorem dX0_init_270 : decode cX0_init 270 = .ok (.return_, 1) := dk_177 (dk_at dksX0_init_11 11 rfl rfl)
abbrev cX0_image : ByteArray := prog_1_method_15_code
def yX0_image : MethodName := ⟨RX0, "image", "(I)I"⟩
def dkwX0_image_2 : List UInt8 := [182, 0, 148, 42, 3, 182, 0, 136, 172]
abbrev dktX0_image_2 : List UInt8 := dkwX0_image_2 ++ []
def dkwX0_image_1 : List UInt8 := [42, 180, 0, 43, 27, 187, 0, 36, 89, 183, 0, 38, 83, 42, 180, 0, 43, 27, 50, 42, 180, 0, 39]
abbrev dktX0_image_1 : List UInt8 := dkwX0_image_1 ++ dktX0_image_2
def dkwX0_image_0 : List UInt8 := [27, 3, 4, 184, 0, 26, 154, 0, 9, 42, 2, 182, 0, 145, 172, 42, 180, 0, 43, 27, 50, 199, 0, 16]
abbrev dktX0_image_0 : List UInt8 := dkwX0_image_0 ++ dktX0_image_1
theorem dksX0_image_0 : cX0_image.data.toList.drop 0 = dktX0_image_0 := by decide +kernel
theorem dksX0_image_1 : cX0_image.data.toList.drop 24 = dktX0_image_1 := dk_seg dksX0_image_0 24 rfl rfl
theorem dksX0_image_2 : cX0_image.data.toList.drop 47 = dktX0_image_2 := dk_seg dksX0_image_1 23 rfl rfl
theorem dX0_image_0 : decode cX0_image 0 = .ok (.iload_n 1, 1) := dk_27 (dk_at dksX0_image_0 0 rfl rfl)
theorem dX0_image_1 : decode cX0_image 1 = .ok (.iconst 0, 1) := dk_3 (dk_at dksX0_image_0 1 rfl rfl)
theorem dX0_image_2 : decode cX0_image 2 = .ok (.iconst 1, 1) := dk_4 (dk_at dksX0_image_0 2 rfl rfl)
theorem dX0_image_3 : decode cX0_image 3 = .ok (.invokestatic 26, 3) := dk_184 0 26 (dk_at dksX0_image_0 3 rfl rfl)
theorem dX0_image_6 : decode cX0_image 6 = .ok (.ifCond .ne 9, 3) := dk_154 0 9 (dk_at dksX0_image_0 6 rfl rfl)
theorem dX0_image_9 : decode cX0_image 9 = .ok (.aload_n 0, 1) := dk_42 (dk_at dksX0_image_0 9 rfl rfl)
theorem dX0_image_10 : decode cX0_image 10 = .ok (.iconst (-1), 1) := dk_2 (dk_at dksX0_image_0 10 rfl rfl)
theorem dX0_image_11 : decode cX0_image 11 = .ok (.invokevirtual 145, 3) := dk_182 0 145 (dk_at dksX0_image_0 11 rfl rfl)
theorem dX0_image_14 : decode cX0_image 14 = .ok (.ireturn, 1) := dk_172 (dk_at dksX0_image_0 14 rfl rfl)
theorem dX0_image_15 : decode cX0_image 15 = .ok (.aload_n 0, 1) := dk_42 (dk_at dksX0_image_0 15 rfl rfl)
theorem dX0_image_16 : decode cX0_image 16 = .ok (.getfield 43, 3) := dk_180 0 43 (dk_at dksX0_image_0 16 rfl rfl)
theorem dX0_image_19 : decode cX0_image 19 = .ok (.iload_n 1, 1) := dk_27 (dk_at dksX0_image_0 19 rfl rfl)
theorem dX0_image_20 : decode cX0_image 20 = .ok (.aaload, 1) := dk_50 (dk_at dksX0_image_0 20 rfl rfl)
theorem dX0_image_21 : decode cX0_image 21 = .ok (.ifnonnull 16, 3) := dk_199 0 16 (dk_at dksX0_image_0 21 rfl rfl)
theorem dX0_image_24 : decode cX0_image 24 = .ok (.aload_n 0, 1) := dk_42 (dk_at dksX0_image_1 0 rfl rfl)
theorem dX0_image_25 : decode cX0_image 25 = .ok (.getfield 43, 3) := dk_180 0 43 (dk_at dksX0_image_1 1 rfl rfl)
theorem dX0_image_28 : decode cX0_image 28 = .ok (.iload_n 1, 1) := dk_27 (dk_at dksX0_image_1 4 rfl rfl)
theorem dX0_image_29 : decode cX0_image 29 = .ok (.new 36, 3) := dk_187 0 36 (dk_at dksX0_image_1 5 rfl rfl)
theorem dX0_image_32 : decode cX0_image 32 = .ok (.dup, 1) := dk_89 (dk_at dksX0_image_1 8 rfl rfl)
theorem dX0_image_33 : decode cX0_image 33 = .ok (.invokespecial 38, 3) := dk_183 0 38 (dk_at dksX0_image_1 9 rfl rfl)
theorem dX0_image_36 : decode cX0_image 36 = .ok (.aastore, 1) := dk_83 (dk_at dksX0_image_1 12 rfl rfl)
theorem dX0_image_37 : decode cX0_image 37 = .ok (.aload_n 0, 1) := dk_42 (dk_at dksX0_image_1 13 rfl rfl)
theorem dX0_image_38 : decode cX0_image 38 = .ok (.getfield 43, 3) := dk_180 0 43 (dk_at dksX0_image_1 14 rfl rfl)
theorem dX0_image_41 : decode cX0_image 41 = .ok (.iload_n 1, 1) := dk_27 (dk_at dksX0_image_1 17 rfl rfl)
theorem dX0_image_42 : decode cX0_image 42 = .ok (.aaload, 1) := dk_50 (dk_at dksX0_image_1 18 rfl rfl)
theorem dX0_image_43 : decode cX0_image 43 = .ok (.aload_n 0, 1) := dk_42 (dk_at dksX0_image_1 19 rfl rfl)
theorem dX0_image_44 : decode cX0_image 44 = .ok (.getfield 39, 3) := dk_180 0 39 (dk_at dksX0_image_1 20 rfl rfl)
theorem dX0_image_47 : decode cX0_image 47 = .ok (.invokevirtual 148, 3) := dk_182 0 148 (dk_at dksX0_image_2 0 rfl rfl)
theorem dX0_image_50 : decode cX0_image 50 = .ok (.aload_n 0, 1) := dk_42 (dk_at dksX0_image_2 3 rfl rfl)
theorem dX0_image_51 : decode cX0_image 51 = .ok (.iconst 0, 1) := dk_3 (dk_at dksX0_image_2 4 rfl rfl)
theorem dX0_image_52 : decode cX0_image 52 = .ok (.invokevirtual 136, 3) := dk_182 0 136 (dk_at dksX0_image_2 5 rfl rfl)
theorem dX0_image_55 : decode cX0_image 55 = .ok (.ireturn, 1) := dk_172 (dk_at dksX0_image_2 8 rfl rfl)
abbrev cX0_in : ByteArray := prog_1_method_3_code
def yX0_in : MethodName := ⟨RX0, "in", "(III)Z"⟩
def dkwX0_in_0 : List UInt8 := [26, 27, 161, 0, 12, 26, 28, 163, 0, 7, 4, 167, 0, 4, 3, 172]
abbrev dktX0_in_0 : List UInt8 := dkwX0_in_0 ++ []
theorem dksX0_in_0 : cX0_in.data.toList.drop 0 = dktX0_in_0 := by decide +kernel
theorem dX0_in_0 : decode cX0_in 0 = .ok (.iload_n 0, 1) := dk_26 (dk_at dksX0_in_0 0 rfl rfl)
theorem dX0_in_1 : decode cX0_in 1 = .ok (.iload_n 1, 1) := dk_27 (dk_at dksX0_in_0 1 rfl rfl)
theorem dX0_in_2 : decode cX0_in 2 = .ok (.if_icmp .lt 12, 3) := dk_161 0 12 (dk_at dksX0_in_0 2 rfl rfl)
theorem dX0_in_5 : decode cX0_in 5 = .ok (.iload_n 0, 1) := dk_26 (dk_at dksX0_in_0 5 rfl rfl)
theorem dX0_in_6 : decode cX0_in 6 = .ok (.iload_n 2, 1) := dk_28 (dk_at dksX0_in_0 6 rfl rfl)
theorem dX0_in_7 : decode cX0_in 7 = .ok (.if_icmp .gt 7, 3) := dk_163 0 7 (dk_at dksX0_in_0 7 rfl rfl)
theorem dX0_in_10 : decode cX0_in 10 = .ok (.iconst 1, 1) := dk_4 (dk_at dksX0_in_0 10 rfl rfl)
theorem dX0_in_11 : decode cX0_in 11 = .ok (.goto 4, 3) := dk_167 0 4 (dk_at dksX0_in_0 11 rfl rfl)
theorem dX0_in_14 : decode cX0_in 14 = .ok (.iconst 0, 1) := dk_3 (dk_at dksX0_in_0 14 rfl rfl)
theorem dX0_in_15 : decode cX0_in 15 = .ok (.ireturn, 1) := dk_172 (dk_at dksX0_in_0 15 rfl rfl)
abbrev cX0_refuse : ByteArray := prog_1_method_1_code
def yX0_refuse : MethodName := ⟨RX0, "refuse", "(I)I"⟩
def dkwX0_refuse_0 : List UInt8 := [42, 27, 181, 0, 1, 42, 180, 0, 7, 27, 116, 92, 46, 4, 96, 79, 27, 172]
abbrev dktX0_refuse_0 : List UInt8 := dkwX0_refuse_0 ++ []
theorem dksX0_refuse_0 : cX0_refuse.data.toList.drop 0 = dktX0_refuse_0 := by decide +kernel
theorem dX0_refuse_0 : decode cX0_refuse 0 = .ok (.aload_n 0, 1) := dk_42 (dk_at dksX0_refuse_0 0 rfl rfl)
theorem dX0_refuse_1 : decode cX0_refuse 1 = .ok (.iload_n 1, 1) := dk_27 (dk_at dksX0_refuse_0 1 rfl rfl)
theorem dX0_refuse_2 : decode cX0_refuse 2 = .ok (.putfield 1, 3) := dk_181 0 1 (dk_at dksX0_refuse_0 2 rfl rfl)
theorem dX0_refuse_5 : decode cX0_refuse 5 = .ok (.aload_n 0, 1) := dk_42 (dk_at dksX0_refuse_0 5 rfl rfl)
theorem dX0_refuse_6 : decode cX0_refuse 6 = .ok (.getfield 7, 3) := dk_180 0 7 (dk_at dksX0_refuse_0 6 rfl rfl)
theorem dX0_refuse_9 : decode cX0_refuse 9 = .ok (.iload_n 1, 1) := dk_27 (dk_at dksX0_refuse_0 9 rfl rfl)
theorem dX0_refuse_10 : decode cX0_refuse 10 = .ok (.ineg, 1) := dk_116 (dk_at dksX0_refuse_0 10 rfl rfl)
theorem dX0_refuse_11 : decode cX0_refuse 11 = .ok (.dup2, 1) := dk_92 (dk_at dksX0_refuse_0 11 rfl rfl)
theorem dX0_refuse_12 : decode cX0_refuse 12 = .ok (.iaload, 1) := dk_46 (dk_at dksX0_refuse_0 12 rfl rfl)
theorem dX0_refuse_13 : decode cX0_refuse 13 = .ok (.iconst 1, 1) := dk_4 (dk_at dksX0_refuse_0 13 rfl rfl)
theorem dX0_refuse_14 : decode cX0_refuse 14 = .ok (.iadd, 1) := dk_96 (dk_at dksX0_refuse_0 14 rfl rfl)
theorem dX0_refuse_15 : decode cX0_refuse 15 = .ok (.iastore, 1) := dk_79 (dk_at dksX0_refuse_0 15 rfl rfl)
theorem dX0_refuse_16 : decode cX0_refuse 16 = .ok (.iload_n 1, 1) := dk_27 (dk_at dksX0_refuse_0 16 rfl rfl)
theorem dX0_refuse_17 : decode cX0_refuse 17 = .ok (.ireturn, 1) := dk_172 (dk_at dksX0_refuse_0 17 rfl rfl)
abbrev cX0_done : ByteArray := prog_1_method_2_code
def yX0_done : MethodName := ⟨RX0, "done", "(I)I"⟩
def dkwX0_done_0 : List UInt8 := [42, 3, 181, 0, 1, 27, 172]
abbrev dktX0_done_0 : List UInt8 := dkwX0_done_0 ++ []
theorem dksX0_done_0 : cX0_done.data.toList.drop 0 = dktX0_done_0 := by decide +kernel
theorem dX0_done_0 : decode cX0_done 0 = .ok (.aload_n 0, 1) := dk_42 (dk_at dksX0_done_0 0 rfl rfl)
theorem dX0_done_1 : decode cX0_done 1 = .ok (.iconst 0, 1) := dk_3 (dk_at dksX0_done_0 1 rfl rfl)
theorem dX0_done_2 : decode cX0_done 2 = .ok (.putfield 1, 3) := dk_181 0 1 (dk_at dksX0_done_0 2 rfl rfl)
theorem dX0_done_5 : decode cX0_done 5 = .ok (.iload_n 1, 1) := dk_27 (dk_at dksX0_done_0 5 rfl rfl)
theorem dX0_done_6 : decode cX0_done 6 = .ok (.ireturn, 1) := dk_172 (dk_at dksX0_done_0 6 rfl rfl)
abbrev cX0_back : ByteArray := prog_1_method_16_code
def yX0_back : MethodName := ⟨RX0, "back", "(I)I"⟩
def dkwX0_back_2 : List UInt8 := [182, 0, 152, 172]
abbrev dktX0_back_2 : List UInt8 := dkwX0_back_2 ++ []
def dkwX0_back_1 : List UInt8 := [42, 16, 254, 182, 0, 145, 172, 42, 180, 0, 39, 42, 180, 0, 43, 27, 50, 182, 0, 148, 42, 3]
abbrev dktX0_back_1 : List UInt8 := dkwX0_back_1 ++ dktX0_back_2
def dkwX0_back_0 : List UInt8 := [27, 3, 4, 184, 0, 26, 154, 0, 9, 42, 2, 182, 0, 145, 172, 42, 180, 0, 43, 27, 50, 199, 0, 10]
abbrev dktX0_back_0 : List UInt8 := dkwX0_back_0 ++ dktX0_back_1
theorem dksX0_back_0 : cX0_back.data.toList.drop 0 = dktX0_back_0 := by decide +kernel
theorem dksX0_back_1 : cX0_back.data.toList.drop 24 = dktX0_back_1 := dk_seg dksX0_back_0 24 rfl rfl
theorem dksX0_back_2 : cX0_back.data.toList.drop 46 = dktX0_back_2 := dk_seg dksX0_back_1 22 rfl rfl
theorem dX0_back_0 : decode cX0_back 0 = .ok (.iload_n 1, 1) := dk_27 (dk_at dksX0_back_0 0 rfl rfl)
theorem dX0_back_1 : decode cX0_back 1 = .ok (.iconst 0, 1) := dk_3 (dk_at dksX0_back_0 1 rfl rfl)
theorem dX0_back_2 : decode cX0_back 2 = .ok (.iconst 1, 1) := dk_4 (dk_at dksX0_back_0 2 rfl rfl)
theorem dX0_back_3 : decode cX0_back 3 = .ok (.invokestatic 26, 3) := dk_184 0 26 (dk_at dksX0_back_0 3 rfl rfl)
theorem dX0_back_6 : decode cX0_back 6 = .ok (.ifCond .ne 9, 3) := dk_154 0 9 (dk_at dksX0_back_0 6 rfl rfl)
theorem dX0_back_9 : decode cX0_back 9 = .ok (.aload_n 0, 1) := dk_42 (dk_at dksX0_back_0 9 rfl rfl)
theorem dX0_back_10 : decode cX0_back 10 = .ok (.iconst (-1), 1) := dk_2 (dk_at dksX0_back_0 10 rfl rfl)
theorem dX0_back_11 : decode cX0_back 11 = .ok (.invokevirtual 145, 3) := dk_182 0 145 (dk_at dksX0_back_0 11 rfl rfl)
theorem dX0_back_14 : decode cX0_back 14 = .ok (.ireturn, 1) := dk_172 (dk_at dksX0_back_0 14 rfl rfl)
theorem dX0_back_15 : decode cX0_back 15 = .ok (.aload_n 0, 1) := dk_42 (dk_at dksX0_back_0 15 rfl rfl)
theorem dX0_back_16 : decode cX0_back 16 = .ok (.getfield 43, 3) := dk_180 0 43 (dk_at dksX0_back_0 16 rfl rfl)
theorem dX0_back_19 : decode cX0_back 19 = .ok (.iload_n 1, 1) := dk_27 (dk_at dksX0_back_0 19 rfl rfl)
theorem dX0_back_20 : decode cX0_back 20 = .ok (.aaload, 1) := dk_50 (dk_at dksX0_back_0 20 rfl rfl)
theorem dX0_back_21 : decode cX0_back 21 = .ok (.ifnonnull 10, 3) := dk_199 0 10 (dk_at dksX0_back_0 21 rfl rfl)
theorem dX0_back_24 : decode cX0_back 24 = .ok (.aload_n 0, 1) := dk_42 (dk_at dksX0_back_1 0 rfl rfl)
theorem dX0_back_25 : decode cX0_back 25 = .ok (.bipush (-2), 2) := dk_16 254 (dk_at dksX0_back_1 1 rfl rfl)
theorem dX0_back_27 : decode cX0_back 27 = .ok (.invokevirtual 145, 3) := dk_182 0 145 (dk_at dksX0_back_1 3 rfl rfl)
theorem dX0_back_30 : decode cX0_back 30 = .ok (.ireturn, 1) := dk_172 (dk_at dksX0_back_1 6 rfl rfl)
theorem dX0_back_31 : decode cX0_back 31 = .ok (.aload_n 0, 1) := dk_42 (dk_at dksX0_back_1 7 rfl rfl)
theorem dX0_back_32 : decode cX0_back 32 = .ok (.getfield 39, 3) := dk_180 0 39 (dk_at dksX0_back_1 8 rfl rfl)
theorem dX0_back_35 : decode cX0_back 35 = .ok (.aload_n 0, 1) := dk_42 (dk_at dksX0_back_1 11 rfl rfl)
theorem dX0_back_36 : decode cX0_back 36 = .ok (.getfield 43, 3) := dk_180 0 43 (dk_at dksX0_back_1 12 rfl rfl)
theorem dX0_back_39 : decode cX0_back 39 = .ok (.iload_n 1, 1) := dk_27 (dk_at dksX0_back_1 15 rfl rfl)
theorem dX0_back_40 : decode cX0_back 40 = .ok (.aaload, 1) := dk_50 (dk_at dksX0_back_1 16 rfl rfl)
theorem dX0_back_41 : decode cX0_back 41 = .ok (.invokevirtual 148, 3) := dk_182 0 148 (dk_at dksX0_back_1 17 rfl rfl)
theorem dX0_back_44 : decode cX0_back 44 = .ok (.aload_n 0, 1) := dk_42 (dk_at dksX0_back_1 20 rfl rfl)
theorem dX0_back_45 : decode cX0_back 45 = .ok (.iconst 0, 1) := dk_3 (dk_at dksX0_back_1 21 rfl rfl)
theorem dX0_back_46 : decode cX0_back 46 = .ok (.invokevirtual 152, 3) := dk_182 0 152 (dk_at dksX0_back_2 0 rfl rfl)
theorem dX0_back_49 : decode cX0_back 49 = .ok (.ireturn, 1) := dk_172 (dk_at dksX0_back_2 3 rfl rfl)
abbrev cX0_settled : ByteArray := prog_1_method_12_code
def yX0_settled : MethodName := ⟨RX0, "settled", "(I)I"⟩
def dkwX0_settled_0 : List UInt8 := [42, 3, 181, 0, 133, 42, 27, 182, 0, 136, 172]
abbrev dktX0_settled_0 : List UInt8 := dkwX0_settled_0 ++ []
theorem dksX0_settled_0 : cX0_settled.data.toList.drop 0 = dktX0_settled_0 := by decide +kernel
theorem dX0_settled_0 : decode cX0_settled 0 = .ok (.aload_n 0, 1) := dk_42 (dk_at dksX0_settled_0 0 rfl rfl)
theorem dX0_settled_1 : decode cX0_settled 1 = .ok (.iconst 0, 1) := dk_3 (dk_at dksX0_settled_0 1 rfl rfl)
theorem dX0_settled_2 : decode cX0_settled 2 = .ok (.putfield 133, 3) := dk_181 0 133 (dk_at dksX0_settled_0 2 rfl rfl)
theorem dX0_settled_5 : decode cX0_settled 5 = .ok (.aload_n 0, 1) := dk_42 (dk_at dksX0_settled_0 5 rfl rfl)
theorem dX0_settled_6 : decode cX0_settled 6 = .ok (.iload_n 1, 1) := dk_27 (dk_at dksX0_settled_0 6 rfl rfl)
theorem dX0_settled_7 : decode cX0_settled 7 = .ok (.invokevirtual 136, 3) := dk_182 0 136 (dk_at dksX0_settled_0 7 rfl rfl)
theorem dX0_settled_10 : decode cX0_settled 10 = .ok (.ireturn, 1) := dk_172 (dk_at dksX0_settled_0 10 rfl rfl)
abbrev cX0_box : ByteArray := prog_1_method_17_code
def yX0_box : MethodName := ⟨RX0, "box", "(I)I"⟩
def dkwX0_box_5 : List UInt8 := [172]
abbrev dktX0_box_5 : List UInt8 := dkwX0_box_5 ++ []
def dkwX0_box_4 : List UInt8 := [180, 0, 170, 28, 3, 79, 42, 180, 0, 39, 89, 180, 0, 139, 4, 96, 181, 0, 139, 42, 28, 182, 0, 152]
abbrev dktX0_box_4 : List UInt8 := dkwX0_box_4 ++ dktX0_box_5
def dkwX0_box_3 : List UInt8 := [45, 180, 0, 161, 28, 3, 79, 45, 180, 0, 164, 28, 27, 79, 45, 180, 0, 167, 28, 2, 79, 45]
abbrev dktX0_box_3 : List UInt8 := dkwX0_box_3 ++ dktX0_box_4
def dkwX0_box_2 : List UInt8 := [16, 8, 162, 0, 22, 45, 180, 0, 158, 16, 8, 28, 104, 21, 4, 96, 3, 79, 132, 4, 1, 167, 255, 233]
abbrev dktX0_box_2 : List UInt8 := dkwX0_box_2 ++ dktX0_box_3
def dkwX0_box_1 : List UInt8 := [28, 16, 6, 160, 0, 10, 42, 16, 251, 182, 0, 145, 172, 42, 182, 0, 155, 78, 3, 54, 4, 21, 4]
abbrev dktX0_box_1 : List UInt8 := dkwX0_box_1 ++ dktX0_box_2
def dkwX0_box_0 : List UInt8 := [27, 3, 16, 20, 184, 0, 26, 154, 0, 9, 42, 2, 182, 0, 145, 172, 42, 180, 0, 39, 180, 0, 139, 61]
abbrev dktX0_box_0 : List UInt8 := dkwX0_box_0 ++ dktX0_box_1
theorem dksX0_box_0 : cX0_box.data.toList.drop 0 = dktX0_box_0 := by decide +kernel
theorem dksX0_box_1 : cX0_box.data.toList.drop 24 = dktX0_box_1 := dk_seg dksX0_box_0 24 rfl rfl
theorem dksX0_box_2 : cX0_box.data.toList.drop 47 = dktX0_box_2 := dk_seg dksX0_box_1 23 rfl rfl
theorem dksX0_box_3 : cX0_box.data.toList.drop 71 = dktX0_box_3 := dk_seg dksX0_box_2 24 rfl rfl
theorem dksX0_box_4 : cX0_box.data.toList.drop 93 = dktX0_box_4 := dk_seg dksX0_box_3 22 rfl rfl
theorem dksX0_box_5 : cX0_box.data.toList.drop 117 = dktX0_box_5 := dk_seg dksX0_box_4 24 rfl rfl
theorem dX0_box_0 : decode cX0_box 0 = .ok (.iload_n 1, 1) := dk_27 (dk_at dksX0_box_0 0 rfl rfl)
theorem dX0_box_1 : decode cX0_box 1 = .ok (.iconst 0, 1) := dk_3 (dk_at dksX0_box_0 1 rfl rfl)
theorem dX0_box_2 : decode cX0_box 2 = .ok (.bipush 20, 2) := dk_16 20 (dk_at dksX0_box_0 2 rfl rfl)
theorem dX0_box_4 : decode cX0_box 4 = .ok (.invokestatic 26, 3) := dk_184 0 26 (dk_at dksX0_box_0 4 rfl rfl)
theorem dX0_box_7 : decode cX0_box 7 = .ok (.ifCond .ne 9, 3) := dk_154 0 9 (dk_at dksX0_box_0 7 rfl rfl)
theorem dX0_box_10 : decode cX0_box 10 = .ok (.aload_n 0, 1) := dk_42 (dk_at dksX0_box_0 10 rfl rfl)
theorem dX0_box_11 : decode cX0_box 11 = .ok (.iconst (-1), 1) := dk_2 (dk_at dksX0_box_0 11 rfl rfl)
theorem dX0_box_12 : decode cX0_box 12 = .ok (.invokevirtual 145, 3) := dk_182 0 145 (dk_at dksX0_box_0 12 rfl rfl)
theorem dX0_box_15 : decode cX0_box 15 = .ok (.ireturn, 1) := dk_172 (dk_at dksX0_box_0 15 rfl rfl)
theorem dX0_box_16 : decode cX0_box 16 = .ok (.aload_n 0, 1) := dk_42 (dk_at dksX0_box_0 16 rfl rfl)
theorem dX0_box_17 : decode cX0_box 17 = .ok (.getfield 39, 3) := dk_180 0 39 (dk_at dksX0_box_0 17 rfl rfl)
theorem dX0_box_20 : decode cX0_box 20 = .ok (.getfield 139, 3) := dk_180 0 139 (dk_at dksX0_box_0 20 rfl rfl)
theorem dX0_box_23 : decode cX0_box 23 = .ok (.istore_n 2, 1) := dk_61 (dk_at dksX0_box_0 23 rfl rfl)
theorem dX0_box_24 : decode cX0_box 24 = .ok (.iload_n 2, 1) := dk_28 (dk_at dksX0_box_1 0 rfl rfl)
theorem dX0_box_25 : decode cX0_box 25 = .ok (.bipush 6, 2) := dk_16 6 (dk_at dksX0_box_1 1 rfl rfl)
theorem dX0_box_27 : decode cX0_box 27 = .ok (.if_icmp .ne 10, 3) := dk_160 0 10 (dk_at dksX0_box_1 3 rfl rfl)
theorem dX0_box_30 : decode cX0_box 30 = .ok (.aload_n 0, 1) := dk_42 (dk_at dksX0_box_1 6 rfl rfl)
theorem dX0_box_31 : decode cX0_box 31 = .ok (.bipush (-5), 2) := dk_16 251 (dk_at dksX0_box_1 7 rfl rfl)
theorem dX0_box_33 : decode cX0_box 33 = .ok (.invokevirtual 145, 3) := dk_182 0 145 (dk_at dksX0_box_1 9 rfl rfl)
theorem dX0_box_36 : decode cX0_box 36 = .ok (.ireturn, 1) := dk_172 (dk_at dksX0_box_1 12 rfl rfl)
theorem dX0_box_37 : decode cX0_box 37 = .ok (.aload_n 0, 1) := dk_42 (dk_at dksX0_box_1 13 rfl rfl)
theorem dX0_box_38 : decode cX0_box 38 = .ok (.invokevirtual 155, 3) := dk_182 0 155 (dk_at dksX0_box_1 14 rfl rfl)
theorem dX0_box_41 : decode cX0_box 41 = .ok (.astore_n 3, 1) := dk_78 (dk_at dksX0_box_1 17 rfl rfl)
theorem dX0_box_42 : decode cX0_box 42 = .ok (.iconst 0, 1) := dk_3 (dk_at dksX0_box_1 18 rfl rfl)
theorem dX0_box_43 : decode cX0_box 43 = .ok (.istore 4, 2) := dk_54 4 (dk_at dksX0_box_1 19 rfl rfl)
theorem dX0_box_45 : decode cX0_box 45 = .ok (.iload 4, 2) := dk_21 4 (dk_at dksX0_box_1 21 rfl rfl)
theorem dX0_box_47 : decode cX0_box 47 = .ok (.bipush 8, 2) := dk_16 8 (dk_at dksX0_box_2 0 rfl rfl)
theorem dX0_box_49 : decode cX0_box 49 = .ok (.if_icmp .ge 22, 3) := dk_162 0 22 (dk_at dksX0_box_2 2 rfl rfl)
theorem dX0_box_52 : decode cX0_box 52 = .ok (.aload_n 3, 1) := dk_45 (dk_at dksX0_box_2 5 rfl rfl)
theorem dX0_box_53 : decode cX0_box 53 = .ok (.getfield 158, 3) := dk_180 0 158 (dk_at dksX0_box_2 6 rfl rfl)
theorem dX0_box_56 : decode cX0_box 56 = .ok (.bipush 8, 2) := dk_16 8 (dk_at dksX0_box_2 9 rfl rfl)
theorem dX0_box_58 : decode cX0_box 58 = .ok (.iload_n 2, 1) := dk_28 (dk_at dksX0_box_2 11 rfl rfl)
theorem dX0_box_59 : decode cX0_box 59 = .ok (.imul, 1) := dk_104 (dk_at dksX0_box_2 12 rfl rfl)
theorem dX0_box_60 : decode cX0_box 60 = .ok (.iload 4, 2) := dk_21 4 (dk_at dksX0_box_2 13 rfl rfl)
theorem dX0_box_62 : decode cX0_box 62 = .ok (.iadd, 1) := dk_96 (dk_at dksX0_box_2 15 rfl rfl)
theorem dX0_box_63 : decode cX0_box 63 = .ok (.iconst 0, 1) := dk_3 (dk_at dksX0_box_2 16 rfl rfl)
theorem dX0_box_64 : decode cX0_box 64 = .ok (.iastore, 1) := dk_79 (dk_at dksX0_box_2 17 rfl rfl)
theorem dX0_box_65 : decode cX0_box 65 = .ok (.iinc 4 1, 3) := dk_132 4 1 (dk_at dksX0_box_2 18 rfl rfl)
theorem dX0_box_68 : decode cX0_box 68 = .ok (.goto (-23), 3) := dk_167 255 233 (dk_at dksX0_box_2 21 rfl rfl)
theorem dX0_box_71 : decode cX0_box 71 = .ok (.aload_n 3, 1) := dk_45 (dk_at dksX0_box_3 0 rfl rfl)
theorem dX0_box_72 : decode cX0_box 72 = .ok (.getfield 161, 3) := dk_180 0 161 (dk_at dksX0_box_3 1 rfl rfl)
theorem dX0_box_75 : decode cX0_box 75 = .ok (.iload_n 2, 1) := dk_28 (dk_at dksX0_box_3 4 rfl rfl)
theorem dX0_box_76 : decode cX0_box 76 = .ok (.iconst 0, 1) := dk_3 (dk_at dksX0_box_3 5 rfl rfl)
theorem dX0_box_77 : decode cX0_box 77 = .ok (.iastore, 1) := dk_79 (dk_at dksX0_box_3 6 rfl rfl)
theorem dX0_box_78 : decode cX0_box 78 = .ok (.aload_n 3, 1) := dk_45 (dk_at dksX0_box_3 7 rfl rfl)
theorem dX0_box_79 : decode cX0_box 79 = .ok (.getfield 164, 3) := dk_180 0 164 (dk_at dksX0_box_3 8 rfl rfl)
theorem dX0_box_82 : decode cX0_box 82 = .ok (.iload_n 2, 1) := dk_28 (dk_at dksX0_box_3 11 rfl rfl)
theorem dX0_box_83 : decode cX0_box 83 = .ok (.iload_n 1, 1) := dk_27 (dk_at dksX0_box_3 12 rfl rfl)
theorem dX0_box_84 : decode cX0_box 84 = .ok (.iastore, 1) := dk_79 (dk_at dksX0_box_3 13 rfl rfl)
theorem dX0_box_85 : decode cX0_box 85 = .ok (.aload_n 3, 1) := dk_45 (dk_at dksX0_box_3 14 rfl rfl)
theorem dX0_box_86 : decode cX0_box 86 = .ok (.getfield 167, 3) := dk_180 0 167 (dk_at dksX0_box_3 15 rfl rfl)
theorem dX0_box_89 : decode cX0_box 89 = .ok (.iload_n 2, 1) := dk_28 (dk_at dksX0_box_3 18 rfl rfl)
theorem dX0_box_90 : decode cX0_box 90 = .ok (.iconst (-1), 1) := dk_2 (dk_at dksX0_box_3 19 rfl rfl)
theorem dX0_box_91 : decode cX0_box 91 = .ok (.iastore, 1) := dk_79 (dk_at dksX0_box_3 20 rfl rfl)
theorem dX0_box_92 : decode cX0_box 92 = .ok (.aload_n 3, 1) := dk_45 (dk_at dksX0_box_3 21 rfl rfl)
theorem dX0_box_93 : decode cX0_box 93 = .ok (.getfield 170, 3) := dk_180 0 170 (dk_at dksX0_box_4 0 rfl rfl)
theorem dX0_box_96 : decode cX0_box 96 = .ok (.iload_n 2, 1) := dk_28 (dk_at dksX0_box_4 3 rfl rfl)
theorem dX0_box_97 : decode cX0_box 97 = .ok (.iconst 0, 1) := dk_3 (dk_at dksX0_box_4 4 rfl rfl)
theorem dX0_box_98 : decode cX0_box 98 = .ok (.iastore, 1) := dk_79 (dk_at dksX0_box_4 5 rfl rfl)
theorem dX0_box_99 : decode cX0_box 99 = .ok (.aload_n 0, 1) := dk_42 (dk_at dksX0_box_4 6 rfl rfl)
theorem dX0_box_100 : decode cX0_box 100 = .ok (.getfield 39, 3) := dk_180 0 39 (dk_at dksX0_box_4 7 rfl rfl)
theorem dX0_box_103 : decode cX0_box 103 = .ok (.dup, 1) := dk_89 (dk_at dksX0_box_4 10 rfl rfl)
theorem dX0_box_104 : decode cX0_box 104 = .ok (.getfield 139, 3) := dk_180 0 139 (dk_at dksX0_box_4 11 rfl rfl)
theorem dX0_box_107 : decode cX0_box 107 = .ok (.iconst 1, 1) := dk_4 (dk_at dksX0_box_4 14 rfl rfl)
theorem dX0_box_108 : decode cX0_box 108 = .ok (.iadd, 1) := dk_96 (dk_at dksX0_box_4 15 rfl rfl)
theorem dX0_box_109 : decode cX0_box 109 = .ok (.putfield 139, 3) := dk_181 0 139 (dk_at dksX0_box_4 16 rfl rfl)
theorem dX0_box_112 : decode cX0_box 112 = .ok (.aload_n 0, 1) := dk_42 (dk_at dksX0_box_4 19 rfl rfl)
theorem dX0_box_113 : decode cX0_box 113 = .ok (.iload_n 2, 1) := dk_28 (dk_at dksX0_box_4 20 rfl rfl)
theorem dX0_box_114 : decode cX0_box 114 = .ok (.invokevirtual 152, 3) := dk_182 0 152 (dk_at dksX0_box_4 21 rfl rfl)
theorem dX0_box_117 : decode cX0_box 117 = .ok (.ireturn, 1) := dk_172 (dk_at dksX0_box_5 0 rfl rfl)
abbrev cX0_table : ByteArray := prog_1_method_11_code
def yX0_table : MethodName := ⟨RX0, "table", "()LDowryBoxes$Table;"⟩
def dkwX0_table_0 : List UInt8 := [42, 180, 0, 39, 180, 0, 130, 176]
abbrev dktX0_table_0 : List UInt8 := dkwX0_table_0 ++ []
theorem dksX0_table_0 : cX0_table.data.toList.drop 0 = dktX0_table_0 := by decide +kernel
theorem dX0_table_0 : decode cX0_table 0 = .ok (.aload_n 0, 1) := dk_42 (dk_at dksX0_table_0 0 rfl rfl)
theorem dX0_table_1 : decode cX0_table 1 = .ok (.getfield 39, 3) := dk_180 0 39 (dk_at dksX0_table_0 1 rfl rfl)
theorem dX0_table_4 : decode cX0_table 4 = .ok (.getfield 130, 3) := dk_180 0 130 (dk_at dksX0_table_0 4 rfl rfl)
theorem dX0_table_7 : decode cX0_table 7 = .ok (.areturn, 1) := dk_176 (dk_at dksX0_table_0 7 rfl rfl)
abbrev cX0_of : ByteArray := prog_1_method_18_code
def yX0_of : MethodName := ⟨RX0, "of", "(II)I"⟩
def dkwX0_of_5 : List UInt8 := [42, 45, 27, 182, 0, 191, 172, 2, 172]
abbrev dktX0_of_5 : List UInt8 := dkwX0_of_5 ++ []
def dkwX0_of_4 : List UInt8 := [27, 46, 172, 45, 180, 0, 170, 27, 46, 172, 42, 42, 180, 0, 39, 180, 0, 184, 45, 27, 182, 0, 187, 172]
abbrev dktX0_of_4 : List UInt8 := dkwX0_of_4 ++ dktX0_of_5
def dkwX0_of_3 : List UInt8 := [45, 180, 0, 164, 27, 46, 172, 45, 27, 182, 0, 181, 172, 45, 180, 0, 161, 27, 46, 172, 45, 180, 0, 167]
abbrev dktX0_of_3 : List UInt8 := dkwX0_of_3 ++ dktX0_of_4
def dkwX0_of_2 : List UInt8 := [170, 0, 0, 0, 0, 0, 98, 0, 0, 0, 0, 0, 0, 0, 6, 0, 0, 0, 43, 0, 0, 0, 50, 0, 0, 0, 56, 0, 0, 0, 63, 0, 0, 0, 70, 0, 0, 0, 77, 0, 0, 0, 91]
abbrev dktX0_of_2 : List UInt8 := dkwX0_of_2 ++ dktX0_of_3
def dkwX0_of_1 : List UInt8 := [153, 0, 13, 45, 27, 28, 16, 7, 100, 182, 0, 177, 172, 28]
abbrev dktX0_of_1 : List UInt8 := dkwX0_of_1 ++ dktX0_of_2
def dkwX0_of_0 : List UInt8 := [42, 27, 182, 0, 173, 154, 0, 5, 2, 172, 42, 182, 0, 155, 78, 28, 16, 7, 16, 14, 184, 0, 26]
abbrev dktX0_of_0 : List UInt8 := dkwX0_of_0 ++ dktX0_of_1
theorem dksX0_of_0 : cX0_of.data.toList.drop 0 = dktX0_of_0 := by decide +kernel
theorem dksX0_of_1 : cX0_of.data.toList.drop 23 = dktX0_of_1 := dk_seg dksX0_of_0 23 rfl rfl
theorem dksX0_of_2 : cX0_of.data.toList.drop 37 = dktX0_of_2 := dk_seg dksX0_of_1 14 rfl rfl
theorem dksX0_of_3 : cX0_of.data.toList.drop 80 = dktX0_of_3 := dk_seg dksX0_of_2 43 rfl rfl
theorem dksX0_of_4 : cX0_of.data.toList.drop 104 = dktX0_of_4 := dk_seg dksX0_of_3 24 rfl rfl
theorem dksX0_of_5 : cX0_of.data.toList.drop 128 = dktX0_of_5 := dk_seg dksX0_of_4 24 rfl rfl
theorem dX0_of_0 : decode cX0_of 0 = .ok (.aload_n 0, 1) := dk_42 (dk_at dksX0_of_0 0 rfl rfl)
theorem dX0_of_1 : decode cX0_of 1 = .ok (.iload_n 1, 1) := dk_27 (dk_at dksX0_of_0 1 rfl rfl)
theorem dX0_of_2 : decode cX0_of 2 = .ok (.invokevirtual 173, 3) := dk_182 0 173 (dk_at dksX0_of_0 2 rfl rfl)
theorem dX0_of_5 : decode cX0_of 5 = .ok (.ifCond .ne 5, 3) := dk_154 0 5 (dk_at dksX0_of_0 5 rfl rfl)
theorem dX0_of_8 : decode cX0_of 8 = .ok (.iconst (-1), 1) := dk_2 (dk_at dksX0_of_0 8 rfl rfl)
theorem dX0_of_9 : decode cX0_of 9 = .ok (.ireturn, 1) := dk_172 (dk_at dksX0_of_0 9 rfl rfl)
theorem dX0_of_10 : decode cX0_of 10 = .ok (.aload_n 0, 1) := dk_42 (dk_at dksX0_of_0 10 rfl rfl)
theorem dX0_of_11 : decode cX0_of 11 = .ok (.invokevirtual 155, 3) := dk_182 0 155 (dk_at dksX0_of_0 11 rfl rfl)
theorem dX0_of_14 : decode cX0_of 14 = .ok (.astore_n 3, 1) := dk_78 (dk_at dksX0_of_0 14 rfl rfl)
theorem dX0_of_15 : decode cX0_of 15 = .ok (.iload_n 2, 1) := dk_28 (dk_at dksX0_of_0 15 rfl rfl)
theorem dX0_of_16 : decode cX0_of 16 = .ok (.bipush 7, 2) := dk_16 7 (dk_at dksX0_of_0 16 rfl rfl)
theorem dX0_of_18 : decode cX0_of 18 = .ok (.bipush 14, 2) := dk_16 14 (dk_at dksX0_of_0 18 rfl rfl)
theorem dX0_of_20 : decode cX0_of 20 = .ok (.invokestatic 26, 3) := dk_184 0 26 (dk_at dksX0_of_0 20 rfl rfl)
theorem dX0_of_23 : decode cX0_of 23 = .ok (.ifCond .eq 13, 3) := dk_153 0 13 (dk_at dksX0_of_1 0 rfl rfl)
theorem dX0_of_26 : decode cX0_of 26 = .ok (.aload_n 3, 1) := dk_45 (dk_at dksX0_of_1 3 rfl rfl)
theorem dX0_of_27 : decode cX0_of 27 = .ok (.iload_n 1, 1) := dk_27 (dk_at dksX0_of_1 4 rfl rfl)
theorem dX0_of_28 : decode cX0_of 28 = .ok (.iload_n 2, 1) := dk_28 (dk_at dksX0_of_1 5 rfl rfl)
theorem dX0_of_29 : decode cX0_of 29 = .ok (.bipush 7, 2) := dk_16 7 (dk_at dksX0_of_1 6 rfl rfl)
theorem dX0_of_31 : decode cX0_of 31 = .ok (.isub, 1) := dk_100 (dk_at dksX0_of_1 8 rfl rfl)
theorem dX0_of_32 : decode cX0_of 32 = .ok (.invokevirtual 177, 3) := dk_182 0 177 (dk_at dksX0_of_1 9 rfl rfl)
theorem dX0_of_35 : decode cX0_of 35 = .ok (.ireturn, 1) := dk_172 (dk_at dksX0_of_1 12 rfl rfl)
theorem dX0_of_36 : decode cX0_of 36 = .ok (.iload_n 2, 1) := dk_28 (dk_at dksX0_of_1 13 rfl rfl)
theorem dX0_of_37 : decode cX0_of 37 = .ok (.tableswitch 98 0 6 #[43, 50, 56, 63, 70, 77, 91], 43) := by decide +kernel
theorem dX0_of_80 : decode cX0_of 80 = .ok (.aload_n 3, 1) := dk_45 (dk_at dksX0_of_3 0 rfl rfl)
theorem dX0_of_81 : decode cX0_of 81 = .ok (.getfield 164, 3) := dk_180 0 164 (dk_at dksX0_of_3 1 rfl rfl)
theorem dX0_of_84 : decode cX0_of 84 = .ok (.iload_n 1, 1) := dk_27 (dk_at dksX0_of_3 4 rfl rfl)
theorem dX0_of_85 : decode cX0_of 85 = .ok (.iaload, 1) := dk_46 (dk_at dksX0_of_3 5 rfl rfl)
theorem dX0_of_86 : decode cX0_of 86 = .ok (.ireturn, 1) := dk_172 (dk_at dksX0_of_3 6 rfl rfl)
theorem dX0_of_87 : decode cX0_of 87 = .ok (.aload_n 3, 1) := dk_45 (dk_at dksX0_of_3 7 rfl rfl)
theorem dX0_of_88 : decode cX0_of 88 = .ok (.iload_n 1, 1) := dk_27 (dk_at dksX0_of_3 8 rfl rfl)
theorem dX0_of_89 : decode cX0_of 89 = .ok (.invokevirtual 181, 3) := dk_182 0 181 (dk_at dksX0_of_3 9 rfl rfl)
theorem dX0_of_92 : decode cX0_of 92 = .ok (.ireturn, 1) := dk_172 (dk_at dksX0_of_3 12 rfl rfl)
theorem dX0_of_93 : decode cX0_of 93 = .ok (.aload_n 3, 1) := dk_45 (dk_at dksX0_of_3 13 rfl rfl)
theorem dX0_of_94 : decode cX0_of 94 = .ok (.getfield 161, 3) := dk_180 0 161 (dk_at dksX0_of_3 14 rfl rfl)
theorem dX0_of_97 : decode cX0_of 97 = .ok (.iload_n 1, 1) := dk_27 (dk_at dksX0_of_3 17 rfl rfl)
theorem dX0_of_98 : decode cX0_of 98 = .ok (.iaload, 1) := dk_46 (dk_at dksX0_of_3 18 rfl rfl)
theorem dX0_of_99 : decode cX0_of 99 = .ok (.ireturn, 1) := dk_172 (dk_at dksX0_of_3 19 rfl rfl)
theorem dX0_of_100 : decode cX0_of 100 = .ok (.aload_n 3, 1) := dk_45 (dk_at dksX0_of_3 20 rfl rfl)
theorem dX0_of_101 : decode cX0_of 101 = .ok (.getfield 167, 3) := dk_180 0 167 (dk_at dksX0_of_3 21 rfl rfl)
theorem dX0_of_104 : decode cX0_of 104 = .ok (.iload_n 1, 1) := dk_27 (dk_at dksX0_of_4 0 rfl rfl)
theorem dX0_of_105 : decode cX0_of 105 = .ok (.iaload, 1) := dk_46 (dk_at dksX0_of_4 1 rfl rfl)
theorem dX0_of_106 : decode cX0_of 106 = .ok (.ireturn, 1) := dk_172 (dk_at dksX0_of_4 2 rfl rfl)
theorem dX0_of_107 : decode cX0_of 107 = .ok (.aload_n 3, 1) := dk_45 (dk_at dksX0_of_4 3 rfl rfl)
theorem dX0_of_108 : decode cX0_of 108 = .ok (.getfield 170, 3) := dk_180 0 170 (dk_at dksX0_of_4 4 rfl rfl)
theorem dX0_of_111 : decode cX0_of 111 = .ok (.iload_n 1, 1) := dk_27 (dk_at dksX0_of_4 7 rfl rfl)
theorem dX0_of_112 : decode cX0_of 112 = .ok (.iaload, 1) := dk_46 (dk_at dksX0_of_4 8 rfl rfl)
theorem dX0_of_113 : decode cX0_of 113 = .ok (.ireturn, 1) := dk_172 (dk_at dksX0_of_4 9 rfl rfl)
theorem dX0_of_114 : decode cX0_of 114 = .ok (.aload_n 0, 1) := dk_42 (dk_at dksX0_of_4 10 rfl rfl)
theorem dX0_of_115 : decode cX0_of 115 = .ok (.aload_n 0, 1) := dk_42 (dk_at dksX0_of_4 11 rfl rfl)
theorem dX0_of_116 : decode cX0_of 116 = .ok (.getfield 39, 3) := dk_180 0 39 (dk_at dksX0_of_4 12 rfl rfl)
theorem dX0_of_119 : decode cX0_of 119 = .ok (.getfield 184, 3) := dk_180 0 184 (dk_at dksX0_of_4 15 rfl rfl)
theorem dX0_of_122 : decode cX0_of 122 = .ok (.aload_n 3, 1) := dk_45 (dk_at dksX0_of_4 18 rfl rfl)
theorem dX0_of_123 : decode cX0_of 123 = .ok (.iload_n 1, 1) := dk_27 (dk_at dksX0_of_4 19 rfl rfl)
theorem dX0_of_124 : decode cX0_of 124 = .ok (.invokevirtual 187, 3) := dk_182 0 187 (dk_at dksX0_of_4 20 rfl rfl)
theorem dX0_of_127 : decode cX0_of 127 = .ok (.ireturn, 1) := dk_172 (dk_at dksX0_of_4 23 rfl rfl)
theorem dX0_of_128 : decode cX0_of 128 = .ok (.aload_n 0, 1) := dk_42 (dk_at dksX0_of_5 0 rfl rfl)
theorem dX0_of_129 : decode cX0_of 129 = .ok (.aload_n 3, 1) := dk_45 (dk_at dksX0_of_5 1 rfl rfl)
theorem dX0_of_130 : decode cX0_of 130 = .ok (.iload_n 1, 1) := dk_27 (dk_at dksX0_of_5 2 rfl rfl)
theorem dX0_of_131 : decode cX0_of 131 = .ok (.invokevirtual 191, 3) := dk_182 0 191 (dk_at dksX0_of_5 3 rfl rfl)
theorem dX0_of_134 : decode cX0_of 134 = .ok (.ireturn, 1) := dk_172 (dk_at dksX0_of_5 6 rfl rfl)
theorem dX0_of_135 : decode cX0_of 135 = .ok (.iconst (-1), 1) := dk_2 (dk_at dksX0_of_5 7 rfl rfl)
theorem dX0_of_136 : decode cX0_of 136 = .ok (.ireturn, 1) := dk_172 (dk_at dksX0_of_5 8 rfl rfl)
abbrev cX0_isBox : ByteArray := prog_1_method_13_code
def yX0_isBox : MethodName := ⟨RX0, "isBox", "(I)Z"⟩
def dkwX0_isBox_0 : List UInt8 := [27, 3, 42, 180, 0, 39, 180, 0, 139, 4, 100, 184, 0, 26, 172]
abbrev dktX0_isBox_0 : List UInt8 := dkwX0_isBox_0 ++ []
theorem dksX0_isBox_0 : cX0_isBox.data.toList.drop 0 = dktX0_isBox_0 := by decide +kernel
theorem dX0_isBox_0 : decode cX0_isBox 0 = .ok (.iload_n 1, 1) := dk_27 (dk_at dksX0_isBox_0 0 rfl rfl)
theorem dX0_isBox_1 : decode cX0_isBox 1 = .ok (.iconst 0, 1) := dk_3 (dk_at dksX0_isBox_0 1 rfl rfl)
theorem dX0_isBox_2 : decode cX0_isBox 2 = .ok (.aload_n 0, 1) := dk_42 (dk_at dksX0_isBox_0 2 rfl rfl)
theorem dX0_isBox_3 : decode cX0_isBox 3 = .ok (.getfield 39, 3) := dk_180 0 39 (dk_at dksX0_isBox_0 3 rfl rfl)
theorem dX0_isBox_6 : decode cX0_isBox 6 = .ok (.getfield 139, 3) := dk_180 0 139 (dk_at dksX0_isBox_0 6 rfl rfl)
theorem dX0_isBox_9 : decode cX0_isBox 9 = .ok (.iconst 1, 1) := dk_4 (dk_at dksX0_isBox_0 9 rfl rfl)
theorem dX0_isBox_10 : decode cX0_isBox 10 = .ok (.isub, 1) := dk_100 (dk_at dksX0_isBox_0 10 rfl rfl)
theorem dX0_isBox_11 : decode cX0_isBox 11 = .ok (.invokestatic 26, 3) := dk_184 0 26 (dk_at dksX0_isBox_0 11 rfl rfl)
theorem dX0_isBox_14 : decode cX0_isBox 14 = .ok (.ireturn, 1) := dk_172 (dk_at dksX0_isBox_0 14 rfl rfl)
abbrev cX0_ones : ByteArray := prog_1_method_5_code
def yX0_ones : MethodName := ⟨RX0, "ones", "(I)I"⟩
theorem dX0_ones_0 : decode cX0_ones 0 = .ok (.iload_n 0, 1) := by decide +kernel
theorem dX0_ones_1 : decode cX0_ones 1 = .ok (.invokestatic 11, 3) := by decide +kernel
theorem dX0_ones_4 : decode cX0_ones 4 = .ok (.ireturn, 1) := by decide +kernel
abbrev cX0_lasts : ByteArray := prog_1_method_39_code
def yX0_lasts : MethodName := ⟨RX0, "lasts", "(ILDowryBoxes$Table;I)I"⟩
def dkwX0_lasts_1 : List UInt8 := [96, 184, 1, 67, 172]
abbrev dktX0_lasts_1 : List UInt8 := dkwX0_lasts_1 ++ []
def dkwX0_lasts_0 : List UInt8 := [42, 27, 3, 44, 29, 2, 182, 1, 63, 16, 60, 44, 180, 0, 164, 29, 46, 44, 29, 182, 0, 181, 7, 108]
abbrev dktX0_lasts_0 : List UInt8 := dkwX0_lasts_0 ++ dktX0_lasts_1
theorem dksX0_lasts_0 : cX0_lasts.data.toList.drop 0 = dktX0_lasts_0 := by decide +kernel
theorem dksX0_lasts_1 : cX0_lasts.data.toList.drop 24 = dktX0_lasts_1 := dk_seg dksX0_lasts_0 24 rfl rfl
theorem dX0_lasts_0 : decode cX0_lasts 0 = .ok (.aload_n 0, 1) := dk_42 (dk_at dksX0_lasts_0 0 rfl rfl)
theorem dX0_lasts_1 : decode cX0_lasts 1 = .ok (.iload_n 1, 1) := dk_27 (dk_at dksX0_lasts_0 1 rfl rfl)
theorem dX0_lasts_2 : decode cX0_lasts 2 = .ok (.iconst 0, 1) := dk_3 (dk_at dksX0_lasts_0 2 rfl rfl)
theorem dX0_lasts_3 : decode cX0_lasts 3 = .ok (.aload_n 2, 1) := dk_44 (dk_at dksX0_lasts_0 3 rfl rfl)
theorem dX0_lasts_4 : decode cX0_lasts 4 = .ok (.iload_n 3, 1) := dk_29 (dk_at dksX0_lasts_0 4 rfl rfl)
theorem dX0_lasts_5 : decode cX0_lasts 5 = .ok (.iconst (-1), 1) := dk_2 (dk_at dksX0_lasts_0 5 rfl rfl)
theorem dX0_lasts_6 : decode cX0_lasts 6 = .ok (.invokevirtual 319, 3) := dk_182 1 63 (dk_at dksX0_lasts_0 6 rfl rfl)
theorem dX0_lasts_9 : decode cX0_lasts 9 = .ok (.bipush 60, 2) := dk_16 60 (dk_at dksX0_lasts_0 9 rfl rfl)
theorem dX0_lasts_11 : decode cX0_lasts 11 = .ok (.aload_n 2, 1) := dk_44 (dk_at dksX0_lasts_0 11 rfl rfl)
theorem dX0_lasts_12 : decode cX0_lasts 12 = .ok (.getfield 164, 3) := dk_180 0 164 (dk_at dksX0_lasts_0 12 rfl rfl)
theorem dX0_lasts_15 : decode cX0_lasts 15 = .ok (.iload_n 3, 1) := dk_29 (dk_at dksX0_lasts_0 15 rfl rfl)
theorem dX0_lasts_16 : decode cX0_lasts 16 = .ok (.iaload, 1) := dk_46 (dk_at dksX0_lasts_0 16 rfl rfl)
theorem dX0_lasts_17 : decode cX0_lasts 17 = .ok (.aload_n 2, 1) := dk_44 (dk_at dksX0_lasts_0 17 rfl rfl)
theorem dX0_lasts_18 : decode cX0_lasts 18 = .ok (.iload_n 3, 1) := dk_29 (dk_at dksX0_lasts_0 18 rfl rfl)
theorem dX0_lasts_19 : decode cX0_lasts 19 = .ok (.invokevirtual 181, 3) := dk_182 0 181 (dk_at dksX0_lasts_0 19 rfl rfl)
theorem dX0_lasts_22 : decode cX0_lasts 22 = .ok (.iconst 4, 1) := dk_7 (dk_at dksX0_lasts_0 22 rfl rfl)
theorem dX0_lasts_23 : decode cX0_lasts 23 = .ok (.idiv, 1) := dk_108 (dk_at dksX0_lasts_0 23 rfl rfl)
theorem dX0_lasts_24 : decode cX0_lasts 24 = .ok (.iadd, 1) := dk_96 (dk_at dksX0_lasts_1 0 rfl rfl)
theorem dX0_lasts_25 : decode cX0_lasts 25 = .ok (.invokestatic 323, 3) := dk_184 1 67 (dk_at dksX0_lasts_1 1 rfl rfl)
theorem dX0_lasts_28 : decode cX0_lasts 28 = .ok (.ireturn, 1) := dk_172 (dk_at dksX0_lasts_1 4 rfl rfl)
abbrev cX0_says : ByteArray := prog_1_method_37_code
def yX0_says : MethodName := ⟨RX0, "says", "(IILDowryBoxes$Table;II)J"⟩
def dkwX0_says_7 : List UInt8 := [182, 1, 55, 173]
abbrev dktX0_says_7 : List UInt8 := dkwX0_says_7 ++ []
def dkwX0_says_6 : List UInt8 := [180, 0, 233, 133, 80, 42, 180, 0, 39, 180, 1, 0, 27, 182, 1, 51, 192, 1, 19, 28, 42, 180, 0, 83]
abbrev dktX0_says_6 : List UInt8 := dkwX0_says_6 ++ dktX0_says_7
def dkwX0_says_5 : List UInt8 := [21, 5, 46, 133, 80, 25, 6, 16, 7, 45, 180, 0, 227, 133, 80, 25, 6, 16, 8, 42, 180, 0, 39]
abbrev dktX0_says_5 : List UInt8 := dkwX0_says_5 ++ dktX0_says_6
def dkwX0_says_4 : List UInt8 := [25, 6, 16, 6, 21, 5, 2, 160, 0, 9, 20, 1, 49, 167, 0, 14, 42, 180, 0, 39, 180, 0, 207]
abbrev dktX0_says_4 : List UInt8 := dkwX0_says_4 ++ dktX0_says_5
def dkwX0_says_3 : List UInt8 := [8, 21, 5, 2, 160, 0, 9, 20, 1, 49, 167, 0, 13, 42, 45, 21, 4, 21, 5, 182, 0, 216, 133, 80]
abbrev dktX0_says_3 : List UInt8 := dkwX0_says_3 ++ dktX0_says_4
def dkwX0_says_2 : List UInt8 := [25, 6, 6, 45, 180, 0, 161, 21, 4, 46, 184, 1, 46, 133, 80, 25, 6, 7, 21, 5, 133, 80, 25, 6]
abbrev dktX0_says_2 : List UInt8 := dkwX0_says_2 ++ dktX0_says_3
def dkwX0_says_1 : List UInt8 := [80, 25, 6, 4, 45, 180, 0, 164, 21, 4, 46, 133, 80, 25, 6, 5, 45, 21, 4, 182, 0, 181, 133, 80]
abbrev dktX0_says_1 : List UInt8 := dkwX0_says_1 ++ dktX0_says_2
def dkwX0_says_0 : List UInt8 := [27, 2, 160, 0, 7, 20, 1, 41, 173, 42, 180, 0, 83, 180, 1, 43, 58, 6, 25, 6, 3, 21, 4, 133]
abbrev dktX0_says_0 : List UInt8 := dkwX0_says_0 ++ dktX0_says_1
theorem dksX0_says_0 : cX0_says.data.toList.drop 0 = dktX0_says_0 := by decide +kernel
theorem dksX0_says_1 : cX0_says.data.toList.drop 24 = dktX0_says_1 := dk_seg dksX0_says_0 24 rfl rfl
theorem dksX0_says_2 : cX0_says.data.toList.drop 48 = dktX0_says_2 := dk_seg dksX0_says_1 24 rfl rfl
theorem dksX0_says_3 : cX0_says.data.toList.drop 72 = dktX0_says_3 := dk_seg dksX0_says_2 24 rfl rfl
theorem dksX0_says_4 : cX0_says.data.toList.drop 96 = dktX0_says_4 := dk_seg dksX0_says_3 24 rfl rfl
theorem dksX0_says_5 : cX0_says.data.toList.drop 119 = dktX0_says_5 := dk_seg dksX0_says_4 23 rfl rfl
theorem dksX0_says_6 : cX0_says.data.toList.drop 142 = dktX0_says_6 := dk_seg dksX0_says_5 23 rfl rfl
theorem dksX0_says_7 : cX0_says.data.toList.drop 166 = dktX0_says_7 := dk_seg dksX0_says_6 24 rfl rfl
theorem dX0_says_0 : decode cX0_says 0 = .ok (.iload_n 1, 1) := dk_27 (dk_at dksX0_says_0 0 rfl rfl)
theorem dX0_says_1 : decode cX0_says 1 = .ok (.iconst (-1), 1) := dk_2 (dk_at dksX0_says_0 1 rfl rfl)
theorem dX0_says_2 : decode cX0_says 2 = .ok (.if_icmp .ne 7, 3) := dk_160 0 7 (dk_at dksX0_says_0 2 rfl rfl)
theorem dX0_says_5 : decode cX0_says 5 = .ok (.ldc2_w 297, 3) := dk_20 1 41 (dk_at dksX0_says_0 5 rfl rfl)
theorem dX0_says_8 : decode cX0_says 8 = .ok (.lreturn, 1) := dk_173 (dk_at dksX0_says_0 8 rfl rfl)
theorem dX0_says_9 : decode cX0_says 9 = .ok (.aload_n 0, 1) := dk_42 (dk_at dksX0_says_0 9 rfl rfl)
theorem dX0_says_10 : decode cX0_says 10 = .ok (.getfield 83, 3) := dk_180 0 83 (dk_at dksX0_says_0 10 rfl rfl)
theorem dX0_says_13 : decode cX0_says 13 = .ok (.getfield 299, 3) := dk_180 1 43 (dk_at dksX0_says_0 13 rfl rfl)
theorem dX0_says_16 : decode cX0_says 16 = .ok (.astore 6, 2) := dk_58 6 (dk_at dksX0_says_0 16 rfl rfl)
theorem dX0_says_18 : decode cX0_says 18 = .ok (.aload 6, 2) := dk_25 6 (dk_at dksX0_says_0 18 rfl rfl)
theorem dX0_says_20 : decode cX0_says 20 = .ok (.iconst 0, 1) := dk_3 (dk_at dksX0_says_0 20 rfl rfl)
theorem dX0_says_21 : decode cX0_says 21 = .ok (.iload 4, 2) := dk_21 4 (dk_at dksX0_says_0 21 rfl rfl)
theorem dX0_says_23 : decode cX0_says 23 = .ok (.i2l, 1) := dk_133 (dk_at dksX0_says_0 23 rfl rfl)
theorem dX0_says_24 : decode cX0_says 24 = .ok (.lastore, 1) := dk_80 (dk_at dksX0_says_1 0 rfl rfl)
theorem dX0_says_25 : decode cX0_says 25 = .ok (.aload 6, 2) := dk_25 6 (dk_at dksX0_says_1 1 rfl rfl)
theorem dX0_says_27 : decode cX0_says 27 = .ok (.iconst 1, 1) := dk_4 (dk_at dksX0_says_1 3 rfl rfl)
theorem dX0_says_28 : decode cX0_says 28 = .ok (.aload_n 3, 1) := dk_45 (dk_at dksX0_says_1 4 rfl rfl)
theorem dX0_says_29 : decode cX0_says 29 = .ok (.getfield 164, 3) := dk_180 0 164 (dk_at dksX0_says_1 5 rfl rfl)
theorem dX0_says_32 : decode cX0_says 32 = .ok (.iload 4, 2) := dk_21 4 (dk_at dksX0_says_1 8 rfl rfl)
theorem dX0_says_34 : decode cX0_says 34 = .ok (.iaload, 1) := dk_46 (dk_at dksX0_says_1 10 rfl rfl)
theorem dX0_says_35 : decode cX0_says 35 = .ok (.i2l, 1) := dk_133 (dk_at dksX0_says_1 11 rfl rfl)
theorem dX0_says_36 : decode cX0_says 36 = .ok (.lastore, 1) := dk_80 (dk_at dksX0_says_1 12 rfl rfl)
theorem dX0_says_37 : decode cX0_says 37 = .ok (.aload 6, 2) := dk_25 6 (dk_at dksX0_says_1 13 rfl rfl)
theorem dX0_says_39 : decode cX0_says 39 = .ok (.iconst 2, 1) := dk_5 (dk_at dksX0_says_1 15 rfl rfl)
theorem dX0_says_40 : decode cX0_says 40 = .ok (.aload_n 3, 1) := dk_45 (dk_at dksX0_says_1 16 rfl rfl)
theorem dX0_says_41 : decode cX0_says 41 = .ok (.iload 4, 2) := dk_21 4 (dk_at dksX0_says_1 17 rfl rfl)
theorem dX0_says_43 : decode cX0_says 43 = .ok (.invokevirtual 181, 3) := dk_182 0 181 (dk_at dksX0_says_1 19 rfl rfl)
theorem dX0_says_46 : decode cX0_says 46 = .ok (.i2l, 1) := dk_133 (dk_at dksX0_says_1 22 rfl rfl)
theorem dX0_says_47 : decode cX0_says 47 = .ok (.lastore, 1) := dk_80 (dk_at dksX0_says_1 23 rfl rfl)
theorem dX0_says_48 : decode cX0_says 48 = .ok (.aload 6, 2) := dk_25 6 (dk_at dksX0_says_2 0 rfl rfl)
theorem dX0_says_50 : decode cX0_says 50 = .ok (.iconst 3, 1) := dk_6 (dk_at dksX0_says_2 2 rfl rfl)
theorem dX0_says_51 : decode cX0_says 51 = .ok (.aload_n 3, 1) := dk_45 (dk_at dksX0_says_2 3 rfl rfl)
theorem dX0_says_52 : decode cX0_says 52 = .ok (.getfield 161, 3) := dk_180 0 161 (dk_at dksX0_says_2 4 rfl rfl)
theorem dX0_says_55 : decode cX0_says 55 = .ok (.iload 4, 2) := dk_21 4 (dk_at dksX0_says_2 7 rfl rfl)
theorem dX0_says_57 : decode cX0_says 57 = .ok (.iaload, 1) := dk_46 (dk_at dksX0_says_2 9 rfl rfl)
theorem dX0_says_58 : decode cX0_says 58 = .ok (.invokestatic 302, 3) := dk_184 1 46 (dk_at dksX0_says_2 10 rfl rfl)
theorem dX0_says_61 : decode cX0_says 61 = .ok (.i2l, 1) := dk_133 (dk_at dksX0_says_2 13 rfl rfl)
theorem dX0_says_62 : decode cX0_says 62 = .ok (.lastore, 1) := dk_80 (dk_at dksX0_says_2 14 rfl rfl)
theorem dX0_says_63 : decode cX0_says 63 = .ok (.aload 6, 2) := dk_25 6 (dk_at dksX0_says_2 15 rfl rfl)
theorem dX0_says_65 : decode cX0_says 65 = .ok (.iconst 4, 1) := dk_7 (dk_at dksX0_says_2 17 rfl rfl)
theorem dX0_says_66 : decode cX0_says 66 = .ok (.iload 5, 2) := dk_21 5 (dk_at dksX0_says_2 18 rfl rfl)
theorem dX0_says_68 : decode cX0_says 68 = .ok (.i2l, 1) := dk_133 (dk_at dksX0_says_2 20 rfl rfl)
theorem dX0_says_69 : decode cX0_says 69 = .ok (.lastore, 1) := dk_80 (dk_at dksX0_says_2 21 rfl rfl)
theorem dX0_says_70 : decode cX0_says 70 = .ok (.aload 6, 2) := dk_25 6 (dk_at dksX0_says_2 22 rfl rfl)
theorem dX0_says_72 : decode cX0_says 72 = .ok (.iconst 5, 1) := dk_8 (dk_at dksX0_says_3 0 rfl rfl)
theorem dX0_says_73 : decode cX0_says 73 = .ok (.iload 5, 2) := dk_21 5 (dk_at dksX0_says_3 1 rfl rfl)
theorem dX0_says_75 : decode cX0_says 75 = .ok (.iconst (-1), 1) := dk_2 (dk_at dksX0_says_3 3 rfl rfl)
theorem dX0_says_76 : decode cX0_says 76 = .ok (.if_icmp .ne 9, 3) := dk_160 0 9 (dk_at dksX0_says_3 4 rfl rfl)
theorem dX0_says_79 : decode cX0_says 79 = .ok (.ldc2_w 305, 3) := dk_20 1 49 (dk_at dksX0_says_3 7 rfl rfl)
theorem dX0_says_82 : decode cX0_says 82 = .ok (.goto 13, 3) := dk_167 0 13 (dk_at dksX0_says_3 10 rfl rfl)
theorem dX0_says_85 : decode cX0_says 85 = .ok (.aload_n 0, 1) := dk_42 (dk_at dksX0_says_3 13 rfl rfl)
theorem dX0_says_86 : decode cX0_says 86 = .ok (.aload_n 3, 1) := dk_45 (dk_at dksX0_says_3 14 rfl rfl)
theorem dX0_says_87 : decode cX0_says 87 = .ok (.iload 4, 2) := dk_21 4 (dk_at dksX0_says_3 15 rfl rfl)
theorem dX0_says_89 : decode cX0_says 89 = .ok (.iload 5, 2) := dk_21 5 (dk_at dksX0_says_3 17 rfl rfl)
theorem dX0_says_91 : decode cX0_says 91 = .ok (.invokevirtual 216, 3) := dk_182 0 216 (dk_at dksX0_says_3 19 rfl rfl)
theorem dX0_says_94 : decode cX0_says 94 = .ok (.i2l, 1) := dk_133 (dk_at dksX0_says_3 22 rfl rfl)
theorem dX0_says_95 : decode cX0_says 95 = .ok (.lastore, 1) := dk_80 (dk_at dksX0_says_3 23 rfl rfl)
theorem dX0_says_96 : decode cX0_says 96 = .ok (.aload 6, 2) := dk_25 6 (dk_at dksX0_says_4 0 rfl rfl)
theorem dX0_says_98 : decode cX0_says 98 = .ok (.bipush 6, 2) := dk_16 6 (dk_at dksX0_says_4 2 rfl rfl)
theorem dX0_says_100 : decode cX0_says 100 = .ok (.iload 5, 2) := dk_21 5 (dk_at dksX0_says_4 4 rfl rfl)
theorem dX0_says_102 : decode cX0_says 102 = .ok (.iconst (-1), 1) := dk_2 (dk_at dksX0_says_4 6 rfl rfl)
theorem dX0_says_103 : decode cX0_says 103 = .ok (.if_icmp .ne 9, 3) := dk_160 0 9 (dk_at dksX0_says_4 7 rfl rfl)
theorem dX0_says_106 : decode cX0_says 106 = .ok (.ldc2_w 305, 3) := dk_20 1 49 (dk_at dksX0_says_4 10 rfl rfl)
theorem dX0_says_109 : decode cX0_says 109 = .ok (.goto 14, 3) := dk_167 0 14 (dk_at dksX0_says_4 13 rfl rfl)
theorem dX0_says_112 : decode cX0_says 112 = .ok (.aload_n 0, 1) := dk_42 (dk_at dksX0_says_4 16 rfl rfl)
theorem dX0_says_113 : decode cX0_says 113 = .ok (.getfield 39, 3) := dk_180 0 39 (dk_at dksX0_says_4 17 rfl rfl)
theorem dX0_says_116 : decode cX0_says 116 = .ok (.getfield 207, 3) := dk_180 0 207 (dk_at dksX0_says_4 20 rfl rfl)
theorem dX0_says_119 : decode cX0_says 119 = .ok (.iload 5, 2) := dk_21 5 (dk_at dksX0_says_5 0 rfl rfl)
theorem dX0_says_121 : decode cX0_says 121 = .ok (.iaload, 1) := dk_46 (dk_at dksX0_says_5 2 rfl rfl)
theorem dX0_says_122 : decode cX0_says 122 = .ok (.i2l, 1) := dk_133 (dk_at dksX0_says_5 3 rfl rfl)
theorem dX0_says_123 : decode cX0_says 123 = .ok (.lastore, 1) := dk_80 (dk_at dksX0_says_5 4 rfl rfl)
theorem dX0_says_124 : decode cX0_says 124 = .ok (.aload 6, 2) := dk_25 6 (dk_at dksX0_says_5 5 rfl rfl)
theorem dX0_says_126 : decode cX0_says 126 = .ok (.bipush 7, 2) := dk_16 7 (dk_at dksX0_says_5 7 rfl rfl)
theorem dX0_says_128 : decode cX0_says 128 = .ok (.aload_n 3, 1) := dk_45 (dk_at dksX0_says_5 9 rfl rfl)
theorem dX0_says_129 : decode cX0_says 129 = .ok (.getfield 227, 3) := dk_180 0 227 (dk_at dksX0_says_5 10 rfl rfl)
theorem dX0_says_132 : decode cX0_says 132 = .ok (.i2l, 1) := dk_133 (dk_at dksX0_says_5 13 rfl rfl)
theorem dX0_says_133 : decode cX0_says 133 = .ok (.lastore, 1) := dk_80 (dk_at dksX0_says_5 14 rfl rfl)
theorem dX0_says_134 : decode cX0_says 134 = .ok (.aload 6, 2) := dk_25 6 (dk_at dksX0_says_5 15 rfl rfl)
theorem dX0_says_136 : decode cX0_says 136 = .ok (.bipush 8, 2) := dk_16 8 (dk_at dksX0_says_5 17 rfl rfl)
theorem dX0_says_138 : decode cX0_says 138 = .ok (.aload_n 0, 1) := dk_42 (dk_at dksX0_says_5 19 rfl rfl)
theorem dX0_says_139 : decode cX0_says 139 = .ok (.getfield 39, 3) := dk_180 0 39 (dk_at dksX0_says_5 20 rfl rfl)
theorem dX0_says_142 : decode cX0_says 142 = .ok (.getfield 233, 3) := dk_180 0 233 (dk_at dksX0_says_6 0 rfl rfl)
theorem dX0_says_145 : decode cX0_says 145 = .ok (.i2l, 1) := dk_133 (dk_at dksX0_says_6 3 rfl rfl)
theorem dX0_says_146 : decode cX0_says 146 = .ok (.lastore, 1) := dk_80 (dk_at dksX0_says_6 4 rfl rfl)
theorem dX0_says_147 : decode cX0_says 147 = .ok (.aload_n 0, 1) := dk_42 (dk_at dksX0_says_6 5 rfl rfl)
theorem dX0_says_148 : decode cX0_says 148 = .ok (.getfield 39, 3) := dk_180 0 39 (dk_at dksX0_says_6 6 rfl rfl)
theorem dX0_says_151 : decode cX0_says 151 = .ok (.getfield 256, 3) := dk_180 1 0 (dk_at dksX0_says_6 9 rfl rfl)
theorem dX0_says_154 : decode cX0_says 154 = .ok (.iload_n 1, 1) := dk_27 (dk_at dksX0_says_6 12 rfl rfl)
theorem dX0_says_155 : decode cX0_says 155 = .ok (.invokevirtual 307, 3) := dk_182 1 51 (dk_at dksX0_says_6 13 rfl rfl)
theorem dX0_says_158 : decode cX0_says 158 = .ok (.checkcast 275, 3) := dk_192 1 19 (dk_at dksX0_says_6 16 rfl rfl)
theorem dX0_says_161 : decode cX0_says 161 = .ok (.iload_n 2, 1) := dk_28 (dk_at dksX0_says_6 19 rfl rfl)
theorem dX0_says_162 : decode cX0_says 162 = .ok (.aload_n 0, 1) := dk_42 (dk_at dksX0_says_6 20 rfl rfl)
theorem dX0_says_163 : decode cX0_says 163 = .ok (.getfield 83, 3) := dk_180 0 83 (dk_at dksX0_says_6 21 rfl rfl)
theorem dX0_says_166 : decode cX0_says 166 = .ok (.invokevirtual 311, 3) := dk_182 1 55 (dk_at dksX0_says_7 0 rfl rfl)
theorem dX0_says_169 : decode cX0_says 169 = .ok (.lreturn, 1) := dk_173 (dk_at dksX0_says_7 3 rfl rfl)
abbrev cX0_ears : ByteArray := prog_1_method_36_code
def yX0_ears : MethodName := ⟨RX0, "ears", "(LDowryBoxes$Table;II)I"⟩
def dkwX0_ears_2 : List UInt8 := [132, 5, 1, 167, 255, 214, 21, 4, 172]
abbrev dktX0_ears_2 : List UInt8 := dkwX0_ears_2 ++ []
def dkwX0_ears_1 : List UInt8 := [180, 0, 39, 180, 0, 204, 29, 46, 184, 1, 37, 153, 0, 7, 4, 167, 0, 4, 3, 96, 54, 4]
abbrev dktX0_ears_1 : List UInt8 := dkwX0_ears_1 ++ dktX0_ears_2
def dkwX0_ears_0 : List UInt8 := [3, 54, 4, 3, 54, 5, 21, 5, 16, 8, 162, 0, 41, 21, 4, 43, 28, 21, 5, 182, 1, 34, 42]
abbrev dktX0_ears_0 : List UInt8 := dkwX0_ears_0 ++ dktX0_ears_1
theorem dksX0_ears_0 : cX0_ears.data.toList.drop 0 = dktX0_ears_0 := by decide +kernel
theorem dksX0_ears_1 : cX0_ears.data.toList.drop 23 = dktX0_ears_1 := dk_seg dksX0_ears_0 23 rfl rfl
theorem dksX0_ears_2 : cX0_ears.data.toList.drop 45 = dktX0_ears_2 := dk_seg dksX0_ears_1 22 rfl rfl
theorem dX0_ears_0 : decode cX0_ears 0 = .ok (.iconst 0, 1) := dk_3 (dk_at dksX0_ears_0 0 rfl rfl)
theorem dX0_ears_1 : decode cX0_ears 1 = .ok (.istore 4, 2) := dk_54 4 (dk_at dksX0_ears_0 1 rfl rfl)
theorem dX0_ears_3 : decode cX0_ears 3 = .ok (.iconst 0, 1) := dk_3 (dk_at dksX0_ears_0 3 rfl rfl)
theorem dX0_ears_4 : decode cX0_ears 4 = .ok (.istore 5, 2) := dk_54 5 (dk_at dksX0_ears_0 4 rfl rfl)
theorem dX0_ears_6 : decode cX0_ears 6 = .ok (.iload 5, 2) := dk_21 5 (dk_at dksX0_ears_0 6 rfl rfl)
theorem dX0_ears_8 : decode cX0_ears 8 = .ok (.bipush 8, 2) := dk_16 8 (dk_at dksX0_ears_0 8 rfl rfl)
theorem dX0_ears_10 : decode cX0_ears 10 = .ok (.if_icmp .ge 41, 3) := dk_162 0 41 (dk_at dksX0_ears_0 10 rfl rfl)
theorem dX0_ears_13 : decode cX0_ears 13 = .ok (.iload 4, 2) := dk_21 4 (dk_at dksX0_ears_0 13 rfl rfl)
theorem dX0_ears_15 : decode cX0_ears 15 = .ok (.aload_n 1, 1) := dk_43 (dk_at dksX0_ears_0 15 rfl rfl)
theorem dX0_ears_16 : decode cX0_ears 16 = .ok (.iload_n 2, 1) := dk_28 (dk_at dksX0_ears_0 16 rfl rfl)
theorem dX0_ears_17 : decode cX0_ears 17 = .ok (.iload 5, 2) := dk_21 5 (dk_at dksX0_ears_0 17 rfl rfl)
theorem dX0_ears_19 : decode cX0_ears 19 = .ok (.invokevirtual 290, 3) := dk_182 1 34 (dk_at dksX0_ears_0 19 rfl rfl)
theorem dX0_ears_22 : decode cX0_ears 22 = .ok (.aload_n 0, 1) := dk_42 (dk_at dksX0_ears_0 22 rfl rfl)
theorem dX0_ears_23 : decode cX0_ears 23 = .ok (.getfield 39, 3) := dk_180 0 39 (dk_at dksX0_ears_1 0 rfl rfl)
theorem dX0_ears_26 : decode cX0_ears 26 = .ok (.getfield 204, 3) := dk_180 0 204 (dk_at dksX0_ears_1 3 rfl rfl)
theorem dX0_ears_29 : decode cX0_ears 29 = .ok (.iload_n 3, 1) := dk_29 (dk_at dksX0_ears_1 6 rfl rfl)
theorem dX0_ears_30 : decode cX0_ears 30 = .ok (.iaload, 1) := dk_46 (dk_at dksX0_ears_1 7 rfl rfl)
theorem dX0_ears_31 : decode cX0_ears 31 = .ok (.invokestatic 293, 3) := dk_184 1 37 (dk_at dksX0_ears_1 8 rfl rfl)
theorem dX0_ears_34 : decode cX0_ears 34 = .ok (.ifCond .eq 7, 3) := dk_153 0 7 (dk_at dksX0_ears_1 11 rfl rfl)
theorem dX0_ears_37 : decode cX0_ears 37 = .ok (.iconst 1, 1) := dk_4 (dk_at dksX0_ears_1 14 rfl rfl)
theorem dX0_ears_38 : decode cX0_ears 38 = .ok (.goto 4, 3) := dk_167 0 4 (dk_at dksX0_ears_1 15 rfl rfl)
theorem dX0_ears_41 : decode cX0_ears 41 = .ok (.iconst 0, 1) := dk_3 (dk_at dksX0_ears_1 18 rfl rfl)
theorem dX0_ears_42 : decode cX0_ears 42 = .ok (.iadd, 1) := dk_96 (dk_at dksX0_ears_1 19 rfl rfl)
theorem dX0_ears_43 : decode cX0_ears 43 = .ok (.istore 4, 2) := dk_54 4 (dk_at dksX0_ears_1 20 rfl rfl)
theorem dX0_ears_45 : decode cX0_ears 45 = .ok (.iinc 5 1, 3) := dk_132 5 1 (dk_at dksX0_ears_2 0 rfl rfl)
theorem dX0_ears_48 : decode cX0_ears 48 = .ok (.goto (-42), 3) := dk_167 255 214 (dk_at dksX0_ears_2 3 rfl rfl)
theorem dX0_ears_51 : decode cX0_ears 51 = .ok (.iload 4, 2) := dk_21 4 (dk_at dksX0_ears_2 6 rfl rfl)
theorem dX0_ears_53 : decode cX0_ears 53 = .ok (.ireturn, 1) := dk_172 (dk_at dksX0_ears_2 8 rfl rfl)
abbrev cX0_isOf : ByteArray := prog_1_method_4_code
def yX0_isOf : MethodName := ⟨RX0, "isOf", "(II)Z"⟩
def dkwX0_isOf_0 : List UInt8 := [26, 27, 122, 4, 126, 4, 160, 0, 7, 4, 167, 0, 4, 3, 172]
abbrev dktX0_isOf_0 : List UInt8 := dkwX0_isOf_0 ++ []
theorem dksX0_isOf_0 : cX0_isOf.data.toList.drop 0 = dktX0_isOf_0 := by decide +kernel
theorem dX0_isOf_0 : decode cX0_isOf 0 = .ok (.iload_n 0, 1) := dk_26 (dk_at dksX0_isOf_0 0 rfl rfl)
theorem dX0_isOf_1 : decode cX0_isOf 1 = .ok (.iload_n 1, 1) := dk_27 (dk_at dksX0_isOf_0 1 rfl rfl)
theorem dX0_isOf_2 : decode cX0_isOf 2 = .ok (.ishr, 1) := dk_122 (dk_at dksX0_isOf_0 2 rfl rfl)
theorem dX0_isOf_3 : decode cX0_isOf 3 = .ok (.iconst 1, 1) := dk_4 (dk_at dksX0_isOf_0 3 rfl rfl)
theorem dX0_isOf_4 : decode cX0_isOf 4 = .ok (.iand, 1) := dk_126 (dk_at dksX0_isOf_0 4 rfl rfl)
theorem dX0_isOf_5 : decode cX0_isOf 5 = .ok (.iconst 1, 1) := dk_4 (dk_at dksX0_isOf_0 5 rfl rfl)
theorem dX0_isOf_6 : decode cX0_isOf 6 = .ok (.if_icmp .ne 7, 3) := dk_160 0 7 (dk_at dksX0_isOf_0 6 rfl rfl)
theorem dX0_isOf_9 : decode cX0_isOf 9 = .ok (.iconst 1, 1) := dk_4 (dk_at dksX0_isOf_0 9 rfl rfl)
theorem dX0_isOf_10 : decode cX0_isOf 10 = .ok (.goto 4, 3) := dk_167 0 4 (dk_at dksX0_isOf_0 10 rfl rfl)
theorem dX0_isOf_13 : decode cX0_isOf 13 = .ok (.iconst 0, 1) := dk_3 (dk_at dksX0_isOf_0 13 rfl rfl)
theorem dX0_isOf_14 : decode cX0_isOf 14 = .ok (.ireturn, 1) := dk_172 (dk_at dksX0_isOf_0 14 rfl rfl)
abbrev cX0_or : ByteArray := prog_1_method_38_code
def yX0_or : MethodName := ⟨RX0, "or", "(JII)I"⟩
def dkwX0_or_0 : List UInt8 := [30, 20, 1, 41, 148, 154, 0, 7, 29, 167, 0, 9, 30, 3, 28, 184, 1, 59, 172]
abbrev dktX0_or_0 : List UInt8 := dkwX0_or_0 ++ []
theorem dksX0_or_0 : cX0_or.data.toList.drop 0 = dktX0_or_0 := by decide +kernel
theorem dX0_or_0 : decode cX0_or 0 = .ok (.lload_n 0, 1) := dk_30 (dk_at dksX0_or_0 0 rfl rfl)
theorem dX0_or_1 : decode cX0_or 1 = .ok (.ldc2_w 297, 3) := dk_20 1 41 (dk_at dksX0_or_0 1 rfl rfl)
theorem dX0_or_4 : decode cX0_or 4 = .ok (.lcmp, 1) := dk_148 (dk_at dksX0_or_0 4 rfl rfl)
theorem dX0_or_5 : decode cX0_or 5 = .ok (.ifCond .ne 7, 3) := dk_154 0 7 (dk_at dksX0_or_0 5 rfl rfl)
theorem dX0_or_8 : decode cX0_or 8 = .ok (.iload_n 3, 1) := dk_29 (dk_at dksX0_or_0 8 rfl rfl)
theorem dX0_or_9 : decode cX0_or 9 = .ok (.goto 9, 3) := dk_167 0 9 (dk_at dksX0_or_0 9 rfl rfl)
theorem dX0_or_12 : decode cX0_or 12 = .ok (.lload_n 0, 1) := dk_30 (dk_at dksX0_or_0 12 rfl rfl)
theorem dX0_or_13 : decode cX0_or 13 = .ok (.iconst 0, 1) := dk_3 (dk_at dksX0_or_0 13 rfl rfl)
theorem dX0_or_14 : decode cX0_or 14 = .ok (.iload_n 2, 1) := dk_28 (dk_at dksX0_or_0 14 rfl rfl)
theorem dX0_or_15 : decode cX0_or 15 = .ok (.invokestatic 315, 3) := dk_184 1 59 (dk_at dksX0_or_0 15 rfl rfl)
theorem dX0_or_18 : decode cX0_or 18 = .ok (.ireturn, 1) := dk_172 (dk_at dksX0_or_0 18 rfl rfl)
abbrev cX0_near : ByteArray := prog_1_method_6_code
def yX0_near : MethodName := ⟨RX0, "near", "(JII)I"⟩
def dkwX0_near_0 : List UInt8 := [28, 133, 29, 133, 30, 184, 0, 17, 184, 0, 23, 136, 172]
abbrev dktX0_near_0 : List UInt8 := dkwX0_near_0 ++ []
theorem dksX0_near_0 : cX0_near.data.toList.drop 0 = dktX0_near_0 := by decide +kernel
theorem dX0_near_0 : decode cX0_near 0 = .ok (.iload_n 2, 1) := dk_28 (dk_at dksX0_near_0 0 rfl rfl)
theorem dX0_near_1 : decode cX0_near 1 = .ok (.i2l, 1) := dk_133 (dk_at dksX0_near_0 1 rfl rfl)
theorem dX0_near_2 : decode cX0_near 2 = .ok (.iload_n 3, 1) := dk_29 (dk_at dksX0_near_0 2 rfl rfl)
theorem dX0_near_3 : decode cX0_near 3 = .ok (.i2l, 1) := dk_133 (dk_at dksX0_near_0 3 rfl rfl)
theorem dX0_near_4 : decode cX0_near 4 = .ok (.lload_n 0, 1) := dk_30 (dk_at dksX0_near_0 4 rfl rfl)
theorem dX0_near_5 : decode cX0_near 5 = .ok (.invokestatic 17, 3) := dk_184 0 17 (dk_at dksX0_near_0 5 rfl rfl)
theorem dX0_near_8 : decode cX0_near 8 = .ok (.invokestatic 23, 3) := dk_184 0 23 (dk_at dksX0_near_0 8 rfl rfl)
theorem dX0_near_11 : decode cX0_near 11 = .ok (.l2i, 1) := dk_136 (dk_at dksX0_near_0 11 rfl rfl)
theorem dX0_near_12 : decode cX0_near 12 = .ok (.ireturn, 1) := dk_172 (dk_at dksX0_near_0 12 rfl rfl)
abbrev cX0_loses : ByteArray := prog_1_method_41_code
def yX0_loses : MethodName := ⟨RX0, "loses", "(LDowryBoxes$Table;I)I"⟩
def dkwX0_loses_0 : List UInt8 := [42, 42, 180, 0, 39, 180, 0, 184, 5, 43, 28, 2, 182, 1, 63, 16, 9, 3, 184, 1, 67, 172]
abbrev dktX0_loses_0 : List UInt8 := dkwX0_loses_0 ++ []
theorem dksX0_loses_0 : cX0_loses.data.toList.drop 0 = dktX0_loses_0 := by decide +kernel
theorem dX0_loses_0 : decode cX0_loses 0 = .ok (.aload_n 0, 1) := dk_42 (dk_at dksX0_loses_0 0 rfl rfl)
theorem dX0_loses_1 : decode cX0_loses 1 = .ok (.aload_n 0, 1) := dk_42 (dk_at dksX0_loses_0 1 rfl rfl)
theorem dX0_loses_2 : decode cX0_loses 2 = .ok (.getfield 39, 3) := dk_180 0 39 (dk_at dksX0_loses_0 2 rfl rfl)
theorem dX0_loses_5 : decode cX0_loses 5 = .ok (.getfield 184, 3) := dk_180 0 184 (dk_at dksX0_loses_0 5 rfl rfl)
theorem dX0_loses_8 : decode cX0_loses 8 = .ok (.iconst 2, 1) := dk_5 (dk_at dksX0_loses_0 8 rfl rfl)
theorem dX0_loses_9 : decode cX0_loses 9 = .ok (.aload_n 1, 1) := dk_43 (dk_at dksX0_loses_0 9 rfl rfl)
theorem dX0_loses_10 : decode cX0_loses 10 = .ok (.iload_n 2, 1) := dk_28 (dk_at dksX0_loses_0 10 rfl rfl)
theorem dX0_loses_11 : decode cX0_loses 11 = .ok (.iconst (-1), 1) := dk_2 (dk_at dksX0_loses_0 11 rfl rfl)
theorem dX0_loses_12 : decode cX0_loses 12 = .ok (.invokevirtual 319, 3) := dk_182 1 63 (dk_at dksX0_loses_0 12 rfl rfl)
theorem dX0_loses_15 : decode cX0_loses 15 = .ok (.bipush 9, 2) := dk_16 9 (dk_at dksX0_loses_0 15 rfl rfl)
theorem dX0_loses_17 : decode cX0_loses 17 = .ok (.iconst 0, 1) := dk_3 (dk_at dksX0_loses_0 17 rfl rfl)
theorem dX0_loses_18 : decode cX0_loses 18 = .ok (.invokestatic 323, 3) := dk_184 1 67 (dk_at dksX0_loses_0 18 rfl rfl)
theorem dX0_loses_21 : decode cX0_loses 21 = .ok (.ireturn, 1) := dk_172 (dk_at dksX0_loses_0 21 rfl rfl)
abbrev cX0_pins : ByteArray := prog_1_method_19_code
def yX0_pins : MethodName := ⟨RX0, "pins", "(III)I"⟩
def dkwX0_pins_2 : List UInt8 := [42, 182, 0, 155, 180, 0, 158, 16, 8, 27, 104, 28, 96, 29, 79, 42, 21, 4, 182, 0, 152, 172]
abbrev dktX0_pins_2 : List UInt8 := dkwX0_pins_2 ++ []
def dkwX0_pins_1 : List UInt8 := [182, 0, 173, 154, 0, 10, 42, 16, 254, 182, 0, 145, 172, 42, 182, 0, 155, 27, 28, 182, 0, 177, 54, 4]
abbrev dktX0_pins_1 : List UInt8 := dkwX0_pins_1 ++ dktX0_pins_2
def dkwX0_pins_0 : List UInt8 := [28, 184, 0, 195, 153, 0, 10, 29, 184, 0, 198, 154, 0, 9, 42, 2, 182, 0, 145, 172, 42, 27]
abbrev dktX0_pins_0 : List UInt8 := dkwX0_pins_0 ++ dktX0_pins_1
theorem dksX0_pins_0 : cX0_pins.data.toList.drop 0 = dktX0_pins_0 := by decide +kernel
theorem dksX0_pins_1 : cX0_pins.data.toList.drop 22 = dktX0_pins_1 := dk_seg dksX0_pins_0 22 rfl rfl
theorem dksX0_pins_2 : cX0_pins.data.toList.drop 46 = dktX0_pins_2 := dk_seg dksX0_pins_1 24 rfl rfl
theorem dX0_pins_0 : decode cX0_pins 0 = .ok (.iload_n 2, 1) := dk_28 (dk_at dksX0_pins_0 0 rfl rfl)
theorem dX0_pins_1 : decode cX0_pins 1 = .ok (.invokestatic 195, 3) := dk_184 0 195 (dk_at dksX0_pins_0 1 rfl rfl)
theorem dX0_pins_4 : decode cX0_pins 4 = .ok (.ifCond .eq 10, 3) := dk_153 0 10 (dk_at dksX0_pins_0 4 rfl rfl)
theorem dX0_pins_7 : decode cX0_pins 7 = .ok (.iload_n 3, 1) := dk_29 (dk_at dksX0_pins_0 7 rfl rfl)
theorem dX0_pins_8 : decode cX0_pins 8 = .ok (.invokestatic 198, 3) := dk_184 0 198 (dk_at dksX0_pins_0 8 rfl rfl)
theorem dX0_pins_11 : decode cX0_pins 11 = .ok (.ifCond .ne 9, 3) := dk_154 0 9 (dk_at dksX0_pins_0 11 rfl rfl)
theorem dX0_pins_14 : decode cX0_pins 14 = .ok (.aload_n 0, 1) := dk_42 (dk_at dksX0_pins_0 14 rfl rfl)
theorem dX0_pins_15 : decode cX0_pins 15 = .ok (.iconst (-1), 1) := dk_2 (dk_at dksX0_pins_0 15 rfl rfl)
theorem dX0_pins_16 : decode cX0_pins 16 = .ok (.invokevirtual 145, 3) := dk_182 0 145 (dk_at dksX0_pins_0 16 rfl rfl)
theorem dX0_pins_19 : decode cX0_pins 19 = .ok (.ireturn, 1) := dk_172 (dk_at dksX0_pins_0 19 rfl rfl)
theorem dX0_pins_20 : decode cX0_pins 20 = .ok (.aload_n 0, 1) := dk_42 (dk_at dksX0_pins_0 20 rfl rfl)
theorem dX0_pins_21 : decode cX0_pins 21 = .ok (.iload_n 1, 1) := dk_27 (dk_at dksX0_pins_0 21 rfl rfl)
theorem dX0_pins_22 : decode cX0_pins 22 = .ok (.invokevirtual 173, 3) := dk_182 0 173 (dk_at dksX0_pins_1 0 rfl rfl)
theorem dX0_pins_25 : decode cX0_pins 25 = .ok (.ifCond .ne 10, 3) := dk_154 0 10 (dk_at dksX0_pins_1 3 rfl rfl)
theorem dX0_pins_28 : decode cX0_pins 28 = .ok (.aload_n 0, 1) := dk_42 (dk_at dksX0_pins_1 6 rfl rfl)
theorem dX0_pins_29 : decode cX0_pins 29 = .ok (.bipush (-2), 2) := dk_16 254 (dk_at dksX0_pins_1 7 rfl rfl)
theorem dX0_pins_31 : decode cX0_pins 31 = .ok (.invokevirtual 145, 3) := dk_182 0 145 (dk_at dksX0_pins_1 9 rfl rfl)
theorem dX0_pins_34 : decode cX0_pins 34 = .ok (.ireturn, 1) := dk_172 (dk_at dksX0_pins_1 12 rfl rfl)
theorem dX0_pins_35 : decode cX0_pins 35 = .ok (.aload_n 0, 1) := dk_42 (dk_at dksX0_pins_1 13 rfl rfl)
theorem dX0_pins_36 : decode cX0_pins 36 = .ok (.invokevirtual 155, 3) := dk_182 0 155 (dk_at dksX0_pins_1 14 rfl rfl)
theorem dX0_pins_39 : decode cX0_pins 39 = .ok (.iload_n 1, 1) := dk_27 (dk_at dksX0_pins_1 17 rfl rfl)
theorem dX0_pins_40 : decode cX0_pins 40 = .ok (.iload_n 2, 1) := dk_28 (dk_at dksX0_pins_1 18 rfl rfl)
theorem dX0_pins_41 : decode cX0_pins 41 = .ok (.invokevirtual 177, 3) := dk_182 0 177 (dk_at dksX0_pins_1 19 rfl rfl)
theorem dX0_pins_44 : decode cX0_pins 44 = .ok (.istore 4, 2) := dk_54 4 (dk_at dksX0_pins_1 22 rfl rfl)
theorem dX0_pins_46 : decode cX0_pins 46 = .ok (.aload_n 0, 1) := dk_42 (dk_at dksX0_pins_2 0 rfl rfl)
theorem dX0_pins_47 : decode cX0_pins 47 = .ok (.invokevirtual 155, 3) := dk_182 0 155 (dk_at dksX0_pins_2 1 rfl rfl)
theorem dX0_pins_50 : decode cX0_pins 50 = .ok (.getfield 158, 3) := dk_180 0 158 (dk_at dksX0_pins_2 4 rfl rfl)
theorem dX0_pins_53 : decode cX0_pins 53 = .ok (.bipush 8, 2) := dk_16 8 (dk_at dksX0_pins_2 7 rfl rfl)
theorem dX0_pins_55 : decode cX0_pins 55 = .ok (.iload_n 1, 1) := dk_27 (dk_at dksX0_pins_2 9 rfl rfl)
theorem dX0_pins_56 : decode cX0_pins 56 = .ok (.imul, 1) := dk_104 (dk_at dksX0_pins_2 10 rfl rfl)
theorem dX0_pins_57 : decode cX0_pins 57 = .ok (.iload_n 2, 1) := dk_28 (dk_at dksX0_pins_2 11 rfl rfl)
theorem dX0_pins_58 : decode cX0_pins 58 = .ok (.iadd, 1) := dk_96 (dk_at dksX0_pins_2 12 rfl rfl)
theorem dX0_pins_59 : decode cX0_pins 59 = .ok (.iload_n 3, 1) := dk_29 (dk_at dksX0_pins_2 13 rfl rfl)
theorem dX0_pins_60 : decode cX0_pins 60 = .ok (.iastore, 1) := dk_79 (dk_at dksX0_pins_2 14 rfl rfl)
theorem dX0_pins_61 : decode cX0_pins 61 = .ok (.aload_n 0, 1) := dk_42 (dk_at dksX0_pins_2 15 rfl rfl)
theorem dX0_pins_62 : decode cX0_pins 62 = .ok (.iload 4, 2) := dk_21 4 (dk_at dksX0_pins_2 16 rfl rfl)
theorem dX0_pins_64 : decode cX0_pins 64 = .ok (.invokevirtual 152, 3) := dk_182 0 152 (dk_at dksX0_pins_2 18 rfl rfl)
theorem dX0_pins_67 : decode cX0_pins 67 = .ok (.ireturn, 1) := dk_172 (dk_at dksX0_pins_2 21 rfl rfl)
abbrev cX0_isBar : ByteArray := prog_1_method_7_code
def yX0_isBar : MethodName := ⟨RX0, "isBar", "(I)Z"⟩
def dkwX0_isBar_0 : List UInt8 := [26, 3, 16, 7, 184, 0, 26, 172]
abbrev dktX0_isBar_0 : List UInt8 := dkwX0_isBar_0 ++ []
theorem dksX0_isBar_0 : cX0_isBar.data.toList.drop 0 = dktX0_isBar_0 := by decide +kernel
theorem dX0_isBar_0 : decode cX0_isBar 0 = .ok (.iload_n 0, 1) := dk_26 (dk_at dksX0_isBar_0 0 rfl rfl)
theorem dX0_isBar_1 : decode cX0_isBar 1 = .ok (.iconst 0, 1) := dk_3 (dk_at dksX0_isBar_0 1 rfl rfl)
theorem dX0_isBar_2 : decode cX0_isBar 2 = .ok (.bipush 7, 2) := dk_16 7 (dk_at dksX0_isBar_0 2 rfl rfl)
theorem dX0_isBar_4 : decode cX0_isBar 4 = .ok (.invokestatic 26, 3) := dk_184 0 26 (dk_at dksX0_isBar_0 4 rfl rfl)
theorem dX0_isBar_7 : decode cX0_isBar 7 = .ok (.ireturn, 1) := dk_172 (dk_at dksX0_isBar_0 7 rfl rfl)
abbrev cX0_isSet : ByteArray := prog_1_method_9_code
def yX0_isSet : MethodName := ⟨RX0, "isSet", "(I)Z"⟩
def dkwX0_isSet_0 : List UInt8 := [26, 3, 17, 0, 255, 184, 0, 26, 172]
abbrev dktX0_isSet_0 : List UInt8 := dkwX0_isSet_0 ++ []
theorem dksX0_isSet_0 : cX0_isSet.data.toList.drop 0 = dktX0_isSet_0 := by decide +kernel
theorem dX0_isSet_0 : decode cX0_isSet 0 = .ok (.iload_n 0, 1) := dk_26 (dk_at dksX0_isSet_0 0 rfl rfl)
theorem dX0_isSet_1 : decode cX0_isSet 1 = .ok (.iconst 0, 1) := dk_3 (dk_at dksX0_isSet_0 1 rfl rfl)
theorem dX0_isSet_2 : decode cX0_isSet 2 = .ok (.sipush 255, 3) := dk_17 0 255 (dk_at dksX0_isSet_0 2 rfl rfl)
theorem dX0_isSet_5 : decode cX0_isSet 5 = .ok (.invokestatic 26, 3) := dk_184 0 26 (dk_at dksX0_isSet_0 5 rfl rfl)
theorem dX0_isSet_8 : decode cX0_isSet 8 = .ok (.ireturn, 1) := dk_172 (dk_at dksX0_isSet_0 8 rfl rfl)
abbrev cX0_suitor : ByteArray := prog_1_method_20_code
def yX0_suitor : MethodName := ⟨RX0, "suitor", "(II)I"⟩
def dkwX0_suitor_3 : List UInt8 := [4, 96, 181, 0, 142, 42, 29, 182, 0, 152, 172]
abbrev dktX0_suitor_3 : List UInt8 := dkwX0_suitor_3 ++ []
def dkwX0_suitor_2 : List UInt8 := [180, 0, 204, 29, 27, 79, 42, 180, 0, 39, 180, 0, 207, 29, 28, 79, 42, 180, 0, 39, 89, 180, 0, 142]
abbrev dktX0_suitor_2 : List UInt8 := dkwX0_suitor_2 ++ dktX0_suitor_3
def dkwX0_suitor_1 : List UInt8 := [180, 0, 39, 180, 0, 142, 62, 29, 16, 6, 160, 0, 10, 42, 16, 251, 182, 0, 145, 172, 42, 180, 0, 39]
abbrev dktX0_suitor_1 : List UInt8 := dkwX0_suitor_1 ++ dktX0_suitor_2
def dkwX0_suitor_0 : List UInt8 := [27, 184, 0, 201, 153, 0, 13, 28, 3, 16, 60, 184, 0, 26, 154, 0, 9, 42, 2, 182, 0, 145, 172, 42]
abbrev dktX0_suitor_0 : List UInt8 := dkwX0_suitor_0 ++ dktX0_suitor_1
theorem dksX0_suitor_0 : cX0_suitor.data.toList.drop 0 = dktX0_suitor_0 := by decide +kernel
theorem dksX0_suitor_1 : cX0_suitor.data.toList.drop 24 = dktX0_suitor_1 := dk_seg dksX0_suitor_0 24 rfl rfl
theorem dksX0_suitor_2 : cX0_suitor.data.toList.drop 48 = dktX0_suitor_2 := dk_seg dksX0_suitor_1 24 rfl rfl
theorem dksX0_suitor_3 : cX0_suitor.data.toList.drop 72 = dktX0_suitor_3 := dk_seg dksX0_suitor_2 24 rfl rfl
theorem dX0_suitor_0 : decode cX0_suitor 0 = .ok (.iload_n 1, 1) := dk_27 (dk_at dksX0_suitor_0 0 rfl rfl)
theorem dX0_suitor_1 : decode cX0_suitor 1 = .ok (.invokestatic 201, 3) := dk_184 0 201 (dk_at dksX0_suitor_0 1 rfl rfl)
theorem dX0_suitor_4 : decode cX0_suitor 4 = .ok (.ifCond .eq 13, 3) := dk_153 0 13 (dk_at dksX0_suitor_0 4 rfl rfl)
theorem dX0_suitor_7 : decode cX0_suitor 7 = .ok (.iload_n 2, 1) := dk_28 (dk_at dksX0_suitor_0 7 rfl rfl)
theorem dX0_suitor_8 : decode cX0_suitor 8 = .ok (.iconst 0, 1) := dk_3 (dk_at dksX0_suitor_0 8 rfl rfl)
theorem dX0_suitor_9 : decode cX0_suitor 9 = .ok (.bipush 60, 2) := dk_16 60 (dk_at dksX0_suitor_0 9 rfl rfl)
theorem dX0_suitor_11 : decode cX0_suitor 11 = .ok (.invokestatic 26, 3) := dk_184 0 26 (dk_at dksX0_suitor_0 11 rfl rfl)
theorem dX0_suitor_14 : decode cX0_suitor 14 = .ok (.ifCond .ne 9, 3) := dk_154 0 9 (dk_at dksX0_suitor_0 14 rfl rfl)
theorem dX0_suitor_17 : decode cX0_suitor 17 = .ok (.aload_n 0, 1) := dk_42 (dk_at dksX0_suitor_0 17 rfl rfl)
theorem dX0_suitor_18 : decode cX0_suitor 18 = .ok (.iconst (-1), 1) := dk_2 (dk_at dksX0_suitor_0 18 rfl rfl)
theorem dX0_suitor_19 : decode cX0_suitor 19 = .ok (.invokevirtual 145, 3) := dk_182 0 145 (dk_at dksX0_suitor_0 19 rfl rfl)
theorem dX0_suitor_22 : decode cX0_suitor 22 = .ok (.ireturn, 1) := dk_172 (dk_at dksX0_suitor_0 22 rfl rfl)
theorem dX0_suitor_23 : decode cX0_suitor 23 = .ok (.aload_n 0, 1) := dk_42 (dk_at dksX0_suitor_0 23 rfl rfl)
theorem dX0_suitor_24 : decode cX0_suitor 24 = .ok (.getfield 39, 3) := dk_180 0 39 (dk_at dksX0_suitor_1 0 rfl rfl)
theorem dX0_suitor_27 : decode cX0_suitor 27 = .ok (.getfield 142, 3) := dk_180 0 142 (dk_at dksX0_suitor_1 3 rfl rfl)
theorem dX0_suitor_30 : decode cX0_suitor 30 = .ok (.istore_n 3, 1) := dk_62 (dk_at dksX0_suitor_1 6 rfl rfl)
theorem dX0_suitor_31 : decode cX0_suitor 31 = .ok (.iload_n 3, 1) := dk_29 (dk_at dksX0_suitor_1 7 rfl rfl)
theorem dX0_suitor_32 : decode cX0_suitor 32 = .ok (.bipush 6, 2) := dk_16 6 (dk_at dksX0_suitor_1 8 rfl rfl)
theorem dX0_suitor_34 : decode cX0_suitor 34 = .ok (.if_icmp .ne 10, 3) := dk_160 0 10 (dk_at dksX0_suitor_1 10 rfl rfl)
theorem dX0_suitor_37 : decode cX0_suitor 37 = .ok (.aload_n 0, 1) := dk_42 (dk_at dksX0_suitor_1 13 rfl rfl)
theorem dX0_suitor_38 : decode cX0_suitor 38 = .ok (.bipush (-5), 2) := dk_16 251 (dk_at dksX0_suitor_1 14 rfl rfl)
theorem dX0_suitor_40 : decode cX0_suitor 40 = .ok (.invokevirtual 145, 3) := dk_182 0 145 (dk_at dksX0_suitor_1 16 rfl rfl)
theorem dX0_suitor_43 : decode cX0_suitor 43 = .ok (.ireturn, 1) := dk_172 (dk_at dksX0_suitor_1 19 rfl rfl)
theorem dX0_suitor_44 : decode cX0_suitor 44 = .ok (.aload_n 0, 1) := dk_42 (dk_at dksX0_suitor_1 20 rfl rfl)
theorem dX0_suitor_45 : decode cX0_suitor 45 = .ok (.getfield 39, 3) := dk_180 0 39 (dk_at dksX0_suitor_1 21 rfl rfl)
theorem dX0_suitor_48 : decode cX0_suitor 48 = .ok (.getfield 204, 3) := dk_180 0 204 (dk_at dksX0_suitor_2 0 rfl rfl)
theorem dX0_suitor_51 : decode cX0_suitor 51 = .ok (.iload_n 3, 1) := dk_29 (dk_at dksX0_suitor_2 3 rfl rfl)
theorem dX0_suitor_52 : decode cX0_suitor 52 = .ok (.iload_n 1, 1) := dk_27 (dk_at dksX0_suitor_2 4 rfl rfl)
theorem dX0_suitor_53 : decode cX0_suitor 53 = .ok (.iastore, 1) := dk_79 (dk_at dksX0_suitor_2 5 rfl rfl)
theorem dX0_suitor_54 : decode cX0_suitor 54 = .ok (.aload_n 0, 1) := dk_42 (dk_at dksX0_suitor_2 6 rfl rfl)
theorem dX0_suitor_55 : decode cX0_suitor 55 = .ok (.getfield 39, 3) := dk_180 0 39 (dk_at dksX0_suitor_2 7 rfl rfl)
theorem dX0_suitor_58 : decode cX0_suitor 58 = .ok (.getfield 207, 3) := dk_180 0 207 (dk_at dksX0_suitor_2 10 rfl rfl)
theorem dX0_suitor_61 : decode cX0_suitor 61 = .ok (.iload_n 3, 1) := dk_29 (dk_at dksX0_suitor_2 13 rfl rfl)
theorem dX0_suitor_62 : decode cX0_suitor 62 = .ok (.iload_n 2, 1) := dk_28 (dk_at dksX0_suitor_2 14 rfl rfl)
theorem dX0_suitor_63 : decode cX0_suitor 63 = .ok (.iastore, 1) := dk_79 (dk_at dksX0_suitor_2 15 rfl rfl)
theorem dX0_suitor_64 : decode cX0_suitor 64 = .ok (.aload_n 0, 1) := dk_42 (dk_at dksX0_suitor_2 16 rfl rfl)
theorem dX0_suitor_65 : decode cX0_suitor 65 = .ok (.getfield 39, 3) := dk_180 0 39 (dk_at dksX0_suitor_2 17 rfl rfl)
theorem dX0_suitor_68 : decode cX0_suitor 68 = .ok (.dup, 1) := dk_89 (dk_at dksX0_suitor_2 20 rfl rfl)
theorem dX0_suitor_69 : decode cX0_suitor 69 = .ok (.getfield 142, 3) := dk_180 0 142 (dk_at dksX0_suitor_2 21 rfl rfl)
theorem dX0_suitor_72 : decode cX0_suitor 72 = .ok (.iconst 1, 1) := dk_4 (dk_at dksX0_suitor_3 0 rfl rfl)
theorem dX0_suitor_73 : decode cX0_suitor 73 = .ok (.iadd, 1) := dk_96 (dk_at dksX0_suitor_3 1 rfl rfl)
theorem dX0_suitor_74 : decode cX0_suitor 74 = .ok (.putfield 142, 3) := dk_181 0 142 (dk_at dksX0_suitor_3 2 rfl rfl)
theorem dX0_suitor_77 : decode cX0_suitor 77 = .ok (.aload_n 0, 1) := dk_42 (dk_at dksX0_suitor_3 5 rfl rfl)
theorem dX0_suitor_78 : decode cX0_suitor 78 = .ok (.iload_n 3, 1) := dk_29 (dk_at dksX0_suitor_3 6 rfl rfl)
theorem dX0_suitor_79 : decode cX0_suitor 79 = .ok (.invokevirtual 152, 3) := dk_182 0 152 (dk_at dksX0_suitor_3 7 rfl rfl)
theorem dX0_suitor_82 : decode cX0_suitor 82 = .ok (.ireturn, 1) := dk_172 (dk_at dksX0_suitor_3 10 rfl rfl)
abbrev cX0_isTooth : ByteArray := prog_1_method_8_code
def yX0_isTooth : MethodName := ⟨RX0, "isTooth", "(I)Z"⟩
def dkwX0_isTooth_0 : List UInt8 := [26, 3, 16, 7, 184, 0, 26, 172]
abbrev dktX0_isTooth_0 : List UInt8 := dkwX0_isTooth_0 ++ []
theorem dksX0_isTooth_0 : cX0_isTooth.data.toList.drop 0 = dktX0_isTooth_0 := by decide +kernel
theorem dX0_isTooth_0 : decode cX0_isTooth 0 = .ok (.iload_n 0, 1) := dk_26 (dk_at dksX0_isTooth_0 0 rfl rfl)
theorem dX0_isTooth_1 : decode cX0_isTooth 1 = .ok (.iconst 0, 1) := dk_3 (dk_at dksX0_isTooth_0 1 rfl rfl)
theorem dX0_isTooth_2 : decode cX0_isTooth 2 = .ok (.bipush 7, 2) := dk_16 7 (dk_at dksX0_isTooth_0 2 rfl rfl)
theorem dX0_isTooth_4 : decode cX0_isTooth 4 = .ok (.invokestatic 26, 3) := dk_184 0 26 (dk_at dksX0_isTooth_0 4 rfl rfl)
theorem dX0_isTooth_7 : decode cX0_isTooth 7 = .ok (.ireturn, 1) := dk_172 (dk_at dksX0_isTooth_0 7 rfl rfl)
abbrev cX0_at : ByteArray := prog_1_method_22_code
def yX0_at : MethodName := ⟨RX0, "at", "(II)I"⟩
def dkwX0_at_3 : List UInt8 := [182, 0, 155, 27, 182, 0, 213, 172, 2, 172]
abbrev dktX0_at_3 : List UInt8 := dkwX0_at_3 ++ []
def dkwX0_at_2 : List UInt8 := [42, 180, 0, 39, 180, 0, 204, 27, 46, 172, 42, 180, 0, 39, 180, 0, 207, 27, 46, 172, 42, 42]
abbrev dktX0_at_2 : List UInt8 := dkwX0_at_2 ++ dktX0_at_3
def dkwX0_at_1 : List UInt8 := [170, 0, 0, 0, 55, 0, 0, 0, 0, 0, 0, 0, 2, 0, 0, 0, 25, 0, 0, 0, 35, 0, 0, 0, 45]
abbrev dktX0_at_1 : List UInt8 := dkwX0_at_1 ++ dktX0_at_2
def dkwX0_at_0 : List UInt8 := [42, 27, 182, 0, 210, 154, 0, 5, 2, 172, 28]
abbrev dktX0_at_0 : List UInt8 := dkwX0_at_0 ++ dktX0_at_1
theorem dksX0_at_0 : cX0_at.data.toList.drop 0 = dktX0_at_0 := by decide +kernel
theorem dksX0_at_1 : cX0_at.data.toList.drop 11 = dktX0_at_1 := dk_seg dksX0_at_0 11 rfl rfl
theorem dksX0_at_2 : cX0_at.data.toList.drop 36 = dktX0_at_2 := dk_seg dksX0_at_1 25 rfl rfl
theorem dksX0_at_3 : cX0_at.data.toList.drop 58 = dktX0_at_3 := dk_seg dksX0_at_2 22 rfl rfl
theorem dX0_at_0 : decode cX0_at 0 = .ok (.aload_n 0, 1) := dk_42 (dk_at dksX0_at_0 0 rfl rfl)
theorem dX0_at_1 : decode cX0_at 1 = .ok (.iload_n 1, 1) := dk_27 (dk_at dksX0_at_0 1 rfl rfl)
theorem dX0_at_2 : decode cX0_at 2 = .ok (.invokevirtual 210, 3) := dk_182 0 210 (dk_at dksX0_at_0 2 rfl rfl)
theorem dX0_at_5 : decode cX0_at 5 = .ok (.ifCond .ne 5, 3) := dk_154 0 5 (dk_at dksX0_at_0 5 rfl rfl)
theorem dX0_at_8 : decode cX0_at 8 = .ok (.iconst (-1), 1) := dk_2 (dk_at dksX0_at_0 8 rfl rfl)
theorem dX0_at_9 : decode cX0_at 9 = .ok (.ireturn, 1) := dk_172 (dk_at dksX0_at_0 9 rfl rfl)
theorem dX0_at_10 : decode cX0_at 10 = .ok (.iload_n 2, 1) := dk_28 (dk_at dksX0_at_0 10 rfl rfl)
theorem dX0_at_11 : decode cX0_at 11 = .ok (.tableswitch 55 0 2 #[25, 35, 45], 25) := by decide +kernel
theorem dX0_at_36 : decode cX0_at 36 = .ok (.aload_n 0, 1) := dk_42 (dk_at dksX0_at_2 0 rfl rfl)
theorem dX0_at_37 : decode cX0_at 37 = .ok (.getfield 39, 3) := dk_180 0 39 (dk_at dksX0_at_2 1 rfl rfl)
theorem dX0_at_40 : decode cX0_at 40 = .ok (.getfield 204, 3) := dk_180 0 204 (dk_at dksX0_at_2 4 rfl rfl)
theorem dX0_at_43 : decode cX0_at 43 = .ok (.iload_n 1, 1) := dk_27 (dk_at dksX0_at_2 7 rfl rfl)
theorem dX0_at_44 : decode cX0_at 44 = .ok (.iaload, 1) := dk_46 (dk_at dksX0_at_2 8 rfl rfl)
theorem dX0_at_45 : decode cX0_at 45 = .ok (.ireturn, 1) := dk_172 (dk_at dksX0_at_2 9 rfl rfl)
theorem dX0_at_46 : decode cX0_at 46 = .ok (.aload_n 0, 1) := dk_42 (dk_at dksX0_at_2 10 rfl rfl)
theorem dX0_at_47 : decode cX0_at 47 = .ok (.getfield 39, 3) := dk_180 0 39 (dk_at dksX0_at_2 11 rfl rfl)
theorem dX0_at_50 : decode cX0_at 50 = .ok (.getfield 207, 3) := dk_180 0 207 (dk_at dksX0_at_2 14 rfl rfl)
theorem dX0_at_53 : decode cX0_at 53 = .ok (.iload_n 1, 1) := dk_27 (dk_at dksX0_at_2 17 rfl rfl)
theorem dX0_at_54 : decode cX0_at 54 = .ok (.iaload, 1) := dk_46 (dk_at dksX0_at_2 18 rfl rfl)
theorem dX0_at_55 : decode cX0_at 55 = .ok (.ireturn, 1) := dk_172 (dk_at dksX0_at_2 19 rfl rfl)
theorem dX0_at_56 : decode cX0_at 56 = .ok (.aload_n 0, 1) := dk_42 (dk_at dksX0_at_2 20 rfl rfl)
theorem dX0_at_57 : decode cX0_at 57 = .ok (.aload_n 0, 1) := dk_42 (dk_at dksX0_at_2 21 rfl rfl)
theorem dX0_at_58 : decode cX0_at 58 = .ok (.invokevirtual 155, 3) := dk_182 0 155 (dk_at dksX0_at_3 0 rfl rfl)
theorem dX0_at_61 : decode cX0_at 61 = .ok (.iload_n 1, 1) := dk_27 (dk_at dksX0_at_3 3 rfl rfl)
theorem dX0_at_62 : decode cX0_at 62 = .ok (.invokevirtual 213, 3) := dk_182 0 213 (dk_at dksX0_at_3 4 rfl rfl)
theorem dX0_at_65 : decode cX0_at 65 = .ok (.ireturn, 1) := dk_172 (dk_at dksX0_at_3 7 rfl rfl)
theorem dX0_at_66 : decode cX0_at 66 = .ok (.iconst (-1), 1) := dk_2 (dk_at dksX0_at_3 8 rfl rfl)
theorem dX0_at_67 : decode cX0_at 67 = .ok (.ireturn, 1) := dk_172 (dk_at dksX0_at_3 9 rfl rfl)
abbrev cX0_isSuitor : ByteArray := prog_1_method_14_code
def yX0_isSuitor : MethodName := ⟨RX0, "isSuitor", "(I)Z"⟩
def dkwX0_isSuitor_0 : List UInt8 := [27, 3, 42, 180, 0, 39, 180, 0, 142, 4, 100, 184, 0, 26, 172]
abbrev dktX0_isSuitor_0 : List UInt8 := dkwX0_isSuitor_0 ++ []
theorem dksX0_isSuitor_0 : cX0_isSuitor.data.toList.drop 0 = dktX0_isSuitor_0 := by decide +kernel
theorem dX0_isSuitor_0 : decode cX0_isSuitor 0 = .ok (.iload_n 1, 1) := dk_27 (dk_at dksX0_isSuitor_0 0 rfl rfl)
theorem dX0_isSuitor_1 : decode cX0_isSuitor 1 = .ok (.iconst 0, 1) := dk_3 (dk_at dksX0_isSuitor_0 1 rfl rfl)
theorem dX0_isSuitor_2 : decode cX0_isSuitor 2 = .ok (.aload_n 0, 1) := dk_42 (dk_at dksX0_isSuitor_0 2 rfl rfl)
theorem dX0_isSuitor_3 : decode cX0_isSuitor 3 = .ok (.getfield 39, 3) := dk_180 0 39 (dk_at dksX0_isSuitor_0 3 rfl rfl)
theorem dX0_isSuitor_6 : decode cX0_isSuitor 6 = .ok (.getfield 142, 3) := dk_180 0 142 (dk_at dksX0_isSuitor_0 6 rfl rfl)
theorem dX0_isSuitor_9 : decode cX0_isSuitor 9 = .ok (.iconst 1, 1) := dk_4 (dk_at dksX0_isSuitor_0 9 rfl rfl)
theorem dX0_isSuitor_10 : decode cX0_isSuitor 10 = .ok (.isub, 1) := dk_100 (dk_at dksX0_isSuitor_0 10 rfl rfl)
theorem dX0_isSuitor_11 : decode cX0_isSuitor 11 = .ok (.invokestatic 26, 3) := dk_184 0 26 (dk_at dksX0_isSuitor_0 11 rfl rfl)
theorem dX0_isSuitor_14 : decode cX0_isSuitor 14 = .ok (.ireturn, 1) := dk_172 (dk_at dksX0_isSuitor_0 14 rfl rfl)
abbrev cX0_boxOf : ByteArray := prog_1_method_21_code
def yX0_boxOf : MethodName := ⟨RX0, "boxOf", "(LDowryBoxes$Table;I)I"⟩
def dkwX0_boxOf_1 : List UInt8 := [172, 132, 3, 1, 167, 255, 230, 2, 172]
abbrev dktX0_boxOf_1 : List UInt8 := dkwX0_boxOf_1 ++ []
def dkwX0_boxOf_0 : List UInt8 := [3, 62, 29, 42, 180, 0, 39, 180, 0, 139, 162, 0, 21, 43, 180, 0, 167, 29, 46, 28, 160, 0, 5, 29]
abbrev dktX0_boxOf_0 : List UInt8 := dkwX0_boxOf_0 ++ dktX0_boxOf_1
theorem dksX0_boxOf_0 : cX0_boxOf.data.toList.drop 0 = dktX0_boxOf_0 := by decide +kernel
theorem dksX0_boxOf_1 : cX0_boxOf.data.toList.drop 24 = dktX0_boxOf_1 := dk_seg dksX0_boxOf_0 24 rfl rfl
theorem dX0_boxOf_0 : decode cX0_boxOf 0 = .ok (.iconst 0, 1) := dk_3 (dk_at dksX0_boxOf_0 0 rfl rfl)
theorem dX0_boxOf_1 : decode cX0_boxOf 1 = .ok (.istore_n 3, 1) := dk_62 (dk_at dksX0_boxOf_0 1 rfl rfl)
theorem dX0_boxOf_2 : decode cX0_boxOf 2 = .ok (.iload_n 3, 1) := dk_29 (dk_at dksX0_boxOf_0 2 rfl rfl)
theorem dX0_boxOf_3 : decode cX0_boxOf 3 = .ok (.aload_n 0, 1) := dk_42 (dk_at dksX0_boxOf_0 3 rfl rfl)
theorem dX0_boxOf_4 : decode cX0_boxOf 4 = .ok (.getfield 39, 3) := dk_180 0 39 (dk_at dksX0_boxOf_0 4 rfl rfl)
theorem dX0_boxOf_7 : decode cX0_boxOf 7 = .ok (.getfield 139, 3) := dk_180 0 139 (dk_at dksX0_boxOf_0 7 rfl rfl)
theorem dX0_boxOf_10 : decode cX0_boxOf 10 = .ok (.if_icmp .ge 21, 3) := dk_162 0 21 (dk_at dksX0_boxOf_0 10 rfl rfl)
theorem dX0_boxOf_13 : decode cX0_boxOf 13 = .ok (.aload_n 1, 1) := dk_43 (dk_at dksX0_boxOf_0 13 rfl rfl)
theorem dX0_boxOf_14 : decode cX0_boxOf 14 = .ok (.getfield 167, 3) := dk_180 0 167 (dk_at dksX0_boxOf_0 14 rfl rfl)
theorem dX0_boxOf_17 : decode cX0_boxOf 17 = .ok (.iload_n 3, 1) := dk_29 (dk_at dksX0_boxOf_0 17 rfl rfl)
theorem dX0_boxOf_18 : decode cX0_boxOf 18 = .ok (.iaload, 1) := dk_46 (dk_at dksX0_boxOf_0 18 rfl rfl)
theorem dX0_boxOf_19 : decode cX0_boxOf 19 = .ok (.iload_n 2, 1) := dk_28 (dk_at dksX0_boxOf_0 19 rfl rfl)
theorem dX0_boxOf_20 : decode cX0_boxOf 20 = .ok (.if_icmp .ne 5, 3) := dk_160 0 5 (dk_at dksX0_boxOf_0 20 rfl rfl)
theorem dX0_boxOf_23 : decode cX0_boxOf 23 = .ok (.iload_n 3, 1) := dk_29 (dk_at dksX0_boxOf_0 23 rfl rfl)
theorem dX0_boxOf_24 : decode cX0_boxOf 24 = .ok (.ireturn, 1) := dk_172 (dk_at dksX0_boxOf_1 0 rfl rfl)
theorem dX0_boxOf_25 : decode cX0_boxOf 25 = .ok (.iinc 3 1, 3) := dk_132 3 1 (dk_at dksX0_boxOf_1 1 rfl rfl)
theorem dX0_boxOf_28 : decode cX0_boxOf 28 = .ok (.goto (-26), 3) := dk_167 255 230 (dk_at dksX0_boxOf_1 4 rfl rfl)
theorem dX0_boxOf_31 : decode cX0_boxOf 31 = .ok (.iconst (-1), 1) := dk_2 (dk_at dksX0_boxOf_1 7 rfl rfl)
theorem dX0_boxOf_32 : decode cX0_boxOf 32 = .ok (.ireturn, 1) := dk_172 (dk_at dksX0_boxOf_1 8 rfl rfl)
abbrev cX0_asks : ByteArray := prog_1_method_23_code
def yX0_asks : MethodName := ⟨RX0, "asks", "(III)I"⟩
def dkwX0_asks_3 : List UInt8 := [182, 0, 155, 27, 28, 182, 0, 223, 153, 0, 7, 4, 167, 0, 4, 3, 172, 2, 172]
abbrev dktX0_asks_3 : List UInt8 := dkwX0_asks_3 ++ []
def dkwX0_asks_2 : List UInt8 := [42, 42, 182, 0, 155, 27, 28, 182, 0, 216, 172, 42, 42, 182, 0, 155, 27, 28, 182, 0, 220, 172, 42, 42]
abbrev dktX0_asks_2 : List UInt8 := dkwX0_asks_2 ++ dktX0_asks_3
def dkwX0_asks_1 : List UInt8 := [170, 0, 0, 0, 66, 0, 0, 0, 0, 0, 0, 0, 2, 0, 0, 0, 25, 0, 0, 0, 36, 0, 0, 0, 47]
abbrev dktX0_asks_1 : List UInt8 := dkwX0_asks_1 ++ dktX0_asks_2
def dkwX0_asks_0 : List UInt8 := [42, 27, 182, 0, 173, 153, 0, 11, 42, 28, 182, 0, 210, 154, 0, 5, 2, 172, 29]
abbrev dktX0_asks_0 : List UInt8 := dkwX0_asks_0 ++ dktX0_asks_1
theorem dksX0_asks_0 : cX0_asks.data.toList.drop 0 = dktX0_asks_0 := by decide +kernel
theorem dksX0_asks_1 : cX0_asks.data.toList.drop 19 = dktX0_asks_1 := dk_seg dksX0_asks_0 19 rfl rfl
theorem dksX0_asks_2 : cX0_asks.data.toList.drop 44 = dktX0_asks_2 := dk_seg dksX0_asks_1 25 rfl rfl
theorem dksX0_asks_3 : cX0_asks.data.toList.drop 68 = dktX0_asks_3 := dk_seg dksX0_asks_2 24 rfl rfl
theorem dX0_asks_0 : decode cX0_asks 0 = .ok (.aload_n 0, 1) := dk_42 (dk_at dksX0_asks_0 0 rfl rfl)
theorem dX0_asks_1 : decode cX0_asks 1 = .ok (.iload_n 1, 1) := dk_27 (dk_at dksX0_asks_0 1 rfl rfl)
theorem dX0_asks_2 : decode cX0_asks 2 = .ok (.invokevirtual 173, 3) := dk_182 0 173 (dk_at dksX0_asks_0 2 rfl rfl)
theorem dX0_asks_5 : decode cX0_asks 5 = .ok (.ifCond .eq 11, 3) := dk_153 0 11 (dk_at dksX0_asks_0 5 rfl rfl)
theorem dX0_asks_8 : decode cX0_asks 8 = .ok (.aload_n 0, 1) := dk_42 (dk_at dksX0_asks_0 8 rfl rfl)
theorem dX0_asks_9 : decode cX0_asks 9 = .ok (.iload_n 2, 1) := dk_28 (dk_at dksX0_asks_0 9 rfl rfl)
theorem dX0_asks_10 : decode cX0_asks 10 = .ok (.invokevirtual 210, 3) := dk_182 0 210 (dk_at dksX0_asks_0 10 rfl rfl)
theorem dX0_asks_13 : decode cX0_asks 13 = .ok (.ifCond .ne 5, 3) := dk_154 0 5 (dk_at dksX0_asks_0 13 rfl rfl)
theorem dX0_asks_16 : decode cX0_asks 16 = .ok (.iconst (-1), 1) := dk_2 (dk_at dksX0_asks_0 16 rfl rfl)
theorem dX0_asks_17 : decode cX0_asks 17 = .ok (.ireturn, 1) := dk_172 (dk_at dksX0_asks_0 17 rfl rfl)
theorem dX0_asks_18 : decode cX0_asks 18 = .ok (.iload_n 3, 1) := dk_29 (dk_at dksX0_asks_0 18 rfl rfl)
theorem dX0_asks_19 : decode cX0_asks 19 = .ok (.tableswitch 66 0 2 #[25, 36, 47], 25) := by decide +kernel
theorem dX0_asks_44 : decode cX0_asks 44 = .ok (.aload_n 0, 1) := dk_42 (dk_at dksX0_asks_2 0 rfl rfl)
theorem dX0_asks_45 : decode cX0_asks 45 = .ok (.aload_n 0, 1) := dk_42 (dk_at dksX0_asks_2 1 rfl rfl)
theorem dX0_asks_46 : decode cX0_asks 46 = .ok (.invokevirtual 155, 3) := dk_182 0 155 (dk_at dksX0_asks_2 2 rfl rfl)
theorem dX0_asks_49 : decode cX0_asks 49 = .ok (.iload_n 1, 1) := dk_27 (dk_at dksX0_asks_2 5 rfl rfl)
theorem dX0_asks_50 : decode cX0_asks 50 = .ok (.iload_n 2, 1) := dk_28 (dk_at dksX0_asks_2 6 rfl rfl)
theorem dX0_asks_51 : decode cX0_asks 51 = .ok (.invokevirtual 216, 3) := dk_182 0 216 (dk_at dksX0_asks_2 7 rfl rfl)
theorem dX0_asks_54 : decode cX0_asks 54 = .ok (.ireturn, 1) := dk_172 (dk_at dksX0_asks_2 10 rfl rfl)
theorem dX0_asks_55 : decode cX0_asks 55 = .ok (.aload_n 0, 1) := dk_42 (dk_at dksX0_asks_2 11 rfl rfl)
theorem dX0_asks_56 : decode cX0_asks 56 = .ok (.aload_n 0, 1) := dk_42 (dk_at dksX0_asks_2 12 rfl rfl)
theorem dX0_asks_57 : decode cX0_asks 57 = .ok (.invokevirtual 155, 3) := dk_182 0 155 (dk_at dksX0_asks_2 13 rfl rfl)
theorem dX0_asks_60 : decode cX0_asks 60 = .ok (.iload_n 1, 1) := dk_27 (dk_at dksX0_asks_2 16 rfl rfl)
theorem dX0_asks_61 : decode cX0_asks 61 = .ok (.iload_n 2, 1) := dk_28 (dk_at dksX0_asks_2 17 rfl rfl)
theorem dX0_asks_62 : decode cX0_asks 62 = .ok (.invokevirtual 220, 3) := dk_182 0 220 (dk_at dksX0_asks_2 18 rfl rfl)
theorem dX0_asks_65 : decode cX0_asks 65 = .ok (.ireturn, 1) := dk_172 (dk_at dksX0_asks_2 21 rfl rfl)
theorem dX0_asks_66 : decode cX0_asks 66 = .ok (.aload_n 0, 1) := dk_42 (dk_at dksX0_asks_2 22 rfl rfl)
theorem dX0_asks_67 : decode cX0_asks 67 = .ok (.aload_n 0, 1) := dk_42 (dk_at dksX0_asks_2 23 rfl rfl)
theorem dX0_asks_68 : decode cX0_asks 68 = .ok (.invokevirtual 155, 3) := dk_182 0 155 (dk_at dksX0_asks_3 0 rfl rfl)
theorem dX0_asks_71 : decode cX0_asks 71 = .ok (.iload_n 1, 1) := dk_27 (dk_at dksX0_asks_3 3 rfl rfl)
theorem dX0_asks_72 : decode cX0_asks 72 = .ok (.iload_n 2, 1) := dk_28 (dk_at dksX0_asks_3 4 rfl rfl)
theorem dX0_asks_73 : decode cX0_asks 73 = .ok (.invokevirtual 223, 3) := dk_182 0 223 (dk_at dksX0_asks_3 5 rfl rfl)
theorem dX0_asks_76 : decode cX0_asks 76 = .ok (.ifCond .eq 7, 3) := dk_153 0 7 (dk_at dksX0_asks_3 8 rfl rfl)
theorem dX0_asks_79 : decode cX0_asks 79 = .ok (.iconst 1, 1) := dk_4 (dk_at dksX0_asks_3 11 rfl rfl)
theorem dX0_asks_80 : decode cX0_asks 80 = .ok (.goto 4, 3) := dk_167 0 4 (dk_at dksX0_asks_3 12 rfl rfl)
theorem dX0_asks_83 : decode cX0_asks 83 = .ok (.iconst 0, 1) := dk_3 (dk_at dksX0_asks_3 15 rfl rfl)
theorem dX0_asks_84 : decode cX0_asks 84 = .ok (.ireturn, 1) := dk_172 (dk_at dksX0_asks_3 16 rfl rfl)
theorem dX0_asks_85 : decode cX0_asks 85 = .ok (.iconst (-1), 1) := dk_2 (dk_at dksX0_asks_3 17 rfl rfl)
theorem dX0_asks_86 : decode cX0_asks 86 = .ok (.ireturn, 1) := dk_172 (dk_at dksX0_asks_3 18 rfl rfl)
abbrev cX0_likes : ByteArray := prog_1_method_40_code
def yX0_likes : MethodName := ⟨RX0, "likes", "(LDowryBoxes$Table;II)I"⟩
def dkwX0_likes_1 : List UInt8 := [184, 1, 67, 172]
abbrev dktX0_likes_1 : List UInt8 := dkwX0_likes_1 ++ []
def dkwX0_likes_0 : List UInt8 := [42, 42, 180, 0, 39, 180, 0, 184, 4, 43, 28, 29, 182, 1, 63, 16, 99, 42, 43, 28, 29, 182, 0, 216]
abbrev dktX0_likes_0 : List UInt8 := dkwX0_likes_0 ++ dktX0_likes_1
theorem dksX0_likes_0 : cX0_likes.data.toList.drop 0 = dktX0_likes_0 := by decide +kernel
theorem dksX0_likes_1 : cX0_likes.data.toList.drop 24 = dktX0_likes_1 := dk_seg dksX0_likes_0 24 rfl rfl
theorem dX0_likes_0 : decode cX0_likes 0 = .ok (.aload_n 0, 1) := dk_42 (dk_at dksX0_likes_0 0 rfl rfl)
theorem dX0_likes_1 : decode cX0_likes 1 = .ok (.aload_n 0, 1) := dk_42 (dk_at dksX0_likes_0 1 rfl rfl)
theorem dX0_likes_2 : decode cX0_likes 2 = .ok (.getfield 39, 3) := dk_180 0 39 (dk_at dksX0_likes_0 2 rfl rfl)
theorem dX0_likes_5 : decode cX0_likes 5 = .ok (.getfield 184, 3) := dk_180 0 184 (dk_at dksX0_likes_0 5 rfl rfl)
theorem dX0_likes_8 : decode cX0_likes 8 = .ok (.iconst 1, 1) := dk_4 (dk_at dksX0_likes_0 8 rfl rfl)
theorem dX0_likes_9 : decode cX0_likes 9 = .ok (.aload_n 1, 1) := dk_43 (dk_at dksX0_likes_0 9 rfl rfl)
theorem dX0_likes_10 : decode cX0_likes 10 = .ok (.iload_n 2, 1) := dk_28 (dk_at dksX0_likes_0 10 rfl rfl)
theorem dX0_likes_11 : decode cX0_likes 11 = .ok (.iload_n 3, 1) := dk_29 (dk_at dksX0_likes_0 11 rfl rfl)
theorem dX0_likes_12 : decode cX0_likes 12 = .ok (.invokevirtual 319, 3) := dk_182 1 63 (dk_at dksX0_likes_0 12 rfl rfl)
theorem dX0_likes_15 : decode cX0_likes 15 = .ok (.bipush 99, 2) := dk_16 99 (dk_at dksX0_likes_0 15 rfl rfl)
theorem dX0_likes_17 : decode cX0_likes 17 = .ok (.aload_n 0, 1) := dk_42 (dk_at dksX0_likes_0 17 rfl rfl)
theorem dX0_likes_18 : decode cX0_likes 18 = .ok (.aload_n 1, 1) := dk_43 (dk_at dksX0_likes_0 18 rfl rfl)
theorem dX0_likes_19 : decode cX0_likes 19 = .ok (.iload_n 2, 1) := dk_28 (dk_at dksX0_likes_0 19 rfl rfl)
theorem dX0_likes_20 : decode cX0_likes 20 = .ok (.iload_n 3, 1) := dk_29 (dk_at dksX0_likes_0 20 rfl rfl)
theorem dX0_likes_21 : decode cX0_likes 21 = .ok (.invokevirtual 216, 3) := dk_182 0 216 (dk_at dksX0_likes_0 21 rfl rfl)
theorem dX0_likes_24 : decode cX0_likes 24 = .ok (.invokestatic 323, 3) := dk_184 1 67 (dk_at dksX0_likes_1 0 rfl rfl)
theorem dX0_likes_27 : decode cX0_likes 27 = .ok (.ireturn, 1) := dk_172 (dk_at dksX0_likes_1 3 rfl rfl)
abbrev cX0_isBarred : ByteArray := prog_1_method_42_code
def yX0_isBarred : MethodName := ⟨RX0, "isBarred", "(LDowryBoxes$Table;II)Z"⟩
def dkwX0_isBarred_1 : List UInt8 := [167, 0, 4, 3, 172]
abbrev dktX0_isBarred_1 : List UInt8 := dkwX0_isBarred_1 ++ []
def dkwX0_isBarred_0 : List UInt8 := [42, 42, 180, 0, 39, 180, 0, 184, 6, 43, 28, 29, 182, 1, 63, 20, 1, 41, 148, 153, 0, 7, 4]
abbrev dktX0_isBarred_0 : List UInt8 := dkwX0_isBarred_0 ++ dktX0_isBarred_1
theorem dksX0_isBarred_0 : cX0_isBarred.data.toList.drop 0 = dktX0_isBarred_0 := by decide +kernel
theorem dksX0_isBarred_1 : cX0_isBarred.data.toList.drop 23 = dktX0_isBarred_1 := dk_seg dksX0_isBarred_0 23 rfl rfl
theorem dX0_isBarred_0 : decode cX0_isBarred 0 = .ok (.aload_n 0, 1) := dk_42 (dk_at dksX0_isBarred_0 0 rfl rfl)
theorem dX0_isBarred_1 : decode cX0_isBarred 1 = .ok (.aload_n 0, 1) := dk_42 (dk_at dksX0_isBarred_0 1 rfl rfl)
theorem dX0_isBarred_2 : decode cX0_isBarred 2 = .ok (.getfield 39, 3) := dk_180 0 39 (dk_at dksX0_isBarred_0 2 rfl rfl)
theorem dX0_isBarred_5 : decode cX0_isBarred 5 = .ok (.getfield 184, 3) := dk_180 0 184 (dk_at dksX0_isBarred_0 5 rfl rfl)
theorem dX0_isBarred_8 : decode cX0_isBarred 8 = .ok (.iconst 3, 1) := dk_6 (dk_at dksX0_isBarred_0 8 rfl rfl)
theorem dX0_isBarred_9 : decode cX0_isBarred 9 = .ok (.aload_n 1, 1) := dk_43 (dk_at dksX0_isBarred_0 9 rfl rfl)
theorem dX0_isBarred_10 : decode cX0_isBarred 10 = .ok (.iload_n 2, 1) := dk_28 (dk_at dksX0_isBarred_0 10 rfl rfl)
theorem dX0_isBarred_11 : decode cX0_isBarred 11 = .ok (.iload_n 3, 1) := dk_29 (dk_at dksX0_isBarred_0 11 rfl rfl)
theorem dX0_isBarred_12 : decode cX0_isBarred 12 = .ok (.invokevirtual 319, 3) := dk_182 1 63 (dk_at dksX0_isBarred_0 12 rfl rfl)
theorem dX0_isBarred_15 : decode cX0_isBarred 15 = .ok (.ldc2_w 297, 3) := dk_20 1 41 (dk_at dksX0_isBarred_0 15 rfl rfl)
theorem dX0_isBarred_18 : decode cX0_isBarred 18 = .ok (.lcmp, 1) := dk_148 (dk_at dksX0_isBarred_0 18 rfl rfl)
theorem dX0_isBarred_19 : decode cX0_isBarred 19 = .ok (.ifCond .eq 7, 3) := dk_153 0 7 (dk_at dksX0_isBarred_0 19 rfl rfl)
theorem dX0_isBarred_22 : decode cX0_isBarred 22 = .ok (.iconst 1, 1) := dk_4 (dk_at dksX0_isBarred_0 22 rfl rfl)
theorem dX0_isBarred_23 : decode cX0_isBarred 23 = .ok (.goto 4, 3) := dk_167 0 4 (dk_at dksX0_isBarred_1 0 rfl rfl)
theorem dX0_isBarred_26 : decode cX0_isBarred 26 = .ok (.iconst 0, 1) := dk_3 (dk_at dksX0_isBarred_1 3 rfl rfl)
theorem dX0_isBarred_27 : decode cX0_isBarred 27 = .ok (.ireturn, 1) := dk_172 (dk_at dksX0_isBarred_1 4 rfl rfl)
abbrev cX0_terms : ByteArray := prog_1_method_24_code
def yX0_terms : MethodName := ⟨RX0, "terms", "(II)I"⟩
def dkwX0_terms_5 : List UInt8 := [180, 0, 39, 28, 181, 0, 233, 42, 29, 182, 0, 152, 172]
abbrev dktX0_terms_5 : List UInt8 := dkwX0_terms_5 ++ []
def dkwX0_terms_4 : List UInt8 := [181, 0, 227, 167, 0, 27, 27, 4, 160, 0, 14, 42, 180, 0, 39, 28, 181, 0, 230, 167, 0, 11, 42]
abbrev dktX0_terms_4 : List UInt8 := dkwX0_terms_4 ++ dktX0_terms_5
def dkwX0_terms_3 : List UInt8 := [180, 0, 230, 167, 0, 10, 42, 180, 0, 39, 180, 0, 233, 62, 27, 154, 0, 14, 42, 182, 0, 155, 28]
abbrev dktX0_terms_3 : List UInt8 := dkwX0_terms_3 ++ dktX0_terms_4
def dkwX0_terms_2 : List UInt8 := [154, 0, 13, 42, 182, 0, 155, 180, 0, 227, 167, 0, 25, 27, 4, 160, 0, 13, 42, 180, 0, 39]
abbrev dktX0_terms_2 : List UInt8 := dkwX0_terms_2 ++ dktX0_terms_3
def dkwX0_terms_1 : List UInt8 := [160, 0, 8, 16, 10, 167, 0, 5, 16, 9, 184, 0, 26, 154, 0, 9, 42, 2, 182, 0, 145, 172, 27]
abbrev dktX0_terms_1 : List UInt8 := dkwX0_terms_1 ++ dktX0_terms_2
def dkwX0_terms_0 : List UInt8 := [27, 3, 5, 184, 0, 26, 153, 0, 33, 28, 3, 27, 154, 0, 9, 17, 3, 231, 167, 0, 15, 27, 4]
abbrev dktX0_terms_0 : List UInt8 := dkwX0_terms_0 ++ dktX0_terms_1
theorem dksX0_terms_0 : cX0_terms.data.toList.drop 0 = dktX0_terms_0 := by decide +kernel
theorem dksX0_terms_1 : cX0_terms.data.toList.drop 23 = dktX0_terms_1 := dk_seg dksX0_terms_0 23 rfl rfl
theorem dksX0_terms_2 : cX0_terms.data.toList.drop 46 = dktX0_terms_2 := dk_seg dksX0_terms_1 23 rfl rfl
theorem dksX0_terms_3 : cX0_terms.data.toList.drop 68 = dktX0_terms_3 := dk_seg dksX0_terms_2 22 rfl rfl
theorem dksX0_terms_4 : cX0_terms.data.toList.drop 91 = dktX0_terms_4 := dk_seg dksX0_terms_3 23 rfl rfl
theorem dksX0_terms_5 : cX0_terms.data.toList.drop 114 = dktX0_terms_5 := dk_seg dksX0_terms_4 23 rfl rfl
theorem dX0_terms_0 : decode cX0_terms 0 = .ok (.iload_n 1, 1) := dk_27 (dk_at dksX0_terms_0 0 rfl rfl)
theorem dX0_terms_1 : decode cX0_terms 1 = .ok (.iconst 0, 1) := dk_3 (dk_at dksX0_terms_0 1 rfl rfl)
theorem dX0_terms_2 : decode cX0_terms 2 = .ok (.iconst 2, 1) := dk_5 (dk_at dksX0_terms_0 2 rfl rfl)
theorem dX0_terms_3 : decode cX0_terms 3 = .ok (.invokestatic 26, 3) := dk_184 0 26 (dk_at dksX0_terms_0 3 rfl rfl)
theorem dX0_terms_6 : decode cX0_terms 6 = .ok (.ifCond .eq 33, 3) := dk_153 0 33 (dk_at dksX0_terms_0 6 rfl rfl)
theorem dX0_terms_9 : decode cX0_terms 9 = .ok (.iload_n 2, 1) := dk_28 (dk_at dksX0_terms_0 9 rfl rfl)
theorem dX0_terms_10 : decode cX0_terms 10 = .ok (.iconst 0, 1) := dk_3 (dk_at dksX0_terms_0 10 rfl rfl)
theorem dX0_terms_11 : decode cX0_terms 11 = .ok (.iload_n 1, 1) := dk_27 (dk_at dksX0_terms_0 11 rfl rfl)
theorem dX0_terms_12 : decode cX0_terms 12 = .ok (.ifCond .ne 9, 3) := dk_154 0 9 (dk_at dksX0_terms_0 12 rfl rfl)
theorem dX0_terms_15 : decode cX0_terms 15 = .ok (.sipush 999, 3) := dk_17 3 231 (dk_at dksX0_terms_0 15 rfl rfl)
theorem dX0_terms_18 : decode cX0_terms 18 = .ok (.goto 15, 3) := dk_167 0 15 (dk_at dksX0_terms_0 18 rfl rfl)
theorem dX0_terms_21 : decode cX0_terms 21 = .ok (.iload_n 1, 1) := dk_27 (dk_at dksX0_terms_0 21 rfl rfl)
theorem dX0_terms_22 : decode cX0_terms 22 = .ok (.iconst 1, 1) := dk_4 (dk_at dksX0_terms_0 22 rfl rfl)
theorem dX0_terms_23 : decode cX0_terms 23 = .ok (.if_icmp .ne 8, 3) := dk_160 0 8 (dk_at dksX0_terms_1 0 rfl rfl)
theorem dX0_terms_26 : decode cX0_terms 26 = .ok (.bipush 10, 2) := dk_16 10 (dk_at dksX0_terms_1 3 rfl rfl)
theorem dX0_terms_28 : decode cX0_terms 28 = .ok (.goto 5, 3) := dk_167 0 5 (dk_at dksX0_terms_1 5 rfl rfl)
theorem dX0_terms_31 : decode cX0_terms 31 = .ok (.bipush 9, 2) := dk_16 9 (dk_at dksX0_terms_1 8 rfl rfl)
theorem dX0_terms_33 : decode cX0_terms 33 = .ok (.invokestatic 26, 3) := dk_184 0 26 (dk_at dksX0_terms_1 10 rfl rfl)
theorem dX0_terms_36 : decode cX0_terms 36 = .ok (.ifCond .ne 9, 3) := dk_154 0 9 (dk_at dksX0_terms_1 13 rfl rfl)
theorem dX0_terms_39 : decode cX0_terms 39 = .ok (.aload_n 0, 1) := dk_42 (dk_at dksX0_terms_1 16 rfl rfl)
theorem dX0_terms_40 : decode cX0_terms 40 = .ok (.iconst (-1), 1) := dk_2 (dk_at dksX0_terms_1 17 rfl rfl)
theorem dX0_terms_41 : decode cX0_terms 41 = .ok (.invokevirtual 145, 3) := dk_182 0 145 (dk_at dksX0_terms_1 18 rfl rfl)
theorem dX0_terms_44 : decode cX0_terms 44 = .ok (.ireturn, 1) := dk_172 (dk_at dksX0_terms_1 21 rfl rfl)
theorem dX0_terms_45 : decode cX0_terms 45 = .ok (.iload_n 1, 1) := dk_27 (dk_at dksX0_terms_1 22 rfl rfl)
theorem dX0_terms_46 : decode cX0_terms 46 = .ok (.ifCond .ne 13, 3) := dk_154 0 13 (dk_at dksX0_terms_2 0 rfl rfl)
theorem dX0_terms_49 : decode cX0_terms 49 = .ok (.aload_n 0, 1) := dk_42 (dk_at dksX0_terms_2 3 rfl rfl)
theorem dX0_terms_50 : decode cX0_terms 50 = .ok (.invokevirtual 155, 3) := dk_182 0 155 (dk_at dksX0_terms_2 4 rfl rfl)
theorem dX0_terms_53 : decode cX0_terms 53 = .ok (.getfield 227, 3) := dk_180 0 227 (dk_at dksX0_terms_2 7 rfl rfl)
theorem dX0_terms_56 : decode cX0_terms 56 = .ok (.goto 25, 3) := dk_167 0 25 (dk_at dksX0_terms_2 10 rfl rfl)
theorem dX0_terms_59 : decode cX0_terms 59 = .ok (.iload_n 1, 1) := dk_27 (dk_at dksX0_terms_2 13 rfl rfl)
theorem dX0_terms_60 : decode cX0_terms 60 = .ok (.iconst 1, 1) := dk_4 (dk_at dksX0_terms_2 14 rfl rfl)
theorem dX0_terms_61 : decode cX0_terms 61 = .ok (.if_icmp .ne 13, 3) := dk_160 0 13 (dk_at dksX0_terms_2 15 rfl rfl)
theorem dX0_terms_64 : decode cX0_terms 64 = .ok (.aload_n 0, 1) := dk_42 (dk_at dksX0_terms_2 18 rfl rfl)
theorem dX0_terms_65 : decode cX0_terms 65 = .ok (.getfield 39, 3) := dk_180 0 39 (dk_at dksX0_terms_2 19 rfl rfl)
theorem dX0_terms_68 : decode cX0_terms 68 = .ok (.getfield 230, 3) := dk_180 0 230 (dk_at dksX0_terms_3 0 rfl rfl)
theorem dX0_terms_71 : decode cX0_terms 71 = .ok (.goto 10, 3) := dk_167 0 10 (dk_at dksX0_terms_3 3 rfl rfl)
theorem dX0_terms_74 : decode cX0_terms 74 = .ok (.aload_n 0, 1) := dk_42 (dk_at dksX0_terms_3 6 rfl rfl)
theorem dX0_terms_75 : decode cX0_terms 75 = .ok (.getfield 39, 3) := dk_180 0 39 (dk_at dksX0_terms_3 7 rfl rfl)
theorem dX0_terms_78 : decode cX0_terms 78 = .ok (.getfield 233, 3) := dk_180 0 233 (dk_at dksX0_terms_3 10 rfl rfl)
theorem dX0_terms_81 : decode cX0_terms 81 = .ok (.istore_n 3, 1) := dk_62 (dk_at dksX0_terms_3 13 rfl rfl)
theorem dX0_terms_82 : decode cX0_terms 82 = .ok (.iload_n 1, 1) := dk_27 (dk_at dksX0_terms_3 14 rfl rfl)
theorem dX0_terms_83 : decode cX0_terms 83 = .ok (.ifCond .ne 14, 3) := dk_154 0 14 (dk_at dksX0_terms_3 15 rfl rfl)
theorem dX0_terms_86 : decode cX0_terms 86 = .ok (.aload_n 0, 1) := dk_42 (dk_at dksX0_terms_3 18 rfl rfl)
theorem dX0_terms_87 : decode cX0_terms 87 = .ok (.invokevirtual 155, 3) := dk_182 0 155 (dk_at dksX0_terms_3 19 rfl rfl)
theorem dX0_terms_90 : decode cX0_terms 90 = .ok (.iload_n 2, 1) := dk_28 (dk_at dksX0_terms_3 22 rfl rfl)
theorem dX0_terms_91 : decode cX0_terms 91 = .ok (.putfield 227, 3) := dk_181 0 227 (dk_at dksX0_terms_4 0 rfl rfl)
theorem dX0_terms_94 : decode cX0_terms 94 = .ok (.goto 27, 3) := dk_167 0 27 (dk_at dksX0_terms_4 3 rfl rfl)
theorem dX0_terms_97 : decode cX0_terms 97 = .ok (.iload_n 1, 1) := dk_27 (dk_at dksX0_terms_4 6 rfl rfl)
theorem dX0_terms_98 : decode cX0_terms 98 = .ok (.iconst 1, 1) := dk_4 (dk_at dksX0_terms_4 7 rfl rfl)
theorem dX0_terms_99 : decode cX0_terms 99 = .ok (.if_icmp .ne 14, 3) := dk_160 0 14 (dk_at dksX0_terms_4 8 rfl rfl)
theorem dX0_terms_102 : decode cX0_terms 102 = .ok (.aload_n 0, 1) := dk_42 (dk_at dksX0_terms_4 11 rfl rfl)
theorem dX0_terms_103 : decode cX0_terms 103 = .ok (.getfield 39, 3) := dk_180 0 39 (dk_at dksX0_terms_4 12 rfl rfl)
theorem dX0_terms_106 : decode cX0_terms 106 = .ok (.iload_n 2, 1) := dk_28 (dk_at dksX0_terms_4 15 rfl rfl)
theorem dX0_terms_107 : decode cX0_terms 107 = .ok (.putfield 230, 3) := dk_181 0 230 (dk_at dksX0_terms_4 16 rfl rfl)
theorem dX0_terms_110 : decode cX0_terms 110 = .ok (.goto 11, 3) := dk_167 0 11 (dk_at dksX0_terms_4 19 rfl rfl)
theorem dX0_terms_113 : decode cX0_terms 113 = .ok (.aload_n 0, 1) := dk_42 (dk_at dksX0_terms_4 22 rfl rfl)
theorem dX0_terms_114 : decode cX0_terms 114 = .ok (.getfield 39, 3) := dk_180 0 39 (dk_at dksX0_terms_5 0 rfl rfl)
theorem dX0_terms_117 : decode cX0_terms 117 = .ok (.iload_n 2, 1) := dk_28 (dk_at dksX0_terms_5 3 rfl rfl)
theorem dX0_terms_118 : decode cX0_terms 118 = .ok (.putfield 233, 3) := dk_181 0 233 (dk_at dksX0_terms_5 4 rfl rfl)
theorem dX0_terms_121 : decode cX0_terms 121 = .ok (.aload_n 0, 1) := dk_42 (dk_at dksX0_terms_5 7 rfl rfl)
theorem dX0_terms_122 : decode cX0_terms 122 = .ok (.iload_n 3, 1) := dk_29 (dk_at dksX0_terms_5 8 rfl rfl)
theorem dX0_terms_123 : decode cX0_terms 123 = .ok (.invokevirtual 152, 3) := dk_182 0 152 (dk_at dksX0_terms_5 9 rfl rfl)
theorem dX0_terms_126 : decode cX0_terms 126 = .ok (.ireturn, 1) := dk_172 (dk_at dksX0_terms_5 12 rfl rfl)
abbrev cX0_feed : ByteArray := prog_1_method_25_code
def yX0_feed : MethodName := ⟨RX0, "feed", "(IIIII)I"⟩
def dkwX0_feed_2 : List UInt8 := [172]
abbrev dktX0_feed_2 : List UInt8 := dkwX0_feed_2 ++ []
def dkwX0_feed_1 : List UInt8 := [182, 0, 239, 42, 29, 182, 0, 239, 42, 21, 4, 182, 0, 239, 42, 21, 5, 182, 0, 239, 42, 180, 0, 236]
abbrev dktX0_feed_1 : List UInt8 := dkwX0_feed_1 ++ dktX0_feed_2
def dkwX0_feed_0 : List UInt8 := [42, 180, 0, 236, 16, 20, 96, 17, 1, 144, 164, 0, 5, 2, 172, 42, 27, 182, 0, 239, 42, 28]
abbrev dktX0_feed_0 : List UInt8 := dkwX0_feed_0 ++ dktX0_feed_1
theorem dksX0_feed_0 : cX0_feed.data.toList.drop 0 = dktX0_feed_0 := by decide +kernel
theorem dksX0_feed_1 : cX0_feed.data.toList.drop 22 = dktX0_feed_1 := dk_seg dksX0_feed_0 22 rfl rfl
theorem dksX0_feed_2 : cX0_feed.data.toList.drop 46 = dktX0_feed_2 := dk_seg dksX0_feed_1 24 rfl rfl
theorem dX0_feed_0 : decode cX0_feed 0 = .ok (.aload_n 0, 1) := dk_42 (dk_at dksX0_feed_0 0 rfl rfl)
theorem dX0_feed_1 : decode cX0_feed 1 = .ok (.getfield 236, 3) := dk_180 0 236 (dk_at dksX0_feed_0 1 rfl rfl)
theorem dX0_feed_4 : decode cX0_feed 4 = .ok (.bipush 20, 2) := dk_16 20 (dk_at dksX0_feed_0 4 rfl rfl)
theorem dX0_feed_6 : decode cX0_feed 6 = .ok (.iadd, 1) := dk_96 (dk_at dksX0_feed_0 6 rfl rfl)
theorem dX0_feed_7 : decode cX0_feed 7 = .ok (.sipush 400, 3) := dk_17 1 144 (dk_at dksX0_feed_0 7 rfl rfl)
theorem dX0_feed_10 : decode cX0_feed 10 = .ok (.if_icmp .le 5, 3) := dk_164 0 5 (dk_at dksX0_feed_0 10 rfl rfl)
theorem dX0_feed_13 : decode cX0_feed 13 = .ok (.iconst (-1), 1) := dk_2 (dk_at dksX0_feed_0 13 rfl rfl)
theorem dX0_feed_14 : decode cX0_feed 14 = .ok (.ireturn, 1) := dk_172 (dk_at dksX0_feed_0 14 rfl rfl)
theorem dX0_feed_15 : decode cX0_feed 15 = .ok (.aload_n 0, 1) := dk_42 (dk_at dksX0_feed_0 15 rfl rfl)
theorem dX0_feed_16 : decode cX0_feed 16 = .ok (.iload_n 1, 1) := dk_27 (dk_at dksX0_feed_0 16 rfl rfl)
theorem dX0_feed_17 : decode cX0_feed 17 = .ok (.invokevirtual 239, 3) := dk_182 0 239 (dk_at dksX0_feed_0 17 rfl rfl)
theorem dX0_feed_20 : decode cX0_feed 20 = .ok (.aload_n 0, 1) := dk_42 (dk_at dksX0_feed_0 20 rfl rfl)
theorem dX0_feed_21 : decode cX0_feed 21 = .ok (.iload_n 2, 1) := dk_28 (dk_at dksX0_feed_0 21 rfl rfl)
theorem dX0_feed_22 : decode cX0_feed 22 = .ok (.invokevirtual 239, 3) := dk_182 0 239 (dk_at dksX0_feed_1 0 rfl rfl)
theorem dX0_feed_25 : decode cX0_feed 25 = .ok (.aload_n 0, 1) := dk_42 (dk_at dksX0_feed_1 3 rfl rfl)
theorem dX0_feed_26 : decode cX0_feed 26 = .ok (.iload_n 3, 1) := dk_29 (dk_at dksX0_feed_1 4 rfl rfl)
theorem dX0_feed_27 : decode cX0_feed 27 = .ok (.invokevirtual 239, 3) := dk_182 0 239 (dk_at dksX0_feed_1 5 rfl rfl)
theorem dX0_feed_30 : decode cX0_feed 30 = .ok (.aload_n 0, 1) := dk_42 (dk_at dksX0_feed_1 8 rfl rfl)
theorem dX0_feed_31 : decode cX0_feed 31 = .ok (.iload 4, 2) := dk_21 4 (dk_at dksX0_feed_1 9 rfl rfl)
theorem dX0_feed_33 : decode cX0_feed 33 = .ok (.invokevirtual 239, 3) := dk_182 0 239 (dk_at dksX0_feed_1 11 rfl rfl)
theorem dX0_feed_36 : decode cX0_feed 36 = .ok (.aload_n 0, 1) := dk_42 (dk_at dksX0_feed_1 14 rfl rfl)
theorem dX0_feed_37 : decode cX0_feed 37 = .ok (.iload 5, 2) := dk_21 5 (dk_at dksX0_feed_1 15 rfl rfl)
theorem dX0_feed_39 : decode cX0_feed 39 = .ok (.invokevirtual 239, 3) := dk_182 0 239 (dk_at dksX0_feed_1 17 rfl rfl)
theorem dX0_feed_42 : decode cX0_feed 42 = .ok (.aload_n 0, 1) := dk_42 (dk_at dksX0_feed_1 20 rfl rfl)
theorem dX0_feed_43 : decode cX0_feed 43 = .ok (.getfield 236, 3) := dk_180 0 236 (dk_at dksX0_feed_1 21 rfl rfl)
theorem dX0_feed_46 : decode cX0_feed 46 = .ok (.ireturn, 1) := dk_172 (dk_at dksX0_feed_2 0 rfl rfl)
abbrev cX0_four : ByteArray := prog_1_method_26_code
def yX0_four : MethodName := ⟨RX0, "four", "(I)V"⟩
def dkwX0_four_1 : List UInt8 := [180, 0, 236, 4, 96, 181, 0, 236, 132, 2, 248, 167, 255, 226, 177]
abbrev dktX0_four_1 : List UInt8 := dkwX0_four_1 ++ []
def dkwX0_four_0 : List UInt8 := [16, 24, 61, 28, 155, 0, 32, 42, 180, 0, 70, 42, 180, 0, 236, 27, 28, 122, 145, 84, 42, 89]
abbrev dktX0_four_0 : List UInt8 := dkwX0_four_0 ++ dktX0_four_1
theorem dksX0_four_0 : cX0_four.data.toList.drop 0 = dktX0_four_0 := by decide +kernel
theorem dksX0_four_1 : cX0_four.data.toList.drop 22 = dktX0_four_1 := dk_seg dksX0_four_0 22 rfl rfl
theorem dX0_four_0 : decode cX0_four 0 = .ok (.bipush 24, 2) := dk_16 24 (dk_at dksX0_four_0 0 rfl rfl)
theorem dX0_four_2 : decode cX0_four 2 = .ok (.istore_n 2, 1) := dk_61 (dk_at dksX0_four_0 2 rfl rfl)
theorem dX0_four_3 : decode cX0_four 3 = .ok (.iload_n 2, 1) := dk_28 (dk_at dksX0_four_0 3 rfl rfl)
theorem dX0_four_4 : decode cX0_four 4 = .ok (.ifCond .lt 32, 3) := dk_155 0 32 (dk_at dksX0_four_0 4 rfl rfl)
theorem dX0_four_7 : decode cX0_four 7 = .ok (.aload_n 0, 1) := dk_42 (dk_at dksX0_four_0 7 rfl rfl)
theorem dX0_four_8 : decode cX0_four 8 = .ok (.getfield 70, 3) := dk_180 0 70 (dk_at dksX0_four_0 8 rfl rfl)
theorem dX0_four_11 : decode cX0_four 11 = .ok (.aload_n 0, 1) := dk_42 (dk_at dksX0_four_0 11 rfl rfl)
theorem dX0_four_12 : decode cX0_four 12 = .ok (.getfield 236, 3) := dk_180 0 236 (dk_at dksX0_four_0 12 rfl rfl)
theorem dX0_four_15 : decode cX0_four 15 = .ok (.iload_n 1, 1) := dk_27 (dk_at dksX0_four_0 15 rfl rfl)
theorem dX0_four_16 : decode cX0_four 16 = .ok (.iload_n 2, 1) := dk_28 (dk_at dksX0_four_0 16 rfl rfl)
theorem dX0_four_17 : decode cX0_four 17 = .ok (.ishr, 1) := dk_122 (dk_at dksX0_four_0 17 rfl rfl)
theorem dX0_four_18 : decode cX0_four 18 = .ok (.i2b, 1) := dk_145 (dk_at dksX0_four_0 18 rfl rfl)
theorem dX0_four_19 : decode cX0_four 19 = .ok (.bastore, 1) := dk_84 (dk_at dksX0_four_0 19 rfl rfl)
theorem dX0_four_20 : decode cX0_four 20 = .ok (.aload_n 0, 1) := dk_42 (dk_at dksX0_four_0 20 rfl rfl)
theorem dX0_four_21 : decode cX0_four 21 = .ok (.dup, 1) := dk_89 (dk_at dksX0_four_0 21 rfl rfl)
theorem dX0_four_22 : decode cX0_four 22 = .ok (.getfield 236, 3) := dk_180 0 236 (dk_at dksX0_four_1 0 rfl rfl)
theorem dX0_four_25 : decode cX0_four 25 = .ok (.iconst 1, 1) := dk_4 (dk_at dksX0_four_1 3 rfl rfl)
theorem dX0_four_26 : decode cX0_four 26 = .ok (.iadd, 1) := dk_96 (dk_at dksX0_four_1 4 rfl rfl)
theorem dX0_four_27 : decode cX0_four 27 = .ok (.putfield 236, 3) := dk_181 0 236 (dk_at dksX0_four_1 5 rfl rfl)
theorem dX0_four_30 : decode cX0_four 30 = .ok (.iinc 2 (-8), 3) := dk_132 2 248 (dk_at dksX0_four_1 8 rfl rfl)
theorem dX0_four_33 : decode cX0_four 33 = .ok (.goto (-30), 3) := dk_167 255 226 (dk_at dksX0_four_1 11 rfl rfl)
theorem dX0_four_36 : decode cX0_four 36 = .ok (.return_, 1) := dk_177 (dk_at dksX0_four_1 14 rfl rfl)
abbrev cX0_end : ByteArray := prog_1_method_27_code
def yX0_end : MethodName := ⟨RX0, "end", "(I)I"⟩
def dkwX0_end_0 : List UInt8 := [27, 155, 0, 11, 27, 42, 180, 0, 236, 164, 0, 5, 2, 172, 42, 27, 181, 0, 236, 27, 172]
abbrev dktX0_end_0 : List UInt8 := dkwX0_end_0 ++ []
theorem dksX0_end_0 : cX0_end.data.toList.drop 0 = dktX0_end_0 := by decide +kernel
theorem dX0_end_0 : decode cX0_end 0 = .ok (.iload_n 1, 1) := dk_27 (dk_at dksX0_end_0 0 rfl rfl)
theorem dX0_end_1 : decode cX0_end 1 = .ok (.ifCond .lt 11, 3) := dk_155 0 11 (dk_at dksX0_end_0 1 rfl rfl)
theorem dX0_end_4 : decode cX0_end 4 = .ok (.iload_n 1, 1) := dk_27 (dk_at dksX0_end_0 4 rfl rfl)
theorem dX0_end_5 : decode cX0_end 5 = .ok (.aload_n 0, 1) := dk_42 (dk_at dksX0_end_0 5 rfl rfl)
theorem dX0_end_6 : decode cX0_end 6 = .ok (.getfield 236, 3) := dk_180 0 236 (dk_at dksX0_end_0 6 rfl rfl)
theorem dX0_end_9 : decode cX0_end 9 = .ok (.if_icmp .le 5, 3) := dk_164 0 5 (dk_at dksX0_end_0 9 rfl rfl)
theorem dX0_end_12 : decode cX0_end 12 = .ok (.iconst (-1), 1) := dk_2 (dk_at dksX0_end_0 12 rfl rfl)
theorem dX0_end_13 : decode cX0_end 13 = .ok (.ireturn, 1) := dk_172 (dk_at dksX0_end_0 13 rfl rfl)
theorem dX0_end_14 : decode cX0_end 14 = .ok (.aload_n 0, 1) := dk_42 (dk_at dksX0_end_0 14 rfl rfl)
theorem dX0_end_15 : decode cX0_end 15 = .ok (.iload_n 1, 1) := dk_27 (dk_at dksX0_end_0 15 rfl rfl)
theorem dX0_end_16 : decode cX0_end 16 = .ok (.putfield 236, 3) := dk_181 0 236 (dk_at dksX0_end_0 16 rfl rfl)
theorem dX0_end_19 : decode cX0_end 19 = .ok (.iload_n 1, 1) := dk_27 (dk_at dksX0_end_0 19 rfl rfl)
theorem dX0_end_20 : decode cX0_end 20 = .ok (.ireturn, 1) := dk_172 (dk_at dksX0_end_0 20 rfl rfl)
abbrev cX0_row : ByteArray := prog_1_method_28_code
def yX0_row : MethodName := ⟨RX0, "row", "()I"⟩
def dkwX0_row_7 : List UInt8 := [182, 0, 152, 172]
abbrev dktX0_row_7 : List UInt8 := dkwX0_row_7 ++ []
def dkwX0_row_6 : List UInt8 := [21, 4, 153, 0, 7, 3, 167, 0, 4, 4, 96, 181, 0, 243, 132, 3, 3, 167, 255, 137, 42, 28]
abbrev dktX0_row_6 : List UInt8 := dkwX0_row_6 ++ dktX0_row_7
def dkwX0_row_5 : List UInt8 := [17, 0, 255, 126, 79, 28, 21, 4, 153, 0, 7, 4, 167, 0, 4, 3, 96, 61, 42, 89, 180, 0, 243]
abbrev dktX0_row_5 : List UInt8 := dkwX0_row_5 ++ dktX0_row_6
def dkwX0_row_4 : List UInt8 := [42, 180, 0, 70, 29, 51, 104, 42, 180, 0, 70, 29, 4, 96, 51, 96, 42, 180, 0, 70, 29, 5, 96, 51]
abbrev dktX0_row_4 : List UInt8 := dkwX0_row_4 ++ dktX0_row_5
def dkwX0_row_3 : List UInt8 := [153, 0, 7, 4, 167, 0, 4, 3, 54, 4, 21, 4, 153, 0, 41, 42, 182, 0, 155, 180, 0, 158, 16, 8]
abbrev dktX0_row_3 : List UInt8 := dkwX0_row_3 ++ dktX0_row_4
def dkwX0_row_2 : List UInt8 := [42, 180, 0, 70, 29, 51, 182, 0, 173, 153, 0, 21, 42, 180, 0, 70, 29, 4, 96, 51, 184, 0, 195]
abbrev dktX0_row_2 : List UInt8 := dkwX0_row_2 ++ dktX0_row_3
def dkwX0_row_1 : List UInt8 := [27, 6, 112, 154, 0, 7, 3, 167, 0, 4, 4, 181, 0, 243, 3, 62, 29, 6, 96, 27, 163, 0, 118, 42]
abbrev dktX0_row_1 : List UInt8 := dkwX0_row_1 ++ dktX0_row_2
def dkwX0_row_0 : List UInt8 := [42, 180, 0, 236, 60, 42, 3, 181, 0, 236, 27, 154, 0, 10, 42, 16, 250, 182, 0, 145, 172, 3, 61, 42]
abbrev dktX0_row_0 : List UInt8 := dkwX0_row_0 ++ dktX0_row_1
theorem dksX0_row_0 : cX0_row.data.toList.drop 0 = dktX0_row_0 := by decide +kernel
theorem dksX0_row_1 : cX0_row.data.toList.drop 24 = dktX0_row_1 := dk_seg dksX0_row_0 24 rfl rfl
theorem dksX0_row_2 : cX0_row.data.toList.drop 48 = dktX0_row_2 := dk_seg dksX0_row_1 24 rfl rfl
theorem dksX0_row_3 : cX0_row.data.toList.drop 71 = dktX0_row_3 := dk_seg dksX0_row_2 23 rfl rfl
theorem dksX0_row_4 : cX0_row.data.toList.drop 95 = dktX0_row_4 := dk_seg dksX0_row_3 24 rfl rfl
theorem dksX0_row_5 : cX0_row.data.toList.drop 119 = dktX0_row_5 := dk_seg dksX0_row_4 24 rfl rfl
theorem dksX0_row_6 : cX0_row.data.toList.drop 142 = dktX0_row_6 := dk_seg dksX0_row_5 23 rfl rfl
theorem dksX0_row_7 : cX0_row.data.toList.drop 164 = dktX0_row_7 := dk_seg dksX0_row_6 22 rfl rfl
theorem dX0_row_0 : decode cX0_row 0 = .ok (.aload_n 0, 1) := dk_42 (dk_at dksX0_row_0 0 rfl rfl)
theorem dX0_row_1 : decode cX0_row 1 = .ok (.getfield 236, 3) := dk_180 0 236 (dk_at dksX0_row_0 1 rfl rfl)
theorem dX0_row_4 : decode cX0_row 4 = .ok (.istore_n 1, 1) := dk_60 (dk_at dksX0_row_0 4 rfl rfl)
theorem dX0_row_5 : decode cX0_row 5 = .ok (.aload_n 0, 1) := dk_42 (dk_at dksX0_row_0 5 rfl rfl)
theorem dX0_row_6 : decode cX0_row 6 = .ok (.iconst 0, 1) := dk_3 (dk_at dksX0_row_0 6 rfl rfl)
theorem dX0_row_7 : decode cX0_row 7 = .ok (.putfield 236, 3) := dk_181 0 236 (dk_at dksX0_row_0 7 rfl rfl)
theorem dX0_row_10 : decode cX0_row 10 = .ok (.iload_n 1, 1) := dk_27 (dk_at dksX0_row_0 10 rfl rfl)
theorem dX0_row_11 : decode cX0_row 11 = .ok (.ifCond .ne 10, 3) := dk_154 0 10 (dk_at dksX0_row_0 11 rfl rfl)
theorem dX0_row_14 : decode cX0_row 14 = .ok (.aload_n 0, 1) := dk_42 (dk_at dksX0_row_0 14 rfl rfl)
theorem dX0_row_15 : decode cX0_row 15 = .ok (.bipush (-6), 2) := dk_16 250 (dk_at dksX0_row_0 15 rfl rfl)
theorem dX0_row_17 : decode cX0_row 17 = .ok (.invokevirtual 145, 3) := dk_182 0 145 (dk_at dksX0_row_0 17 rfl rfl)
theorem dX0_row_20 : decode cX0_row 20 = .ok (.ireturn, 1) := dk_172 (dk_at dksX0_row_0 20 rfl rfl)
theorem dX0_row_21 : decode cX0_row 21 = .ok (.iconst 0, 1) := dk_3 (dk_at dksX0_row_0 21 rfl rfl)
theorem dX0_row_22 : decode cX0_row 22 = .ok (.istore_n 2, 1) := dk_61 (dk_at dksX0_row_0 22 rfl rfl)
theorem dX0_row_23 : decode cX0_row 23 = .ok (.aload_n 0, 1) := dk_42 (dk_at dksX0_row_0 23 rfl rfl)
theorem dX0_row_24 : decode cX0_row 24 = .ok (.iload_n 1, 1) := dk_27 (dk_at dksX0_row_1 0 rfl rfl)
theorem dX0_row_25 : decode cX0_row 25 = .ok (.iconst 3, 1) := dk_6 (dk_at dksX0_row_1 1 rfl rfl)
theorem dX0_row_26 : decode cX0_row 26 = .ok (.irem, 1) := dk_112 (dk_at dksX0_row_1 2 rfl rfl)
theorem dX0_row_27 : decode cX0_row 27 = .ok (.ifCond .ne 7, 3) := dk_154 0 7 (dk_at dksX0_row_1 3 rfl rfl)
theorem dX0_row_30 : decode cX0_row 30 = .ok (.iconst 0, 1) := dk_3 (dk_at dksX0_row_1 6 rfl rfl)
theorem dX0_row_31 : decode cX0_row 31 = .ok (.goto 4, 3) := dk_167 0 4 (dk_at dksX0_row_1 7 rfl rfl)
theorem dX0_row_34 : decode cX0_row 34 = .ok (.iconst 1, 1) := dk_4 (dk_at dksX0_row_1 10 rfl rfl)
theorem dX0_row_35 : decode cX0_row 35 = .ok (.putfield 243, 3) := dk_181 0 243 (dk_at dksX0_row_1 11 rfl rfl)
theorem dX0_row_38 : decode cX0_row 38 = .ok (.iconst 0, 1) := dk_3 (dk_at dksX0_row_1 14 rfl rfl)
theorem dX0_row_39 : decode cX0_row 39 = .ok (.istore_n 3, 1) := dk_62 (dk_at dksX0_row_1 15 rfl rfl)
theorem dX0_row_40 : decode cX0_row 40 = .ok (.iload_n 3, 1) := dk_29 (dk_at dksX0_row_1 16 rfl rfl)
theorem dX0_row_41 : decode cX0_row 41 = .ok (.iconst 3, 1) := dk_6 (dk_at dksX0_row_1 17 rfl rfl)
theorem dX0_row_42 : decode cX0_row 42 = .ok (.iadd, 1) := dk_96 (dk_at dksX0_row_1 18 rfl rfl)
theorem dX0_row_43 : decode cX0_row 43 = .ok (.iload_n 1, 1) := dk_27 (dk_at dksX0_row_1 19 rfl rfl)
theorem dX0_row_44 : decode cX0_row 44 = .ok (.if_icmp .gt 118, 3) := dk_163 0 118 (dk_at dksX0_row_1 20 rfl rfl)
theorem dX0_row_47 : decode cX0_row 47 = .ok (.aload_n 0, 1) := dk_42 (dk_at dksX0_row_1 23 rfl rfl)
theorem dX0_row_48 : decode cX0_row 48 = .ok (.aload_n 0, 1) := dk_42 (dk_at dksX0_row_2 0 rfl rfl)
theorem dX0_row_49 : decode cX0_row 49 = .ok (.getfield 70, 3) := dk_180 0 70 (dk_at dksX0_row_2 1 rfl rfl)
theorem dX0_row_52 : decode cX0_row 52 = .ok (.iload_n 3, 1) := dk_29 (dk_at dksX0_row_2 4 rfl rfl)
theorem dX0_row_53 : decode cX0_row 53 = .ok (.baload, 1) := dk_51 (dk_at dksX0_row_2 5 rfl rfl)
theorem dX0_row_54 : decode cX0_row 54 = .ok (.invokevirtual 173, 3) := dk_182 0 173 (dk_at dksX0_row_2 6 rfl rfl)
theorem dX0_row_57 : decode cX0_row 57 = .ok (.ifCond .eq 21, 3) := dk_153 0 21 (dk_at dksX0_row_2 9 rfl rfl)
theorem dX0_row_60 : decode cX0_row 60 = .ok (.aload_n 0, 1) := dk_42 (dk_at dksX0_row_2 12 rfl rfl)
theorem dX0_row_61 : decode cX0_row 61 = .ok (.getfield 70, 3) := dk_180 0 70 (dk_at dksX0_row_2 13 rfl rfl)
theorem dX0_row_64 : decode cX0_row 64 = .ok (.iload_n 3, 1) := dk_29 (dk_at dksX0_row_2 16 rfl rfl)
theorem dX0_row_65 : decode cX0_row 65 = .ok (.iconst 1, 1) := dk_4 (dk_at dksX0_row_2 17 rfl rfl)
theorem dX0_row_66 : decode cX0_row 66 = .ok (.iadd, 1) := dk_96 (dk_at dksX0_row_2 18 rfl rfl)
theorem dX0_row_67 : decode cX0_row 67 = .ok (.baload, 1) := dk_51 (dk_at dksX0_row_2 19 rfl rfl)
theorem dX0_row_68 : decode cX0_row 68 = .ok (.invokestatic 195, 3) := dk_184 0 195 (dk_at dksX0_row_2 20 rfl rfl)
theorem dX0_row_71 : decode cX0_row 71 = .ok (.ifCond .eq 7, 3) := dk_153 0 7 (dk_at dksX0_row_3 0 rfl rfl)
theorem dX0_row_74 : decode cX0_row 74 = .ok (.iconst 1, 1) := dk_4 (dk_at dksX0_row_3 3 rfl rfl)
theorem dX0_row_75 : decode cX0_row 75 = .ok (.goto 4, 3) := dk_167 0 4 (dk_at dksX0_row_3 4 rfl rfl)
theorem dX0_row_78 : decode cX0_row 78 = .ok (.iconst 0, 1) := dk_3 (dk_at dksX0_row_3 7 rfl rfl)
theorem dX0_row_79 : decode cX0_row 79 = .ok (.istore 4, 2) := dk_54 4 (dk_at dksX0_row_3 8 rfl rfl)
theorem dX0_row_81 : decode cX0_row 81 = .ok (.iload 4, 2) := dk_21 4 (dk_at dksX0_row_3 10 rfl rfl)
theorem dX0_row_83 : decode cX0_row 83 = .ok (.ifCond .eq 41, 3) := dk_153 0 41 (dk_at dksX0_row_3 12 rfl rfl)
theorem dX0_row_86 : decode cX0_row 86 = .ok (.aload_n 0, 1) := dk_42 (dk_at dksX0_row_3 15 rfl rfl)
theorem dX0_row_87 : decode cX0_row 87 = .ok (.invokevirtual 155, 3) := dk_182 0 155 (dk_at dksX0_row_3 16 rfl rfl)
theorem dX0_row_90 : decode cX0_row 90 = .ok (.getfield 158, 3) := dk_180 0 158 (dk_at dksX0_row_3 19 rfl rfl)
theorem dX0_row_93 : decode cX0_row 93 = .ok (.bipush 8, 2) := dk_16 8 (dk_at dksX0_row_3 22 rfl rfl)
theorem dX0_row_95 : decode cX0_row 95 = .ok (.aload_n 0, 1) := dk_42 (dk_at dksX0_row_4 0 rfl rfl)
theorem dX0_row_96 : decode cX0_row 96 = .ok (.getfield 70, 3) := dk_180 0 70 (dk_at dksX0_row_4 1 rfl rfl)
theorem dX0_row_99 : decode cX0_row 99 = .ok (.iload_n 3, 1) := dk_29 (dk_at dksX0_row_4 4 rfl rfl)
theorem dX0_row_100 : decode cX0_row 100 = .ok (.baload, 1) := dk_51 (dk_at dksX0_row_4 5 rfl rfl)
theorem dX0_row_101 : decode cX0_row 101 = .ok (.imul, 1) := dk_104 (dk_at dksX0_row_4 6 rfl rfl)
theorem dX0_row_102 : decode cX0_row 102 = .ok (.aload_n 0, 1) := dk_42 (dk_at dksX0_row_4 7 rfl rfl)
theorem dX0_row_103 : decode cX0_row 103 = .ok (.getfield 70, 3) := dk_180 0 70 (dk_at dksX0_row_4 8 rfl rfl)
theorem dX0_row_106 : decode cX0_row 106 = .ok (.iload_n 3, 1) := dk_29 (dk_at dksX0_row_4 11 rfl rfl)
theorem dX0_row_107 : decode cX0_row 107 = .ok (.iconst 1, 1) := dk_4 (dk_at dksX0_row_4 12 rfl rfl)
theorem dX0_row_108 : decode cX0_row 108 = .ok (.iadd, 1) := dk_96 (dk_at dksX0_row_4 13 rfl rfl)
theorem dX0_row_109 : decode cX0_row 109 = .ok (.baload, 1) := dk_51 (dk_at dksX0_row_4 14 rfl rfl)
theorem dX0_row_110 : decode cX0_row 110 = .ok (.iadd, 1) := dk_96 (dk_at dksX0_row_4 15 rfl rfl)
theorem dX0_row_111 : decode cX0_row 111 = .ok (.aload_n 0, 1) := dk_42 (dk_at dksX0_row_4 16 rfl rfl)
theorem dX0_row_112 : decode cX0_row 112 = .ok (.getfield 70, 3) := dk_180 0 70 (dk_at dksX0_row_4 17 rfl rfl)
theorem dX0_row_115 : decode cX0_row 115 = .ok (.iload_n 3, 1) := dk_29 (dk_at dksX0_row_4 20 rfl rfl)
theorem dX0_row_116 : decode cX0_row 116 = .ok (.iconst 2, 1) := dk_5 (dk_at dksX0_row_4 21 rfl rfl)
theorem dX0_row_117 : decode cX0_row 117 = .ok (.iadd, 1) := dk_96 (dk_at dksX0_row_4 22 rfl rfl)
theorem dX0_row_118 : decode cX0_row 118 = .ok (.baload, 1) := dk_51 (dk_at dksX0_row_4 23 rfl rfl)
theorem dX0_row_119 : decode cX0_row 119 = .ok (.sipush 255, 3) := dk_17 0 255 (dk_at dksX0_row_5 0 rfl rfl)
theorem dX0_row_122 : decode cX0_row 122 = .ok (.iand, 1) := dk_126 (dk_at dksX0_row_5 3 rfl rfl)
theorem dX0_row_123 : decode cX0_row 123 = .ok (.iastore, 1) := dk_79 (dk_at dksX0_row_5 4 rfl rfl)
theorem dX0_row_124 : decode cX0_row 124 = .ok (.iload_n 2, 1) := dk_28 (dk_at dksX0_row_5 5 rfl rfl)
theorem dX0_row_125 : decode cX0_row 125 = .ok (.iload 4, 2) := dk_21 4 (dk_at dksX0_row_5 6 rfl rfl)
theorem dX0_row_127 : decode cX0_row 127 = .ok (.ifCond .eq 7, 3) := dk_153 0 7 (dk_at dksX0_row_5 8 rfl rfl)
theorem dX0_row_130 : decode cX0_row 130 = .ok (.iconst 1, 1) := dk_4 (dk_at dksX0_row_5 11 rfl rfl)
theorem dX0_row_131 : decode cX0_row 131 = .ok (.goto 4, 3) := dk_167 0 4 (dk_at dksX0_row_5 12 rfl rfl)
theorem dX0_row_134 : decode cX0_row 134 = .ok (.iconst 0, 1) := dk_3 (dk_at dksX0_row_5 15 rfl rfl)
theorem dX0_row_135 : decode cX0_row 135 = .ok (.iadd, 1) := dk_96 (dk_at dksX0_row_5 16 rfl rfl)
theorem dX0_row_136 : decode cX0_row 136 = .ok (.istore_n 2, 1) := dk_61 (dk_at dksX0_row_5 17 rfl rfl)
theorem dX0_row_137 : decode cX0_row 137 = .ok (.aload_n 0, 1) := dk_42 (dk_at dksX0_row_5 18 rfl rfl)
theorem dX0_row_138 : decode cX0_row 138 = .ok (.dup, 1) := dk_89 (dk_at dksX0_row_5 19 rfl rfl)
theorem dX0_row_139 : decode cX0_row 139 = .ok (.getfield 243, 3) := dk_180 0 243 (dk_at dksX0_row_5 20 rfl rfl)
theorem dX0_row_142 : decode cX0_row 142 = .ok (.iload 4, 2) := dk_21 4 (dk_at dksX0_row_6 0 rfl rfl)
theorem dX0_row_144 : decode cX0_row 144 = .ok (.ifCond .eq 7, 3) := dk_153 0 7 (dk_at dksX0_row_6 2 rfl rfl)
theorem dX0_row_147 : decode cX0_row 147 = .ok (.iconst 0, 1) := dk_3 (dk_at dksX0_row_6 5 rfl rfl)
theorem dX0_row_148 : decode cX0_row 148 = .ok (.goto 4, 3) := dk_167 0 4 (dk_at dksX0_row_6 6 rfl rfl)
theorem dX0_row_151 : decode cX0_row 151 = .ok (.iconst 1, 1) := dk_4 (dk_at dksX0_row_6 9 rfl rfl)
theorem dX0_row_152 : decode cX0_row 152 = .ok (.iadd, 1) := dk_96 (dk_at dksX0_row_6 10 rfl rfl)
theorem dX0_row_153 : decode cX0_row 153 = .ok (.putfield 243, 3) := dk_181 0 243 (dk_at dksX0_row_6 11 rfl rfl)
theorem dX0_row_156 : decode cX0_row 156 = .ok (.iinc 3 3, 3) := dk_132 3 3 (dk_at dksX0_row_6 14 rfl rfl)
theorem dX0_row_159 : decode cX0_row 159 = .ok (.goto (-119), 3) := dk_167 255 137 (dk_at dksX0_row_6 17 rfl rfl)
theorem dX0_row_162 : decode cX0_row 162 = .ok (.aload_n 0, 1) := dk_42 (dk_at dksX0_row_6 20 rfl rfl)
theorem dX0_row_163 : decode cX0_row 163 = .ok (.iload_n 2, 1) := dk_28 (dk_at dksX0_row_6 21 rfl rfl)
theorem dX0_row_164 : decode cX0_row 164 = .ok (.invokevirtual 152, 3) := dk_182 0 152 (dk_at dksX0_row_7 0 rfl rfl)
theorem dX0_row_167 : decode cX0_row 167 = .ok (.ireturn, 1) := dk_172 (dk_at dksX0_row_7 3 rfl rfl)
abbrev cX0_rust : ByteArray := prog_1_method_29_code
def yX0_rust : MethodName := ⟨RX0, "rust", "()I"⟩
theorem dX0_rust_0 : decode cX0_rust 0 = .ok (.aload_n 0, 1) := by decide +kernel
theorem dX0_rust_1 : decode cX0_rust 1 = .ok (.getfield 243, 3) := by decide +kernel
theorem dX0_rust_4 : decode cX0_rust 4 = .ok (.ireturn, 1) := by decide +kernel
abbrev cX0_law : ByteArray := prog_1_method_31_code
def yX0_law : MethodName := ⟨RX0, "law", "()I"⟩
def dkwX0_law_4 : List UInt8 := [100, 182, 0, 136, 172]
abbrev dktX0_law_4 : List UInt8 := dkwX0_law_4 ++ []
def dkwX0_law_3 : List UInt8 := [89, 44, 180, 1, 21, 183, 1, 24, 182, 1, 27, 87, 42, 42, 180, 0, 39, 180, 1, 0, 182, 1, 4, 4]
abbrev dktX0_law_3 : List UInt8 := dkwX0_law_3 ++ dktX0_law_4
def dkwX0_law_2 : List UInt8 := [44, 182, 1, 15, 154, 0, 10, 42, 16, 250, 182, 0, 145, 172, 42, 180, 0, 39, 180, 1, 0, 187, 1, 19]
abbrev dktX0_law_2 : List UInt8 := dkwX0_law_2 ++ dktX0_law_3
def dkwX0_law_1 : List UInt8 := [160, 0, 10, 42, 16, 251, 182, 0, 145, 172, 187, 1, 10, 89, 42, 180, 0, 70, 27, 183, 1, 12, 77, 42]
abbrev dktX0_law_1 : List UInt8 := dkwX0_law_1 ++ dktX0_law_2
def dkwX0_law_0 : List UInt8 := [42, 180, 0, 236, 60, 42, 3, 181, 0, 236, 42, 180, 0, 39, 180, 1, 0, 182, 1, 4, 16, 6]
abbrev dktX0_law_0 : List UInt8 := dkwX0_law_0 ++ dktX0_law_1
theorem dksX0_law_0 : cX0_law.data.toList.drop 0 = dktX0_law_0 := by decide +kernel
theorem dksX0_law_1 : cX0_law.data.toList.drop 22 = dktX0_law_1 := dk_seg dksX0_law_0 22 rfl rfl
theorem dksX0_law_2 : cX0_law.data.toList.drop 46 = dktX0_law_2 := dk_seg dksX0_law_1 24 rfl rfl
theorem dksX0_law_3 : cX0_law.data.toList.drop 70 = dktX0_law_3 := dk_seg dksX0_law_2 24 rfl rfl
theorem dksX0_law_4 : cX0_law.data.toList.drop 94 = dktX0_law_4 := dk_seg dksX0_law_3 24 rfl rfl
theorem dX0_law_0 : decode cX0_law 0 = .ok (.aload_n 0, 1) := dk_42 (dk_at dksX0_law_0 0 rfl rfl)
theorem dX0_law_1 : decode cX0_law 1 = .ok (.getfield 236, 3) := dk_180 0 236 (dk_at dksX0_law_0 1 rfl rfl)
theorem dX0_law_4 : decode cX0_law 4 = .ok (.istore_n 1, 1) := dk_60 (dk_at dksX0_law_0 4 rfl rfl)
theorem dX0_law_5 : decode cX0_law 5 = .ok (.aload_n 0, 1) := dk_42 (dk_at dksX0_law_0 5 rfl rfl)
theorem dX0_law_6 : decode cX0_law 6 = .ok (.iconst 0, 1) := dk_3 (dk_at dksX0_law_0 6 rfl rfl)
theorem dX0_law_7 : decode cX0_law 7 = .ok (.putfield 236, 3) := dk_181 0 236 (dk_at dksX0_law_0 7 rfl rfl)
theorem dX0_law_10 : decode cX0_law 10 = .ok (.aload_n 0, 1) := dk_42 (dk_at dksX0_law_0 10 rfl rfl)
theorem dX0_law_11 : decode cX0_law 11 = .ok (.getfield 39, 3) := dk_180 0 39 (dk_at dksX0_law_0 11 rfl rfl)
theorem dX0_law_14 : decode cX0_law 14 = .ok (.getfield 256, 3) := dk_180 1 0 (dk_at dksX0_law_0 14 rfl rfl)
theorem dX0_law_17 : decode cX0_law 17 = .ok (.invokevirtual 260, 3) := dk_182 1 4 (dk_at dksX0_law_0 17 rfl rfl)
theorem dX0_law_20 : decode cX0_law 20 = .ok (.bipush 6, 2) := dk_16 6 (dk_at dksX0_law_0 20 rfl rfl)
theorem dX0_law_22 : decode cX0_law 22 = .ok (.if_icmp .ne 10, 3) := dk_160 0 10 (dk_at dksX0_law_1 0 rfl rfl)
theorem dX0_law_25 : decode cX0_law 25 = .ok (.aload_n 0, 1) := dk_42 (dk_at dksX0_law_1 3 rfl rfl)
theorem dX0_law_26 : decode cX0_law 26 = .ok (.bipush (-5), 2) := dk_16 251 (dk_at dksX0_law_1 4 rfl rfl)
theorem dX0_law_28 : decode cX0_law 28 = .ok (.invokevirtual 145, 3) := dk_182 0 145 (dk_at dksX0_law_1 6 rfl rfl)
theorem dX0_law_31 : decode cX0_law 31 = .ok (.ireturn, 1) := dk_172 (dk_at dksX0_law_1 9 rfl rfl)
theorem dX0_law_32 : decode cX0_law 32 = .ok (.new 266, 3) := dk_187 1 10 (dk_at dksX0_law_1 10 rfl rfl)
theorem dX0_law_35 : decode cX0_law 35 = .ok (.dup, 1) := dk_89 (dk_at dksX0_law_1 13 rfl rfl)
theorem dX0_law_36 : decode cX0_law 36 = .ok (.aload_n 0, 1) := dk_42 (dk_at dksX0_law_1 14 rfl rfl)
theorem dX0_law_37 : decode cX0_law 37 = .ok (.getfield 70, 3) := dk_180 0 70 (dk_at dksX0_law_1 15 rfl rfl)
theorem dX0_law_40 : decode cX0_law 40 = .ok (.iload_n 1, 1) := dk_27 (dk_at dksX0_law_1 18 rfl rfl)
theorem dX0_law_41 : decode cX0_law 41 = .ok (.invokespecial 268, 3) := dk_183 1 12 (dk_at dksX0_law_1 19 rfl rfl)
theorem dX0_law_44 : decode cX0_law 44 = .ok (.astore_n 2, 1) := dk_77 (dk_at dksX0_law_1 22 rfl rfl)
theorem dX0_law_45 : decode cX0_law 45 = .ok (.aload_n 0, 1) := dk_42 (dk_at dksX0_law_1 23 rfl rfl)
theorem dX0_law_46 : decode cX0_law 46 = .ok (.aload_n 2, 1) := dk_44 (dk_at dksX0_law_2 0 rfl rfl)
theorem dX0_law_47 : decode cX0_law 47 = .ok (.invokevirtual 271, 3) := dk_182 1 15 (dk_at dksX0_law_2 1 rfl rfl)
theorem dX0_law_50 : decode cX0_law 50 = .ok (.ifCond .ne 10, 3) := dk_154 0 10 (dk_at dksX0_law_2 4 rfl rfl)
theorem dX0_law_53 : decode cX0_law 53 = .ok (.aload_n 0, 1) := dk_42 (dk_at dksX0_law_2 7 rfl rfl)
theorem dX0_law_54 : decode cX0_law 54 = .ok (.bipush (-6), 2) := dk_16 250 (dk_at dksX0_law_2 8 rfl rfl)
theorem dX0_law_56 : decode cX0_law 56 = .ok (.invokevirtual 145, 3) := dk_182 0 145 (dk_at dksX0_law_2 10 rfl rfl)
theorem dX0_law_59 : decode cX0_law 59 = .ok (.ireturn, 1) := dk_172 (dk_at dksX0_law_2 13 rfl rfl)
theorem dX0_law_60 : decode cX0_law 60 = .ok (.aload_n 0, 1) := dk_42 (dk_at dksX0_law_2 14 rfl rfl)
theorem dX0_law_61 : decode cX0_law 61 = .ok (.getfield 39, 3) := dk_180 0 39 (dk_at dksX0_law_2 15 rfl rfl)
theorem dX0_law_64 : decode cX0_law 64 = .ok (.getfield 256, 3) := dk_180 1 0 (dk_at dksX0_law_2 18 rfl rfl)
theorem dX0_law_67 : decode cX0_law 67 = .ok (.new 275, 3) := dk_187 1 19 (dk_at dksX0_law_2 21 rfl rfl)
theorem dX0_law_70 : decode cX0_law 70 = .ok (.dup, 1) := dk_89 (dk_at dksX0_law_3 0 rfl rfl)
theorem dX0_law_71 : decode cX0_law 71 = .ok (.aload_n 2, 1) := dk_44 (dk_at dksX0_law_3 1 rfl rfl)
theorem dX0_law_72 : decode cX0_law 72 = .ok (.getfield 277, 3) := dk_180 1 21 (dk_at dksX0_law_3 2 rfl rfl)
theorem dX0_law_75 : decode cX0_law 75 = .ok (.invokespecial 280, 3) := dk_183 1 24 (dk_at dksX0_law_3 5 rfl rfl)
theorem dX0_law_78 : decode cX0_law 78 = .ok (.invokevirtual 283, 3) := dk_182 1 27 (dk_at dksX0_law_3 8 rfl rfl)
theorem dX0_law_81 : decode cX0_law 81 = .ok (.pop, 1) := dk_87 (dk_at dksX0_law_3 11 rfl rfl)
theorem dX0_law_82 : decode cX0_law 82 = .ok (.aload_n 0, 1) := dk_42 (dk_at dksX0_law_3 12 rfl rfl)
theorem dX0_law_83 : decode cX0_law 83 = .ok (.aload_n 0, 1) := dk_42 (dk_at dksX0_law_3 13 rfl rfl)
theorem dX0_law_84 : decode cX0_law 84 = .ok (.getfield 39, 3) := dk_180 0 39 (dk_at dksX0_law_3 14 rfl rfl)
theorem dX0_law_87 : decode cX0_law 87 = .ok (.getfield 256, 3) := dk_180 1 0 (dk_at dksX0_law_3 17 rfl rfl)
theorem dX0_law_90 : decode cX0_law 90 = .ok (.invokevirtual 260, 3) := dk_182 1 4 (dk_at dksX0_law_3 20 rfl rfl)
theorem dX0_law_93 : decode cX0_law 93 = .ok (.iconst 1, 1) := dk_4 (dk_at dksX0_law_3 23 rfl rfl)
theorem dX0_law_94 : decode cX0_law 94 = .ok (.isub, 1) := dk_100 (dk_at dksX0_law_4 0 rfl rfl)
theorem dX0_law_95 : decode cX0_law 95 = .ok (.invokevirtual 136, 3) := dk_182 0 136 (dk_at dksX0_law_4 1 rfl rfl)
theorem dX0_law_98 : decode cX0_law 98 = .ok (.ireturn, 1) := dk_172 (dk_at dksX0_law_4 4 rfl rfl)
abbrev cX0_reads : ByteArray := prog_1_method_30_code
def yX0_reads : MethodName := ⟨RX0, "reads", "(LDowryBoxes$Reader;)Z"⟩
def dkwX0_reads_1 : List UInt8 := [172]
abbrev dktX0_reads_1 : List UInt8 := dkwX0_reads_1 ++ []
def dkwX0_reads_0 : List UInt8 := [43, 182, 0, 246, 167, 0, 14, 77, 42, 44, 180, 0, 253, 181, 0, 74, 3, 172, 42, 2, 181, 0, 74, 4]
abbrev dktX0_reads_0 : List UInt8 := dkwX0_reads_0 ++ dktX0_reads_1
theorem dksX0_reads_0 : cX0_reads.data.toList.drop 0 = dktX0_reads_0 := by decide +kernel
theorem dksX0_reads_1 : cX0_reads.data.toList.drop 24 = dktX0_reads_1 := dk_seg dksX0_reads_0 24 rfl rfl
theorem dX0_reads_0 : decode cX0_reads 0 = .ok (.aload_n 1, 1) := dk_43 (dk_at dksX0_reads_0 0 rfl rfl)
theorem dX0_reads_1 : decode cX0_reads 1 = .ok (.invokevirtual 246, 3) := dk_182 0 246 (dk_at dksX0_reads_0 1 rfl rfl)
theorem dX0_reads_4 : decode cX0_reads 4 = .ok (.goto 14, 3) := dk_167 0 14 (dk_at dksX0_reads_0 4 rfl rfl)
theorem dX0_reads_7 : decode cX0_reads 7 = .ok (.astore_n 2, 1) := dk_77 (dk_at dksX0_reads_0 7 rfl rfl)
theorem dX0_reads_8 : decode cX0_reads 8 = .ok (.aload_n 0, 1) := dk_42 (dk_at dksX0_reads_0 8 rfl rfl)
theorem dX0_reads_9 : decode cX0_reads 9 = .ok (.aload_n 2, 1) := dk_44 (dk_at dksX0_reads_0 9 rfl rfl)
theorem dX0_reads_10 : decode cX0_reads 10 = .ok (.getfield 253, 3) := dk_180 0 253 (dk_at dksX0_reads_0 10 rfl rfl)
theorem dX0_reads_13 : decode cX0_reads 13 = .ok (.putfield 74, 3) := dk_181 0 74 (dk_at dksX0_reads_0 13 rfl rfl)
theorem dX0_reads_16 : decode cX0_reads 16 = .ok (.iconst 0, 1) := dk_3 (dk_at dksX0_reads_0 16 rfl rfl)
theorem dX0_reads_17 : decode cX0_reads 17 = .ok (.ireturn, 1) := dk_172 (dk_at dksX0_reads_0 17 rfl rfl)
theorem dX0_reads_18 : decode cX0_reads 18 = .ok (.aload_n 0, 1) := dk_42 (dk_at dksX0_reads_0 18 rfl rfl)
theorem dX0_reads_19 : decode cX0_reads 19 = .ok (.iconst (-1), 1) := dk_2 (dk_at dksX0_reads_0 19 rfl rfl)
theorem dX0_reads_20 : decode cX0_reads 20 = .ok (.putfield 74, 3) := dk_181 0 74 (dk_at dksX0_reads_0 20 rfl rfl)
theorem dX0_reads_23 : decode cX0_reads 23 = .ok (.iconst 1, 1) := dk_4 (dk_at dksX0_reads_0 23 rfl rfl)
theorem dX0_reads_24 : decode cX0_reads 24 = .ok (.ireturn, 1) := dk_172 (dk_at dksX0_reads_1 0 rfl rfl)
abbrev cX0_fault : ByteArray := prog_1_method_32_code
def yX0_fault : MethodName := ⟨RX0, "fault", "()I"⟩
theorem dX0_fault_0 : decode cX0_fault 0 = .ok (.aload_n 0, 1) := by decide +kernel
theorem dX0_fault_1 : decode cX0_fault 1 = .ok (.getfield 74, 3) := by decide +kernel
theorem dX0_fault_4 : decode cX0_fault 4 = .ok (.ireturn, 1) := by decide +kernel
abbrev cX0_stopped : ByteArray := prog_1_method_33_code
def yX0_stopped : MethodName := ⟨RX0, "stopped", "()I"⟩
theorem dX0_stopped_0 : decode cX0_stopped 0 = .ok (.aload_n 0, 1) := by decide +kernel
theorem dX0_stopped_1 : decode cX0_stopped 1 = .ok (.getfield 77, 3) := by decide +kernel
theorem dX0_stopped_4 : decode cX0_stopped 4 = .ok (.ireturn, 1) := by decide +kernel
abbrev cX0_force : ByteArray := prog_1_method_35_code
def yX0_force : MethodName := ⟨RX0, "force", "(I)I"⟩
def dkwX0_force_1 : List UInt8 := [180, 0, 39, 27, 181, 0, 184, 42, 28, 182, 0, 136, 172]
abbrev dktX0_force_1 : List UInt8 := dkwX0_force_1 ++ []
def dkwX0_force_0 : List UInt8 := [42, 27, 182, 1, 31, 154, 0, 10, 42, 16, 254, 182, 0, 145, 172, 42, 180, 0, 39, 180, 0, 184, 61, 42]
abbrev dktX0_force_0 : List UInt8 := dkwX0_force_0 ++ dktX0_force_1
theorem dksX0_force_0 : cX0_force.data.toList.drop 0 = dktX0_force_0 := by decide +kernel
theorem dksX0_force_1 : cX0_force.data.toList.drop 24 = dktX0_force_1 := dk_seg dksX0_force_0 24 rfl rfl
theorem dX0_force_0 : decode cX0_force 0 = .ok (.aload_n 0, 1) := dk_42 (dk_at dksX0_force_0 0 rfl rfl)
theorem dX0_force_1 : decode cX0_force 1 = .ok (.iload_n 1, 1) := dk_27 (dk_at dksX0_force_0 1 rfl rfl)
theorem dX0_force_2 : decode cX0_force 2 = .ok (.invokevirtual 287, 3) := dk_182 1 31 (dk_at dksX0_force_0 2 rfl rfl)
theorem dX0_force_5 : decode cX0_force 5 = .ok (.ifCond .ne 10, 3) := dk_154 0 10 (dk_at dksX0_force_0 5 rfl rfl)
theorem dX0_force_8 : decode cX0_force 8 = .ok (.aload_n 0, 1) := dk_42 (dk_at dksX0_force_0 8 rfl rfl)
theorem dX0_force_9 : decode cX0_force 9 = .ok (.bipush (-2), 2) := dk_16 254 (dk_at dksX0_force_0 9 rfl rfl)
theorem dX0_force_11 : decode cX0_force 11 = .ok (.invokevirtual 145, 3) := dk_182 0 145 (dk_at dksX0_force_0 11 rfl rfl)
theorem dX0_force_14 : decode cX0_force 14 = .ok (.ireturn, 1) := dk_172 (dk_at dksX0_force_0 14 rfl rfl)
theorem dX0_force_15 : decode cX0_force 15 = .ok (.aload_n 0, 1) := dk_42 (dk_at dksX0_force_0 15 rfl rfl)
theorem dX0_force_16 : decode cX0_force 16 = .ok (.getfield 39, 3) := dk_180 0 39 (dk_at dksX0_force_0 16 rfl rfl)
theorem dX0_force_19 : decode cX0_force 19 = .ok (.getfield 184, 3) := dk_180 0 184 (dk_at dksX0_force_0 19 rfl rfl)
theorem dX0_force_22 : decode cX0_force 22 = .ok (.istore_n 2, 1) := dk_61 (dk_at dksX0_force_0 22 rfl rfl)
theorem dX0_force_23 : decode cX0_force 23 = .ok (.aload_n 0, 1) := dk_42 (dk_at dksX0_force_0 23 rfl rfl)
theorem dX0_force_24 : decode cX0_force 24 = .ok (.getfield 39, 3) := dk_180 0 39 (dk_at dksX0_force_1 0 rfl rfl)
theorem dX0_force_27 : decode cX0_force 27 = .ok (.iload_n 1, 1) := dk_27 (dk_at dksX0_force_1 3 rfl rfl)
theorem dX0_force_28 : decode cX0_force 28 = .ok (.putfield 184, 3) := dk_181 0 184 (dk_at dksX0_force_1 4 rfl rfl)
theorem dX0_force_31 : decode cX0_force 31 = .ok (.aload_n 0, 1) := dk_42 (dk_at dksX0_force_1 7 rfl rfl)
theorem dX0_force_32 : decode cX0_force 32 = .ok (.iload_n 2, 1) := dk_28 (dk_at dksX0_force_1 8 rfl rfl)
theorem dX0_force_33 : decode cX0_force 33 = .ok (.invokevirtual 136, 3) := dk_182 0 136 (dk_at dksX0_force_1 9 rfl rfl)
theorem dX0_force_36 : decode cX0_force 36 = .ok (.ireturn, 1) := dk_172 (dk_at dksX0_force_1 12 rfl rfl)
abbrev cX0_isLaw : ByteArray := prog_1_method_34_code
def yX0_isLaw : MethodName := ⟨RX0, "isLaw", "(I)Z"⟩
def dkwX0_isLaw_0 : List UInt8 := [27, 2, 42, 180, 0, 39, 180, 1, 0, 182, 1, 4, 4, 100, 184, 0, 26, 172]
abbrev dktX0_isLaw_0 : List UInt8 := dkwX0_isLaw_0 ++ []
theorem dksX0_isLaw_0 : cX0_isLaw.data.toList.drop 0 = dktX0_isLaw_0 := by decide +kernel
theorem dX0_isLaw_0 : decode cX0_isLaw 0 = .ok (.iload_n 1, 1) := dk_27 (dk_at dksX0_isLaw_0 0 rfl rfl)
theorem dX0_isLaw_1 : decode cX0_isLaw 1 = .ok (.iconst (-1), 1) := dk_2 (dk_at dksX0_isLaw_0 1 rfl rfl)
theorem dX0_isLaw_2 : decode cX0_isLaw 2 = .ok (.aload_n 0, 1) := dk_42 (dk_at dksX0_isLaw_0 2 rfl rfl)
theorem dX0_isLaw_3 : decode cX0_isLaw 3 = .ok (.getfield 39, 3) := dk_180 0 39 (dk_at dksX0_isLaw_0 3 rfl rfl)
theorem dX0_isLaw_6 : decode cX0_isLaw 6 = .ok (.getfield 256, 3) := dk_180 1 0 (dk_at dksX0_isLaw_0 6 rfl rfl)
theorem dX0_isLaw_9 : decode cX0_isLaw 9 = .ok (.invokevirtual 260, 3) := dk_182 1 4 (dk_at dksX0_isLaw_0 9 rfl rfl)
theorem dX0_isLaw_12 : decode cX0_isLaw 12 = .ok (.iconst 1, 1) := dk_4 (dk_at dksX0_isLaw_0 12 rfl rfl)
theorem dX0_isLaw_13 : decode cX0_isLaw 13 = .ok (.isub, 1) := dk_100 (dk_at dksX0_isLaw_0 13 rfl rfl)
theorem dX0_isLaw_14 : decode cX0_isLaw 14 = .ok (.invokestatic 26, 3) := dk_184 0 26 (dk_at dksX0_isLaw_0 14 rfl rfl)
theorem dX0_isLaw_17 : decode cX0_isLaw 17 = .ok (.ireturn, 1) := dk_172 (dk_at dksX0_isLaw_0 17 rfl rfl)
abbrev cX0_pull : ByteArray := prog_1_method_51_code
def yX0_pull : MethodName := ⟨RX0, "pull", "(III)I"⟩
def dkwX0_pull_0 : List UInt8 := [42, 42, 27, 28, 29, 182, 1, 88, 182, 1, 92, 172]
abbrev dktX0_pull_0 : List UInt8 := dkwX0_pull_0 ++ []
theorem dksX0_pull_0 : cX0_pull.data.toList.drop 0 = dktX0_pull_0 := by decide +kernel
theorem dX0_pull_0 : decode cX0_pull 0 = .ok (.aload_n 0, 1) := dk_42 (dk_at dksX0_pull_0 0 rfl rfl)
theorem dX0_pull_1 : decode cX0_pull 1 = .ok (.aload_n 0, 1) := dk_42 (dk_at dksX0_pull_0 1 rfl rfl)
theorem dX0_pull_2 : decode cX0_pull 2 = .ok (.iload_n 1, 1) := dk_27 (dk_at dksX0_pull_0 2 rfl rfl)
theorem dX0_pull_3 : decode cX0_pull 3 = .ok (.iload_n 2, 1) := dk_28 (dk_at dksX0_pull_0 3 rfl rfl)
theorem dX0_pull_4 : decode cX0_pull 4 = .ok (.iload_n 3, 1) := dk_29 (dk_at dksX0_pull_0 4 rfl rfl)
theorem dX0_pull_5 : decode cX0_pull 5 = .ok (.invokevirtual 344, 3) := dk_182 1 88 (dk_at dksX0_pull_0 5 rfl rfl)
theorem dX0_pull_8 : decode cX0_pull 8 = .ok (.invokevirtual 348, 3) := dk_182 1 92 (dk_at dksX0_pull_0 8 rfl rfl)
theorem dX0_pull_11 : decode cX0_pull 11 = .ok (.ireturn, 1) := dk_172 (dk_at dksX0_pull_0 11 rfl rfl)
abbrev cX0_pullsKept : ByteArray := prog_1_method_46_code
def yX0_pullsKept : MethodName := ⟨RX0, "pullsKept", "(III)I"⟩
def dkwX0_pullsKept_3 : List UInt8 := [79, 42, 182, 0, 155, 29, 182, 0, 181, 172]
abbrev dktX0_pullsKept_3 : List UInt8 := dkwX0_pullsKept_3 ++ []
def dkwX0_pullsKept_2 : List UInt8 := [182, 1, 78, 42, 182, 0, 155, 180, 0, 158, 16, 8, 29, 104, 28, 96, 92, 46, 4, 27, 120, 2, 130, 126]
abbrev dktX0_pullsKept_2 : List UInt8 := dkwX0_pullsKept_2 ++ dktX0_pullsKept_3
def dkwX0_pullsKept_1 : List UInt8 := [16, 254, 172, 42, 182, 0, 155, 29, 28, 182, 0, 177, 27, 184, 1, 37, 154, 0, 6, 16, 253, 172, 42, 3]
abbrev dktX0_pullsKept_1 : List UInt8 := dkwX0_pullsKept_1 ++ dktX0_pullsKept_2
def dkwX0_pullsKept_0 : List UInt8 := [27, 184, 0, 201, 153, 0, 10, 28, 184, 0, 195, 154, 0, 5, 2, 172, 42, 29, 182, 0, 173, 154, 0, 6]
abbrev dktX0_pullsKept_0 : List UInt8 := dkwX0_pullsKept_0 ++ dktX0_pullsKept_1
theorem dksX0_pullsKept_0 : cX0_pullsKept.data.toList.drop 0 = dktX0_pullsKept_0 := by decide +kernel
theorem dksX0_pullsKept_1 : cX0_pullsKept.data.toList.drop 24 = dktX0_pullsKept_1 := dk_seg dksX0_pullsKept_0 24 rfl rfl
theorem dksX0_pullsKept_2 : cX0_pullsKept.data.toList.drop 48 = dktX0_pullsKept_2 := dk_seg dksX0_pullsKept_1 24 rfl rfl
theorem dksX0_pullsKept_3 : cX0_pullsKept.data.toList.drop 72 = dktX0_pullsKept_3 := dk_seg dksX0_pullsKept_2 24 rfl rfl
theorem dX0_pullsKept_0 : decode cX0_pullsKept 0 = .ok (.iload_n 1, 1) := dk_27 (dk_at dksX0_pullsKept_0 0 rfl rfl)
theorem dX0_pullsKept_1 : decode cX0_pullsKept 1 = .ok (.invokestatic 201, 3) := dk_184 0 201 (dk_at dksX0_pullsKept_0 1 rfl rfl)
theorem dX0_pullsKept_4 : decode cX0_pullsKept 4 = .ok (.ifCond .eq 10, 3) := dk_153 0 10 (dk_at dksX0_pullsKept_0 4 rfl rfl)
theorem dX0_pullsKept_7 : decode cX0_pullsKept 7 = .ok (.iload_n 2, 1) := dk_28 (dk_at dksX0_pullsKept_0 7 rfl rfl)
theorem dX0_pullsKept_8 : decode cX0_pullsKept 8 = .ok (.invokestatic 195, 3) := dk_184 0 195 (dk_at dksX0_pullsKept_0 8 rfl rfl)
theorem dX0_pullsKept_11 : decode cX0_pullsKept 11 = .ok (.ifCond .ne 5, 3) := dk_154 0 5 (dk_at dksX0_pullsKept_0 11 rfl rfl)
theorem dX0_pullsKept_14 : decode cX0_pullsKept 14 = .ok (.iconst (-1), 1) := dk_2 (dk_at dksX0_pullsKept_0 14 rfl rfl)
theorem dX0_pullsKept_15 : decode cX0_pullsKept 15 = .ok (.ireturn, 1) := dk_172 (dk_at dksX0_pullsKept_0 15 rfl rfl)
theorem dX0_pullsKept_16 : decode cX0_pullsKept 16 = .ok (.aload_n 0, 1) := dk_42 (dk_at dksX0_pullsKept_0 16 rfl rfl)
theorem dX0_pullsKept_17 : decode cX0_pullsKept 17 = .ok (.iload_n 3, 1) := dk_29 (dk_at dksX0_pullsKept_0 17 rfl rfl)
theorem dX0_pullsKept_18 : decode cX0_pullsKept 18 = .ok (.invokevirtual 173, 3) := dk_182 0 173 (dk_at dksX0_pullsKept_0 18 rfl rfl)
theorem dX0_pullsKept_21 : decode cX0_pullsKept 21 = .ok (.ifCond .ne 6, 3) := dk_154 0 6 (dk_at dksX0_pullsKept_0 21 rfl rfl)
theorem dX0_pullsKept_24 : decode cX0_pullsKept 24 = .ok (.bipush (-2), 2) := dk_16 254 (dk_at dksX0_pullsKept_1 0 rfl rfl)
theorem dX0_pullsKept_26 : decode cX0_pullsKept 26 = .ok (.ireturn, 1) := dk_172 (dk_at dksX0_pullsKept_1 2 rfl rfl)
theorem dX0_pullsKept_27 : decode cX0_pullsKept 27 = .ok (.aload_n 0, 1) := dk_42 (dk_at dksX0_pullsKept_1 3 rfl rfl)
theorem dX0_pullsKept_28 : decode cX0_pullsKept 28 = .ok (.invokevirtual 155, 3) := dk_182 0 155 (dk_at dksX0_pullsKept_1 4 rfl rfl)
theorem dX0_pullsKept_31 : decode cX0_pullsKept 31 = .ok (.iload_n 3, 1) := dk_29 (dk_at dksX0_pullsKept_1 7 rfl rfl)
theorem dX0_pullsKept_32 : decode cX0_pullsKept 32 = .ok (.iload_n 2, 1) := dk_28 (dk_at dksX0_pullsKept_1 8 rfl rfl)
theorem dX0_pullsKept_33 : decode cX0_pullsKept 33 = .ok (.invokevirtual 177, 3) := dk_182 0 177 (dk_at dksX0_pullsKept_1 9 rfl rfl)
theorem dX0_pullsKept_36 : decode cX0_pullsKept 36 = .ok (.iload_n 1, 1) := dk_27 (dk_at dksX0_pullsKept_1 12 rfl rfl)
theorem dX0_pullsKept_37 : decode cX0_pullsKept 37 = .ok (.invokestatic 293, 3) := dk_184 1 37 (dk_at dksX0_pullsKept_1 13 rfl rfl)
theorem dX0_pullsKept_40 : decode cX0_pullsKept 40 = .ok (.ifCond .ne 6, 3) := dk_154 0 6 (dk_at dksX0_pullsKept_1 16 rfl rfl)
theorem dX0_pullsKept_43 : decode cX0_pullsKept 43 = .ok (.bipush (-3), 2) := dk_16 253 (dk_at dksX0_pullsKept_1 19 rfl rfl)
theorem dX0_pullsKept_45 : decode cX0_pullsKept 45 = .ok (.ireturn, 1) := dk_172 (dk_at dksX0_pullsKept_1 21 rfl rfl)
theorem dX0_pullsKept_46 : decode cX0_pullsKept 46 = .ok (.aload_n 0, 1) := dk_42 (dk_at dksX0_pullsKept_1 22 rfl rfl)
theorem dX0_pullsKept_47 : decode cX0_pullsKept 47 = .ok (.iconst 0, 1) := dk_3 (dk_at dksX0_pullsKept_1 23 rfl rfl)
theorem dX0_pullsKept_48 : decode cX0_pullsKept 48 = .ok (.invokevirtual 334, 3) := dk_182 1 78 (dk_at dksX0_pullsKept_2 0 rfl rfl)
theorem dX0_pullsKept_51 : decode cX0_pullsKept 51 = .ok (.aload_n 0, 1) := dk_42 (dk_at dksX0_pullsKept_2 3 rfl rfl)
theorem dX0_pullsKept_52 : decode cX0_pullsKept 52 = .ok (.invokevirtual 155, 3) := dk_182 0 155 (dk_at dksX0_pullsKept_2 4 rfl rfl)
theorem dX0_pullsKept_55 : decode cX0_pullsKept 55 = .ok (.getfield 158, 3) := dk_180 0 158 (dk_at dksX0_pullsKept_2 7 rfl rfl)
theorem dX0_pullsKept_58 : decode cX0_pullsKept 58 = .ok (.bipush 8, 2) := dk_16 8 (dk_at dksX0_pullsKept_2 10 rfl rfl)
theorem dX0_pullsKept_60 : decode cX0_pullsKept 60 = .ok (.iload_n 3, 1) := dk_29 (dk_at dksX0_pullsKept_2 12 rfl rfl)
theorem dX0_pullsKept_61 : decode cX0_pullsKept 61 = .ok (.imul, 1) := dk_104 (dk_at dksX0_pullsKept_2 13 rfl rfl)
theorem dX0_pullsKept_62 : decode cX0_pullsKept 62 = .ok (.iload_n 2, 1) := dk_28 (dk_at dksX0_pullsKept_2 14 rfl rfl)
theorem dX0_pullsKept_63 : decode cX0_pullsKept 63 = .ok (.iadd, 1) := dk_96 (dk_at dksX0_pullsKept_2 15 rfl rfl)
theorem dX0_pullsKept_64 : decode cX0_pullsKept 64 = .ok (.dup2, 1) := dk_92 (dk_at dksX0_pullsKept_2 16 rfl rfl)
theorem dX0_pullsKept_65 : decode cX0_pullsKept 65 = .ok (.iaload, 1) := dk_46 (dk_at dksX0_pullsKept_2 17 rfl rfl)
theorem dX0_pullsKept_66 : decode cX0_pullsKept 66 = .ok (.iconst 1, 1) := dk_4 (dk_at dksX0_pullsKept_2 18 rfl rfl)
theorem dX0_pullsKept_67 : decode cX0_pullsKept 67 = .ok (.iload_n 1, 1) := dk_27 (dk_at dksX0_pullsKept_2 19 rfl rfl)
theorem dX0_pullsKept_68 : decode cX0_pullsKept 68 = .ok (.ishl, 1) := dk_120 (dk_at dksX0_pullsKept_2 20 rfl rfl)
theorem dX0_pullsKept_69 : decode cX0_pullsKept 69 = .ok (.iconst (-1), 1) := dk_2 (dk_at dksX0_pullsKept_2 21 rfl rfl)
theorem dX0_pullsKept_70 : decode cX0_pullsKept 70 = .ok (.ixor, 1) := dk_130 (dk_at dksX0_pullsKept_2 22 rfl rfl)
theorem dX0_pullsKept_71 : decode cX0_pullsKept 71 = .ok (.iand, 1) := dk_126 (dk_at dksX0_pullsKept_2 23 rfl rfl)
theorem dX0_pullsKept_72 : decode cX0_pullsKept 72 = .ok (.iastore, 1) := dk_79 (dk_at dksX0_pullsKept_3 0 rfl rfl)
theorem dX0_pullsKept_73 : decode cX0_pullsKept 73 = .ok (.aload_n 0, 1) := dk_42 (dk_at dksX0_pullsKept_3 1 rfl rfl)
theorem dX0_pullsKept_74 : decode cX0_pullsKept 74 = .ok (.invokevirtual 155, 3) := dk_182 0 155 (dk_at dksX0_pullsKept_3 2 rfl rfl)
theorem dX0_pullsKept_77 : decode cX0_pullsKept 77 = .ok (.iload_n 3, 1) := dk_29 (dk_at dksX0_pullsKept_3 5 rfl rfl)
theorem dX0_pullsKept_78 : decode cX0_pullsKept 78 = .ok (.invokevirtual 181, 3) := dk_182 0 181 (dk_at dksX0_pullsKept_3 6 rfl rfl)
theorem dX0_pullsKept_81 : decode cX0_pullsKept 81 = .ok (.ireturn, 1) := dk_172 (dk_at dksX0_pullsKept_3 9 rfl rfl)
abbrev cX0_keeps : ByteArray := prog_1_method_45_code
def yX0_keeps : MethodName := ⟨RX0, "keeps", "(I)V"⟩
def dkwX0_keeps_4 : List UInt8 := [42, 180, 0, 56, 42, 180, 0, 133, 27, 79, 42, 89, 180, 0, 133, 4, 96, 181, 0, 133, 177]
abbrev dktX0_keeps_4 : List UInt8 := dkwX0_keeps_4 ++ []
def dkwX0_keeps_3 : List UInt8 := [180, 0, 133, 4, 100, 181, 0, 133, 42, 180, 0, 49, 42, 180, 0, 133, 50, 42, 182, 0, 155, 182, 1, 75]
abbrev dktX0_keeps_3 : List UInt8 := dkwX0_keeps_3 ++ dktX0_keeps_4
def dkwX0_keeps_2 : List UInt8 := [180, 0, 56, 29, 46, 79, 132, 3, 1, 167, 255, 219, 42, 180, 0, 49, 16, 15, 44, 83, 42, 89]
abbrev dktX0_keeps_2 : List UInt8 := dkwX0_keeps_2 ++ dktX0_keeps_3
def dkwX0_keeps_1 : List UInt8 := [42, 180, 0, 49, 29, 4, 100, 42, 180, 0, 49, 29, 50, 83, 42, 180, 0, 56, 29, 4, 100, 42]
abbrev dktX0_keeps_1 : List UInt8 := dkwX0_keeps_1 ++ dktX0_keeps_2
def dkwX0_keeps_0 : List UInt8 := [42, 180, 0, 133, 16, 16, 160, 0, 70, 42, 180, 0, 49, 3, 50, 77, 4, 62, 29, 16, 16, 162, 0, 37]
abbrev dktX0_keeps_0 : List UInt8 := dkwX0_keeps_0 ++ dktX0_keeps_1
theorem dksX0_keeps_0 : cX0_keeps.data.toList.drop 0 = dktX0_keeps_0 := by decide +kernel
theorem dksX0_keeps_1 : cX0_keeps.data.toList.drop 24 = dktX0_keeps_1 := dk_seg dksX0_keeps_0 24 rfl rfl
theorem dksX0_keeps_2 : cX0_keeps.data.toList.drop 46 = dktX0_keeps_2 := dk_seg dksX0_keeps_1 22 rfl rfl
theorem dksX0_keeps_3 : cX0_keeps.data.toList.drop 68 = dktX0_keeps_3 := dk_seg dksX0_keeps_2 22 rfl rfl
theorem dksX0_keeps_4 : cX0_keeps.data.toList.drop 92 = dktX0_keeps_4 := dk_seg dksX0_keeps_3 24 rfl rfl
theorem dX0_keeps_0 : decode cX0_keeps 0 = .ok (.aload_n 0, 1) := dk_42 (dk_at dksX0_keeps_0 0 rfl rfl)
theorem dX0_keeps_1 : decode cX0_keeps 1 = .ok (.getfield 133, 3) := dk_180 0 133 (dk_at dksX0_keeps_0 1 rfl rfl)
theorem dX0_keeps_4 : decode cX0_keeps 4 = .ok (.bipush 16, 2) := dk_16 16 (dk_at dksX0_keeps_0 4 rfl rfl)
theorem dX0_keeps_6 : decode cX0_keeps 6 = .ok (.if_icmp .ne 70, 3) := dk_160 0 70 (dk_at dksX0_keeps_0 6 rfl rfl)
theorem dX0_keeps_9 : decode cX0_keeps 9 = .ok (.aload_n 0, 1) := dk_42 (dk_at dksX0_keeps_0 9 rfl rfl)
theorem dX0_keeps_10 : decode cX0_keeps 10 = .ok (.getfield 49, 3) := dk_180 0 49 (dk_at dksX0_keeps_0 10 rfl rfl)
theorem dX0_keeps_13 : decode cX0_keeps 13 = .ok (.iconst 0, 1) := dk_3 (dk_at dksX0_keeps_0 13 rfl rfl)
theorem dX0_keeps_14 : decode cX0_keeps 14 = .ok (.aaload, 1) := dk_50 (dk_at dksX0_keeps_0 14 rfl rfl)
theorem dX0_keeps_15 : decode cX0_keeps 15 = .ok (.astore_n 2, 1) := dk_77 (dk_at dksX0_keeps_0 15 rfl rfl)
theorem dX0_keeps_16 : decode cX0_keeps 16 = .ok (.iconst 1, 1) := dk_4 (dk_at dksX0_keeps_0 16 rfl rfl)
theorem dX0_keeps_17 : decode cX0_keeps 17 = .ok (.istore_n 3, 1) := dk_62 (dk_at dksX0_keeps_0 17 rfl rfl)
theorem dX0_keeps_18 : decode cX0_keeps 18 = .ok (.iload_n 3, 1) := dk_29 (dk_at dksX0_keeps_0 18 rfl rfl)
theorem dX0_keeps_19 : decode cX0_keeps 19 = .ok (.bipush 16, 2) := dk_16 16 (dk_at dksX0_keeps_0 19 rfl rfl)
theorem dX0_keeps_21 : decode cX0_keeps 21 = .ok (.if_icmp .ge 37, 3) := dk_162 0 37 (dk_at dksX0_keeps_0 21 rfl rfl)
theorem dX0_keeps_24 : decode cX0_keeps 24 = .ok (.aload_n 0, 1) := dk_42 (dk_at dksX0_keeps_1 0 rfl rfl)
theorem dX0_keeps_25 : decode cX0_keeps 25 = .ok (.getfield 49, 3) := dk_180 0 49 (dk_at dksX0_keeps_1 1 rfl rfl)
theorem dX0_keeps_28 : decode cX0_keeps 28 = .ok (.iload_n 3, 1) := dk_29 (dk_at dksX0_keeps_1 4 rfl rfl)
theorem dX0_keeps_29 : decode cX0_keeps 29 = .ok (.iconst 1, 1) := dk_4 (dk_at dksX0_keeps_1 5 rfl rfl)
theorem dX0_keeps_30 : decode cX0_keeps 30 = .ok (.isub, 1) := dk_100 (dk_at dksX0_keeps_1 6 rfl rfl)
theorem dX0_keeps_31 : decode cX0_keeps 31 = .ok (.aload_n 0, 1) := dk_42 (dk_at dksX0_keeps_1 7 rfl rfl)
theorem dX0_keeps_32 : decode cX0_keeps 32 = .ok (.getfield 49, 3) := dk_180 0 49 (dk_at dksX0_keeps_1 8 rfl rfl)
theorem dX0_keeps_35 : decode cX0_keeps 35 = .ok (.iload_n 3, 1) := dk_29 (dk_at dksX0_keeps_1 11 rfl rfl)
theorem dX0_keeps_36 : decode cX0_keeps 36 = .ok (.aaload, 1) := dk_50 (dk_at dksX0_keeps_1 12 rfl rfl)
theorem dX0_keeps_37 : decode cX0_keeps 37 = .ok (.aastore, 1) := dk_83 (dk_at dksX0_keeps_1 13 rfl rfl)
theorem dX0_keeps_38 : decode cX0_keeps 38 = .ok (.aload_n 0, 1) := dk_42 (dk_at dksX0_keeps_1 14 rfl rfl)
theorem dX0_keeps_39 : decode cX0_keeps 39 = .ok (.getfield 56, 3) := dk_180 0 56 (dk_at dksX0_keeps_1 15 rfl rfl)
theorem dX0_keeps_42 : decode cX0_keeps 42 = .ok (.iload_n 3, 1) := dk_29 (dk_at dksX0_keeps_1 18 rfl rfl)
theorem dX0_keeps_43 : decode cX0_keeps 43 = .ok (.iconst 1, 1) := dk_4 (dk_at dksX0_keeps_1 19 rfl rfl)
theorem dX0_keeps_44 : decode cX0_keeps 44 = .ok (.isub, 1) := dk_100 (dk_at dksX0_keeps_1 20 rfl rfl)
theorem dX0_keeps_45 : decode cX0_keeps 45 = .ok (.aload_n 0, 1) := dk_42 (dk_at dksX0_keeps_1 21 rfl rfl)
theorem dX0_keeps_46 : decode cX0_keeps 46 = .ok (.getfield 56, 3) := dk_180 0 56 (dk_at dksX0_keeps_2 0 rfl rfl)
theorem dX0_keeps_49 : decode cX0_keeps 49 = .ok (.iload_n 3, 1) := dk_29 (dk_at dksX0_keeps_2 3 rfl rfl)
theorem dX0_keeps_50 : decode cX0_keeps 50 = .ok (.iaload, 1) := dk_46 (dk_at dksX0_keeps_2 4 rfl rfl)
theorem dX0_keeps_51 : decode cX0_keeps 51 = .ok (.iastore, 1) := dk_79 (dk_at dksX0_keeps_2 5 rfl rfl)
theorem dX0_keeps_52 : decode cX0_keeps 52 = .ok (.iinc 3 1, 3) := dk_132 3 1 (dk_at dksX0_keeps_2 6 rfl rfl)
theorem dX0_keeps_55 : decode cX0_keeps 55 = .ok (.goto (-37), 3) := dk_167 255 219 (dk_at dksX0_keeps_2 9 rfl rfl)
theorem dX0_keeps_58 : decode cX0_keeps 58 = .ok (.aload_n 0, 1) := dk_42 (dk_at dksX0_keeps_2 12 rfl rfl)
theorem dX0_keeps_59 : decode cX0_keeps 59 = .ok (.getfield 49, 3) := dk_180 0 49 (dk_at dksX0_keeps_2 13 rfl rfl)
theorem dX0_keeps_62 : decode cX0_keeps 62 = .ok (.bipush 15, 2) := dk_16 15 (dk_at dksX0_keeps_2 16 rfl rfl)
theorem dX0_keeps_64 : decode cX0_keeps 64 = .ok (.aload_n 2, 1) := dk_44 (dk_at dksX0_keeps_2 18 rfl rfl)
theorem dX0_keeps_65 : decode cX0_keeps 65 = .ok (.aastore, 1) := dk_83 (dk_at dksX0_keeps_2 19 rfl rfl)
theorem dX0_keeps_66 : decode cX0_keeps 66 = .ok (.aload_n 0, 1) := dk_42 (dk_at dksX0_keeps_2 20 rfl rfl)
theorem dX0_keeps_67 : decode cX0_keeps 67 = .ok (.dup, 1) := dk_89 (dk_at dksX0_keeps_2 21 rfl rfl)
theorem dX0_keeps_68 : decode cX0_keeps 68 = .ok (.getfield 133, 3) := dk_180 0 133 (dk_at dksX0_keeps_3 0 rfl rfl)
theorem dX0_keeps_71 : decode cX0_keeps 71 = .ok (.iconst 1, 1) := dk_4 (dk_at dksX0_keeps_3 3 rfl rfl)
theorem dX0_keeps_72 : decode cX0_keeps 72 = .ok (.isub, 1) := dk_100 (dk_at dksX0_keeps_3 4 rfl rfl)
theorem dX0_keeps_73 : decode cX0_keeps 73 = .ok (.putfield 133, 3) := dk_181 0 133 (dk_at dksX0_keeps_3 5 rfl rfl)
theorem dX0_keeps_76 : decode cX0_keeps 76 = .ok (.aload_n 0, 1) := dk_42 (dk_at dksX0_keeps_3 8 rfl rfl)
theorem dX0_keeps_77 : decode cX0_keeps 77 = .ok (.getfield 49, 3) := dk_180 0 49 (dk_at dksX0_keeps_3 9 rfl rfl)
theorem dX0_keeps_80 : decode cX0_keeps 80 = .ok (.aload_n 0, 1) := dk_42 (dk_at dksX0_keeps_3 12 rfl rfl)
theorem dX0_keeps_81 : decode cX0_keeps 81 = .ok (.getfield 133, 3) := dk_180 0 133 (dk_at dksX0_keeps_3 13 rfl rfl)
theorem dX0_keeps_84 : decode cX0_keeps 84 = .ok (.aaload, 1) := dk_50 (dk_at dksX0_keeps_3 16 rfl rfl)
theorem dX0_keeps_85 : decode cX0_keeps 85 = .ok (.aload_n 0, 1) := dk_42 (dk_at dksX0_keeps_3 17 rfl rfl)
theorem dX0_keeps_86 : decode cX0_keeps 86 = .ok (.invokevirtual 155, 3) := dk_182 0 155 (dk_at dksX0_keeps_3 18 rfl rfl)
theorem dX0_keeps_89 : decode cX0_keeps 89 = .ok (.invokevirtual 331, 3) := dk_182 1 75 (dk_at dksX0_keeps_3 21 rfl rfl)
theorem dX0_keeps_92 : decode cX0_keeps 92 = .ok (.aload_n 0, 1) := dk_42 (dk_at dksX0_keeps_4 0 rfl rfl)
theorem dX0_keeps_93 : decode cX0_keeps 93 = .ok (.getfield 56, 3) := dk_180 0 56 (dk_at dksX0_keeps_4 1 rfl rfl)
theorem dX0_keeps_96 : decode cX0_keeps 96 = .ok (.aload_n 0, 1) := dk_42 (dk_at dksX0_keeps_4 4 rfl rfl)
theorem dX0_keeps_97 : decode cX0_keeps 97 = .ok (.getfield 133, 3) := dk_180 0 133 (dk_at dksX0_keeps_4 5 rfl rfl)
theorem dX0_keeps_100 : decode cX0_keeps 100 = .ok (.iload_n 1, 1) := dk_27 (dk_at dksX0_keeps_4 8 rfl rfl)
theorem dX0_keeps_101 : decode cX0_keeps 101 = .ok (.iastore, 1) := dk_79 (dk_at dksX0_keeps_4 9 rfl rfl)
theorem dX0_keeps_102 : decode cX0_keeps 102 = .ok (.aload_n 0, 1) := dk_42 (dk_at dksX0_keeps_4 10 rfl rfl)
theorem dX0_keeps_103 : decode cX0_keeps 103 = .ok (.dup, 1) := dk_89 (dk_at dksX0_keeps_4 11 rfl rfl)
theorem dX0_keeps_104 : decode cX0_keeps 104 = .ok (.getfield 133, 3) := dk_180 0 133 (dk_at dksX0_keeps_4 12 rfl rfl)
theorem dX0_keeps_107 : decode cX0_keeps 107 = .ok (.iconst 1, 1) := dk_4 (dk_at dksX0_keeps_4 15 rfl rfl)
theorem dX0_keeps_108 : decode cX0_keeps 108 = .ok (.iadd, 1) := dk_96 (dk_at dksX0_keeps_4 16 rfl rfl)
theorem dX0_keeps_109 : decode cX0_keeps 109 = .ok (.putfield 133, 3) := dk_181 0 133 (dk_at dksX0_keeps_4 17 rfl rfl)
theorem dX0_keeps_112 : decode cX0_keeps 112 = .ok (.return_, 1) := dk_177 (dk_at dksX0_keeps_4 20 rfl rfl)
abbrev cX0_doneOr : ByteArray := prog_1_method_50_code
def yX0_doneOr : MethodName := ⟨RX0, "doneOr", "(I)I"⟩
def dkwX0_doneOr_0 : List UInt8 := [27, 156, 0, 11, 42, 27, 182, 0, 145, 167, 0, 8, 42, 27, 182, 0, 136, 172]
abbrev dktX0_doneOr_0 : List UInt8 := dkwX0_doneOr_0 ++ []
theorem dksX0_doneOr_0 : cX0_doneOr.data.toList.drop 0 = dktX0_doneOr_0 := by decide +kernel
theorem dX0_doneOr_0 : decode cX0_doneOr 0 = .ok (.iload_n 1, 1) := dk_27 (dk_at dksX0_doneOr_0 0 rfl rfl)
theorem dX0_doneOr_1 : decode cX0_doneOr 1 = .ok (.ifCond .ge 11, 3) := dk_156 0 11 (dk_at dksX0_doneOr_0 1 rfl rfl)
theorem dX0_doneOr_4 : decode cX0_doneOr 4 = .ok (.aload_n 0, 1) := dk_42 (dk_at dksX0_doneOr_0 4 rfl rfl)
theorem dX0_doneOr_5 : decode cX0_doneOr 5 = .ok (.iload_n 1, 1) := dk_27 (dk_at dksX0_doneOr_0 5 rfl rfl)
theorem dX0_doneOr_6 : decode cX0_doneOr 6 = .ok (.invokevirtual 145, 3) := dk_182 0 145 (dk_at dksX0_doneOr_0 6 rfl rfl)
theorem dX0_doneOr_9 : decode cX0_doneOr 9 = .ok (.goto 8, 3) := dk_167 0 8 (dk_at dksX0_doneOr_0 9 rfl rfl)
theorem dX0_doneOr_12 : decode cX0_doneOr 12 = .ok (.aload_n 0, 1) := dk_42 (dk_at dksX0_doneOr_0 12 rfl rfl)
theorem dX0_doneOr_13 : decode cX0_doneOr 13 = .ok (.iload_n 1, 1) := dk_27 (dk_at dksX0_doneOr_0 13 rfl rfl)
theorem dX0_doneOr_14 : decode cX0_doneOr 14 = .ok (.invokevirtual 136, 3) := dk_182 0 136 (dk_at dksX0_doneOr_0 14 rfl rfl)
theorem dX0_doneOr_17 : decode cX0_doneOr 17 = .ok (.ireturn, 1) := dk_172 (dk_at dksX0_doneOr_0 17 rfl rfl)
abbrev cX0_snap : ByteArray := prog_1_method_52_code
def yX0_snap : MethodName := ⟨RX0, "snap", "(II)I"⟩
def dkwX0_snap_0 : List UInt8 := [42, 42, 27, 28, 182, 1, 95, 182, 1, 92, 172]
abbrev dktX0_snap_0 : List UInt8 := dkwX0_snap_0 ++ []
theorem dksX0_snap_0 : cX0_snap.data.toList.drop 0 = dktX0_snap_0 := by decide +kernel
theorem dX0_snap_0 : decode cX0_snap 0 = .ok (.aload_n 0, 1) := dk_42 (dk_at dksX0_snap_0 0 rfl rfl)
theorem dX0_snap_1 : decode cX0_snap 1 = .ok (.aload_n 0, 1) := dk_42 (dk_at dksX0_snap_0 1 rfl rfl)
theorem dX0_snap_2 : decode cX0_snap 2 = .ok (.iload_n 1, 1) := dk_27 (dk_at dksX0_snap_0 2 rfl rfl)
theorem dX0_snap_3 : decode cX0_snap 3 = .ok (.iload_n 2, 1) := dk_28 (dk_at dksX0_snap_0 3 rfl rfl)
theorem dX0_snap_4 : decode cX0_snap 4 = .ok (.invokevirtual 351, 3) := dk_182 1 95 (dk_at dksX0_snap_0 4 rfl rfl)
theorem dX0_snap_7 : decode cX0_snap 7 = .ok (.invokevirtual 348, 3) := dk_182 1 92 (dk_at dksX0_snap_0 7 rfl rfl)
theorem dX0_snap_10 : decode cX0_snap 10 = .ok (.ireturn, 1) := dk_172 (dk_at dksX0_snap_0 10 rfl rfl)
abbrev cX0_snapsKept : ByteArray := prog_1_method_47_code
def yX0_snapsKept : MethodName := ⟨RX0, "snapsKept", "(II)I"⟩
def dkwX0_snapsKept_2 : List UInt8 := [180, 0, 161, 28, 92, 46, 4, 27, 120, 128, 79, 42, 182, 0, 155, 28, 182, 0, 181, 172]
abbrev dktX0_snapsKept_2 : List UInt8 := dkwX0_snapsKept_2 ++ []
def dkwX0_snapsKept_1 : List UInt8 := [180, 0, 161, 28, 46, 27, 184, 1, 37, 153, 0, 6, 16, 253, 172, 42, 4, 182, 1, 78, 42, 182, 0, 155]
abbrev dktX0_snapsKept_1 : List UInt8 := dkwX0_snapsKept_1 ++ dktX0_snapsKept_2
def dkwX0_snapsKept_0 : List UInt8 := [27, 184, 0, 201, 154, 0, 5, 2, 172, 42, 28, 182, 0, 173, 154, 0, 6, 16, 254, 172, 42, 182, 0, 155]
abbrev dktX0_snapsKept_0 : List UInt8 := dkwX0_snapsKept_0 ++ dktX0_snapsKept_1
theorem dksX0_snapsKept_0 : cX0_snapsKept.data.toList.drop 0 = dktX0_snapsKept_0 := by decide +kernel
theorem dksX0_snapsKept_1 : cX0_snapsKept.data.toList.drop 24 = dktX0_snapsKept_1 := dk_seg dksX0_snapsKept_0 24 rfl rfl
theorem dksX0_snapsKept_2 : cX0_snapsKept.data.toList.drop 48 = dktX0_snapsKept_2 := dk_seg dksX0_snapsKept_1 24 rfl rfl
theorem dX0_snapsKept_0 : decode cX0_snapsKept 0 = .ok (.iload_n 1, 1) := dk_27 (dk_at dksX0_snapsKept_0 0 rfl rfl)
theorem dX0_snapsKept_1 : decode cX0_snapsKept 1 = .ok (.invokestatic 201, 3) := dk_184 0 201 (dk_at dksX0_snapsKept_0 1 rfl rfl)
theorem dX0_snapsKept_4 : decode cX0_snapsKept 4 = .ok (.ifCond .ne 5, 3) := dk_154 0 5 (dk_at dksX0_snapsKept_0 4 rfl rfl)
theorem dX0_snapsKept_7 : decode cX0_snapsKept 7 = .ok (.iconst (-1), 1) := dk_2 (dk_at dksX0_snapsKept_0 7 rfl rfl)
theorem dX0_snapsKept_8 : decode cX0_snapsKept 8 = .ok (.ireturn, 1) := dk_172 (dk_at dksX0_snapsKept_0 8 rfl rfl)
theorem dX0_snapsKept_9 : decode cX0_snapsKept 9 = .ok (.aload_n 0, 1) := dk_42 (dk_at dksX0_snapsKept_0 9 rfl rfl)
theorem dX0_snapsKept_10 : decode cX0_snapsKept 10 = .ok (.iload_n 2, 1) := dk_28 (dk_at dksX0_snapsKept_0 10 rfl rfl)
theorem dX0_snapsKept_11 : decode cX0_snapsKept 11 = .ok (.invokevirtual 173, 3) := dk_182 0 173 (dk_at dksX0_snapsKept_0 11 rfl rfl)
theorem dX0_snapsKept_14 : decode cX0_snapsKept 14 = .ok (.ifCond .ne 6, 3) := dk_154 0 6 (dk_at dksX0_snapsKept_0 14 rfl rfl)
theorem dX0_snapsKept_17 : decode cX0_snapsKept 17 = .ok (.bipush (-2), 2) := dk_16 254 (dk_at dksX0_snapsKept_0 17 rfl rfl)
theorem dX0_snapsKept_19 : decode cX0_snapsKept 19 = .ok (.ireturn, 1) := dk_172 (dk_at dksX0_snapsKept_0 19 rfl rfl)
theorem dX0_snapsKept_20 : decode cX0_snapsKept 20 = .ok (.aload_n 0, 1) := dk_42 (dk_at dksX0_snapsKept_0 20 rfl rfl)
theorem dX0_snapsKept_21 : decode cX0_snapsKept 21 = .ok (.invokevirtual 155, 3) := dk_182 0 155 (dk_at dksX0_snapsKept_0 21 rfl rfl)
theorem dX0_snapsKept_24 : decode cX0_snapsKept 24 = .ok (.getfield 161, 3) := dk_180 0 161 (dk_at dksX0_snapsKept_1 0 rfl rfl)
theorem dX0_snapsKept_27 : decode cX0_snapsKept 27 = .ok (.iload_n 2, 1) := dk_28 (dk_at dksX0_snapsKept_1 3 rfl rfl)
theorem dX0_snapsKept_28 : decode cX0_snapsKept 28 = .ok (.iaload, 1) := dk_46 (dk_at dksX0_snapsKept_1 4 rfl rfl)
theorem dX0_snapsKept_29 : decode cX0_snapsKept 29 = .ok (.iload_n 1, 1) := dk_27 (dk_at dksX0_snapsKept_1 5 rfl rfl)
theorem dX0_snapsKept_30 : decode cX0_snapsKept 30 = .ok (.invokestatic 293, 3) := dk_184 1 37 (dk_at dksX0_snapsKept_1 6 rfl rfl)
theorem dX0_snapsKept_33 : decode cX0_snapsKept 33 = .ok (.ifCond .eq 6, 3) := dk_153 0 6 (dk_at dksX0_snapsKept_1 9 rfl rfl)
theorem dX0_snapsKept_36 : decode cX0_snapsKept 36 = .ok (.bipush (-3), 2) := dk_16 253 (dk_at dksX0_snapsKept_1 12 rfl rfl)
theorem dX0_snapsKept_38 : decode cX0_snapsKept 38 = .ok (.ireturn, 1) := dk_172 (dk_at dksX0_snapsKept_1 14 rfl rfl)
theorem dX0_snapsKept_39 : decode cX0_snapsKept 39 = .ok (.aload_n 0, 1) := dk_42 (dk_at dksX0_snapsKept_1 15 rfl rfl)
theorem dX0_snapsKept_40 : decode cX0_snapsKept 40 = .ok (.iconst 1, 1) := dk_4 (dk_at dksX0_snapsKept_1 16 rfl rfl)
theorem dX0_snapsKept_41 : decode cX0_snapsKept 41 = .ok (.invokevirtual 334, 3) := dk_182 1 78 (dk_at dksX0_snapsKept_1 17 rfl rfl)
theorem dX0_snapsKept_44 : decode cX0_snapsKept 44 = .ok (.aload_n 0, 1) := dk_42 (dk_at dksX0_snapsKept_1 20 rfl rfl)
theorem dX0_snapsKept_45 : decode cX0_snapsKept 45 = .ok (.invokevirtual 155, 3) := dk_182 0 155 (dk_at dksX0_snapsKept_1 21 rfl rfl)
theorem dX0_snapsKept_48 : decode cX0_snapsKept 48 = .ok (.getfield 161, 3) := dk_180 0 161 (dk_at dksX0_snapsKept_2 0 rfl rfl)
theorem dX0_snapsKept_51 : decode cX0_snapsKept 51 = .ok (.iload_n 2, 1) := dk_28 (dk_at dksX0_snapsKept_2 3 rfl rfl)
theorem dX0_snapsKept_52 : decode cX0_snapsKept 52 = .ok (.dup2, 1) := dk_92 (dk_at dksX0_snapsKept_2 4 rfl rfl)
theorem dX0_snapsKept_53 : decode cX0_snapsKept 53 = .ok (.iaload, 1) := dk_46 (dk_at dksX0_snapsKept_2 5 rfl rfl)
theorem dX0_snapsKept_54 : decode cX0_snapsKept 54 = .ok (.iconst 1, 1) := dk_4 (dk_at dksX0_snapsKept_2 6 rfl rfl)
theorem dX0_snapsKept_55 : decode cX0_snapsKept 55 = .ok (.iload_n 1, 1) := dk_27 (dk_at dksX0_snapsKept_2 7 rfl rfl)
theorem dX0_snapsKept_56 : decode cX0_snapsKept 56 = .ok (.ishl, 1) := dk_120 (dk_at dksX0_snapsKept_2 8 rfl rfl)
theorem dX0_snapsKept_57 : decode cX0_snapsKept 57 = .ok (.ior, 1) := dk_128 (dk_at dksX0_snapsKept_2 9 rfl rfl)
theorem dX0_snapsKept_58 : decode cX0_snapsKept 58 = .ok (.iastore, 1) := dk_79 (dk_at dksX0_snapsKept_2 10 rfl rfl)
theorem dX0_snapsKept_59 : decode cX0_snapsKept 59 = .ok (.aload_n 0, 1) := dk_42 (dk_at dksX0_snapsKept_2 11 rfl rfl)
theorem dX0_snapsKept_60 : decode cX0_snapsKept 60 = .ok (.invokevirtual 155, 3) := dk_182 0 155 (dk_at dksX0_snapsKept_2 12 rfl rfl)
theorem dX0_snapsKept_63 : decode cX0_snapsKept 63 = .ok (.iload_n 2, 1) := dk_28 (dk_at dksX0_snapsKept_2 15 rfl rfl)
theorem dX0_snapsKept_64 : decode cX0_snapsKept 64 = .ok (.invokevirtual 181, 3) := dk_182 0 181 (dk_at dksX0_snapsKept_2 16 rfl rfl)
theorem dX0_snapsKept_67 : decode cX0_snapsKept 67 = .ok (.ireturn, 1) := dk_172 (dk_at dksX0_snapsKept_2 19 rfl rfl)
abbrev cX0_wed : ByteArray := prog_1_method_53_code
def yX0_wed : MethodName := ⟨RX0, "wed", "(II)I"⟩
def dkwX0_wed_0 : List UInt8 := [42, 42, 27, 28, 182, 1, 98, 182, 1, 92, 172]
abbrev dktX0_wed_0 : List UInt8 := dkwX0_wed_0 ++ []
theorem dksX0_wed_0 : cX0_wed.data.toList.drop 0 = dktX0_wed_0 := by decide +kernel
theorem dX0_wed_0 : decode cX0_wed 0 = .ok (.aload_n 0, 1) := dk_42 (dk_at dksX0_wed_0 0 rfl rfl)
theorem dX0_wed_1 : decode cX0_wed 1 = .ok (.aload_n 0, 1) := dk_42 (dk_at dksX0_wed_0 1 rfl rfl)
theorem dX0_wed_2 : decode cX0_wed 2 = .ok (.iload_n 1, 1) := dk_27 (dk_at dksX0_wed_0 2 rfl rfl)
theorem dX0_wed_3 : decode cX0_wed 3 = .ok (.iload_n 2, 1) := dk_28 (dk_at dksX0_wed_0 3 rfl rfl)
theorem dX0_wed_4 : decode cX0_wed 4 = .ok (.invokevirtual 354, 3) := dk_182 1 98 (dk_at dksX0_wed_0 4 rfl rfl)
theorem dX0_wed_7 : decode cX0_wed 7 = .ok (.invokevirtual 348, 3) := dk_182 1 92 (dk_at dksX0_wed_0 7 rfl rfl)
theorem dX0_wed_10 : decode cX0_wed 10 = .ok (.ireturn, 1) := dk_172 (dk_at dksX0_wed_0 10 rfl rfl)
abbrev cX0_wedsKept : ByteArray := prog_1_method_48_code
def yX0_wedsKept : MethodName := ⟨RX0, "wedsKept", "(II)I"⟩
def dkwX0_wedsKept_3 : List UInt8 := [79, 42, 182, 0, 155, 180, 0, 170, 27, 29, 79, 29, 172]
abbrev dktX0_wedsKept_3 : List UInt8 := dkwX0_wedsKept_3 ++ []
def dkwX0_wedsKept_2 : List UInt8 := [153, 0, 7, 29, 154, 0, 6, 16, 253, 172, 42, 5, 182, 1, 78, 42, 182, 0, 155, 180, 0, 167, 27, 28]
abbrev dktX0_wedsKept_2 : List UInt8 := dkwX0_wedsKept_2 ++ dktX0_wedsKept_3
def dkwX0_wedsKept_1 : List UInt8 := [180, 0, 184, 42, 182, 0, 155, 27, 182, 0, 187, 62, 42, 42, 182, 0, 155, 27, 28, 182, 1, 81]
abbrev dktX0_wedsKept_1 : List UInt8 := dkwX0_wedsKept_1 ++ dktX0_wedsKept_2
def dkwX0_wedsKept_0 : List UInt8 := [42, 27, 182, 0, 173, 153, 0, 11, 42, 28, 182, 0, 210, 154, 0, 6, 16, 254, 172, 42, 42, 180, 0, 39]
abbrev dktX0_wedsKept_0 : List UInt8 := dkwX0_wedsKept_0 ++ dktX0_wedsKept_1
theorem dksX0_wedsKept_0 : cX0_wedsKept.data.toList.drop 0 = dktX0_wedsKept_0 := by decide +kernel
theorem dksX0_wedsKept_1 : cX0_wedsKept.data.toList.drop 24 = dktX0_wedsKept_1 := dk_seg dksX0_wedsKept_0 24 rfl rfl
theorem dksX0_wedsKept_2 : cX0_wedsKept.data.toList.drop 46 = dktX0_wedsKept_2 := dk_seg dksX0_wedsKept_1 22 rfl rfl
theorem dksX0_wedsKept_3 : cX0_wedsKept.data.toList.drop 70 = dktX0_wedsKept_3 := dk_seg dksX0_wedsKept_2 24 rfl rfl
theorem dX0_wedsKept_0 : decode cX0_wedsKept 0 = .ok (.aload_n 0, 1) := dk_42 (dk_at dksX0_wedsKept_0 0 rfl rfl)
theorem dX0_wedsKept_1 : decode cX0_wedsKept 1 = .ok (.iload_n 1, 1) := dk_27 (dk_at dksX0_wedsKept_0 1 rfl rfl)
theorem dX0_wedsKept_2 : decode cX0_wedsKept 2 = .ok (.invokevirtual 173, 3) := dk_182 0 173 (dk_at dksX0_wedsKept_0 2 rfl rfl)
theorem dX0_wedsKept_5 : decode cX0_wedsKept 5 = .ok (.ifCond .eq 11, 3) := dk_153 0 11 (dk_at dksX0_wedsKept_0 5 rfl rfl)
theorem dX0_wedsKept_8 : decode cX0_wedsKept 8 = .ok (.aload_n 0, 1) := dk_42 (dk_at dksX0_wedsKept_0 8 rfl rfl)
theorem dX0_wedsKept_9 : decode cX0_wedsKept 9 = .ok (.iload_n 2, 1) := dk_28 (dk_at dksX0_wedsKept_0 9 rfl rfl)
theorem dX0_wedsKept_10 : decode cX0_wedsKept 10 = .ok (.invokevirtual 210, 3) := dk_182 0 210 (dk_at dksX0_wedsKept_0 10 rfl rfl)
theorem dX0_wedsKept_13 : decode cX0_wedsKept 13 = .ok (.ifCond .ne 6, 3) := dk_154 0 6 (dk_at dksX0_wedsKept_0 13 rfl rfl)
theorem dX0_wedsKept_16 : decode cX0_wedsKept 16 = .ok (.bipush (-2), 2) := dk_16 254 (dk_at dksX0_wedsKept_0 16 rfl rfl)
theorem dX0_wedsKept_18 : decode cX0_wedsKept 18 = .ok (.ireturn, 1) := dk_172 (dk_at dksX0_wedsKept_0 18 rfl rfl)
theorem dX0_wedsKept_19 : decode cX0_wedsKept 19 = .ok (.aload_n 0, 1) := dk_42 (dk_at dksX0_wedsKept_0 19 rfl rfl)
theorem dX0_wedsKept_20 : decode cX0_wedsKept 20 = .ok (.aload_n 0, 1) := dk_42 (dk_at dksX0_wedsKept_0 20 rfl rfl)
theorem dX0_wedsKept_21 : decode cX0_wedsKept 21 = .ok (.getfield 39, 3) := dk_180 0 39 (dk_at dksX0_wedsKept_0 21 rfl rfl)
theorem dX0_wedsKept_24 : decode cX0_wedsKept 24 = .ok (.getfield 184, 3) := dk_180 0 184 (dk_at dksX0_wedsKept_1 0 rfl rfl)
theorem dX0_wedsKept_27 : decode cX0_wedsKept 27 = .ok (.aload_n 0, 1) := dk_42 (dk_at dksX0_wedsKept_1 3 rfl rfl)
theorem dX0_wedsKept_28 : decode cX0_wedsKept 28 = .ok (.invokevirtual 155, 3) := dk_182 0 155 (dk_at dksX0_wedsKept_1 4 rfl rfl)
theorem dX0_wedsKept_31 : decode cX0_wedsKept 31 = .ok (.iload_n 1, 1) := dk_27 (dk_at dksX0_wedsKept_1 7 rfl rfl)
theorem dX0_wedsKept_32 : decode cX0_wedsKept 32 = .ok (.invokevirtual 187, 3) := dk_182 0 187 (dk_at dksX0_wedsKept_1 8 rfl rfl)
theorem dX0_wedsKept_35 : decode cX0_wedsKept 35 = .ok (.istore_n 3, 1) := dk_62 (dk_at dksX0_wedsKept_1 11 rfl rfl)
theorem dX0_wedsKept_36 : decode cX0_wedsKept 36 = .ok (.aload_n 0, 1) := dk_42 (dk_at dksX0_wedsKept_1 12 rfl rfl)
theorem dX0_wedsKept_37 : decode cX0_wedsKept 37 = .ok (.aload_n 0, 1) := dk_42 (dk_at dksX0_wedsKept_1 13 rfl rfl)
theorem dX0_wedsKept_38 : decode cX0_wedsKept 38 = .ok (.invokevirtual 155, 3) := dk_182 0 155 (dk_at dksX0_wedsKept_1 14 rfl rfl)
theorem dX0_wedsKept_41 : decode cX0_wedsKept 41 = .ok (.iload_n 1, 1) := dk_27 (dk_at dksX0_wedsKept_1 17 rfl rfl)
theorem dX0_wedsKept_42 : decode cX0_wedsKept 42 = .ok (.iload_n 2, 1) := dk_28 (dk_at dksX0_wedsKept_1 18 rfl rfl)
theorem dX0_wedsKept_43 : decode cX0_wedsKept 43 = .ok (.invokevirtual 337, 3) := dk_182 1 81 (dk_at dksX0_wedsKept_1 19 rfl rfl)
theorem dX0_wedsKept_46 : decode cX0_wedsKept 46 = .ok (.ifCond .eq 7, 3) := dk_153 0 7 (dk_at dksX0_wedsKept_2 0 rfl rfl)
theorem dX0_wedsKept_49 : decode cX0_wedsKept 49 = .ok (.iload_n 3, 1) := dk_29 (dk_at dksX0_wedsKept_2 3 rfl rfl)
theorem dX0_wedsKept_50 : decode cX0_wedsKept 50 = .ok (.ifCond .ne 6, 3) := dk_154 0 6 (dk_at dksX0_wedsKept_2 4 rfl rfl)
theorem dX0_wedsKept_53 : decode cX0_wedsKept 53 = .ok (.bipush (-3), 2) := dk_16 253 (dk_at dksX0_wedsKept_2 7 rfl rfl)
theorem dX0_wedsKept_55 : decode cX0_wedsKept 55 = .ok (.ireturn, 1) := dk_172 (dk_at dksX0_wedsKept_2 9 rfl rfl)
theorem dX0_wedsKept_56 : decode cX0_wedsKept 56 = .ok (.aload_n 0, 1) := dk_42 (dk_at dksX0_wedsKept_2 10 rfl rfl)
theorem dX0_wedsKept_57 : decode cX0_wedsKept 57 = .ok (.iconst 2, 1) := dk_5 (dk_at dksX0_wedsKept_2 11 rfl rfl)
theorem dX0_wedsKept_58 : decode cX0_wedsKept 58 = .ok (.invokevirtual 334, 3) := dk_182 1 78 (dk_at dksX0_wedsKept_2 12 rfl rfl)
theorem dX0_wedsKept_61 : decode cX0_wedsKept 61 = .ok (.aload_n 0, 1) := dk_42 (dk_at dksX0_wedsKept_2 15 rfl rfl)
theorem dX0_wedsKept_62 : decode cX0_wedsKept 62 = .ok (.invokevirtual 155, 3) := dk_182 0 155 (dk_at dksX0_wedsKept_2 16 rfl rfl)
theorem dX0_wedsKept_65 : decode cX0_wedsKept 65 = .ok (.getfield 167, 3) := dk_180 0 167 (dk_at dksX0_wedsKept_2 19 rfl rfl)
theorem dX0_wedsKept_68 : decode cX0_wedsKept 68 = .ok (.iload_n 1, 1) := dk_27 (dk_at dksX0_wedsKept_2 22 rfl rfl)
theorem dX0_wedsKept_69 : decode cX0_wedsKept 69 = .ok (.iload_n 2, 1) := dk_28 (dk_at dksX0_wedsKept_2 23 rfl rfl)
theorem dX0_wedsKept_70 : decode cX0_wedsKept 70 = .ok (.iastore, 1) := dk_79 (dk_at dksX0_wedsKept_3 0 rfl rfl)
theorem dX0_wedsKept_71 : decode cX0_wedsKept 71 = .ok (.aload_n 0, 1) := dk_42 (dk_at dksX0_wedsKept_3 1 rfl rfl)
theorem dX0_wedsKept_72 : decode cX0_wedsKept 72 = .ok (.invokevirtual 155, 3) := dk_182 0 155 (dk_at dksX0_wedsKept_3 2 rfl rfl)
theorem dX0_wedsKept_75 : decode cX0_wedsKept 75 = .ok (.getfield 170, 3) := dk_180 0 170 (dk_at dksX0_wedsKept_3 5 rfl rfl)
theorem dX0_wedsKept_78 : decode cX0_wedsKept 78 = .ok (.iload_n 1, 1) := dk_27 (dk_at dksX0_wedsKept_3 8 rfl rfl)
theorem dX0_wedsKept_79 : decode cX0_wedsKept 79 = .ok (.iload_n 3, 1) := dk_29 (dk_at dksX0_wedsKept_3 9 rfl rfl)
theorem dX0_wedsKept_80 : decode cX0_wedsKept 80 = .ok (.iastore, 1) := dk_79 (dk_at dksX0_wedsKept_3 10 rfl rfl)
theorem dX0_wedsKept_81 : decode cX0_wedsKept 81 = .ok (.iload_n 3, 1) := dk_29 (dk_at dksX0_wedsKept_3 11 rfl rfl)
theorem dX0_wedsKept_82 : decode cX0_wedsKept 82 = .ok (.ireturn, 1) := dk_172 (dk_at dksX0_wedsKept_3 12 rfl rfl)
abbrev cX0_canWed : ByteArray := prog_1_method_43_code
def yX0_canWed : MethodName := ⟨RX0, "canWed", "(LDowryBoxes$Table;II)Z"⟩
def dkwX0_canWed_1 : List UInt8 := [182, 0, 223, 154, 0, 7, 4, 167, 0, 4, 3, 172]
abbrev dktX0_canWed_1 : List UInt8 := dkwX0_canWed_1 ++ []
def dkwX0_canWed_0 : List UInt8 := [43, 28, 182, 1, 70, 154, 0, 27, 42, 43, 29, 182, 0, 213, 2, 160, 0, 17, 42, 43, 28, 29]
abbrev dktX0_canWed_0 : List UInt8 := dkwX0_canWed_0 ++ dktX0_canWed_1
theorem dksX0_canWed_0 : cX0_canWed.data.toList.drop 0 = dktX0_canWed_0 := by decide +kernel
theorem dksX0_canWed_1 : cX0_canWed.data.toList.drop 22 = dktX0_canWed_1 := dk_seg dksX0_canWed_0 22 rfl rfl
theorem dX0_canWed_0 : decode cX0_canWed 0 = .ok (.aload_n 1, 1) := dk_43 (dk_at dksX0_canWed_0 0 rfl rfl)
theorem dX0_canWed_1 : decode cX0_canWed 1 = .ok (.iload_n 2, 1) := dk_28 (dk_at dksX0_canWed_0 1 rfl rfl)
theorem dX0_canWed_2 : decode cX0_canWed 2 = .ok (.invokevirtual 326, 3) := dk_182 1 70 (dk_at dksX0_canWed_0 2 rfl rfl)
theorem dX0_canWed_5 : decode cX0_canWed 5 = .ok (.ifCond .ne 27, 3) := dk_154 0 27 (dk_at dksX0_canWed_0 5 rfl rfl)
theorem dX0_canWed_8 : decode cX0_canWed 8 = .ok (.aload_n 0, 1) := dk_42 (dk_at dksX0_canWed_0 8 rfl rfl)
theorem dX0_canWed_9 : decode cX0_canWed 9 = .ok (.aload_n 1, 1) := dk_43 (dk_at dksX0_canWed_0 9 rfl rfl)
theorem dX0_canWed_10 : decode cX0_canWed 10 = .ok (.iload_n 3, 1) := dk_29 (dk_at dksX0_canWed_0 10 rfl rfl)
theorem dX0_canWed_11 : decode cX0_canWed 11 = .ok (.invokevirtual 213, 3) := dk_182 0 213 (dk_at dksX0_canWed_0 11 rfl rfl)
theorem dX0_canWed_14 : decode cX0_canWed 14 = .ok (.iconst (-1), 1) := dk_2 (dk_at dksX0_canWed_0 14 rfl rfl)
theorem dX0_canWed_15 : decode cX0_canWed 15 = .ok (.if_icmp .ne 17, 3) := dk_160 0 17 (dk_at dksX0_canWed_0 15 rfl rfl)
theorem dX0_canWed_18 : decode cX0_canWed 18 = .ok (.aload_n 0, 1) := dk_42 (dk_at dksX0_canWed_0 18 rfl rfl)
theorem dX0_canWed_19 : decode cX0_canWed 19 = .ok (.aload_n 1, 1) := dk_43 (dk_at dksX0_canWed_0 19 rfl rfl)
theorem dX0_canWed_20 : decode cX0_canWed 20 = .ok (.iload_n 2, 1) := dk_28 (dk_at dksX0_canWed_0 20 rfl rfl)
theorem dX0_canWed_21 : decode cX0_canWed 21 = .ok (.iload_n 3, 1) := dk_29 (dk_at dksX0_canWed_0 21 rfl rfl)
theorem dX0_canWed_22 : decode cX0_canWed 22 = .ok (.invokevirtual 223, 3) := dk_182 0 223 (dk_at dksX0_canWed_1 0 rfl rfl)
theorem dX0_canWed_25 : decode cX0_canWed 25 = .ok (.ifCond .ne 7, 3) := dk_154 0 7 (dk_at dksX0_canWed_1 3 rfl rfl)
theorem dX0_canWed_28 : decode cX0_canWed 28 = .ok (.iconst 1, 1) := dk_4 (dk_at dksX0_canWed_1 6 rfl rfl)
theorem dX0_canWed_29 : decode cX0_canWed 29 = .ok (.goto 4, 3) := dk_167 0 4 (dk_at dksX0_canWed_1 7 rfl rfl)
theorem dX0_canWed_32 : decode cX0_canWed 32 = .ok (.iconst 0, 1) := dk_3 (dk_at dksX0_canWed_1 10 rfl rfl)
theorem dX0_canWed_33 : decode cX0_canWed 33 = .ok (.ireturn, 1) := dk_172 (dk_at dksX0_canWed_1 11 rfl rfl)
abbrev cX0_pass : ByteArray := prog_1_method_54_code
def yX0_pass : MethodName := ⟨RX0, "pass", "()I"⟩
def dkwX0_pass_0 : List UInt8 := [42, 42, 182, 1, 101, 182, 1, 92, 172]
abbrev dktX0_pass_0 : List UInt8 := dkwX0_pass_0 ++ []
theorem dksX0_pass_0 : cX0_pass.data.toList.drop 0 = dktX0_pass_0 := by decide +kernel
theorem dX0_pass_0 : decode cX0_pass 0 = .ok (.aload_n 0, 1) := dk_42 (dk_at dksX0_pass_0 0 rfl rfl)
theorem dX0_pass_1 : decode cX0_pass 1 = .ok (.aload_n 0, 1) := dk_42 (dk_at dksX0_pass_0 1 rfl rfl)
theorem dX0_pass_2 : decode cX0_pass 2 = .ok (.invokevirtual 357, 3) := dk_182 1 101 (dk_at dksX0_pass_0 2 rfl rfl)
theorem dX0_pass_5 : decode cX0_pass 5 = .ok (.invokevirtual 348, 3) := dk_182 1 92 (dk_at dksX0_pass_0 5 rfl rfl)
theorem dX0_pass_8 : decode cX0_pass 8 = .ok (.ireturn, 1) := dk_172 (dk_at dksX0_pass_0 8 rfl rfl)
abbrev cX0_passesKept : ByteArray := prog_1_method_49_code
def yX0_passesKept : MethodName := ⟨RX0, "passesKept", "()I"⟩
def dkwX0_passesKept_1 : List UInt8 := [182, 0, 155, 182, 1, 84, 87, 42, 182, 0, 155, 180, 0, 227, 172]
abbrev dktX0_passesKept_1 : List UInt8 := dkwX0_passesKept_1 ++ []
def dkwX0_passesKept_0 : List UInt8 := [42, 182, 0, 155, 180, 0, 227, 17, 3, 231, 160, 0, 6, 16, 253, 172, 42, 6, 182, 1, 78, 42, 42]
abbrev dktX0_passesKept_0 : List UInt8 := dkwX0_passesKept_0 ++ dktX0_passesKept_1
theorem dksX0_passesKept_0 : cX0_passesKept.data.toList.drop 0 = dktX0_passesKept_0 := by decide +kernel
theorem dksX0_passesKept_1 : cX0_passesKept.data.toList.drop 23 = dktX0_passesKept_1 := dk_seg dksX0_passesKept_0 23 rfl rfl
theorem dX0_passesKept_0 : decode cX0_passesKept 0 = .ok (.aload_n 0, 1) := dk_42 (dk_at dksX0_passesKept_0 0 rfl rfl)
theorem dX0_passesKept_1 : decode cX0_passesKept 1 = .ok (.invokevirtual 155, 3) := dk_182 0 155 (dk_at dksX0_passesKept_0 1 rfl rfl)
theorem dX0_passesKept_4 : decode cX0_passesKept 4 = .ok (.getfield 227, 3) := dk_180 0 227 (dk_at dksX0_passesKept_0 4 rfl rfl)
theorem dX0_passesKept_7 : decode cX0_passesKept 7 = .ok (.sipush 999, 3) := dk_17 3 231 (dk_at dksX0_passesKept_0 7 rfl rfl)
theorem dX0_passesKept_10 : decode cX0_passesKept 10 = .ok (.if_icmp .ne 6, 3) := dk_160 0 6 (dk_at dksX0_passesKept_0 10 rfl rfl)
theorem dX0_passesKept_13 : decode cX0_passesKept 13 = .ok (.bipush (-3), 2) := dk_16 253 (dk_at dksX0_passesKept_0 13 rfl rfl)
theorem dX0_passesKept_15 : decode cX0_passesKept 15 = .ok (.ireturn, 1) := dk_172 (dk_at dksX0_passesKept_0 15 rfl rfl)
theorem dX0_passesKept_16 : decode cX0_passesKept 16 = .ok (.aload_n 0, 1) := dk_42 (dk_at dksX0_passesKept_0 16 rfl rfl)
theorem dX0_passesKept_17 : decode cX0_passesKept 17 = .ok (.iconst 3, 1) := dk_6 (dk_at dksX0_passesKept_0 17 rfl rfl)
theorem dX0_passesKept_18 : decode cX0_passesKept 18 = .ok (.invokevirtual 334, 3) := dk_182 1 78 (dk_at dksX0_passesKept_0 18 rfl rfl)
theorem dX0_passesKept_21 : decode cX0_passesKept 21 = .ok (.aload_n 0, 1) := dk_42 (dk_at dksX0_passesKept_0 21 rfl rfl)
theorem dX0_passesKept_22 : decode cX0_passesKept 22 = .ok (.aload_n 0, 1) := dk_42 (dk_at dksX0_passesKept_0 22 rfl rfl)
theorem dX0_passesKept_23 : decode cX0_passesKept 23 = .ok (.invokevirtual 155, 3) := dk_182 0 155 (dk_at dksX0_passesKept_1 0 rfl rfl)
theorem dX0_passesKept_26 : decode cX0_passesKept 26 = .ok (.invokevirtual 340, 3) := dk_182 1 84 (dk_at dksX0_passesKept_1 3 rfl rfl)
theorem dX0_passesKept_29 : decode cX0_passesKept 29 = .ok (.pop, 1) := dk_87 (dk_at dksX0_passesKept_1 6 rfl rfl)
theorem dX0_passesKept_30 : decode cX0_passesKept 30 = .ok (.aload_n 0, 1) := dk_42 (dk_at dksX0_passesKept_1 7 rfl rfl)
theorem dX0_passesKept_31 : decode cX0_passesKept 31 = .ok (.invokevirtual 155, 3) := dk_182 0 155 (dk_at dksX0_passesKept_1 8 rfl rfl)
theorem dX0_passesKept_34 : decode cX0_passesKept 34 = .ok (.getfield 227, 3) := dk_180 0 227 (dk_at dksX0_passesKept_1 11 rfl rfl)
theorem dX0_passesKept_37 : decode cX0_passesKept 37 = .ok (.ireturn, 1) := dk_172 (dk_at dksX0_passesKept_1 14 rfl rfl)
abbrev cX0_passes : ByteArray := prog_1_method_44_code
def yX0_passes : MethodName := ⟨RX0, "passes", "(LDowryBoxes$Table;)I"⟩
def dkwX0_passes_5 : List UInt8 := [89, 180, 0, 227, 4, 96, 181, 0, 227, 28, 172]
abbrev dktX0_passes_5 : List UInt8 := dkwX0_passes_5 ++ []
def dkwX0_passes_4 : List UInt8 := [46, 158, 0, 6, 167, 0, 13, 43, 180, 0, 167, 29, 2, 79, 132, 2, 1, 132, 3, 1, 167, 255, 176, 43]
abbrev dktX0_passes_4 : List UInt8 := dkwX0_passes_4 ++ dktX0_passes_5
def dkwX0_passes_3 : List UInt8 := [182, 1, 70, 154, 0, 6, 167, 0, 35, 43, 180, 0, 170, 29, 92, 46, 4, 100, 79, 43, 180, 0, 170, 29]
abbrev dktX0_passes_3 : List UInt8 := dkwX0_passes_3 ++ dktX0_passes_4
def dkwX0_passes_2 : List UInt8 := [180, 0, 164, 29, 3, 43, 180, 0, 164, 29, 46, 42, 180, 0, 87, 29, 46, 100, 184, 1, 73, 79, 43, 29]
abbrev dktX0_passes_2 : List UInt8 := dkwX0_passes_2 ++ dktX0_passes_3
def dkwX0_passes_1 : List UInt8 := [79, 132, 2, 1, 167, 255, 230, 3, 61, 3, 62, 29, 42, 180, 0, 39, 180, 0, 139, 162, 0, 75, 43]
abbrev dktX0_passes_1 : List UInt8 := dkwX0_passes_1 ++ dktX0_passes_2
def dkwX0_passes_0 : List UInt8 := [3, 61, 28, 42, 180, 0, 39, 180, 0, 139, 162, 0, 21, 42, 180, 0, 87, 28, 42, 43, 28, 182, 0, 191]
abbrev dktX0_passes_0 : List UInt8 := dkwX0_passes_0 ++ dktX0_passes_1
theorem dksX0_passes_0 : cX0_passes.data.toList.drop 0 = dktX0_passes_0 := by decide +kernel
theorem dksX0_passes_1 : cX0_passes.data.toList.drop 24 = dktX0_passes_1 := dk_seg dksX0_passes_0 24 rfl rfl
theorem dksX0_passes_2 : cX0_passes.data.toList.drop 47 = dktX0_passes_2 := dk_seg dksX0_passes_1 23 rfl rfl
theorem dksX0_passes_3 : cX0_passes.data.toList.drop 71 = dktX0_passes_3 := dk_seg dksX0_passes_2 24 rfl rfl
theorem dksX0_passes_4 : cX0_passes.data.toList.drop 95 = dktX0_passes_4 := dk_seg dksX0_passes_3 24 rfl rfl
theorem dksX0_passes_5 : cX0_passes.data.toList.drop 119 = dktX0_passes_5 := dk_seg dksX0_passes_4 24 rfl rfl
theorem dX0_passes_0 : decode cX0_passes 0 = .ok (.iconst 0, 1) := dk_3 (dk_at dksX0_passes_0 0 rfl rfl)
theorem dX0_passes_1 : decode cX0_passes 1 = .ok (.istore_n 2, 1) := dk_61 (dk_at dksX0_passes_0 1 rfl rfl)
theorem dX0_passes_2 : decode cX0_passes 2 = .ok (.iload_n 2, 1) := dk_28 (dk_at dksX0_passes_0 2 rfl rfl)
theorem dX0_passes_3 : decode cX0_passes 3 = .ok (.aload_n 0, 1) := dk_42 (dk_at dksX0_passes_0 3 rfl rfl)
theorem dX0_passes_4 : decode cX0_passes 4 = .ok (.getfield 39, 3) := dk_180 0 39 (dk_at dksX0_passes_0 4 rfl rfl)
theorem dX0_passes_7 : decode cX0_passes 7 = .ok (.getfield 139, 3) := dk_180 0 139 (dk_at dksX0_passes_0 7 rfl rfl)
theorem dX0_passes_10 : decode cX0_passes 10 = .ok (.if_icmp .ge 21, 3) := dk_162 0 21 (dk_at dksX0_passes_0 10 rfl rfl)
theorem dX0_passes_13 : decode cX0_passes 13 = .ok (.aload_n 0, 1) := dk_42 (dk_at dksX0_passes_0 13 rfl rfl)
theorem dX0_passes_14 : decode cX0_passes 14 = .ok (.getfield 87, 3) := dk_180 0 87 (dk_at dksX0_passes_0 14 rfl rfl)
theorem dX0_passes_17 : decode cX0_passes 17 = .ok (.iload_n 2, 1) := dk_28 (dk_at dksX0_passes_0 17 rfl rfl)
theorem dX0_passes_18 : decode cX0_passes 18 = .ok (.aload_n 0, 1) := dk_42 (dk_at dksX0_passes_0 18 rfl rfl)
theorem dX0_passes_19 : decode cX0_passes 19 = .ok (.aload_n 1, 1) := dk_43 (dk_at dksX0_passes_0 19 rfl rfl)
theorem dX0_passes_20 : decode cX0_passes 20 = .ok (.iload_n 2, 1) := dk_28 (dk_at dksX0_passes_0 20 rfl rfl)
theorem dX0_passes_21 : decode cX0_passes 21 = .ok (.invokevirtual 191, 3) := dk_182 0 191 (dk_at dksX0_passes_0 21 rfl rfl)
theorem dX0_passes_24 : decode cX0_passes 24 = .ok (.iastore, 1) := dk_79 (dk_at dksX0_passes_1 0 rfl rfl)
theorem dX0_passes_25 : decode cX0_passes 25 = .ok (.iinc 2 1, 3) := dk_132 2 1 (dk_at dksX0_passes_1 1 rfl rfl)
theorem dX0_passes_28 : decode cX0_passes 28 = .ok (.goto (-26), 3) := dk_167 255 230 (dk_at dksX0_passes_1 4 rfl rfl)
theorem dX0_passes_31 : decode cX0_passes 31 = .ok (.iconst 0, 1) := dk_3 (dk_at dksX0_passes_1 7 rfl rfl)
theorem dX0_passes_32 : decode cX0_passes 32 = .ok (.istore_n 2, 1) := dk_61 (dk_at dksX0_passes_1 8 rfl rfl)
theorem dX0_passes_33 : decode cX0_passes 33 = .ok (.iconst 0, 1) := dk_3 (dk_at dksX0_passes_1 9 rfl rfl)
theorem dX0_passes_34 : decode cX0_passes 34 = .ok (.istore_n 3, 1) := dk_62 (dk_at dksX0_passes_1 10 rfl rfl)
theorem dX0_passes_35 : decode cX0_passes 35 = .ok (.iload_n 3, 1) := dk_29 (dk_at dksX0_passes_1 11 rfl rfl)
theorem dX0_passes_36 : decode cX0_passes 36 = .ok (.aload_n 0, 1) := dk_42 (dk_at dksX0_passes_1 12 rfl rfl)
theorem dX0_passes_37 : decode cX0_passes 37 = .ok (.getfield 39, 3) := dk_180 0 39 (dk_at dksX0_passes_1 13 rfl rfl)
theorem dX0_passes_40 : decode cX0_passes 40 = .ok (.getfield 139, 3) := dk_180 0 139 (dk_at dksX0_passes_1 16 rfl rfl)
theorem dX0_passes_43 : decode cX0_passes 43 = .ok (.if_icmp .ge 75, 3) := dk_162 0 75 (dk_at dksX0_passes_1 19 rfl rfl)
theorem dX0_passes_46 : decode cX0_passes 46 = .ok (.aload_n 1, 1) := dk_43 (dk_at dksX0_passes_1 22 rfl rfl)
theorem dX0_passes_47 : decode cX0_passes 47 = .ok (.getfield 164, 3) := dk_180 0 164 (dk_at dksX0_passes_2 0 rfl rfl)
theorem dX0_passes_50 : decode cX0_passes 50 = .ok (.iload_n 3, 1) := dk_29 (dk_at dksX0_passes_2 3 rfl rfl)
theorem dX0_passes_51 : decode cX0_passes 51 = .ok (.iconst 0, 1) := dk_3 (dk_at dksX0_passes_2 4 rfl rfl)
theorem dX0_passes_52 : decode cX0_passes 52 = .ok (.aload_n 1, 1) := dk_43 (dk_at dksX0_passes_2 5 rfl rfl)
theorem dX0_passes_53 : decode cX0_passes 53 = .ok (.getfield 164, 3) := dk_180 0 164 (dk_at dksX0_passes_2 6 rfl rfl)
theorem dX0_passes_56 : decode cX0_passes 56 = .ok (.iload_n 3, 1) := dk_29 (dk_at dksX0_passes_2 9 rfl rfl)
theorem dX0_passes_57 : decode cX0_passes 57 = .ok (.iaload, 1) := dk_46 (dk_at dksX0_passes_2 10 rfl rfl)
theorem dX0_passes_58 : decode cX0_passes 58 = .ok (.aload_n 0, 1) := dk_42 (dk_at dksX0_passes_2 11 rfl rfl)
theorem dX0_passes_59 : decode cX0_passes 59 = .ok (.getfield 87, 3) := dk_180 0 87 (dk_at dksX0_passes_2 12 rfl rfl)
theorem dX0_passes_62 : decode cX0_passes 62 = .ok (.iload_n 3, 1) := dk_29 (dk_at dksX0_passes_2 15 rfl rfl)
theorem dX0_passes_63 : decode cX0_passes 63 = .ok (.iaload, 1) := dk_46 (dk_at dksX0_passes_2 16 rfl rfl)
theorem dX0_passes_64 : decode cX0_passes 64 = .ok (.isub, 1) := dk_100 (dk_at dksX0_passes_2 17 rfl rfl)
theorem dX0_passes_65 : decode cX0_passes 65 = .ok (.invokestatic 329, 3) := dk_184 1 73 (dk_at dksX0_passes_2 18 rfl rfl)
theorem dX0_passes_68 : decode cX0_passes 68 = .ok (.iastore, 1) := dk_79 (dk_at dksX0_passes_2 21 rfl rfl)
theorem dX0_passes_69 : decode cX0_passes 69 = .ok (.aload_n 1, 1) := dk_43 (dk_at dksX0_passes_2 22 rfl rfl)
theorem dX0_passes_70 : decode cX0_passes 70 = .ok (.iload_n 3, 1) := dk_29 (dk_at dksX0_passes_2 23 rfl rfl)
theorem dX0_passes_71 : decode cX0_passes 71 = .ok (.invokevirtual 326, 3) := dk_182 1 70 (dk_at dksX0_passes_3 0 rfl rfl)
theorem dX0_passes_74 : decode cX0_passes 74 = .ok (.ifCond .ne 6, 3) := dk_154 0 6 (dk_at dksX0_passes_3 3 rfl rfl)
theorem dX0_passes_77 : decode cX0_passes 77 = .ok (.goto 35, 3) := dk_167 0 35 (dk_at dksX0_passes_3 6 rfl rfl)
theorem dX0_passes_80 : decode cX0_passes 80 = .ok (.aload_n 1, 1) := dk_43 (dk_at dksX0_passes_3 9 rfl rfl)
theorem dX0_passes_81 : decode cX0_passes 81 = .ok (.getfield 170, 3) := dk_180 0 170 (dk_at dksX0_passes_3 10 rfl rfl)
theorem dX0_passes_84 : decode cX0_passes 84 = .ok (.iload_n 3, 1) := dk_29 (dk_at dksX0_passes_3 13 rfl rfl)
theorem dX0_passes_85 : decode cX0_passes 85 = .ok (.dup2, 1) := dk_92 (dk_at dksX0_passes_3 14 rfl rfl)
theorem dX0_passes_86 : decode cX0_passes 86 = .ok (.iaload, 1) := dk_46 (dk_at dksX0_passes_3 15 rfl rfl)
theorem dX0_passes_87 : decode cX0_passes 87 = .ok (.iconst 1, 1) := dk_4 (dk_at dksX0_passes_3 16 rfl rfl)
theorem dX0_passes_88 : decode cX0_passes 88 = .ok (.isub, 1) := dk_100 (dk_at dksX0_passes_3 17 rfl rfl)
theorem dX0_passes_89 : decode cX0_passes 89 = .ok (.iastore, 1) := dk_79 (dk_at dksX0_passes_3 18 rfl rfl)
theorem dX0_passes_90 : decode cX0_passes 90 = .ok (.aload_n 1, 1) := dk_43 (dk_at dksX0_passes_3 19 rfl rfl)
theorem dX0_passes_91 : decode cX0_passes 91 = .ok (.getfield 170, 3) := dk_180 0 170 (dk_at dksX0_passes_3 20 rfl rfl)
theorem dX0_passes_94 : decode cX0_passes 94 = .ok (.iload_n 3, 1) := dk_29 (dk_at dksX0_passes_3 23 rfl rfl)
theorem dX0_passes_95 : decode cX0_passes 95 = .ok (.iaload, 1) := dk_46 (dk_at dksX0_passes_4 0 rfl rfl)
theorem dX0_passes_96 : decode cX0_passes 96 = .ok (.ifCond .le 6, 3) := dk_158 0 6 (dk_at dksX0_passes_4 1 rfl rfl)
theorem dX0_passes_99 : decode cX0_passes 99 = .ok (.goto 13, 3) := dk_167 0 13 (dk_at dksX0_passes_4 4 rfl rfl)
theorem dX0_passes_102 : decode cX0_passes 102 = .ok (.aload_n 1, 1) := dk_43 (dk_at dksX0_passes_4 7 rfl rfl)
theorem dX0_passes_103 : decode cX0_passes 103 = .ok (.getfield 167, 3) := dk_180 0 167 (dk_at dksX0_passes_4 8 rfl rfl)
theorem dX0_passes_106 : decode cX0_passes 106 = .ok (.iload_n 3, 1) := dk_29 (dk_at dksX0_passes_4 11 rfl rfl)
theorem dX0_passes_107 : decode cX0_passes 107 = .ok (.iconst (-1), 1) := dk_2 (dk_at dksX0_passes_4 12 rfl rfl)
theorem dX0_passes_108 : decode cX0_passes 108 = .ok (.iastore, 1) := dk_79 (dk_at dksX0_passes_4 13 rfl rfl)
theorem dX0_passes_109 : decode cX0_passes 109 = .ok (.iinc 2 1, 3) := dk_132 2 1 (dk_at dksX0_passes_4 14 rfl rfl)
theorem dX0_passes_112 : decode cX0_passes 112 = .ok (.iinc 3 1, 3) := dk_132 3 1 (dk_at dksX0_passes_4 17 rfl rfl)
theorem dX0_passes_115 : decode cX0_passes 115 = .ok (.goto (-80), 3) := dk_167 255 176 (dk_at dksX0_passes_4 20 rfl rfl)
theorem dX0_passes_118 : decode cX0_passes 118 = .ok (.aload_n 1, 1) := dk_43 (dk_at dksX0_passes_4 23 rfl rfl)
theorem dX0_passes_119 : decode cX0_passes 119 = .ok (.dup, 1) := dk_89 (dk_at dksX0_passes_5 0 rfl rfl)
theorem dX0_passes_120 : decode cX0_passes 120 = .ok (.getfield 227, 3) := dk_180 0 227 (dk_at dksX0_passes_5 1 rfl rfl)
theorem dX0_passes_123 : decode cX0_passes 123 = .ok (.iconst 1, 1) := dk_4 (dk_at dksX0_passes_5 4 rfl rfl)
theorem dX0_passes_124 : decode cX0_passes 124 = .ok (.iadd, 1) := dk_96 (dk_at dksX0_passes_5 5 rfl rfl)
theorem dX0_passes_125 : decode cX0_passes 125 = .ok (.putfield 227, 3) := dk_181 0 227 (dk_at dksX0_passes_5 6 rfl rfl)
theorem dX0_passes_128 : decode cX0_passes 128 = .ok (.iload_n 2, 1) := dk_28 (dk_at dksX0_passes_5 9 rfl rfl)
theorem dX0_passes_129 : decode cX0_passes 129 = .ok (.ireturn, 1) := dk_172 (dk_at dksX0_passes_5 10 rfl rfl)
abbrev cX0_undo : ByteArray := prog_1_method_55_code
def yX0_undo : MethodName := ⟨RX0, "undo", "()I"⟩
def dkwX0_undo_2 : List UInt8 := [180, 0, 133, 46, 182, 0, 136, 172]
abbrev dktX0_undo_2 : List UInt8 := dkwX0_undo_2 ++ []
def dkwX0_undo_1 : List UInt8 := [42, 182, 0, 155, 42, 180, 0, 49, 42, 180, 0, 133, 50, 182, 1, 75, 42, 42, 180, 0, 56, 42]
abbrev dktX0_undo_1 : List UInt8 := dkwX0_undo_1 ++ dktX0_undo_2
def dkwX0_undo_0 : List UInt8 := [42, 180, 0, 133, 154, 0, 10, 42, 16, 253, 182, 0, 145, 172, 42, 89, 180, 0, 133, 4, 100, 181, 0, 133]
abbrev dktX0_undo_0 : List UInt8 := dkwX0_undo_0 ++ dktX0_undo_1
theorem dksX0_undo_0 : cX0_undo.data.toList.drop 0 = dktX0_undo_0 := by decide +kernel
theorem dksX0_undo_1 : cX0_undo.data.toList.drop 24 = dktX0_undo_1 := dk_seg dksX0_undo_0 24 rfl rfl
theorem dksX0_undo_2 : cX0_undo.data.toList.drop 46 = dktX0_undo_2 := dk_seg dksX0_undo_1 22 rfl rfl
theorem dX0_undo_0 : decode cX0_undo 0 = .ok (.aload_n 0, 1) := dk_42 (dk_at dksX0_undo_0 0 rfl rfl)
theorem dX0_undo_1 : decode cX0_undo 1 = .ok (.getfield 133, 3) := dk_180 0 133 (dk_at dksX0_undo_0 1 rfl rfl)
theorem dX0_undo_4 : decode cX0_undo 4 = .ok (.ifCond .ne 10, 3) := dk_154 0 10 (dk_at dksX0_undo_0 4 rfl rfl)
theorem dX0_undo_7 : decode cX0_undo 7 = .ok (.aload_n 0, 1) := dk_42 (dk_at dksX0_undo_0 7 rfl rfl)
theorem dX0_undo_8 : decode cX0_undo 8 = .ok (.bipush (-3), 2) := dk_16 253 (dk_at dksX0_undo_0 8 rfl rfl)
theorem dX0_undo_10 : decode cX0_undo 10 = .ok (.invokevirtual 145, 3) := dk_182 0 145 (dk_at dksX0_undo_0 10 rfl rfl)
theorem dX0_undo_13 : decode cX0_undo 13 = .ok (.ireturn, 1) := dk_172 (dk_at dksX0_undo_0 13 rfl rfl)
theorem dX0_undo_14 : decode cX0_undo 14 = .ok (.aload_n 0, 1) := dk_42 (dk_at dksX0_undo_0 14 rfl rfl)
theorem dX0_undo_15 : decode cX0_undo 15 = .ok (.dup, 1) := dk_89 (dk_at dksX0_undo_0 15 rfl rfl)
theorem dX0_undo_16 : decode cX0_undo 16 = .ok (.getfield 133, 3) := dk_180 0 133 (dk_at dksX0_undo_0 16 rfl rfl)
theorem dX0_undo_19 : decode cX0_undo 19 = .ok (.iconst 1, 1) := dk_4 (dk_at dksX0_undo_0 19 rfl rfl)
theorem dX0_undo_20 : decode cX0_undo 20 = .ok (.isub, 1) := dk_100 (dk_at dksX0_undo_0 20 rfl rfl)
theorem dX0_undo_21 : decode cX0_undo 21 = .ok (.putfield 133, 3) := dk_181 0 133 (dk_at dksX0_undo_0 21 rfl rfl)
theorem dX0_undo_24 : decode cX0_undo 24 = .ok (.aload_n 0, 1) := dk_42 (dk_at dksX0_undo_1 0 rfl rfl)
theorem dX0_undo_25 : decode cX0_undo 25 = .ok (.invokevirtual 155, 3) := dk_182 0 155 (dk_at dksX0_undo_1 1 rfl rfl)
theorem dX0_undo_28 : decode cX0_undo 28 = .ok (.aload_n 0, 1) := dk_42 (dk_at dksX0_undo_1 4 rfl rfl)
theorem dX0_undo_29 : decode cX0_undo 29 = .ok (.getfield 49, 3) := dk_180 0 49 (dk_at dksX0_undo_1 5 rfl rfl)
theorem dX0_undo_32 : decode cX0_undo 32 = .ok (.aload_n 0, 1) := dk_42 (dk_at dksX0_undo_1 8 rfl rfl)
theorem dX0_undo_33 : decode cX0_undo 33 = .ok (.getfield 133, 3) := dk_180 0 133 (dk_at dksX0_undo_1 9 rfl rfl)
theorem dX0_undo_36 : decode cX0_undo 36 = .ok (.aaload, 1) := dk_50 (dk_at dksX0_undo_1 12 rfl rfl)
theorem dX0_undo_37 : decode cX0_undo 37 = .ok (.invokevirtual 331, 3) := dk_182 1 75 (dk_at dksX0_undo_1 13 rfl rfl)
theorem dX0_undo_40 : decode cX0_undo 40 = .ok (.aload_n 0, 1) := dk_42 (dk_at dksX0_undo_1 16 rfl rfl)
theorem dX0_undo_41 : decode cX0_undo 41 = .ok (.aload_n 0, 1) := dk_42 (dk_at dksX0_undo_1 17 rfl rfl)
theorem dX0_undo_42 : decode cX0_undo 42 = .ok (.getfield 56, 3) := dk_180 0 56 (dk_at dksX0_undo_1 18 rfl rfl)
theorem dX0_undo_45 : decode cX0_undo 45 = .ok (.aload_n 0, 1) := dk_42 (dk_at dksX0_undo_1 21 rfl rfl)
theorem dX0_undo_46 : decode cX0_undo 46 = .ok (.getfield 133, 3) := dk_180 0 133 (dk_at dksX0_undo_2 0 rfl rfl)
theorem dX0_undo_49 : decode cX0_undo 49 = .ok (.iaload, 1) := dk_46 (dk_at dksX0_undo_2 3 rfl rfl)
theorem dX0_undo_50 : decode cX0_undo 50 = .ok (.invokevirtual 136, 3) := dk_182 0 136 (dk_at dksX0_undo_2 4 rfl rfl)
theorem dX0_undo_53 : decode cX0_undo 53 = .ok (.ireturn, 1) := dk_172 (dk_at dksX0_undo_2 7 rfl rfl)
abbrev cX0_hear : ByteArray := prog_1_method_56_code
def yX0_hear : MethodName := ⟨RX0, "hear", "(III)I"⟩
def dkwX0_hear_5 : List UInt8 := [182, 0, 136, 172]
abbrev dktX0_hear_5 : List UInt8 := dkwX0_hear_5 ++ []
def dkwX0_hear_4 : List UInt8 := [79, 42, 180, 0, 39, 89, 180, 1, 104, 4, 96, 181, 1, 104, 42, 42, 180, 0, 39, 180, 1, 104]
abbrev dktX0_hear_4 : List UInt8 := dkwX0_hear_4 ++ dktX0_hear_5
def dkwX0_hear_3 : List UInt8 := [180, 0, 39, 180, 1, 107, 21, 4, 4, 96, 28, 79, 42, 180, 0, 39, 180, 1, 107, 21, 4, 5, 96, 29]
abbrev dktX0_hear_3 : List UInt8 := dkwX0_hear_3 ++ dktX0_hear_4
def dkwX0_hear_2 : List UInt8 := [6, 42, 180, 0, 39, 180, 1, 104, 104, 54, 4, 42, 180, 0, 39, 180, 1, 107, 21, 4, 27, 79, 42]
abbrev dktX0_hear_2 : List UInt8 := dkwX0_hear_2 ++ dktX0_hear_3
def dkwX0_hear_1 : List UInt8 := [2, 182, 0, 145, 172, 42, 180, 0, 39, 180, 1, 104, 16, 8, 160, 0, 10, 42, 16, 251, 182, 0, 145, 172]
abbrev dktX0_hear_1 : List UInt8 := dkwX0_hear_1 ++ dktX0_hear_2
def dkwX0_hear_0 : List UInt8 := [27, 184, 0, 195, 153, 0, 19, 28, 184, 0, 201, 153, 0, 12, 29, 3, 4, 184, 0, 26, 154, 0, 9, 42]
abbrev dktX0_hear_0 : List UInt8 := dkwX0_hear_0 ++ dktX0_hear_1
theorem dksX0_hear_0 : cX0_hear.data.toList.drop 0 = dktX0_hear_0 := by decide +kernel
theorem dksX0_hear_1 : cX0_hear.data.toList.drop 24 = dktX0_hear_1 := dk_seg dksX0_hear_0 24 rfl rfl
theorem dksX0_hear_2 : cX0_hear.data.toList.drop 48 = dktX0_hear_2 := dk_seg dksX0_hear_1 24 rfl rfl
theorem dksX0_hear_3 : cX0_hear.data.toList.drop 71 = dktX0_hear_3 := dk_seg dksX0_hear_2 23 rfl rfl
theorem dksX0_hear_4 : cX0_hear.data.toList.drop 95 = dktX0_hear_4 := dk_seg dksX0_hear_3 24 rfl rfl
theorem dksX0_hear_5 : cX0_hear.data.toList.drop 117 = dktX0_hear_5 := dk_seg dksX0_hear_4 22 rfl rfl
theorem dX0_hear_0 : decode cX0_hear 0 = .ok (.iload_n 1, 1) := dk_27 (dk_at dksX0_hear_0 0 rfl rfl)
theorem dX0_hear_1 : decode cX0_hear 1 = .ok (.invokestatic 195, 3) := dk_184 0 195 (dk_at dksX0_hear_0 1 rfl rfl)
theorem dX0_hear_4 : decode cX0_hear 4 = .ok (.ifCond .eq 19, 3) := dk_153 0 19 (dk_at dksX0_hear_0 4 rfl rfl)
theorem dX0_hear_7 : decode cX0_hear 7 = .ok (.iload_n 2, 1) := dk_28 (dk_at dksX0_hear_0 7 rfl rfl)
theorem dX0_hear_8 : decode cX0_hear 8 = .ok (.invokestatic 201, 3) := dk_184 0 201 (dk_at dksX0_hear_0 8 rfl rfl)
theorem dX0_hear_11 : decode cX0_hear 11 = .ok (.ifCond .eq 12, 3) := dk_153 0 12 (dk_at dksX0_hear_0 11 rfl rfl)
theorem dX0_hear_14 : decode cX0_hear 14 = .ok (.iload_n 3, 1) := dk_29 (dk_at dksX0_hear_0 14 rfl rfl)
theorem dX0_hear_15 : decode cX0_hear 15 = .ok (.iconst 0, 1) := dk_3 (dk_at dksX0_hear_0 15 rfl rfl)
theorem dX0_hear_16 : decode cX0_hear 16 = .ok (.iconst 1, 1) := dk_4 (dk_at dksX0_hear_0 16 rfl rfl)
theorem dX0_hear_17 : decode cX0_hear 17 = .ok (.invokestatic 26, 3) := dk_184 0 26 (dk_at dksX0_hear_0 17 rfl rfl)
theorem dX0_hear_20 : decode cX0_hear 20 = .ok (.ifCond .ne 9, 3) := dk_154 0 9 (dk_at dksX0_hear_0 20 rfl rfl)
theorem dX0_hear_23 : decode cX0_hear 23 = .ok (.aload_n 0, 1) := dk_42 (dk_at dksX0_hear_0 23 rfl rfl)
theorem dX0_hear_24 : decode cX0_hear 24 = .ok (.iconst (-1), 1) := dk_2 (dk_at dksX0_hear_1 0 rfl rfl)
theorem dX0_hear_25 : decode cX0_hear 25 = .ok (.invokevirtual 145, 3) := dk_182 0 145 (dk_at dksX0_hear_1 1 rfl rfl)
theorem dX0_hear_28 : decode cX0_hear 28 = .ok (.ireturn, 1) := dk_172 (dk_at dksX0_hear_1 4 rfl rfl)
theorem dX0_hear_29 : decode cX0_hear 29 = .ok (.aload_n 0, 1) := dk_42 (dk_at dksX0_hear_1 5 rfl rfl)
theorem dX0_hear_30 : decode cX0_hear 30 = .ok (.getfield 39, 3) := dk_180 0 39 (dk_at dksX0_hear_1 6 rfl rfl)
theorem dX0_hear_33 : decode cX0_hear 33 = .ok (.getfield 360, 3) := dk_180 1 104 (dk_at dksX0_hear_1 9 rfl rfl)
theorem dX0_hear_36 : decode cX0_hear 36 = .ok (.bipush 8, 2) := dk_16 8 (dk_at dksX0_hear_1 12 rfl rfl)
theorem dX0_hear_38 : decode cX0_hear 38 = .ok (.if_icmp .ne 10, 3) := dk_160 0 10 (dk_at dksX0_hear_1 14 rfl rfl)
theorem dX0_hear_41 : decode cX0_hear 41 = .ok (.aload_n 0, 1) := dk_42 (dk_at dksX0_hear_1 17 rfl rfl)
theorem dX0_hear_42 : decode cX0_hear 42 = .ok (.bipush (-5), 2) := dk_16 251 (dk_at dksX0_hear_1 18 rfl rfl)
theorem dX0_hear_44 : decode cX0_hear 44 = .ok (.invokevirtual 145, 3) := dk_182 0 145 (dk_at dksX0_hear_1 20 rfl rfl)
theorem dX0_hear_47 : decode cX0_hear 47 = .ok (.ireturn, 1) := dk_172 (dk_at dksX0_hear_1 23 rfl rfl)
theorem dX0_hear_48 : decode cX0_hear 48 = .ok (.iconst 3, 1) := dk_6 (dk_at dksX0_hear_2 0 rfl rfl)
theorem dX0_hear_49 : decode cX0_hear 49 = .ok (.aload_n 0, 1) := dk_42 (dk_at dksX0_hear_2 1 rfl rfl)
theorem dX0_hear_50 : decode cX0_hear 50 = .ok (.getfield 39, 3) := dk_180 0 39 (dk_at dksX0_hear_2 2 rfl rfl)
theorem dX0_hear_53 : decode cX0_hear 53 = .ok (.getfield 360, 3) := dk_180 1 104 (dk_at dksX0_hear_2 5 rfl rfl)
theorem dX0_hear_56 : decode cX0_hear 56 = .ok (.imul, 1) := dk_104 (dk_at dksX0_hear_2 8 rfl rfl)
theorem dX0_hear_57 : decode cX0_hear 57 = .ok (.istore 4, 2) := dk_54 4 (dk_at dksX0_hear_2 9 rfl rfl)
theorem dX0_hear_59 : decode cX0_hear 59 = .ok (.aload_n 0, 1) := dk_42 (dk_at dksX0_hear_2 11 rfl rfl)
theorem dX0_hear_60 : decode cX0_hear 60 = .ok (.getfield 39, 3) := dk_180 0 39 (dk_at dksX0_hear_2 12 rfl rfl)
theorem dX0_hear_63 : decode cX0_hear 63 = .ok (.getfield 363, 3) := dk_180 1 107 (dk_at dksX0_hear_2 15 rfl rfl)
theorem dX0_hear_66 : decode cX0_hear 66 = .ok (.iload 4, 2) := dk_21 4 (dk_at dksX0_hear_2 18 rfl rfl)
theorem dX0_hear_68 : decode cX0_hear 68 = .ok (.iload_n 1, 1) := dk_27 (dk_at dksX0_hear_2 20 rfl rfl)
theorem dX0_hear_69 : decode cX0_hear 69 = .ok (.iastore, 1) := dk_79 (dk_at dksX0_hear_2 21 rfl rfl)
theorem dX0_hear_70 : decode cX0_hear 70 = .ok (.aload_n 0, 1) := dk_42 (dk_at dksX0_hear_2 22 rfl rfl)
theorem dX0_hear_71 : decode cX0_hear 71 = .ok (.getfield 39, 3) := dk_180 0 39 (dk_at dksX0_hear_3 0 rfl rfl)
theorem dX0_hear_74 : decode cX0_hear 74 = .ok (.getfield 363, 3) := dk_180 1 107 (dk_at dksX0_hear_3 3 rfl rfl)
theorem dX0_hear_77 : decode cX0_hear 77 = .ok (.iload 4, 2) := dk_21 4 (dk_at dksX0_hear_3 6 rfl rfl)
theorem dX0_hear_79 : decode cX0_hear 79 = .ok (.iconst 1, 1) := dk_4 (dk_at dksX0_hear_3 8 rfl rfl)
theorem dX0_hear_80 : decode cX0_hear 80 = .ok (.iadd, 1) := dk_96 (dk_at dksX0_hear_3 9 rfl rfl)
theorem dX0_hear_81 : decode cX0_hear 81 = .ok (.iload_n 2, 1) := dk_28 (dk_at dksX0_hear_3 10 rfl rfl)
theorem dX0_hear_82 : decode cX0_hear 82 = .ok (.iastore, 1) := dk_79 (dk_at dksX0_hear_3 11 rfl rfl)
theorem dX0_hear_83 : decode cX0_hear 83 = .ok (.aload_n 0, 1) := dk_42 (dk_at dksX0_hear_3 12 rfl rfl)
theorem dX0_hear_84 : decode cX0_hear 84 = .ok (.getfield 39, 3) := dk_180 0 39 (dk_at dksX0_hear_3 13 rfl rfl)
theorem dX0_hear_87 : decode cX0_hear 87 = .ok (.getfield 363, 3) := dk_180 1 107 (dk_at dksX0_hear_3 16 rfl rfl)
theorem dX0_hear_90 : decode cX0_hear 90 = .ok (.iload 4, 2) := dk_21 4 (dk_at dksX0_hear_3 19 rfl rfl)
theorem dX0_hear_92 : decode cX0_hear 92 = .ok (.iconst 2, 1) := dk_5 (dk_at dksX0_hear_3 21 rfl rfl)
theorem dX0_hear_93 : decode cX0_hear 93 = .ok (.iadd, 1) := dk_96 (dk_at dksX0_hear_3 22 rfl rfl)
theorem dX0_hear_94 : decode cX0_hear 94 = .ok (.iload_n 3, 1) := dk_29 (dk_at dksX0_hear_3 23 rfl rfl)
theorem dX0_hear_95 : decode cX0_hear 95 = .ok (.iastore, 1) := dk_79 (dk_at dksX0_hear_4 0 rfl rfl)
theorem dX0_hear_96 : decode cX0_hear 96 = .ok (.aload_n 0, 1) := dk_42 (dk_at dksX0_hear_4 1 rfl rfl)
theorem dX0_hear_97 : decode cX0_hear 97 = .ok (.getfield 39, 3) := dk_180 0 39 (dk_at dksX0_hear_4 2 rfl rfl)
theorem dX0_hear_100 : decode cX0_hear 100 = .ok (.dup, 1) := dk_89 (dk_at dksX0_hear_4 5 rfl rfl)
theorem dX0_hear_101 : decode cX0_hear 101 = .ok (.getfield 360, 3) := dk_180 1 104 (dk_at dksX0_hear_4 6 rfl rfl)
theorem dX0_hear_104 : decode cX0_hear 104 = .ok (.iconst 1, 1) := dk_4 (dk_at dksX0_hear_4 9 rfl rfl)
theorem dX0_hear_105 : decode cX0_hear 105 = .ok (.iadd, 1) := dk_96 (dk_at dksX0_hear_4 10 rfl rfl)
theorem dX0_hear_106 : decode cX0_hear 106 = .ok (.putfield 360, 3) := dk_181 1 104 (dk_at dksX0_hear_4 11 rfl rfl)
theorem dX0_hear_109 : decode cX0_hear 109 = .ok (.aload_n 0, 1) := dk_42 (dk_at dksX0_hear_4 14 rfl rfl)
theorem dX0_hear_110 : decode cX0_hear 110 = .ok (.aload_n 0, 1) := dk_42 (dk_at dksX0_hear_4 15 rfl rfl)
theorem dX0_hear_111 : decode cX0_hear 111 = .ok (.getfield 39, 3) := dk_180 0 39 (dk_at dksX0_hear_4 16 rfl rfl)
theorem dX0_hear_114 : decode cX0_hear 114 = .ok (.getfield 360, 3) := dk_180 1 104 (dk_at dksX0_hear_4 19 rfl rfl)
theorem dX0_hear_117 : decode cX0_hear 117 = .ok (.invokevirtual 136, 3) := dk_182 0 136 (dk_at dksX0_hear_5 0 rfl rfl)
theorem dX0_hear_120 : decode cX0_hear 120 = .ok (.ireturn, 1) := dk_172 (dk_at dksX0_hear_5 3 rfl rfl)
abbrev cX0_forget : ByteArray := prog_1_method_57_code
def yX0_forget : MethodName := ⟨RX0, "forget", "()I"⟩
def dkwX0_forget_0 : List UInt8 := [42, 180, 0, 39, 180, 1, 104, 60, 42, 180, 0, 39, 3, 181, 1, 104, 27, 172]
abbrev dktX0_forget_0 : List UInt8 := dkwX0_forget_0 ++ []
theorem dksX0_forget_0 : cX0_forget.data.toList.drop 0 = dktX0_forget_0 := by decide +kernel
theorem dX0_forget_0 : decode cX0_forget 0 = .ok (.aload_n 0, 1) := dk_42 (dk_at dksX0_forget_0 0 rfl rfl)
theorem dX0_forget_1 : decode cX0_forget 1 = .ok (.getfield 39, 3) := dk_180 0 39 (dk_at dksX0_forget_0 1 rfl rfl)
theorem dX0_forget_4 : decode cX0_forget 4 = .ok (.getfield 360, 3) := dk_180 1 104 (dk_at dksX0_forget_0 4 rfl rfl)
theorem dX0_forget_7 : decode cX0_forget 7 = .ok (.istore_n 1, 1) := dk_60 (dk_at dksX0_forget_0 7 rfl rfl)
theorem dX0_forget_8 : decode cX0_forget 8 = .ok (.aload_n 0, 1) := dk_42 (dk_at dksX0_forget_0 8 rfl rfl)
theorem dX0_forget_9 : decode cX0_forget 9 = .ok (.getfield 39, 3) := dk_180 0 39 (dk_at dksX0_forget_0 9 rfl rfl)
theorem dX0_forget_12 : decode cX0_forget 12 = .ok (.iconst 0, 1) := dk_3 (dk_at dksX0_forget_0 12 rfl rfl)
theorem dX0_forget_13 : decode cX0_forget 13 = .ok (.putfield 360, 3) := dk_181 1 104 (dk_at dksX0_forget_0 13 rfl rfl)
theorem dX0_forget_16 : decode cX0_forget 16 = .ok (.iload_n 1, 1) := dk_27 (dk_at dksX0_forget_0 16 rfl rfl)
theorem dX0_forget_17 : decode cX0_forget 17 = .ok (.ireturn, 1) := dk_172 (dk_at dksX0_forget_0 17 rfl rfl)
abbrev cX0_which : ByteArray := prog_1_method_59_code
def yX0_which : MethodName := ⟨RX0, "which", "()I"⟩
def dkwX0_which_1 : List UInt8 := [4, 28, 120, 167, 0, 4, 3, 128, 60, 132, 2, 1, 167, 255, 224, 27, 172]
abbrev dktX0_which_1 : List UInt8 := dkwX0_which_1 ++ []
def dkwX0_which_0 : List UInt8 := [3, 60, 3, 61, 28, 42, 180, 0, 39, 180, 0, 139, 162, 0, 27, 27, 42, 28, 182, 1, 110, 153, 0, 9]
abbrev dktX0_which_0 : List UInt8 := dkwX0_which_0 ++ dktX0_which_1
theorem dksX0_which_0 : cX0_which.data.toList.drop 0 = dktX0_which_0 := by decide +kernel
theorem dksX0_which_1 : cX0_which.data.toList.drop 24 = dktX0_which_1 := dk_seg dksX0_which_0 24 rfl rfl
theorem dX0_which_0 : decode cX0_which 0 = .ok (.iconst 0, 1) := dk_3 (dk_at dksX0_which_0 0 rfl rfl)
theorem dX0_which_1 : decode cX0_which 1 = .ok (.istore_n 1, 1) := dk_60 (dk_at dksX0_which_0 1 rfl rfl)
theorem dX0_which_2 : decode cX0_which 2 = .ok (.iconst 0, 1) := dk_3 (dk_at dksX0_which_0 2 rfl rfl)
theorem dX0_which_3 : decode cX0_which 3 = .ok (.istore_n 2, 1) := dk_61 (dk_at dksX0_which_0 3 rfl rfl)
theorem dX0_which_4 : decode cX0_which 4 = .ok (.iload_n 2, 1) := dk_28 (dk_at dksX0_which_0 4 rfl rfl)
theorem dX0_which_5 : decode cX0_which 5 = .ok (.aload_n 0, 1) := dk_42 (dk_at dksX0_which_0 5 rfl rfl)
theorem dX0_which_6 : decode cX0_which 6 = .ok (.getfield 39, 3) := dk_180 0 39 (dk_at dksX0_which_0 6 rfl rfl)
theorem dX0_which_9 : decode cX0_which 9 = .ok (.getfield 139, 3) := dk_180 0 139 (dk_at dksX0_which_0 9 rfl rfl)
theorem dX0_which_12 : decode cX0_which 12 = .ok (.if_icmp .ge 27, 3) := dk_162 0 27 (dk_at dksX0_which_0 12 rfl rfl)
theorem dX0_which_15 : decode cX0_which 15 = .ok (.iload_n 1, 1) := dk_27 (dk_at dksX0_which_0 15 rfl rfl)
theorem dX0_which_16 : decode cX0_which 16 = .ok (.aload_n 0, 1) := dk_42 (dk_at dksX0_which_0 16 rfl rfl)
theorem dX0_which_17 : decode cX0_which 17 = .ok (.iload_n 2, 1) := dk_28 (dk_at dksX0_which_0 17 rfl rfl)
theorem dX0_which_18 : decode cX0_which 18 = .ok (.invokevirtual 366, 3) := dk_182 1 110 (dk_at dksX0_which_0 18 rfl rfl)
theorem dX0_which_21 : decode cX0_which 21 = .ok (.ifCond .eq 9, 3) := dk_153 0 9 (dk_at dksX0_which_0 21 rfl rfl)
theorem dX0_which_24 : decode cX0_which 24 = .ok (.iconst 1, 1) := dk_4 (dk_at dksX0_which_1 0 rfl rfl)
theorem dX0_which_25 : decode cX0_which 25 = .ok (.iload_n 2, 1) := dk_28 (dk_at dksX0_which_1 1 rfl rfl)
theorem dX0_which_26 : decode cX0_which 26 = .ok (.ishl, 1) := dk_120 (dk_at dksX0_which_1 2 rfl rfl)
theorem dX0_which_27 : decode cX0_which 27 = .ok (.goto 4, 3) := dk_167 0 4 (dk_at dksX0_which_1 3 rfl rfl)
theorem dX0_which_30 : decode cX0_which 30 = .ok (.iconst 0, 1) := dk_3 (dk_at dksX0_which_1 6 rfl rfl)
theorem dX0_which_31 : decode cX0_which 31 = .ok (.ior, 1) := dk_128 (dk_at dksX0_which_1 7 rfl rfl)
theorem dX0_which_32 : decode cX0_which 32 = .ok (.istore_n 1, 1) := dk_60 (dk_at dksX0_which_1 8 rfl rfl)
theorem dX0_which_33 : decode cX0_which 33 = .ok (.iinc 2 1, 3) := dk_132 2 1 (dk_at dksX0_which_1 9 rfl rfl)
theorem dX0_which_36 : decode cX0_which 36 = .ok (.goto (-32), 3) := dk_167 255 224 (dk_at dksX0_which_1 12 rfl rfl)
theorem dX0_which_39 : decode cX0_which 39 = .ok (.iload_n 1, 1) := dk_27 (dk_at dksX0_which_1 15 rfl rfl)
theorem dX0_which_40 : decode cX0_which 40 = .ok (.ireturn, 1) := dk_172 (dk_at dksX0_which_1 16 rfl rfl)
abbrev cX0_isSo : ByteArray := prog_1_method_58_code
def yX0_isSo : MethodName := ⟨RX0, "isSo", "(I)Z"⟩
def dkwX0_isSo_2 : List UInt8 := [180, 0, 39, 180, 1, 107, 28, 5, 96, 46, 159, 0, 5, 3, 172, 132, 2, 3, 167, 255, 193, 4, 172]
abbrev dktX0_isSo_2 : List UInt8 := dkwX0_isSo_2 ++ []
def dkwX0_isSo_1 : List UInt8 := [180, 1, 107, 28, 46, 182, 1, 34, 42, 180, 0, 39, 180, 1, 107, 28, 4, 96, 46, 122, 4, 126, 42]
abbrev dktX0_isSo_1 : List UInt8 := dkwX0_isSo_1 ++ dktX0_isSo_2
def dkwX0_isSo_0 : List UInt8 := [3, 61, 28, 6, 42, 180, 0, 39, 180, 1, 104, 104, 162, 0, 56, 42, 182, 0, 155, 27, 42, 180, 0, 39]
abbrev dktX0_isSo_0 : List UInt8 := dkwX0_isSo_0 ++ dktX0_isSo_1
theorem dksX0_isSo_0 : cX0_isSo.data.toList.drop 0 = dktX0_isSo_0 := by decide +kernel
theorem dksX0_isSo_1 : cX0_isSo.data.toList.drop 24 = dktX0_isSo_1 := dk_seg dksX0_isSo_0 24 rfl rfl
theorem dksX0_isSo_2 : cX0_isSo.data.toList.drop 47 = dktX0_isSo_2 := dk_seg dksX0_isSo_1 23 rfl rfl
theorem dX0_isSo_0 : decode cX0_isSo 0 = .ok (.iconst 0, 1) := dk_3 (dk_at dksX0_isSo_0 0 rfl rfl)
theorem dX0_isSo_1 : decode cX0_isSo 1 = .ok (.istore_n 2, 1) := dk_61 (dk_at dksX0_isSo_0 1 rfl rfl)
theorem dX0_isSo_2 : decode cX0_isSo 2 = .ok (.iload_n 2, 1) := dk_28 (dk_at dksX0_isSo_0 2 rfl rfl)
theorem dX0_isSo_3 : decode cX0_isSo 3 = .ok (.iconst 3, 1) := dk_6 (dk_at dksX0_isSo_0 3 rfl rfl)
theorem dX0_isSo_4 : decode cX0_isSo 4 = .ok (.aload_n 0, 1) := dk_42 (dk_at dksX0_isSo_0 4 rfl rfl)
theorem dX0_isSo_5 : decode cX0_isSo 5 = .ok (.getfield 39, 3) := dk_180 0 39 (dk_at dksX0_isSo_0 5 rfl rfl)
theorem dX0_isSo_8 : decode cX0_isSo 8 = .ok (.getfield 360, 3) := dk_180 1 104 (dk_at dksX0_isSo_0 8 rfl rfl)
theorem dX0_isSo_11 : decode cX0_isSo 11 = .ok (.imul, 1) := dk_104 (dk_at dksX0_isSo_0 11 rfl rfl)
theorem dX0_isSo_12 : decode cX0_isSo 12 = .ok (.if_icmp .ge 56, 3) := dk_162 0 56 (dk_at dksX0_isSo_0 12 rfl rfl)
theorem dX0_isSo_15 : decode cX0_isSo 15 = .ok (.aload_n 0, 1) := dk_42 (dk_at dksX0_isSo_0 15 rfl rfl)
theorem dX0_isSo_16 : decode cX0_isSo 16 = .ok (.invokevirtual 155, 3) := dk_182 0 155 (dk_at dksX0_isSo_0 16 rfl rfl)
theorem dX0_isSo_19 : decode cX0_isSo 19 = .ok (.iload_n 1, 1) := dk_27 (dk_at dksX0_isSo_0 19 rfl rfl)
theorem dX0_isSo_20 : decode cX0_isSo 20 = .ok (.aload_n 0, 1) := dk_42 (dk_at dksX0_isSo_0 20 rfl rfl)
theorem dX0_isSo_21 : decode cX0_isSo 21 = .ok (.getfield 39, 3) := dk_180 0 39 (dk_at dksX0_isSo_0 21 rfl rfl)
theorem dX0_isSo_24 : decode cX0_isSo 24 = .ok (.getfield 363, 3) := dk_180 1 107 (dk_at dksX0_isSo_1 0 rfl rfl)
theorem dX0_isSo_27 : decode cX0_isSo 27 = .ok (.iload_n 2, 1) := dk_28 (dk_at dksX0_isSo_1 3 rfl rfl)
theorem dX0_isSo_28 : decode cX0_isSo 28 = .ok (.iaload, 1) := dk_46 (dk_at dksX0_isSo_1 4 rfl rfl)
theorem dX0_isSo_29 : decode cX0_isSo 29 = .ok (.invokevirtual 290, 3) := dk_182 1 34 (dk_at dksX0_isSo_1 5 rfl rfl)
theorem dX0_isSo_32 : decode cX0_isSo 32 = .ok (.aload_n 0, 1) := dk_42 (dk_at dksX0_isSo_1 8 rfl rfl)
theorem dX0_isSo_33 : decode cX0_isSo 33 = .ok (.getfield 39, 3) := dk_180 0 39 (dk_at dksX0_isSo_1 9 rfl rfl)
theorem dX0_isSo_36 : decode cX0_isSo 36 = .ok (.getfield 363, 3) := dk_180 1 107 (dk_at dksX0_isSo_1 12 rfl rfl)
theorem dX0_isSo_39 : decode cX0_isSo 39 = .ok (.iload_n 2, 1) := dk_28 (dk_at dksX0_isSo_1 15 rfl rfl)
theorem dX0_isSo_40 : decode cX0_isSo 40 = .ok (.iconst 1, 1) := dk_4 (dk_at dksX0_isSo_1 16 rfl rfl)
theorem dX0_isSo_41 : decode cX0_isSo 41 = .ok (.iadd, 1) := dk_96 (dk_at dksX0_isSo_1 17 rfl rfl)
theorem dX0_isSo_42 : decode cX0_isSo 42 = .ok (.iaload, 1) := dk_46 (dk_at dksX0_isSo_1 18 rfl rfl)
theorem dX0_isSo_43 : decode cX0_isSo 43 = .ok (.ishr, 1) := dk_122 (dk_at dksX0_isSo_1 19 rfl rfl)
theorem dX0_isSo_44 : decode cX0_isSo 44 = .ok (.iconst 1, 1) := dk_4 (dk_at dksX0_isSo_1 20 rfl rfl)
theorem dX0_isSo_45 : decode cX0_isSo 45 = .ok (.iand, 1) := dk_126 (dk_at dksX0_isSo_1 21 rfl rfl)
theorem dX0_isSo_46 : decode cX0_isSo 46 = .ok (.aload_n 0, 1) := dk_42 (dk_at dksX0_isSo_1 22 rfl rfl)
theorem dX0_isSo_47 : decode cX0_isSo 47 = .ok (.getfield 39, 3) := dk_180 0 39 (dk_at dksX0_isSo_2 0 rfl rfl)
theorem dX0_isSo_50 : decode cX0_isSo 50 = .ok (.getfield 363, 3) := dk_180 1 107 (dk_at dksX0_isSo_2 3 rfl rfl)
theorem dX0_isSo_53 : decode cX0_isSo 53 = .ok (.iload_n 2, 1) := dk_28 (dk_at dksX0_isSo_2 6 rfl rfl)
theorem dX0_isSo_54 : decode cX0_isSo 54 = .ok (.iconst 2, 1) := dk_5 (dk_at dksX0_isSo_2 7 rfl rfl)
theorem dX0_isSo_55 : decode cX0_isSo 55 = .ok (.iadd, 1) := dk_96 (dk_at dksX0_isSo_2 8 rfl rfl)
theorem dX0_isSo_56 : decode cX0_isSo 56 = .ok (.iaload, 1) := dk_46 (dk_at dksX0_isSo_2 9 rfl rfl)
theorem dX0_isSo_57 : decode cX0_isSo 57 = .ok (.if_icmp .eq 5, 3) := dk_159 0 5 (dk_at dksX0_isSo_2 10 rfl rfl)
theorem dX0_isSo_60 : decode cX0_isSo 60 = .ok (.iconst 0, 1) := dk_3 (dk_at dksX0_isSo_2 13 rfl rfl)
theorem dX0_isSo_61 : decode cX0_isSo 61 = .ok (.ireturn, 1) := dk_172 (dk_at dksX0_isSo_2 14 rfl rfl)
theorem dX0_isSo_62 : decode cX0_isSo 62 = .ok (.iinc 2 3, 3) := dk_132 2 3 (dk_at dksX0_isSo_2 15 rfl rfl)
theorem dX0_isSo_65 : decode cX0_isSo 65 = .ok (.goto (-63), 3) := dk_167 255 193 (dk_at dksX0_isSo_2 18 rfl rfl)
theorem dX0_isSo_68 : decode cX0_isSo 68 = .ok (.iconst 1, 1) := dk_4 (dk_at dksX0_isSo_2 21 rfl rfl)
theorem dX0_isSo_69 : decode cX0_isSo 69 = .ok (.ireturn, 1) := dk_172 (dk_at dksX0_isSo_2 22 rfl rfl)
abbrev cX0_listen : ByteArray := prog_1_method_60_code
def yX0_listen : MethodName := ⟨RX0, "listen", "(I)I"⟩
def dkwX0_listen_7 : List UInt8 := [154, 0, 7, 29, 167, 0, 5, 21, 4, 172]
abbrev dktX0_listen_7 : List UInt8 := dkwX0_listen_7 ++ []
def dkwX0_listen_6 : List UInt8 := [16, 8, 108, 104, 21, 5, 16, 8, 112, 96, 62, 132, 5, 1, 167, 255, 131, 29, 2, 159, 0, 7, 27]
abbrev dktX0_listen_6 : List UInt8 := dkwX0_listen_6 ++ dktX0_listen_7
def dkwX0_listen_5 : List UInt8 := [184, 1, 73, 54, 7, 21, 7, 21, 4, 161, 0, 6, 167, 0, 22, 21, 7, 54, 4, 16, 10, 21, 5]
abbrev dktX0_listen_5 : List UInt8 := dkwX0_listen_5 ++ dktX0_listen_6
def dkwX0_listen_4 : List UInt8 := [167, 0, 4, 3, 96, 54, 6, 132, 7, 1, 167, 255, 197, 21, 6, 28, 184, 1, 46, 21, 6, 100]
abbrev dktX0_listen_4 : List UInt8 := dkwX0_listen_4 ++ dktX0_listen_5
def dkwX0_listen_3 : List UInt8 := [21, 7, 21, 5, 16, 8, 108, 182, 1, 34, 21, 5, 16, 8, 112, 184, 1, 37, 153, 0, 7, 4]
abbrev dktX0_listen_3 : List UInt8 := dkwX0_listen_3 ++ dktX0_listen_4
def dkwX0_listen_2 : List UInt8 := [180, 0, 39, 180, 0, 139, 162, 0, 53, 21, 6, 28, 21, 7, 184, 1, 37, 153, 0, 32, 42, 182, 0, 155]
abbrev dktX0_listen_2 : List UInt8 := dkwX0_listen_2 ++ dktX0_listen_3
def dkwX0_listen_1 : List UInt8 := [54, 5, 21, 5, 16, 64, 162, 0, 124, 28, 153, 0, 120, 3, 54, 6, 3, 54, 7, 21, 7, 42]
abbrev dktX0_listen_1 : List UInt8 := dkwX0_listen_1 ++ dktX0_listen_2
def dkwX0_listen_0 : List UInt8 := [27, 3, 4, 184, 0, 26, 154, 0, 5, 2, 172, 42, 182, 1, 113, 61, 2, 62, 19, 1, 116, 54, 4, 3]
abbrev dktX0_listen_0 : List UInt8 := dkwX0_listen_0 ++ dktX0_listen_1
theorem dksX0_listen_0 : cX0_listen.data.toList.drop 0 = dktX0_listen_0 := by decide +kernel
theorem dksX0_listen_1 : cX0_listen.data.toList.drop 24 = dktX0_listen_1 := dk_seg dksX0_listen_0 24 rfl rfl
theorem dksX0_listen_2 : cX0_listen.data.toList.drop 46 = dktX0_listen_2 := dk_seg dksX0_listen_1 22 rfl rfl
theorem dksX0_listen_3 : cX0_listen.data.toList.drop 70 = dktX0_listen_3 := dk_seg dksX0_listen_2 24 rfl rfl
theorem dksX0_listen_4 : cX0_listen.data.toList.drop 92 = dktX0_listen_4 := dk_seg dksX0_listen_3 22 rfl rfl
theorem dksX0_listen_5 : cX0_listen.data.toList.drop 114 = dktX0_listen_5 := dk_seg dksX0_listen_4 22 rfl rfl
theorem dksX0_listen_6 : cX0_listen.data.toList.drop 137 = dktX0_listen_6 := dk_seg dksX0_listen_5 23 rfl rfl
theorem dksX0_listen_7 : cX0_listen.data.toList.drop 160 = dktX0_listen_7 := dk_seg dksX0_listen_6 23 rfl rfl
theorem dX0_listen_0 : decode cX0_listen 0 = .ok (.iload_n 1, 1) := dk_27 (dk_at dksX0_listen_0 0 rfl rfl)
theorem dX0_listen_1 : decode cX0_listen 1 = .ok (.iconst 0, 1) := dk_3 (dk_at dksX0_listen_0 1 rfl rfl)
theorem dX0_listen_2 : decode cX0_listen 2 = .ok (.iconst 1, 1) := dk_4 (dk_at dksX0_listen_0 2 rfl rfl)
theorem dX0_listen_3 : decode cX0_listen 3 = .ok (.invokestatic 26, 3) := dk_184 0 26 (dk_at dksX0_listen_0 3 rfl rfl)
theorem dX0_listen_6 : decode cX0_listen 6 = .ok (.ifCond .ne 5, 3) := dk_154 0 5 (dk_at dksX0_listen_0 6 rfl rfl)
theorem dX0_listen_9 : decode cX0_listen 9 = .ok (.iconst (-1), 1) := dk_2 (dk_at dksX0_listen_0 9 rfl rfl)
theorem dX0_listen_10 : decode cX0_listen 10 = .ok (.ireturn, 1) := dk_172 (dk_at dksX0_listen_0 10 rfl rfl)
theorem dX0_listen_11 : decode cX0_listen 11 = .ok (.aload_n 0, 1) := dk_42 (dk_at dksX0_listen_0 11 rfl rfl)
theorem dX0_listen_12 : decode cX0_listen 12 = .ok (.invokevirtual 369, 3) := dk_182 1 113 (dk_at dksX0_listen_0 12 rfl rfl)
theorem dX0_listen_15 : decode cX0_listen 15 = .ok (.istore_n 2, 1) := dk_61 (dk_at dksX0_listen_0 15 rfl rfl)
theorem dX0_listen_16 : decode cX0_listen 16 = .ok (.iconst (-1), 1) := dk_2 (dk_at dksX0_listen_0 16 rfl rfl)
theorem dX0_listen_17 : decode cX0_listen 17 = .ok (.istore_n 3, 1) := dk_62 (dk_at dksX0_listen_0 17 rfl rfl)
theorem dX0_listen_18 : decode cX0_listen 18 = .ok (.ldc_w 372, 3) := dk_19 1 116 (dk_at dksX0_listen_0 18 rfl rfl)
theorem dX0_listen_21 : decode cX0_listen 21 = .ok (.istore 4, 2) := dk_54 4 (dk_at dksX0_listen_0 21 rfl rfl)
theorem dX0_listen_23 : decode cX0_listen 23 = .ok (.iconst 0, 1) := dk_3 (dk_at dksX0_listen_0 23 rfl rfl)
theorem dX0_listen_24 : decode cX0_listen 24 = .ok (.istore 5, 2) := dk_54 5 (dk_at dksX0_listen_1 0 rfl rfl)
theorem dX0_listen_26 : decode cX0_listen 26 = .ok (.iload 5, 2) := dk_21 5 (dk_at dksX0_listen_1 2 rfl rfl)
theorem dX0_listen_28 : decode cX0_listen 28 = .ok (.bipush 64, 2) := dk_16 64 (dk_at dksX0_listen_1 4 rfl rfl)
theorem dX0_listen_30 : decode cX0_listen 30 = .ok (.if_icmp .ge 124, 3) := dk_162 0 124 (dk_at dksX0_listen_1 6 rfl rfl)
theorem dX0_listen_33 : decode cX0_listen 33 = .ok (.iload_n 2, 1) := dk_28 (dk_at dksX0_listen_1 9 rfl rfl)
theorem dX0_listen_34 : decode cX0_listen 34 = .ok (.ifCond .eq 120, 3) := dk_153 0 120 (dk_at dksX0_listen_1 10 rfl rfl)
theorem dX0_listen_37 : decode cX0_listen 37 = .ok (.iconst 0, 1) := dk_3 (dk_at dksX0_listen_1 13 rfl rfl)
theorem dX0_listen_38 : decode cX0_listen 38 = .ok (.istore 6, 2) := dk_54 6 (dk_at dksX0_listen_1 14 rfl rfl)
theorem dX0_listen_40 : decode cX0_listen 40 = .ok (.iconst 0, 1) := dk_3 (dk_at dksX0_listen_1 16 rfl rfl)
theorem dX0_listen_41 : decode cX0_listen 41 = .ok (.istore 7, 2) := dk_54 7 (dk_at dksX0_listen_1 17 rfl rfl)
theorem dX0_listen_43 : decode cX0_listen 43 = .ok (.iload 7, 2) := dk_21 7 (dk_at dksX0_listen_1 19 rfl rfl)
theorem dX0_listen_45 : decode cX0_listen 45 = .ok (.aload_n 0, 1) := dk_42 (dk_at dksX0_listen_1 21 rfl rfl)
theorem dX0_listen_46 : decode cX0_listen 46 = .ok (.getfield 39, 3) := dk_180 0 39 (dk_at dksX0_listen_2 0 rfl rfl)
theorem dX0_listen_49 : decode cX0_listen 49 = .ok (.getfield 139, 3) := dk_180 0 139 (dk_at dksX0_listen_2 3 rfl rfl)
theorem dX0_listen_52 : decode cX0_listen 52 = .ok (.if_icmp .ge 53, 3) := dk_162 0 53 (dk_at dksX0_listen_2 6 rfl rfl)
theorem dX0_listen_55 : decode cX0_listen 55 = .ok (.iload 6, 2) := dk_21 6 (dk_at dksX0_listen_2 9 rfl rfl)
theorem dX0_listen_57 : decode cX0_listen 57 = .ok (.iload_n 2, 1) := dk_28 (dk_at dksX0_listen_2 11 rfl rfl)
theorem dX0_listen_58 : decode cX0_listen 58 = .ok (.iload 7, 2) := dk_21 7 (dk_at dksX0_listen_2 12 rfl rfl)
theorem dX0_listen_60 : decode cX0_listen 60 = .ok (.invokestatic 293, 3) := dk_184 1 37 (dk_at dksX0_listen_2 14 rfl rfl)
theorem dX0_listen_63 : decode cX0_listen 63 = .ok (.ifCond .eq 32, 3) := dk_153 0 32 (dk_at dksX0_listen_2 17 rfl rfl)
theorem dX0_listen_66 : decode cX0_listen 66 = .ok (.aload_n 0, 1) := dk_42 (dk_at dksX0_listen_2 20 rfl rfl)
theorem dX0_listen_67 : decode cX0_listen 67 = .ok (.invokevirtual 155, 3) := dk_182 0 155 (dk_at dksX0_listen_2 21 rfl rfl)
theorem dX0_listen_70 : decode cX0_listen 70 = .ok (.iload 7, 2) := dk_21 7 (dk_at dksX0_listen_3 0 rfl rfl)
theorem dX0_listen_72 : decode cX0_listen 72 = .ok (.iload 5, 2) := dk_21 5 (dk_at dksX0_listen_3 2 rfl rfl)
theorem dX0_listen_74 : decode cX0_listen 74 = .ok (.bipush 8, 2) := dk_16 8 (dk_at dksX0_listen_3 4 rfl rfl)
theorem dX0_listen_76 : decode cX0_listen 76 = .ok (.idiv, 1) := dk_108 (dk_at dksX0_listen_3 6 rfl rfl)
theorem dX0_listen_77 : decode cX0_listen 77 = .ok (.invokevirtual 290, 3) := dk_182 1 34 (dk_at dksX0_listen_3 7 rfl rfl)
theorem dX0_listen_80 : decode cX0_listen 80 = .ok (.iload 5, 2) := dk_21 5 (dk_at dksX0_listen_3 10 rfl rfl)
theorem dX0_listen_82 : decode cX0_listen 82 = .ok (.bipush 8, 2) := dk_16 8 (dk_at dksX0_listen_3 12 rfl rfl)
theorem dX0_listen_84 : decode cX0_listen 84 = .ok (.irem, 1) := dk_112 (dk_at dksX0_listen_3 14 rfl rfl)
theorem dX0_listen_85 : decode cX0_listen 85 = .ok (.invokestatic 293, 3) := dk_184 1 37 (dk_at dksX0_listen_3 15 rfl rfl)
theorem dX0_listen_88 : decode cX0_listen 88 = .ok (.ifCond .eq 7, 3) := dk_153 0 7 (dk_at dksX0_listen_3 18 rfl rfl)
theorem dX0_listen_91 : decode cX0_listen 91 = .ok (.iconst 1, 1) := dk_4 (dk_at dksX0_listen_3 21 rfl rfl)
theorem dX0_listen_92 : decode cX0_listen 92 = .ok (.goto 4, 3) := dk_167 0 4 (dk_at dksX0_listen_4 0 rfl rfl)
theorem dX0_listen_95 : decode cX0_listen 95 = .ok (.iconst 0, 1) := dk_3 (dk_at dksX0_listen_4 3 rfl rfl)
theorem dX0_listen_96 : decode cX0_listen 96 = .ok (.iadd, 1) := dk_96 (dk_at dksX0_listen_4 4 rfl rfl)
theorem dX0_listen_97 : decode cX0_listen 97 = .ok (.istore 6, 2) := dk_54 6 (dk_at dksX0_listen_4 5 rfl rfl)
theorem dX0_listen_99 : decode cX0_listen 99 = .ok (.iinc 7 1, 3) := dk_132 7 1 (dk_at dksX0_listen_4 7 rfl rfl)
theorem dX0_listen_102 : decode cX0_listen 102 = .ok (.goto (-59), 3) := dk_167 255 197 (dk_at dksX0_listen_4 10 rfl rfl)
theorem dX0_listen_105 : decode cX0_listen 105 = .ok (.iload 6, 2) := dk_21 6 (dk_at dksX0_listen_4 13 rfl rfl)
theorem dX0_listen_107 : decode cX0_listen 107 = .ok (.iload_n 2, 1) := dk_28 (dk_at dksX0_listen_4 15 rfl rfl)
theorem dX0_listen_108 : decode cX0_listen 108 = .ok (.invokestatic 302, 3) := dk_184 1 46 (dk_at dksX0_listen_4 16 rfl rfl)
theorem dX0_listen_111 : decode cX0_listen 111 = .ok (.iload 6, 2) := dk_21 6 (dk_at dksX0_listen_4 19 rfl rfl)
theorem dX0_listen_113 : decode cX0_listen 113 = .ok (.isub, 1) := dk_100 (dk_at dksX0_listen_4 21 rfl rfl)
theorem dX0_listen_114 : decode cX0_listen 114 = .ok (.invokestatic 329, 3) := dk_184 1 73 (dk_at dksX0_listen_5 0 rfl rfl)
theorem dX0_listen_117 : decode cX0_listen 117 = .ok (.istore 7, 2) := dk_54 7 (dk_at dksX0_listen_5 3 rfl rfl)
theorem dX0_listen_119 : decode cX0_listen 119 = .ok (.iload 7, 2) := dk_21 7 (dk_at dksX0_listen_5 5 rfl rfl)
theorem dX0_listen_121 : decode cX0_listen 121 = .ok (.iload 4, 2) := dk_21 4 (dk_at dksX0_listen_5 7 rfl rfl)
theorem dX0_listen_123 : decode cX0_listen 123 = .ok (.if_icmp .lt 6, 3) := dk_161 0 6 (dk_at dksX0_listen_5 9 rfl rfl)
theorem dX0_listen_126 : decode cX0_listen 126 = .ok (.goto 22, 3) := dk_167 0 22 (dk_at dksX0_listen_5 12 rfl rfl)
theorem dX0_listen_129 : decode cX0_listen 129 = .ok (.iload 7, 2) := dk_21 7 (dk_at dksX0_listen_5 15 rfl rfl)
theorem dX0_listen_131 : decode cX0_listen 131 = .ok (.istore 4, 2) := dk_54 4 (dk_at dksX0_listen_5 17 rfl rfl)
theorem dX0_listen_133 : decode cX0_listen 133 = .ok (.bipush 10, 2) := dk_16 10 (dk_at dksX0_listen_5 19 rfl rfl)
theorem dX0_listen_135 : decode cX0_listen 135 = .ok (.iload 5, 2) := dk_21 5 (dk_at dksX0_listen_5 21 rfl rfl)
theorem dX0_listen_137 : decode cX0_listen 137 = .ok (.bipush 8, 2) := dk_16 8 (dk_at dksX0_listen_6 0 rfl rfl)
theorem dX0_listen_139 : decode cX0_listen 139 = .ok (.idiv, 1) := dk_108 (dk_at dksX0_listen_6 2 rfl rfl)
theorem dX0_listen_140 : decode cX0_listen 140 = .ok (.imul, 1) := dk_104 (dk_at dksX0_listen_6 3 rfl rfl)
theorem dX0_listen_141 : decode cX0_listen 141 = .ok (.iload 5, 2) := dk_21 5 (dk_at dksX0_listen_6 4 rfl rfl)
theorem dX0_listen_143 : decode cX0_listen 143 = .ok (.bipush 8, 2) := dk_16 8 (dk_at dksX0_listen_6 6 rfl rfl)
theorem dX0_listen_145 : decode cX0_listen 145 = .ok (.irem, 1) := dk_112 (dk_at dksX0_listen_6 8 rfl rfl)
theorem dX0_listen_146 : decode cX0_listen 146 = .ok (.iadd, 1) := dk_96 (dk_at dksX0_listen_6 9 rfl rfl)
theorem dX0_listen_147 : decode cX0_listen 147 = .ok (.istore_n 3, 1) := dk_62 (dk_at dksX0_listen_6 10 rfl rfl)
theorem dX0_listen_148 : decode cX0_listen 148 = .ok (.iinc 5 1, 3) := dk_132 5 1 (dk_at dksX0_listen_6 11 rfl rfl)
theorem dX0_listen_151 : decode cX0_listen 151 = .ok (.goto (-125), 3) := dk_167 255 131 (dk_at dksX0_listen_6 14 rfl rfl)
theorem dX0_listen_154 : decode cX0_listen 154 = .ok (.iload_n 3, 1) := dk_29 (dk_at dksX0_listen_6 17 rfl rfl)
theorem dX0_listen_155 : decode cX0_listen 155 = .ok (.iconst (-1), 1) := dk_2 (dk_at dksX0_listen_6 18 rfl rfl)
theorem dX0_listen_156 : decode cX0_listen 156 = .ok (.if_icmp .eq 7, 3) := dk_159 0 7 (dk_at dksX0_listen_6 19 rfl rfl)
theorem dX0_listen_159 : decode cX0_listen 159 = .ok (.iload_n 1, 1) := dk_27 (dk_at dksX0_listen_6 22 rfl rfl)
theorem dX0_listen_160 : decode cX0_listen 160 = .ok (.ifCond .ne 7, 3) := dk_154 0 7 (dk_at dksX0_listen_7 0 rfl rfl)
theorem dX0_listen_163 : decode cX0_listen 163 = .ok (.iload_n 3, 1) := dk_29 (dk_at dksX0_listen_7 3 rfl rfl)
theorem dX0_listen_164 : decode cX0_listen 164 = .ok (.goto 5, 3) := dk_167 0 5 (dk_at dksX0_listen_7 4 rfl rfl)
theorem dX0_listen_167 : decode cX0_listen 167 = .ok (.iload 4, 2) := dk_21 4 (dk_at dksX0_listen_7 7 rfl rfl)
theorem dX0_listen_169 : decode cX0_listen 169 = .ok (.ireturn, 1) := dk_172 (dk_at dksX0_listen_7 9 rfl rfl)
abbrev cX0_steady : ByteArray := prog_1_method_65_code
def yX0_steady : MethodName := ⟨RX0, "steady", "(I)I"⟩
def dkwX0_steady_1 : List UInt8 := [162, 0, 21, 42, 180, 0, 96, 28, 46, 27, 160, 0, 5, 28, 172, 132, 2, 1, 167, 255, 230, 2, 172]
abbrev dktX0_steady_1 : List UInt8 := dkwX0_steady_1 ++ []
def dkwX0_steady_0 : List UInt8 := [42, 27, 182, 0, 173, 154, 0, 5, 2, 172, 42, 182, 1, 129, 3, 61, 28, 42, 180, 0, 39, 180, 0, 142]
abbrev dktX0_steady_0 : List UInt8 := dkwX0_steady_0 ++ dktX0_steady_1
theorem dksX0_steady_0 : cX0_steady.data.toList.drop 0 = dktX0_steady_0 := by decide +kernel
theorem dksX0_steady_1 : cX0_steady.data.toList.drop 24 = dktX0_steady_1 := dk_seg dksX0_steady_0 24 rfl rfl
theorem dX0_steady_0 : decode cX0_steady 0 = .ok (.aload_n 0, 1) := dk_42 (dk_at dksX0_steady_0 0 rfl rfl)
theorem dX0_steady_1 : decode cX0_steady 1 = .ok (.iload_n 1, 1) := dk_27 (dk_at dksX0_steady_0 1 rfl rfl)
theorem dX0_steady_2 : decode cX0_steady 2 = .ok (.invokevirtual 173, 3) := dk_182 0 173 (dk_at dksX0_steady_0 2 rfl rfl)
theorem dX0_steady_5 : decode cX0_steady 5 = .ok (.ifCond .ne 5, 3) := dk_154 0 5 (dk_at dksX0_steady_0 5 rfl rfl)
theorem dX0_steady_8 : decode cX0_steady 8 = .ok (.iconst (-1), 1) := dk_2 (dk_at dksX0_steady_0 8 rfl rfl)
theorem dX0_steady_9 : decode cX0_steady 9 = .ok (.ireturn, 1) := dk_172 (dk_at dksX0_steady_0 9 rfl rfl)
theorem dX0_steady_10 : decode cX0_steady 10 = .ok (.aload_n 0, 1) := dk_42 (dk_at dksX0_steady_0 10 rfl rfl)
theorem dX0_steady_11 : decode cX0_steady 11 = .ok (.invokevirtual 385, 3) := dk_182 1 129 (dk_at dksX0_steady_0 11 rfl rfl)
theorem dX0_steady_14 : decode cX0_steady 14 = .ok (.iconst 0, 1) := dk_3 (dk_at dksX0_steady_0 14 rfl rfl)
theorem dX0_steady_15 : decode cX0_steady 15 = .ok (.istore_n 2, 1) := dk_61 (dk_at dksX0_steady_0 15 rfl rfl)
theorem dX0_steady_16 : decode cX0_steady 16 = .ok (.iload_n 2, 1) := dk_28 (dk_at dksX0_steady_0 16 rfl rfl)
theorem dX0_steady_17 : decode cX0_steady 17 = .ok (.aload_n 0, 1) := dk_42 (dk_at dksX0_steady_0 17 rfl rfl)
theorem dX0_steady_18 : decode cX0_steady 18 = .ok (.getfield 39, 3) := dk_180 0 39 (dk_at dksX0_steady_0 18 rfl rfl)
theorem dX0_steady_21 : decode cX0_steady 21 = .ok (.getfield 142, 3) := dk_180 0 142 (dk_at dksX0_steady_0 21 rfl rfl)
theorem dX0_steady_24 : decode cX0_steady 24 = .ok (.if_icmp .ge 21, 3) := dk_162 0 21 (dk_at dksX0_steady_1 0 rfl rfl)
theorem dX0_steady_27 : decode cX0_steady 27 = .ok (.aload_n 0, 1) := dk_42 (dk_at dksX0_steady_1 3 rfl rfl)
theorem dX0_steady_28 : decode cX0_steady 28 = .ok (.getfield 96, 3) := dk_180 0 96 (dk_at dksX0_steady_1 4 rfl rfl)
theorem dX0_steady_31 : decode cX0_steady 31 = .ok (.iload_n 2, 1) := dk_28 (dk_at dksX0_steady_1 7 rfl rfl)
theorem dX0_steady_32 : decode cX0_steady 32 = .ok (.iaload, 1) := dk_46 (dk_at dksX0_steady_1 8 rfl rfl)
theorem dX0_steady_33 : decode cX0_steady 33 = .ok (.iload_n 1, 1) := dk_27 (dk_at dksX0_steady_1 9 rfl rfl)
theorem dX0_steady_34 : decode cX0_steady 34 = .ok (.if_icmp .ne 5, 3) := dk_160 0 5 (dk_at dksX0_steady_1 10 rfl rfl)
theorem dX0_steady_37 : decode cX0_steady 37 = .ok (.iload_n 2, 1) := dk_28 (dk_at dksX0_steady_1 13 rfl rfl)
theorem dX0_steady_38 : decode cX0_steady 38 = .ok (.ireturn, 1) := dk_172 (dk_at dksX0_steady_1 14 rfl rfl)
theorem dX0_steady_39 : decode cX0_steady 39 = .ok (.iinc 2 1, 3) := dk_132 2 1 (dk_at dksX0_steady_1 15 rfl rfl)
theorem dX0_steady_42 : decode cX0_steady 42 = .ok (.goto (-26), 3) := dk_167 255 230 (dk_at dksX0_steady_1 18 rfl rfl)
theorem dX0_steady_45 : decode cX0_steady 45 = .ok (.iconst (-1), 1) := dk_2 (dk_at dksX0_steady_1 21 rfl rfl)
theorem dX0_steady_46 : decode cX0_steady 46 = .ok (.ireturn, 1) := dk_172 (dk_at dksX0_steady_1 22 rfl rfl)
abbrev cX0_matches : ByteArray := prog_1_method_64_code
def yX0_matches : MethodName := ⟨RX0, "matches", "()V"⟩
def dkwX0_matches_6 : List UInt8 := [167, 255, 168, 177]
abbrev dktX0_matches_6 : List UInt8 := dkwX0_matches_6 ++ []
def dkwX0_matches_5 : List UInt8 := [153, 0, 6, 167, 255, 200, 42, 180, 0, 96, 29, 28, 79, 21, 4, 61, 167, 255, 187, 132, 1, 1]
abbrev dktX0_matches_5 : List UInt8 := dkwX0_matches_5 ++ dktX0_matches_6
def dkwX0_matches_4 : List UInt8 := [42, 180, 0, 96, 29, 46, 54, 4, 21, 4, 2, 159, 0, 17, 42, 29, 21, 4, 28, 182, 1, 126]
abbrev dktX0_matches_4 : List UInt8 := dkwX0_matches_4 ++ dktX0_matches_5
def dkwX0_matches_3 : List UInt8 := [182, 1, 123, 62, 29, 2, 160, 0, 6, 167, 0, 56, 42, 180, 0, 99, 28, 92, 46, 4, 29, 120, 128, 79]
abbrev dktX0_matches_3 : List UInt8 := dkwX0_matches_3 ++ dktX0_matches_4
def dkwX0_matches_2 : List UInt8 := [3, 60, 27, 42, 180, 0, 39, 180, 0, 139, 162, 0, 83, 27, 61, 28, 2, 159, 0, 70, 42, 28]
abbrev dktX0_matches_2 : List UInt8 := dkwX0_matches_2 ++ dktX0_matches_3
def dkwX0_matches_1 : List UInt8 := [167, 255, 240, 3, 60, 27, 16, 6, 162, 0, 16, 42, 180, 0, 99, 27, 3, 79, 132, 1, 1, 167, 255, 240]
abbrev dktX0_matches_1 : List UInt8 := dkwX0_matches_1 ++ dktX0_matches_2
def dkwX0_matches_0 : List UInt8 := [42, 182, 1, 120, 3, 60, 27, 16, 6, 162, 0, 16, 42, 180, 0, 96, 27, 2, 79, 132, 1, 1]
abbrev dktX0_matches_0 : List UInt8 := dkwX0_matches_0 ++ dktX0_matches_1
theorem dksX0_matches_0 : cX0_matches.data.toList.drop 0 = dktX0_matches_0 := by decide +kernel
theorem dksX0_matches_1 : cX0_matches.data.toList.drop 22 = dktX0_matches_1 := dk_seg dksX0_matches_0 22 rfl rfl
theorem dksX0_matches_2 : cX0_matches.data.toList.drop 46 = dktX0_matches_2 := dk_seg dksX0_matches_1 24 rfl rfl
theorem dksX0_matches_3 : cX0_matches.data.toList.drop 68 = dktX0_matches_3 := dk_seg dksX0_matches_2 22 rfl rfl
theorem dksX0_matches_4 : cX0_matches.data.toList.drop 92 = dktX0_matches_4 := dk_seg dksX0_matches_3 24 rfl rfl
theorem dksX0_matches_5 : cX0_matches.data.toList.drop 114 = dktX0_matches_5 := dk_seg dksX0_matches_4 22 rfl rfl
theorem dksX0_matches_6 : cX0_matches.data.toList.drop 136 = dktX0_matches_6 := dk_seg dksX0_matches_5 22 rfl rfl
theorem dX0_matches_0 : decode cX0_matches 0 = .ok (.aload_n 0, 1) := dk_42 (dk_at dksX0_matches_0 0 rfl rfl)
theorem dX0_matches_1 : decode cX0_matches 1 = .ok (.invokevirtual 376, 3) := dk_182 1 120 (dk_at dksX0_matches_0 1 rfl rfl)
theorem dX0_matches_4 : decode cX0_matches 4 = .ok (.iconst 0, 1) := dk_3 (dk_at dksX0_matches_0 4 rfl rfl)
theorem dX0_matches_5 : decode cX0_matches 5 = .ok (.istore_n 1, 1) := dk_60 (dk_at dksX0_matches_0 5 rfl rfl)
theorem dX0_matches_6 : decode cX0_matches 6 = .ok (.iload_n 1, 1) := dk_27 (dk_at dksX0_matches_0 6 rfl rfl)
theorem dX0_matches_7 : decode cX0_matches 7 = .ok (.bipush 6, 2) := dk_16 6 (dk_at dksX0_matches_0 7 rfl rfl)
theorem dX0_matches_9 : decode cX0_matches 9 = .ok (.if_icmp .ge 16, 3) := dk_162 0 16 (dk_at dksX0_matches_0 9 rfl rfl)
theorem dX0_matches_12 : decode cX0_matches 12 = .ok (.aload_n 0, 1) := dk_42 (dk_at dksX0_matches_0 12 rfl rfl)
theorem dX0_matches_13 : decode cX0_matches 13 = .ok (.getfield 96, 3) := dk_180 0 96 (dk_at dksX0_matches_0 13 rfl rfl)
theorem dX0_matches_16 : decode cX0_matches 16 = .ok (.iload_n 1, 1) := dk_27 (dk_at dksX0_matches_0 16 rfl rfl)
theorem dX0_matches_17 : decode cX0_matches 17 = .ok (.iconst (-1), 1) := dk_2 (dk_at dksX0_matches_0 17 rfl rfl)
theorem dX0_matches_18 : decode cX0_matches 18 = .ok (.iastore, 1) := dk_79 (dk_at dksX0_matches_0 18 rfl rfl)
theorem dX0_matches_19 : decode cX0_matches 19 = .ok (.iinc 1 1, 3) := dk_132 1 1 (dk_at dksX0_matches_0 19 rfl rfl)
theorem dX0_matches_22 : decode cX0_matches 22 = .ok (.goto (-16), 3) := dk_167 255 240 (dk_at dksX0_matches_1 0 rfl rfl)
theorem dX0_matches_25 : decode cX0_matches 25 = .ok (.iconst 0, 1) := dk_3 (dk_at dksX0_matches_1 3 rfl rfl)
theorem dX0_matches_26 : decode cX0_matches 26 = .ok (.istore_n 1, 1) := dk_60 (dk_at dksX0_matches_1 4 rfl rfl)
theorem dX0_matches_27 : decode cX0_matches 27 = .ok (.iload_n 1, 1) := dk_27 (dk_at dksX0_matches_1 5 rfl rfl)
theorem dX0_matches_28 : decode cX0_matches 28 = .ok (.bipush 6, 2) := dk_16 6 (dk_at dksX0_matches_1 6 rfl rfl)
theorem dX0_matches_30 : decode cX0_matches 30 = .ok (.if_icmp .ge 16, 3) := dk_162 0 16 (dk_at dksX0_matches_1 8 rfl rfl)
theorem dX0_matches_33 : decode cX0_matches 33 = .ok (.aload_n 0, 1) := dk_42 (dk_at dksX0_matches_1 11 rfl rfl)
theorem dX0_matches_34 : decode cX0_matches 34 = .ok (.getfield 99, 3) := dk_180 0 99 (dk_at dksX0_matches_1 12 rfl rfl)
theorem dX0_matches_37 : decode cX0_matches 37 = .ok (.iload_n 1, 1) := dk_27 (dk_at dksX0_matches_1 15 rfl rfl)
theorem dX0_matches_38 : decode cX0_matches 38 = .ok (.iconst 0, 1) := dk_3 (dk_at dksX0_matches_1 16 rfl rfl)
theorem dX0_matches_39 : decode cX0_matches 39 = .ok (.iastore, 1) := dk_79 (dk_at dksX0_matches_1 17 rfl rfl)
theorem dX0_matches_40 : decode cX0_matches 40 = .ok (.iinc 1 1, 3) := dk_132 1 1 (dk_at dksX0_matches_1 18 rfl rfl)
theorem dX0_matches_43 : decode cX0_matches 43 = .ok (.goto (-16), 3) := dk_167 255 240 (dk_at dksX0_matches_1 21 rfl rfl)
theorem dX0_matches_46 : decode cX0_matches 46 = .ok (.iconst 0, 1) := dk_3 (dk_at dksX0_matches_2 0 rfl rfl)
theorem dX0_matches_47 : decode cX0_matches 47 = .ok (.istore_n 1, 1) := dk_60 (dk_at dksX0_matches_2 1 rfl rfl)
theorem dX0_matches_48 : decode cX0_matches 48 = .ok (.iload_n 1, 1) := dk_27 (dk_at dksX0_matches_2 2 rfl rfl)
theorem dX0_matches_49 : decode cX0_matches 49 = .ok (.aload_n 0, 1) := dk_42 (dk_at dksX0_matches_2 3 rfl rfl)
theorem dX0_matches_50 : decode cX0_matches 50 = .ok (.getfield 39, 3) := dk_180 0 39 (dk_at dksX0_matches_2 4 rfl rfl)
theorem dX0_matches_53 : decode cX0_matches 53 = .ok (.getfield 139, 3) := dk_180 0 139 (dk_at dksX0_matches_2 7 rfl rfl)
theorem dX0_matches_56 : decode cX0_matches 56 = .ok (.if_icmp .ge 83, 3) := dk_162 0 83 (dk_at dksX0_matches_2 10 rfl rfl)
theorem dX0_matches_59 : decode cX0_matches 59 = .ok (.iload_n 1, 1) := dk_27 (dk_at dksX0_matches_2 13 rfl rfl)
theorem dX0_matches_60 : decode cX0_matches 60 = .ok (.istore_n 2, 1) := dk_61 (dk_at dksX0_matches_2 14 rfl rfl)
theorem dX0_matches_61 : decode cX0_matches 61 = .ok (.iload_n 2, 1) := dk_28 (dk_at dksX0_matches_2 15 rfl rfl)
theorem dX0_matches_62 : decode cX0_matches 62 = .ok (.iconst (-1), 1) := dk_2 (dk_at dksX0_matches_2 16 rfl rfl)
theorem dX0_matches_63 : decode cX0_matches 63 = .ok (.if_icmp .eq 70, 3) := dk_159 0 70 (dk_at dksX0_matches_2 17 rfl rfl)
theorem dX0_matches_66 : decode cX0_matches 66 = .ok (.aload_n 0, 1) := dk_42 (dk_at dksX0_matches_2 20 rfl rfl)
theorem dX0_matches_67 : decode cX0_matches 67 = .ok (.iload_n 2, 1) := dk_28 (dk_at dksX0_matches_2 21 rfl rfl)
theorem dX0_matches_68 : decode cX0_matches 68 = .ok (.invokevirtual 379, 3) := dk_182 1 123 (dk_at dksX0_matches_3 0 rfl rfl)
theorem dX0_matches_71 : decode cX0_matches 71 = .ok (.istore_n 3, 1) := dk_62 (dk_at dksX0_matches_3 3 rfl rfl)
theorem dX0_matches_72 : decode cX0_matches 72 = .ok (.iload_n 3, 1) := dk_29 (dk_at dksX0_matches_3 4 rfl rfl)
theorem dX0_matches_73 : decode cX0_matches 73 = .ok (.iconst (-1), 1) := dk_2 (dk_at dksX0_matches_3 5 rfl rfl)
theorem dX0_matches_74 : decode cX0_matches 74 = .ok (.if_icmp .ne 6, 3) := dk_160 0 6 (dk_at dksX0_matches_3 6 rfl rfl)
theorem dX0_matches_77 : decode cX0_matches 77 = .ok (.goto 56, 3) := dk_167 0 56 (dk_at dksX0_matches_3 9 rfl rfl)
theorem dX0_matches_80 : decode cX0_matches 80 = .ok (.aload_n 0, 1) := dk_42 (dk_at dksX0_matches_3 12 rfl rfl)
theorem dX0_matches_81 : decode cX0_matches 81 = .ok (.getfield 99, 3) := dk_180 0 99 (dk_at dksX0_matches_3 13 rfl rfl)
theorem dX0_matches_84 : decode cX0_matches 84 = .ok (.iload_n 2, 1) := dk_28 (dk_at dksX0_matches_3 16 rfl rfl)
theorem dX0_matches_85 : decode cX0_matches 85 = .ok (.dup2, 1) := dk_92 (dk_at dksX0_matches_3 17 rfl rfl)
theorem dX0_matches_86 : decode cX0_matches 86 = .ok (.iaload, 1) := dk_46 (dk_at dksX0_matches_3 18 rfl rfl)
theorem dX0_matches_87 : decode cX0_matches 87 = .ok (.iconst 1, 1) := dk_4 (dk_at dksX0_matches_3 19 rfl rfl)
theorem dX0_matches_88 : decode cX0_matches 88 = .ok (.iload_n 3, 1) := dk_29 (dk_at dksX0_matches_3 20 rfl rfl)
theorem dX0_matches_89 : decode cX0_matches 89 = .ok (.ishl, 1) := dk_120 (dk_at dksX0_matches_3 21 rfl rfl)
theorem dX0_matches_90 : decode cX0_matches 90 = .ok (.ior, 1) := dk_128 (dk_at dksX0_matches_3 22 rfl rfl)
theorem dX0_matches_91 : decode cX0_matches 91 = .ok (.iastore, 1) := dk_79 (dk_at dksX0_matches_3 23 rfl rfl)
theorem dX0_matches_92 : decode cX0_matches 92 = .ok (.aload_n 0, 1) := dk_42 (dk_at dksX0_matches_4 0 rfl rfl)
theorem dX0_matches_93 : decode cX0_matches 93 = .ok (.getfield 96, 3) := dk_180 0 96 (dk_at dksX0_matches_4 1 rfl rfl)
theorem dX0_matches_96 : decode cX0_matches 96 = .ok (.iload_n 3, 1) := dk_29 (dk_at dksX0_matches_4 4 rfl rfl)
theorem dX0_matches_97 : decode cX0_matches 97 = .ok (.iaload, 1) := dk_46 (dk_at dksX0_matches_4 5 rfl rfl)
theorem dX0_matches_98 : decode cX0_matches 98 = .ok (.istore 4, 2) := dk_54 4 (dk_at dksX0_matches_4 6 rfl rfl)
theorem dX0_matches_100 : decode cX0_matches 100 = .ok (.iload 4, 2) := dk_21 4 (dk_at dksX0_matches_4 8 rfl rfl)
theorem dX0_matches_102 : decode cX0_matches 102 = .ok (.iconst (-1), 1) := dk_2 (dk_at dksX0_matches_4 10 rfl rfl)
theorem dX0_matches_103 : decode cX0_matches 103 = .ok (.if_icmp .eq 17, 3) := dk_159 0 17 (dk_at dksX0_matches_4 11 rfl rfl)
theorem dX0_matches_106 : decode cX0_matches 106 = .ok (.aload_n 0, 1) := dk_42 (dk_at dksX0_matches_4 14 rfl rfl)
theorem dX0_matches_107 : decode cX0_matches 107 = .ok (.iload_n 3, 1) := dk_29 (dk_at dksX0_matches_4 15 rfl rfl)
theorem dX0_matches_108 : decode cX0_matches 108 = .ok (.iload 4, 2) := dk_21 4 (dk_at dksX0_matches_4 16 rfl rfl)
theorem dX0_matches_110 : decode cX0_matches 110 = .ok (.iload_n 2, 1) := dk_28 (dk_at dksX0_matches_4 18 rfl rfl)
theorem dX0_matches_111 : decode cX0_matches 111 = .ok (.invokevirtual 382, 3) := dk_182 1 126 (dk_at dksX0_matches_4 19 rfl rfl)
theorem dX0_matches_114 : decode cX0_matches 114 = .ok (.ifCond .eq 6, 3) := dk_153 0 6 (dk_at dksX0_matches_5 0 rfl rfl)
theorem dX0_matches_117 : decode cX0_matches 117 = .ok (.goto (-56), 3) := dk_167 255 200 (dk_at dksX0_matches_5 3 rfl rfl)
theorem dX0_matches_120 : decode cX0_matches 120 = .ok (.aload_n 0, 1) := dk_42 (dk_at dksX0_matches_5 6 rfl rfl)
theorem dX0_matches_121 : decode cX0_matches 121 = .ok (.getfield 96, 3) := dk_180 0 96 (dk_at dksX0_matches_5 7 rfl rfl)
theorem dX0_matches_124 : decode cX0_matches 124 = .ok (.iload_n 3, 1) := dk_29 (dk_at dksX0_matches_5 10 rfl rfl)
theorem dX0_matches_125 : decode cX0_matches 125 = .ok (.iload_n 2, 1) := dk_28 (dk_at dksX0_matches_5 11 rfl rfl)
theorem dX0_matches_126 : decode cX0_matches 126 = .ok (.iastore, 1) := dk_79 (dk_at dksX0_matches_5 12 rfl rfl)
theorem dX0_matches_127 : decode cX0_matches 127 = .ok (.iload 4, 2) := dk_21 4 (dk_at dksX0_matches_5 13 rfl rfl)
theorem dX0_matches_129 : decode cX0_matches 129 = .ok (.istore_n 2, 1) := dk_61 (dk_at dksX0_matches_5 15 rfl rfl)
theorem dX0_matches_130 : decode cX0_matches 130 = .ok (.goto (-69), 3) := dk_167 255 187 (dk_at dksX0_matches_5 16 rfl rfl)
theorem dX0_matches_133 : decode cX0_matches 133 = .ok (.iinc 1 1, 3) := dk_132 1 1 (dk_at dksX0_matches_5 19 rfl rfl)
theorem dX0_matches_136 : decode cX0_matches 136 = .ok (.goto (-88), 3) := dk_167 255 168 (dk_at dksX0_matches_6 0 rfl rfl)
theorem dX0_matches_139 : decode cX0_matches 139 = .ok (.return_, 1) := dk_177 (dk_at dksX0_matches_6 3 rfl rfl)
abbrev cX0_laysGaps : ByteArray := prog_1_method_61_code
def yX0_laysGaps : MethodName := ⟨RX0, "laysGaps", "()V"⟩
def dkwX0_laysGaps_5 : List UInt8 := [167, 255, 143, 177]
abbrev dktX0_laysGaps_5 : List UInt8 := dkwX0_laysGaps_5 ++ []
def dkwX0_laysGaps_4 : List UInt8 := [27, 104, 29, 96, 42, 42, 182, 0, 155, 27, 29, 182, 0, 220, 79, 132, 3, 1, 167, 255, 179, 132, 1, 1]
abbrev dktX0_laysGaps_4 : List UInt8 := dkwX0_laysGaps_4 ++ dktX0_laysGaps_5
def dkwX0_laysGaps_3 : List UInt8 := [180, 0, 39, 180, 0, 207, 29, 46, 28, 100, 184, 1, 117, 167, 0, 4, 2, 79, 42, 180, 0, 93, 16, 6]
abbrev dktX0_laysGaps_3 : List UInt8 := dkwX0_laysGaps_3 ++ dktX0_laysGaps_4
def dkwX0_laysGaps_2 : List UInt8 := [180, 0, 90, 16, 6, 27, 104, 29, 96, 42, 42, 182, 0, 155, 27, 29, 182, 1, 81, 153, 0, 20, 42]
abbrev dktX0_laysGaps_2 : List UInt8 := dkwX0_laysGaps_2 ++ dktX0_laysGaps_3
def dkwX0_laysGaps_1 : List UInt8 := [182, 0, 155, 27, 182, 0, 187, 61, 3, 62, 29, 42, 180, 0, 39, 180, 0, 142, 162, 0, 72, 42]
abbrev dktX0_laysGaps_1 : List UInt8 := dkwX0_laysGaps_1 ++ dktX0_laysGaps_2
def dkwX0_laysGaps_0 : List UInt8 := [3, 60, 27, 42, 180, 0, 39, 180, 0, 139, 162, 0, 108, 42, 42, 180, 0, 39, 180, 0, 184, 42]
abbrev dktX0_laysGaps_0 : List UInt8 := dkwX0_laysGaps_0 ++ dktX0_laysGaps_1
theorem dksX0_laysGaps_0 : cX0_laysGaps.data.toList.drop 0 = dktX0_laysGaps_0 := by decide +kernel
theorem dksX0_laysGaps_1 : cX0_laysGaps.data.toList.drop 22 = dktX0_laysGaps_1 := dk_seg dksX0_laysGaps_0 22 rfl rfl
theorem dksX0_laysGaps_2 : cX0_laysGaps.data.toList.drop 44 = dktX0_laysGaps_2 := dk_seg dksX0_laysGaps_1 22 rfl rfl
theorem dksX0_laysGaps_3 : cX0_laysGaps.data.toList.drop 67 = dktX0_laysGaps_3 := dk_seg dksX0_laysGaps_2 23 rfl rfl
theorem dksX0_laysGaps_4 : cX0_laysGaps.data.toList.drop 91 = dktX0_laysGaps_4 := dk_seg dksX0_laysGaps_3 24 rfl rfl
theorem dksX0_laysGaps_5 : cX0_laysGaps.data.toList.drop 115 = dktX0_laysGaps_5 := dk_seg dksX0_laysGaps_4 24 rfl rfl
theorem dX0_laysGaps_0 : decode cX0_laysGaps 0 = .ok (.iconst 0, 1) := dk_3 (dk_at dksX0_laysGaps_0 0 rfl rfl)
theorem dX0_laysGaps_1 : decode cX0_laysGaps 1 = .ok (.istore_n 1, 1) := dk_60 (dk_at dksX0_laysGaps_0 1 rfl rfl)
theorem dX0_laysGaps_2 : decode cX0_laysGaps 2 = .ok (.iload_n 1, 1) := dk_27 (dk_at dksX0_laysGaps_0 2 rfl rfl)
theorem dX0_laysGaps_3 : decode cX0_laysGaps 3 = .ok (.aload_n 0, 1) := dk_42 (dk_at dksX0_laysGaps_0 3 rfl rfl)
theorem dX0_laysGaps_4 : decode cX0_laysGaps 4 = .ok (.getfield 39, 3) := dk_180 0 39 (dk_at dksX0_laysGaps_0 4 rfl rfl)
theorem dX0_laysGaps_7 : decode cX0_laysGaps 7 = .ok (.getfield 139, 3) := dk_180 0 139 (dk_at dksX0_laysGaps_0 7 rfl rfl)
theorem dX0_laysGaps_10 : decode cX0_laysGaps 10 = .ok (.if_icmp .ge 108, 3) := dk_162 0 108 (dk_at dksX0_laysGaps_0 10 rfl rfl)
theorem dX0_laysGaps_13 : decode cX0_laysGaps 13 = .ok (.aload_n 0, 1) := dk_42 (dk_at dksX0_laysGaps_0 13 rfl rfl)
theorem dX0_laysGaps_14 : decode cX0_laysGaps 14 = .ok (.aload_n 0, 1) := dk_42 (dk_at dksX0_laysGaps_0 14 rfl rfl)
theorem dX0_laysGaps_15 : decode cX0_laysGaps 15 = .ok (.getfield 39, 3) := dk_180 0 39 (dk_at dksX0_laysGaps_0 15 rfl rfl)
theorem dX0_laysGaps_18 : decode cX0_laysGaps 18 = .ok (.getfield 184, 3) := dk_180 0 184 (dk_at dksX0_laysGaps_0 18 rfl rfl)
theorem dX0_laysGaps_21 : decode cX0_laysGaps 21 = .ok (.aload_n 0, 1) := dk_42 (dk_at dksX0_laysGaps_0 21 rfl rfl)
theorem dX0_laysGaps_22 : decode cX0_laysGaps 22 = .ok (.invokevirtual 155, 3) := dk_182 0 155 (dk_at dksX0_laysGaps_1 0 rfl rfl)
theorem dX0_laysGaps_25 : decode cX0_laysGaps 25 = .ok (.iload_n 1, 1) := dk_27 (dk_at dksX0_laysGaps_1 3 rfl rfl)
theorem dX0_laysGaps_26 : decode cX0_laysGaps 26 = .ok (.invokevirtual 187, 3) := dk_182 0 187 (dk_at dksX0_laysGaps_1 4 rfl rfl)
theorem dX0_laysGaps_29 : decode cX0_laysGaps 29 = .ok (.istore_n 2, 1) := dk_61 (dk_at dksX0_laysGaps_1 7 rfl rfl)
theorem dX0_laysGaps_30 : decode cX0_laysGaps 30 = .ok (.iconst 0, 1) := dk_3 (dk_at dksX0_laysGaps_1 8 rfl rfl)
theorem dX0_laysGaps_31 : decode cX0_laysGaps 31 = .ok (.istore_n 3, 1) := dk_62 (dk_at dksX0_laysGaps_1 9 rfl rfl)
theorem dX0_laysGaps_32 : decode cX0_laysGaps 32 = .ok (.iload_n 3, 1) := dk_29 (dk_at dksX0_laysGaps_1 10 rfl rfl)
theorem dX0_laysGaps_33 : decode cX0_laysGaps 33 = .ok (.aload_n 0, 1) := dk_42 (dk_at dksX0_laysGaps_1 11 rfl rfl)
theorem dX0_laysGaps_34 : decode cX0_laysGaps 34 = .ok (.getfield 39, 3) := dk_180 0 39 (dk_at dksX0_laysGaps_1 12 rfl rfl)
theorem dX0_laysGaps_37 : decode cX0_laysGaps 37 = .ok (.getfield 142, 3) := dk_180 0 142 (dk_at dksX0_laysGaps_1 15 rfl rfl)
theorem dX0_laysGaps_40 : decode cX0_laysGaps 40 = .ok (.if_icmp .ge 72, 3) := dk_162 0 72 (dk_at dksX0_laysGaps_1 18 rfl rfl)
theorem dX0_laysGaps_43 : decode cX0_laysGaps 43 = .ok (.aload_n 0, 1) := dk_42 (dk_at dksX0_laysGaps_1 21 rfl rfl)
theorem dX0_laysGaps_44 : decode cX0_laysGaps 44 = .ok (.getfield 90, 3) := dk_180 0 90 (dk_at dksX0_laysGaps_2 0 rfl rfl)
theorem dX0_laysGaps_47 : decode cX0_laysGaps 47 = .ok (.bipush 6, 2) := dk_16 6 (dk_at dksX0_laysGaps_2 3 rfl rfl)
theorem dX0_laysGaps_49 : decode cX0_laysGaps 49 = .ok (.iload_n 1, 1) := dk_27 (dk_at dksX0_laysGaps_2 5 rfl rfl)
theorem dX0_laysGaps_50 : decode cX0_laysGaps 50 = .ok (.imul, 1) := dk_104 (dk_at dksX0_laysGaps_2 6 rfl rfl)
theorem dX0_laysGaps_51 : decode cX0_laysGaps 51 = .ok (.iload_n 3, 1) := dk_29 (dk_at dksX0_laysGaps_2 7 rfl rfl)
theorem dX0_laysGaps_52 : decode cX0_laysGaps 52 = .ok (.iadd, 1) := dk_96 (dk_at dksX0_laysGaps_2 8 rfl rfl)
theorem dX0_laysGaps_53 : decode cX0_laysGaps 53 = .ok (.aload_n 0, 1) := dk_42 (dk_at dksX0_laysGaps_2 9 rfl rfl)
theorem dX0_laysGaps_54 : decode cX0_laysGaps 54 = .ok (.aload_n 0, 1) := dk_42 (dk_at dksX0_laysGaps_2 10 rfl rfl)
theorem dX0_laysGaps_55 : decode cX0_laysGaps 55 = .ok (.invokevirtual 155, 3) := dk_182 0 155 (dk_at dksX0_laysGaps_2 11 rfl rfl)
theorem dX0_laysGaps_58 : decode cX0_laysGaps 58 = .ok (.iload_n 1, 1) := dk_27 (dk_at dksX0_laysGaps_2 14 rfl rfl)
theorem dX0_laysGaps_59 : decode cX0_laysGaps 59 = .ok (.iload_n 3, 1) := dk_29 (dk_at dksX0_laysGaps_2 15 rfl rfl)
theorem dX0_laysGaps_60 : decode cX0_laysGaps 60 = .ok (.invokevirtual 337, 3) := dk_182 1 81 (dk_at dksX0_laysGaps_2 16 rfl rfl)
theorem dX0_laysGaps_63 : decode cX0_laysGaps 63 = .ok (.ifCond .eq 20, 3) := dk_153 0 20 (dk_at dksX0_laysGaps_2 19 rfl rfl)
theorem dX0_laysGaps_66 : decode cX0_laysGaps 66 = .ok (.aload_n 0, 1) := dk_42 (dk_at dksX0_laysGaps_2 22 rfl rfl)
theorem dX0_laysGaps_67 : decode cX0_laysGaps 67 = .ok (.getfield 39, 3) := dk_180 0 39 (dk_at dksX0_laysGaps_3 0 rfl rfl)
theorem dX0_laysGaps_70 : decode cX0_laysGaps 70 = .ok (.getfield 207, 3) := dk_180 0 207 (dk_at dksX0_laysGaps_3 3 rfl rfl)
theorem dX0_laysGaps_73 : decode cX0_laysGaps 73 = .ok (.iload_n 3, 1) := dk_29 (dk_at dksX0_laysGaps_3 6 rfl rfl)
theorem dX0_laysGaps_74 : decode cX0_laysGaps 74 = .ok (.iaload, 1) := dk_46 (dk_at dksX0_laysGaps_3 7 rfl rfl)
theorem dX0_laysGaps_75 : decode cX0_laysGaps 75 = .ok (.iload_n 2, 1) := dk_28 (dk_at dksX0_laysGaps_3 8 rfl rfl)
theorem dX0_laysGaps_76 : decode cX0_laysGaps 76 = .ok (.isub, 1) := dk_100 (dk_at dksX0_laysGaps_3 9 rfl rfl)
theorem dX0_laysGaps_77 : decode cX0_laysGaps 77 = .ok (.invokestatic 373, 3) := dk_184 1 117 (dk_at dksX0_laysGaps_3 10 rfl rfl)
theorem dX0_laysGaps_80 : decode cX0_laysGaps 80 = .ok (.goto 4, 3) := dk_167 0 4 (dk_at dksX0_laysGaps_3 13 rfl rfl)
theorem dX0_laysGaps_83 : decode cX0_laysGaps 83 = .ok (.iconst (-1), 1) := dk_2 (dk_at dksX0_laysGaps_3 16 rfl rfl)
theorem dX0_laysGaps_84 : decode cX0_laysGaps 84 = .ok (.iastore, 1) := dk_79 (dk_at dksX0_laysGaps_3 17 rfl rfl)
theorem dX0_laysGaps_85 : decode cX0_laysGaps 85 = .ok (.aload_n 0, 1) := dk_42 (dk_at dksX0_laysGaps_3 18 rfl rfl)
theorem dX0_laysGaps_86 : decode cX0_laysGaps 86 = .ok (.getfield 93, 3) := dk_180 0 93 (dk_at dksX0_laysGaps_3 19 rfl rfl)
theorem dX0_laysGaps_89 : decode cX0_laysGaps 89 = .ok (.bipush 6, 2) := dk_16 6 (dk_at dksX0_laysGaps_3 22 rfl rfl)
theorem dX0_laysGaps_91 : decode cX0_laysGaps 91 = .ok (.iload_n 1, 1) := dk_27 (dk_at dksX0_laysGaps_4 0 rfl rfl)
theorem dX0_laysGaps_92 : decode cX0_laysGaps 92 = .ok (.imul, 1) := dk_104 (dk_at dksX0_laysGaps_4 1 rfl rfl)
theorem dX0_laysGaps_93 : decode cX0_laysGaps 93 = .ok (.iload_n 3, 1) := dk_29 (dk_at dksX0_laysGaps_4 2 rfl rfl)
theorem dX0_laysGaps_94 : decode cX0_laysGaps 94 = .ok (.iadd, 1) := dk_96 (dk_at dksX0_laysGaps_4 3 rfl rfl)
theorem dX0_laysGaps_95 : decode cX0_laysGaps 95 = .ok (.aload_n 0, 1) := dk_42 (dk_at dksX0_laysGaps_4 4 rfl rfl)
theorem dX0_laysGaps_96 : decode cX0_laysGaps 96 = .ok (.aload_n 0, 1) := dk_42 (dk_at dksX0_laysGaps_4 5 rfl rfl)
theorem dX0_laysGaps_97 : decode cX0_laysGaps 97 = .ok (.invokevirtual 155, 3) := dk_182 0 155 (dk_at dksX0_laysGaps_4 6 rfl rfl)
theorem dX0_laysGaps_100 : decode cX0_laysGaps 100 = .ok (.iload_n 1, 1) := dk_27 (dk_at dksX0_laysGaps_4 9 rfl rfl)
theorem dX0_laysGaps_101 : decode cX0_laysGaps 101 = .ok (.iload_n 3, 1) := dk_29 (dk_at dksX0_laysGaps_4 10 rfl rfl)
theorem dX0_laysGaps_102 : decode cX0_laysGaps 102 = .ok (.invokevirtual 220, 3) := dk_182 0 220 (dk_at dksX0_laysGaps_4 11 rfl rfl)
theorem dX0_laysGaps_105 : decode cX0_laysGaps 105 = .ok (.iastore, 1) := dk_79 (dk_at dksX0_laysGaps_4 14 rfl rfl)
theorem dX0_laysGaps_106 : decode cX0_laysGaps 106 = .ok (.iinc 3 1, 3) := dk_132 3 1 (dk_at dksX0_laysGaps_4 15 rfl rfl)
theorem dX0_laysGaps_109 : decode cX0_laysGaps 109 = .ok (.goto (-77), 3) := dk_167 255 179 (dk_at dksX0_laysGaps_4 18 rfl rfl)
theorem dX0_laysGaps_112 : decode cX0_laysGaps 112 = .ok (.iinc 1 1, 3) := dk_132 1 1 (dk_at dksX0_laysGaps_4 21 rfl rfl)
theorem dX0_laysGaps_115 : decode cX0_laysGaps 115 = .ok (.goto (-113), 3) := dk_167 255 143 (dk_at dksX0_laysGaps_5 0 rfl rfl)
theorem dX0_laysGaps_118 : decode cX0_laysGaps 118 = .ok (.return_, 1) := dk_177 (dk_at dksX0_laysGaps_5 3 rfl rfl)
abbrev cX0_nextAsked : ByteArray := prog_1_method_62_code
def yX0_nextAsked : MethodName := ⟨RX0, "nextAsked", "(I)I"⟩
def dkwX0_nextAsked_3 : List UInt8 := [29, 61, 132, 3, 1, 167, 255, 184, 28, 172]
abbrev dktX0_nextAsked_3 : List UInt8 := dkwX0_nextAsked_3 ++ []
def dkwX0_nextAsked_2 : List UInt8 := [167, 0, 26, 28, 2, 159, 0, 19, 21, 4, 42, 180, 0, 90, 16, 6, 27, 104, 28, 96, 46, 162, 0, 5]
abbrev dktX0_nextAsked_2 : List UInt8 := dkwX0_nextAsked_2 ++ dktX0_nextAsked_3
def dkwX0_nextAsked_1 : List UInt8 := [96, 46, 54, 4, 21, 4, 2, 159, 0, 42, 42, 180, 0, 99, 27, 46, 29, 184, 1, 37, 153, 0, 6]
abbrev dktX0_nextAsked_1 : List UInt8 := dkwX0_nextAsked_1 ++ dktX0_nextAsked_2
def dkwX0_nextAsked_0 : List UInt8 := [2, 61, 3, 62, 29, 42, 180, 0, 39, 180, 0, 142, 162, 0, 67, 42, 180, 0, 90, 16, 6, 27, 104, 29]
abbrev dktX0_nextAsked_0 : List UInt8 := dkwX0_nextAsked_0 ++ dktX0_nextAsked_1
theorem dksX0_nextAsked_0 : cX0_nextAsked.data.toList.drop 0 = dktX0_nextAsked_0 := by decide +kernel
theorem dksX0_nextAsked_1 : cX0_nextAsked.data.toList.drop 24 = dktX0_nextAsked_1 := dk_seg dksX0_nextAsked_0 24 rfl rfl
theorem dksX0_nextAsked_2 : cX0_nextAsked.data.toList.drop 47 = dktX0_nextAsked_2 := dk_seg dksX0_nextAsked_1 23 rfl rfl
theorem dksX0_nextAsked_3 : cX0_nextAsked.data.toList.drop 71 = dktX0_nextAsked_3 := dk_seg dksX0_nextAsked_2 24 rfl rfl
theorem dX0_nextAsked_0 : decode cX0_nextAsked 0 = .ok (.iconst (-1), 1) := dk_2 (dk_at dksX0_nextAsked_0 0 rfl rfl)
theorem dX0_nextAsked_1 : decode cX0_nextAsked 1 = .ok (.istore_n 2, 1) := dk_61 (dk_at dksX0_nextAsked_0 1 rfl rfl)
theorem dX0_nextAsked_2 : decode cX0_nextAsked 2 = .ok (.iconst 0, 1) := dk_3 (dk_at dksX0_nextAsked_0 2 rfl rfl)
theorem dX0_nextAsked_3 : decode cX0_nextAsked 3 = .ok (.istore_n 3, 1) := dk_62 (dk_at dksX0_nextAsked_0 3 rfl rfl)
theorem dX0_nextAsked_4 : decode cX0_nextAsked 4 = .ok (.iload_n 3, 1) := dk_29 (dk_at dksX0_nextAsked_0 4 rfl rfl)
theorem dX0_nextAsked_5 : decode cX0_nextAsked 5 = .ok (.aload_n 0, 1) := dk_42 (dk_at dksX0_nextAsked_0 5 rfl rfl)
theorem dX0_nextAsked_6 : decode cX0_nextAsked 6 = .ok (.getfield 39, 3) := dk_180 0 39 (dk_at dksX0_nextAsked_0 6 rfl rfl)
theorem dX0_nextAsked_9 : decode cX0_nextAsked 9 = .ok (.getfield 142, 3) := dk_180 0 142 (dk_at dksX0_nextAsked_0 9 rfl rfl)
theorem dX0_nextAsked_12 : decode cX0_nextAsked 12 = .ok (.if_icmp .ge 67, 3) := dk_162 0 67 (dk_at dksX0_nextAsked_0 12 rfl rfl)
theorem dX0_nextAsked_15 : decode cX0_nextAsked 15 = .ok (.aload_n 0, 1) := dk_42 (dk_at dksX0_nextAsked_0 15 rfl rfl)
theorem dX0_nextAsked_16 : decode cX0_nextAsked 16 = .ok (.getfield 90, 3) := dk_180 0 90 (dk_at dksX0_nextAsked_0 16 rfl rfl)
theorem dX0_nextAsked_19 : decode cX0_nextAsked 19 = .ok (.bipush 6, 2) := dk_16 6 (dk_at dksX0_nextAsked_0 19 rfl rfl)
theorem dX0_nextAsked_21 : decode cX0_nextAsked 21 = .ok (.iload_n 1, 1) := dk_27 (dk_at dksX0_nextAsked_0 21 rfl rfl)
theorem dX0_nextAsked_22 : decode cX0_nextAsked 22 = .ok (.imul, 1) := dk_104 (dk_at dksX0_nextAsked_0 22 rfl rfl)
theorem dX0_nextAsked_23 : decode cX0_nextAsked 23 = .ok (.iload_n 3, 1) := dk_29 (dk_at dksX0_nextAsked_0 23 rfl rfl)
theorem dX0_nextAsked_24 : decode cX0_nextAsked 24 = .ok (.iadd, 1) := dk_96 (dk_at dksX0_nextAsked_1 0 rfl rfl)
theorem dX0_nextAsked_25 : decode cX0_nextAsked 25 = .ok (.iaload, 1) := dk_46 (dk_at dksX0_nextAsked_1 1 rfl rfl)
theorem dX0_nextAsked_26 : decode cX0_nextAsked 26 = .ok (.istore 4, 2) := dk_54 4 (dk_at dksX0_nextAsked_1 2 rfl rfl)
theorem dX0_nextAsked_28 : decode cX0_nextAsked 28 = .ok (.iload 4, 2) := dk_21 4 (dk_at dksX0_nextAsked_1 4 rfl rfl)
theorem dX0_nextAsked_30 : decode cX0_nextAsked 30 = .ok (.iconst (-1), 1) := dk_2 (dk_at dksX0_nextAsked_1 6 rfl rfl)
theorem dX0_nextAsked_31 : decode cX0_nextAsked 31 = .ok (.if_icmp .eq 42, 3) := dk_159 0 42 (dk_at dksX0_nextAsked_1 7 rfl rfl)
theorem dX0_nextAsked_34 : decode cX0_nextAsked 34 = .ok (.aload_n 0, 1) := dk_42 (dk_at dksX0_nextAsked_1 10 rfl rfl)
theorem dX0_nextAsked_35 : decode cX0_nextAsked 35 = .ok (.getfield 99, 3) := dk_180 0 99 (dk_at dksX0_nextAsked_1 11 rfl rfl)
theorem dX0_nextAsked_38 : decode cX0_nextAsked 38 = .ok (.iload_n 1, 1) := dk_27 (dk_at dksX0_nextAsked_1 14 rfl rfl)
theorem dX0_nextAsked_39 : decode cX0_nextAsked 39 = .ok (.iaload, 1) := dk_46 (dk_at dksX0_nextAsked_1 15 rfl rfl)
theorem dX0_nextAsked_40 : decode cX0_nextAsked 40 = .ok (.iload_n 3, 1) := dk_29 (dk_at dksX0_nextAsked_1 16 rfl rfl)
theorem dX0_nextAsked_41 : decode cX0_nextAsked 41 = .ok (.invokestatic 293, 3) := dk_184 1 37 (dk_at dksX0_nextAsked_1 17 rfl rfl)
theorem dX0_nextAsked_44 : decode cX0_nextAsked 44 = .ok (.ifCond .eq 6, 3) := dk_153 0 6 (dk_at dksX0_nextAsked_1 20 rfl rfl)
theorem dX0_nextAsked_47 : decode cX0_nextAsked 47 = .ok (.goto 26, 3) := dk_167 0 26 (dk_at dksX0_nextAsked_2 0 rfl rfl)
theorem dX0_nextAsked_50 : decode cX0_nextAsked 50 = .ok (.iload_n 2, 1) := dk_28 (dk_at dksX0_nextAsked_2 3 rfl rfl)
theorem dX0_nextAsked_51 : decode cX0_nextAsked 51 = .ok (.iconst (-1), 1) := dk_2 (dk_at dksX0_nextAsked_2 4 rfl rfl)
theorem dX0_nextAsked_52 : decode cX0_nextAsked 52 = .ok (.if_icmp .eq 19, 3) := dk_159 0 19 (dk_at dksX0_nextAsked_2 5 rfl rfl)
theorem dX0_nextAsked_55 : decode cX0_nextAsked 55 = .ok (.iload 4, 2) := dk_21 4 (dk_at dksX0_nextAsked_2 8 rfl rfl)
theorem dX0_nextAsked_57 : decode cX0_nextAsked 57 = .ok (.aload_n 0, 1) := dk_42 (dk_at dksX0_nextAsked_2 10 rfl rfl)
theorem dX0_nextAsked_58 : decode cX0_nextAsked 58 = .ok (.getfield 90, 3) := dk_180 0 90 (dk_at dksX0_nextAsked_2 11 rfl rfl)
theorem dX0_nextAsked_61 : decode cX0_nextAsked 61 = .ok (.bipush 6, 2) := dk_16 6 (dk_at dksX0_nextAsked_2 14 rfl rfl)
theorem dX0_nextAsked_63 : decode cX0_nextAsked 63 = .ok (.iload_n 1, 1) := dk_27 (dk_at dksX0_nextAsked_2 16 rfl rfl)
theorem dX0_nextAsked_64 : decode cX0_nextAsked 64 = .ok (.imul, 1) := dk_104 (dk_at dksX0_nextAsked_2 17 rfl rfl)
theorem dX0_nextAsked_65 : decode cX0_nextAsked 65 = .ok (.iload_n 2, 1) := dk_28 (dk_at dksX0_nextAsked_2 18 rfl rfl)
theorem dX0_nextAsked_66 : decode cX0_nextAsked 66 = .ok (.iadd, 1) := dk_96 (dk_at dksX0_nextAsked_2 19 rfl rfl)
theorem dX0_nextAsked_67 : decode cX0_nextAsked 67 = .ok (.iaload, 1) := dk_46 (dk_at dksX0_nextAsked_2 20 rfl rfl)
theorem dX0_nextAsked_68 : decode cX0_nextAsked 68 = .ok (.if_icmp .ge 5, 3) := dk_162 0 5 (dk_at dksX0_nextAsked_2 21 rfl rfl)
theorem dX0_nextAsked_71 : decode cX0_nextAsked 71 = .ok (.iload_n 3, 1) := dk_29 (dk_at dksX0_nextAsked_3 0 rfl rfl)
theorem dX0_nextAsked_72 : decode cX0_nextAsked 72 = .ok (.istore_n 2, 1) := dk_61 (dk_at dksX0_nextAsked_3 1 rfl rfl)
theorem dX0_nextAsked_73 : decode cX0_nextAsked 73 = .ok (.iinc 3 1, 3) := dk_132 3 1 (dk_at dksX0_nextAsked_3 2 rfl rfl)
theorem dX0_nextAsked_76 : decode cX0_nextAsked 76 = .ok (.goto (-72), 3) := dk_167 255 184 (dk_at dksX0_nextAsked_3 5 rfl rfl)
theorem dX0_nextAsked_79 : decode cX0_nextAsked 79 = .ok (.iload_n 2, 1) := dk_28 (dk_at dksX0_nextAsked_3 8 rfl rfl)
theorem dX0_nextAsked_80 : decode cX0_nextAsked 80 = .ok (.ireturn, 1) := dk_172 (dk_at dksX0_nextAsked_3 9 rfl rfl)
abbrev cX0_isRather : ByteArray := prog_1_method_63_code
def yX0_isRather : MethodName := ⟨RX0, "isRather", "(III)Z"⟩
def dkwX0_isRather_2 : List UInt8 := [167, 0, 4, 3, 172]
abbrev dktX0_isRather_2 : List UInt8 := dkwX0_isRather_2 ++ []
def dkwX0_isRather_1 : List UInt8 := [54, 5, 21, 4, 21, 5, 163, 0, 15, 21, 4, 21, 5, 160, 0, 12, 28, 29, 162, 0, 7, 4]
abbrev dktX0_isRather_1 : List UInt8 := dkwX0_isRather_1 ++ dktX0_isRather_2
def dkwX0_isRather_0 : List UInt8 := [42, 180, 0, 93, 16, 6, 28, 104, 27, 96, 46, 54, 4, 42, 180, 0, 93, 16, 6, 29, 104, 27, 96, 46]
abbrev dktX0_isRather_0 : List UInt8 := dkwX0_isRather_0 ++ dktX0_isRather_1
theorem dksX0_isRather_0 : cX0_isRather.data.toList.drop 0 = dktX0_isRather_0 := by decide +kernel
theorem dksX0_isRather_1 : cX0_isRather.data.toList.drop 24 = dktX0_isRather_1 := dk_seg dksX0_isRather_0 24 rfl rfl
theorem dksX0_isRather_2 : cX0_isRather.data.toList.drop 46 = dktX0_isRather_2 := dk_seg dksX0_isRather_1 22 rfl rfl
theorem dX0_isRather_0 : decode cX0_isRather 0 = .ok (.aload_n 0, 1) := dk_42 (dk_at dksX0_isRather_0 0 rfl rfl)
theorem dX0_isRather_1 : decode cX0_isRather 1 = .ok (.getfield 93, 3) := dk_180 0 93 (dk_at dksX0_isRather_0 1 rfl rfl)
theorem dX0_isRather_4 : decode cX0_isRather 4 = .ok (.bipush 6, 2) := dk_16 6 (dk_at dksX0_isRather_0 4 rfl rfl)
theorem dX0_isRather_6 : decode cX0_isRather 6 = .ok (.iload_n 2, 1) := dk_28 (dk_at dksX0_isRather_0 6 rfl rfl)
theorem dX0_isRather_7 : decode cX0_isRather 7 = .ok (.imul, 1) := dk_104 (dk_at dksX0_isRather_0 7 rfl rfl)
theorem dX0_isRather_8 : decode cX0_isRather 8 = .ok (.iload_n 1, 1) := dk_27 (dk_at dksX0_isRather_0 8 rfl rfl)
theorem dX0_isRather_9 : decode cX0_isRather 9 = .ok (.iadd, 1) := dk_96 (dk_at dksX0_isRather_0 9 rfl rfl)
theorem dX0_isRather_10 : decode cX0_isRather 10 = .ok (.iaload, 1) := dk_46 (dk_at dksX0_isRather_0 10 rfl rfl)
theorem dX0_isRather_11 : decode cX0_isRather 11 = .ok (.istore 4, 2) := dk_54 4 (dk_at dksX0_isRather_0 11 rfl rfl)
theorem dX0_isRather_13 : decode cX0_isRather 13 = .ok (.aload_n 0, 1) := dk_42 (dk_at dksX0_isRather_0 13 rfl rfl)
theorem dX0_isRather_14 : decode cX0_isRather 14 = .ok (.getfield 93, 3) := dk_180 0 93 (dk_at dksX0_isRather_0 14 rfl rfl)
theorem dX0_isRather_17 : decode cX0_isRather 17 = .ok (.bipush 6, 2) := dk_16 6 (dk_at dksX0_isRather_0 17 rfl rfl)
theorem dX0_isRather_19 : decode cX0_isRather 19 = .ok (.iload_n 3, 1) := dk_29 (dk_at dksX0_isRather_0 19 rfl rfl)
theorem dX0_isRather_20 : decode cX0_isRather 20 = .ok (.imul, 1) := dk_104 (dk_at dksX0_isRather_0 20 rfl rfl)
theorem dX0_isRather_21 : decode cX0_isRather 21 = .ok (.iload_n 1, 1) := dk_27 (dk_at dksX0_isRather_0 21 rfl rfl)
theorem dX0_isRather_22 : decode cX0_isRather 22 = .ok (.iadd, 1) := dk_96 (dk_at dksX0_isRather_0 22 rfl rfl)
theorem dX0_isRather_23 : decode cX0_isRather 23 = .ok (.iaload, 1) := dk_46 (dk_at dksX0_isRather_0 23 rfl rfl)
theorem dX0_isRather_24 : decode cX0_isRather 24 = .ok (.istore 5, 2) := dk_54 5 (dk_at dksX0_isRather_1 0 rfl rfl)
theorem dX0_isRather_26 : decode cX0_isRather 26 = .ok (.iload 4, 2) := dk_21 4 (dk_at dksX0_isRather_1 2 rfl rfl)
theorem dX0_isRather_28 : decode cX0_isRather 28 = .ok (.iload 5, 2) := dk_21 5 (dk_at dksX0_isRather_1 4 rfl rfl)
theorem dX0_isRather_30 : decode cX0_isRather 30 = .ok (.if_icmp .gt 15, 3) := dk_163 0 15 (dk_at dksX0_isRather_1 6 rfl rfl)
theorem dX0_isRather_33 : decode cX0_isRather 33 = .ok (.iload 4, 2) := dk_21 4 (dk_at dksX0_isRather_1 9 rfl rfl)
theorem dX0_isRather_35 : decode cX0_isRather 35 = .ok (.iload 5, 2) := dk_21 5 (dk_at dksX0_isRather_1 11 rfl rfl)
theorem dX0_isRather_37 : decode cX0_isRather 37 = .ok (.if_icmp .ne 12, 3) := dk_160 0 12 (dk_at dksX0_isRather_1 13 rfl rfl)
theorem dX0_isRather_40 : decode cX0_isRather 40 = .ok (.iload_n 2, 1) := dk_28 (dk_at dksX0_isRather_1 16 rfl rfl)
theorem dX0_isRather_41 : decode cX0_isRather 41 = .ok (.iload_n 3, 1) := dk_29 (dk_at dksX0_isRather_1 17 rfl rfl)
theorem dX0_isRather_42 : decode cX0_isRather 42 = .ok (.if_icmp .ge 7, 3) := dk_162 0 7 (dk_at dksX0_isRather_1 18 rfl rfl)
theorem dX0_isRather_45 : decode cX0_isRather 45 = .ok (.iconst 1, 1) := dk_4 (dk_at dksX0_isRather_1 21 rfl rfl)
theorem dX0_isRather_46 : decode cX0_isRather 46 = .ok (.goto 4, 3) := dk_167 0 4 (dk_at dksX0_isRather_2 0 rfl rfl)
theorem dX0_isRather_49 : decode cX0_isRather 49 = .ok (.iconst 0, 1) := dk_3 (dk_at dksX0_isRather_2 3 rfl rfl)
theorem dX0_isRather_50 : decode cX0_isRather 50 = .ok (.ireturn, 1) := dk_172 (dk_at dksX0_isRather_2 4 rfl rfl)
abbrev cX0_about : ByteArray := prog_1_method_70_code
def yX0_about : MethodName := ⟨RX0, "about", "(II)I"⟩
def dkwX0_about_6 : List UInt8 := [167, 255, 215, 42, 28, 5, 100, 21, 4, 182, 1, 144, 172]
abbrev dktX0_about_6 : List UInt8 := dkwX0_about_6 ++ []
def dkwX0_about_5 : List UInt8 := [21, 4, 21, 6, 16, 100, 160, 0, 7, 3, 167, 0, 7, 4, 21, 6, 120, 128, 54, 4, 132, 5, 1]
abbrev dktX0_about_5 : List UInt8 := dkwX0_about_5 ++ dktX0_about_6
def dkwX0_about_4 : List UInt8 := [3, 54, 4, 3, 54, 5, 21, 5, 28, 5, 100, 162, 0, 39, 42, 21, 5, 21, 4, 182, 1, 144, 54, 6]
abbrev dktX0_about_4 : List UInt8 := dkwX0_about_4 ++ dktX0_about_5
def dkwX0_about_3 : List UInt8 := [104, 42, 3, 3, 182, 1, 132, 100, 172, 42, 182, 0, 155, 28, 5, 100, 182, 1, 70, 153, 0, 5, 2, 172]
abbrev dktX0_about_3 : List UInt8 := dkwX0_about_3 ++ dktX0_about_4
def dkwX0_about_2 : List UInt8 := [4, 100, 17, 3, 232, 108, 62, 28, 5, 162, 0, 24, 28, 154, 0, 7, 29, 167, 0, 15, 17, 3, 232, 29]
abbrev dktX0_about_2 : List UInt8 := dkwX0_about_2 ++ dktX0_about_3
def dkwX0_about_1 : List UInt8 := [154, 0, 5, 2, 172, 42, 27, 181, 1, 135, 42, 182, 1, 141, 42, 3, 3, 182, 1, 132, 17, 3, 232, 96]
abbrev dktX0_about_1 : List UInt8 := dkwX0_about_1 ++ dktX0_about_2
def dkwX0_about_0 : List UInt8 := [27, 3, 16, 60, 184, 0, 26, 153, 0, 20, 28, 3, 4, 42, 180, 0, 39, 180, 0, 139, 96, 184, 0, 26]
abbrev dktX0_about_0 : List UInt8 := dkwX0_about_0 ++ dktX0_about_1
theorem dksX0_about_0 : cX0_about.data.toList.drop 0 = dktX0_about_0 := by decide +kernel
theorem dksX0_about_1 : cX0_about.data.toList.drop 24 = dktX0_about_1 := dk_seg dksX0_about_0 24 rfl rfl
theorem dksX0_about_2 : cX0_about.data.toList.drop 48 = dktX0_about_2 := dk_seg dksX0_about_1 24 rfl rfl
theorem dksX0_about_3 : cX0_about.data.toList.drop 72 = dktX0_about_3 := dk_seg dksX0_about_2 24 rfl rfl
theorem dksX0_about_4 : cX0_about.data.toList.drop 96 = dktX0_about_4 := dk_seg dksX0_about_3 24 rfl rfl
theorem dksX0_about_5 : cX0_about.data.toList.drop 120 = dktX0_about_5 := dk_seg dksX0_about_4 24 rfl rfl
theorem dksX0_about_6 : cX0_about.data.toList.drop 143 = dktX0_about_6 := dk_seg dksX0_about_5 23 rfl rfl
theorem dX0_about_0 : decode cX0_about 0 = .ok (.iload_n 1, 1) := dk_27 (dk_at dksX0_about_0 0 rfl rfl)
theorem dX0_about_1 : decode cX0_about 1 = .ok (.iconst 0, 1) := dk_3 (dk_at dksX0_about_0 1 rfl rfl)
theorem dX0_about_2 : decode cX0_about 2 = .ok (.bipush 60, 2) := dk_16 60 (dk_at dksX0_about_0 2 rfl rfl)
theorem dX0_about_4 : decode cX0_about 4 = .ok (.invokestatic 26, 3) := dk_184 0 26 (dk_at dksX0_about_0 4 rfl rfl)
theorem dX0_about_7 : decode cX0_about 7 = .ok (.ifCond .eq 20, 3) := dk_153 0 20 (dk_at dksX0_about_0 7 rfl rfl)
theorem dX0_about_10 : decode cX0_about 10 = .ok (.iload_n 2, 1) := dk_28 (dk_at dksX0_about_0 10 rfl rfl)
theorem dX0_about_11 : decode cX0_about 11 = .ok (.iconst 0, 1) := dk_3 (dk_at dksX0_about_0 11 rfl rfl)
theorem dX0_about_12 : decode cX0_about 12 = .ok (.iconst 1, 1) := dk_4 (dk_at dksX0_about_0 12 rfl rfl)
theorem dX0_about_13 : decode cX0_about 13 = .ok (.aload_n 0, 1) := dk_42 (dk_at dksX0_about_0 13 rfl rfl)
theorem dX0_about_14 : decode cX0_about 14 = .ok (.getfield 39, 3) := dk_180 0 39 (dk_at dksX0_about_0 14 rfl rfl)
theorem dX0_about_17 : decode cX0_about 17 = .ok (.getfield 139, 3) := dk_180 0 139 (dk_at dksX0_about_0 17 rfl rfl)
theorem dX0_about_20 : decode cX0_about 20 = .ok (.iadd, 1) := dk_96 (dk_at dksX0_about_0 20 rfl rfl)
theorem dX0_about_21 : decode cX0_about 21 = .ok (.invokestatic 26, 3) := dk_184 0 26 (dk_at dksX0_about_0 21 rfl rfl)
theorem dX0_about_24 : decode cX0_about 24 = .ok (.ifCond .ne 5, 3) := dk_154 0 5 (dk_at dksX0_about_1 0 rfl rfl)
theorem dX0_about_27 : decode cX0_about 27 = .ok (.iconst (-1), 1) := dk_2 (dk_at dksX0_about_1 3 rfl rfl)
theorem dX0_about_28 : decode cX0_about 28 = .ok (.ireturn, 1) := dk_172 (dk_at dksX0_about_1 4 rfl rfl)
theorem dX0_about_29 : decode cX0_about 29 = .ok (.aload_n 0, 1) := dk_42 (dk_at dksX0_about_1 5 rfl rfl)
theorem dX0_about_30 : decode cX0_about 30 = .ok (.iload_n 1, 1) := dk_27 (dk_at dksX0_about_1 6 rfl rfl)
theorem dX0_about_31 : decode cX0_about 31 = .ok (.putfield 391, 3) := dk_181 1 135 (dk_at dksX0_about_1 7 rfl rfl)
theorem dX0_about_34 : decode cX0_about 34 = .ok (.aload_n 0, 1) := dk_42 (dk_at dksX0_about_1 10 rfl rfl)
theorem dX0_about_35 : decode cX0_about 35 = .ok (.invokevirtual 397, 3) := dk_182 1 141 (dk_at dksX0_about_1 11 rfl rfl)
theorem dX0_about_38 : decode cX0_about 38 = .ok (.aload_n 0, 1) := dk_42 (dk_at dksX0_about_1 14 rfl rfl)
theorem dX0_about_39 : decode cX0_about 39 = .ok (.iconst 0, 1) := dk_3 (dk_at dksX0_about_1 15 rfl rfl)
theorem dX0_about_40 : decode cX0_about 40 = .ok (.iconst 0, 1) := dk_3 (dk_at dksX0_about_1 16 rfl rfl)
theorem dX0_about_41 : decode cX0_about 41 = .ok (.invokevirtual 388, 3) := dk_182 1 132 (dk_at dksX0_about_1 17 rfl rfl)
theorem dX0_about_44 : decode cX0_about 44 = .ok (.sipush 1000, 3) := dk_17 3 232 (dk_at dksX0_about_1 20 rfl rfl)
theorem dX0_about_47 : decode cX0_about 47 = .ok (.iadd, 1) := dk_96 (dk_at dksX0_about_1 23 rfl rfl)
theorem dX0_about_48 : decode cX0_about 48 = .ok (.iconst 1, 1) := dk_4 (dk_at dksX0_about_2 0 rfl rfl)
theorem dX0_about_49 : decode cX0_about 49 = .ok (.isub, 1) := dk_100 (dk_at dksX0_about_2 1 rfl rfl)
theorem dX0_about_50 : decode cX0_about 50 = .ok (.sipush 1000, 3) := dk_17 3 232 (dk_at dksX0_about_2 2 rfl rfl)
theorem dX0_about_53 : decode cX0_about 53 = .ok (.idiv, 1) := dk_108 (dk_at dksX0_about_2 5 rfl rfl)
theorem dX0_about_54 : decode cX0_about 54 = .ok (.istore_n 3, 1) := dk_62 (dk_at dksX0_about_2 6 rfl rfl)
theorem dX0_about_55 : decode cX0_about 55 = .ok (.iload_n 2, 1) := dk_28 (dk_at dksX0_about_2 7 rfl rfl)
theorem dX0_about_56 : decode cX0_about 56 = .ok (.iconst 2, 1) := dk_5 (dk_at dksX0_about_2 8 rfl rfl)
theorem dX0_about_57 : decode cX0_about 57 = .ok (.if_icmp .ge 24, 3) := dk_162 0 24 (dk_at dksX0_about_2 9 rfl rfl)
theorem dX0_about_60 : decode cX0_about 60 = .ok (.iload_n 2, 1) := dk_28 (dk_at dksX0_about_2 12 rfl rfl)
theorem dX0_about_61 : decode cX0_about 61 = .ok (.ifCond .ne 7, 3) := dk_154 0 7 (dk_at dksX0_about_2 13 rfl rfl)
theorem dX0_about_64 : decode cX0_about 64 = .ok (.iload_n 3, 1) := dk_29 (dk_at dksX0_about_2 16 rfl rfl)
theorem dX0_about_65 : decode cX0_about 65 = .ok (.goto 15, 3) := dk_167 0 15 (dk_at dksX0_about_2 17 rfl rfl)
theorem dX0_about_68 : decode cX0_about 68 = .ok (.sipush 1000, 3) := dk_17 3 232 (dk_at dksX0_about_2 20 rfl rfl)
theorem dX0_about_71 : decode cX0_about 71 = .ok (.iload_n 3, 1) := dk_29 (dk_at dksX0_about_2 23 rfl rfl)
theorem dX0_about_72 : decode cX0_about 72 = .ok (.imul, 1) := dk_104 (dk_at dksX0_about_3 0 rfl rfl)
theorem dX0_about_73 : decode cX0_about 73 = .ok (.aload_n 0, 1) := dk_42 (dk_at dksX0_about_3 1 rfl rfl)
theorem dX0_about_74 : decode cX0_about 74 = .ok (.iconst 0, 1) := dk_3 (dk_at dksX0_about_3 2 rfl rfl)
theorem dX0_about_75 : decode cX0_about 75 = .ok (.iconst 0, 1) := dk_3 (dk_at dksX0_about_3 3 rfl rfl)
theorem dX0_about_76 : decode cX0_about 76 = .ok (.invokevirtual 388, 3) := dk_182 1 132 (dk_at dksX0_about_3 4 rfl rfl)
theorem dX0_about_79 : decode cX0_about 79 = .ok (.isub, 1) := dk_100 (dk_at dksX0_about_3 7 rfl rfl)
theorem dX0_about_80 : decode cX0_about 80 = .ok (.ireturn, 1) := dk_172 (dk_at dksX0_about_3 8 rfl rfl)
theorem dX0_about_81 : decode cX0_about 81 = .ok (.aload_n 0, 1) := dk_42 (dk_at dksX0_about_3 9 rfl rfl)
theorem dX0_about_82 : decode cX0_about 82 = .ok (.invokevirtual 155, 3) := dk_182 0 155 (dk_at dksX0_about_3 10 rfl rfl)
theorem dX0_about_85 : decode cX0_about 85 = .ok (.iload_n 2, 1) := dk_28 (dk_at dksX0_about_3 13 rfl rfl)
theorem dX0_about_86 : decode cX0_about 86 = .ok (.iconst 2, 1) := dk_5 (dk_at dksX0_about_3 14 rfl rfl)
theorem dX0_about_87 : decode cX0_about 87 = .ok (.isub, 1) := dk_100 (dk_at dksX0_about_3 15 rfl rfl)
theorem dX0_about_88 : decode cX0_about 88 = .ok (.invokevirtual 326, 3) := dk_182 1 70 (dk_at dksX0_about_3 16 rfl rfl)
theorem dX0_about_91 : decode cX0_about 91 = .ok (.ifCond .eq 5, 3) := dk_153 0 5 (dk_at dksX0_about_3 19 rfl rfl)
theorem dX0_about_94 : decode cX0_about 94 = .ok (.iconst (-1), 1) := dk_2 (dk_at dksX0_about_3 22 rfl rfl)
theorem dX0_about_95 : decode cX0_about 95 = .ok (.ireturn, 1) := dk_172 (dk_at dksX0_about_3 23 rfl rfl)
theorem dX0_about_96 : decode cX0_about 96 = .ok (.iconst 0, 1) := dk_3 (dk_at dksX0_about_4 0 rfl rfl)
theorem dX0_about_97 : decode cX0_about 97 = .ok (.istore 4, 2) := dk_54 4 (dk_at dksX0_about_4 1 rfl rfl)
theorem dX0_about_99 : decode cX0_about 99 = .ok (.iconst 0, 1) := dk_3 (dk_at dksX0_about_4 3 rfl rfl)
theorem dX0_about_100 : decode cX0_about 100 = .ok (.istore 5, 2) := dk_54 5 (dk_at dksX0_about_4 4 rfl rfl)
theorem dX0_about_102 : decode cX0_about 102 = .ok (.iload 5, 2) := dk_21 5 (dk_at dksX0_about_4 6 rfl rfl)
theorem dX0_about_104 : decode cX0_about 104 = .ok (.iload_n 2, 1) := dk_28 (dk_at dksX0_about_4 8 rfl rfl)
theorem dX0_about_105 : decode cX0_about 105 = .ok (.iconst 2, 1) := dk_5 (dk_at dksX0_about_4 9 rfl rfl)
theorem dX0_about_106 : decode cX0_about 106 = .ok (.isub, 1) := dk_100 (dk_at dksX0_about_4 10 rfl rfl)
theorem dX0_about_107 : decode cX0_about 107 = .ok (.if_icmp .ge 39, 3) := dk_162 0 39 (dk_at dksX0_about_4 11 rfl rfl)
theorem dX0_about_110 : decode cX0_about 110 = .ok (.aload_n 0, 1) := dk_42 (dk_at dksX0_about_4 14 rfl rfl)
theorem dX0_about_111 : decode cX0_about 111 = .ok (.iload 5, 2) := dk_21 5 (dk_at dksX0_about_4 15 rfl rfl)
theorem dX0_about_113 : decode cX0_about 113 = .ok (.iload 4, 2) := dk_21 4 (dk_at dksX0_about_4 17 rfl rfl)
theorem dX0_about_115 : decode cX0_about 115 = .ok (.invokevirtual 400, 3) := dk_182 1 144 (dk_at dksX0_about_4 19 rfl rfl)
theorem dX0_about_118 : decode cX0_about 118 = .ok (.istore 6, 2) := dk_54 6 (dk_at dksX0_about_4 22 rfl rfl)
theorem dX0_about_120 : decode cX0_about 120 = .ok (.iload 4, 2) := dk_21 4 (dk_at dksX0_about_5 0 rfl rfl)
theorem dX0_about_122 : decode cX0_about 122 = .ok (.iload 6, 2) := dk_21 6 (dk_at dksX0_about_5 2 rfl rfl)
theorem dX0_about_124 : decode cX0_about 124 = .ok (.bipush 100, 2) := dk_16 100 (dk_at dksX0_about_5 4 rfl rfl)
theorem dX0_about_126 : decode cX0_about 126 = .ok (.if_icmp .ne 7, 3) := dk_160 0 7 (dk_at dksX0_about_5 6 rfl rfl)
theorem dX0_about_129 : decode cX0_about 129 = .ok (.iconst 0, 1) := dk_3 (dk_at dksX0_about_5 9 rfl rfl)
theorem dX0_about_130 : decode cX0_about 130 = .ok (.goto 7, 3) := dk_167 0 7 (dk_at dksX0_about_5 10 rfl rfl)
theorem dX0_about_133 : decode cX0_about 133 = .ok (.iconst 1, 1) := dk_4 (dk_at dksX0_about_5 13 rfl rfl)
theorem dX0_about_134 : decode cX0_about 134 = .ok (.iload 6, 2) := dk_21 6 (dk_at dksX0_about_5 14 rfl rfl)
theorem dX0_about_136 : decode cX0_about 136 = .ok (.ishl, 1) := dk_120 (dk_at dksX0_about_5 16 rfl rfl)
theorem dX0_about_137 : decode cX0_about 137 = .ok (.ior, 1) := dk_128 (dk_at dksX0_about_5 17 rfl rfl)
theorem dX0_about_138 : decode cX0_about 138 = .ok (.istore 4, 2) := dk_54 4 (dk_at dksX0_about_5 18 rfl rfl)
theorem dX0_about_140 : decode cX0_about 140 = .ok (.iinc 5 1, 3) := dk_132 5 1 (dk_at dksX0_about_5 20 rfl rfl)
theorem dX0_about_143 : decode cX0_about 143 = .ok (.goto (-41), 3) := dk_167 255 215 (dk_at dksX0_about_6 0 rfl rfl)
theorem dX0_about_146 : decode cX0_about 146 = .ok (.aload_n 0, 1) := dk_42 (dk_at dksX0_about_6 3 rfl rfl)
theorem dX0_about_147 : decode cX0_about 147 = .ok (.iload_n 2, 1) := dk_28 (dk_at dksX0_about_6 4 rfl rfl)
theorem dX0_about_148 : decode cX0_about 148 = .ok (.iconst 2, 1) := dk_5 (dk_at dksX0_about_6 5 rfl rfl)
theorem dX0_about_149 : decode cX0_about 149 = .ok (.isub, 1) := dk_100 (dk_at dksX0_about_6 6 rfl rfl)
theorem dX0_about_150 : decode cX0_about 150 = .ok (.iload 4, 2) := dk_21 4 (dk_at dksX0_about_6 7 rfl rfl)
theorem dX0_about_152 : decode cX0_about 152 = .ok (.invokevirtual 400, 3) := dk_182 1 144 (dk_at dksX0_about_6 9 rfl rfl)
theorem dX0_about_155 : decode cX0_about 155 = .ok (.ireturn, 1) := dk_172 (dk_at dksX0_about_6 12 rfl rfl)
abbrev cX0_laysAbout : ByteArray := prog_1_method_69_code
def yX0_laysAbout : MethodName := ⟨RX0, "laysAbout", "()V"⟩
def dkwX0_laysAbout_5 : List UInt8 := [167, 255, 192, 132, 1, 255, 167, 255, 180, 177]
abbrev dktX0_laysAbout_5 : List UInt8 := dkwX0_laysAbout_5 ++ []
def dkwX0_laysAbout_4 : List UInt8 := [62, 132, 4, 1, 167, 255, 228, 42, 180, 0, 102, 16, 64, 27, 104, 28, 96, 29, 79, 132, 2, 1]
abbrev dktX0_laysAbout_4 : List UInt8 := dkwX0_laysAbout_4 ++ dktX0_laysAbout_5
def dkwX0_laysAbout_3 : List UInt8 := [21, 4, 42, 180, 0, 39, 180, 0, 142, 162, 0, 22, 29, 42, 27, 21, 4, 28, 182, 1, 138, 184, 1, 73]
abbrev dktX0_laysAbout_3 : List UInt8 := dkwX0_laysAbout_3 ++ dktX0_laysAbout_4
def dkwX0_laysAbout_2 : List UInt8 := [27, 155, 0, 78, 3, 61, 28, 16, 64, 162, 0, 64, 42, 27, 16, 100, 28, 182, 1, 138, 62, 3, 54, 4]
abbrev dktX0_laysAbout_2 : List UInt8 := dkwX0_laysAbout_2 ++ dktX0_laysAbout_3
def dkwX0_laysAbout_1 : List UInt8 := [180, 0, 139, 104, 27, 96, 3, 79, 132, 1, 1, 167, 255, 229, 42, 180, 0, 39, 180, 0, 139, 4, 100, 60]
abbrev dktX0_laysAbout_1 : List UInt8 := dkwX0_laysAbout_1 ++ dktX0_laysAbout_2
def dkwX0_laysAbout_0 : List UInt8 := [42, 182, 1, 120, 3, 60, 27, 16, 64, 162, 0, 27, 42, 180, 0, 102, 16, 64, 42, 180, 0, 39]
abbrev dktX0_laysAbout_0 : List UInt8 := dkwX0_laysAbout_0 ++ dktX0_laysAbout_1
theorem dksX0_laysAbout_0 : cX0_laysAbout.data.toList.drop 0 = dktX0_laysAbout_0 := by decide +kernel
theorem dksX0_laysAbout_1 : cX0_laysAbout.data.toList.drop 22 = dktX0_laysAbout_1 := dk_seg dksX0_laysAbout_0 22 rfl rfl
theorem dksX0_laysAbout_2 : cX0_laysAbout.data.toList.drop 46 = dktX0_laysAbout_2 := dk_seg dksX0_laysAbout_1 24 rfl rfl
theorem dksX0_laysAbout_3 : cX0_laysAbout.data.toList.drop 70 = dktX0_laysAbout_3 := dk_seg dksX0_laysAbout_2 24 rfl rfl
theorem dksX0_laysAbout_4 : cX0_laysAbout.data.toList.drop 94 = dktX0_laysAbout_4 := dk_seg dksX0_laysAbout_3 24 rfl rfl
theorem dksX0_laysAbout_5 : cX0_laysAbout.data.toList.drop 116 = dktX0_laysAbout_5 := dk_seg dksX0_laysAbout_4 22 rfl rfl
theorem dX0_laysAbout_0 : decode cX0_laysAbout 0 = .ok (.aload_n 0, 1) := dk_42 (dk_at dksX0_laysAbout_0 0 rfl rfl)
theorem dX0_laysAbout_1 : decode cX0_laysAbout 1 = .ok (.invokevirtual 376, 3) := dk_182 1 120 (dk_at dksX0_laysAbout_0 1 rfl rfl)
theorem dX0_laysAbout_4 : decode cX0_laysAbout 4 = .ok (.iconst 0, 1) := dk_3 (dk_at dksX0_laysAbout_0 4 rfl rfl)
theorem dX0_laysAbout_5 : decode cX0_laysAbout 5 = .ok (.istore_n 1, 1) := dk_60 (dk_at dksX0_laysAbout_0 5 rfl rfl)
theorem dX0_laysAbout_6 : decode cX0_laysAbout 6 = .ok (.iload_n 1, 1) := dk_27 (dk_at dksX0_laysAbout_0 6 rfl rfl)
theorem dX0_laysAbout_7 : decode cX0_laysAbout 7 = .ok (.bipush 64, 2) := dk_16 64 (dk_at dksX0_laysAbout_0 7 rfl rfl)
theorem dX0_laysAbout_9 : decode cX0_laysAbout 9 = .ok (.if_icmp .ge 27, 3) := dk_162 0 27 (dk_at dksX0_laysAbout_0 9 rfl rfl)
theorem dX0_laysAbout_12 : decode cX0_laysAbout 12 = .ok (.aload_n 0, 1) := dk_42 (dk_at dksX0_laysAbout_0 12 rfl rfl)
theorem dX0_laysAbout_13 : decode cX0_laysAbout 13 = .ok (.getfield 102, 3) := dk_180 0 102 (dk_at dksX0_laysAbout_0 13 rfl rfl)
theorem dX0_laysAbout_16 : decode cX0_laysAbout 16 = .ok (.bipush 64, 2) := dk_16 64 (dk_at dksX0_laysAbout_0 16 rfl rfl)
theorem dX0_laysAbout_18 : decode cX0_laysAbout 18 = .ok (.aload_n 0, 1) := dk_42 (dk_at dksX0_laysAbout_0 18 rfl rfl)
theorem dX0_laysAbout_19 : decode cX0_laysAbout 19 = .ok (.getfield 39, 3) := dk_180 0 39 (dk_at dksX0_laysAbout_0 19 rfl rfl)
theorem dX0_laysAbout_22 : decode cX0_laysAbout 22 = .ok (.getfield 139, 3) := dk_180 0 139 (dk_at dksX0_laysAbout_1 0 rfl rfl)
theorem dX0_laysAbout_25 : decode cX0_laysAbout 25 = .ok (.imul, 1) := dk_104 (dk_at dksX0_laysAbout_1 3 rfl rfl)
theorem dX0_laysAbout_26 : decode cX0_laysAbout 26 = .ok (.iload_n 1, 1) := dk_27 (dk_at dksX0_laysAbout_1 4 rfl rfl)
theorem dX0_laysAbout_27 : decode cX0_laysAbout 27 = .ok (.iadd, 1) := dk_96 (dk_at dksX0_laysAbout_1 5 rfl rfl)
theorem dX0_laysAbout_28 : decode cX0_laysAbout 28 = .ok (.iconst 0, 1) := dk_3 (dk_at dksX0_laysAbout_1 6 rfl rfl)
theorem dX0_laysAbout_29 : decode cX0_laysAbout 29 = .ok (.iastore, 1) := dk_79 (dk_at dksX0_laysAbout_1 7 rfl rfl)
theorem dX0_laysAbout_30 : decode cX0_laysAbout 30 = .ok (.iinc 1 1, 3) := dk_132 1 1 (dk_at dksX0_laysAbout_1 8 rfl rfl)
theorem dX0_laysAbout_33 : decode cX0_laysAbout 33 = .ok (.goto (-27), 3) := dk_167 255 229 (dk_at dksX0_laysAbout_1 11 rfl rfl)
theorem dX0_laysAbout_36 : decode cX0_laysAbout 36 = .ok (.aload_n 0, 1) := dk_42 (dk_at dksX0_laysAbout_1 14 rfl rfl)
theorem dX0_laysAbout_37 : decode cX0_laysAbout 37 = .ok (.getfield 39, 3) := dk_180 0 39 (dk_at dksX0_laysAbout_1 15 rfl rfl)
theorem dX0_laysAbout_40 : decode cX0_laysAbout 40 = .ok (.getfield 139, 3) := dk_180 0 139 (dk_at dksX0_laysAbout_1 18 rfl rfl)
theorem dX0_laysAbout_43 : decode cX0_laysAbout 43 = .ok (.iconst 1, 1) := dk_4 (dk_at dksX0_laysAbout_1 21 rfl rfl)
theorem dX0_laysAbout_44 : decode cX0_laysAbout 44 = .ok (.isub, 1) := dk_100 (dk_at dksX0_laysAbout_1 22 rfl rfl)
theorem dX0_laysAbout_45 : decode cX0_laysAbout 45 = .ok (.istore_n 1, 1) := dk_60 (dk_at dksX0_laysAbout_1 23 rfl rfl)
theorem dX0_laysAbout_46 : decode cX0_laysAbout 46 = .ok (.iload_n 1, 1) := dk_27 (dk_at dksX0_laysAbout_2 0 rfl rfl)
theorem dX0_laysAbout_47 : decode cX0_laysAbout 47 = .ok (.ifCond .lt 78, 3) := dk_155 0 78 (dk_at dksX0_laysAbout_2 1 rfl rfl)
theorem dX0_laysAbout_50 : decode cX0_laysAbout 50 = .ok (.iconst 0, 1) := dk_3 (dk_at dksX0_laysAbout_2 4 rfl rfl)
theorem dX0_laysAbout_51 : decode cX0_laysAbout 51 = .ok (.istore_n 2, 1) := dk_61 (dk_at dksX0_laysAbout_2 5 rfl rfl)
theorem dX0_laysAbout_52 : decode cX0_laysAbout 52 = .ok (.iload_n 2, 1) := dk_28 (dk_at dksX0_laysAbout_2 6 rfl rfl)
theorem dX0_laysAbout_53 : decode cX0_laysAbout 53 = .ok (.bipush 64, 2) := dk_16 64 (dk_at dksX0_laysAbout_2 7 rfl rfl)
theorem dX0_laysAbout_55 : decode cX0_laysAbout 55 = .ok (.if_icmp .ge 64, 3) := dk_162 0 64 (dk_at dksX0_laysAbout_2 9 rfl rfl)
theorem dX0_laysAbout_58 : decode cX0_laysAbout 58 = .ok (.aload_n 0, 1) := dk_42 (dk_at dksX0_laysAbout_2 12 rfl rfl)
theorem dX0_laysAbout_59 : decode cX0_laysAbout 59 = .ok (.iload_n 1, 1) := dk_27 (dk_at dksX0_laysAbout_2 13 rfl rfl)
theorem dX0_laysAbout_60 : decode cX0_laysAbout 60 = .ok (.bipush 100, 2) := dk_16 100 (dk_at dksX0_laysAbout_2 14 rfl rfl)
theorem dX0_laysAbout_62 : decode cX0_laysAbout 62 = .ok (.iload_n 2, 1) := dk_28 (dk_at dksX0_laysAbout_2 16 rfl rfl)
theorem dX0_laysAbout_63 : decode cX0_laysAbout 63 = .ok (.invokevirtual 394, 3) := dk_182 1 138 (dk_at dksX0_laysAbout_2 17 rfl rfl)
theorem dX0_laysAbout_66 : decode cX0_laysAbout 66 = .ok (.istore_n 3, 1) := dk_62 (dk_at dksX0_laysAbout_2 20 rfl rfl)
theorem dX0_laysAbout_67 : decode cX0_laysAbout 67 = .ok (.iconst 0, 1) := dk_3 (dk_at dksX0_laysAbout_2 21 rfl rfl)
theorem dX0_laysAbout_68 : decode cX0_laysAbout 68 = .ok (.istore 4, 2) := dk_54 4 (dk_at dksX0_laysAbout_2 22 rfl rfl)
theorem dX0_laysAbout_70 : decode cX0_laysAbout 70 = .ok (.iload 4, 2) := dk_21 4 (dk_at dksX0_laysAbout_3 0 rfl rfl)
theorem dX0_laysAbout_72 : decode cX0_laysAbout 72 = .ok (.aload_n 0, 1) := dk_42 (dk_at dksX0_laysAbout_3 2 rfl rfl)
theorem dX0_laysAbout_73 : decode cX0_laysAbout 73 = .ok (.getfield 39, 3) := dk_180 0 39 (dk_at dksX0_laysAbout_3 3 rfl rfl)
theorem dX0_laysAbout_76 : decode cX0_laysAbout 76 = .ok (.getfield 142, 3) := dk_180 0 142 (dk_at dksX0_laysAbout_3 6 rfl rfl)
theorem dX0_laysAbout_79 : decode cX0_laysAbout 79 = .ok (.if_icmp .ge 22, 3) := dk_162 0 22 (dk_at dksX0_laysAbout_3 9 rfl rfl)
theorem dX0_laysAbout_82 : decode cX0_laysAbout 82 = .ok (.iload_n 3, 1) := dk_29 (dk_at dksX0_laysAbout_3 12 rfl rfl)
theorem dX0_laysAbout_83 : decode cX0_laysAbout 83 = .ok (.aload_n 0, 1) := dk_42 (dk_at dksX0_laysAbout_3 13 rfl rfl)
theorem dX0_laysAbout_84 : decode cX0_laysAbout 84 = .ok (.iload_n 1, 1) := dk_27 (dk_at dksX0_laysAbout_3 14 rfl rfl)
theorem dX0_laysAbout_85 : decode cX0_laysAbout 85 = .ok (.iload 4, 2) := dk_21 4 (dk_at dksX0_laysAbout_3 15 rfl rfl)
theorem dX0_laysAbout_87 : decode cX0_laysAbout 87 = .ok (.iload_n 2, 1) := dk_28 (dk_at dksX0_laysAbout_3 17 rfl rfl)
theorem dX0_laysAbout_88 : decode cX0_laysAbout 88 = .ok (.invokevirtual 394, 3) := dk_182 1 138 (dk_at dksX0_laysAbout_3 18 rfl rfl)
theorem dX0_laysAbout_91 : decode cX0_laysAbout 91 = .ok (.invokestatic 329, 3) := dk_184 1 73 (dk_at dksX0_laysAbout_3 21 rfl rfl)
theorem dX0_laysAbout_94 : decode cX0_laysAbout 94 = .ok (.istore_n 3, 1) := dk_62 (dk_at dksX0_laysAbout_4 0 rfl rfl)
theorem dX0_laysAbout_95 : decode cX0_laysAbout 95 = .ok (.iinc 4 1, 3) := dk_132 4 1 (dk_at dksX0_laysAbout_4 1 rfl rfl)
theorem dX0_laysAbout_98 : decode cX0_laysAbout 98 = .ok (.goto (-28), 3) := dk_167 255 228 (dk_at dksX0_laysAbout_4 4 rfl rfl)
theorem dX0_laysAbout_101 : decode cX0_laysAbout 101 = .ok (.aload_n 0, 1) := dk_42 (dk_at dksX0_laysAbout_4 7 rfl rfl)
theorem dX0_laysAbout_102 : decode cX0_laysAbout 102 = .ok (.getfield 102, 3) := dk_180 0 102 (dk_at dksX0_laysAbout_4 8 rfl rfl)
theorem dX0_laysAbout_105 : decode cX0_laysAbout 105 = .ok (.bipush 64, 2) := dk_16 64 (dk_at dksX0_laysAbout_4 11 rfl rfl)
theorem dX0_laysAbout_107 : decode cX0_laysAbout 107 = .ok (.iload_n 1, 1) := dk_27 (dk_at dksX0_laysAbout_4 13 rfl rfl)
theorem dX0_laysAbout_108 : decode cX0_laysAbout 108 = .ok (.imul, 1) := dk_104 (dk_at dksX0_laysAbout_4 14 rfl rfl)
theorem dX0_laysAbout_109 : decode cX0_laysAbout 109 = .ok (.iload_n 2, 1) := dk_28 (dk_at dksX0_laysAbout_4 15 rfl rfl)
theorem dX0_laysAbout_110 : decode cX0_laysAbout 110 = .ok (.iadd, 1) := dk_96 (dk_at dksX0_laysAbout_4 16 rfl rfl)
theorem dX0_laysAbout_111 : decode cX0_laysAbout 111 = .ok (.iload_n 3, 1) := dk_29 (dk_at dksX0_laysAbout_4 17 rfl rfl)
theorem dX0_laysAbout_112 : decode cX0_laysAbout 112 = .ok (.iastore, 1) := dk_79 (dk_at dksX0_laysAbout_4 18 rfl rfl)
theorem dX0_laysAbout_113 : decode cX0_laysAbout 113 = .ok (.iinc 2 1, 3) := dk_132 2 1 (dk_at dksX0_laysAbout_4 19 rfl rfl)
theorem dX0_laysAbout_116 : decode cX0_laysAbout 116 = .ok (.goto (-64), 3) := dk_167 255 192 (dk_at dksX0_laysAbout_5 0 rfl rfl)
theorem dX0_laysAbout_119 : decode cX0_laysAbout 119 = .ok (.iinc 1 (-1), 3) := dk_132 1 255 (dk_at dksX0_laysAbout_5 3 rfl rfl)
theorem dX0_laysAbout_122 : decode cX0_laysAbout 122 = .ok (.goto (-76), 3) := dk_167 255 180 (dk_at dksX0_laysAbout_5 6 rfl rfl)
theorem dX0_laysAbout_125 : decode cX0_laysAbout 125 = .ok (.return_, 1) := dk_177 (dk_at dksX0_laysAbout_5 9 rfl rfl)
abbrev cX0_mostWith : ByteArray := prog_1_method_67_code
def yX0_mostWith : MethodName := ⟨RX0, "mostWith", "(III)I"⟩
def dkwX0_mostWith_3 : List UInt8 := [182, 1, 132, 96, 172]
abbrev dktX0_mostWith_3 : List UInt8 := dkwX0_mostWith_3 ++ []
def dkwX0_mostWith_2 : List UInt8 := [153, 0, 7, 2, 167, 0, 22, 17, 3, 232, 21, 4, 100, 42, 27, 4, 96, 29, 4, 28, 120, 128]
abbrev dktX0_mostWith_2 : List UInt8 := dkwX0_mostWith_2 ++ dktX0_mostWith_3
def dkwX0_mostWith_1 : List UInt8 := [96, 46, 54, 4, 21, 4, 2, 159, 0, 20, 21, 4, 42, 180, 1, 135, 163, 0, 11, 29, 28, 184, 1, 37]
abbrev dktX0_mostWith_1 : List UInt8 := dkwX0_mostWith_1 ++ dktX0_mostWith_2
def dkwX0_mostWith_0 : List UInt8 := [28, 16, 100, 160, 0, 12, 42, 27, 4, 96, 29, 182, 1, 132, 172, 42, 180, 0, 90, 16, 6, 27, 104, 28]
abbrev dktX0_mostWith_0 : List UInt8 := dkwX0_mostWith_0 ++ dktX0_mostWith_1
theorem dksX0_mostWith_0 : cX0_mostWith.data.toList.drop 0 = dktX0_mostWith_0 := by decide +kernel
theorem dksX0_mostWith_1 : cX0_mostWith.data.toList.drop 24 = dktX0_mostWith_1 := dk_seg dksX0_mostWith_0 24 rfl rfl
theorem dksX0_mostWith_2 : cX0_mostWith.data.toList.drop 48 = dktX0_mostWith_2 := dk_seg dksX0_mostWith_1 24 rfl rfl
theorem dksX0_mostWith_3 : cX0_mostWith.data.toList.drop 70 = dktX0_mostWith_3 := dk_seg dksX0_mostWith_2 22 rfl rfl
theorem dX0_mostWith_0 : decode cX0_mostWith 0 = .ok (.iload_n 2, 1) := dk_28 (dk_at dksX0_mostWith_0 0 rfl rfl)
theorem dX0_mostWith_1 : decode cX0_mostWith 1 = .ok (.bipush 100, 2) := dk_16 100 (dk_at dksX0_mostWith_0 1 rfl rfl)
theorem dX0_mostWith_3 : decode cX0_mostWith 3 = .ok (.if_icmp .ne 12, 3) := dk_160 0 12 (dk_at dksX0_mostWith_0 3 rfl rfl)
theorem dX0_mostWith_6 : decode cX0_mostWith 6 = .ok (.aload_n 0, 1) := dk_42 (dk_at dksX0_mostWith_0 6 rfl rfl)
theorem dX0_mostWith_7 : decode cX0_mostWith 7 = .ok (.iload_n 1, 1) := dk_27 (dk_at dksX0_mostWith_0 7 rfl rfl)
theorem dX0_mostWith_8 : decode cX0_mostWith 8 = .ok (.iconst 1, 1) := dk_4 (dk_at dksX0_mostWith_0 8 rfl rfl)
theorem dX0_mostWith_9 : decode cX0_mostWith 9 = .ok (.iadd, 1) := dk_96 (dk_at dksX0_mostWith_0 9 rfl rfl)
theorem dX0_mostWith_10 : decode cX0_mostWith 10 = .ok (.iload_n 3, 1) := dk_29 (dk_at dksX0_mostWith_0 10 rfl rfl)
theorem dX0_mostWith_11 : decode cX0_mostWith 11 = .ok (.invokevirtual 388, 3) := dk_182 1 132 (dk_at dksX0_mostWith_0 11 rfl rfl)
theorem dX0_mostWith_14 : decode cX0_mostWith 14 = .ok (.ireturn, 1) := dk_172 (dk_at dksX0_mostWith_0 14 rfl rfl)
theorem dX0_mostWith_15 : decode cX0_mostWith 15 = .ok (.aload_n 0, 1) := dk_42 (dk_at dksX0_mostWith_0 15 rfl rfl)
theorem dX0_mostWith_16 : decode cX0_mostWith 16 = .ok (.getfield 90, 3) := dk_180 0 90 (dk_at dksX0_mostWith_0 16 rfl rfl)
theorem dX0_mostWith_19 : decode cX0_mostWith 19 = .ok (.bipush 6, 2) := dk_16 6 (dk_at dksX0_mostWith_0 19 rfl rfl)
theorem dX0_mostWith_21 : decode cX0_mostWith 21 = .ok (.iload_n 1, 1) := dk_27 (dk_at dksX0_mostWith_0 21 rfl rfl)
theorem dX0_mostWith_22 : decode cX0_mostWith 22 = .ok (.imul, 1) := dk_104 (dk_at dksX0_mostWith_0 22 rfl rfl)
theorem dX0_mostWith_23 : decode cX0_mostWith 23 = .ok (.iload_n 2, 1) := dk_28 (dk_at dksX0_mostWith_0 23 rfl rfl)
theorem dX0_mostWith_24 : decode cX0_mostWith 24 = .ok (.iadd, 1) := dk_96 (dk_at dksX0_mostWith_1 0 rfl rfl)
theorem dX0_mostWith_25 : decode cX0_mostWith 25 = .ok (.iaload, 1) := dk_46 (dk_at dksX0_mostWith_1 1 rfl rfl)
theorem dX0_mostWith_26 : decode cX0_mostWith 26 = .ok (.istore 4, 2) := dk_54 4 (dk_at dksX0_mostWith_1 2 rfl rfl)
theorem dX0_mostWith_28 : decode cX0_mostWith 28 = .ok (.iload 4, 2) := dk_21 4 (dk_at dksX0_mostWith_1 4 rfl rfl)
theorem dX0_mostWith_30 : decode cX0_mostWith 30 = .ok (.iconst (-1), 1) := dk_2 (dk_at dksX0_mostWith_1 6 rfl rfl)
theorem dX0_mostWith_31 : decode cX0_mostWith 31 = .ok (.if_icmp .eq 20, 3) := dk_159 0 20 (dk_at dksX0_mostWith_1 7 rfl rfl)
theorem dX0_mostWith_34 : decode cX0_mostWith 34 = .ok (.iload 4, 2) := dk_21 4 (dk_at dksX0_mostWith_1 10 rfl rfl)
theorem dX0_mostWith_36 : decode cX0_mostWith 36 = .ok (.aload_n 0, 1) := dk_42 (dk_at dksX0_mostWith_1 12 rfl rfl)
theorem dX0_mostWith_37 : decode cX0_mostWith 37 = .ok (.getfield 391, 3) := dk_180 1 135 (dk_at dksX0_mostWith_1 13 rfl rfl)
theorem dX0_mostWith_40 : decode cX0_mostWith 40 = .ok (.if_icmp .gt 11, 3) := dk_163 0 11 (dk_at dksX0_mostWith_1 16 rfl rfl)
theorem dX0_mostWith_43 : decode cX0_mostWith 43 = .ok (.iload_n 3, 1) := dk_29 (dk_at dksX0_mostWith_1 19 rfl rfl)
theorem dX0_mostWith_44 : decode cX0_mostWith 44 = .ok (.iload_n 2, 1) := dk_28 (dk_at dksX0_mostWith_1 20 rfl rfl)
theorem dX0_mostWith_45 : decode cX0_mostWith 45 = .ok (.invokestatic 293, 3) := dk_184 1 37 (dk_at dksX0_mostWith_1 21 rfl rfl)
theorem dX0_mostWith_48 : decode cX0_mostWith 48 = .ok (.ifCond .eq 7, 3) := dk_153 0 7 (dk_at dksX0_mostWith_2 0 rfl rfl)
theorem dX0_mostWith_51 : decode cX0_mostWith 51 = .ok (.iconst (-1), 1) := dk_2 (dk_at dksX0_mostWith_2 3 rfl rfl)
theorem dX0_mostWith_52 : decode cX0_mostWith 52 = .ok (.goto 22, 3) := dk_167 0 22 (dk_at dksX0_mostWith_2 4 rfl rfl)
theorem dX0_mostWith_55 : decode cX0_mostWith 55 = .ok (.sipush 1000, 3) := dk_17 3 232 (dk_at dksX0_mostWith_2 7 rfl rfl)
theorem dX0_mostWith_58 : decode cX0_mostWith 58 = .ok (.iload 4, 2) := dk_21 4 (dk_at dksX0_mostWith_2 10 rfl rfl)
theorem dX0_mostWith_60 : decode cX0_mostWith 60 = .ok (.isub, 1) := dk_100 (dk_at dksX0_mostWith_2 12 rfl rfl)
theorem dX0_mostWith_61 : decode cX0_mostWith 61 = .ok (.aload_n 0, 1) := dk_42 (dk_at dksX0_mostWith_2 13 rfl rfl)
theorem dX0_mostWith_62 : decode cX0_mostWith 62 = .ok (.iload_n 1, 1) := dk_27 (dk_at dksX0_mostWith_2 14 rfl rfl)
theorem dX0_mostWith_63 : decode cX0_mostWith 63 = .ok (.iconst 1, 1) := dk_4 (dk_at dksX0_mostWith_2 15 rfl rfl)
theorem dX0_mostWith_64 : decode cX0_mostWith 64 = .ok (.iadd, 1) := dk_96 (dk_at dksX0_mostWith_2 16 rfl rfl)
theorem dX0_mostWith_65 : decode cX0_mostWith 65 = .ok (.iload_n 3, 1) := dk_29 (dk_at dksX0_mostWith_2 17 rfl rfl)
theorem dX0_mostWith_66 : decode cX0_mostWith 66 = .ok (.iconst 1, 1) := dk_4 (dk_at dksX0_mostWith_2 18 rfl rfl)
theorem dX0_mostWith_67 : decode cX0_mostWith 67 = .ok (.iload_n 2, 1) := dk_28 (dk_at dksX0_mostWith_2 19 rfl rfl)
theorem dX0_mostWith_68 : decode cX0_mostWith 68 = .ok (.ishl, 1) := dk_120 (dk_at dksX0_mostWith_2 20 rfl rfl)
theorem dX0_mostWith_69 : decode cX0_mostWith 69 = .ok (.ior, 1) := dk_128 (dk_at dksX0_mostWith_2 21 rfl rfl)
theorem dX0_mostWith_70 : decode cX0_mostWith 70 = .ok (.invokevirtual 388, 3) := dk_182 1 132 (dk_at dksX0_mostWith_3 0 rfl rfl)
theorem dX0_mostWith_73 : decode cX0_mostWith 73 = .ok (.iadd, 1) := dk_96 (dk_at dksX0_mostWith_3 3 rfl rfl)
theorem dX0_mostWith_74 : decode cX0_mostWith 74 = .ok (.ireturn, 1) := dk_172 (dk_at dksX0_mostWith_3 4 rfl rfl)
abbrev cX0_mostOf : ByteArray := prog_1_method_66_code
def yX0_mostOf : MethodName := ⟨RX0, "mostOf", "(II)I"⟩
def dkwX0_mostOf_0 : List UInt8 := [42, 180, 0, 102, 16, 64, 27, 104, 28, 96, 46, 172]
abbrev dktX0_mostOf_0 : List UInt8 := dkwX0_mostOf_0 ++ []
theorem dksX0_mostOf_0 : cX0_mostOf.data.toList.drop 0 = dktX0_mostOf_0 := by decide +kernel
theorem dX0_mostOf_0 : decode cX0_mostOf 0 = .ok (.aload_n 0, 1) := dk_42 (dk_at dksX0_mostOf_0 0 rfl rfl)
theorem dX0_mostOf_1 : decode cX0_mostOf 1 = .ok (.getfield 102, 3) := dk_180 0 102 (dk_at dksX0_mostOf_0 1 rfl rfl)
theorem dX0_mostOf_4 : decode cX0_mostOf 4 = .ok (.bipush 64, 2) := dk_16 64 (dk_at dksX0_mostOf_0 4 rfl rfl)
theorem dX0_mostOf_6 : decode cX0_mostOf 6 = .ok (.iload_n 1, 1) := dk_27 (dk_at dksX0_mostOf_0 6 rfl rfl)
theorem dX0_mostOf_7 : decode cX0_mostOf 7 = .ok (.imul, 1) := dk_104 (dk_at dksX0_mostOf_0 7 rfl rfl)
theorem dX0_mostOf_8 : decode cX0_mostOf 8 = .ok (.iload_n 2, 1) := dk_28 (dk_at dksX0_mostOf_0 8 rfl rfl)
theorem dX0_mostOf_9 : decode cX0_mostOf 9 = .ok (.iadd, 1) := dk_96 (dk_at dksX0_mostOf_0 9 rfl rfl)
theorem dX0_mostOf_10 : decode cX0_mostOf 10 = .ok (.iaload, 1) := dk_46 (dk_at dksX0_mostOf_0 10 rfl rfl)
theorem dX0_mostOf_11 : decode cX0_mostOf 11 = .ok (.ireturn, 1) := dk_172 (dk_at dksX0_mostOf_0 11 rfl rfl)
abbrev cX0_suitorOf : ByteArray := prog_1_method_68_code
def yX0_suitorOf : MethodName := ⟨RX0, "suitorOf", "(II)I"⟩
def dkwX0_suitorOf_1 : List UInt8 := [182, 1, 132, 160, 0, 5, 29, 172, 132, 3, 1, 167, 255, 224, 16, 100, 172]
abbrev dktX0_suitorOf_1 : List UInt8 := dkwX0_suitorOf_1 ++ []
def dkwX0_suitorOf_0 : List UInt8 := [3, 62, 29, 42, 180, 0, 39, 180, 0, 142, 162, 0, 27, 42, 27, 29, 28, 182, 1, 138, 42, 27, 28]
abbrev dktX0_suitorOf_0 : List UInt8 := dkwX0_suitorOf_0 ++ dktX0_suitorOf_1
theorem dksX0_suitorOf_0 : cX0_suitorOf.data.toList.drop 0 = dktX0_suitorOf_0 := by decide +kernel
theorem dksX0_suitorOf_1 : cX0_suitorOf.data.toList.drop 23 = dktX0_suitorOf_1 := dk_seg dksX0_suitorOf_0 23 rfl rfl
theorem dX0_suitorOf_0 : decode cX0_suitorOf 0 = .ok (.iconst 0, 1) := dk_3 (dk_at dksX0_suitorOf_0 0 rfl rfl)
theorem dX0_suitorOf_1 : decode cX0_suitorOf 1 = .ok (.istore_n 3, 1) := dk_62 (dk_at dksX0_suitorOf_0 1 rfl rfl)
theorem dX0_suitorOf_2 : decode cX0_suitorOf 2 = .ok (.iload_n 3, 1) := dk_29 (dk_at dksX0_suitorOf_0 2 rfl rfl)
theorem dX0_suitorOf_3 : decode cX0_suitorOf 3 = .ok (.aload_n 0, 1) := dk_42 (dk_at dksX0_suitorOf_0 3 rfl rfl)
theorem dX0_suitorOf_4 : decode cX0_suitorOf 4 = .ok (.getfield 39, 3) := dk_180 0 39 (dk_at dksX0_suitorOf_0 4 rfl rfl)
theorem dX0_suitorOf_7 : decode cX0_suitorOf 7 = .ok (.getfield 142, 3) := dk_180 0 142 (dk_at dksX0_suitorOf_0 7 rfl rfl)
theorem dX0_suitorOf_10 : decode cX0_suitorOf 10 = .ok (.if_icmp .ge 27, 3) := dk_162 0 27 (dk_at dksX0_suitorOf_0 10 rfl rfl)
theorem dX0_suitorOf_13 : decode cX0_suitorOf 13 = .ok (.aload_n 0, 1) := dk_42 (dk_at dksX0_suitorOf_0 13 rfl rfl)
theorem dX0_suitorOf_14 : decode cX0_suitorOf 14 = .ok (.iload_n 1, 1) := dk_27 (dk_at dksX0_suitorOf_0 14 rfl rfl)
theorem dX0_suitorOf_15 : decode cX0_suitorOf 15 = .ok (.iload_n 3, 1) := dk_29 (dk_at dksX0_suitorOf_0 15 rfl rfl)
theorem dX0_suitorOf_16 : decode cX0_suitorOf 16 = .ok (.iload_n 2, 1) := dk_28 (dk_at dksX0_suitorOf_0 16 rfl rfl)
theorem dX0_suitorOf_17 : decode cX0_suitorOf 17 = .ok (.invokevirtual 394, 3) := dk_182 1 138 (dk_at dksX0_suitorOf_0 17 rfl rfl)
theorem dX0_suitorOf_20 : decode cX0_suitorOf 20 = .ok (.aload_n 0, 1) := dk_42 (dk_at dksX0_suitorOf_0 20 rfl rfl)
theorem dX0_suitorOf_21 : decode cX0_suitorOf 21 = .ok (.iload_n 1, 1) := dk_27 (dk_at dksX0_suitorOf_0 21 rfl rfl)
theorem dX0_suitorOf_22 : decode cX0_suitorOf 22 = .ok (.iload_n 2, 1) := dk_28 (dk_at dksX0_suitorOf_0 22 rfl rfl)
theorem dX0_suitorOf_23 : decode cX0_suitorOf 23 = .ok (.invokevirtual 388, 3) := dk_182 1 132 (dk_at dksX0_suitorOf_1 0 rfl rfl)
theorem dX0_suitorOf_26 : decode cX0_suitorOf 26 = .ok (.if_icmp .ne 5, 3) := dk_160 0 5 (dk_at dksX0_suitorOf_1 3 rfl rfl)
theorem dX0_suitorOf_29 : decode cX0_suitorOf 29 = .ok (.iload_n 3, 1) := dk_29 (dk_at dksX0_suitorOf_1 6 rfl rfl)
theorem dX0_suitorOf_30 : decode cX0_suitorOf 30 = .ok (.ireturn, 1) := dk_172 (dk_at dksX0_suitorOf_1 7 rfl rfl)
theorem dX0_suitorOf_31 : decode cX0_suitorOf 31 = .ok (.iinc 3 1, 3) := dk_132 3 1 (dk_at dksX0_suitorOf_1 8 rfl rfl)
theorem dX0_suitorOf_34 : decode cX0_suitorOf 34 = .ok (.goto (-32), 3) := dk_167 255 224 (dk_at dksX0_suitorOf_1 11 rfl rfl)
theorem dX0_suitorOf_37 : decode cX0_suitorOf 37 = .ok (.bipush 100, 2) := dk_16 100 (dk_at dksX0_suitorOf_1 14 rfl rfl)
theorem dX0_suitorOf_39 : decode cX0_suitorOf 39 = .ok (.ireturn, 1) := dk_172 (dk_at dksX0_suitorOf_1 16 rfl rfl)
abbrev cX0_keep : ByteArray := prog_1_method_73_code
def yX0_keep : MethodName := ⟨RX0, "keep", "(III)I"⟩
def dkwX0_keep_6 : List UInt8 := [167, 255, 174, 21, 5, 172]
abbrev dktX0_keep_6 : List UInt8 := dkwX0_keep_6 ++ []
def dkwX0_keep_5 : List UInt8 := [21, 7, 42, 182, 0, 155, 27, 21, 6, 182, 0, 177, 2, 130, 126, 184, 1, 46, 100, 54, 4, 132, 6, 1]
abbrev dktX0_keep_5 : List UInt8 := dkwX0_keep_5 ++ dktX0_keep_6
def dkwX0_keep_4 : List UInt8 := [21, 7, 21, 5, 130, 184, 1, 46, 28, 164, 0, 9, 132, 7, 1, 167, 255, 216, 21, 7, 54, 5, 21, 4]
abbrev dktX0_keep_4 : List UInt8 := dkwX0_keep_4 ++ dktX0_keep_5
def dkwX0_keep_3 : List UInt8 := [180, 0, 105, 17, 1, 0, 21, 6, 104, 21, 7, 96, 46, 21, 4, 160, 0, 21, 21, 5, 2, 159, 0, 21]
abbrev dktX0_keep_3 : List UInt8 := dkwX0_keep_3 ++ dktX0_keep_4
def dkwX0_keep_2 : List UInt8 := [29, 2, 160, 0, 6, 21, 4, 172, 2, 54, 5, 3, 54, 6, 21, 6, 29, 163, 0, 82, 3, 54, 7, 42]
abbrev dktX0_keep_2 : List UInt8 := dkwX0_keep_2 ++ dktX0_keep_3
def dkwX0_keep_1 : List UInt8 := [184, 0, 26, 154, 0, 5, 2, 172, 42, 27, 28, 182, 1, 152, 42, 3, 3, 16, 8, 182, 1, 147, 54, 4]
abbrev dktX0_keep_1 : List UInt8 := dkwX0_keep_1 ++ dktX0_keep_2
def dkwX0_keep_0 : List UInt8 := [42, 27, 182, 0, 173, 153, 0, 23, 28, 3, 16, 8, 184, 0, 26, 153, 0, 13, 29, 2, 16, 7]
abbrev dktX0_keep_0 : List UInt8 := dkwX0_keep_0 ++ dktX0_keep_1
theorem dksX0_keep_0 : cX0_keep.data.toList.drop 0 = dktX0_keep_0 := by decide +kernel
theorem dksX0_keep_1 : cX0_keep.data.toList.drop 22 = dktX0_keep_1 := dk_seg dksX0_keep_0 22 rfl rfl
theorem dksX0_keep_2 : cX0_keep.data.toList.drop 46 = dktX0_keep_2 := dk_seg dksX0_keep_1 24 rfl rfl
theorem dksX0_keep_3 : cX0_keep.data.toList.drop 70 = dktX0_keep_3 := dk_seg dksX0_keep_2 24 rfl rfl
theorem dksX0_keep_4 : cX0_keep.data.toList.drop 94 = dktX0_keep_4 := dk_seg dksX0_keep_3 24 rfl rfl
theorem dksX0_keep_5 : cX0_keep.data.toList.drop 118 = dktX0_keep_5 := dk_seg dksX0_keep_4 24 rfl rfl
theorem dksX0_keep_6 : cX0_keep.data.toList.drop 142 = dktX0_keep_6 := dk_seg dksX0_keep_5 24 rfl rfl
theorem dX0_keep_0 : decode cX0_keep 0 = .ok (.aload_n 0, 1) := dk_42 (dk_at dksX0_keep_0 0 rfl rfl)
theorem dX0_keep_1 : decode cX0_keep 1 = .ok (.iload_n 1, 1) := dk_27 (dk_at dksX0_keep_0 1 rfl rfl)
theorem dX0_keep_2 : decode cX0_keep 2 = .ok (.invokevirtual 173, 3) := dk_182 0 173 (dk_at dksX0_keep_0 2 rfl rfl)
theorem dX0_keep_5 : decode cX0_keep 5 = .ok (.ifCond .eq 23, 3) := dk_153 0 23 (dk_at dksX0_keep_0 5 rfl rfl)
theorem dX0_keep_8 : decode cX0_keep 8 = .ok (.iload_n 2, 1) := dk_28 (dk_at dksX0_keep_0 8 rfl rfl)
theorem dX0_keep_9 : decode cX0_keep 9 = .ok (.iconst 0, 1) := dk_3 (dk_at dksX0_keep_0 9 rfl rfl)
theorem dX0_keep_10 : decode cX0_keep 10 = .ok (.bipush 8, 2) := dk_16 8 (dk_at dksX0_keep_0 10 rfl rfl)
theorem dX0_keep_12 : decode cX0_keep 12 = .ok (.invokestatic 26, 3) := dk_184 0 26 (dk_at dksX0_keep_0 12 rfl rfl)
theorem dX0_keep_15 : decode cX0_keep 15 = .ok (.ifCond .eq 13, 3) := dk_153 0 13 (dk_at dksX0_keep_0 15 rfl rfl)
theorem dX0_keep_18 : decode cX0_keep 18 = .ok (.iload_n 3, 1) := dk_29 (dk_at dksX0_keep_0 18 rfl rfl)
theorem dX0_keep_19 : decode cX0_keep 19 = .ok (.iconst (-1), 1) := dk_2 (dk_at dksX0_keep_0 19 rfl rfl)
theorem dX0_keep_20 : decode cX0_keep 20 = .ok (.bipush 7, 2) := dk_16 7 (dk_at dksX0_keep_0 20 rfl rfl)
theorem dX0_keep_22 : decode cX0_keep 22 = .ok (.invokestatic 26, 3) := dk_184 0 26 (dk_at dksX0_keep_1 0 rfl rfl)
theorem dX0_keep_25 : decode cX0_keep 25 = .ok (.ifCond .ne 5, 3) := dk_154 0 5 (dk_at dksX0_keep_1 3 rfl rfl)
theorem dX0_keep_28 : decode cX0_keep 28 = .ok (.iconst (-1), 1) := dk_2 (dk_at dksX0_keep_1 6 rfl rfl)
theorem dX0_keep_29 : decode cX0_keep 29 = .ok (.ireturn, 1) := dk_172 (dk_at dksX0_keep_1 7 rfl rfl)
theorem dX0_keep_30 : decode cX0_keep 30 = .ok (.aload_n 0, 1) := dk_42 (dk_at dksX0_keep_1 8 rfl rfl)
theorem dX0_keep_31 : decode cX0_keep 31 = .ok (.iload_n 1, 1) := dk_27 (dk_at dksX0_keep_1 9 rfl rfl)
theorem dX0_keep_32 : decode cX0_keep 32 = .ok (.iload_n 2, 1) := dk_28 (dk_at dksX0_keep_1 10 rfl rfl)
theorem dX0_keep_33 : decode cX0_keep 33 = .ok (.invokevirtual 408, 3) := dk_182 1 152 (dk_at dksX0_keep_1 11 rfl rfl)
theorem dX0_keep_36 : decode cX0_keep 36 = .ok (.aload_n 0, 1) := dk_42 (dk_at dksX0_keep_1 14 rfl rfl)
theorem dX0_keep_37 : decode cX0_keep 37 = .ok (.iconst 0, 1) := dk_3 (dk_at dksX0_keep_1 15 rfl rfl)
theorem dX0_keep_38 : decode cX0_keep 38 = .ok (.iconst 0, 1) := dk_3 (dk_at dksX0_keep_1 16 rfl rfl)
theorem dX0_keep_39 : decode cX0_keep 39 = .ok (.bipush 8, 2) := dk_16 8 (dk_at dksX0_keep_1 17 rfl rfl)
theorem dX0_keep_41 : decode cX0_keep 41 = .ok (.invokevirtual 403, 3) := dk_182 1 147 (dk_at dksX0_keep_1 19 rfl rfl)
theorem dX0_keep_44 : decode cX0_keep 44 = .ok (.istore 4, 2) := dk_54 4 (dk_at dksX0_keep_1 22 rfl rfl)
theorem dX0_keep_46 : decode cX0_keep 46 = .ok (.iload_n 3, 1) := dk_29 (dk_at dksX0_keep_2 0 rfl rfl)
theorem dX0_keep_47 : decode cX0_keep 47 = .ok (.iconst (-1), 1) := dk_2 (dk_at dksX0_keep_2 1 rfl rfl)
theorem dX0_keep_48 : decode cX0_keep 48 = .ok (.if_icmp .ne 6, 3) := dk_160 0 6 (dk_at dksX0_keep_2 2 rfl rfl)
theorem dX0_keep_51 : decode cX0_keep 51 = .ok (.iload 4, 2) := dk_21 4 (dk_at dksX0_keep_2 5 rfl rfl)
theorem dX0_keep_53 : decode cX0_keep 53 = .ok (.ireturn, 1) := dk_172 (dk_at dksX0_keep_2 7 rfl rfl)
theorem dX0_keep_54 : decode cX0_keep 54 = .ok (.iconst (-1), 1) := dk_2 (dk_at dksX0_keep_2 8 rfl rfl)
theorem dX0_keep_55 : decode cX0_keep 55 = .ok (.istore 5, 2) := dk_54 5 (dk_at dksX0_keep_2 9 rfl rfl)
theorem dX0_keep_57 : decode cX0_keep 57 = .ok (.iconst 0, 1) := dk_3 (dk_at dksX0_keep_2 11 rfl rfl)
theorem dX0_keep_58 : decode cX0_keep 58 = .ok (.istore 6, 2) := dk_54 6 (dk_at dksX0_keep_2 12 rfl rfl)
theorem dX0_keep_60 : decode cX0_keep 60 = .ok (.iload 6, 2) := dk_21 6 (dk_at dksX0_keep_2 14 rfl rfl)
theorem dX0_keep_62 : decode cX0_keep 62 = .ok (.iload_n 3, 1) := dk_29 (dk_at dksX0_keep_2 16 rfl rfl)
theorem dX0_keep_63 : decode cX0_keep 63 = .ok (.if_icmp .gt 82, 3) := dk_163 0 82 (dk_at dksX0_keep_2 17 rfl rfl)
theorem dX0_keep_66 : decode cX0_keep 66 = .ok (.iconst 0, 1) := dk_3 (dk_at dksX0_keep_2 20 rfl rfl)
theorem dX0_keep_67 : decode cX0_keep 67 = .ok (.istore 7, 2) := dk_54 7 (dk_at dksX0_keep_2 21 rfl rfl)
theorem dX0_keep_69 : decode cX0_keep 69 = .ok (.aload_n 0, 1) := dk_42 (dk_at dksX0_keep_2 23 rfl rfl)
theorem dX0_keep_70 : decode cX0_keep 70 = .ok (.getfield 105, 3) := dk_180 0 105 (dk_at dksX0_keep_3 0 rfl rfl)
theorem dX0_keep_73 : decode cX0_keep 73 = .ok (.sipush 256, 3) := dk_17 1 0 (dk_at dksX0_keep_3 3 rfl rfl)
theorem dX0_keep_76 : decode cX0_keep 76 = .ok (.iload 6, 2) := dk_21 6 (dk_at dksX0_keep_3 6 rfl rfl)
theorem dX0_keep_78 : decode cX0_keep 78 = .ok (.imul, 1) := dk_104 (dk_at dksX0_keep_3 8 rfl rfl)
theorem dX0_keep_79 : decode cX0_keep 79 = .ok (.iload 7, 2) := dk_21 7 (dk_at dksX0_keep_3 9 rfl rfl)
theorem dX0_keep_81 : decode cX0_keep 81 = .ok (.iadd, 1) := dk_96 (dk_at dksX0_keep_3 11 rfl rfl)
theorem dX0_keep_82 : decode cX0_keep 82 = .ok (.iaload, 1) := dk_46 (dk_at dksX0_keep_3 12 rfl rfl)
theorem dX0_keep_83 : decode cX0_keep 83 = .ok (.iload 4, 2) := dk_21 4 (dk_at dksX0_keep_3 13 rfl rfl)
theorem dX0_keep_85 : decode cX0_keep 85 = .ok (.if_icmp .ne 21, 3) := dk_160 0 21 (dk_at dksX0_keep_3 15 rfl rfl)
theorem dX0_keep_88 : decode cX0_keep 88 = .ok (.iload 5, 2) := dk_21 5 (dk_at dksX0_keep_3 18 rfl rfl)
theorem dX0_keep_90 : decode cX0_keep 90 = .ok (.iconst (-1), 1) := dk_2 (dk_at dksX0_keep_3 20 rfl rfl)
theorem dX0_keep_91 : decode cX0_keep 91 = .ok (.if_icmp .eq 21, 3) := dk_159 0 21 (dk_at dksX0_keep_3 21 rfl rfl)
theorem dX0_keep_94 : decode cX0_keep 94 = .ok (.iload 7, 2) := dk_21 7 (dk_at dksX0_keep_4 0 rfl rfl)
theorem dX0_keep_96 : decode cX0_keep 96 = .ok (.iload 5, 2) := dk_21 5 (dk_at dksX0_keep_4 2 rfl rfl)
theorem dX0_keep_98 : decode cX0_keep 98 = .ok (.ixor, 1) := dk_130 (dk_at dksX0_keep_4 4 rfl rfl)
theorem dX0_keep_99 : decode cX0_keep 99 = .ok (.invokestatic 302, 3) := dk_184 1 46 (dk_at dksX0_keep_4 5 rfl rfl)
theorem dX0_keep_102 : decode cX0_keep 102 = .ok (.iload_n 2, 1) := dk_28 (dk_at dksX0_keep_4 8 rfl rfl)
theorem dX0_keep_103 : decode cX0_keep 103 = .ok (.if_icmp .le 9, 3) := dk_164 0 9 (dk_at dksX0_keep_4 9 rfl rfl)
theorem dX0_keep_106 : decode cX0_keep 106 = .ok (.iinc 7 1, 3) := dk_132 7 1 (dk_at dksX0_keep_4 12 rfl rfl)
theorem dX0_keep_109 : decode cX0_keep 109 = .ok (.goto (-40), 3) := dk_167 255 216 (dk_at dksX0_keep_4 15 rfl rfl)
theorem dX0_keep_112 : decode cX0_keep 112 = .ok (.iload 7, 2) := dk_21 7 (dk_at dksX0_keep_4 18 rfl rfl)
theorem dX0_keep_114 : decode cX0_keep 114 = .ok (.istore 5, 2) := dk_54 5 (dk_at dksX0_keep_4 20 rfl rfl)
theorem dX0_keep_116 : decode cX0_keep 116 = .ok (.iload 4, 2) := dk_21 4 (dk_at dksX0_keep_4 22 rfl rfl)
theorem dX0_keep_118 : decode cX0_keep 118 = .ok (.iload 7, 2) := dk_21 7 (dk_at dksX0_keep_5 0 rfl rfl)
theorem dX0_keep_120 : decode cX0_keep 120 = .ok (.aload_n 0, 1) := dk_42 (dk_at dksX0_keep_5 2 rfl rfl)
theorem dX0_keep_121 : decode cX0_keep 121 = .ok (.invokevirtual 155, 3) := dk_182 0 155 (dk_at dksX0_keep_5 3 rfl rfl)
theorem dX0_keep_124 : decode cX0_keep 124 = .ok (.iload_n 1, 1) := dk_27 (dk_at dksX0_keep_5 6 rfl rfl)
theorem dX0_keep_125 : decode cX0_keep 125 = .ok (.iload 6, 2) := dk_21 6 (dk_at dksX0_keep_5 7 rfl rfl)
theorem dX0_keep_127 : decode cX0_keep 127 = .ok (.invokevirtual 177, 3) := dk_182 0 177 (dk_at dksX0_keep_5 9 rfl rfl)
theorem dX0_keep_130 : decode cX0_keep 130 = .ok (.iconst (-1), 1) := dk_2 (dk_at dksX0_keep_5 12 rfl rfl)
theorem dX0_keep_131 : decode cX0_keep 131 = .ok (.ixor, 1) := dk_130 (dk_at dksX0_keep_5 13 rfl rfl)
theorem dX0_keep_132 : decode cX0_keep 132 = .ok (.iand, 1) := dk_126 (dk_at dksX0_keep_5 14 rfl rfl)
theorem dX0_keep_133 : decode cX0_keep 133 = .ok (.invokestatic 302, 3) := dk_184 1 46 (dk_at dksX0_keep_5 15 rfl rfl)
theorem dX0_keep_136 : decode cX0_keep 136 = .ok (.isub, 1) := dk_100 (dk_at dksX0_keep_5 18 rfl rfl)
theorem dX0_keep_137 : decode cX0_keep 137 = .ok (.istore 4, 2) := dk_54 4 (dk_at dksX0_keep_5 19 rfl rfl)
theorem dX0_keep_139 : decode cX0_keep 139 = .ok (.iinc 6 1, 3) := dk_132 6 1 (dk_at dksX0_keep_5 21 rfl rfl)
theorem dX0_keep_142 : decode cX0_keep 142 = .ok (.goto (-82), 3) := dk_167 255 174 (dk_at dksX0_keep_6 0 rfl rfl)
theorem dX0_keep_145 : decode cX0_keep 145 = .ok (.iload 5, 2) := dk_21 5 (dk_at dksX0_keep_6 3 rfl rfl)
theorem dX0_keep_147 : decode cX0_keep 147 = .ok (.ireturn, 1) := dk_172 (dk_at dksX0_keep_6 5 rfl rfl)
abbrev cX0_laysFewest : ByteArray := prog_1_method_71_code
def yX0_laysFewest : MethodName := ⟨RX0, "laysFewest", "(II)V"⟩
def dkwX0_laysFewest_4 : List UInt8 := [184, 1, 150, 79, 132, 5, 1, 167, 255, 176, 132, 3, 255, 167, 255, 152, 177]
abbrev dktX0_laysFewest_4 : List UInt8 := dkwX0_laysFewest_4 ++ []
def dkwX0_laysFewest_3 : List UInt8 := [28, 182, 1, 147, 96, 54, 6, 42, 180, 0, 105, 17, 1, 0, 29, 104, 21, 5, 96, 19, 1, 116, 21, 6]
abbrev dktX0_laysFewest_3 : List UInt8 := dkwX0_laysFewest_3 ++ dktX0_laysFewest_4
def dkwX0_laysFewest_2 : List UInt8 := [21, 4, 2, 130, 126, 184, 1, 46, 29, 16, 7, 160, 0, 7, 3, 167, 0, 13, 42, 29, 4, 96, 21, 5]
abbrev dktX0_laysFewest_2 : List UInt8 := dkwX0_laysFewest_2 ++ dktX0_laysFewest_3
def dkwX0_laysFewest_1 : List UInt8 := [17, 1, 0, 162, 0, 78, 19, 1, 116, 54, 6, 21, 4, 21, 5, 2, 130, 126, 154, 0, 36, 21, 5]
abbrev dktX0_laysFewest_1 : List UInt8 := dkwX0_laysFewest_1 ++ dktX0_laysFewest_2
def dkwX0_laysFewest_0 : List UInt8 := [16, 7, 62, 29, 155, 0, 106, 42, 182, 0, 155, 27, 29, 182, 0, 177, 54, 4, 3, 54, 5, 21, 5]
abbrev dktX0_laysFewest_0 : List UInt8 := dkwX0_laysFewest_0 ++ dktX0_laysFewest_1
theorem dksX0_laysFewest_0 : cX0_laysFewest.data.toList.drop 0 = dktX0_laysFewest_0 := by decide +kernel
theorem dksX0_laysFewest_1 : cX0_laysFewest.data.toList.drop 23 = dktX0_laysFewest_1 := dk_seg dksX0_laysFewest_0 23 rfl rfl
theorem dksX0_laysFewest_2 : cX0_laysFewest.data.toList.drop 46 = dktX0_laysFewest_2 := dk_seg dksX0_laysFewest_1 23 rfl rfl
theorem dksX0_laysFewest_3 : cX0_laysFewest.data.toList.drop 70 = dktX0_laysFewest_3 := dk_seg dksX0_laysFewest_2 24 rfl rfl
theorem dksX0_laysFewest_4 : cX0_laysFewest.data.toList.drop 94 = dktX0_laysFewest_4 := dk_seg dksX0_laysFewest_3 24 rfl rfl
theorem dX0_laysFewest_0 : decode cX0_laysFewest 0 = .ok (.bipush 7, 2) := dk_16 7 (dk_at dksX0_laysFewest_0 0 rfl rfl)
theorem dX0_laysFewest_2 : decode cX0_laysFewest 2 = .ok (.istore_n 3, 1) := dk_62 (dk_at dksX0_laysFewest_0 2 rfl rfl)
theorem dX0_laysFewest_3 : decode cX0_laysFewest 3 = .ok (.iload_n 3, 1) := dk_29 (dk_at dksX0_laysFewest_0 3 rfl rfl)
theorem dX0_laysFewest_4 : decode cX0_laysFewest 4 = .ok (.ifCond .lt 106, 3) := dk_155 0 106 (dk_at dksX0_laysFewest_0 4 rfl rfl)
theorem dX0_laysFewest_7 : decode cX0_laysFewest 7 = .ok (.aload_n 0, 1) := dk_42 (dk_at dksX0_laysFewest_0 7 rfl rfl)
theorem dX0_laysFewest_8 : decode cX0_laysFewest 8 = .ok (.invokevirtual 155, 3) := dk_182 0 155 (dk_at dksX0_laysFewest_0 8 rfl rfl)
theorem dX0_laysFewest_11 : decode cX0_laysFewest 11 = .ok (.iload_n 1, 1) := dk_27 (dk_at dksX0_laysFewest_0 11 rfl rfl)
theorem dX0_laysFewest_12 : decode cX0_laysFewest 12 = .ok (.iload_n 3, 1) := dk_29 (dk_at dksX0_laysFewest_0 12 rfl rfl)
theorem dX0_laysFewest_13 : decode cX0_laysFewest 13 = .ok (.invokevirtual 177, 3) := dk_182 0 177 (dk_at dksX0_laysFewest_0 13 rfl rfl)
theorem dX0_laysFewest_16 : decode cX0_laysFewest 16 = .ok (.istore 4, 2) := dk_54 4 (dk_at dksX0_laysFewest_0 16 rfl rfl)
theorem dX0_laysFewest_18 : decode cX0_laysFewest 18 = .ok (.iconst 0, 1) := dk_3 (dk_at dksX0_laysFewest_0 18 rfl rfl)
theorem dX0_laysFewest_19 : decode cX0_laysFewest 19 = .ok (.istore 5, 2) := dk_54 5 (dk_at dksX0_laysFewest_0 19 rfl rfl)
theorem dX0_laysFewest_21 : decode cX0_laysFewest 21 = .ok (.iload 5, 2) := dk_21 5 (dk_at dksX0_laysFewest_0 21 rfl rfl)
theorem dX0_laysFewest_23 : decode cX0_laysFewest 23 = .ok (.sipush 256, 3) := dk_17 1 0 (dk_at dksX0_laysFewest_1 0 rfl rfl)
theorem dX0_laysFewest_26 : decode cX0_laysFewest 26 = .ok (.if_icmp .ge 78, 3) := dk_162 0 78 (dk_at dksX0_laysFewest_1 3 rfl rfl)
theorem dX0_laysFewest_29 : decode cX0_laysFewest 29 = .ok (.ldc_w 372, 3) := dk_19 1 116 (dk_at dksX0_laysFewest_1 6 rfl rfl)
theorem dX0_laysFewest_32 : decode cX0_laysFewest 32 = .ok (.istore 6, 2) := dk_54 6 (dk_at dksX0_laysFewest_1 9 rfl rfl)
theorem dX0_laysFewest_34 : decode cX0_laysFewest 34 = .ok (.iload 4, 2) := dk_21 4 (dk_at dksX0_laysFewest_1 11 rfl rfl)
theorem dX0_laysFewest_36 : decode cX0_laysFewest 36 = .ok (.iload 5, 2) := dk_21 5 (dk_at dksX0_laysFewest_1 13 rfl rfl)
theorem dX0_laysFewest_38 : decode cX0_laysFewest 38 = .ok (.iconst (-1), 1) := dk_2 (dk_at dksX0_laysFewest_1 15 rfl rfl)
theorem dX0_laysFewest_39 : decode cX0_laysFewest 39 = .ok (.ixor, 1) := dk_130 (dk_at dksX0_laysFewest_1 16 rfl rfl)
theorem dX0_laysFewest_40 : decode cX0_laysFewest 40 = .ok (.iand, 1) := dk_126 (dk_at dksX0_laysFewest_1 17 rfl rfl)
theorem dX0_laysFewest_41 : decode cX0_laysFewest 41 = .ok (.ifCond .ne 36, 3) := dk_154 0 36 (dk_at dksX0_laysFewest_1 18 rfl rfl)
theorem dX0_laysFewest_44 : decode cX0_laysFewest 44 = .ok (.iload 5, 2) := dk_21 5 (dk_at dksX0_laysFewest_1 21 rfl rfl)
theorem dX0_laysFewest_46 : decode cX0_laysFewest 46 = .ok (.iload 4, 2) := dk_21 4 (dk_at dksX0_laysFewest_2 0 rfl rfl)
theorem dX0_laysFewest_48 : decode cX0_laysFewest 48 = .ok (.iconst (-1), 1) := dk_2 (dk_at dksX0_laysFewest_2 2 rfl rfl)
theorem dX0_laysFewest_49 : decode cX0_laysFewest 49 = .ok (.ixor, 1) := dk_130 (dk_at dksX0_laysFewest_2 3 rfl rfl)
theorem dX0_laysFewest_50 : decode cX0_laysFewest 50 = .ok (.iand, 1) := dk_126 (dk_at dksX0_laysFewest_2 4 rfl rfl)
theorem dX0_laysFewest_51 : decode cX0_laysFewest 51 = .ok (.invokestatic 302, 3) := dk_184 1 46 (dk_at dksX0_laysFewest_2 5 rfl rfl)
theorem dX0_laysFewest_54 : decode cX0_laysFewest 54 = .ok (.iload_n 3, 1) := dk_29 (dk_at dksX0_laysFewest_2 8 rfl rfl)
theorem dX0_laysFewest_55 : decode cX0_laysFewest 55 = .ok (.bipush 7, 2) := dk_16 7 (dk_at dksX0_laysFewest_2 9 rfl rfl)
theorem dX0_laysFewest_57 : decode cX0_laysFewest 57 = .ok (.if_icmp .ne 7, 3) := dk_160 0 7 (dk_at dksX0_laysFewest_2 11 rfl rfl)
theorem dX0_laysFewest_60 : decode cX0_laysFewest 60 = .ok (.iconst 0, 1) := dk_3 (dk_at dksX0_laysFewest_2 14 rfl rfl)
theorem dX0_laysFewest_61 : decode cX0_laysFewest 61 = .ok (.goto 13, 3) := dk_167 0 13 (dk_at dksX0_laysFewest_2 15 rfl rfl)
theorem dX0_laysFewest_64 : decode cX0_laysFewest 64 = .ok (.aload_n 0, 1) := dk_42 (dk_at dksX0_laysFewest_2 18 rfl rfl)
theorem dX0_laysFewest_65 : decode cX0_laysFewest 65 = .ok (.iload_n 3, 1) := dk_29 (dk_at dksX0_laysFewest_2 19 rfl rfl)
theorem dX0_laysFewest_66 : decode cX0_laysFewest 66 = .ok (.iconst 1, 1) := dk_4 (dk_at dksX0_laysFewest_2 20 rfl rfl)
theorem dX0_laysFewest_67 : decode cX0_laysFewest 67 = .ok (.iadd, 1) := dk_96 (dk_at dksX0_laysFewest_2 21 rfl rfl)
theorem dX0_laysFewest_68 : decode cX0_laysFewest 68 = .ok (.iload 5, 2) := dk_21 5 (dk_at dksX0_laysFewest_2 22 rfl rfl)
theorem dX0_laysFewest_70 : decode cX0_laysFewest 70 = .ok (.iload_n 2, 1) := dk_28 (dk_at dksX0_laysFewest_3 0 rfl rfl)
theorem dX0_laysFewest_71 : decode cX0_laysFewest 71 = .ok (.invokevirtual 403, 3) := dk_182 1 147 (dk_at dksX0_laysFewest_3 1 rfl rfl)
theorem dX0_laysFewest_74 : decode cX0_laysFewest 74 = .ok (.iadd, 1) := dk_96 (dk_at dksX0_laysFewest_3 4 rfl rfl)
theorem dX0_laysFewest_75 : decode cX0_laysFewest 75 = .ok (.istore 6, 2) := dk_54 6 (dk_at dksX0_laysFewest_3 5 rfl rfl)
theorem dX0_laysFewest_77 : decode cX0_laysFewest 77 = .ok (.aload_n 0, 1) := dk_42 (dk_at dksX0_laysFewest_3 7 rfl rfl)
theorem dX0_laysFewest_78 : decode cX0_laysFewest 78 = .ok (.getfield 105, 3) := dk_180 0 105 (dk_at dksX0_laysFewest_3 8 rfl rfl)
theorem dX0_laysFewest_81 : decode cX0_laysFewest 81 = .ok (.sipush 256, 3) := dk_17 1 0 (dk_at dksX0_laysFewest_3 11 rfl rfl)
theorem dX0_laysFewest_84 : decode cX0_laysFewest 84 = .ok (.iload_n 3, 1) := dk_29 (dk_at dksX0_laysFewest_3 14 rfl rfl)
theorem dX0_laysFewest_85 : decode cX0_laysFewest 85 = .ok (.imul, 1) := dk_104 (dk_at dksX0_laysFewest_3 15 rfl rfl)
theorem dX0_laysFewest_86 : decode cX0_laysFewest 86 = .ok (.iload 5, 2) := dk_21 5 (dk_at dksX0_laysFewest_3 16 rfl rfl)
theorem dX0_laysFewest_88 : decode cX0_laysFewest 88 = .ok (.iadd, 1) := dk_96 (dk_at dksX0_laysFewest_3 18 rfl rfl)
theorem dX0_laysFewest_89 : decode cX0_laysFewest 89 = .ok (.ldc_w 372, 3) := dk_19 1 116 (dk_at dksX0_laysFewest_3 19 rfl rfl)
theorem dX0_laysFewest_92 : decode cX0_laysFewest 92 = .ok (.iload 6, 2) := dk_21 6 (dk_at dksX0_laysFewest_3 22 rfl rfl)
theorem dX0_laysFewest_94 : decode cX0_laysFewest 94 = .ok (.invokestatic 406, 3) := dk_184 1 150 (dk_at dksX0_laysFewest_4 0 rfl rfl)
theorem dX0_laysFewest_97 : decode cX0_laysFewest 97 = .ok (.iastore, 1) := dk_79 (dk_at dksX0_laysFewest_4 3 rfl rfl)
theorem dX0_laysFewest_98 : decode cX0_laysFewest 98 = .ok (.iinc 5 1, 3) := dk_132 5 1 (dk_at dksX0_laysFewest_4 4 rfl rfl)
theorem dX0_laysFewest_101 : decode cX0_laysFewest 101 = .ok (.goto (-80), 3) := dk_167 255 176 (dk_at dksX0_laysFewest_4 7 rfl rfl)
theorem dX0_laysFewest_104 : decode cX0_laysFewest 104 = .ok (.iinc 3 (-1), 3) := dk_132 3 255 (dk_at dksX0_laysFewest_4 10 rfl rfl)
theorem dX0_laysFewest_107 : decode cX0_laysFewest 107 = .ok (.goto (-104), 3) := dk_167 255 152 (dk_at dksX0_laysFewest_4 13 rfl rfl)
theorem dX0_laysFewest_110 : decode cX0_laysFewest 110 = .ok (.return_, 1) := dk_177 (dk_at dksX0_laysFewest_4 16 rfl rfl)
abbrev cX0_fewestBehind : ByteArray := prog_1_method_72_code
def yX0_fewestBehind : MethodName := ⟨RX0, "fewestBehind", "(III)I"⟩
def dkwX0_fewestBehind_2 : List UInt8 := [132, 5, 1, 167, 255, 214, 21, 4, 172]
abbrev dktX0_fewestBehind_2 : List UInt8 := dkwX0_fewestBehind_2 ++ []
def dkwX0_fewestBehind_1 : List UInt8 := [163, 0, 23, 21, 4, 42, 180, 0, 105, 17, 1, 0, 27, 104, 21, 5, 96, 46, 184, 1, 150, 54, 4]
abbrev dktX0_fewestBehind_1 : List UInt8 := dkwX0_fewestBehind_1 ++ dktX0_fewestBehind_2
def dkwX0_fewestBehind_0 : List UInt8 := [19, 1, 116, 54, 4, 3, 54, 5, 21, 5, 17, 1, 0, 162, 0, 40, 21, 5, 28, 130, 184, 1, 46, 29]
abbrev dktX0_fewestBehind_0 : List UInt8 := dkwX0_fewestBehind_0 ++ dktX0_fewestBehind_1
theorem dksX0_fewestBehind_0 : cX0_fewestBehind.data.toList.drop 0 = dktX0_fewestBehind_0 := by decide +kernel
theorem dksX0_fewestBehind_1 : cX0_fewestBehind.data.toList.drop 24 = dktX0_fewestBehind_1 := dk_seg dksX0_fewestBehind_0 24 rfl rfl
theorem dksX0_fewestBehind_2 : cX0_fewestBehind.data.toList.drop 47 = dktX0_fewestBehind_2 := dk_seg dksX0_fewestBehind_1 23 rfl rfl
theorem dX0_fewestBehind_0 : decode cX0_fewestBehind 0 = .ok (.ldc_w 372, 3) := dk_19 1 116 (dk_at dksX0_fewestBehind_0 0 rfl rfl)
theorem dX0_fewestBehind_3 : decode cX0_fewestBehind 3 = .ok (.istore 4, 2) := dk_54 4 (dk_at dksX0_fewestBehind_0 3 rfl rfl)
theorem dX0_fewestBehind_5 : decode cX0_fewestBehind 5 = .ok (.iconst 0, 1) := dk_3 (dk_at dksX0_fewestBehind_0 5 rfl rfl)
theorem dX0_fewestBehind_6 : decode cX0_fewestBehind 6 = .ok (.istore 5, 2) := dk_54 5 (dk_at dksX0_fewestBehind_0 6 rfl rfl)
theorem dX0_fewestBehind_8 : decode cX0_fewestBehind 8 = .ok (.iload 5, 2) := dk_21 5 (dk_at dksX0_fewestBehind_0 8 rfl rfl)
theorem dX0_fewestBehind_10 : decode cX0_fewestBehind 10 = .ok (.sipush 256, 3) := dk_17 1 0 (dk_at dksX0_fewestBehind_0 10 rfl rfl)
theorem dX0_fewestBehind_13 : decode cX0_fewestBehind 13 = .ok (.if_icmp .ge 40, 3) := dk_162 0 40 (dk_at dksX0_fewestBehind_0 13 rfl rfl)
theorem dX0_fewestBehind_16 : decode cX0_fewestBehind 16 = .ok (.iload 5, 2) := dk_21 5 (dk_at dksX0_fewestBehind_0 16 rfl rfl)
theorem dX0_fewestBehind_18 : decode cX0_fewestBehind 18 = .ok (.iload_n 2, 1) := dk_28 (dk_at dksX0_fewestBehind_0 18 rfl rfl)
theorem dX0_fewestBehind_19 : decode cX0_fewestBehind 19 = .ok (.ixor, 1) := dk_130 (dk_at dksX0_fewestBehind_0 19 rfl rfl)
theorem dX0_fewestBehind_20 : decode cX0_fewestBehind 20 = .ok (.invokestatic 302, 3) := dk_184 1 46 (dk_at dksX0_fewestBehind_0 20 rfl rfl)
theorem dX0_fewestBehind_23 : decode cX0_fewestBehind 23 = .ok (.iload_n 3, 1) := dk_29 (dk_at dksX0_fewestBehind_0 23 rfl rfl)
theorem dX0_fewestBehind_24 : decode cX0_fewestBehind 24 = .ok (.if_icmp .gt 23, 3) := dk_163 0 23 (dk_at dksX0_fewestBehind_1 0 rfl rfl)
theorem dX0_fewestBehind_27 : decode cX0_fewestBehind 27 = .ok (.iload 4, 2) := dk_21 4 (dk_at dksX0_fewestBehind_1 3 rfl rfl)
theorem dX0_fewestBehind_29 : decode cX0_fewestBehind 29 = .ok (.aload_n 0, 1) := dk_42 (dk_at dksX0_fewestBehind_1 5 rfl rfl)
theorem dX0_fewestBehind_30 : decode cX0_fewestBehind 30 = .ok (.getfield 105, 3) := dk_180 0 105 (dk_at dksX0_fewestBehind_1 6 rfl rfl)
theorem dX0_fewestBehind_33 : decode cX0_fewestBehind 33 = .ok (.sipush 256, 3) := dk_17 1 0 (dk_at dksX0_fewestBehind_1 9 rfl rfl)
theorem dX0_fewestBehind_36 : decode cX0_fewestBehind 36 = .ok (.iload_n 1, 1) := dk_27 (dk_at dksX0_fewestBehind_1 12 rfl rfl)
theorem dX0_fewestBehind_37 : decode cX0_fewestBehind 37 = .ok (.imul, 1) := dk_104 (dk_at dksX0_fewestBehind_1 13 rfl rfl)
theorem dX0_fewestBehind_38 : decode cX0_fewestBehind 38 = .ok (.iload 5, 2) := dk_21 5 (dk_at dksX0_fewestBehind_1 14 rfl rfl)
theorem dX0_fewestBehind_40 : decode cX0_fewestBehind 40 = .ok (.iadd, 1) := dk_96 (dk_at dksX0_fewestBehind_1 16 rfl rfl)
theorem dX0_fewestBehind_41 : decode cX0_fewestBehind 41 = .ok (.iaload, 1) := dk_46 (dk_at dksX0_fewestBehind_1 17 rfl rfl)
theorem dX0_fewestBehind_42 : decode cX0_fewestBehind 42 = .ok (.invokestatic 406, 3) := dk_184 1 150 (dk_at dksX0_fewestBehind_1 18 rfl rfl)
theorem dX0_fewestBehind_45 : decode cX0_fewestBehind 45 = .ok (.istore 4, 2) := dk_54 4 (dk_at dksX0_fewestBehind_1 21 rfl rfl)
theorem dX0_fewestBehind_47 : decode cX0_fewestBehind 47 = .ok (.iinc 5 1, 3) := dk_132 5 1 (dk_at dksX0_fewestBehind_2 0 rfl rfl)
theorem dX0_fewestBehind_50 : decode cX0_fewestBehind 50 = .ok (.goto (-42), 3) := dk_167 255 214 (dk_at dksX0_fewestBehind_2 3 rfl rfl)
theorem dX0_fewestBehind_53 : decode cX0_fewestBehind 53 = .ok (.iload 4, 2) := dk_21 4 (dk_at dksX0_fewestBehind_2 6 rfl rfl)
theorem dX0_fewestBehind_55 : decode cX0_fewestBehind 55 = .ok (.ireturn, 1) := dk_172 (dk_at dksX0_fewestBehind_2 8 rfl rfl)
abbrev cX0_clash : ByteArray := prog_1_method_77_code
def yX0_clash : MethodName := ⟨RX0, "clash", "(III)I"⟩
def dkwX0_clash_1 : List UInt8 := [167, 0, 4, 2, 172]
abbrev dktX0_clash_1 : List UInt8 := dkwX0_clash_1 ++ []
def dkwX0_clash_0 : List UInt8 := [42, 27, 28, 182, 1, 159, 153, 0, 20, 29, 184, 0, 195, 153, 0, 13, 42, 27, 28, 29, 182, 1, 162]
abbrev dktX0_clash_0 : List UInt8 := dkwX0_clash_0 ++ dktX0_clash_1
theorem dksX0_clash_0 : cX0_clash.data.toList.drop 0 = dktX0_clash_0 := by decide +kernel
theorem dksX0_clash_1 : cX0_clash.data.toList.drop 23 = dktX0_clash_1 := dk_seg dksX0_clash_0 23 rfl rfl
theorem dX0_clash_0 : decode cX0_clash 0 = .ok (.aload_n 0, 1) := dk_42 (dk_at dksX0_clash_0 0 rfl rfl)
theorem dX0_clash_1 : decode cX0_clash 1 = .ok (.iload_n 1, 1) := dk_27 (dk_at dksX0_clash_0 1 rfl rfl)
theorem dX0_clash_2 : decode cX0_clash 2 = .ok (.iload_n 2, 1) := dk_28 (dk_at dksX0_clash_0 2 rfl rfl)
theorem dX0_clash_3 : decode cX0_clash 3 = .ok (.invokevirtual 415, 3) := dk_182 1 159 (dk_at dksX0_clash_0 3 rfl rfl)
theorem dX0_clash_6 : decode cX0_clash 6 = .ok (.ifCond .eq 20, 3) := dk_153 0 20 (dk_at dksX0_clash_0 6 rfl rfl)
theorem dX0_clash_9 : decode cX0_clash 9 = .ok (.iload_n 3, 1) := dk_29 (dk_at dksX0_clash_0 9 rfl rfl)
theorem dX0_clash_10 : decode cX0_clash 10 = .ok (.invokestatic 195, 3) := dk_184 0 195 (dk_at dksX0_clash_0 10 rfl rfl)
theorem dX0_clash_13 : decode cX0_clash 13 = .ok (.ifCond .eq 13, 3) := dk_153 0 13 (dk_at dksX0_clash_0 13 rfl rfl)
theorem dX0_clash_16 : decode cX0_clash 16 = .ok (.aload_n 0, 1) := dk_42 (dk_at dksX0_clash_0 16 rfl rfl)
theorem dX0_clash_17 : decode cX0_clash 17 = .ok (.iload_n 1, 1) := dk_27 (dk_at dksX0_clash_0 17 rfl rfl)
theorem dX0_clash_18 : decode cX0_clash 18 = .ok (.iload_n 2, 1) := dk_28 (dk_at dksX0_clash_0 18 rfl rfl)
theorem dX0_clash_19 : decode cX0_clash 19 = .ok (.iload_n 3, 1) := dk_29 (dk_at dksX0_clash_0 19 rfl rfl)
theorem dX0_clash_20 : decode cX0_clash 20 = .ok (.invokevirtual 418, 3) := dk_182 1 162 (dk_at dksX0_clash_0 20 rfl rfl)
theorem dX0_clash_23 : decode cX0_clash 23 = .ok (.goto 4, 3) := dk_167 0 4 (dk_at dksX0_clash_1 0 rfl rfl)
theorem dX0_clash_26 : decode cX0_clash 26 = .ok (.iconst (-1), 1) := dk_2 (dk_at dksX0_clash_1 3 rfl rfl)
theorem dX0_clash_27 : decode cX0_clash 27 = .ok (.ireturn, 1) := dk_172 (dk_at dksX0_clash_1 4 rfl rfl)
abbrev cX0_areTwo : ByteArray := prog_1_method_76_code
def yX0_areTwo : MethodName := ⟨RX0, "areTwo", "(II)Z"⟩
def dkwX0_areTwo_1 : List UInt8 := [167, 0, 4, 3, 172]
abbrev dktX0_areTwo_1 : List UInt8 := dkwX0_areTwo_1 ++ []
def dkwX0_areTwo_0 : List UInt8 := [42, 27, 182, 0, 173, 153, 0, 20, 42, 28, 182, 0, 173, 153, 0, 12, 27, 28, 159, 0, 7, 4]
abbrev dktX0_areTwo_0 : List UInt8 := dkwX0_areTwo_0 ++ dktX0_areTwo_1
theorem dksX0_areTwo_0 : cX0_areTwo.data.toList.drop 0 = dktX0_areTwo_0 := by decide +kernel
theorem dksX0_areTwo_1 : cX0_areTwo.data.toList.drop 22 = dktX0_areTwo_1 := dk_seg dksX0_areTwo_0 22 rfl rfl
theorem dX0_areTwo_0 : decode cX0_areTwo 0 = .ok (.aload_n 0, 1) := dk_42 (dk_at dksX0_areTwo_0 0 rfl rfl)
theorem dX0_areTwo_1 : decode cX0_areTwo 1 = .ok (.iload_n 1, 1) := dk_27 (dk_at dksX0_areTwo_0 1 rfl rfl)
theorem dX0_areTwo_2 : decode cX0_areTwo 2 = .ok (.invokevirtual 173, 3) := dk_182 0 173 (dk_at dksX0_areTwo_0 2 rfl rfl)
theorem dX0_areTwo_5 : decode cX0_areTwo 5 = .ok (.ifCond .eq 20, 3) := dk_153 0 20 (dk_at dksX0_areTwo_0 5 rfl rfl)
theorem dX0_areTwo_8 : decode cX0_areTwo 8 = .ok (.aload_n 0, 1) := dk_42 (dk_at dksX0_areTwo_0 8 rfl rfl)
theorem dX0_areTwo_9 : decode cX0_areTwo 9 = .ok (.iload_n 2, 1) := dk_28 (dk_at dksX0_areTwo_0 9 rfl rfl)
theorem dX0_areTwo_10 : decode cX0_areTwo 10 = .ok (.invokevirtual 173, 3) := dk_182 0 173 (dk_at dksX0_areTwo_0 10 rfl rfl)
theorem dX0_areTwo_13 : decode cX0_areTwo 13 = .ok (.ifCond .eq 12, 3) := dk_153 0 12 (dk_at dksX0_areTwo_0 13 rfl rfl)
theorem dX0_areTwo_16 : decode cX0_areTwo 16 = .ok (.iload_n 1, 1) := dk_27 (dk_at dksX0_areTwo_0 16 rfl rfl)
theorem dX0_areTwo_17 : decode cX0_areTwo 17 = .ok (.iload_n 2, 1) := dk_28 (dk_at dksX0_areTwo_0 17 rfl rfl)
theorem dX0_areTwo_18 : decode cX0_areTwo 18 = .ok (.if_icmp .eq 7, 3) := dk_159 0 7 (dk_at dksX0_areTwo_0 18 rfl rfl)
theorem dX0_areTwo_21 : decode cX0_areTwo 21 = .ok (.iconst 1, 1) := dk_4 (dk_at dksX0_areTwo_0 21 rfl rfl)
theorem dX0_areTwo_22 : decode cX0_areTwo 22 = .ok (.goto 4, 3) := dk_167 0 4 (dk_at dksX0_areTwo_1 0 rfl rfl)
theorem dX0_areTwo_25 : decode cX0_areTwo 25 = .ok (.iconst 0, 1) := dk_3 (dk_at dksX0_areTwo_1 3 rfl rfl)
theorem dX0_areTwo_26 : decode cX0_areTwo 26 = .ok (.ireturn, 1) := dk_172 (dk_at dksX0_areTwo_1 4 rfl rfl)
abbrev cX0_clashes : ByteArray := prog_1_method_75_code
def yX0_clashes : MethodName := ⟨RX0, "clashes", "(III)I"⟩
def dkwX0_clashes_2 : List UInt8 := [132, 5, 1, 167, 255, 213, 21, 4, 172]
abbrev dktX0_clashes_2 : List UInt8 := dkwX0_clashes_2 ++ []
def dkwX0_clashes_1 : List UInt8 := [182, 1, 34, 42, 182, 0, 155, 28, 21, 5, 29, 96, 16, 8, 112, 182, 1, 34, 184, 1, 156, 96, 54, 4]
abbrev dktX0_clashes_1 : List UInt8 := dkwX0_clashes_1 ++ dktX0_clashes_2
def dkwX0_clashes_0 : List UInt8 := [3, 54, 4, 3, 54, 5, 21, 5, 16, 8, 162, 0, 42, 21, 4, 42, 182, 0, 155, 27, 21, 5]
abbrev dktX0_clashes_0 : List UInt8 := dkwX0_clashes_0 ++ dktX0_clashes_1
theorem dksX0_clashes_0 : cX0_clashes.data.toList.drop 0 = dktX0_clashes_0 := by decide +kernel
theorem dksX0_clashes_1 : cX0_clashes.data.toList.drop 22 = dktX0_clashes_1 := dk_seg dksX0_clashes_0 22 rfl rfl
theorem dksX0_clashes_2 : cX0_clashes.data.toList.drop 46 = dktX0_clashes_2 := dk_seg dksX0_clashes_1 24 rfl rfl
theorem dX0_clashes_0 : decode cX0_clashes 0 = .ok (.iconst 0, 1) := dk_3 (dk_at dksX0_clashes_0 0 rfl rfl)
theorem dX0_clashes_1 : decode cX0_clashes 1 = .ok (.istore 4, 2) := dk_54 4 (dk_at dksX0_clashes_0 1 rfl rfl)
theorem dX0_clashes_3 : decode cX0_clashes 3 = .ok (.iconst 0, 1) := dk_3 (dk_at dksX0_clashes_0 3 rfl rfl)
theorem dX0_clashes_4 : decode cX0_clashes 4 = .ok (.istore 5, 2) := dk_54 5 (dk_at dksX0_clashes_0 4 rfl rfl)
theorem dX0_clashes_6 : decode cX0_clashes 6 = .ok (.iload 5, 2) := dk_21 5 (dk_at dksX0_clashes_0 6 rfl rfl)
theorem dX0_clashes_8 : decode cX0_clashes 8 = .ok (.bipush 8, 2) := dk_16 8 (dk_at dksX0_clashes_0 8 rfl rfl)
theorem dX0_clashes_10 : decode cX0_clashes 10 = .ok (.if_icmp .ge 42, 3) := dk_162 0 42 (dk_at dksX0_clashes_0 10 rfl rfl)
theorem dX0_clashes_13 : decode cX0_clashes 13 = .ok (.iload 4, 2) := dk_21 4 (dk_at dksX0_clashes_0 13 rfl rfl)
theorem dX0_clashes_15 : decode cX0_clashes 15 = .ok (.aload_n 0, 1) := dk_42 (dk_at dksX0_clashes_0 15 rfl rfl)
theorem dX0_clashes_16 : decode cX0_clashes 16 = .ok (.invokevirtual 155, 3) := dk_182 0 155 (dk_at dksX0_clashes_0 16 rfl rfl)
theorem dX0_clashes_19 : decode cX0_clashes 19 = .ok (.iload_n 1, 1) := dk_27 (dk_at dksX0_clashes_0 19 rfl rfl)
theorem dX0_clashes_20 : decode cX0_clashes 20 = .ok (.iload 5, 2) := dk_21 5 (dk_at dksX0_clashes_0 20 rfl rfl)
theorem dX0_clashes_22 : decode cX0_clashes 22 = .ok (.invokevirtual 290, 3) := dk_182 1 34 (dk_at dksX0_clashes_1 0 rfl rfl)
theorem dX0_clashes_25 : decode cX0_clashes 25 = .ok (.aload_n 0, 1) := dk_42 (dk_at dksX0_clashes_1 3 rfl rfl)
theorem dX0_clashes_26 : decode cX0_clashes 26 = .ok (.invokevirtual 155, 3) := dk_182 0 155 (dk_at dksX0_clashes_1 4 rfl rfl)
theorem dX0_clashes_29 : decode cX0_clashes 29 = .ok (.iload_n 2, 1) := dk_28 (dk_at dksX0_clashes_1 7 rfl rfl)
theorem dX0_clashes_30 : decode cX0_clashes 30 = .ok (.iload 5, 2) := dk_21 5 (dk_at dksX0_clashes_1 8 rfl rfl)
theorem dX0_clashes_32 : decode cX0_clashes 32 = .ok (.iload_n 3, 1) := dk_29 (dk_at dksX0_clashes_1 10 rfl rfl)
theorem dX0_clashes_33 : decode cX0_clashes 33 = .ok (.iadd, 1) := dk_96 (dk_at dksX0_clashes_1 11 rfl rfl)
theorem dX0_clashes_34 : decode cX0_clashes 34 = .ok (.bipush 8, 2) := dk_16 8 (dk_at dksX0_clashes_1 12 rfl rfl)
theorem dX0_clashes_36 : decode cX0_clashes 36 = .ok (.irem, 1) := dk_112 (dk_at dksX0_clashes_1 14 rfl rfl)
theorem dX0_clashes_37 : decode cX0_clashes 37 = .ok (.invokevirtual 290, 3) := dk_182 1 34 (dk_at dksX0_clashes_1 15 rfl rfl)
theorem dX0_clashes_40 : decode cX0_clashes 40 = .ok (.invokestatic 412, 3) := dk_184 1 156 (dk_at dksX0_clashes_1 18 rfl rfl)
theorem dX0_clashes_43 : decode cX0_clashes 43 = .ok (.iadd, 1) := dk_96 (dk_at dksX0_clashes_1 21 rfl rfl)
theorem dX0_clashes_44 : decode cX0_clashes 44 = .ok (.istore 4, 2) := dk_54 4 (dk_at dksX0_clashes_1 22 rfl rfl)
theorem dX0_clashes_46 : decode cX0_clashes 46 = .ok (.iinc 5 1, 3) := dk_132 5 1 (dk_at dksX0_clashes_2 0 rfl rfl)
theorem dX0_clashes_49 : decode cX0_clashes 49 = .ok (.goto (-43), 3) := dk_167 255 213 (dk_at dksX0_clashes_2 3 rfl rfl)
theorem dX0_clashes_52 : decode cX0_clashes 52 = .ok (.iload 4, 2) := dk_21 4 (dk_at dksX0_clashes_2 6 rfl rfl)
theorem dX0_clashes_54 : decode cX0_clashes 54 = .ok (.ireturn, 1) := dk_172 (dk_at dksX0_clashes_2 8 rfl rfl)
abbrev cX0_next : ByteArray := prog_1_method_74_code
def yX0_next : MethodName := ⟨RX0, "next", "(II)I"⟩
def dkwX0_next_0 : List UInt8 := [26, 27, 4, 120, 126, 184, 1, 46, 26, 27, 4, 122, 126, 184, 1, 46, 96, 172]
abbrev dktX0_next_0 : List UInt8 := dkwX0_next_0 ++ []
theorem dksX0_next_0 : cX0_next.data.toList.drop 0 = dktX0_next_0 := by decide +kernel
theorem dX0_next_0 : decode cX0_next 0 = .ok (.iload_n 0, 1) := dk_26 (dk_at dksX0_next_0 0 rfl rfl)
theorem dX0_next_1 : decode cX0_next 1 = .ok (.iload_n 1, 1) := dk_27 (dk_at dksX0_next_0 1 rfl rfl)
theorem dX0_next_2 : decode cX0_next 2 = .ok (.iconst 1, 1) := dk_4 (dk_at dksX0_next_0 2 rfl rfl)
theorem dX0_next_3 : decode cX0_next 3 = .ok (.ishl, 1) := dk_120 (dk_at dksX0_next_0 3 rfl rfl)
theorem dX0_next_4 : decode cX0_next 4 = .ok (.iand, 1) := dk_126 (dk_at dksX0_next_0 4 rfl rfl)
theorem dX0_next_5 : decode cX0_next 5 = .ok (.invokestatic 302, 3) := dk_184 1 46 (dk_at dksX0_next_0 5 rfl rfl)
theorem dX0_next_8 : decode cX0_next 8 = .ok (.iload_n 0, 1) := dk_26 (dk_at dksX0_next_0 8 rfl rfl)
theorem dX0_next_9 : decode cX0_next 9 = .ok (.iload_n 1, 1) := dk_27 (dk_at dksX0_next_0 9 rfl rfl)
theorem dX0_next_10 : decode cX0_next 10 = .ok (.iconst 1, 1) := dk_4 (dk_at dksX0_next_0 10 rfl rfl)
theorem dX0_next_11 : decode cX0_next 11 = .ok (.ishr, 1) := dk_122 (dk_at dksX0_next_0 11 rfl rfl)
theorem dX0_next_12 : decode cX0_next 12 = .ok (.iand, 1) := dk_126 (dk_at dksX0_next_0 12 rfl rfl)
theorem dX0_next_13 : decode cX0_next 13 = .ok (.invokestatic 302, 3) := dk_184 1 46 (dk_at dksX0_next_0 13 rfl rfl)
theorem dX0_next_16 : decode cX0_next 16 = .ok (.iadd, 1) := dk_96 (dk_at dksX0_next_0 16 rfl rfl)
theorem dX0_next_17 : decode cX0_next 17 = .ok (.ireturn, 1) := dk_172 (dk_at dksX0_next_0 17 rfl rfl)
abbrev cX0_best : ByteArray := prog_1_method_78_code
def yX0_best : MethodName := ⟨RX0, "best", "(III)I"⟩
def dkwX0_best_3 : List UInt8 := [167, 0, 11, 42, 27, 28, 21, 4, 182, 1, 162, 172]
abbrev dktX0_best_3 : List UInt8 := dkwX0_best_3 ++ []
def dkwX0_best_2 : List UInt8 := [182, 1, 162, 162, 0, 7, 21, 5, 54, 4, 132, 5, 1, 167, 255, 223, 29, 154, 0, 8, 21, 4]
abbrev dktX0_best_2 : List UInt8 := dkwX0_best_2 ++ dktX0_best_3
def dkwX0_best_1 : List UInt8 := [54, 5, 21, 5, 16, 8, 162, 0, 32, 42, 27, 28, 21, 5, 182, 1, 162, 42, 27, 28, 21, 4]
abbrev dktX0_best_1 : List UInt8 := dkwX0_best_1 ++ dktX0_best_2
def dkwX0_best_0 : List UInt8 := [42, 27, 28, 182, 1, 159, 153, 0, 12, 29, 3, 4, 184, 0, 26, 154, 0, 5, 2, 172, 3, 54, 4, 4]
abbrev dktX0_best_0 : List UInt8 := dkwX0_best_0 ++ dktX0_best_1
theorem dksX0_best_0 : cX0_best.data.toList.drop 0 = dktX0_best_0 := by decide +kernel
theorem dksX0_best_1 : cX0_best.data.toList.drop 24 = dktX0_best_1 := dk_seg dksX0_best_0 24 rfl rfl
theorem dksX0_best_2 : cX0_best.data.toList.drop 46 = dktX0_best_2 := dk_seg dksX0_best_1 22 rfl rfl
theorem dksX0_best_3 : cX0_best.data.toList.drop 68 = dktX0_best_3 := dk_seg dksX0_best_2 22 rfl rfl
theorem dX0_best_0 : decode cX0_best 0 = .ok (.aload_n 0, 1) := dk_42 (dk_at dksX0_best_0 0 rfl rfl)
theorem dX0_best_1 : decode cX0_best 1 = .ok (.iload_n 1, 1) := dk_27 (dk_at dksX0_best_0 1 rfl rfl)
theorem dX0_best_2 : decode cX0_best 2 = .ok (.iload_n 2, 1) := dk_28 (dk_at dksX0_best_0 2 rfl rfl)
theorem dX0_best_3 : decode cX0_best 3 = .ok (.invokevirtual 415, 3) := dk_182 1 159 (dk_at dksX0_best_0 3 rfl rfl)
theorem dX0_best_6 : decode cX0_best 6 = .ok (.ifCond .eq 12, 3) := dk_153 0 12 (dk_at dksX0_best_0 6 rfl rfl)
theorem dX0_best_9 : decode cX0_best 9 = .ok (.iload_n 3, 1) := dk_29 (dk_at dksX0_best_0 9 rfl rfl)
theorem dX0_best_10 : decode cX0_best 10 = .ok (.iconst 0, 1) := dk_3 (dk_at dksX0_best_0 10 rfl rfl)
theorem dX0_best_11 : decode cX0_best 11 = .ok (.iconst 1, 1) := dk_4 (dk_at dksX0_best_0 11 rfl rfl)
theorem dX0_best_12 : decode cX0_best 12 = .ok (.invokestatic 26, 3) := dk_184 0 26 (dk_at dksX0_best_0 12 rfl rfl)
theorem dX0_best_15 : decode cX0_best 15 = .ok (.ifCond .ne 5, 3) := dk_154 0 5 (dk_at dksX0_best_0 15 rfl rfl)
theorem dX0_best_18 : decode cX0_best 18 = .ok (.iconst (-1), 1) := dk_2 (dk_at dksX0_best_0 18 rfl rfl)
theorem dX0_best_19 : decode cX0_best 19 = .ok (.ireturn, 1) := dk_172 (dk_at dksX0_best_0 19 rfl rfl)
theorem dX0_best_20 : decode cX0_best 20 = .ok (.iconst 0, 1) := dk_3 (dk_at dksX0_best_0 20 rfl rfl)
theorem dX0_best_21 : decode cX0_best 21 = .ok (.istore 4, 2) := dk_54 4 (dk_at dksX0_best_0 21 rfl rfl)
theorem dX0_best_23 : decode cX0_best 23 = .ok (.iconst 1, 1) := dk_4 (dk_at dksX0_best_0 23 rfl rfl)
theorem dX0_best_24 : decode cX0_best 24 = .ok (.istore 5, 2) := dk_54 5 (dk_at dksX0_best_1 0 rfl rfl)
theorem dX0_best_26 : decode cX0_best 26 = .ok (.iload 5, 2) := dk_21 5 (dk_at dksX0_best_1 2 rfl rfl)
theorem dX0_best_28 : decode cX0_best 28 = .ok (.bipush 8, 2) := dk_16 8 (dk_at dksX0_best_1 4 rfl rfl)
theorem dX0_best_30 : decode cX0_best 30 = .ok (.if_icmp .ge 32, 3) := dk_162 0 32 (dk_at dksX0_best_1 6 rfl rfl)
theorem dX0_best_33 : decode cX0_best 33 = .ok (.aload_n 0, 1) := dk_42 (dk_at dksX0_best_1 9 rfl rfl)
theorem dX0_best_34 : decode cX0_best 34 = .ok (.iload_n 1, 1) := dk_27 (dk_at dksX0_best_1 10 rfl rfl)
theorem dX0_best_35 : decode cX0_best 35 = .ok (.iload_n 2, 1) := dk_28 (dk_at dksX0_best_1 11 rfl rfl)
theorem dX0_best_36 : decode cX0_best 36 = .ok (.iload 5, 2) := dk_21 5 (dk_at dksX0_best_1 12 rfl rfl)
theorem dX0_best_38 : decode cX0_best 38 = .ok (.invokevirtual 418, 3) := dk_182 1 162 (dk_at dksX0_best_1 14 rfl rfl)
theorem dX0_best_41 : decode cX0_best 41 = .ok (.aload_n 0, 1) := dk_42 (dk_at dksX0_best_1 17 rfl rfl)
theorem dX0_best_42 : decode cX0_best 42 = .ok (.iload_n 1, 1) := dk_27 (dk_at dksX0_best_1 18 rfl rfl)
theorem dX0_best_43 : decode cX0_best 43 = .ok (.iload_n 2, 1) := dk_28 (dk_at dksX0_best_1 19 rfl rfl)
theorem dX0_best_44 : decode cX0_best 44 = .ok (.iload 4, 2) := dk_21 4 (dk_at dksX0_best_1 20 rfl rfl)
theorem dX0_best_46 : decode cX0_best 46 = .ok (.invokevirtual 418, 3) := dk_182 1 162 (dk_at dksX0_best_2 0 rfl rfl)
theorem dX0_best_49 : decode cX0_best 49 = .ok (.if_icmp .ge 7, 3) := dk_162 0 7 (dk_at dksX0_best_2 3 rfl rfl)
theorem dX0_best_52 : decode cX0_best 52 = .ok (.iload 5, 2) := dk_21 5 (dk_at dksX0_best_2 6 rfl rfl)
theorem dX0_best_54 : decode cX0_best 54 = .ok (.istore 4, 2) := dk_54 4 (dk_at dksX0_best_2 8 rfl rfl)
theorem dX0_best_56 : decode cX0_best 56 = .ok (.iinc 5 1, 3) := dk_132 5 1 (dk_at dksX0_best_2 10 rfl rfl)
theorem dX0_best_59 : decode cX0_best 59 = .ok (.goto (-33), 3) := dk_167 255 223 (dk_at dksX0_best_2 13 rfl rfl)
theorem dX0_best_62 : decode cX0_best 62 = .ok (.iload_n 3, 1) := dk_29 (dk_at dksX0_best_2 16 rfl rfl)
theorem dX0_best_63 : decode cX0_best 63 = .ok (.ifCond .ne 8, 3) := dk_154 0 8 (dk_at dksX0_best_2 17 rfl rfl)
theorem dX0_best_66 : decode cX0_best 66 = .ok (.iload 4, 2) := dk_21 4 (dk_at dksX0_best_2 20 rfl rfl)
theorem dX0_best_68 : decode cX0_best 68 = .ok (.goto 11, 3) := dk_167 0 11 (dk_at dksX0_best_3 0 rfl rfl)
theorem dX0_best_71 : decode cX0_best 71 = .ok (.aload_n 0, 1) := dk_42 (dk_at dksX0_best_3 3 rfl rfl)
theorem dX0_best_72 : decode cX0_best 72 = .ok (.iload_n 1, 1) := dk_27 (dk_at dksX0_best_3 4 rfl rfl)
theorem dX0_best_73 : decode cX0_best 73 = .ok (.iload_n 2, 1) := dk_28 (dk_at dksX0_best_3 5 rfl rfl)
theorem dX0_best_74 : decode cX0_best 74 = .ok (.iload 4, 2) := dk_21 4 (dk_at dksX0_best_3 6 rfl rfl)
theorem dX0_best_76 : decode cX0_best 76 = .ok (.invokevirtual 418, 3) := dk_182 1 162 (dk_at dksX0_best_3 8 rfl rfl)
theorem dX0_best_79 : decode cX0_best 79 = .ok (.ireturn, 1) := dk_172 (dk_at dksX0_best_3 11 rfl rfl)
abbrev cX0_filed : ByteArray := prog_1_method_80_code
def yX0_filed : MethodName := ⟨RX0, "filed", "(IIII)I"⟩
def dkwX0_filed_5 : List UInt8 := [21, 5, 182, 1, 165, 172]
abbrev dktX0_filed_5 : List UInt8 := dkwX0_filed_5 ++ []
def dkwX0_filed_4 : List UInt8 := [154, 0, 8, 21, 6, 167, 0, 23, 21, 4, 4, 160, 0, 8, 21, 5, 167, 0, 12, 42, 27, 28, 29]
abbrev dktX0_filed_4 : List UInt8 := dkwX0_filed_4 ++ dktX0_filed_5
def dkwX0_filed_3 : List UInt8 := [161, 0, 6, 167, 0, 11, 21, 8, 54, 6, 21, 7, 54, 5, 132, 7, 1, 167, 255, 207, 21, 4]
abbrev dktX0_filed_3 : List UInt8 := dkwX0_filed_3 ++ dktX0_filed_4
def dkwX0_filed_2 : List UInt8 := [21, 7, 184, 1, 46, 42, 27, 28, 29, 21, 7, 182, 1, 165, 184, 1, 46, 96, 54, 8, 21, 8, 21, 6]
abbrev dktX0_filed_2 : List UInt8 := dkwX0_filed_2 ++ dktX0_filed_3
def dkwX0_filed_1 : List UInt8 := [154, 0, 5, 2, 172, 3, 54, 5, 19, 1, 116, 54, 6, 3, 54, 7, 21, 7, 17, 1, 0, 162, 0, 47]
abbrev dktX0_filed_1 : List UInt8 := dkwX0_filed_1 ++ dktX0_filed_2
def dkwX0_filed_0 : List UInt8 := [42, 27, 28, 182, 1, 159, 153, 0, 20, 29, 184, 0, 195, 153, 0, 13, 21, 4, 3, 5, 184, 0, 26]
abbrev dktX0_filed_0 : List UInt8 := dkwX0_filed_0 ++ dktX0_filed_1
theorem dksX0_filed_0 : cX0_filed.data.toList.drop 0 = dktX0_filed_0 := by decide +kernel
theorem dksX0_filed_1 : cX0_filed.data.toList.drop 23 = dktX0_filed_1 := dk_seg dksX0_filed_0 23 rfl rfl
theorem dksX0_filed_2 : cX0_filed.data.toList.drop 47 = dktX0_filed_2 := dk_seg dksX0_filed_1 24 rfl rfl
theorem dksX0_filed_3 : cX0_filed.data.toList.drop 71 = dktX0_filed_3 := dk_seg dksX0_filed_2 24 rfl rfl
theorem dksX0_filed_4 : cX0_filed.data.toList.drop 93 = dktX0_filed_4 := dk_seg dksX0_filed_3 22 rfl rfl
theorem dksX0_filed_5 : cX0_filed.data.toList.drop 116 = dktX0_filed_5 := dk_seg dksX0_filed_4 23 rfl rfl
theorem dX0_filed_0 : decode cX0_filed 0 = .ok (.aload_n 0, 1) := dk_42 (dk_at dksX0_filed_0 0 rfl rfl)
theorem dX0_filed_1 : decode cX0_filed 1 = .ok (.iload_n 1, 1) := dk_27 (dk_at dksX0_filed_0 1 rfl rfl)
theorem dX0_filed_2 : decode cX0_filed 2 = .ok (.iload_n 2, 1) := dk_28 (dk_at dksX0_filed_0 2 rfl rfl)
theorem dX0_filed_3 : decode cX0_filed 3 = .ok (.invokevirtual 415, 3) := dk_182 1 159 (dk_at dksX0_filed_0 3 rfl rfl)
theorem dX0_filed_6 : decode cX0_filed 6 = .ok (.ifCond .eq 20, 3) := dk_153 0 20 (dk_at dksX0_filed_0 6 rfl rfl)
theorem dX0_filed_9 : decode cX0_filed 9 = .ok (.iload_n 3, 1) := dk_29 (dk_at dksX0_filed_0 9 rfl rfl)
theorem dX0_filed_10 : decode cX0_filed 10 = .ok (.invokestatic 195, 3) := dk_184 0 195 (dk_at dksX0_filed_0 10 rfl rfl)
theorem dX0_filed_13 : decode cX0_filed 13 = .ok (.ifCond .eq 13, 3) := dk_153 0 13 (dk_at dksX0_filed_0 13 rfl rfl)
theorem dX0_filed_16 : decode cX0_filed 16 = .ok (.iload 4, 2) := dk_21 4 (dk_at dksX0_filed_0 16 rfl rfl)
theorem dX0_filed_18 : decode cX0_filed 18 = .ok (.iconst 0, 1) := dk_3 (dk_at dksX0_filed_0 18 rfl rfl)
theorem dX0_filed_19 : decode cX0_filed 19 = .ok (.iconst 2, 1) := dk_5 (dk_at dksX0_filed_0 19 rfl rfl)
theorem dX0_filed_20 : decode cX0_filed 20 = .ok (.invokestatic 26, 3) := dk_184 0 26 (dk_at dksX0_filed_0 20 rfl rfl)
theorem dX0_filed_23 : decode cX0_filed 23 = .ok (.ifCond .ne 5, 3) := dk_154 0 5 (dk_at dksX0_filed_1 0 rfl rfl)
theorem dX0_filed_26 : decode cX0_filed 26 = .ok (.iconst (-1), 1) := dk_2 (dk_at dksX0_filed_1 3 rfl rfl)
theorem dX0_filed_27 : decode cX0_filed 27 = .ok (.ireturn, 1) := dk_172 (dk_at dksX0_filed_1 4 rfl rfl)
theorem dX0_filed_28 : decode cX0_filed 28 = .ok (.iconst 0, 1) := dk_3 (dk_at dksX0_filed_1 5 rfl rfl)
theorem dX0_filed_29 : decode cX0_filed 29 = .ok (.istore 5, 2) := dk_54 5 (dk_at dksX0_filed_1 6 rfl rfl)
theorem dX0_filed_31 : decode cX0_filed 31 = .ok (.ldc_w 372, 3) := dk_19 1 116 (dk_at dksX0_filed_1 8 rfl rfl)
theorem dX0_filed_34 : decode cX0_filed 34 = .ok (.istore 6, 2) := dk_54 6 (dk_at dksX0_filed_1 11 rfl rfl)
theorem dX0_filed_36 : decode cX0_filed 36 = .ok (.iconst 0, 1) := dk_3 (dk_at dksX0_filed_1 13 rfl rfl)
theorem dX0_filed_37 : decode cX0_filed 37 = .ok (.istore 7, 2) := dk_54 7 (dk_at dksX0_filed_1 14 rfl rfl)
theorem dX0_filed_39 : decode cX0_filed 39 = .ok (.iload 7, 2) := dk_21 7 (dk_at dksX0_filed_1 16 rfl rfl)
theorem dX0_filed_41 : decode cX0_filed 41 = .ok (.sipush 256, 3) := dk_17 1 0 (dk_at dksX0_filed_1 18 rfl rfl)
theorem dX0_filed_44 : decode cX0_filed 44 = .ok (.if_icmp .ge 47, 3) := dk_162 0 47 (dk_at dksX0_filed_1 21 rfl rfl)
theorem dX0_filed_47 : decode cX0_filed 47 = .ok (.iload 7, 2) := dk_21 7 (dk_at dksX0_filed_2 0 rfl rfl)
theorem dX0_filed_49 : decode cX0_filed 49 = .ok (.invokestatic 302, 3) := dk_184 1 46 (dk_at dksX0_filed_2 2 rfl rfl)
theorem dX0_filed_52 : decode cX0_filed 52 = .ok (.aload_n 0, 1) := dk_42 (dk_at dksX0_filed_2 5 rfl rfl)
theorem dX0_filed_53 : decode cX0_filed 53 = .ok (.iload_n 1, 1) := dk_27 (dk_at dksX0_filed_2 6 rfl rfl)
theorem dX0_filed_54 : decode cX0_filed 54 = .ok (.iload_n 2, 1) := dk_28 (dk_at dksX0_filed_2 7 rfl rfl)
theorem dX0_filed_55 : decode cX0_filed 55 = .ok (.iload_n 3, 1) := dk_29 (dk_at dksX0_filed_2 8 rfl rfl)
theorem dX0_filed_56 : decode cX0_filed 56 = .ok (.iload 7, 2) := dk_21 7 (dk_at dksX0_filed_2 9 rfl rfl)
theorem dX0_filed_58 : decode cX0_filed 58 = .ok (.invokevirtual 421, 3) := dk_182 1 165 (dk_at dksX0_filed_2 11 rfl rfl)
theorem dX0_filed_61 : decode cX0_filed 61 = .ok (.invokestatic 302, 3) := dk_184 1 46 (dk_at dksX0_filed_2 14 rfl rfl)
theorem dX0_filed_64 : decode cX0_filed 64 = .ok (.iadd, 1) := dk_96 (dk_at dksX0_filed_2 17 rfl rfl)
theorem dX0_filed_65 : decode cX0_filed 65 = .ok (.istore 8, 2) := dk_54 8 (dk_at dksX0_filed_2 18 rfl rfl)
theorem dX0_filed_67 : decode cX0_filed 67 = .ok (.iload 8, 2) := dk_21 8 (dk_at dksX0_filed_2 20 rfl rfl)
theorem dX0_filed_69 : decode cX0_filed 69 = .ok (.iload 6, 2) := dk_21 6 (dk_at dksX0_filed_2 22 rfl rfl)
theorem dX0_filed_71 : decode cX0_filed 71 = .ok (.if_icmp .lt 6, 3) := dk_161 0 6 (dk_at dksX0_filed_3 0 rfl rfl)
theorem dX0_filed_74 : decode cX0_filed 74 = .ok (.goto 11, 3) := dk_167 0 11 (dk_at dksX0_filed_3 3 rfl rfl)
theorem dX0_filed_77 : decode cX0_filed 77 = .ok (.iload 8, 2) := dk_21 8 (dk_at dksX0_filed_3 6 rfl rfl)
theorem dX0_filed_79 : decode cX0_filed 79 = .ok (.istore 6, 2) := dk_54 6 (dk_at dksX0_filed_3 8 rfl rfl)
theorem dX0_filed_81 : decode cX0_filed 81 = .ok (.iload 7, 2) := dk_21 7 (dk_at dksX0_filed_3 10 rfl rfl)
theorem dX0_filed_83 : decode cX0_filed 83 = .ok (.istore 5, 2) := dk_54 5 (dk_at dksX0_filed_3 12 rfl rfl)
theorem dX0_filed_85 : decode cX0_filed 85 = .ok (.iinc 7 1, 3) := dk_132 7 1 (dk_at dksX0_filed_3 14 rfl rfl)
theorem dX0_filed_88 : decode cX0_filed 88 = .ok (.goto (-49), 3) := dk_167 255 207 (dk_at dksX0_filed_3 17 rfl rfl)
theorem dX0_filed_91 : decode cX0_filed 91 = .ok (.iload 4, 2) := dk_21 4 (dk_at dksX0_filed_3 20 rfl rfl)
theorem dX0_filed_93 : decode cX0_filed 93 = .ok (.ifCond .ne 8, 3) := dk_154 0 8 (dk_at dksX0_filed_4 0 rfl rfl)
theorem dX0_filed_96 : decode cX0_filed 96 = .ok (.iload 6, 2) := dk_21 6 (dk_at dksX0_filed_4 3 rfl rfl)
theorem dX0_filed_98 : decode cX0_filed 98 = .ok (.goto 23, 3) := dk_167 0 23 (dk_at dksX0_filed_4 5 rfl rfl)
theorem dX0_filed_101 : decode cX0_filed 101 = .ok (.iload 4, 2) := dk_21 4 (dk_at dksX0_filed_4 8 rfl rfl)
theorem dX0_filed_103 : decode cX0_filed 103 = .ok (.iconst 1, 1) := dk_4 (dk_at dksX0_filed_4 10 rfl rfl)
theorem dX0_filed_104 : decode cX0_filed 104 = .ok (.if_icmp .ne 8, 3) := dk_160 0 8 (dk_at dksX0_filed_4 11 rfl rfl)
theorem dX0_filed_107 : decode cX0_filed 107 = .ok (.iload 5, 2) := dk_21 5 (dk_at dksX0_filed_4 14 rfl rfl)
theorem dX0_filed_109 : decode cX0_filed 109 = .ok (.goto 12, 3) := dk_167 0 12 (dk_at dksX0_filed_4 16 rfl rfl)
theorem dX0_filed_112 : decode cX0_filed 112 = .ok (.aload_n 0, 1) := dk_42 (dk_at dksX0_filed_4 19 rfl rfl)
theorem dX0_filed_113 : decode cX0_filed 113 = .ok (.iload_n 1, 1) := dk_27 (dk_at dksX0_filed_4 20 rfl rfl)
theorem dX0_filed_114 : decode cX0_filed 114 = .ok (.iload_n 2, 1) := dk_28 (dk_at dksX0_filed_4 21 rfl rfl)
theorem dX0_filed_115 : decode cX0_filed 115 = .ok (.iload_n 3, 1) := dk_29 (dk_at dksX0_filed_4 22 rfl rfl)
theorem dX0_filed_116 : decode cX0_filed 116 = .ok (.iload 5, 2) := dk_21 5 (dk_at dksX0_filed_5 0 rfl rfl)
theorem dX0_filed_118 : decode cX0_filed 118 = .ok (.invokevirtual 421, 3) := dk_182 1 165 (dk_at dksX0_filed_5 2 rfl rfl)
theorem dX0_filed_121 : decode cX0_filed 121 = .ok (.ireturn, 1) := dk_172 (dk_at dksX0_filed_5 5 rfl rfl)
abbrev cX0_clashing : ByteArray := prog_1_method_79_code
def yX0_clashing : MethodName := ⟨RX0, "clashing", "(IIII)I"⟩
def dkwX0_clashing_2 : List UInt8 := [21, 6, 29, 96, 16, 8, 112, 182, 1, 34, 126, 128, 54, 5, 132, 6, 1, 167, 255, 199, 21, 5, 172]
abbrev dktX0_clashing_2 : List UInt8 := dkwX0_clashing_2 ++ []
def dkwX0_clashing_1 : List UInt8 := [21, 4, 2, 130, 126, 54, 7, 21, 5, 21, 7, 4, 120, 21, 7, 4, 122, 128, 42, 182, 0, 155, 28]
abbrev dktX0_clashing_1 : List UInt8 := dkwX0_clashing_1 ++ dktX0_clashing_2
def dkwX0_clashing_0 : List UInt8 := [3, 54, 5, 3, 54, 6, 21, 6, 16, 8, 162, 0, 56, 42, 182, 0, 155, 27, 21, 6, 182, 1, 34]
abbrev dktX0_clashing_0 : List UInt8 := dkwX0_clashing_0 ++ dktX0_clashing_1
theorem dksX0_clashing_0 : cX0_clashing.data.toList.drop 0 = dktX0_clashing_0 := by decide +kernel
theorem dksX0_clashing_1 : cX0_clashing.data.toList.drop 23 = dktX0_clashing_1 := dk_seg dksX0_clashing_0 23 rfl rfl
theorem dksX0_clashing_2 : cX0_clashing.data.toList.drop 46 = dktX0_clashing_2 := dk_seg dksX0_clashing_1 23 rfl rfl
theorem dX0_clashing_0 : decode cX0_clashing 0 = .ok (.iconst 0, 1) := dk_3 (dk_at dksX0_clashing_0 0 rfl rfl)
theorem dX0_clashing_1 : decode cX0_clashing 1 = .ok (.istore 5, 2) := dk_54 5 (dk_at dksX0_clashing_0 1 rfl rfl)
theorem dX0_clashing_3 : decode cX0_clashing 3 = .ok (.iconst 0, 1) := dk_3 (dk_at dksX0_clashing_0 3 rfl rfl)
theorem dX0_clashing_4 : decode cX0_clashing 4 = .ok (.istore 6, 2) := dk_54 6 (dk_at dksX0_clashing_0 4 rfl rfl)
theorem dX0_clashing_6 : decode cX0_clashing 6 = .ok (.iload 6, 2) := dk_21 6 (dk_at dksX0_clashing_0 6 rfl rfl)
theorem dX0_clashing_8 : decode cX0_clashing 8 = .ok (.bipush 8, 2) := dk_16 8 (dk_at dksX0_clashing_0 8 rfl rfl)
theorem dX0_clashing_10 : decode cX0_clashing 10 = .ok (.if_icmp .ge 56, 3) := dk_162 0 56 (dk_at dksX0_clashing_0 10 rfl rfl)
theorem dX0_clashing_13 : decode cX0_clashing 13 = .ok (.aload_n 0, 1) := dk_42 (dk_at dksX0_clashing_0 13 rfl rfl)
theorem dX0_clashing_14 : decode cX0_clashing 14 = .ok (.invokevirtual 155, 3) := dk_182 0 155 (dk_at dksX0_clashing_0 14 rfl rfl)
theorem dX0_clashing_17 : decode cX0_clashing 17 = .ok (.iload_n 1, 1) := dk_27 (dk_at dksX0_clashing_0 17 rfl rfl)
theorem dX0_clashing_18 : decode cX0_clashing 18 = .ok (.iload 6, 2) := dk_21 6 (dk_at dksX0_clashing_0 18 rfl rfl)
theorem dX0_clashing_20 : decode cX0_clashing 20 = .ok (.invokevirtual 290, 3) := dk_182 1 34 (dk_at dksX0_clashing_0 20 rfl rfl)
theorem dX0_clashing_23 : decode cX0_clashing 23 = .ok (.iload 4, 2) := dk_21 4 (dk_at dksX0_clashing_1 0 rfl rfl)
theorem dX0_clashing_25 : decode cX0_clashing 25 = .ok (.iconst (-1), 1) := dk_2 (dk_at dksX0_clashing_1 2 rfl rfl)
theorem dX0_clashing_26 : decode cX0_clashing 26 = .ok (.ixor, 1) := dk_130 (dk_at dksX0_clashing_1 3 rfl rfl)
theorem dX0_clashing_27 : decode cX0_clashing 27 = .ok (.iand, 1) := dk_126 (dk_at dksX0_clashing_1 4 rfl rfl)
theorem dX0_clashing_28 : decode cX0_clashing 28 = .ok (.istore 7, 2) := dk_54 7 (dk_at dksX0_clashing_1 5 rfl rfl)
theorem dX0_clashing_30 : decode cX0_clashing 30 = .ok (.iload 5, 2) := dk_21 5 (dk_at dksX0_clashing_1 7 rfl rfl)
theorem dX0_clashing_32 : decode cX0_clashing 32 = .ok (.iload 7, 2) := dk_21 7 (dk_at dksX0_clashing_1 9 rfl rfl)
theorem dX0_clashing_34 : decode cX0_clashing 34 = .ok (.iconst 1, 1) := dk_4 (dk_at dksX0_clashing_1 11 rfl rfl)
theorem dX0_clashing_35 : decode cX0_clashing 35 = .ok (.ishl, 1) := dk_120 (dk_at dksX0_clashing_1 12 rfl rfl)
theorem dX0_clashing_36 : decode cX0_clashing 36 = .ok (.iload 7, 2) := dk_21 7 (dk_at dksX0_clashing_1 13 rfl rfl)
theorem dX0_clashing_38 : decode cX0_clashing 38 = .ok (.iconst 1, 1) := dk_4 (dk_at dksX0_clashing_1 15 rfl rfl)
theorem dX0_clashing_39 : decode cX0_clashing 39 = .ok (.ishr, 1) := dk_122 (dk_at dksX0_clashing_1 16 rfl rfl)
theorem dX0_clashing_40 : decode cX0_clashing 40 = .ok (.ior, 1) := dk_128 (dk_at dksX0_clashing_1 17 rfl rfl)
theorem dX0_clashing_41 : decode cX0_clashing 41 = .ok (.aload_n 0, 1) := dk_42 (dk_at dksX0_clashing_1 18 rfl rfl)
theorem dX0_clashing_42 : decode cX0_clashing 42 = .ok (.invokevirtual 155, 3) := dk_182 0 155 (dk_at dksX0_clashing_1 19 rfl rfl)
theorem dX0_clashing_45 : decode cX0_clashing 45 = .ok (.iload_n 2, 1) := dk_28 (dk_at dksX0_clashing_1 22 rfl rfl)
theorem dX0_clashing_46 : decode cX0_clashing 46 = .ok (.iload 6, 2) := dk_21 6 (dk_at dksX0_clashing_2 0 rfl rfl)
theorem dX0_clashing_48 : decode cX0_clashing 48 = .ok (.iload_n 3, 1) := dk_29 (dk_at dksX0_clashing_2 2 rfl rfl)
theorem dX0_clashing_49 : decode cX0_clashing 49 = .ok (.iadd, 1) := dk_96 (dk_at dksX0_clashing_2 3 rfl rfl)
theorem dX0_clashing_50 : decode cX0_clashing 50 = .ok (.bipush 8, 2) := dk_16 8 (dk_at dksX0_clashing_2 4 rfl rfl)
theorem dX0_clashing_52 : decode cX0_clashing 52 = .ok (.irem, 1) := dk_112 (dk_at dksX0_clashing_2 6 rfl rfl)
theorem dX0_clashing_53 : decode cX0_clashing 53 = .ok (.invokevirtual 290, 3) := dk_182 1 34 (dk_at dksX0_clashing_2 7 rfl rfl)
theorem dX0_clashing_56 : decode cX0_clashing 56 = .ok (.iand, 1) := dk_126 (dk_at dksX0_clashing_2 10 rfl rfl)
theorem dX0_clashing_57 : decode cX0_clashing 57 = .ok (.ior, 1) := dk_128 (dk_at dksX0_clashing_2 11 rfl rfl)
theorem dX0_clashing_58 : decode cX0_clashing 58 = .ok (.istore 5, 2) := dk_54 5 (dk_at dksX0_clashing_2 12 rfl rfl)
theorem dX0_clashing_60 : decode cX0_clashing 60 = .ok (.iinc 6 1, 3) := dk_132 6 1 (dk_at dksX0_clashing_2 14 rfl rfl)
theorem dX0_clashing_63 : decode cX0_clashing 63 = .ok (.goto (-57), 3) := dk_167 255 199 (dk_at dksX0_clashing_2 17 rfl rfl)
theorem dX0_clashing_66 : decode cX0_clashing 66 = .ok (.iload 5, 2) := dk_21 5 (dk_at dksX0_clashing_2 20 rfl rfl)
theorem dX0_clashing_68 : decode cX0_clashing 68 = .ok (.ireturn, 1) := dk_172 (dk_at dksX0_clashing_2 22 rfl rfl)
abbrev cX0_shares : ByteArray := prog_1_method_82_code
def yX0_shares : MethodName := ⟨RX0, "shares", "(II)I"⟩
def dkwX0_shares_4 : List UInt8 := [28, 4, 100, 46, 172]
abbrev dktX0_shares_4 : List UInt8 := dkwX0_shares_4 ++ []
def dkwX0_shares_3 : List UInt8 := [181, 1, 169, 42, 3, 27, 182, 1, 178, 28, 154, 0, 10, 42, 180, 1, 169, 167, 0, 11, 42, 180, 0, 114]
abbrev dktX0_shares_3 : List UInt8 := dkwX0_shares_3 ++ dktX0_shares_4
def dkwX0_shares_2 : List UInt8 := [180, 0, 39, 180, 0, 184, 42, 182, 0, 155, 29, 182, 0, 187, 79, 132, 3, 1, 167, 255, 220, 42, 2]
abbrev dktX0_shares_2 : List UInt8 := dkwX0_shares_2 ++ dktX0_shares_3
def dkwX0_shares_1 : List UInt8 := [2, 172, 3, 62, 29, 42, 180, 0, 39, 180, 0, 139, 162, 0, 31, 42, 180, 0, 117, 29, 42, 42]
abbrev dktX0_shares_1 : List UInt8 := dkwX0_shares_1 ++ dktX0_shares_2
def dkwX0_shares_0 : List UInt8 := [27, 4, 6, 184, 0, 26, 153, 0, 18, 28, 3, 42, 180, 0, 39, 180, 0, 139, 184, 0, 26, 154, 0, 5]
abbrev dktX0_shares_0 : List UInt8 := dkwX0_shares_0 ++ dktX0_shares_1
theorem dksX0_shares_0 : cX0_shares.data.toList.drop 0 = dktX0_shares_0 := by decide +kernel
theorem dksX0_shares_1 : cX0_shares.data.toList.drop 24 = dktX0_shares_1 := dk_seg dksX0_shares_0 24 rfl rfl
theorem dksX0_shares_2 : cX0_shares.data.toList.drop 46 = dktX0_shares_2 := dk_seg dksX0_shares_1 22 rfl rfl
theorem dksX0_shares_3 : cX0_shares.data.toList.drop 69 = dktX0_shares_3 := dk_seg dksX0_shares_2 23 rfl rfl
theorem dksX0_shares_4 : cX0_shares.data.toList.drop 93 = dktX0_shares_4 := dk_seg dksX0_shares_3 24 rfl rfl
theorem dX0_shares_0 : decode cX0_shares 0 = .ok (.iload_n 1, 1) := dk_27 (dk_at dksX0_shares_0 0 rfl rfl)
theorem dX0_shares_1 : decode cX0_shares 1 = .ok (.iconst 1, 1) := dk_4 (dk_at dksX0_shares_0 1 rfl rfl)
theorem dX0_shares_2 : decode cX0_shares 2 = .ok (.iconst 3, 1) := dk_6 (dk_at dksX0_shares_0 2 rfl rfl)
theorem dX0_shares_3 : decode cX0_shares 3 = .ok (.invokestatic 26, 3) := dk_184 0 26 (dk_at dksX0_shares_0 3 rfl rfl)
theorem dX0_shares_6 : decode cX0_shares 6 = .ok (.ifCond .eq 18, 3) := dk_153 0 18 (dk_at dksX0_shares_0 6 rfl rfl)
theorem dX0_shares_9 : decode cX0_shares 9 = .ok (.iload_n 2, 1) := dk_28 (dk_at dksX0_shares_0 9 rfl rfl)
theorem dX0_shares_10 : decode cX0_shares 10 = .ok (.iconst 0, 1) := dk_3 (dk_at dksX0_shares_0 10 rfl rfl)
theorem dX0_shares_11 : decode cX0_shares 11 = .ok (.aload_n 0, 1) := dk_42 (dk_at dksX0_shares_0 11 rfl rfl)
theorem dX0_shares_12 : decode cX0_shares 12 = .ok (.getfield 39, 3) := dk_180 0 39 (dk_at dksX0_shares_0 12 rfl rfl)
theorem dX0_shares_15 : decode cX0_shares 15 = .ok (.getfield 139, 3) := dk_180 0 139 (dk_at dksX0_shares_0 15 rfl rfl)
theorem dX0_shares_18 : decode cX0_shares 18 = .ok (.invokestatic 26, 3) := dk_184 0 26 (dk_at dksX0_shares_0 18 rfl rfl)
theorem dX0_shares_21 : decode cX0_shares 21 = .ok (.ifCond .ne 5, 3) := dk_154 0 5 (dk_at dksX0_shares_0 21 rfl rfl)
theorem dX0_shares_24 : decode cX0_shares 24 = .ok (.iconst (-1), 1) := dk_2 (dk_at dksX0_shares_1 0 rfl rfl)
theorem dX0_shares_25 : decode cX0_shares 25 = .ok (.ireturn, 1) := dk_172 (dk_at dksX0_shares_1 1 rfl rfl)
theorem dX0_shares_26 : decode cX0_shares 26 = .ok (.iconst 0, 1) := dk_3 (dk_at dksX0_shares_1 2 rfl rfl)
theorem dX0_shares_27 : decode cX0_shares 27 = .ok (.istore_n 3, 1) := dk_62 (dk_at dksX0_shares_1 3 rfl rfl)
theorem dX0_shares_28 : decode cX0_shares 28 = .ok (.iload_n 3, 1) := dk_29 (dk_at dksX0_shares_1 4 rfl rfl)
theorem dX0_shares_29 : decode cX0_shares 29 = .ok (.aload_n 0, 1) := dk_42 (dk_at dksX0_shares_1 5 rfl rfl)
theorem dX0_shares_30 : decode cX0_shares 30 = .ok (.getfield 39, 3) := dk_180 0 39 (dk_at dksX0_shares_1 6 rfl rfl)
theorem dX0_shares_33 : decode cX0_shares 33 = .ok (.getfield 139, 3) := dk_180 0 139 (dk_at dksX0_shares_1 9 rfl rfl)
theorem dX0_shares_36 : decode cX0_shares 36 = .ok (.if_icmp .ge 31, 3) := dk_162 0 31 (dk_at dksX0_shares_1 12 rfl rfl)
theorem dX0_shares_39 : decode cX0_shares 39 = .ok (.aload_n 0, 1) := dk_42 (dk_at dksX0_shares_1 15 rfl rfl)
theorem dX0_shares_40 : decode cX0_shares 40 = .ok (.getfield 117, 3) := dk_180 0 117 (dk_at dksX0_shares_1 16 rfl rfl)
theorem dX0_shares_43 : decode cX0_shares 43 = .ok (.iload_n 3, 1) := dk_29 (dk_at dksX0_shares_1 19 rfl rfl)
theorem dX0_shares_44 : decode cX0_shares 44 = .ok (.aload_n 0, 1) := dk_42 (dk_at dksX0_shares_1 20 rfl rfl)
theorem dX0_shares_45 : decode cX0_shares 45 = .ok (.aload_n 0, 1) := dk_42 (dk_at dksX0_shares_1 21 rfl rfl)
theorem dX0_shares_46 : decode cX0_shares 46 = .ok (.getfield 39, 3) := dk_180 0 39 (dk_at dksX0_shares_2 0 rfl rfl)
theorem dX0_shares_49 : decode cX0_shares 49 = .ok (.getfield 184, 3) := dk_180 0 184 (dk_at dksX0_shares_2 3 rfl rfl)
theorem dX0_shares_52 : decode cX0_shares 52 = .ok (.aload_n 0, 1) := dk_42 (dk_at dksX0_shares_2 6 rfl rfl)
theorem dX0_shares_53 : decode cX0_shares 53 = .ok (.invokevirtual 155, 3) := dk_182 0 155 (dk_at dksX0_shares_2 7 rfl rfl)
theorem dX0_shares_56 : decode cX0_shares 56 = .ok (.iload_n 3, 1) := dk_29 (dk_at dksX0_shares_2 10 rfl rfl)
theorem dX0_shares_57 : decode cX0_shares 57 = .ok (.invokevirtual 187, 3) := dk_182 0 187 (dk_at dksX0_shares_2 11 rfl rfl)
theorem dX0_shares_60 : decode cX0_shares 60 = .ok (.iastore, 1) := dk_79 (dk_at dksX0_shares_2 14 rfl rfl)
theorem dX0_shares_61 : decode cX0_shares 61 = .ok (.iinc 3 1, 3) := dk_132 3 1 (dk_at dksX0_shares_2 15 rfl rfl)
theorem dX0_shares_64 : decode cX0_shares 64 = .ok (.goto (-36), 3) := dk_167 255 220 (dk_at dksX0_shares_2 18 rfl rfl)
theorem dX0_shares_67 : decode cX0_shares 67 = .ok (.aload_n 0, 1) := dk_42 (dk_at dksX0_shares_2 21 rfl rfl)
theorem dX0_shares_68 : decode cX0_shares 68 = .ok (.iconst (-1), 1) := dk_2 (dk_at dksX0_shares_2 22 rfl rfl)
theorem dX0_shares_69 : decode cX0_shares 69 = .ok (.putfield 425, 3) := dk_181 1 169 (dk_at dksX0_shares_3 0 rfl rfl)
theorem dX0_shares_72 : decode cX0_shares 72 = .ok (.aload_n 0, 1) := dk_42 (dk_at dksX0_shares_3 3 rfl rfl)
theorem dX0_shares_73 : decode cX0_shares 73 = .ok (.iconst 0, 1) := dk_3 (dk_at dksX0_shares_3 4 rfl rfl)
theorem dX0_shares_74 : decode cX0_shares 74 = .ok (.iload_n 1, 1) := dk_27 (dk_at dksX0_shares_3 5 rfl rfl)
theorem dX0_shares_75 : decode cX0_shares 75 = .ok (.invokevirtual 434, 3) := dk_182 1 178 (dk_at dksX0_shares_3 6 rfl rfl)
theorem dX0_shares_78 : decode cX0_shares 78 = .ok (.iload_n 2, 1) := dk_28 (dk_at dksX0_shares_3 9 rfl rfl)
theorem dX0_shares_79 : decode cX0_shares 79 = .ok (.ifCond .ne 10, 3) := dk_154 0 10 (dk_at dksX0_shares_3 10 rfl rfl)
theorem dX0_shares_82 : decode cX0_shares 82 = .ok (.aload_n 0, 1) := dk_42 (dk_at dksX0_shares_3 13 rfl rfl)
theorem dX0_shares_83 : decode cX0_shares 83 = .ok (.getfield 425, 3) := dk_180 1 169 (dk_at dksX0_shares_3 14 rfl rfl)
theorem dX0_shares_86 : decode cX0_shares 86 = .ok (.goto 11, 3) := dk_167 0 11 (dk_at dksX0_shares_3 17 rfl rfl)
theorem dX0_shares_89 : decode cX0_shares 89 = .ok (.aload_n 0, 1) := dk_42 (dk_at dksX0_shares_3 20 rfl rfl)
theorem dX0_shares_90 : decode cX0_shares 90 = .ok (.getfield 114, 3) := dk_180 0 114 (dk_at dksX0_shares_3 21 rfl rfl)
theorem dX0_shares_93 : decode cX0_shares 93 = .ok (.iload_n 2, 1) := dk_28 (dk_at dksX0_shares_4 0 rfl rfl)
theorem dX0_shares_94 : decode cX0_shares 94 = .ok (.iconst 1, 1) := dk_4 (dk_at dksX0_shares_4 1 rfl rfl)
theorem dX0_shares_95 : decode cX0_shares 95 = .ok (.isub, 1) := dk_100 (dk_at dksX0_shares_4 2 rfl rfl)
theorem dX0_shares_96 : decode cX0_shares 96 = .ok (.iaload, 1) := dk_46 (dk_at dksX0_shares_4 3 rfl rfl)
theorem dX0_shares_97 : decode cX0_shares 97 = .ok (.ireturn, 1) := dk_172 (dk_at dksX0_shares_4 4 rfl rfl)
abbrev cX0_sharesFrom : ByteArray := prog_1_method_81_code
def yX0_sharesFrom : MethodName := ⟨RX0, "sharesFrom", "(II)V"⟩
def dkwX0_sharesFrom_5 : List UInt8 := [180, 0, 117, 27, 46, 100, 79, 132, 3, 1, 167, 255, 203, 177]
abbrev dktX0_sharesFrom_5 : List UInt8 := dkwX0_sharesFrom_5 ++ []
def dkwX0_sharesFrom_4 : List UInt8 := [180, 0, 117, 27, 46, 96, 79, 42, 27, 4, 96, 28, 182, 1, 178, 42, 180, 0, 108, 29, 92, 46, 42]
abbrev dktX0_sharesFrom_4 : List UInt8 := dkwX0_sharesFrom_4 ++ dktX0_sharesFrom_5
def dkwX0_sharesFrom_3 : List UInt8 := [3, 62, 29, 28, 162, 0, 54, 42, 180, 0, 111, 27, 29, 79, 42, 180, 0, 108, 29, 92, 46, 42]
abbrev dktX0_sharesFrom_3 : List UInt8 := dkwX0_sharesFrom_3 ++ dktX0_sharesFrom_4
def dkwX0_sharesFrom_2 : List UInt8 := [163, 0, 4, 177, 42, 29, 181, 1, 169, 42, 180, 0, 111, 3, 42, 180, 0, 114, 3, 27, 184, 1, 172, 177]
abbrev dktX0_sharesFrom_2 : List UInt8 := dkwX0_sharesFrom_2 ++ dktX0_sharesFrom_3
def dkwX0_sharesFrom_1 : List UInt8 := [29, 42, 180, 0, 108, 21, 4, 46, 184, 1, 150, 62, 132, 4, 1, 167, 255, 235, 29, 42, 180, 1, 169]
abbrev dktX0_sharesFrom_1 : List UInt8 := dkwX0_sharesFrom_1 ++ dktX0_sharesFrom_2
def dkwX0_sharesFrom_0 : List UInt8 := [27, 42, 180, 0, 39, 180, 0, 139, 160, 0, 63, 19, 1, 116, 62, 3, 54, 4, 21, 4, 28, 162, 0, 21]
abbrev dktX0_sharesFrom_0 : List UInt8 := dkwX0_sharesFrom_0 ++ dktX0_sharesFrom_1
theorem dksX0_sharesFrom_0 : cX0_sharesFrom.data.toList.drop 0 = dktX0_sharesFrom_0 := by decide +kernel
theorem dksX0_sharesFrom_1 : cX0_sharesFrom.data.toList.drop 24 = dktX0_sharesFrom_1 := dk_seg dksX0_sharesFrom_0 24 rfl rfl
theorem dksX0_sharesFrom_2 : cX0_sharesFrom.data.toList.drop 47 = dktX0_sharesFrom_2 := dk_seg dksX0_sharesFrom_1 23 rfl rfl
theorem dksX0_sharesFrom_3 : cX0_sharesFrom.data.toList.drop 71 = dktX0_sharesFrom_3 := dk_seg dksX0_sharesFrom_2 24 rfl rfl
theorem dksX0_sharesFrom_4 : cX0_sharesFrom.data.toList.drop 93 = dktX0_sharesFrom_4 := dk_seg dksX0_sharesFrom_3 22 rfl rfl
theorem dksX0_sharesFrom_5 : cX0_sharesFrom.data.toList.drop 116 = dktX0_sharesFrom_5 := dk_seg dksX0_sharesFrom_4 23 rfl rfl
theorem dX0_sharesFrom_0 : decode cX0_sharesFrom 0 = .ok (.iload_n 1, 1) := dk_27 (dk_at dksX0_sharesFrom_0 0 rfl rfl)
theorem dX0_sharesFrom_1 : decode cX0_sharesFrom 1 = .ok (.aload_n 0, 1) := dk_42 (dk_at dksX0_sharesFrom_0 1 rfl rfl)
theorem dX0_sharesFrom_2 : decode cX0_sharesFrom 2 = .ok (.getfield 39, 3) := dk_180 0 39 (dk_at dksX0_sharesFrom_0 2 rfl rfl)
theorem dX0_sharesFrom_5 : decode cX0_sharesFrom 5 = .ok (.getfield 139, 3) := dk_180 0 139 (dk_at dksX0_sharesFrom_0 5 rfl rfl)
theorem dX0_sharesFrom_8 : decode cX0_sharesFrom 8 = .ok (.if_icmp .ne 63, 3) := dk_160 0 63 (dk_at dksX0_sharesFrom_0 8 rfl rfl)
theorem dX0_sharesFrom_11 : decode cX0_sharesFrom 11 = .ok (.ldc_w 372, 3) := dk_19 1 116 (dk_at dksX0_sharesFrom_0 11 rfl rfl)
theorem dX0_sharesFrom_14 : decode cX0_sharesFrom 14 = .ok (.istore_n 3, 1) := dk_62 (dk_at dksX0_sharesFrom_0 14 rfl rfl)
theorem dX0_sharesFrom_15 : decode cX0_sharesFrom 15 = .ok (.iconst 0, 1) := dk_3 (dk_at dksX0_sharesFrom_0 15 rfl rfl)
theorem dX0_sharesFrom_16 : decode cX0_sharesFrom 16 = .ok (.istore 4, 2) := dk_54 4 (dk_at dksX0_sharesFrom_0 16 rfl rfl)
theorem dX0_sharesFrom_18 : decode cX0_sharesFrom 18 = .ok (.iload 4, 2) := dk_21 4 (dk_at dksX0_sharesFrom_0 18 rfl rfl)
theorem dX0_sharesFrom_20 : decode cX0_sharesFrom 20 = .ok (.iload_n 2, 1) := dk_28 (dk_at dksX0_sharesFrom_0 20 rfl rfl)
theorem dX0_sharesFrom_21 : decode cX0_sharesFrom 21 = .ok (.if_icmp .ge 21, 3) := dk_162 0 21 (dk_at dksX0_sharesFrom_0 21 rfl rfl)
theorem dX0_sharesFrom_24 : decode cX0_sharesFrom 24 = .ok (.iload_n 3, 1) := dk_29 (dk_at dksX0_sharesFrom_1 0 rfl rfl)
theorem dX0_sharesFrom_25 : decode cX0_sharesFrom 25 = .ok (.aload_n 0, 1) := dk_42 (dk_at dksX0_sharesFrom_1 1 rfl rfl)
theorem dX0_sharesFrom_26 : decode cX0_sharesFrom 26 = .ok (.getfield 108, 3) := dk_180 0 108 (dk_at dksX0_sharesFrom_1 2 rfl rfl)
theorem dX0_sharesFrom_29 : decode cX0_sharesFrom 29 = .ok (.iload 4, 2) := dk_21 4 (dk_at dksX0_sharesFrom_1 5 rfl rfl)
theorem dX0_sharesFrom_31 : decode cX0_sharesFrom 31 = .ok (.iaload, 1) := dk_46 (dk_at dksX0_sharesFrom_1 7 rfl rfl)
theorem dX0_sharesFrom_32 : decode cX0_sharesFrom 32 = .ok (.invokestatic 406, 3) := dk_184 1 150 (dk_at dksX0_sharesFrom_1 8 rfl rfl)
theorem dX0_sharesFrom_35 : decode cX0_sharesFrom 35 = .ok (.istore_n 3, 1) := dk_62 (dk_at dksX0_sharesFrom_1 11 rfl rfl)
theorem dX0_sharesFrom_36 : decode cX0_sharesFrom 36 = .ok (.iinc 4 1, 3) := dk_132 4 1 (dk_at dksX0_sharesFrom_1 12 rfl rfl)
theorem dX0_sharesFrom_39 : decode cX0_sharesFrom 39 = .ok (.goto (-21), 3) := dk_167 255 235 (dk_at dksX0_sharesFrom_1 15 rfl rfl)
theorem dX0_sharesFrom_42 : decode cX0_sharesFrom 42 = .ok (.iload_n 3, 1) := dk_29 (dk_at dksX0_sharesFrom_1 18 rfl rfl)
theorem dX0_sharesFrom_43 : decode cX0_sharesFrom 43 = .ok (.aload_n 0, 1) := dk_42 (dk_at dksX0_sharesFrom_1 19 rfl rfl)
theorem dX0_sharesFrom_44 : decode cX0_sharesFrom 44 = .ok (.getfield 425, 3) := dk_180 1 169 (dk_at dksX0_sharesFrom_1 20 rfl rfl)
theorem dX0_sharesFrom_47 : decode cX0_sharesFrom 47 = .ok (.if_icmp .gt 4, 3) := dk_163 0 4 (dk_at dksX0_sharesFrom_2 0 rfl rfl)
theorem dX0_sharesFrom_50 : decode cX0_sharesFrom 50 = .ok (.return_, 1) := dk_177 (dk_at dksX0_sharesFrom_2 3 rfl rfl)
theorem dX0_sharesFrom_51 : decode cX0_sharesFrom 51 = .ok (.aload_n 0, 1) := dk_42 (dk_at dksX0_sharesFrom_2 4 rfl rfl)
theorem dX0_sharesFrom_52 : decode cX0_sharesFrom 52 = .ok (.iload_n 3, 1) := dk_29 (dk_at dksX0_sharesFrom_2 5 rfl rfl)
theorem dX0_sharesFrom_53 : decode cX0_sharesFrom 53 = .ok (.putfield 425, 3) := dk_181 1 169 (dk_at dksX0_sharesFrom_2 6 rfl rfl)
theorem dX0_sharesFrom_56 : decode cX0_sharesFrom 56 = .ok (.aload_n 0, 1) := dk_42 (dk_at dksX0_sharesFrom_2 9 rfl rfl)
theorem dX0_sharesFrom_57 : decode cX0_sharesFrom 57 = .ok (.getfield 111, 3) := dk_180 0 111 (dk_at dksX0_sharesFrom_2 10 rfl rfl)
theorem dX0_sharesFrom_60 : decode cX0_sharesFrom 60 = .ok (.iconst 0, 1) := dk_3 (dk_at dksX0_sharesFrom_2 13 rfl rfl)
theorem dX0_sharesFrom_61 : decode cX0_sharesFrom 61 = .ok (.aload_n 0, 1) := dk_42 (dk_at dksX0_sharesFrom_2 14 rfl rfl)
theorem dX0_sharesFrom_62 : decode cX0_sharesFrom 62 = .ok (.getfield 114, 3) := dk_180 0 114 (dk_at dksX0_sharesFrom_2 15 rfl rfl)
theorem dX0_sharesFrom_65 : decode cX0_sharesFrom 65 = .ok (.iconst 0, 1) := dk_3 (dk_at dksX0_sharesFrom_2 18 rfl rfl)
theorem dX0_sharesFrom_66 : decode cX0_sharesFrom 66 = .ok (.iload_n 1, 1) := dk_27 (dk_at dksX0_sharesFrom_2 19 rfl rfl)
theorem dX0_sharesFrom_67 : decode cX0_sharesFrom 67 = .ok (.invokestatic 428, 3) := dk_184 1 172 (dk_at dksX0_sharesFrom_2 20 rfl rfl)
theorem dX0_sharesFrom_70 : decode cX0_sharesFrom 70 = .ok (.return_, 1) := dk_177 (dk_at dksX0_sharesFrom_2 23 rfl rfl)
theorem dX0_sharesFrom_71 : decode cX0_sharesFrom 71 = .ok (.iconst 0, 1) := dk_3 (dk_at dksX0_sharesFrom_3 0 rfl rfl)
theorem dX0_sharesFrom_72 : decode cX0_sharesFrom 72 = .ok (.istore_n 3, 1) := dk_62 (dk_at dksX0_sharesFrom_3 1 rfl rfl)
theorem dX0_sharesFrom_73 : decode cX0_sharesFrom 73 = .ok (.iload_n 3, 1) := dk_29 (dk_at dksX0_sharesFrom_3 2 rfl rfl)
theorem dX0_sharesFrom_74 : decode cX0_sharesFrom 74 = .ok (.iload_n 2, 1) := dk_28 (dk_at dksX0_sharesFrom_3 3 rfl rfl)
theorem dX0_sharesFrom_75 : decode cX0_sharesFrom 75 = .ok (.if_icmp .ge 54, 3) := dk_162 0 54 (dk_at dksX0_sharesFrom_3 4 rfl rfl)
theorem dX0_sharesFrom_78 : decode cX0_sharesFrom 78 = .ok (.aload_n 0, 1) := dk_42 (dk_at dksX0_sharesFrom_3 7 rfl rfl)
theorem dX0_sharesFrom_79 : decode cX0_sharesFrom 79 = .ok (.getfield 111, 3) := dk_180 0 111 (dk_at dksX0_sharesFrom_3 8 rfl rfl)
theorem dX0_sharesFrom_82 : decode cX0_sharesFrom 82 = .ok (.iload_n 1, 1) := dk_27 (dk_at dksX0_sharesFrom_3 11 rfl rfl)
theorem dX0_sharesFrom_83 : decode cX0_sharesFrom 83 = .ok (.iload_n 3, 1) := dk_29 (dk_at dksX0_sharesFrom_3 12 rfl rfl)
theorem dX0_sharesFrom_84 : decode cX0_sharesFrom 84 = .ok (.iastore, 1) := dk_79 (dk_at dksX0_sharesFrom_3 13 rfl rfl)
theorem dX0_sharesFrom_85 : decode cX0_sharesFrom 85 = .ok (.aload_n 0, 1) := dk_42 (dk_at dksX0_sharesFrom_3 14 rfl rfl)
theorem dX0_sharesFrom_86 : decode cX0_sharesFrom 86 = .ok (.getfield 108, 3) := dk_180 0 108 (dk_at dksX0_sharesFrom_3 15 rfl rfl)
theorem dX0_sharesFrom_89 : decode cX0_sharesFrom 89 = .ok (.iload_n 3, 1) := dk_29 (dk_at dksX0_sharesFrom_3 18 rfl rfl)
theorem dX0_sharesFrom_90 : decode cX0_sharesFrom 90 = .ok (.dup2, 1) := dk_92 (dk_at dksX0_sharesFrom_3 19 rfl rfl)
theorem dX0_sharesFrom_91 : decode cX0_sharesFrom 91 = .ok (.iaload, 1) := dk_46 (dk_at dksX0_sharesFrom_3 20 rfl rfl)
theorem dX0_sharesFrom_92 : decode cX0_sharesFrom 92 = .ok (.aload_n 0, 1) := dk_42 (dk_at dksX0_sharesFrom_3 21 rfl rfl)
theorem dX0_sharesFrom_93 : decode cX0_sharesFrom 93 = .ok (.getfield 117, 3) := dk_180 0 117 (dk_at dksX0_sharesFrom_4 0 rfl rfl)
theorem dX0_sharesFrom_96 : decode cX0_sharesFrom 96 = .ok (.iload_n 1, 1) := dk_27 (dk_at dksX0_sharesFrom_4 3 rfl rfl)
theorem dX0_sharesFrom_97 : decode cX0_sharesFrom 97 = .ok (.iaload, 1) := dk_46 (dk_at dksX0_sharesFrom_4 4 rfl rfl)
theorem dX0_sharesFrom_98 : decode cX0_sharesFrom 98 = .ok (.iadd, 1) := dk_96 (dk_at dksX0_sharesFrom_4 5 rfl rfl)
theorem dX0_sharesFrom_99 : decode cX0_sharesFrom 99 = .ok (.iastore, 1) := dk_79 (dk_at dksX0_sharesFrom_4 6 rfl rfl)
theorem dX0_sharesFrom_100 : decode cX0_sharesFrom 100 = .ok (.aload_n 0, 1) := dk_42 (dk_at dksX0_sharesFrom_4 7 rfl rfl)
theorem dX0_sharesFrom_101 : decode cX0_sharesFrom 101 = .ok (.iload_n 1, 1) := dk_27 (dk_at dksX0_sharesFrom_4 8 rfl rfl)
theorem dX0_sharesFrom_102 : decode cX0_sharesFrom 102 = .ok (.iconst 1, 1) := dk_4 (dk_at dksX0_sharesFrom_4 9 rfl rfl)
theorem dX0_sharesFrom_103 : decode cX0_sharesFrom 103 = .ok (.iadd, 1) := dk_96 (dk_at dksX0_sharesFrom_4 10 rfl rfl)
theorem dX0_sharesFrom_104 : decode cX0_sharesFrom 104 = .ok (.iload_n 2, 1) := dk_28 (dk_at dksX0_sharesFrom_4 11 rfl rfl)
theorem dX0_sharesFrom_105 : decode cX0_sharesFrom 105 = .ok (.invokevirtual 434, 3) := dk_182 1 178 (dk_at dksX0_sharesFrom_4 12 rfl rfl)
theorem dX0_sharesFrom_108 : decode cX0_sharesFrom 108 = .ok (.aload_n 0, 1) := dk_42 (dk_at dksX0_sharesFrom_4 15 rfl rfl)
theorem dX0_sharesFrom_109 : decode cX0_sharesFrom 109 = .ok (.getfield 108, 3) := dk_180 0 108 (dk_at dksX0_sharesFrom_4 16 rfl rfl)
theorem dX0_sharesFrom_112 : decode cX0_sharesFrom 112 = .ok (.iload_n 3, 1) := dk_29 (dk_at dksX0_sharesFrom_4 19 rfl rfl)
theorem dX0_sharesFrom_113 : decode cX0_sharesFrom 113 = .ok (.dup2, 1) := dk_92 (dk_at dksX0_sharesFrom_4 20 rfl rfl)
theorem dX0_sharesFrom_114 : decode cX0_sharesFrom 114 = .ok (.iaload, 1) := dk_46 (dk_at dksX0_sharesFrom_4 21 rfl rfl)
theorem dX0_sharesFrom_115 : decode cX0_sharesFrom 115 = .ok (.aload_n 0, 1) := dk_42 (dk_at dksX0_sharesFrom_4 22 rfl rfl)
theorem dX0_sharesFrom_116 : decode cX0_sharesFrom 116 = .ok (.getfield 117, 3) := dk_180 0 117 (dk_at dksX0_sharesFrom_5 0 rfl rfl)
theorem dX0_sharesFrom_119 : decode cX0_sharesFrom 119 = .ok (.iload_n 1, 1) := dk_27 (dk_at dksX0_sharesFrom_5 3 rfl rfl)
theorem dX0_sharesFrom_120 : decode cX0_sharesFrom 120 = .ok (.iaload, 1) := dk_46 (dk_at dksX0_sharesFrom_5 4 rfl rfl)
theorem dX0_sharesFrom_121 : decode cX0_sharesFrom 121 = .ok (.isub, 1) := dk_100 (dk_at dksX0_sharesFrom_5 5 rfl rfl)
theorem dX0_sharesFrom_122 : decode cX0_sharesFrom 122 = .ok (.iastore, 1) := dk_79 (dk_at dksX0_sharesFrom_5 6 rfl rfl)
theorem dX0_sharesFrom_123 : decode cX0_sharesFrom 123 = .ok (.iinc 3 1, 3) := dk_132 3 1 (dk_at dksX0_sharesFrom_5 7 rfl rfl)
theorem dX0_sharesFrom_126 : decode cX0_sharesFrom 126 = .ok (.goto (-53), 3) := dk_167 255 203 (dk_at dksX0_sharesFrom_5 10 rfl rfl)
theorem dX0_sharesFrom_129 : decode cX0_sharesFrom 129 = .ok (.return_, 1) := dk_177 (dk_at dksX0_sharesFrom_5 13 rfl rfl)
abbrev cX0_again : ByteArray := prog_1_method_83_code
def yX0_again : MethodName := ⟨RX0, "again", "(II)I"⟩
def dkwX0_again_4 : List UInt8 := [28, 2, 160, 0, 7, 29, 167, 0, 4, 2, 172]
abbrev dktX0_again_4 : List UInt8 := dkwX0_again_4 ++ []
def dkwX0_again_3 : List UInt8 := [16, 10, 21, 4, 104, 21, 5, 96, 172, 132, 3, 1, 132, 5, 1, 167, 255, 203, 132, 4, 1, 167, 255, 184]
abbrev dktX0_again_3 : List UInt8 := dkwX0_again_3 ++ dktX0_again_4
def dkwX0_again_2 : List UInt8 := [182, 1, 34, 42, 182, 0, 155, 27, 21, 5, 182, 1, 34, 159, 0, 6, 167, 0, 20, 29, 28, 160, 0, 12]
abbrev dktX0_again_2 : List UInt8 := dkwX0_again_2 ++ dktX0_again_3
def dkwX0_again_1 : List UInt8 := [162, 0, 71, 21, 4, 4, 96, 54, 5, 21, 5, 16, 8, 162, 0, 52, 42, 182, 0, 155, 27, 21, 4]
abbrev dktX0_again_1 : List UInt8 := dkwX0_again_1 ++ dktX0_again_2
def dkwX0_again_0 : List UInt8 := [42, 27, 182, 0, 173, 153, 0, 8, 28, 2, 162, 0, 5, 2, 172, 3, 62, 3, 54, 4, 21, 4, 16, 8]
abbrev dktX0_again_0 : List UInt8 := dkwX0_again_0 ++ dktX0_again_1
theorem dksX0_again_0 : cX0_again.data.toList.drop 0 = dktX0_again_0 := by decide +kernel
theorem dksX0_again_1 : cX0_again.data.toList.drop 24 = dktX0_again_1 := dk_seg dksX0_again_0 24 rfl rfl
theorem dksX0_again_2 : cX0_again.data.toList.drop 47 = dktX0_again_2 := dk_seg dksX0_again_1 23 rfl rfl
theorem dksX0_again_3 : cX0_again.data.toList.drop 71 = dktX0_again_3 := dk_seg dksX0_again_2 24 rfl rfl
theorem dksX0_again_4 : cX0_again.data.toList.drop 95 = dktX0_again_4 := dk_seg dksX0_again_3 24 rfl rfl
theorem dX0_again_0 : decode cX0_again 0 = .ok (.aload_n 0, 1) := dk_42 (dk_at dksX0_again_0 0 rfl rfl)
theorem dX0_again_1 : decode cX0_again 1 = .ok (.iload_n 1, 1) := dk_27 (dk_at dksX0_again_0 1 rfl rfl)
theorem dX0_again_2 : decode cX0_again 2 = .ok (.invokevirtual 173, 3) := dk_182 0 173 (dk_at dksX0_again_0 2 rfl rfl)
theorem dX0_again_5 : decode cX0_again 5 = .ok (.ifCond .eq 8, 3) := dk_153 0 8 (dk_at dksX0_again_0 5 rfl rfl)
theorem dX0_again_8 : decode cX0_again 8 = .ok (.iload_n 2, 1) := dk_28 (dk_at dksX0_again_0 8 rfl rfl)
theorem dX0_again_9 : decode cX0_again 9 = .ok (.iconst (-1), 1) := dk_2 (dk_at dksX0_again_0 9 rfl rfl)
theorem dX0_again_10 : decode cX0_again 10 = .ok (.if_icmp .ge 5, 3) := dk_162 0 5 (dk_at dksX0_again_0 10 rfl rfl)
theorem dX0_again_13 : decode cX0_again 13 = .ok (.iconst (-1), 1) := dk_2 (dk_at dksX0_again_0 13 rfl rfl)
theorem dX0_again_14 : decode cX0_again 14 = .ok (.ireturn, 1) := dk_172 (dk_at dksX0_again_0 14 rfl rfl)
theorem dX0_again_15 : decode cX0_again 15 = .ok (.iconst 0, 1) := dk_3 (dk_at dksX0_again_0 15 rfl rfl)
theorem dX0_again_16 : decode cX0_again 16 = .ok (.istore_n 3, 1) := dk_62 (dk_at dksX0_again_0 16 rfl rfl)
theorem dX0_again_17 : decode cX0_again 17 = .ok (.iconst 0, 1) := dk_3 (dk_at dksX0_again_0 17 rfl rfl)
theorem dX0_again_18 : decode cX0_again 18 = .ok (.istore 4, 2) := dk_54 4 (dk_at dksX0_again_0 18 rfl rfl)
theorem dX0_again_20 : decode cX0_again 20 = .ok (.iload 4, 2) := dk_21 4 (dk_at dksX0_again_0 20 rfl rfl)
theorem dX0_again_22 : decode cX0_again 22 = .ok (.bipush 8, 2) := dk_16 8 (dk_at dksX0_again_0 22 rfl rfl)
theorem dX0_again_24 : decode cX0_again 24 = .ok (.if_icmp .ge 71, 3) := dk_162 0 71 (dk_at dksX0_again_1 0 rfl rfl)
theorem dX0_again_27 : decode cX0_again 27 = .ok (.iload 4, 2) := dk_21 4 (dk_at dksX0_again_1 3 rfl rfl)
theorem dX0_again_29 : decode cX0_again 29 = .ok (.iconst 1, 1) := dk_4 (dk_at dksX0_again_1 5 rfl rfl)
theorem dX0_again_30 : decode cX0_again 30 = .ok (.iadd, 1) := dk_96 (dk_at dksX0_again_1 6 rfl rfl)
theorem dX0_again_31 : decode cX0_again 31 = .ok (.istore 5, 2) := dk_54 5 (dk_at dksX0_again_1 7 rfl rfl)
theorem dX0_again_33 : decode cX0_again 33 = .ok (.iload 5, 2) := dk_21 5 (dk_at dksX0_again_1 9 rfl rfl)
theorem dX0_again_35 : decode cX0_again 35 = .ok (.bipush 8, 2) := dk_16 8 (dk_at dksX0_again_1 11 rfl rfl)
theorem dX0_again_37 : decode cX0_again 37 = .ok (.if_icmp .ge 52, 3) := dk_162 0 52 (dk_at dksX0_again_1 13 rfl rfl)
theorem dX0_again_40 : decode cX0_again 40 = .ok (.aload_n 0, 1) := dk_42 (dk_at dksX0_again_1 16 rfl rfl)
theorem dX0_again_41 : decode cX0_again 41 = .ok (.invokevirtual 155, 3) := dk_182 0 155 (dk_at dksX0_again_1 17 rfl rfl)
theorem dX0_again_44 : decode cX0_again 44 = .ok (.iload_n 1, 1) := dk_27 (dk_at dksX0_again_1 20 rfl rfl)
theorem dX0_again_45 : decode cX0_again 45 = .ok (.iload 4, 2) := dk_21 4 (dk_at dksX0_again_1 21 rfl rfl)
theorem dX0_again_47 : decode cX0_again 47 = .ok (.invokevirtual 290, 3) := dk_182 1 34 (dk_at dksX0_again_2 0 rfl rfl)
theorem dX0_again_50 : decode cX0_again 50 = .ok (.aload_n 0, 1) := dk_42 (dk_at dksX0_again_2 3 rfl rfl)
theorem dX0_again_51 : decode cX0_again 51 = .ok (.invokevirtual 155, 3) := dk_182 0 155 (dk_at dksX0_again_2 4 rfl rfl)
theorem dX0_again_54 : decode cX0_again 54 = .ok (.iload_n 1, 1) := dk_27 (dk_at dksX0_again_2 7 rfl rfl)
theorem dX0_again_55 : decode cX0_again 55 = .ok (.iload 5, 2) := dk_21 5 (dk_at dksX0_again_2 8 rfl rfl)
theorem dX0_again_57 : decode cX0_again 57 = .ok (.invokevirtual 290, 3) := dk_182 1 34 (dk_at dksX0_again_2 10 rfl rfl)
theorem dX0_again_60 : decode cX0_again 60 = .ok (.if_icmp .eq 6, 3) := dk_159 0 6 (dk_at dksX0_again_2 13 rfl rfl)
theorem dX0_again_63 : decode cX0_again 63 = .ok (.goto 20, 3) := dk_167 0 20 (dk_at dksX0_again_2 16 rfl rfl)
theorem dX0_again_66 : decode cX0_again 66 = .ok (.iload_n 3, 1) := dk_29 (dk_at dksX0_again_2 19 rfl rfl)
theorem dX0_again_67 : decode cX0_again 67 = .ok (.iload_n 2, 1) := dk_28 (dk_at dksX0_again_2 20 rfl rfl)
theorem dX0_again_68 : decode cX0_again 68 = .ok (.if_icmp .ne 12, 3) := dk_160 0 12 (dk_at dksX0_again_2 21 rfl rfl)
theorem dX0_again_71 : decode cX0_again 71 = .ok (.bipush 10, 2) := dk_16 10 (dk_at dksX0_again_3 0 rfl rfl)
theorem dX0_again_73 : decode cX0_again 73 = .ok (.iload 4, 2) := dk_21 4 (dk_at dksX0_again_3 2 rfl rfl)
theorem dX0_again_75 : decode cX0_again 75 = .ok (.imul, 1) := dk_104 (dk_at dksX0_again_3 4 rfl rfl)
theorem dX0_again_76 : decode cX0_again 76 = .ok (.iload 5, 2) := dk_21 5 (dk_at dksX0_again_3 5 rfl rfl)
theorem dX0_again_78 : decode cX0_again 78 = .ok (.iadd, 1) := dk_96 (dk_at dksX0_again_3 7 rfl rfl)
theorem dX0_again_79 : decode cX0_again 79 = .ok (.ireturn, 1) := dk_172 (dk_at dksX0_again_3 8 rfl rfl)
theorem dX0_again_80 : decode cX0_again 80 = .ok (.iinc 3 1, 3) := dk_132 3 1 (dk_at dksX0_again_3 9 rfl rfl)
theorem dX0_again_83 : decode cX0_again 83 = .ok (.iinc 5 1, 3) := dk_132 5 1 (dk_at dksX0_again_3 12 rfl rfl)
theorem dX0_again_86 : decode cX0_again 86 = .ok (.goto (-53), 3) := dk_167 255 203 (dk_at dksX0_again_3 15 rfl rfl)
theorem dX0_again_89 : decode cX0_again 89 = .ok (.iinc 4 1, 3) := dk_132 4 1 (dk_at dksX0_again_3 18 rfl rfl)
theorem dX0_again_92 : decode cX0_again 92 = .ok (.goto (-72), 3) := dk_167 255 184 (dk_at dksX0_again_3 21 rfl rfl)
theorem dX0_again_95 : decode cX0_again 95 = .ok (.iload_n 2, 1) := dk_28 (dk_at dksX0_again_4 0 rfl rfl)
theorem dX0_again_96 : decode cX0_again 96 = .ok (.iconst (-1), 1) := dk_2 (dk_at dksX0_again_4 1 rfl rfl)
theorem dX0_again_97 : decode cX0_again 97 = .ok (.if_icmp .ne 7, 3) := dk_160 0 7 (dk_at dksX0_again_4 2 rfl rfl)
theorem dX0_again_100 : decode cX0_again 100 = .ok (.iload_n 3, 1) := dk_29 (dk_at dksX0_again_4 5 rfl rfl)
theorem dX0_again_101 : decode cX0_again 101 = .ok (.goto 4, 3) := dk_167 0 4 (dk_at dksX0_again_4 6 rfl rfl)
theorem dX0_again_104 : decode cX0_again 104 = .ok (.iconst (-1), 1) := dk_2 (dk_at dksX0_again_4 9 rfl rfl)
theorem dX0_again_105 : decode cX0_again 105 = .ok (.ireturn, 1) := dk_172 (dk_at dksX0_again_4 10 rfl rfl)
abbrev cX0_ends : ByteArray := prog_1_method_84_code
def yX0_ends : MethodName := ⟨RX0, "ends", "(I)I"⟩
def dkwX0_ends_2 : List UInt8 := [128, 61, 132, 3, 1, 167, 255, 219, 28, 172]
abbrev dktX0_ends_2 : List UInt8 := dkwX0_ends_2 ++ []
def dkwX0_ends_1 : List UInt8 := [162, 0, 32, 28, 42, 182, 0, 155, 180, 0, 170, 29, 46, 27, 164, 0, 9, 4, 29, 120, 167, 0, 4, 3]
abbrev dktX0_ends_1 : List UInt8 := dkwX0_ends_1 ++ dktX0_ends_2
def dkwX0_ends_0 : List UInt8 := [27, 3, 16, 60, 184, 0, 26, 154, 0, 5, 2, 172, 3, 61, 3, 62, 29, 42, 180, 0, 39, 180, 0, 139]
abbrev dktX0_ends_0 : List UInt8 := dkwX0_ends_0 ++ dktX0_ends_1
theorem dksX0_ends_0 : cX0_ends.data.toList.drop 0 = dktX0_ends_0 := by decide +kernel
theorem dksX0_ends_1 : cX0_ends.data.toList.drop 24 = dktX0_ends_1 := dk_seg dksX0_ends_0 24 rfl rfl
theorem dksX0_ends_2 : cX0_ends.data.toList.drop 48 = dktX0_ends_2 := dk_seg dksX0_ends_1 24 rfl rfl
theorem dX0_ends_0 : decode cX0_ends 0 = .ok (.iload_n 1, 1) := dk_27 (dk_at dksX0_ends_0 0 rfl rfl)
theorem dX0_ends_1 : decode cX0_ends 1 = .ok (.iconst 0, 1) := dk_3 (dk_at dksX0_ends_0 1 rfl rfl)
theorem dX0_ends_2 : decode cX0_ends 2 = .ok (.bipush 60, 2) := dk_16 60 (dk_at dksX0_ends_0 2 rfl rfl)
theorem dX0_ends_4 : decode cX0_ends 4 = .ok (.invokestatic 26, 3) := dk_184 0 26 (dk_at dksX0_ends_0 4 rfl rfl)
theorem dX0_ends_7 : decode cX0_ends 7 = .ok (.ifCond .ne 5, 3) := dk_154 0 5 (dk_at dksX0_ends_0 7 rfl rfl)
theorem dX0_ends_10 : decode cX0_ends 10 = .ok (.iconst (-1), 1) := dk_2 (dk_at dksX0_ends_0 10 rfl rfl)
theorem dX0_ends_11 : decode cX0_ends 11 = .ok (.ireturn, 1) := dk_172 (dk_at dksX0_ends_0 11 rfl rfl)
theorem dX0_ends_12 : decode cX0_ends 12 = .ok (.iconst 0, 1) := dk_3 (dk_at dksX0_ends_0 12 rfl rfl)
theorem dX0_ends_13 : decode cX0_ends 13 = .ok (.istore_n 2, 1) := dk_61 (dk_at dksX0_ends_0 13 rfl rfl)
theorem dX0_ends_14 : decode cX0_ends 14 = .ok (.iconst 0, 1) := dk_3 (dk_at dksX0_ends_0 14 rfl rfl)
theorem dX0_ends_15 : decode cX0_ends 15 = .ok (.istore_n 3, 1) := dk_62 (dk_at dksX0_ends_0 15 rfl rfl)
theorem dX0_ends_16 : decode cX0_ends 16 = .ok (.iload_n 3, 1) := dk_29 (dk_at dksX0_ends_0 16 rfl rfl)
theorem dX0_ends_17 : decode cX0_ends 17 = .ok (.aload_n 0, 1) := dk_42 (dk_at dksX0_ends_0 17 rfl rfl)
theorem dX0_ends_18 : decode cX0_ends 18 = .ok (.getfield 39, 3) := dk_180 0 39 (dk_at dksX0_ends_0 18 rfl rfl)
theorem dX0_ends_21 : decode cX0_ends 21 = .ok (.getfield 139, 3) := dk_180 0 139 (dk_at dksX0_ends_0 21 rfl rfl)
theorem dX0_ends_24 : decode cX0_ends 24 = .ok (.if_icmp .ge 32, 3) := dk_162 0 32 (dk_at dksX0_ends_1 0 rfl rfl)
theorem dX0_ends_27 : decode cX0_ends 27 = .ok (.iload_n 2, 1) := dk_28 (dk_at dksX0_ends_1 3 rfl rfl)
theorem dX0_ends_28 : decode cX0_ends 28 = .ok (.aload_n 0, 1) := dk_42 (dk_at dksX0_ends_1 4 rfl rfl)
theorem dX0_ends_29 : decode cX0_ends 29 = .ok (.invokevirtual 155, 3) := dk_182 0 155 (dk_at dksX0_ends_1 5 rfl rfl)
theorem dX0_ends_32 : decode cX0_ends 32 = .ok (.getfield 170, 3) := dk_180 0 170 (dk_at dksX0_ends_1 8 rfl rfl)
theorem dX0_ends_35 : decode cX0_ends 35 = .ok (.iload_n 3, 1) := dk_29 (dk_at dksX0_ends_1 11 rfl rfl)
theorem dX0_ends_36 : decode cX0_ends 36 = .ok (.iaload, 1) := dk_46 (dk_at dksX0_ends_1 12 rfl rfl)
theorem dX0_ends_37 : decode cX0_ends 37 = .ok (.iload_n 1, 1) := dk_27 (dk_at dksX0_ends_1 13 rfl rfl)
theorem dX0_ends_38 : decode cX0_ends 38 = .ok (.if_icmp .le 9, 3) := dk_164 0 9 (dk_at dksX0_ends_1 14 rfl rfl)
theorem dX0_ends_41 : decode cX0_ends 41 = .ok (.iconst 1, 1) := dk_4 (dk_at dksX0_ends_1 17 rfl rfl)
theorem dX0_ends_42 : decode cX0_ends 42 = .ok (.iload_n 3, 1) := dk_29 (dk_at dksX0_ends_1 18 rfl rfl)
theorem dX0_ends_43 : decode cX0_ends 43 = .ok (.ishl, 1) := dk_120 (dk_at dksX0_ends_1 19 rfl rfl)
theorem dX0_ends_44 : decode cX0_ends 44 = .ok (.goto 4, 3) := dk_167 0 4 (dk_at dksX0_ends_1 20 rfl rfl)
theorem dX0_ends_47 : decode cX0_ends 47 = .ok (.iconst 0, 1) := dk_3 (dk_at dksX0_ends_1 23 rfl rfl)
theorem dX0_ends_48 : decode cX0_ends 48 = .ok (.ior, 1) := dk_128 (dk_at dksX0_ends_2 0 rfl rfl)
theorem dX0_ends_49 : decode cX0_ends 49 = .ok (.istore_n 2, 1) := dk_61 (dk_at dksX0_ends_2 1 rfl rfl)
theorem dX0_ends_50 : decode cX0_ends 50 = .ok (.iinc 3 1, 3) := dk_132 3 1 (dk_at dksX0_ends_2 2 rfl rfl)
theorem dX0_ends_53 : decode cX0_ends 53 = .ok (.goto (-37), 3) := dk_167 255 219 (dk_at dksX0_ends_2 5 rfl rfl)
theorem dX0_ends_56 : decode cX0_ends 56 = .ok (.iload_n 2, 1) := dk_28 (dk_at dksX0_ends_2 8 rfl rfl)
theorem dX0_ends_57 : decode cX0_ends 57 = .ok (.ireturn, 1) := dk_172 (dk_at dksX0_ends_2 9 rfl rfl)
abbrev cX0_stands : ByteArray := prog_1_method_85_code
def yX0_stands : MethodName := ⟨RX0, "stands", "(II)J"⟩
def dkwX0_stands_7 : List UInt8 := [33, 42, 180, 0, 120, 21, 5, 47, 97, 66, 132, 5, 1, 167, 255, 236, 33, 173]
abbrev dktX0_stands_7 : List UInt8 := dkwX0_stands_7 ++ []
def dkwX0_stands_6 : List UInt8 := [132, 4, 1, 167, 255, 184, 132, 3, 1, 167, 255, 170, 9, 66, 4, 54, 5, 21, 5, 16, 20, 163, 0, 19]
abbrev dktX0_stands_6 : List UInt8 := dkwX0_stands_6 ++ dktX0_stands_7
def dkwX0_stands_5 : List UInt8 := [180, 0, 120, 21, 4, 47, 16, 10, 42, 180, 0, 39, 180, 0, 230, 100, 133, 105, 20, 1, 183, 109, 80]
abbrev dktX0_stands_5 : List UInt8 := dkwX0_stands_5 ++ dktX0_stands_6
def dkwX0_stands_4 : List UInt8 := [42, 180, 0, 39, 180, 0, 230, 133, 105, 20, 1, 183, 109, 97, 80, 42, 180, 0, 120, 21, 4, 42]
abbrev dktX0_stands_4 : List UInt8 := dkwX0_stands_4 ++ dktX0_stands_5
def dkwX0_stands_3 : List UInt8 := [21, 4, 16, 20, 163, 0, 71, 42, 180, 0, 120, 21, 4, 4, 100, 92, 47, 42, 180, 0, 120, 21, 4, 47]
abbrev dktX0_stands_3 : List UInt8 := dkwX0_stands_3 ++ dktX0_stands_4
def dkwX0_stands_2 : List UInt8 := [20, 1, 181, 167, 0, 4, 9, 80, 132, 3, 1, 167, 255, 221, 3, 62, 29, 28, 162, 0, 87, 4, 54, 4]
abbrev dktX0_stands_2 : List UInt8 := dkwX0_stands_2 ++ dktX0_stands_3
def dkwX0_stands_1 : List UInt8 := [29, 16, 20, 163, 0, 35, 42, 180, 0, 120, 29, 29, 42, 182, 0, 155, 180, 0, 164, 27, 46, 160, 0, 9]
abbrev dktX0_stands_1 : List UInt8 := dkwX0_stands_1 ++ dktX0_stands_2
def dkwX0_stands_0 : List UInt8 := [42, 27, 182, 0, 173, 153, 0, 13, 28, 3, 16, 60, 184, 0, 26, 154, 0, 7, 20, 1, 49, 173, 3, 62]
abbrev dktX0_stands_0 : List UInt8 := dkwX0_stands_0 ++ dktX0_stands_1
theorem dksX0_stands_0 : cX0_stands.data.toList.drop 0 = dktX0_stands_0 := by decide +kernel
theorem dksX0_stands_1 : cX0_stands.data.toList.drop 24 = dktX0_stands_1 := dk_seg dksX0_stands_0 24 rfl rfl
theorem dksX0_stands_2 : cX0_stands.data.toList.drop 48 = dktX0_stands_2 := dk_seg dksX0_stands_1 24 rfl rfl
theorem dksX0_stands_3 : cX0_stands.data.toList.drop 72 = dktX0_stands_3 := dk_seg dksX0_stands_2 24 rfl rfl
theorem dksX0_stands_4 : cX0_stands.data.toList.drop 96 = dktX0_stands_4 := dk_seg dksX0_stands_3 24 rfl rfl
theorem dksX0_stands_5 : cX0_stands.data.toList.drop 118 = dktX0_stands_5 := dk_seg dksX0_stands_4 22 rfl rfl
theorem dksX0_stands_6 : cX0_stands.data.toList.drop 141 = dktX0_stands_6 := dk_seg dksX0_stands_5 23 rfl rfl
theorem dksX0_stands_7 : cX0_stands.data.toList.drop 165 = dktX0_stands_7 := dk_seg dksX0_stands_6 24 rfl rfl
theorem dX0_stands_0 : decode cX0_stands 0 = .ok (.aload_n 0, 1) := dk_42 (dk_at dksX0_stands_0 0 rfl rfl)
theorem dX0_stands_1 : decode cX0_stands 1 = .ok (.iload_n 1, 1) := dk_27 (dk_at dksX0_stands_0 1 rfl rfl)
theorem dX0_stands_2 : decode cX0_stands 2 = .ok (.invokevirtual 173, 3) := dk_182 0 173 (dk_at dksX0_stands_0 2 rfl rfl)
theorem dX0_stands_5 : decode cX0_stands 5 = .ok (.ifCond .eq 13, 3) := dk_153 0 13 (dk_at dksX0_stands_0 5 rfl rfl)
theorem dX0_stands_8 : decode cX0_stands 8 = .ok (.iload_n 2, 1) := dk_28 (dk_at dksX0_stands_0 8 rfl rfl)
theorem dX0_stands_9 : decode cX0_stands 9 = .ok (.iconst 0, 1) := dk_3 (dk_at dksX0_stands_0 9 rfl rfl)
theorem dX0_stands_10 : decode cX0_stands 10 = .ok (.bipush 60, 2) := dk_16 60 (dk_at dksX0_stands_0 10 rfl rfl)
theorem dX0_stands_12 : decode cX0_stands 12 = .ok (.invokestatic 26, 3) := dk_184 0 26 (dk_at dksX0_stands_0 12 rfl rfl)
theorem dX0_stands_15 : decode cX0_stands 15 = .ok (.ifCond .ne 7, 3) := dk_154 0 7 (dk_at dksX0_stands_0 15 rfl rfl)
theorem dX0_stands_18 : decode cX0_stands 18 = .ok (.ldc2_w 305, 3) := dk_20 1 49 (dk_at dksX0_stands_0 18 rfl rfl)
theorem dX0_stands_21 : decode cX0_stands 21 = .ok (.lreturn, 1) := dk_173 (dk_at dksX0_stands_0 21 rfl rfl)
theorem dX0_stands_22 : decode cX0_stands 22 = .ok (.iconst 0, 1) := dk_3 (dk_at dksX0_stands_0 22 rfl rfl)
theorem dX0_stands_23 : decode cX0_stands 23 = .ok (.istore_n 3, 1) := dk_62 (dk_at dksX0_stands_0 23 rfl rfl)
theorem dX0_stands_24 : decode cX0_stands 24 = .ok (.iload_n 3, 1) := dk_29 (dk_at dksX0_stands_1 0 rfl rfl)
theorem dX0_stands_25 : decode cX0_stands 25 = .ok (.bipush 20, 2) := dk_16 20 (dk_at dksX0_stands_1 1 rfl rfl)
theorem dX0_stands_27 : decode cX0_stands 27 = .ok (.if_icmp .gt 35, 3) := dk_163 0 35 (dk_at dksX0_stands_1 3 rfl rfl)
theorem dX0_stands_30 : decode cX0_stands 30 = .ok (.aload_n 0, 1) := dk_42 (dk_at dksX0_stands_1 6 rfl rfl)
theorem dX0_stands_31 : decode cX0_stands 31 = .ok (.getfield 120, 3) := dk_180 0 120 (dk_at dksX0_stands_1 7 rfl rfl)
theorem dX0_stands_34 : decode cX0_stands 34 = .ok (.iload_n 3, 1) := dk_29 (dk_at dksX0_stands_1 10 rfl rfl)
theorem dX0_stands_35 : decode cX0_stands 35 = .ok (.iload_n 3, 1) := dk_29 (dk_at dksX0_stands_1 11 rfl rfl)
theorem dX0_stands_36 : decode cX0_stands 36 = .ok (.aload_n 0, 1) := dk_42 (dk_at dksX0_stands_1 12 rfl rfl)
theorem dX0_stands_37 : decode cX0_stands 37 = .ok (.invokevirtual 155, 3) := dk_182 0 155 (dk_at dksX0_stands_1 13 rfl rfl)
theorem dX0_stands_40 : decode cX0_stands 40 = .ok (.getfield 164, 3) := dk_180 0 164 (dk_at dksX0_stands_1 16 rfl rfl)
theorem dX0_stands_43 : decode cX0_stands 43 = .ok (.iload_n 1, 1) := dk_27 (dk_at dksX0_stands_1 19 rfl rfl)
theorem dX0_stands_44 : decode cX0_stands 44 = .ok (.iaload, 1) := dk_46 (dk_at dksX0_stands_1 20 rfl rfl)
theorem dX0_stands_45 : decode cX0_stands 45 = .ok (.if_icmp .ne 9, 3) := dk_160 0 9 (dk_at dksX0_stands_1 21 rfl rfl)
theorem dX0_stands_48 : decode cX0_stands 48 = .ok (.ldc2_w 437, 3) := dk_20 1 181 (dk_at dksX0_stands_2 0 rfl rfl)
theorem dX0_stands_51 : decode cX0_stands 51 = .ok (.goto 4, 3) := dk_167 0 4 (dk_at dksX0_stands_2 3 rfl rfl)
theorem dX0_stands_54 : decode cX0_stands 54 = .ok (.lconst 0, 1) := dk_9 (dk_at dksX0_stands_2 6 rfl rfl)
theorem dX0_stands_55 : decode cX0_stands 55 = .ok (.lastore, 1) := dk_80 (dk_at dksX0_stands_2 7 rfl rfl)
theorem dX0_stands_56 : decode cX0_stands 56 = .ok (.iinc 3 1, 3) := dk_132 3 1 (dk_at dksX0_stands_2 8 rfl rfl)
theorem dX0_stands_59 : decode cX0_stands 59 = .ok (.goto (-35), 3) := dk_167 255 221 (dk_at dksX0_stands_2 11 rfl rfl)
theorem dX0_stands_62 : decode cX0_stands 62 = .ok (.iconst 0, 1) := dk_3 (dk_at dksX0_stands_2 14 rfl rfl)
theorem dX0_stands_63 : decode cX0_stands 63 = .ok (.istore_n 3, 1) := dk_62 (dk_at dksX0_stands_2 15 rfl rfl)
theorem dX0_stands_64 : decode cX0_stands 64 = .ok (.iload_n 3, 1) := dk_29 (dk_at dksX0_stands_2 16 rfl rfl)
theorem dX0_stands_65 : decode cX0_stands 65 = .ok (.iload_n 2, 1) := dk_28 (dk_at dksX0_stands_2 17 rfl rfl)
theorem dX0_stands_66 : decode cX0_stands 66 = .ok (.if_icmp .ge 87, 3) := dk_162 0 87 (dk_at dksX0_stands_2 18 rfl rfl)
theorem dX0_stands_69 : decode cX0_stands 69 = .ok (.iconst 1, 1) := dk_4 (dk_at dksX0_stands_2 21 rfl rfl)
theorem dX0_stands_70 : decode cX0_stands 70 = .ok (.istore 4, 2) := dk_54 4 (dk_at dksX0_stands_2 22 rfl rfl)
theorem dX0_stands_72 : decode cX0_stands 72 = .ok (.iload 4, 2) := dk_21 4 (dk_at dksX0_stands_3 0 rfl rfl)
theorem dX0_stands_74 : decode cX0_stands 74 = .ok (.bipush 20, 2) := dk_16 20 (dk_at dksX0_stands_3 2 rfl rfl)
theorem dX0_stands_76 : decode cX0_stands 76 = .ok (.if_icmp .gt 71, 3) := dk_163 0 71 (dk_at dksX0_stands_3 4 rfl rfl)
theorem dX0_stands_79 : decode cX0_stands 79 = .ok (.aload_n 0, 1) := dk_42 (dk_at dksX0_stands_3 7 rfl rfl)
theorem dX0_stands_80 : decode cX0_stands 80 = .ok (.getfield 120, 3) := dk_180 0 120 (dk_at dksX0_stands_3 8 rfl rfl)
theorem dX0_stands_83 : decode cX0_stands 83 = .ok (.iload 4, 2) := dk_21 4 (dk_at dksX0_stands_3 11 rfl rfl)
theorem dX0_stands_85 : decode cX0_stands 85 = .ok (.iconst 1, 1) := dk_4 (dk_at dksX0_stands_3 13 rfl rfl)
theorem dX0_stands_86 : decode cX0_stands 86 = .ok (.isub, 1) := dk_100 (dk_at dksX0_stands_3 14 rfl rfl)
theorem dX0_stands_87 : decode cX0_stands 87 = .ok (.dup2, 1) := dk_92 (dk_at dksX0_stands_3 15 rfl rfl)
theorem dX0_stands_88 : decode cX0_stands 88 = .ok (.laload, 1) := dk_47 (dk_at dksX0_stands_3 16 rfl rfl)
theorem dX0_stands_89 : decode cX0_stands 89 = .ok (.aload_n 0, 1) := dk_42 (dk_at dksX0_stands_3 17 rfl rfl)
theorem dX0_stands_90 : decode cX0_stands 90 = .ok (.getfield 120, 3) := dk_180 0 120 (dk_at dksX0_stands_3 18 rfl rfl)
theorem dX0_stands_93 : decode cX0_stands 93 = .ok (.iload 4, 2) := dk_21 4 (dk_at dksX0_stands_3 21 rfl rfl)
theorem dX0_stands_95 : decode cX0_stands 95 = .ok (.laload, 1) := dk_47 (dk_at dksX0_stands_3 23 rfl rfl)
theorem dX0_stands_96 : decode cX0_stands 96 = .ok (.aload_n 0, 1) := dk_42 (dk_at dksX0_stands_4 0 rfl rfl)
theorem dX0_stands_97 : decode cX0_stands 97 = .ok (.getfield 39, 3) := dk_180 0 39 (dk_at dksX0_stands_4 1 rfl rfl)
theorem dX0_stands_100 : decode cX0_stands 100 = .ok (.getfield 230, 3) := dk_180 0 230 (dk_at dksX0_stands_4 4 rfl rfl)
theorem dX0_stands_103 : decode cX0_stands 103 = .ok (.i2l, 1) := dk_133 (dk_at dksX0_stands_4 7 rfl rfl)
theorem dX0_stands_104 : decode cX0_stands 104 = .ok (.lmul, 1) := dk_105 (dk_at dksX0_stands_4 8 rfl rfl)
theorem dX0_stands_105 : decode cX0_stands 105 = .ok (.ldc2_w 439, 3) := dk_20 1 183 (dk_at dksX0_stands_4 9 rfl rfl)
theorem dX0_stands_108 : decode cX0_stands 108 = .ok (.ldiv, 1) := dk_109 (dk_at dksX0_stands_4 12 rfl rfl)
theorem dX0_stands_109 : decode cX0_stands 109 = .ok (.ladd, 1) := dk_97 (dk_at dksX0_stands_4 13 rfl rfl)
theorem dX0_stands_110 : decode cX0_stands 110 = .ok (.lastore, 1) := dk_80 (dk_at dksX0_stands_4 14 rfl rfl)
theorem dX0_stands_111 : decode cX0_stands 111 = .ok (.aload_n 0, 1) := dk_42 (dk_at dksX0_stands_4 15 rfl rfl)
theorem dX0_stands_112 : decode cX0_stands 112 = .ok (.getfield 120, 3) := dk_180 0 120 (dk_at dksX0_stands_4 16 rfl rfl)
theorem dX0_stands_115 : decode cX0_stands 115 = .ok (.iload 4, 2) := dk_21 4 (dk_at dksX0_stands_4 19 rfl rfl)
theorem dX0_stands_117 : decode cX0_stands 117 = .ok (.aload_n 0, 1) := dk_42 (dk_at dksX0_stands_4 21 rfl rfl)
theorem dX0_stands_118 : decode cX0_stands 118 = .ok (.getfield 120, 3) := dk_180 0 120 (dk_at dksX0_stands_5 0 rfl rfl)
theorem dX0_stands_121 : decode cX0_stands 121 = .ok (.iload 4, 2) := dk_21 4 (dk_at dksX0_stands_5 3 rfl rfl)
theorem dX0_stands_123 : decode cX0_stands 123 = .ok (.laload, 1) := dk_47 (dk_at dksX0_stands_5 5 rfl rfl)
theorem dX0_stands_124 : decode cX0_stands 124 = .ok (.bipush 10, 2) := dk_16 10 (dk_at dksX0_stands_5 6 rfl rfl)
theorem dX0_stands_126 : decode cX0_stands 126 = .ok (.aload_n 0, 1) := dk_42 (dk_at dksX0_stands_5 8 rfl rfl)
theorem dX0_stands_127 : decode cX0_stands 127 = .ok (.getfield 39, 3) := dk_180 0 39 (dk_at dksX0_stands_5 9 rfl rfl)
theorem dX0_stands_130 : decode cX0_stands 130 = .ok (.getfield 230, 3) := dk_180 0 230 (dk_at dksX0_stands_5 12 rfl rfl)
theorem dX0_stands_133 : decode cX0_stands 133 = .ok (.isub, 1) := dk_100 (dk_at dksX0_stands_5 15 rfl rfl)
theorem dX0_stands_134 : decode cX0_stands 134 = .ok (.i2l, 1) := dk_133 (dk_at dksX0_stands_5 16 rfl rfl)
theorem dX0_stands_135 : decode cX0_stands 135 = .ok (.lmul, 1) := dk_105 (dk_at dksX0_stands_5 17 rfl rfl)
theorem dX0_stands_136 : decode cX0_stands 136 = .ok (.ldc2_w 439, 3) := dk_20 1 183 (dk_at dksX0_stands_5 18 rfl rfl)
theorem dX0_stands_139 : decode cX0_stands 139 = .ok (.ldiv, 1) := dk_109 (dk_at dksX0_stands_5 21 rfl rfl)
theorem dX0_stands_140 : decode cX0_stands 140 = .ok (.lastore, 1) := dk_80 (dk_at dksX0_stands_5 22 rfl rfl)
theorem dX0_stands_141 : decode cX0_stands 141 = .ok (.iinc 4 1, 3) := dk_132 4 1 (dk_at dksX0_stands_6 0 rfl rfl)
theorem dX0_stands_144 : decode cX0_stands 144 = .ok (.goto (-72), 3) := dk_167 255 184 (dk_at dksX0_stands_6 3 rfl rfl)
theorem dX0_stands_147 : decode cX0_stands 147 = .ok (.iinc 3 1, 3) := dk_132 3 1 (dk_at dksX0_stands_6 6 rfl rfl)
theorem dX0_stands_150 : decode cX0_stands 150 = .ok (.goto (-86), 3) := dk_167 255 170 (dk_at dksX0_stands_6 9 rfl rfl)
theorem dX0_stands_153 : decode cX0_stands 153 = .ok (.lconst 0, 1) := dk_9 (dk_at dksX0_stands_6 12 rfl rfl)
theorem dX0_stands_154 : decode cX0_stands 154 = .ok (.lstore_n 3, 1) := dk_66 (dk_at dksX0_stands_6 13 rfl rfl)
theorem dX0_stands_155 : decode cX0_stands 155 = .ok (.iconst 1, 1) := dk_4 (dk_at dksX0_stands_6 14 rfl rfl)
theorem dX0_stands_156 : decode cX0_stands 156 = .ok (.istore 5, 2) := dk_54 5 (dk_at dksX0_stands_6 15 rfl rfl)
theorem dX0_stands_158 : decode cX0_stands 158 = .ok (.iload 5, 2) := dk_21 5 (dk_at dksX0_stands_6 17 rfl rfl)
theorem dX0_stands_160 : decode cX0_stands 160 = .ok (.bipush 20, 2) := dk_16 20 (dk_at dksX0_stands_6 19 rfl rfl)
theorem dX0_stands_162 : decode cX0_stands 162 = .ok (.if_icmp .gt 19, 3) := dk_163 0 19 (dk_at dksX0_stands_6 21 rfl rfl)
theorem dX0_stands_165 : decode cX0_stands 165 = .ok (.lload_n 3, 1) := dk_33 (dk_at dksX0_stands_7 0 rfl rfl)
theorem dX0_stands_166 : decode cX0_stands 166 = .ok (.aload_n 0, 1) := dk_42 (dk_at dksX0_stands_7 1 rfl rfl)
theorem dX0_stands_167 : decode cX0_stands 167 = .ok (.getfield 120, 3) := dk_180 0 120 (dk_at dksX0_stands_7 2 rfl rfl)
theorem dX0_stands_170 : decode cX0_stands 170 = .ok (.iload 5, 2) := dk_21 5 (dk_at dksX0_stands_7 5 rfl rfl)
theorem dX0_stands_172 : decode cX0_stands 172 = .ok (.laload, 1) := dk_47 (dk_at dksX0_stands_7 7 rfl rfl)
theorem dX0_stands_173 : decode cX0_stands 173 = .ok (.ladd, 1) := dk_97 (dk_at dksX0_stands_7 8 rfl rfl)
theorem dX0_stands_174 : decode cX0_stands 174 = .ok (.lstore_n 3, 1) := dk_66 (dk_at dksX0_stands_7 9 rfl rfl)
theorem dX0_stands_175 : decode cX0_stands 175 = .ok (.iinc 5 1, 3) := dk_132 5 1 (dk_at dksX0_stands_7 10 rfl rfl)
theorem dX0_stands_178 : decode cX0_stands 178 = .ok (.goto (-20), 3) := dk_167 255 236 (dk_at dksX0_stands_7 13 rfl rfl)
theorem dX0_stands_181 : decode cX0_stands 181 = .ok (.lload_n 3, 1) := dk_33 (dk_at dksX0_stands_7 16 rfl rfl)
theorem dX0_stands_182 : decode cX0_stands 182 = .ok (.lreturn, 1) := dk_173 (dk_at dksX0_stands_7 17 rfl rfl)
abbrev cX0_compare : ByteArray := prog_1_method_86_code
def yX0_compare : MethodName := ⟨RX0, "compare", "(I)I"⟩
def dkwX0_compare_1 : List UInt8 := [162, 0, 22, 28, 42, 27, 42, 182, 0, 155, 29, 182, 0, 187, 96, 61, 132, 3, 1, 167, 255, 229, 28, 172]
abbrev dktX0_compare_1 : List UInt8 := dkwX0_compare_1 ++ []
def dkwX0_compare_0 : List UInt8 := [42, 27, 182, 1, 31, 154, 0, 5, 2, 172, 3, 61, 3, 62, 29, 42, 180, 0, 39, 180, 0, 139]
abbrev dktX0_compare_0 : List UInt8 := dkwX0_compare_0 ++ dktX0_compare_1
theorem dksX0_compare_0 : cX0_compare.data.toList.drop 0 = dktX0_compare_0 := by decide +kernel
theorem dksX0_compare_1 : cX0_compare.data.toList.drop 22 = dktX0_compare_1 := dk_seg dksX0_compare_0 22 rfl rfl
theorem dX0_compare_0 : decode cX0_compare 0 = .ok (.aload_n 0, 1) := dk_42 (dk_at dksX0_compare_0 0 rfl rfl)
theorem dX0_compare_1 : decode cX0_compare 1 = .ok (.iload_n 1, 1) := dk_27 (dk_at dksX0_compare_0 1 rfl rfl)
theorem dX0_compare_2 : decode cX0_compare 2 = .ok (.invokevirtual 287, 3) := dk_182 1 31 (dk_at dksX0_compare_0 2 rfl rfl)
theorem dX0_compare_5 : decode cX0_compare 5 = .ok (.ifCond .ne 5, 3) := dk_154 0 5 (dk_at dksX0_compare_0 5 rfl rfl)
theorem dX0_compare_8 : decode cX0_compare 8 = .ok (.iconst (-1), 1) := dk_2 (dk_at dksX0_compare_0 8 rfl rfl)
theorem dX0_compare_9 : decode cX0_compare 9 = .ok (.ireturn, 1) := dk_172 (dk_at dksX0_compare_0 9 rfl rfl)
theorem dX0_compare_10 : decode cX0_compare 10 = .ok (.iconst 0, 1) := dk_3 (dk_at dksX0_compare_0 10 rfl rfl)
theorem dX0_compare_11 : decode cX0_compare 11 = .ok (.istore_n 2, 1) := dk_61 (dk_at dksX0_compare_0 11 rfl rfl)
theorem dX0_compare_12 : decode cX0_compare 12 = .ok (.iconst 0, 1) := dk_3 (dk_at dksX0_compare_0 12 rfl rfl)
theorem dX0_compare_13 : decode cX0_compare 13 = .ok (.istore_n 3, 1) := dk_62 (dk_at dksX0_compare_0 13 rfl rfl)
theorem dX0_compare_14 : decode cX0_compare 14 = .ok (.iload_n 3, 1) := dk_29 (dk_at dksX0_compare_0 14 rfl rfl)
theorem dX0_compare_15 : decode cX0_compare 15 = .ok (.aload_n 0, 1) := dk_42 (dk_at dksX0_compare_0 15 rfl rfl)
theorem dX0_compare_16 : decode cX0_compare 16 = .ok (.getfield 39, 3) := dk_180 0 39 (dk_at dksX0_compare_0 16 rfl rfl)
theorem dX0_compare_19 : decode cX0_compare 19 = .ok (.getfield 139, 3) := dk_180 0 139 (dk_at dksX0_compare_0 19 rfl rfl)
theorem dX0_compare_22 : decode cX0_compare 22 = .ok (.if_icmp .ge 22, 3) := dk_162 0 22 (dk_at dksX0_compare_1 0 rfl rfl)
theorem dX0_compare_25 : decode cX0_compare 25 = .ok (.iload_n 2, 1) := dk_28 (dk_at dksX0_compare_1 3 rfl rfl)
theorem dX0_compare_26 : decode cX0_compare 26 = .ok (.aload_n 0, 1) := dk_42 (dk_at dksX0_compare_1 4 rfl rfl)
theorem dX0_compare_27 : decode cX0_compare 27 = .ok (.iload_n 1, 1) := dk_27 (dk_at dksX0_compare_1 5 rfl rfl)
theorem dX0_compare_28 : decode cX0_compare 28 = .ok (.aload_n 0, 1) := dk_42 (dk_at dksX0_compare_1 6 rfl rfl)
theorem dX0_compare_29 : decode cX0_compare 29 = .ok (.invokevirtual 155, 3) := dk_182 0 155 (dk_at dksX0_compare_1 7 rfl rfl)
theorem dX0_compare_32 : decode cX0_compare 32 = .ok (.iload_n 3, 1) := dk_29 (dk_at dksX0_compare_1 10 rfl rfl)
theorem dX0_compare_33 : decode cX0_compare 33 = .ok (.invokevirtual 187, 3) := dk_182 0 187 (dk_at dksX0_compare_1 11 rfl rfl)
theorem dX0_compare_36 : decode cX0_compare 36 = .ok (.iadd, 1) := dk_96 (dk_at dksX0_compare_1 14 rfl rfl)
theorem dX0_compare_37 : decode cX0_compare 37 = .ok (.istore_n 2, 1) := dk_61 (dk_at dksX0_compare_1 15 rfl rfl)
theorem dX0_compare_38 : decode cX0_compare 38 = .ok (.iinc 3 1, 3) := dk_132 3 1 (dk_at dksX0_compare_1 16 rfl rfl)
theorem dX0_compare_41 : decode cX0_compare 41 = .ok (.goto (-27), 3) := dk_167 255 229 (dk_at dksX0_compare_1 19 rfl rfl)
theorem dX0_compare_44 : decode cX0_compare 44 = .ok (.iload_n 2, 1) := dk_28 (dk_at dksX0_compare_1 22 rfl rfl)
theorem dX0_compare_45 : decode cX0_compare 45 = .ok (.ireturn, 1) := dk_172 (dk_at dksX0_compare_1 23 rfl rfl)
abbrev cX0_orders : ByteArray := prog_1_method_88_code
def yX0_orders : MethodName := ⟨RX0, "orders", "()I"⟩
def dkwX0_orders_10 : List UInt8 := [167, 255, 168, 132, 6, 1, 167, 255, 133, 42, 21, 4, 182, 0, 136, 172]
abbrev dktX0_orders_10 : List UInt8 := dkwX0_orders_10 ++ []
def dkwX0_orders_9 : List UInt8 := [180, 1, 210, 5, 160, 0, 8, 21, 9, 167, 0, 5, 21, 5, 54, 5, 132, 4, 1, 132, 8, 1]
abbrev dktX0_orders_9 : List UInt8 := dkwX0_orders_9 ++ dktX0_orders_10
def dkwX0_orders_8 : List UInt8 := [156, 0, 21, 42, 29, 182, 1, 207, 42, 21, 6, 181, 0, 77, 42, 16, 253, 182, 0, 145, 172, 25, 7]
abbrev dktX0_orders_8 : List UInt8 := dkwX0_orders_8 ++ dktX0_orders_9
def dkwX0_orders_7 : List UInt8 := [180, 0, 83, 182, 1, 199, 154, 0, 6, 167, 0, 55, 42, 25, 7, 182, 1, 203, 54, 9, 21, 9]
abbrev dktX0_orders_7 : List UInt8 := dkwX0_orders_7 ++ dktX0_orders_8
def dkwX0_orders_6 : List UInt8 := [54, 8, 21, 8, 25, 7, 180, 1, 193, 162, 0, 84, 42, 21, 4, 21, 5, 182, 1, 196, 25, 7, 42]
abbrev dktX0_orders_6 : List UInt8 := dkwX0_orders_6 ++ dktX0_orders_7
def dkwX0_orders_5 : List UInt8 := [180, 1, 188, 182, 1, 4, 162, 0, 117, 44, 180, 1, 188, 21, 6, 182, 1, 51, 192, 1, 191, 58, 7, 3]
abbrev dktX0_orders_5 : List UInt8 := dkwX0_orders_5 ++ dktX0_orders_6
def dkwX0_orders_4 : List UInt8 := [16, 16, 184, 1, 172, 42, 180, 0, 133, 62, 3, 54, 4, 2, 54, 5, 3, 54, 6, 21, 6, 44]
abbrev dktX0_orders_4 : List UInt8 := dkwX0_orders_4 ++ dktX0_orders_5
def dkwX0_orders_3 : List UInt8 := [180, 0, 49, 29, 50, 182, 1, 75, 132, 3, 1, 167, 255, 230, 42, 180, 0, 56, 3, 42, 180, 0, 59, 3]
abbrev dktX0_orders_3 : List UInt8 := dkwX0_orders_3 ++ dktX0_orders_4
def dkwX0_orders_2 : List UInt8 := [182, 0, 155, 182, 1, 75, 3, 62, 29, 42, 180, 0, 133, 162, 0, 24, 42, 180, 0, 53, 29, 50, 42]
abbrev dktX0_orders_2 : List UInt8 := dkwX0_orders_2 ++ dktX0_orders_3
def dkwX0_orders_1 : List UInt8 := [183, 1, 187, 77, 42, 44, 182, 1, 15, 154, 0, 10, 42, 16, 250, 182, 0, 145, 172, 42, 180, 0, 63, 42]
abbrev dktX0_orders_1 : List UInt8 := dkwX0_orders_1 ++ dktX0_orders_2
def dkwX0_orders_0 : List UInt8 := [42, 180, 0, 236, 60, 42, 3, 181, 0, 236, 42, 2, 181, 0, 77, 187, 1, 185, 89, 42, 180, 0, 70, 27]
abbrev dktX0_orders_0 : List UInt8 := dkwX0_orders_0 ++ dktX0_orders_1
theorem dksX0_orders_0 : cX0_orders.data.toList.drop 0 = dktX0_orders_0 := by decide +kernel
theorem dksX0_orders_1 : cX0_orders.data.toList.drop 24 = dktX0_orders_1 := dk_seg dksX0_orders_0 24 rfl rfl
theorem dksX0_orders_2 : cX0_orders.data.toList.drop 48 = dktX0_orders_2 := dk_seg dksX0_orders_1 24 rfl rfl
theorem dksX0_orders_3 : cX0_orders.data.toList.drop 71 = dktX0_orders_3 := dk_seg dksX0_orders_2 23 rfl rfl
theorem dksX0_orders_4 : cX0_orders.data.toList.drop 95 = dktX0_orders_4 := dk_seg dksX0_orders_3 24 rfl rfl
theorem dksX0_orders_5 : cX0_orders.data.toList.drop 117 = dktX0_orders_5 := dk_seg dksX0_orders_4 22 rfl rfl
theorem dksX0_orders_6 : cX0_orders.data.toList.drop 141 = dktX0_orders_6 := dk_seg dksX0_orders_5 24 rfl rfl
theorem dksX0_orders_7 : cX0_orders.data.toList.drop 164 = dktX0_orders_7 := dk_seg dksX0_orders_6 23 rfl rfl
theorem dksX0_orders_8 : cX0_orders.data.toList.drop 186 = dktX0_orders_8 := dk_seg dksX0_orders_7 22 rfl rfl
theorem dksX0_orders_9 : cX0_orders.data.toList.drop 209 = dktX0_orders_9 := dk_seg dksX0_orders_8 23 rfl rfl
theorem dksX0_orders_10 : cX0_orders.data.toList.drop 231 = dktX0_orders_10 := dk_seg dksX0_orders_9 22 rfl rfl
theorem dX0_orders_0 : decode cX0_orders 0 = .ok (.aload_n 0, 1) := dk_42 (dk_at dksX0_orders_0 0 rfl rfl)
theorem dX0_orders_1 : decode cX0_orders 1 = .ok (.getfield 236, 3) := dk_180 0 236 (dk_at dksX0_orders_0 1 rfl rfl)
theorem dX0_orders_4 : decode cX0_orders 4 = .ok (.istore_n 1, 1) := dk_60 (dk_at dksX0_orders_0 4 rfl rfl)
theorem dX0_orders_5 : decode cX0_orders 5 = .ok (.aload_n 0, 1) := dk_42 (dk_at dksX0_orders_0 5 rfl rfl)
theorem dX0_orders_6 : decode cX0_orders 6 = .ok (.iconst 0, 1) := dk_3 (dk_at dksX0_orders_0 6 rfl rfl)
theorem dX0_orders_7 : decode cX0_orders 7 = .ok (.putfield 236, 3) := dk_181 0 236 (dk_at dksX0_orders_0 7 rfl rfl)
theorem dX0_orders_10 : decode cX0_orders 10 = .ok (.aload_n 0, 1) := dk_42 (dk_at dksX0_orders_0 10 rfl rfl)
theorem dX0_orders_11 : decode cX0_orders 11 = .ok (.iconst (-1), 1) := dk_2 (dk_at dksX0_orders_0 11 rfl rfl)
theorem dX0_orders_12 : decode cX0_orders 12 = .ok (.putfield 77, 3) := dk_181 0 77 (dk_at dksX0_orders_0 12 rfl rfl)
theorem dX0_orders_15 : decode cX0_orders 15 = .ok (.new 441, 3) := dk_187 1 185 (dk_at dksX0_orders_0 15 rfl rfl)
theorem dX0_orders_18 : decode cX0_orders 18 = .ok (.dup, 1) := dk_89 (dk_at dksX0_orders_0 18 rfl rfl)
theorem dX0_orders_19 : decode cX0_orders 19 = .ok (.aload_n 0, 1) := dk_42 (dk_at dksX0_orders_0 19 rfl rfl)
theorem dX0_orders_20 : decode cX0_orders 20 = .ok (.getfield 70, 3) := dk_180 0 70 (dk_at dksX0_orders_0 20 rfl rfl)
theorem dX0_orders_23 : decode cX0_orders 23 = .ok (.iload_n 1, 1) := dk_27 (dk_at dksX0_orders_0 23 rfl rfl)
theorem dX0_orders_24 : decode cX0_orders 24 = .ok (.invokespecial 443, 3) := dk_183 1 187 (dk_at dksX0_orders_1 0 rfl rfl)
theorem dX0_orders_27 : decode cX0_orders 27 = .ok (.astore_n 2, 1) := dk_77 (dk_at dksX0_orders_1 3 rfl rfl)
theorem dX0_orders_28 : decode cX0_orders 28 = .ok (.aload_n 0, 1) := dk_42 (dk_at dksX0_orders_1 4 rfl rfl)
theorem dX0_orders_29 : decode cX0_orders 29 = .ok (.aload_n 2, 1) := dk_44 (dk_at dksX0_orders_1 5 rfl rfl)
theorem dX0_orders_30 : decode cX0_orders 30 = .ok (.invokevirtual 271, 3) := dk_182 1 15 (dk_at dksX0_orders_1 6 rfl rfl)
theorem dX0_orders_33 : decode cX0_orders 33 = .ok (.ifCond .ne 10, 3) := dk_154 0 10 (dk_at dksX0_orders_1 9 rfl rfl)
theorem dX0_orders_36 : decode cX0_orders 36 = .ok (.aload_n 0, 1) := dk_42 (dk_at dksX0_orders_1 12 rfl rfl)
theorem dX0_orders_37 : decode cX0_orders 37 = .ok (.bipush (-6), 2) := dk_16 250 (dk_at dksX0_orders_1 13 rfl rfl)
theorem dX0_orders_39 : decode cX0_orders 39 = .ok (.invokevirtual 145, 3) := dk_182 0 145 (dk_at dksX0_orders_1 15 rfl rfl)
theorem dX0_orders_42 : decode cX0_orders 42 = .ok (.ireturn, 1) := dk_172 (dk_at dksX0_orders_1 18 rfl rfl)
theorem dX0_orders_43 : decode cX0_orders 43 = .ok (.aload_n 0, 1) := dk_42 (dk_at dksX0_orders_1 19 rfl rfl)
theorem dX0_orders_44 : decode cX0_orders 44 = .ok (.getfield 63, 3) := dk_180 0 63 (dk_at dksX0_orders_1 20 rfl rfl)
theorem dX0_orders_47 : decode cX0_orders 47 = .ok (.aload_n 0, 1) := dk_42 (dk_at dksX0_orders_1 23 rfl rfl)
theorem dX0_orders_48 : decode cX0_orders 48 = .ok (.invokevirtual 155, 3) := dk_182 0 155 (dk_at dksX0_orders_2 0 rfl rfl)
theorem dX0_orders_51 : decode cX0_orders 51 = .ok (.invokevirtual 331, 3) := dk_182 1 75 (dk_at dksX0_orders_2 3 rfl rfl)
theorem dX0_orders_54 : decode cX0_orders 54 = .ok (.iconst 0, 1) := dk_3 (dk_at dksX0_orders_2 6 rfl rfl)
theorem dX0_orders_55 : decode cX0_orders 55 = .ok (.istore_n 3, 1) := dk_62 (dk_at dksX0_orders_2 7 rfl rfl)
theorem dX0_orders_56 : decode cX0_orders 56 = .ok (.iload_n 3, 1) := dk_29 (dk_at dksX0_orders_2 8 rfl rfl)
theorem dX0_orders_57 : decode cX0_orders 57 = .ok (.aload_n 0, 1) := dk_42 (dk_at dksX0_orders_2 9 rfl rfl)
theorem dX0_orders_58 : decode cX0_orders 58 = .ok (.getfield 133, 3) := dk_180 0 133 (dk_at dksX0_orders_2 10 rfl rfl)
theorem dX0_orders_61 : decode cX0_orders 61 = .ok (.if_icmp .ge 24, 3) := dk_162 0 24 (dk_at dksX0_orders_2 13 rfl rfl)
theorem dX0_orders_64 : decode cX0_orders 64 = .ok (.aload_n 0, 1) := dk_42 (dk_at dksX0_orders_2 16 rfl rfl)
theorem dX0_orders_65 : decode cX0_orders 65 = .ok (.getfield 53, 3) := dk_180 0 53 (dk_at dksX0_orders_2 17 rfl rfl)
theorem dX0_orders_68 : decode cX0_orders 68 = .ok (.iload_n 3, 1) := dk_29 (dk_at dksX0_orders_2 20 rfl rfl)
theorem dX0_orders_69 : decode cX0_orders 69 = .ok (.aaload, 1) := dk_50 (dk_at dksX0_orders_2 21 rfl rfl)
theorem dX0_orders_70 : decode cX0_orders 70 = .ok (.aload_n 0, 1) := dk_42 (dk_at dksX0_orders_2 22 rfl rfl)
theorem dX0_orders_71 : decode cX0_orders 71 = .ok (.getfield 49, 3) := dk_180 0 49 (dk_at dksX0_orders_3 0 rfl rfl)
theorem dX0_orders_74 : decode cX0_orders 74 = .ok (.iload_n 3, 1) := dk_29 (dk_at dksX0_orders_3 3 rfl rfl)
theorem dX0_orders_75 : decode cX0_orders 75 = .ok (.aaload, 1) := dk_50 (dk_at dksX0_orders_3 4 rfl rfl)
theorem dX0_orders_76 : decode cX0_orders 76 = .ok (.invokevirtual 331, 3) := dk_182 1 75 (dk_at dksX0_orders_3 5 rfl rfl)
theorem dX0_orders_79 : decode cX0_orders 79 = .ok (.iinc 3 1, 3) := dk_132 3 1 (dk_at dksX0_orders_3 8 rfl rfl)
theorem dX0_orders_82 : decode cX0_orders 82 = .ok (.goto (-26), 3) := dk_167 255 230 (dk_at dksX0_orders_3 11 rfl rfl)
theorem dX0_orders_85 : decode cX0_orders 85 = .ok (.aload_n 0, 1) := dk_42 (dk_at dksX0_orders_3 14 rfl rfl)
theorem dX0_orders_86 : decode cX0_orders 86 = .ok (.getfield 56, 3) := dk_180 0 56 (dk_at dksX0_orders_3 15 rfl rfl)
theorem dX0_orders_89 : decode cX0_orders 89 = .ok (.iconst 0, 1) := dk_3 (dk_at dksX0_orders_3 18 rfl rfl)
theorem dX0_orders_90 : decode cX0_orders 90 = .ok (.aload_n 0, 1) := dk_42 (dk_at dksX0_orders_3 19 rfl rfl)
theorem dX0_orders_91 : decode cX0_orders 91 = .ok (.getfield 59, 3) := dk_180 0 59 (dk_at dksX0_orders_3 20 rfl rfl)
theorem dX0_orders_94 : decode cX0_orders 94 = .ok (.iconst 0, 1) := dk_3 (dk_at dksX0_orders_3 23 rfl rfl)
theorem dX0_orders_95 : decode cX0_orders 95 = .ok (.bipush 16, 2) := dk_16 16 (dk_at dksX0_orders_4 0 rfl rfl)
theorem dX0_orders_97 : decode cX0_orders 97 = .ok (.invokestatic 428, 3) := dk_184 1 172 (dk_at dksX0_orders_4 2 rfl rfl)
theorem dX0_orders_100 : decode cX0_orders 100 = .ok (.aload_n 0, 1) := dk_42 (dk_at dksX0_orders_4 5 rfl rfl)
theorem dX0_orders_101 : decode cX0_orders 101 = .ok (.getfield 133, 3) := dk_180 0 133 (dk_at dksX0_orders_4 6 rfl rfl)
theorem dX0_orders_104 : decode cX0_orders 104 = .ok (.istore_n 3, 1) := dk_62 (dk_at dksX0_orders_4 9 rfl rfl)
theorem dX0_orders_105 : decode cX0_orders 105 = .ok (.iconst 0, 1) := dk_3 (dk_at dksX0_orders_4 10 rfl rfl)
theorem dX0_orders_106 : decode cX0_orders 106 = .ok (.istore 4, 2) := dk_54 4 (dk_at dksX0_orders_4 11 rfl rfl)
theorem dX0_orders_108 : decode cX0_orders 108 = .ok (.iconst (-1), 1) := dk_2 (dk_at dksX0_orders_4 13 rfl rfl)
theorem dX0_orders_109 : decode cX0_orders 109 = .ok (.istore 5, 2) := dk_54 5 (dk_at dksX0_orders_4 14 rfl rfl)
theorem dX0_orders_111 : decode cX0_orders 111 = .ok (.iconst 0, 1) := dk_3 (dk_at dksX0_orders_4 16 rfl rfl)
theorem dX0_orders_112 : decode cX0_orders 112 = .ok (.istore 6, 2) := dk_54 6 (dk_at dksX0_orders_4 17 rfl rfl)
theorem dX0_orders_114 : decode cX0_orders 114 = .ok (.iload 6, 2) := dk_21 6 (dk_at dksX0_orders_4 19 rfl rfl)
theorem dX0_orders_116 : decode cX0_orders 116 = .ok (.aload_n 2, 1) := dk_44 (dk_at dksX0_orders_4 21 rfl rfl)
theorem dX0_orders_117 : decode cX0_orders 117 = .ok (.getfield 444, 3) := dk_180 1 188 (dk_at dksX0_orders_5 0 rfl rfl)
theorem dX0_orders_120 : decode cX0_orders 120 = .ok (.invokevirtual 260, 3) := dk_182 1 4 (dk_at dksX0_orders_5 3 rfl rfl)
theorem dX0_orders_123 : decode cX0_orders 123 = .ok (.if_icmp .ge 117, 3) := dk_162 0 117 (dk_at dksX0_orders_5 6 rfl rfl)
theorem dX0_orders_126 : decode cX0_orders 126 = .ok (.aload_n 2, 1) := dk_44 (dk_at dksX0_orders_5 9 rfl rfl)
theorem dX0_orders_127 : decode cX0_orders 127 = .ok (.getfield 444, 3) := dk_180 1 188 (dk_at dksX0_orders_5 10 rfl rfl)
theorem dX0_orders_130 : decode cX0_orders 130 = .ok (.iload 6, 2) := dk_21 6 (dk_at dksX0_orders_5 13 rfl rfl)
theorem dX0_orders_132 : decode cX0_orders 132 = .ok (.invokevirtual 307, 3) := dk_182 1 51 (dk_at dksX0_orders_5 15 rfl rfl)
theorem dX0_orders_135 : decode cX0_orders 135 = .ok (.checkcast 447, 3) := dk_192 1 191 (dk_at dksX0_orders_5 18 rfl rfl)
theorem dX0_orders_138 : decode cX0_orders 138 = .ok (.astore 7, 2) := dk_58 7 (dk_at dksX0_orders_5 21 rfl rfl)
theorem dX0_orders_140 : decode cX0_orders 140 = .ok (.iconst 0, 1) := dk_3 (dk_at dksX0_orders_5 23 rfl rfl)
theorem dX0_orders_141 : decode cX0_orders 141 = .ok (.istore 8, 2) := dk_54 8 (dk_at dksX0_orders_6 0 rfl rfl)
theorem dX0_orders_143 : decode cX0_orders 143 = .ok (.iload 8, 2) := dk_21 8 (dk_at dksX0_orders_6 2 rfl rfl)
theorem dX0_orders_145 : decode cX0_orders 145 = .ok (.aload 7, 2) := dk_25 7 (dk_at dksX0_orders_6 4 rfl rfl)
theorem dX0_orders_147 : decode cX0_orders 147 = .ok (.getfield 449, 3) := dk_180 1 193 (dk_at dksX0_orders_6 6 rfl rfl)
theorem dX0_orders_150 : decode cX0_orders 150 = .ok (.if_icmp .ge 84, 3) := dk_162 0 84 (dk_at dksX0_orders_6 9 rfl rfl)
theorem dX0_orders_153 : decode cX0_orders 153 = .ok (.aload_n 0, 1) := dk_42 (dk_at dksX0_orders_6 12 rfl rfl)
theorem dX0_orders_154 : decode cX0_orders 154 = .ok (.iload 4, 2) := dk_21 4 (dk_at dksX0_orders_6 13 rfl rfl)
theorem dX0_orders_156 : decode cX0_orders 156 = .ok (.iload 5, 2) := dk_21 5 (dk_at dksX0_orders_6 15 rfl rfl)
theorem dX0_orders_158 : decode cX0_orders 158 = .ok (.invokevirtual 452, 3) := dk_182 1 196 (dk_at dksX0_orders_6 17 rfl rfl)
theorem dX0_orders_161 : decode cX0_orders 161 = .ok (.aload 7, 2) := dk_25 7 (dk_at dksX0_orders_6 20 rfl rfl)
theorem dX0_orders_163 : decode cX0_orders 163 = .ok (.aload_n 0, 1) := dk_42 (dk_at dksX0_orders_6 22 rfl rfl)
theorem dX0_orders_164 : decode cX0_orders 164 = .ok (.getfield 83, 3) := dk_180 0 83 (dk_at dksX0_orders_7 0 rfl rfl)
theorem dX0_orders_167 : decode cX0_orders 167 = .ok (.invokevirtual 455, 3) := dk_182 1 199 (dk_at dksX0_orders_7 3 rfl rfl)
theorem dX0_orders_170 : decode cX0_orders 170 = .ok (.ifCond .ne 6, 3) := dk_154 0 6 (dk_at dksX0_orders_7 6 rfl rfl)
theorem dX0_orders_173 : decode cX0_orders 173 = .ok (.goto 55, 3) := dk_167 0 55 (dk_at dksX0_orders_7 9 rfl rfl)
theorem dX0_orders_176 : decode cX0_orders 176 = .ok (.aload_n 0, 1) := dk_42 (dk_at dksX0_orders_7 12 rfl rfl)
theorem dX0_orders_177 : decode cX0_orders 177 = .ok (.aload 7, 2) := dk_25 7 (dk_at dksX0_orders_7 13 rfl rfl)
theorem dX0_orders_179 : decode cX0_orders 179 = .ok (.invokevirtual 459, 3) := dk_182 1 203 (dk_at dksX0_orders_7 15 rfl rfl)
theorem dX0_orders_182 : decode cX0_orders 182 = .ok (.istore 9, 2) := dk_54 9 (dk_at dksX0_orders_7 18 rfl rfl)
theorem dX0_orders_184 : decode cX0_orders 184 = .ok (.iload 9, 2) := dk_21 9 (dk_at dksX0_orders_7 20 rfl rfl)
theorem dX0_orders_186 : decode cX0_orders 186 = .ok (.ifCond .ge 21, 3) := dk_156 0 21 (dk_at dksX0_orders_8 0 rfl rfl)
theorem dX0_orders_189 : decode cX0_orders 189 = .ok (.aload_n 0, 1) := dk_42 (dk_at dksX0_orders_8 3 rfl rfl)
theorem dX0_orders_190 : decode cX0_orders 190 = .ok (.iload_n 3, 1) := dk_29 (dk_at dksX0_orders_8 4 rfl rfl)
theorem dX0_orders_191 : decode cX0_orders 191 = .ok (.invokevirtual 463, 3) := dk_182 1 207 (dk_at dksX0_orders_8 5 rfl rfl)
theorem dX0_orders_194 : decode cX0_orders 194 = .ok (.aload_n 0, 1) := dk_42 (dk_at dksX0_orders_8 8 rfl rfl)
theorem dX0_orders_195 : decode cX0_orders 195 = .ok (.iload 6, 2) := dk_21 6 (dk_at dksX0_orders_8 9 rfl rfl)
theorem dX0_orders_197 : decode cX0_orders 197 = .ok (.putfield 77, 3) := dk_181 0 77 (dk_at dksX0_orders_8 11 rfl rfl)
theorem dX0_orders_200 : decode cX0_orders 200 = .ok (.aload_n 0, 1) := dk_42 (dk_at dksX0_orders_8 14 rfl rfl)
theorem dX0_orders_201 : decode cX0_orders 201 = .ok (.bipush (-3), 2) := dk_16 253 (dk_at dksX0_orders_8 15 rfl rfl)
theorem dX0_orders_203 : decode cX0_orders 203 = .ok (.invokevirtual 145, 3) := dk_182 0 145 (dk_at dksX0_orders_8 17 rfl rfl)
theorem dX0_orders_206 : decode cX0_orders 206 = .ok (.ireturn, 1) := dk_172 (dk_at dksX0_orders_8 20 rfl rfl)
theorem dX0_orders_207 : decode cX0_orders 207 = .ok (.aload 7, 2) := dk_25 7 (dk_at dksX0_orders_8 21 rfl rfl)
theorem dX0_orders_209 : decode cX0_orders 209 = .ok (.getfield 466, 3) := dk_180 1 210 (dk_at dksX0_orders_9 0 rfl rfl)
theorem dX0_orders_212 : decode cX0_orders 212 = .ok (.iconst 2, 1) := dk_5 (dk_at dksX0_orders_9 3 rfl rfl)
theorem dX0_orders_213 : decode cX0_orders 213 = .ok (.if_icmp .ne 8, 3) := dk_160 0 8 (dk_at dksX0_orders_9 4 rfl rfl)
theorem dX0_orders_216 : decode cX0_orders 216 = .ok (.iload 9, 2) := dk_21 9 (dk_at dksX0_orders_9 7 rfl rfl)
theorem dX0_orders_218 : decode cX0_orders 218 = .ok (.goto 5, 3) := dk_167 0 5 (dk_at dksX0_orders_9 9 rfl rfl)
theorem dX0_orders_221 : decode cX0_orders 221 = .ok (.iload 5, 2) := dk_21 5 (dk_at dksX0_orders_9 12 rfl rfl)
theorem dX0_orders_223 : decode cX0_orders 223 = .ok (.istore 5, 2) := dk_54 5 (dk_at dksX0_orders_9 14 rfl rfl)
theorem dX0_orders_225 : decode cX0_orders 225 = .ok (.iinc 4 1, 3) := dk_132 4 1 (dk_at dksX0_orders_9 16 rfl rfl)
theorem dX0_orders_228 : decode cX0_orders 228 = .ok (.iinc 8 1, 3) := dk_132 8 1 (dk_at dksX0_orders_9 19 rfl rfl)
theorem dX0_orders_231 : decode cX0_orders 231 = .ok (.goto (-88), 3) := dk_167 255 168 (dk_at dksX0_orders_10 0 rfl rfl)
theorem dX0_orders_234 : decode cX0_orders 234 = .ok (.iinc 6 1, 3) := dk_132 6 1 (dk_at dksX0_orders_10 3 rfl rfl)
theorem dX0_orders_237 : decode cX0_orders 237 = .ok (.goto (-123), 3) := dk_167 255 133 (dk_at dksX0_orders_10 6 rfl rfl)
theorem dX0_orders_240 : decode cX0_orders 240 = .ok (.aload_n 0, 1) := dk_42 (dk_at dksX0_orders_10 9 rfl rfl)
theorem dX0_orders_241 : decode cX0_orders 241 = .ok (.iload 4, 2) := dk_21 4 (dk_at dksX0_orders_10 10 rfl rfl)
theorem dX0_orders_243 : decode cX0_orders 243 = .ok (.invokevirtual 136, 3) := dk_182 0 136 (dk_at dksX0_orders_10 12 rfl rfl)
theorem dX0_orders_246 : decode cX0_orders 246 = .ok (.ireturn, 1) := dk_172 (dk_at dksX0_orders_10 15 rfl rfl)
abbrev cX0_tellsOrder : ByteArray := prog_1_method_91_code
def yX0_tellsOrder : MethodName := ⟨RX0, "tellsOrder", "(II)V"⟩
def dkwX0_tellsOrder_5 : List UInt8 := [132, 5, 1, 167, 255, 186, 177]
abbrev dktX0_tellsOrder_5 : List UInt8 := dkwX0_tellsOrder_5 ++ []
def dkwX0_tellsOrder_4 : List UInt8 := [21, 5, 182, 0, 173, 153, 0, 13, 45, 21, 5, 182, 0, 181, 133, 167, 0, 6, 20, 1, 49, 80]
abbrev dktX0_tellsOrder_4 : List UInt8 := dkwX0_tellsOrder_4 ++ dktX0_tellsOrder_5
def dkwX0_tellsOrder_3 : List UInt8 := [45, 180, 0, 170, 21, 5, 46, 133, 167, 0, 6, 20, 1, 49, 80, 25, 4, 16, 10, 21, 5, 96, 42]
abbrev dktX0_tellsOrder_3 : List UInt8 := dkwX0_tellsOrder_3 ++ dktX0_tellsOrder_4
def dkwX0_tellsOrder_2 : List UInt8 := [54, 5, 21, 5, 16, 6, 162, 0, 69, 25, 4, 7, 21, 5, 96, 42, 21, 5, 182, 0, 173, 153, 0, 14]
abbrev dktX0_tellsOrder_2 : List UInt8 := dkwX0_tellsOrder_2 ++ dktX0_tellsOrder_3
def dkwX0_tellsOrder_1 : List UInt8 := [25, 4, 4, 27, 133, 80, 25, 4, 5, 28, 133, 80, 25, 4, 6, 42, 45, 182, 1, 226, 133, 80, 3]
abbrev dktX0_tellsOrder_1 : List UInt8 := dkwX0_tellsOrder_1 ++ dktX0_tellsOrder_2
def dkwX0_tellsOrder_0 : List UInt8 := [42, 182, 0, 155, 78, 42, 180, 0, 83, 180, 1, 43, 58, 4, 25, 4, 3, 45, 180, 0, 227, 133, 80]
abbrev dktX0_tellsOrder_0 : List UInt8 := dkwX0_tellsOrder_0 ++ dktX0_tellsOrder_1
theorem dksX0_tellsOrder_0 : cX0_tellsOrder.data.toList.drop 0 = dktX0_tellsOrder_0 := by decide +kernel
theorem dksX0_tellsOrder_1 : cX0_tellsOrder.data.toList.drop 23 = dktX0_tellsOrder_1 := dk_seg dksX0_tellsOrder_0 23 rfl rfl
theorem dksX0_tellsOrder_2 : cX0_tellsOrder.data.toList.drop 46 = dktX0_tellsOrder_2 := dk_seg dksX0_tellsOrder_1 23 rfl rfl
theorem dksX0_tellsOrder_3 : cX0_tellsOrder.data.toList.drop 70 = dktX0_tellsOrder_3 := dk_seg dksX0_tellsOrder_2 24 rfl rfl
theorem dksX0_tellsOrder_4 : cX0_tellsOrder.data.toList.drop 93 = dktX0_tellsOrder_4 := dk_seg dksX0_tellsOrder_3 23 rfl rfl
theorem dksX0_tellsOrder_5 : cX0_tellsOrder.data.toList.drop 115 = dktX0_tellsOrder_5 := dk_seg dksX0_tellsOrder_4 22 rfl rfl
theorem dX0_tellsOrder_0 : decode cX0_tellsOrder 0 = .ok (.aload_n 0, 1) := dk_42 (dk_at dksX0_tellsOrder_0 0 rfl rfl)
theorem dX0_tellsOrder_1 : decode cX0_tellsOrder 1 = .ok (.invokevirtual 155, 3) := dk_182 0 155 (dk_at dksX0_tellsOrder_0 1 rfl rfl)
theorem dX0_tellsOrder_4 : decode cX0_tellsOrder 4 = .ok (.astore_n 3, 1) := dk_78 (dk_at dksX0_tellsOrder_0 4 rfl rfl)
theorem dX0_tellsOrder_5 : decode cX0_tellsOrder 5 = .ok (.aload_n 0, 1) := dk_42 (dk_at dksX0_tellsOrder_0 5 rfl rfl)
theorem dX0_tellsOrder_6 : decode cX0_tellsOrder 6 = .ok (.getfield 83, 3) := dk_180 0 83 (dk_at dksX0_tellsOrder_0 6 rfl rfl)
theorem dX0_tellsOrder_9 : decode cX0_tellsOrder 9 = .ok (.getfield 299, 3) := dk_180 1 43 (dk_at dksX0_tellsOrder_0 9 rfl rfl)
theorem dX0_tellsOrder_12 : decode cX0_tellsOrder 12 = .ok (.astore 4, 2) := dk_58 4 (dk_at dksX0_tellsOrder_0 12 rfl rfl)
theorem dX0_tellsOrder_14 : decode cX0_tellsOrder 14 = .ok (.aload 4, 2) := dk_25 4 (dk_at dksX0_tellsOrder_0 14 rfl rfl)
theorem dX0_tellsOrder_16 : decode cX0_tellsOrder 16 = .ok (.iconst 0, 1) := dk_3 (dk_at dksX0_tellsOrder_0 16 rfl rfl)
theorem dX0_tellsOrder_17 : decode cX0_tellsOrder 17 = .ok (.aload_n 3, 1) := dk_45 (dk_at dksX0_tellsOrder_0 17 rfl rfl)
theorem dX0_tellsOrder_18 : decode cX0_tellsOrder 18 = .ok (.getfield 227, 3) := dk_180 0 227 (dk_at dksX0_tellsOrder_0 18 rfl rfl)
theorem dX0_tellsOrder_21 : decode cX0_tellsOrder 21 = .ok (.i2l, 1) := dk_133 (dk_at dksX0_tellsOrder_0 21 rfl rfl)
theorem dX0_tellsOrder_22 : decode cX0_tellsOrder 22 = .ok (.lastore, 1) := dk_80 (dk_at dksX0_tellsOrder_0 22 rfl rfl)
theorem dX0_tellsOrder_23 : decode cX0_tellsOrder 23 = .ok (.aload 4, 2) := dk_25 4 (dk_at dksX0_tellsOrder_1 0 rfl rfl)
theorem dX0_tellsOrder_25 : decode cX0_tellsOrder 25 = .ok (.iconst 1, 1) := dk_4 (dk_at dksX0_tellsOrder_1 2 rfl rfl)
theorem dX0_tellsOrder_26 : decode cX0_tellsOrder 26 = .ok (.iload_n 1, 1) := dk_27 (dk_at dksX0_tellsOrder_1 3 rfl rfl)
theorem dX0_tellsOrder_27 : decode cX0_tellsOrder 27 = .ok (.i2l, 1) := dk_133 (dk_at dksX0_tellsOrder_1 4 rfl rfl)
theorem dX0_tellsOrder_28 : decode cX0_tellsOrder 28 = .ok (.lastore, 1) := dk_80 (dk_at dksX0_tellsOrder_1 5 rfl rfl)
theorem dX0_tellsOrder_29 : decode cX0_tellsOrder 29 = .ok (.aload 4, 2) := dk_25 4 (dk_at dksX0_tellsOrder_1 6 rfl rfl)
theorem dX0_tellsOrder_31 : decode cX0_tellsOrder 31 = .ok (.iconst 2, 1) := dk_5 (dk_at dksX0_tellsOrder_1 8 rfl rfl)
theorem dX0_tellsOrder_32 : decode cX0_tellsOrder 32 = .ok (.iload_n 2, 1) := dk_28 (dk_at dksX0_tellsOrder_1 9 rfl rfl)
theorem dX0_tellsOrder_33 : decode cX0_tellsOrder 33 = .ok (.i2l, 1) := dk_133 (dk_at dksX0_tellsOrder_1 10 rfl rfl)
theorem dX0_tellsOrder_34 : decode cX0_tellsOrder 34 = .ok (.lastore, 1) := dk_80 (dk_at dksX0_tellsOrder_1 11 rfl rfl)
theorem dX0_tellsOrder_35 : decode cX0_tellsOrder 35 = .ok (.aload 4, 2) := dk_25 4 (dk_at dksX0_tellsOrder_1 12 rfl rfl)
theorem dX0_tellsOrder_37 : decode cX0_tellsOrder 37 = .ok (.iconst 3, 1) := dk_6 (dk_at dksX0_tellsOrder_1 14 rfl rfl)
theorem dX0_tellsOrder_38 : decode cX0_tellsOrder 38 = .ok (.aload_n 0, 1) := dk_42 (dk_at dksX0_tellsOrder_1 15 rfl rfl)
theorem dX0_tellsOrder_39 : decode cX0_tellsOrder 39 = .ok (.aload_n 3, 1) := dk_45 (dk_at dksX0_tellsOrder_1 16 rfl rfl)
theorem dX0_tellsOrder_40 : decode cX0_tellsOrder 40 = .ok (.invokevirtual 482, 3) := dk_182 1 226 (dk_at dksX0_tellsOrder_1 17 rfl rfl)
theorem dX0_tellsOrder_43 : decode cX0_tellsOrder 43 = .ok (.i2l, 1) := dk_133 (dk_at dksX0_tellsOrder_1 20 rfl rfl)
theorem dX0_tellsOrder_44 : decode cX0_tellsOrder 44 = .ok (.lastore, 1) := dk_80 (dk_at dksX0_tellsOrder_1 21 rfl rfl)
theorem dX0_tellsOrder_45 : decode cX0_tellsOrder 45 = .ok (.iconst 0, 1) := dk_3 (dk_at dksX0_tellsOrder_1 22 rfl rfl)
theorem dX0_tellsOrder_46 : decode cX0_tellsOrder 46 = .ok (.istore 5, 2) := dk_54 5 (dk_at dksX0_tellsOrder_2 0 rfl rfl)
theorem dX0_tellsOrder_48 : decode cX0_tellsOrder 48 = .ok (.iload 5, 2) := dk_21 5 (dk_at dksX0_tellsOrder_2 2 rfl rfl)
theorem dX0_tellsOrder_50 : decode cX0_tellsOrder 50 = .ok (.bipush 6, 2) := dk_16 6 (dk_at dksX0_tellsOrder_2 4 rfl rfl)
theorem dX0_tellsOrder_52 : decode cX0_tellsOrder 52 = .ok (.if_icmp .ge 69, 3) := dk_162 0 69 (dk_at dksX0_tellsOrder_2 6 rfl rfl)
theorem dX0_tellsOrder_55 : decode cX0_tellsOrder 55 = .ok (.aload 4, 2) := dk_25 4 (dk_at dksX0_tellsOrder_2 9 rfl rfl)
theorem dX0_tellsOrder_57 : decode cX0_tellsOrder 57 = .ok (.iconst 4, 1) := dk_7 (dk_at dksX0_tellsOrder_2 11 rfl rfl)
theorem dX0_tellsOrder_58 : decode cX0_tellsOrder 58 = .ok (.iload 5, 2) := dk_21 5 (dk_at dksX0_tellsOrder_2 12 rfl rfl)
theorem dX0_tellsOrder_60 : decode cX0_tellsOrder 60 = .ok (.iadd, 1) := dk_96 (dk_at dksX0_tellsOrder_2 14 rfl rfl)
theorem dX0_tellsOrder_61 : decode cX0_tellsOrder 61 = .ok (.aload_n 0, 1) := dk_42 (dk_at dksX0_tellsOrder_2 15 rfl rfl)
theorem dX0_tellsOrder_62 : decode cX0_tellsOrder 62 = .ok (.iload 5, 2) := dk_21 5 (dk_at dksX0_tellsOrder_2 16 rfl rfl)
theorem dX0_tellsOrder_64 : decode cX0_tellsOrder 64 = .ok (.invokevirtual 173, 3) := dk_182 0 173 (dk_at dksX0_tellsOrder_2 18 rfl rfl)
theorem dX0_tellsOrder_67 : decode cX0_tellsOrder 67 = .ok (.ifCond .eq 14, 3) := dk_153 0 14 (dk_at dksX0_tellsOrder_2 21 rfl rfl)
theorem dX0_tellsOrder_70 : decode cX0_tellsOrder 70 = .ok (.aload_n 3, 1) := dk_45 (dk_at dksX0_tellsOrder_3 0 rfl rfl)
theorem dX0_tellsOrder_71 : decode cX0_tellsOrder 71 = .ok (.getfield 170, 3) := dk_180 0 170 (dk_at dksX0_tellsOrder_3 1 rfl rfl)
theorem dX0_tellsOrder_74 : decode cX0_tellsOrder 74 = .ok (.iload 5, 2) := dk_21 5 (dk_at dksX0_tellsOrder_3 4 rfl rfl)
theorem dX0_tellsOrder_76 : decode cX0_tellsOrder 76 = .ok (.iaload, 1) := dk_46 (dk_at dksX0_tellsOrder_3 6 rfl rfl)
theorem dX0_tellsOrder_77 : decode cX0_tellsOrder 77 = .ok (.i2l, 1) := dk_133 (dk_at dksX0_tellsOrder_3 7 rfl rfl)
theorem dX0_tellsOrder_78 : decode cX0_tellsOrder 78 = .ok (.goto 6, 3) := dk_167 0 6 (dk_at dksX0_tellsOrder_3 8 rfl rfl)
theorem dX0_tellsOrder_81 : decode cX0_tellsOrder 81 = .ok (.ldc2_w 305, 3) := dk_20 1 49 (dk_at dksX0_tellsOrder_3 11 rfl rfl)
theorem dX0_tellsOrder_84 : decode cX0_tellsOrder 84 = .ok (.lastore, 1) := dk_80 (dk_at dksX0_tellsOrder_3 14 rfl rfl)
theorem dX0_tellsOrder_85 : decode cX0_tellsOrder 85 = .ok (.aload 4, 2) := dk_25 4 (dk_at dksX0_tellsOrder_3 15 rfl rfl)
theorem dX0_tellsOrder_87 : decode cX0_tellsOrder 87 = .ok (.bipush 10, 2) := dk_16 10 (dk_at dksX0_tellsOrder_3 17 rfl rfl)
theorem dX0_tellsOrder_89 : decode cX0_tellsOrder 89 = .ok (.iload 5, 2) := dk_21 5 (dk_at dksX0_tellsOrder_3 19 rfl rfl)
theorem dX0_tellsOrder_91 : decode cX0_tellsOrder 91 = .ok (.iadd, 1) := dk_96 (dk_at dksX0_tellsOrder_3 21 rfl rfl)
theorem dX0_tellsOrder_92 : decode cX0_tellsOrder 92 = .ok (.aload_n 0, 1) := dk_42 (dk_at dksX0_tellsOrder_3 22 rfl rfl)
theorem dX0_tellsOrder_93 : decode cX0_tellsOrder 93 = .ok (.iload 5, 2) := dk_21 5 (dk_at dksX0_tellsOrder_4 0 rfl rfl)
theorem dX0_tellsOrder_95 : decode cX0_tellsOrder 95 = .ok (.invokevirtual 173, 3) := dk_182 0 173 (dk_at dksX0_tellsOrder_4 2 rfl rfl)
theorem dX0_tellsOrder_98 : decode cX0_tellsOrder 98 = .ok (.ifCond .eq 13, 3) := dk_153 0 13 (dk_at dksX0_tellsOrder_4 5 rfl rfl)
theorem dX0_tellsOrder_101 : decode cX0_tellsOrder 101 = .ok (.aload_n 3, 1) := dk_45 (dk_at dksX0_tellsOrder_4 8 rfl rfl)
theorem dX0_tellsOrder_102 : decode cX0_tellsOrder 102 = .ok (.iload 5, 2) := dk_21 5 (dk_at dksX0_tellsOrder_4 9 rfl rfl)
theorem dX0_tellsOrder_104 : decode cX0_tellsOrder 104 = .ok (.invokevirtual 181, 3) := dk_182 0 181 (dk_at dksX0_tellsOrder_4 11 rfl rfl)
theorem dX0_tellsOrder_107 : decode cX0_tellsOrder 107 = .ok (.i2l, 1) := dk_133 (dk_at dksX0_tellsOrder_4 14 rfl rfl)
theorem dX0_tellsOrder_108 : decode cX0_tellsOrder 108 = .ok (.goto 6, 3) := dk_167 0 6 (dk_at dksX0_tellsOrder_4 15 rfl rfl)
theorem dX0_tellsOrder_111 : decode cX0_tellsOrder 111 = .ok (.ldc2_w 305, 3) := dk_20 1 49 (dk_at dksX0_tellsOrder_4 18 rfl rfl)
theorem dX0_tellsOrder_114 : decode cX0_tellsOrder 114 = .ok (.lastore, 1) := dk_80 (dk_at dksX0_tellsOrder_4 21 rfl rfl)
theorem dX0_tellsOrder_115 : decode cX0_tellsOrder 115 = .ok (.iinc 5 1, 3) := dk_132 5 1 (dk_at dksX0_tellsOrder_5 0 rfl rfl)
theorem dX0_tellsOrder_118 : decode cX0_tellsOrder 118 = .ok (.goto (-70), 3) := dk_167 255 186 (dk_at dksX0_tellsOrder_5 3 rfl rfl)
theorem dX0_tellsOrder_121 : decode cX0_tellsOrder 121 = .ok (.return_, 1) := dk_177 (dk_at dksX0_tellsOrder_5 6 rfl rfl)
abbrev cX0_couples : ByteArray := prog_1_method_87_code
def yX0_couples : MethodName := ⟨RX0, "couples", "(LDowryBoxes$Table;)I"⟩
def dkwX0_couples_1 : List UInt8 := [4, 167, 0, 4, 3, 96, 61, 132, 3, 1, 167, 255, 226, 28, 172]
abbrev dktX0_couples_1 : List UInt8 := dkwX0_couples_1 ++ []
def dkwX0_couples_0 : List UInt8 := [3, 61, 3, 62, 29, 42, 180, 0, 39, 180, 0, 139, 162, 0, 25, 28, 43, 29, 182, 1, 70, 153, 0, 7]
abbrev dktX0_couples_0 : List UInt8 := dkwX0_couples_0 ++ dktX0_couples_1
theorem dksX0_couples_0 : cX0_couples.data.toList.drop 0 = dktX0_couples_0 := by decide +kernel
theorem dksX0_couples_1 : cX0_couples.data.toList.drop 24 = dktX0_couples_1 := dk_seg dksX0_couples_0 24 rfl rfl
theorem dX0_couples_0 : decode cX0_couples 0 = .ok (.iconst 0, 1) := dk_3 (dk_at dksX0_couples_0 0 rfl rfl)
theorem dX0_couples_1 : decode cX0_couples 1 = .ok (.istore_n 2, 1) := dk_61 (dk_at dksX0_couples_0 1 rfl rfl)
theorem dX0_couples_2 : decode cX0_couples 2 = .ok (.iconst 0, 1) := dk_3 (dk_at dksX0_couples_0 2 rfl rfl)
theorem dX0_couples_3 : decode cX0_couples 3 = .ok (.istore_n 3, 1) := dk_62 (dk_at dksX0_couples_0 3 rfl rfl)
theorem dX0_couples_4 : decode cX0_couples 4 = .ok (.iload_n 3, 1) := dk_29 (dk_at dksX0_couples_0 4 rfl rfl)
theorem dX0_couples_5 : decode cX0_couples 5 = .ok (.aload_n 0, 1) := dk_42 (dk_at dksX0_couples_0 5 rfl rfl)
theorem dX0_couples_6 : decode cX0_couples 6 = .ok (.getfield 39, 3) := dk_180 0 39 (dk_at dksX0_couples_0 6 rfl rfl)
theorem dX0_couples_9 : decode cX0_couples 9 = .ok (.getfield 139, 3) := dk_180 0 139 (dk_at dksX0_couples_0 9 rfl rfl)
theorem dX0_couples_12 : decode cX0_couples 12 = .ok (.if_icmp .ge 25, 3) := dk_162 0 25 (dk_at dksX0_couples_0 12 rfl rfl)
theorem dX0_couples_15 : decode cX0_couples 15 = .ok (.iload_n 2, 1) := dk_28 (dk_at dksX0_couples_0 15 rfl rfl)
theorem dX0_couples_16 : decode cX0_couples 16 = .ok (.aload_n 1, 1) := dk_43 (dk_at dksX0_couples_0 16 rfl rfl)
theorem dX0_couples_17 : decode cX0_couples 17 = .ok (.iload_n 3, 1) := dk_29 (dk_at dksX0_couples_0 17 rfl rfl)
theorem dX0_couples_18 : decode cX0_couples 18 = .ok (.invokevirtual 326, 3) := dk_182 1 70 (dk_at dksX0_couples_0 18 rfl rfl)
theorem dX0_couples_21 : decode cX0_couples 21 = .ok (.ifCond .eq 7, 3) := dk_153 0 7 (dk_at dksX0_couples_0 21 rfl rfl)
theorem dX0_couples_24 : decode cX0_couples 24 = .ok (.iconst 1, 1) := dk_4 (dk_at dksX0_couples_1 0 rfl rfl)
theorem dX0_couples_25 : decode cX0_couples 25 = .ok (.goto 4, 3) := dk_167 0 4 (dk_at dksX0_couples_1 1 rfl rfl)
theorem dX0_couples_28 : decode cX0_couples 28 = .ok (.iconst 0, 1) := dk_3 (dk_at dksX0_couples_1 4 rfl rfl)
theorem dX0_couples_29 : decode cX0_couples 29 = .ok (.iadd, 1) := dk_96 (dk_at dksX0_couples_1 5 rfl rfl)
theorem dX0_couples_30 : decode cX0_couples 30 = .ok (.istore_n 2, 1) := dk_61 (dk_at dksX0_couples_1 6 rfl rfl)
theorem dX0_couples_31 : decode cX0_couples 31 = .ok (.iinc 3 1, 3) := dk_132 3 1 (dk_at dksX0_couples_1 7 rfl rfl)
theorem dX0_couples_34 : decode cX0_couples 34 = .ok (.goto (-30), 3) := dk_167 255 226 (dk_at dksX0_couples_1 10 rfl rfl)
theorem dX0_couples_37 : decode cX0_couples 37 = .ok (.iload_n 2, 1) := dk_28 (dk_at dksX0_couples_1 13 rfl rfl)
theorem dX0_couples_38 : decode cX0_couples 38 = .ok (.ireturn, 1) := dk_172 (dk_at dksX0_couples_1 14 rfl rfl)
abbrev cX0_runs : ByteArray := prog_1_method_89_code
def yX0_runs : MethodName := ⟨RX0, "runs", "(LDowryBoxes$Order;)I"⟩
def dkwX0_runs_3 : List UInt8 := [29, 182, 1, 95, 167, 0, 9, 42, 28, 29, 182, 1, 98, 172]
abbrev dktX0_runs_3 : List UInt8 := dkwX0_runs_3 ++ []
def dkwX0_runs_2 : List UInt8 := [180, 1, 223, 42, 180, 0, 83, 184, 1, 217, 182, 1, 88, 172, 43, 180, 1, 210, 4, 160, 0, 12, 42, 28]
abbrev dktX0_runs_2 : List UInt8 := dkwX0_runs_2 ++ dktX0_runs_3
def dkwX0_runs_1 : List UInt8 := [61, 43, 180, 1, 220, 42, 180, 0, 83, 184, 1, 217, 62, 43, 180, 1, 210, 154, 0, 21, 42, 28, 29, 43]
abbrev dktX0_runs_1 : List UInt8 := dkwX0_runs_1 ++ dktX0_runs_2
def dkwX0_runs_0 : List UInt8 := [43, 180, 1, 210, 6, 160, 0, 8, 42, 182, 1, 101, 172, 43, 180, 1, 213, 42, 180, 0, 83, 184, 1, 217]
abbrev dktX0_runs_0 : List UInt8 := dkwX0_runs_0 ++ dktX0_runs_1
theorem dksX0_runs_0 : cX0_runs.data.toList.drop 0 = dktX0_runs_0 := by decide +kernel
theorem dksX0_runs_1 : cX0_runs.data.toList.drop 24 = dktX0_runs_1 := dk_seg dksX0_runs_0 24 rfl rfl
theorem dksX0_runs_2 : cX0_runs.data.toList.drop 48 = dktX0_runs_2 := dk_seg dksX0_runs_1 24 rfl rfl
theorem dksX0_runs_3 : cX0_runs.data.toList.drop 72 = dktX0_runs_3 := dk_seg dksX0_runs_2 24 rfl rfl
theorem dX0_runs_0 : decode cX0_runs 0 = .ok (.aload_n 1, 1) := dk_43 (dk_at dksX0_runs_0 0 rfl rfl)
theorem dX0_runs_1 : decode cX0_runs 1 = .ok (.getfield 466, 3) := dk_180 1 210 (dk_at dksX0_runs_0 1 rfl rfl)
theorem dX0_runs_4 : decode cX0_runs 4 = .ok (.iconst 3, 1) := dk_6 (dk_at dksX0_runs_0 4 rfl rfl)
theorem dX0_runs_5 : decode cX0_runs 5 = .ok (.if_icmp .ne 8, 3) := dk_160 0 8 (dk_at dksX0_runs_0 5 rfl rfl)
theorem dX0_runs_8 : decode cX0_runs 8 = .ok (.aload_n 0, 1) := dk_42 (dk_at dksX0_runs_0 8 rfl rfl)
theorem dX0_runs_9 : decode cX0_runs 9 = .ok (.invokevirtual 357, 3) := dk_182 1 101 (dk_at dksX0_runs_0 9 rfl rfl)
theorem dX0_runs_12 : decode cX0_runs 12 = .ok (.ireturn, 1) := dk_172 (dk_at dksX0_runs_0 12 rfl rfl)
theorem dX0_runs_13 : decode cX0_runs 13 = .ok (.aload_n 1, 1) := dk_43 (dk_at dksX0_runs_0 13 rfl rfl)
theorem dX0_runs_14 : decode cX0_runs 14 = .ok (.getfield 469, 3) := dk_180 1 213 (dk_at dksX0_runs_0 14 rfl rfl)
theorem dX0_runs_17 : decode cX0_runs 17 = .ok (.aload_n 0, 1) := dk_42 (dk_at dksX0_runs_0 17 rfl rfl)
theorem dX0_runs_18 : decode cX0_runs 18 = .ok (.getfield 83, 3) := dk_180 0 83 (dk_at dksX0_runs_0 18 rfl rfl)
theorem dX0_runs_21 : decode cX0_runs 21 = .ok (.invokestatic 473, 3) := dk_184 1 217 (dk_at dksX0_runs_0 21 rfl rfl)
theorem dX0_runs_24 : decode cX0_runs 24 = .ok (.istore_n 2, 1) := dk_61 (dk_at dksX0_runs_1 0 rfl rfl)
theorem dX0_runs_25 : decode cX0_runs 25 = .ok (.aload_n 1, 1) := dk_43 (dk_at dksX0_runs_1 1 rfl rfl)
theorem dX0_runs_26 : decode cX0_runs 26 = .ok (.getfield 476, 3) := dk_180 1 220 (dk_at dksX0_runs_1 2 rfl rfl)
theorem dX0_runs_29 : decode cX0_runs 29 = .ok (.aload_n 0, 1) := dk_42 (dk_at dksX0_runs_1 5 rfl rfl)
theorem dX0_runs_30 : decode cX0_runs 30 = .ok (.getfield 83, 3) := dk_180 0 83 (dk_at dksX0_runs_1 6 rfl rfl)
theorem dX0_runs_33 : decode cX0_runs 33 = .ok (.invokestatic 473, 3) := dk_184 1 217 (dk_at dksX0_runs_1 9 rfl rfl)
theorem dX0_runs_36 : decode cX0_runs 36 = .ok (.istore_n 3, 1) := dk_62 (dk_at dksX0_runs_1 12 rfl rfl)
theorem dX0_runs_37 : decode cX0_runs 37 = .ok (.aload_n 1, 1) := dk_43 (dk_at dksX0_runs_1 13 rfl rfl)
theorem dX0_runs_38 : decode cX0_runs 38 = .ok (.getfield 466, 3) := dk_180 1 210 (dk_at dksX0_runs_1 14 rfl rfl)
theorem dX0_runs_41 : decode cX0_runs 41 = .ok (.ifCond .ne 21, 3) := dk_154 0 21 (dk_at dksX0_runs_1 17 rfl rfl)
theorem dX0_runs_44 : decode cX0_runs 44 = .ok (.aload_n 0, 1) := dk_42 (dk_at dksX0_runs_1 20 rfl rfl)
theorem dX0_runs_45 : decode cX0_runs 45 = .ok (.iload_n 2, 1) := dk_28 (dk_at dksX0_runs_1 21 rfl rfl)
theorem dX0_runs_46 : decode cX0_runs 46 = .ok (.iload_n 3, 1) := dk_29 (dk_at dksX0_runs_1 22 rfl rfl)
theorem dX0_runs_47 : decode cX0_runs 47 = .ok (.aload_n 1, 1) := dk_43 (dk_at dksX0_runs_1 23 rfl rfl)
theorem dX0_runs_48 : decode cX0_runs 48 = .ok (.getfield 479, 3) := dk_180 1 223 (dk_at dksX0_runs_2 0 rfl rfl)
theorem dX0_runs_51 : decode cX0_runs 51 = .ok (.aload_n 0, 1) := dk_42 (dk_at dksX0_runs_2 3 rfl rfl)
theorem dX0_runs_52 : decode cX0_runs 52 = .ok (.getfield 83, 3) := dk_180 0 83 (dk_at dksX0_runs_2 4 rfl rfl)
theorem dX0_runs_55 : decode cX0_runs 55 = .ok (.invokestatic 473, 3) := dk_184 1 217 (dk_at dksX0_runs_2 7 rfl rfl)
theorem dX0_runs_58 : decode cX0_runs 58 = .ok (.invokevirtual 344, 3) := dk_182 1 88 (dk_at dksX0_runs_2 10 rfl rfl)
theorem dX0_runs_61 : decode cX0_runs 61 = .ok (.ireturn, 1) := dk_172 (dk_at dksX0_runs_2 13 rfl rfl)
theorem dX0_runs_62 : decode cX0_runs 62 = .ok (.aload_n 1, 1) := dk_43 (dk_at dksX0_runs_2 14 rfl rfl)
theorem dX0_runs_63 : decode cX0_runs 63 = .ok (.getfield 466, 3) := dk_180 1 210 (dk_at dksX0_runs_2 15 rfl rfl)
theorem dX0_runs_66 : decode cX0_runs 66 = .ok (.iconst 1, 1) := dk_4 (dk_at dksX0_runs_2 18 rfl rfl)
theorem dX0_runs_67 : decode cX0_runs 67 = .ok (.if_icmp .ne 12, 3) := dk_160 0 12 (dk_at dksX0_runs_2 19 rfl rfl)
theorem dX0_runs_70 : decode cX0_runs 70 = .ok (.aload_n 0, 1) := dk_42 (dk_at dksX0_runs_2 22 rfl rfl)
theorem dX0_runs_71 : decode cX0_runs 71 = .ok (.iload_n 2, 1) := dk_28 (dk_at dksX0_runs_2 23 rfl rfl)
theorem dX0_runs_72 : decode cX0_runs 72 = .ok (.iload_n 3, 1) := dk_29 (dk_at dksX0_runs_3 0 rfl rfl)
theorem dX0_runs_73 : decode cX0_runs 73 = .ok (.invokevirtual 351, 3) := dk_182 1 95 (dk_at dksX0_runs_3 1 rfl rfl)
theorem dX0_runs_76 : decode cX0_runs 76 = .ok (.goto 9, 3) := dk_167 0 9 (dk_at dksX0_runs_3 4 rfl rfl)
theorem dX0_runs_79 : decode cX0_runs 79 = .ok (.aload_n 0, 1) := dk_42 (dk_at dksX0_runs_3 7 rfl rfl)
theorem dX0_runs_80 : decode cX0_runs 80 = .ok (.iload_n 2, 1) := dk_28 (dk_at dksX0_runs_3 8 rfl rfl)
theorem dX0_runs_81 : decode cX0_runs 81 = .ok (.iload_n 3, 1) := dk_29 (dk_at dksX0_runs_3 9 rfl rfl)
theorem dX0_runs_82 : decode cX0_runs 82 = .ok (.invokevirtual 354, 3) := dk_182 1 98 (dk_at dksX0_runs_3 10 rfl rfl)
theorem dX0_runs_85 : decode cX0_runs 85 = .ok (.ireturn, 1) := dk_172 (dk_at dksX0_runs_3 13 rfl rfl)
abbrev cX0_putsBack : ByteArray := prog_1_method_90_code
def yX0_putsBack : MethodName := ⟨RX0, "putsBack", "(I)V"⟩
def dkwX0_putsBack_2 : List UInt8 := [3, 16, 16, 184, 1, 172, 42, 27, 181, 0, 133, 177]
abbrev dktX0_putsBack_2 : List UInt8 := dkwX0_putsBack_2 ++ []
def dkwX0_putsBack_1 : List UInt8 := [42, 180, 0, 53, 28, 50, 182, 1, 75, 132, 2, 1, 167, 255, 233, 42, 180, 0, 59, 3, 42, 180, 0, 56]
abbrev dktX0_putsBack_1 : List UInt8 := dkwX0_putsBack_1 ++ dktX0_putsBack_2
def dkwX0_putsBack_0 : List UInt8 := [42, 182, 0, 155, 42, 180, 0, 63, 182, 1, 75, 3, 61, 28, 27, 162, 0, 24, 42, 180, 0, 49, 28, 50]
abbrev dktX0_putsBack_0 : List UInt8 := dkwX0_putsBack_0 ++ dktX0_putsBack_1
theorem dksX0_putsBack_0 : cX0_putsBack.data.toList.drop 0 = dktX0_putsBack_0 := by decide +kernel
theorem dksX0_putsBack_1 : cX0_putsBack.data.toList.drop 24 = dktX0_putsBack_1 := dk_seg dksX0_putsBack_0 24 rfl rfl
theorem dksX0_putsBack_2 : cX0_putsBack.data.toList.drop 48 = dktX0_putsBack_2 := dk_seg dksX0_putsBack_1 24 rfl rfl
theorem dX0_putsBack_0 : decode cX0_putsBack 0 = .ok (.aload_n 0, 1) := dk_42 (dk_at dksX0_putsBack_0 0 rfl rfl)
theorem dX0_putsBack_1 : decode cX0_putsBack 1 = .ok (.invokevirtual 155, 3) := dk_182 0 155 (dk_at dksX0_putsBack_0 1 rfl rfl)
theorem dX0_putsBack_4 : decode cX0_putsBack 4 = .ok (.aload_n 0, 1) := dk_42 (dk_at dksX0_putsBack_0 4 rfl rfl)
theorem dX0_putsBack_5 : decode cX0_putsBack 5 = .ok (.getfield 63, 3) := dk_180 0 63 (dk_at dksX0_putsBack_0 5 rfl rfl)
theorem dX0_putsBack_8 : decode cX0_putsBack 8 = .ok (.invokevirtual 331, 3) := dk_182 1 75 (dk_at dksX0_putsBack_0 8 rfl rfl)
theorem dX0_putsBack_11 : decode cX0_putsBack 11 = .ok (.iconst 0, 1) := dk_3 (dk_at dksX0_putsBack_0 11 rfl rfl)
theorem dX0_putsBack_12 : decode cX0_putsBack 12 = .ok (.istore_n 2, 1) := dk_61 (dk_at dksX0_putsBack_0 12 rfl rfl)
theorem dX0_putsBack_13 : decode cX0_putsBack 13 = .ok (.iload_n 2, 1) := dk_28 (dk_at dksX0_putsBack_0 13 rfl rfl)
theorem dX0_putsBack_14 : decode cX0_putsBack 14 = .ok (.iload_n 1, 1) := dk_27 (dk_at dksX0_putsBack_0 14 rfl rfl)
theorem dX0_putsBack_15 : decode cX0_putsBack 15 = .ok (.if_icmp .ge 24, 3) := dk_162 0 24 (dk_at dksX0_putsBack_0 15 rfl rfl)
theorem dX0_putsBack_18 : decode cX0_putsBack 18 = .ok (.aload_n 0, 1) := dk_42 (dk_at dksX0_putsBack_0 18 rfl rfl)
theorem dX0_putsBack_19 : decode cX0_putsBack 19 = .ok (.getfield 49, 3) := dk_180 0 49 (dk_at dksX0_putsBack_0 19 rfl rfl)
theorem dX0_putsBack_22 : decode cX0_putsBack 22 = .ok (.iload_n 2, 1) := dk_28 (dk_at dksX0_putsBack_0 22 rfl rfl)
theorem dX0_putsBack_23 : decode cX0_putsBack 23 = .ok (.aaload, 1) := dk_50 (dk_at dksX0_putsBack_0 23 rfl rfl)
theorem dX0_putsBack_24 : decode cX0_putsBack 24 = .ok (.aload_n 0, 1) := dk_42 (dk_at dksX0_putsBack_1 0 rfl rfl)
theorem dX0_putsBack_25 : decode cX0_putsBack 25 = .ok (.getfield 53, 3) := dk_180 0 53 (dk_at dksX0_putsBack_1 1 rfl rfl)
theorem dX0_putsBack_28 : decode cX0_putsBack 28 = .ok (.iload_n 2, 1) := dk_28 (dk_at dksX0_putsBack_1 4 rfl rfl)
theorem dX0_putsBack_29 : decode cX0_putsBack 29 = .ok (.aaload, 1) := dk_50 (dk_at dksX0_putsBack_1 5 rfl rfl)
theorem dX0_putsBack_30 : decode cX0_putsBack 30 = .ok (.invokevirtual 331, 3) := dk_182 1 75 (dk_at dksX0_putsBack_1 6 rfl rfl)
theorem dX0_putsBack_33 : decode cX0_putsBack 33 = .ok (.iinc 2 1, 3) := dk_132 2 1 (dk_at dksX0_putsBack_1 9 rfl rfl)
theorem dX0_putsBack_36 : decode cX0_putsBack 36 = .ok (.goto (-23), 3) := dk_167 255 233 (dk_at dksX0_putsBack_1 12 rfl rfl)
theorem dX0_putsBack_39 : decode cX0_putsBack 39 = .ok (.aload_n 0, 1) := dk_42 (dk_at dksX0_putsBack_1 15 rfl rfl)
theorem dX0_putsBack_40 : decode cX0_putsBack 40 = .ok (.getfield 59, 3) := dk_180 0 59 (dk_at dksX0_putsBack_1 16 rfl rfl)
theorem dX0_putsBack_43 : decode cX0_putsBack 43 = .ok (.iconst 0, 1) := dk_3 (dk_at dksX0_putsBack_1 19 rfl rfl)
theorem dX0_putsBack_44 : decode cX0_putsBack 44 = .ok (.aload_n 0, 1) := dk_42 (dk_at dksX0_putsBack_1 20 rfl rfl)
theorem dX0_putsBack_45 : decode cX0_putsBack 45 = .ok (.getfield 56, 3) := dk_180 0 56 (dk_at dksX0_putsBack_1 21 rfl rfl)
theorem dX0_putsBack_48 : decode cX0_putsBack 48 = .ok (.iconst 0, 1) := dk_3 (dk_at dksX0_putsBack_2 0 rfl rfl)
theorem dX0_putsBack_49 : decode cX0_putsBack 49 = .ok (.bipush 16, 2) := dk_16 16 (dk_at dksX0_putsBack_2 1 rfl rfl)
theorem dX0_putsBack_51 : decode cX0_putsBack 51 = .ok (.invokestatic 428, 3) := dk_184 1 172 (dk_at dksX0_putsBack_2 3 rfl rfl)
theorem dX0_putsBack_54 : decode cX0_putsBack 54 = .ok (.aload_n 0, 1) := dk_42 (dk_at dksX0_putsBack_2 6 rfl rfl)
theorem dX0_putsBack_55 : decode cX0_putsBack 55 = .ok (.iload_n 1, 1) := dk_27 (dk_at dksX0_putsBack_2 7 rfl rfl)
theorem dX0_putsBack_56 : decode cX0_putsBack 56 = .ok (.putfield 133, 3) := dk_181 0 133 (dk_at dksX0_putsBack_2 8 rfl rfl)
theorem dX0_putsBack_59 : decode cX0_putsBack 59 = .ok (.return_, 1) := dk_177 (dk_at dksX0_putsBack_2 11 rfl rfl)
abbrev cX0_generations : ByteArray := prog_1_method_93_code
def yX0_generations : MethodName := ⟨RX0, "generations", "(II)I"⟩
def dkwX0_generations_9 : List UInt8 := [54, 4, 132, 5, 1, 167, 255, 118, 42, 21, 4, 182, 0, 136, 172]
abbrev dktX0_generations_9 : List UInt8 := dkwX0_generations_9 ++ []
def dkwX0_generations_8 : List UInt8 := [21, 6, 3, 45, 180, 0, 164, 21, 6, 46, 4, 100, 184, 1, 73, 79, 21, 4, 42, 45, 182, 1, 84, 96]
abbrev dktX0_generations_8 : List UInt8 := dkwX0_generations_8 ++ dktX0_generations_9
def dkwX0_generations_7 : List UInt8 := [45, 180, 0, 161, 21, 6, 92, 46, 4, 21, 8, 120, 128, 79, 21, 9, 5, 160, 0, 23, 45, 180, 0, 164]
abbrev dktX0_generations_7 : List UInt8 := dkwX0_generations_7 ++ dktX0_generations_8
def dkwX0_generations_6 : List UInt8 := [16, 8, 21, 6, 104, 21, 7, 96, 92, 46, 4, 21, 8, 120, 2, 130, 126, 79, 21, 9, 4, 160, 0, 17]
abbrev dktX0_generations_6 : List UInt8 := dkwX0_generations_6 ++ dktX0_generations_7
def dkwX0_generations_5 : List UInt8 := [42, 16, 8, 182, 1, 238, 54, 8, 42, 6, 182, 1, 238, 54, 9, 21, 9, 154, 0, 25, 45, 180, 0, 158]
abbrev dktX0_generations_5 : List UInt8 := dkwX0_generations_5 ++ dktX0_generations_6
def dkwX0_generations_4 : List UInt8 := [162, 0, 128, 42, 42, 180, 0, 39, 180, 0, 139, 182, 1, 238, 54, 6, 42, 16, 8, 182, 1, 238, 54, 7]
abbrev dktX0_generations_4 : List UInt8 := dkwX0_generations_4 ++ dktX0_generations_5
def dkwX0_generations_3 : List UInt8 := [182, 1, 75, 3, 54, 4, 3, 54, 5, 21, 5, 28, 162, 0, 138, 45, 180, 0, 227, 17, 3, 231]
abbrev dktX0_generations_3 : List UInt8 := dkwX0_generations_3 ++ dktX0_generations_4
def dkwX0_generations_2 : List UInt8 := [181, 1, 229, 42, 42, 180, 0, 39, 180, 0, 139, 181, 0, 127, 42, 180, 0, 124, 78, 45, 42, 182, 0, 155]
abbrev dktX0_generations_2 : List UInt8 := dkwX0_generations_2 ++ dktX0_generations_3
def dkwX0_generations_1 : List UInt8 := [182, 0, 145, 172, 42, 180, 0, 39, 180, 0, 139, 154, 0, 10, 42, 16, 253, 182, 0, 145, 172, 42, 27]
abbrev dktX0_generations_1 : List UInt8 := dkwX0_generations_1 ++ dktX0_generations_2
def dkwX0_generations_0 : List UInt8 := [27, 3, 19, 1, 116, 184, 0, 26, 153, 0, 13, 28, 4, 16, 60, 184, 0, 26, 154, 0, 9, 42, 2]
abbrev dktX0_generations_0 : List UInt8 := dkwX0_generations_0 ++ dktX0_generations_1
theorem dksX0_generations_0 : cX0_generations.data.toList.drop 0 = dktX0_generations_0 := by decide +kernel
theorem dksX0_generations_1 : cX0_generations.data.toList.drop 23 = dktX0_generations_1 := dk_seg dksX0_generations_0 23 rfl rfl
theorem dksX0_generations_2 : cX0_generations.data.toList.drop 46 = dktX0_generations_2 := dk_seg dksX0_generations_1 23 rfl rfl
theorem dksX0_generations_3 : cX0_generations.data.toList.drop 70 = dktX0_generations_3 := dk_seg dksX0_generations_2 24 rfl rfl
theorem dksX0_generations_4 : cX0_generations.data.toList.drop 92 = dktX0_generations_4 := dk_seg dksX0_generations_3 22 rfl rfl
theorem dksX0_generations_5 : cX0_generations.data.toList.drop 116 = dktX0_generations_5 := dk_seg dksX0_generations_4 24 rfl rfl
theorem dksX0_generations_6 : cX0_generations.data.toList.drop 140 = dktX0_generations_6 := dk_seg dksX0_generations_5 24 rfl rfl
theorem dksX0_generations_7 : cX0_generations.data.toList.drop 164 = dktX0_generations_7 := dk_seg dksX0_generations_6 24 rfl rfl
theorem dksX0_generations_8 : cX0_generations.data.toList.drop 188 = dktX0_generations_8 := dk_seg dksX0_generations_7 24 rfl rfl
theorem dksX0_generations_9 : cX0_generations.data.toList.drop 212 = dktX0_generations_9 := dk_seg dksX0_generations_8 24 rfl rfl
theorem dX0_generations_0 : decode cX0_generations 0 = .ok (.iload_n 1, 1) := dk_27 (dk_at dksX0_generations_0 0 rfl rfl)
theorem dX0_generations_1 : decode cX0_generations 1 = .ok (.iconst 0, 1) := dk_3 (dk_at dksX0_generations_0 1 rfl rfl)
theorem dX0_generations_2 : decode cX0_generations 2 = .ok (.ldc_w 372, 3) := dk_19 1 116 (dk_at dksX0_generations_0 2 rfl rfl)
theorem dX0_generations_5 : decode cX0_generations 5 = .ok (.invokestatic 26, 3) := dk_184 0 26 (dk_at dksX0_generations_0 5 rfl rfl)
theorem dX0_generations_8 : decode cX0_generations 8 = .ok (.ifCond .eq 13, 3) := dk_153 0 13 (dk_at dksX0_generations_0 8 rfl rfl)
theorem dX0_generations_11 : decode cX0_generations 11 = .ok (.iload_n 2, 1) := dk_28 (dk_at dksX0_generations_0 11 rfl rfl)
theorem dX0_generations_12 : decode cX0_generations 12 = .ok (.iconst 1, 1) := dk_4 (dk_at dksX0_generations_0 12 rfl rfl)
theorem dX0_generations_13 : decode cX0_generations 13 = .ok (.bipush 60, 2) := dk_16 60 (dk_at dksX0_generations_0 13 rfl rfl)
theorem dX0_generations_15 : decode cX0_generations 15 = .ok (.invokestatic 26, 3) := dk_184 0 26 (dk_at dksX0_generations_0 15 rfl rfl)
theorem dX0_generations_18 : decode cX0_generations 18 = .ok (.ifCond .ne 9, 3) := dk_154 0 9 (dk_at dksX0_generations_0 18 rfl rfl)
theorem dX0_generations_21 : decode cX0_generations 21 = .ok (.aload_n 0, 1) := dk_42 (dk_at dksX0_generations_0 21 rfl rfl)
theorem dX0_generations_22 : decode cX0_generations 22 = .ok (.iconst (-1), 1) := dk_2 (dk_at dksX0_generations_0 22 rfl rfl)
theorem dX0_generations_23 : decode cX0_generations 23 = .ok (.invokevirtual 145, 3) := dk_182 0 145 (dk_at dksX0_generations_1 0 rfl rfl)
theorem dX0_generations_26 : decode cX0_generations 26 = .ok (.ireturn, 1) := dk_172 (dk_at dksX0_generations_1 3 rfl rfl)
theorem dX0_generations_27 : decode cX0_generations 27 = .ok (.aload_n 0, 1) := dk_42 (dk_at dksX0_generations_1 4 rfl rfl)
theorem dX0_generations_28 : decode cX0_generations 28 = .ok (.getfield 39, 3) := dk_180 0 39 (dk_at dksX0_generations_1 5 rfl rfl)
theorem dX0_generations_31 : decode cX0_generations 31 = .ok (.getfield 139, 3) := dk_180 0 139 (dk_at dksX0_generations_1 8 rfl rfl)
theorem dX0_generations_34 : decode cX0_generations 34 = .ok (.ifCond .ne 10, 3) := dk_154 0 10 (dk_at dksX0_generations_1 11 rfl rfl)
theorem dX0_generations_37 : decode cX0_generations 37 = .ok (.aload_n 0, 1) := dk_42 (dk_at dksX0_generations_1 14 rfl rfl)
theorem dX0_generations_38 : decode cX0_generations 38 = .ok (.bipush (-3), 2) := dk_16 253 (dk_at dksX0_generations_1 15 rfl rfl)
theorem dX0_generations_40 : decode cX0_generations 40 = .ok (.invokevirtual 145, 3) := dk_182 0 145 (dk_at dksX0_generations_1 17 rfl rfl)
theorem dX0_generations_43 : decode cX0_generations 43 = .ok (.ireturn, 1) := dk_172 (dk_at dksX0_generations_1 20 rfl rfl)
theorem dX0_generations_44 : decode cX0_generations 44 = .ok (.aload_n 0, 1) := dk_42 (dk_at dksX0_generations_1 21 rfl rfl)
theorem dX0_generations_45 : decode cX0_generations 45 = .ok (.iload_n 1, 1) := dk_27 (dk_at dksX0_generations_1 22 rfl rfl)
theorem dX0_generations_46 : decode cX0_generations 46 = .ok (.putfield 485, 3) := dk_181 1 229 (dk_at dksX0_generations_2 0 rfl rfl)
theorem dX0_generations_49 : decode cX0_generations 49 = .ok (.aload_n 0, 1) := dk_42 (dk_at dksX0_generations_2 3 rfl rfl)
theorem dX0_generations_50 : decode cX0_generations 50 = .ok (.aload_n 0, 1) := dk_42 (dk_at dksX0_generations_2 4 rfl rfl)
theorem dX0_generations_51 : decode cX0_generations 51 = .ok (.getfield 39, 3) := dk_180 0 39 (dk_at dksX0_generations_2 5 rfl rfl)
theorem dX0_generations_54 : decode cX0_generations 54 = .ok (.getfield 139, 3) := dk_180 0 139 (dk_at dksX0_generations_2 8 rfl rfl)
theorem dX0_generations_57 : decode cX0_generations 57 = .ok (.putfield 127, 3) := dk_181 0 127 (dk_at dksX0_generations_2 11 rfl rfl)
theorem dX0_generations_60 : decode cX0_generations 60 = .ok (.aload_n 0, 1) := dk_42 (dk_at dksX0_generations_2 14 rfl rfl)
theorem dX0_generations_61 : decode cX0_generations 61 = .ok (.getfield 124, 3) := dk_180 0 124 (dk_at dksX0_generations_2 15 rfl rfl)
theorem dX0_generations_64 : decode cX0_generations 64 = .ok (.astore_n 3, 1) := dk_78 (dk_at dksX0_generations_2 18 rfl rfl)
theorem dX0_generations_65 : decode cX0_generations 65 = .ok (.aload_n 3, 1) := dk_45 (dk_at dksX0_generations_2 19 rfl rfl)
theorem dX0_generations_66 : decode cX0_generations 66 = .ok (.aload_n 0, 1) := dk_42 (dk_at dksX0_generations_2 20 rfl rfl)
theorem dX0_generations_67 : decode cX0_generations 67 = .ok (.invokevirtual 155, 3) := dk_182 0 155 (dk_at dksX0_generations_2 21 rfl rfl)
theorem dX0_generations_70 : decode cX0_generations 70 = .ok (.invokevirtual 331, 3) := dk_182 1 75 (dk_at dksX0_generations_3 0 rfl rfl)
theorem dX0_generations_73 : decode cX0_generations 73 = .ok (.iconst 0, 1) := dk_3 (dk_at dksX0_generations_3 3 rfl rfl)
theorem dX0_generations_74 : decode cX0_generations 74 = .ok (.istore 4, 2) := dk_54 4 (dk_at dksX0_generations_3 4 rfl rfl)
theorem dX0_generations_76 : decode cX0_generations 76 = .ok (.iconst 0, 1) := dk_3 (dk_at dksX0_generations_3 6 rfl rfl)
theorem dX0_generations_77 : decode cX0_generations 77 = .ok (.istore 5, 2) := dk_54 5 (dk_at dksX0_generations_3 7 rfl rfl)
theorem dX0_generations_79 : decode cX0_generations 79 = .ok (.iload 5, 2) := dk_21 5 (dk_at dksX0_generations_3 9 rfl rfl)
theorem dX0_generations_81 : decode cX0_generations 81 = .ok (.iload_n 2, 1) := dk_28 (dk_at dksX0_generations_3 11 rfl rfl)
theorem dX0_generations_82 : decode cX0_generations 82 = .ok (.if_icmp .ge 138, 3) := dk_162 0 138 (dk_at dksX0_generations_3 12 rfl rfl)
theorem dX0_generations_85 : decode cX0_generations 85 = .ok (.aload_n 3, 1) := dk_45 (dk_at dksX0_generations_3 15 rfl rfl)
theorem dX0_generations_86 : decode cX0_generations 86 = .ok (.getfield 227, 3) := dk_180 0 227 (dk_at dksX0_generations_3 16 rfl rfl)
theorem dX0_generations_89 : decode cX0_generations 89 = .ok (.sipush 999, 3) := dk_17 3 231 (dk_at dksX0_generations_3 19 rfl rfl)
theorem dX0_generations_92 : decode cX0_generations 92 = .ok (.if_icmp .ge 128, 3) := dk_162 0 128 (dk_at dksX0_generations_4 0 rfl rfl)
theorem dX0_generations_95 : decode cX0_generations 95 = .ok (.aload_n 0, 1) := dk_42 (dk_at dksX0_generations_4 3 rfl rfl)
theorem dX0_generations_96 : decode cX0_generations 96 = .ok (.aload_n 0, 1) := dk_42 (dk_at dksX0_generations_4 4 rfl rfl)
theorem dX0_generations_97 : decode cX0_generations 97 = .ok (.getfield 39, 3) := dk_180 0 39 (dk_at dksX0_generations_4 5 rfl rfl)
theorem dX0_generations_100 : decode cX0_generations 100 = .ok (.getfield 139, 3) := dk_180 0 139 (dk_at dksX0_generations_4 8 rfl rfl)
theorem dX0_generations_103 : decode cX0_generations 103 = .ok (.invokevirtual 494, 3) := dk_182 1 238 (dk_at dksX0_generations_4 11 rfl rfl)
theorem dX0_generations_106 : decode cX0_generations 106 = .ok (.istore 6, 2) := dk_54 6 (dk_at dksX0_generations_4 14 rfl rfl)
theorem dX0_generations_108 : decode cX0_generations 108 = .ok (.aload_n 0, 1) := dk_42 (dk_at dksX0_generations_4 16 rfl rfl)
theorem dX0_generations_109 : decode cX0_generations 109 = .ok (.bipush 8, 2) := dk_16 8 (dk_at dksX0_generations_4 17 rfl rfl)
theorem dX0_generations_111 : decode cX0_generations 111 = .ok (.invokevirtual 494, 3) := dk_182 1 238 (dk_at dksX0_generations_4 19 rfl rfl)
theorem dX0_generations_114 : decode cX0_generations 114 = .ok (.istore 7, 2) := dk_54 7 (dk_at dksX0_generations_4 22 rfl rfl)
theorem dX0_generations_116 : decode cX0_generations 116 = .ok (.aload_n 0, 1) := dk_42 (dk_at dksX0_generations_5 0 rfl rfl)
theorem dX0_generations_117 : decode cX0_generations 117 = .ok (.bipush 8, 2) := dk_16 8 (dk_at dksX0_generations_5 1 rfl rfl)
theorem dX0_generations_119 : decode cX0_generations 119 = .ok (.invokevirtual 494, 3) := dk_182 1 238 (dk_at dksX0_generations_5 3 rfl rfl)
theorem dX0_generations_122 : decode cX0_generations 122 = .ok (.istore 8, 2) := dk_54 8 (dk_at dksX0_generations_5 6 rfl rfl)
theorem dX0_generations_124 : decode cX0_generations 124 = .ok (.aload_n 0, 1) := dk_42 (dk_at dksX0_generations_5 8 rfl rfl)
theorem dX0_generations_125 : decode cX0_generations 125 = .ok (.iconst 3, 1) := dk_6 (dk_at dksX0_generations_5 9 rfl rfl)
theorem dX0_generations_126 : decode cX0_generations 126 = .ok (.invokevirtual 494, 3) := dk_182 1 238 (dk_at dksX0_generations_5 10 rfl rfl)
theorem dX0_generations_129 : decode cX0_generations 129 = .ok (.istore 9, 2) := dk_54 9 (dk_at dksX0_generations_5 13 rfl rfl)
theorem dX0_generations_131 : decode cX0_generations 131 = .ok (.iload 9, 2) := dk_21 9 (dk_at dksX0_generations_5 15 rfl rfl)
theorem dX0_generations_133 : decode cX0_generations 133 = .ok (.ifCond .ne 25, 3) := dk_154 0 25 (dk_at dksX0_generations_5 17 rfl rfl)
theorem dX0_generations_136 : decode cX0_generations 136 = .ok (.aload_n 3, 1) := dk_45 (dk_at dksX0_generations_5 20 rfl rfl)
theorem dX0_generations_137 : decode cX0_generations 137 = .ok (.getfield 158, 3) := dk_180 0 158 (dk_at dksX0_generations_5 21 rfl rfl)
theorem dX0_generations_140 : decode cX0_generations 140 = .ok (.bipush 8, 2) := dk_16 8 (dk_at dksX0_generations_6 0 rfl rfl)
theorem dX0_generations_142 : decode cX0_generations 142 = .ok (.iload 6, 2) := dk_21 6 (dk_at dksX0_generations_6 2 rfl rfl)
theorem dX0_generations_144 : decode cX0_generations 144 = .ok (.imul, 1) := dk_104 (dk_at dksX0_generations_6 4 rfl rfl)
theorem dX0_generations_145 : decode cX0_generations 145 = .ok (.iload 7, 2) := dk_21 7 (dk_at dksX0_generations_6 5 rfl rfl)
theorem dX0_generations_147 : decode cX0_generations 147 = .ok (.iadd, 1) := dk_96 (dk_at dksX0_generations_6 7 rfl rfl)
theorem dX0_generations_148 : decode cX0_generations 148 = .ok (.dup2, 1) := dk_92 (dk_at dksX0_generations_6 8 rfl rfl)
theorem dX0_generations_149 : decode cX0_generations 149 = .ok (.iaload, 1) := dk_46 (dk_at dksX0_generations_6 9 rfl rfl)
theorem dX0_generations_150 : decode cX0_generations 150 = .ok (.iconst 1, 1) := dk_4 (dk_at dksX0_generations_6 10 rfl rfl)
theorem dX0_generations_151 : decode cX0_generations 151 = .ok (.iload 8, 2) := dk_21 8 (dk_at dksX0_generations_6 11 rfl rfl)
theorem dX0_generations_153 : decode cX0_generations 153 = .ok (.ishl, 1) := dk_120 (dk_at dksX0_generations_6 13 rfl rfl)
theorem dX0_generations_154 : decode cX0_generations 154 = .ok (.iconst (-1), 1) := dk_2 (dk_at dksX0_generations_6 14 rfl rfl)
theorem dX0_generations_155 : decode cX0_generations 155 = .ok (.ixor, 1) := dk_130 (dk_at dksX0_generations_6 15 rfl rfl)
theorem dX0_generations_156 : decode cX0_generations 156 = .ok (.iand, 1) := dk_126 (dk_at dksX0_generations_6 16 rfl rfl)
theorem dX0_generations_157 : decode cX0_generations 157 = .ok (.iastore, 1) := dk_79 (dk_at dksX0_generations_6 17 rfl rfl)
theorem dX0_generations_158 : decode cX0_generations 158 = .ok (.iload 9, 2) := dk_21 9 (dk_at dksX0_generations_6 18 rfl rfl)
theorem dX0_generations_160 : decode cX0_generations 160 = .ok (.iconst 1, 1) := dk_4 (dk_at dksX0_generations_6 20 rfl rfl)
theorem dX0_generations_161 : decode cX0_generations 161 = .ok (.if_icmp .ne 17, 3) := dk_160 0 17 (dk_at dksX0_generations_6 21 rfl rfl)
theorem dX0_generations_164 : decode cX0_generations 164 = .ok (.aload_n 3, 1) := dk_45 (dk_at dksX0_generations_7 0 rfl rfl)
theorem dX0_generations_165 : decode cX0_generations 165 = .ok (.getfield 161, 3) := dk_180 0 161 (dk_at dksX0_generations_7 1 rfl rfl)
theorem dX0_generations_168 : decode cX0_generations 168 = .ok (.iload 6, 2) := dk_21 6 (dk_at dksX0_generations_7 4 rfl rfl)
theorem dX0_generations_170 : decode cX0_generations 170 = .ok (.dup2, 1) := dk_92 (dk_at dksX0_generations_7 6 rfl rfl)
theorem dX0_generations_171 : decode cX0_generations 171 = .ok (.iaload, 1) := dk_46 (dk_at dksX0_generations_7 7 rfl rfl)
theorem dX0_generations_172 : decode cX0_generations 172 = .ok (.iconst 1, 1) := dk_4 (dk_at dksX0_generations_7 8 rfl rfl)
theorem dX0_generations_173 : decode cX0_generations 173 = .ok (.iload 8, 2) := dk_21 8 (dk_at dksX0_generations_7 9 rfl rfl)
theorem dX0_generations_175 : decode cX0_generations 175 = .ok (.ishl, 1) := dk_120 (dk_at dksX0_generations_7 11 rfl rfl)
theorem dX0_generations_176 : decode cX0_generations 176 = .ok (.ior, 1) := dk_128 (dk_at dksX0_generations_7 12 rfl rfl)
theorem dX0_generations_177 : decode cX0_generations 177 = .ok (.iastore, 1) := dk_79 (dk_at dksX0_generations_7 13 rfl rfl)
theorem dX0_generations_178 : decode cX0_generations 178 = .ok (.iload 9, 2) := dk_21 9 (dk_at dksX0_generations_7 14 rfl rfl)
theorem dX0_generations_180 : decode cX0_generations 180 = .ok (.iconst 2, 1) := dk_5 (dk_at dksX0_generations_7 16 rfl rfl)
theorem dX0_generations_181 : decode cX0_generations 181 = .ok (.if_icmp .ne 23, 3) := dk_160 0 23 (dk_at dksX0_generations_7 17 rfl rfl)
theorem dX0_generations_184 : decode cX0_generations 184 = .ok (.aload_n 3, 1) := dk_45 (dk_at dksX0_generations_7 20 rfl rfl)
theorem dX0_generations_185 : decode cX0_generations 185 = .ok (.getfield 164, 3) := dk_180 0 164 (dk_at dksX0_generations_7 21 rfl rfl)
theorem dX0_generations_188 : decode cX0_generations 188 = .ok (.iload 6, 2) := dk_21 6 (dk_at dksX0_generations_8 0 rfl rfl)
theorem dX0_generations_190 : decode cX0_generations 190 = .ok (.iconst 0, 1) := dk_3 (dk_at dksX0_generations_8 2 rfl rfl)
theorem dX0_generations_191 : decode cX0_generations 191 = .ok (.aload_n 3, 1) := dk_45 (dk_at dksX0_generations_8 3 rfl rfl)
theorem dX0_generations_192 : decode cX0_generations 192 = .ok (.getfield 164, 3) := dk_180 0 164 (dk_at dksX0_generations_8 4 rfl rfl)
theorem dX0_generations_195 : decode cX0_generations 195 = .ok (.iload 6, 2) := dk_21 6 (dk_at dksX0_generations_8 7 rfl rfl)
theorem dX0_generations_197 : decode cX0_generations 197 = .ok (.iaload, 1) := dk_46 (dk_at dksX0_generations_8 9 rfl rfl)
theorem dX0_generations_198 : decode cX0_generations 198 = .ok (.iconst 1, 1) := dk_4 (dk_at dksX0_generations_8 10 rfl rfl)
theorem dX0_generations_199 : decode cX0_generations 199 = .ok (.isub, 1) := dk_100 (dk_at dksX0_generations_8 11 rfl rfl)
theorem dX0_generations_200 : decode cX0_generations 200 = .ok (.invokestatic 329, 3) := dk_184 1 73 (dk_at dksX0_generations_8 12 rfl rfl)
theorem dX0_generations_203 : decode cX0_generations 203 = .ok (.iastore, 1) := dk_79 (dk_at dksX0_generations_8 15 rfl rfl)
theorem dX0_generations_204 : decode cX0_generations 204 = .ok (.iload 4, 2) := dk_21 4 (dk_at dksX0_generations_8 16 rfl rfl)
theorem dX0_generations_206 : decode cX0_generations 206 = .ok (.aload_n 0, 1) := dk_42 (dk_at dksX0_generations_8 18 rfl rfl)
theorem dX0_generations_207 : decode cX0_generations 207 = .ok (.aload_n 3, 1) := dk_45 (dk_at dksX0_generations_8 19 rfl rfl)
theorem dX0_generations_208 : decode cX0_generations 208 = .ok (.invokevirtual 340, 3) := dk_182 1 84 (dk_at dksX0_generations_8 20 rfl rfl)
theorem dX0_generations_211 : decode cX0_generations 211 = .ok (.iadd, 1) := dk_96 (dk_at dksX0_generations_8 23 rfl rfl)
theorem dX0_generations_212 : decode cX0_generations 212 = .ok (.istore 4, 2) := dk_54 4 (dk_at dksX0_generations_9 0 rfl rfl)
theorem dX0_generations_214 : decode cX0_generations 214 = .ok (.iinc 5 1, 3) := dk_132 5 1 (dk_at dksX0_generations_9 2 rfl rfl)
theorem dX0_generations_217 : decode cX0_generations 217 = .ok (.goto (-138), 3) := dk_167 255 118 (dk_at dksX0_generations_9 5 rfl rfl)
theorem dX0_generations_220 : decode cX0_generations 220 = .ok (.aload_n 0, 1) := dk_42 (dk_at dksX0_generations_9 8 rfl rfl)
theorem dX0_generations_221 : decode cX0_generations 221 = .ok (.iload 4, 2) := dk_21 4 (dk_at dksX0_generations_9 9 rfl rfl)
theorem dX0_generations_223 : decode cX0_generations 223 = .ok (.invokevirtual 136, 3) := dk_182 0 136 (dk_at dksX0_generations_9 11 rfl rfl)
theorem dX0_generations_226 : decode cX0_generations 226 = .ok (.ireturn, 1) := dk_172 (dk_at dksX0_generations_9 14 rfl rfl)
abbrev cX0_draw : ByteArray := prog_1_method_92_code
def yX0_draw : MethodName := ⟨RX0, "draw", "(I)I"⟩
def dkwX0_draw_1 : List UInt8 := [180, 1, 229, 27, 112, 172]
abbrev dktX0_draw_1 : List UInt8 := dkwX0_draw_1 ++ []
def dkwX0_draw_0 : List UInt8 := [42, 42, 180, 1, 229, 133, 20, 1, 232, 105, 20, 1, 234, 97, 20, 1, 236, 113, 136, 181, 1, 229, 42]
abbrev dktX0_draw_0 : List UInt8 := dkwX0_draw_0 ++ dktX0_draw_1
theorem dksX0_draw_0 : cX0_draw.data.toList.drop 0 = dktX0_draw_0 := by decide +kernel
theorem dksX0_draw_1 : cX0_draw.data.toList.drop 23 = dktX0_draw_1 := dk_seg dksX0_draw_0 23 rfl rfl
theorem dX0_draw_0 : decode cX0_draw 0 = .ok (.aload_n 0, 1) := dk_42 (dk_at dksX0_draw_0 0 rfl rfl)
theorem dX0_draw_1 : decode cX0_draw 1 = .ok (.aload_n 0, 1) := dk_42 (dk_at dksX0_draw_0 1 rfl rfl)
theorem dX0_draw_2 : decode cX0_draw 2 = .ok (.getfield 485, 3) := dk_180 1 229 (dk_at dksX0_draw_0 2 rfl rfl)
theorem dX0_draw_5 : decode cX0_draw 5 = .ok (.i2l, 1) := dk_133 (dk_at dksX0_draw_0 5 rfl rfl)
theorem dX0_draw_6 : decode cX0_draw 6 = .ok (.ldc2_w 488, 3) := dk_20 1 232 (dk_at dksX0_draw_0 6 rfl rfl)
theorem dX0_draw_9 : decode cX0_draw 9 = .ok (.lmul, 1) := dk_105 (dk_at dksX0_draw_0 9 rfl rfl)
theorem dX0_draw_10 : decode cX0_draw 10 = .ok (.ldc2_w 490, 3) := dk_20 1 234 (dk_at dksX0_draw_0 10 rfl rfl)
theorem dX0_draw_13 : decode cX0_draw 13 = .ok (.ladd, 1) := dk_97 (dk_at dksX0_draw_0 13 rfl rfl)
theorem dX0_draw_14 : decode cX0_draw 14 = .ok (.ldc2_w 492, 3) := dk_20 1 236 (dk_at dksX0_draw_0 14 rfl rfl)
theorem dX0_draw_17 : decode cX0_draw 17 = .ok (.lrem, 1) := dk_113 (dk_at dksX0_draw_0 17 rfl rfl)
theorem dX0_draw_18 : decode cX0_draw 18 = .ok (.l2i, 1) := dk_136 (dk_at dksX0_draw_0 18 rfl rfl)
theorem dX0_draw_19 : decode cX0_draw 19 = .ok (.putfield 485, 3) := dk_181 1 229 (dk_at dksX0_draw_0 19 rfl rfl)
theorem dX0_draw_22 : decode cX0_draw 22 = .ok (.aload_n 0, 1) := dk_42 (dk_at dksX0_draw_0 22 rfl rfl)
theorem dX0_draw_23 : decode cX0_draw 23 = .ok (.getfield 485, 3) := dk_180 1 229 (dk_at dksX0_draw_1 0 rfl rfl)
theorem dX0_draw_26 : decode cX0_draw 26 = .ok (.iload_n 1, 1) := dk_27 (dk_at dksX0_draw_1 3 rfl rfl)
theorem dX0_draw_27 : decode cX0_draw 27 = .ok (.irem, 1) := dk_112 (dk_at dksX0_draw_1 4 rfl rfl)
theorem dX0_draw_28 : decode cX0_draw 28 = .ok (.ireturn, 1) := dk_172 (dk_at dksX0_draw_1 5 rfl rfl)
abbrev cX0_drawn : ByteArray := prog_1_method_94_code
def yX0_drawn : MethodName := ⟨RX0, "drawn", "(II)I"⟩
def dkwX0_drawn_4 : List UInt8 := [180, 0, 170, 27, 46, 172, 2, 172]
abbrev dktX0_drawn_4 : List UInt8 := dkwX0_drawn_4 ++ []
def dkwX0_drawn_3 : List UInt8 := [42, 180, 0, 124, 27, 182, 0, 181, 172, 42, 180, 0, 124, 180, 0, 164, 27, 46, 172, 42, 180, 0, 124]
abbrev dktX0_drawn_3 : List UInt8 := dkwX0_drawn_3 ++ dktX0_drawn_4
def dkwX0_drawn_2 : List UInt8 := [170, 0, 0, 0, 0, 0, 56, 0, 0, 0, 0, 0, 0, 0, 2, 0, 0, 0, 27, 0, 0, 0, 36, 0, 0, 0, 46]
abbrev dktX0_drawn_2 : List UInt8 := dkwX0_drawn_2 ++ dktX0_drawn_3
def dkwX0_drawn_1 : List UInt8 := [28]
abbrev dktX0_drawn_1 : List UInt8 := dkwX0_drawn_1 ++ dktX0_drawn_2
def dkwX0_drawn_0 : List UInt8 := [42, 180, 0, 127, 2, 159, 0, 17, 27, 3, 42, 180, 0, 127, 4, 100, 184, 0, 26, 154, 0, 5, 2, 172]
abbrev dktX0_drawn_0 : List UInt8 := dkwX0_drawn_0 ++ dktX0_drawn_1
theorem dksX0_drawn_0 : cX0_drawn.data.toList.drop 0 = dktX0_drawn_0 := by decide +kernel
theorem dksX0_drawn_1 : cX0_drawn.data.toList.drop 24 = dktX0_drawn_1 := dk_seg dksX0_drawn_0 24 rfl rfl
theorem dksX0_drawn_2 : cX0_drawn.data.toList.drop 25 = dktX0_drawn_2 := dk_seg dksX0_drawn_1 1 rfl rfl
theorem dksX0_drawn_3 : cX0_drawn.data.toList.drop 52 = dktX0_drawn_3 := dk_seg dksX0_drawn_2 27 rfl rfl
theorem dksX0_drawn_4 : cX0_drawn.data.toList.drop 75 = dktX0_drawn_4 := dk_seg dksX0_drawn_3 23 rfl rfl
theorem dX0_drawn_0 : decode cX0_drawn 0 = .ok (.aload_n 0, 1) := dk_42 (dk_at dksX0_drawn_0 0 rfl rfl)
theorem dX0_drawn_1 : decode cX0_drawn 1 = .ok (.getfield 127, 3) := dk_180 0 127 (dk_at dksX0_drawn_0 1 rfl rfl)
theorem dX0_drawn_4 : decode cX0_drawn 4 = .ok (.iconst (-1), 1) := dk_2 (dk_at dksX0_drawn_0 4 rfl rfl)
theorem dX0_drawn_5 : decode cX0_drawn 5 = .ok (.if_icmp .eq 17, 3) := dk_159 0 17 (dk_at dksX0_drawn_0 5 rfl rfl)
theorem dX0_drawn_8 : decode cX0_drawn 8 = .ok (.iload_n 1, 1) := dk_27 (dk_at dksX0_drawn_0 8 rfl rfl)
theorem dX0_drawn_9 : decode cX0_drawn 9 = .ok (.iconst 0, 1) := dk_3 (dk_at dksX0_drawn_0 9 rfl rfl)
theorem dX0_drawn_10 : decode cX0_drawn 10 = .ok (.aload_n 0, 1) := dk_42 (dk_at dksX0_drawn_0 10 rfl rfl)
theorem dX0_drawn_11 : decode cX0_drawn 11 = .ok (.getfield 127, 3) := dk_180 0 127 (dk_at dksX0_drawn_0 11 rfl rfl)
theorem dX0_drawn_14 : decode cX0_drawn 14 = .ok (.iconst 1, 1) := dk_4 (dk_at dksX0_drawn_0 14 rfl rfl)
theorem dX0_drawn_15 : decode cX0_drawn 15 = .ok (.isub, 1) := dk_100 (dk_at dksX0_drawn_0 15 rfl rfl)
theorem dX0_drawn_16 : decode cX0_drawn 16 = .ok (.invokestatic 26, 3) := dk_184 0 26 (dk_at dksX0_drawn_0 16 rfl rfl)
theorem dX0_drawn_19 : decode cX0_drawn 19 = .ok (.ifCond .ne 5, 3) := dk_154 0 5 (dk_at dksX0_drawn_0 19 rfl rfl)
theorem dX0_drawn_22 : decode cX0_drawn 22 = .ok (.iconst (-1), 1) := dk_2 (dk_at dksX0_drawn_0 22 rfl rfl)
theorem dX0_drawn_23 : decode cX0_drawn 23 = .ok (.ireturn, 1) := dk_172 (dk_at dksX0_drawn_0 23 rfl rfl)
theorem dX0_drawn_24 : decode cX0_drawn 24 = .ok (.iload_n 2, 1) := dk_28 (dk_at dksX0_drawn_1 0 rfl rfl)
theorem dX0_drawn_25 : decode cX0_drawn 25 = .ok (.tableswitch 56 0 2 #[27, 36, 46], 27) := by decide +kernel
theorem dX0_drawn_52 : decode cX0_drawn 52 = .ok (.aload_n 0, 1) := dk_42 (dk_at dksX0_drawn_3 0 rfl rfl)
theorem dX0_drawn_53 : decode cX0_drawn 53 = .ok (.getfield 124, 3) := dk_180 0 124 (dk_at dksX0_drawn_3 1 rfl rfl)
theorem dX0_drawn_56 : decode cX0_drawn 56 = .ok (.iload_n 1, 1) := dk_27 (dk_at dksX0_drawn_3 4 rfl rfl)
theorem dX0_drawn_57 : decode cX0_drawn 57 = .ok (.invokevirtual 181, 3) := dk_182 0 181 (dk_at dksX0_drawn_3 5 rfl rfl)
theorem dX0_drawn_60 : decode cX0_drawn 60 = .ok (.ireturn, 1) := dk_172 (dk_at dksX0_drawn_3 8 rfl rfl)
theorem dX0_drawn_61 : decode cX0_drawn 61 = .ok (.aload_n 0, 1) := dk_42 (dk_at dksX0_drawn_3 9 rfl rfl)
theorem dX0_drawn_62 : decode cX0_drawn 62 = .ok (.getfield 124, 3) := dk_180 0 124 (dk_at dksX0_drawn_3 10 rfl rfl)
theorem dX0_drawn_65 : decode cX0_drawn 65 = .ok (.getfield 164, 3) := dk_180 0 164 (dk_at dksX0_drawn_3 13 rfl rfl)
theorem dX0_drawn_68 : decode cX0_drawn 68 = .ok (.iload_n 1, 1) := dk_27 (dk_at dksX0_drawn_3 16 rfl rfl)
theorem dX0_drawn_69 : decode cX0_drawn 69 = .ok (.iaload, 1) := dk_46 (dk_at dksX0_drawn_3 17 rfl rfl)
theorem dX0_drawn_70 : decode cX0_drawn 70 = .ok (.ireturn, 1) := dk_172 (dk_at dksX0_drawn_3 18 rfl rfl)
theorem dX0_drawn_71 : decode cX0_drawn 71 = .ok (.aload_n 0, 1) := dk_42 (dk_at dksX0_drawn_3 19 rfl rfl)
theorem dX0_drawn_72 : decode cX0_drawn 72 = .ok (.getfield 124, 3) := dk_180 0 124 (dk_at dksX0_drawn_3 20 rfl rfl)
theorem dX0_drawn_75 : decode cX0_drawn 75 = .ok (.getfield 170, 3) := dk_180 0 170 (dk_at dksX0_drawn_4 0 rfl rfl)
theorem dX0_drawn_78 : decode cX0_drawn 78 = .ok (.iload_n 1, 1) := dk_27 (dk_at dksX0_drawn_4 3 rfl rfl)
theorem dX0_drawn_79 : decode cX0_drawn 79 = .ok (.iaload, 1) := dk_46 (dk_at dksX0_drawn_4 4 rfl rfl)
theorem dX0_drawn_80 : decode cX0_drawn 80 = .ok (.ireturn, 1) := dk_172 (dk_at dksX0_drawn_4 5 rfl rfl)
theorem dX0_drawn_81 : decode cX0_drawn 81 = .ok (.iconst (-1), 1) := dk_2 (dk_at dksX0_drawn_4 6 rfl rfl)
theorem dX0_drawn_82 : decode cX0_drawn 82 = .ok (.ireturn, 1) := dk_172 (dk_at dksX0_drawn_4 7 rfl rfl)
abbrev cX0_count : ByteArray := prog_1_method_95_code
def yX0_count : MethodName := ⟨RX0, "count", "(I)I"⟩
def dkwX0_count_6 : List UInt8 := [172, 42, 180, 0, 39, 180, 0, 233, 172, 2, 172]
abbrev dktX0_count_6 : List UInt8 := dkwX0_count_6 ++ []
def dkwX0_count_5 : List UInt8 := [172, 42, 180, 0, 39, 180, 0, 184, 172, 42, 182, 0, 155, 180, 0, 227, 172, 42, 180, 0, 39, 180, 0, 230]
abbrev dktX0_count_5 : List UInt8 := dkwX0_count_5 ++ dktX0_count_6
def dkwX0_count_4 : List UInt8 := [172, 42, 180, 0, 236, 172, 42, 180, 0, 7, 27, 16, 6, 100, 46, 172, 42, 180, 0, 7, 27, 8, 100, 46]
abbrev dktX0_count_4 : List UInt8 := dkwX0_count_4 ++ dktX0_count_5
def dkwX0_count_3 : List UInt8 := [172, 42, 180, 0, 39, 180, 1, 104, 172, 42, 180, 0, 39, 180, 1, 0, 182, 1, 4, 172, 42, 180, 0, 133]
abbrev dktX0_count_3 : List UInt8 := dkwX0_count_3 ++ dktX0_count_4
def dkwX0_count_2 : List UInt8 := [42, 180, 0, 39, 180, 0, 139, 172, 42, 180, 0, 39, 180, 0, 142, 172, 42, 42, 182, 0, 155, 182, 1, 226]
abbrev dktX0_count_2 : List UInt8 := dkwX0_count_2 ++ dktX0_count_3
def dkwX0_count_1 : List UInt8 := [170, 0, 0, 0, 0, 0, 184, 0, 0, 0, 0, 0, 0, 0, 15, 0, 0, 0, 79, 0, 0, 0, 87, 0, 0, 0, 95, 0, 0, 0, 104, 0, 0, 0, 112, 0, 0, 0, 123, 0, 0, 0, 128, 0, 0, 0, 133, 0, 0, 0, 133, 0, 0, 0, 133, 0, 0, 0, 143, 0, 0, 0, 143, 0, 0, 0, 152, 0, 0, 0, 160, 0, 0, 0, 168, 0, 0, 0, 176]
abbrev dktX0_count_1 : List UInt8 := dkwX0_count_1 ++ dktX0_count_2
def dkwX0_count_0 : List UInt8 := [27]
abbrev dktX0_count_0 : List UInt8 := dkwX0_count_0 ++ dktX0_count_1
theorem dksX0_count_0 : cX0_count.data.toList.drop 0 = dktX0_count_0 := by decide +kernel
theorem dksX0_count_1 : cX0_count.data.toList.drop 1 = dktX0_count_1 := dk_seg dksX0_count_0 1 rfl rfl
theorem dksX0_count_2 : cX0_count.data.toList.drop 80 = dktX0_count_2 := dk_seg dksX0_count_1 79 rfl rfl
theorem dksX0_count_3 : cX0_count.data.toList.drop 104 = dktX0_count_3 := dk_seg dksX0_count_2 24 rfl rfl
theorem dksX0_count_4 : cX0_count.data.toList.drop 128 = dktX0_count_4 := dk_seg dksX0_count_3 24 rfl rfl
theorem dksX0_count_5 : cX0_count.data.toList.drop 152 = dktX0_count_5 := dk_seg dksX0_count_4 24 rfl rfl
theorem dksX0_count_6 : cX0_count.data.toList.drop 176 = dktX0_count_6 := dk_seg dksX0_count_5 24 rfl rfl
theorem dX0_count_0 : decode cX0_count 0 = .ok (.iload_n 1, 1) := dk_27 (dk_at dksX0_count_0 0 rfl rfl)
theorem dX0_count_1 : decode cX0_count 1 = .ok (.tableswitch 184 0 15 #[79, 87, 95, 104, 112, 123, 128, 133, 133, 133, 143, 143, 152, 160, 168, 176], 79) := by decide +kernel
theorem dX0_count_80 : decode cX0_count 80 = .ok (.aload_n 0, 1) := dk_42 (dk_at dksX0_count_2 0 rfl rfl)
theorem dX0_count_81 : decode cX0_count 81 = .ok (.getfield 39, 3) := dk_180 0 39 (dk_at dksX0_count_2 1 rfl rfl)
theorem dX0_count_84 : decode cX0_count 84 = .ok (.getfield 139, 3) := dk_180 0 139 (dk_at dksX0_count_2 4 rfl rfl)
theorem dX0_count_87 : decode cX0_count 87 = .ok (.ireturn, 1) := dk_172 (dk_at dksX0_count_2 7 rfl rfl)
theorem dX0_count_88 : decode cX0_count 88 = .ok (.aload_n 0, 1) := dk_42 (dk_at dksX0_count_2 8 rfl rfl)
theorem dX0_count_89 : decode cX0_count 89 = .ok (.getfield 39, 3) := dk_180 0 39 (dk_at dksX0_count_2 9 rfl rfl)
theorem dX0_count_92 : decode cX0_count 92 = .ok (.getfield 142, 3) := dk_180 0 142 (dk_at dksX0_count_2 12 rfl rfl)
theorem dX0_count_95 : decode cX0_count 95 = .ok (.ireturn, 1) := dk_172 (dk_at dksX0_count_2 15 rfl rfl)
theorem dX0_count_96 : decode cX0_count 96 = .ok (.aload_n 0, 1) := dk_42 (dk_at dksX0_count_2 16 rfl rfl)
theorem dX0_count_97 : decode cX0_count 97 = .ok (.aload_n 0, 1) := dk_42 (dk_at dksX0_count_2 17 rfl rfl)
theorem dX0_count_98 : decode cX0_count 98 = .ok (.invokevirtual 155, 3) := dk_182 0 155 (dk_at dksX0_count_2 18 rfl rfl)
theorem dX0_count_101 : decode cX0_count 101 = .ok (.invokevirtual 482, 3) := dk_182 1 226 (dk_at dksX0_count_2 21 rfl rfl)
theorem dX0_count_104 : decode cX0_count 104 = .ok (.ireturn, 1) := dk_172 (dk_at dksX0_count_3 0 rfl rfl)
theorem dX0_count_105 : decode cX0_count 105 = .ok (.aload_n 0, 1) := dk_42 (dk_at dksX0_count_3 1 rfl rfl)
theorem dX0_count_106 : decode cX0_count 106 = .ok (.getfield 39, 3) := dk_180 0 39 (dk_at dksX0_count_3 2 rfl rfl)
theorem dX0_count_109 : decode cX0_count 109 = .ok (.getfield 360, 3) := dk_180 1 104 (dk_at dksX0_count_3 5 rfl rfl)
theorem dX0_count_112 : decode cX0_count 112 = .ok (.ireturn, 1) := dk_172 (dk_at dksX0_count_3 8 rfl rfl)
theorem dX0_count_113 : decode cX0_count 113 = .ok (.aload_n 0, 1) := dk_42 (dk_at dksX0_count_3 9 rfl rfl)
theorem dX0_count_114 : decode cX0_count 114 = .ok (.getfield 39, 3) := dk_180 0 39 (dk_at dksX0_count_3 10 rfl rfl)
theorem dX0_count_117 : decode cX0_count 117 = .ok (.getfield 256, 3) := dk_180 1 0 (dk_at dksX0_count_3 13 rfl rfl)
theorem dX0_count_120 : decode cX0_count 120 = .ok (.invokevirtual 260, 3) := dk_182 1 4 (dk_at dksX0_count_3 16 rfl rfl)
theorem dX0_count_123 : decode cX0_count 123 = .ok (.ireturn, 1) := dk_172 (dk_at dksX0_count_3 19 rfl rfl)
theorem dX0_count_124 : decode cX0_count 124 = .ok (.aload_n 0, 1) := dk_42 (dk_at dksX0_count_3 20 rfl rfl)
theorem dX0_count_125 : decode cX0_count 125 = .ok (.getfield 133, 3) := dk_180 0 133 (dk_at dksX0_count_3 21 rfl rfl)
theorem dX0_count_128 : decode cX0_count 128 = .ok (.ireturn, 1) := dk_172 (dk_at dksX0_count_4 0 rfl rfl)
theorem dX0_count_129 : decode cX0_count 129 = .ok (.aload_n 0, 1) := dk_42 (dk_at dksX0_count_4 1 rfl rfl)
theorem dX0_count_130 : decode cX0_count 130 = .ok (.getfield 236, 3) := dk_180 0 236 (dk_at dksX0_count_4 2 rfl rfl)
theorem dX0_count_133 : decode cX0_count 133 = .ok (.ireturn, 1) := dk_172 (dk_at dksX0_count_4 5 rfl rfl)
theorem dX0_count_134 : decode cX0_count 134 = .ok (.aload_n 0, 1) := dk_42 (dk_at dksX0_count_4 6 rfl rfl)
theorem dX0_count_135 : decode cX0_count 135 = .ok (.getfield 7, 3) := dk_180 0 7 (dk_at dksX0_count_4 7 rfl rfl)
theorem dX0_count_138 : decode cX0_count 138 = .ok (.iload_n 1, 1) := dk_27 (dk_at dksX0_count_4 10 rfl rfl)
theorem dX0_count_139 : decode cX0_count 139 = .ok (.bipush 6, 2) := dk_16 6 (dk_at dksX0_count_4 11 rfl rfl)
theorem dX0_count_141 : decode cX0_count 141 = .ok (.isub, 1) := dk_100 (dk_at dksX0_count_4 13 rfl rfl)
theorem dX0_count_142 : decode cX0_count 142 = .ok (.iaload, 1) := dk_46 (dk_at dksX0_count_4 14 rfl rfl)
theorem dX0_count_143 : decode cX0_count 143 = .ok (.ireturn, 1) := dk_172 (dk_at dksX0_count_4 15 rfl rfl)
theorem dX0_count_144 : decode cX0_count 144 = .ok (.aload_n 0, 1) := dk_42 (dk_at dksX0_count_4 16 rfl rfl)
theorem dX0_count_145 : decode cX0_count 145 = .ok (.getfield 7, 3) := dk_180 0 7 (dk_at dksX0_count_4 17 rfl rfl)
theorem dX0_count_148 : decode cX0_count 148 = .ok (.iload_n 1, 1) := dk_27 (dk_at dksX0_count_4 20 rfl rfl)
theorem dX0_count_149 : decode cX0_count 149 = .ok (.iconst 5, 1) := dk_8 (dk_at dksX0_count_4 21 rfl rfl)
theorem dX0_count_150 : decode cX0_count 150 = .ok (.isub, 1) := dk_100 (dk_at dksX0_count_4 22 rfl rfl)
theorem dX0_count_151 : decode cX0_count 151 = .ok (.iaload, 1) := dk_46 (dk_at dksX0_count_4 23 rfl rfl)
theorem dX0_count_152 : decode cX0_count 152 = .ok (.ireturn, 1) := dk_172 (dk_at dksX0_count_5 0 rfl rfl)
theorem dX0_count_153 : decode cX0_count 153 = .ok (.aload_n 0, 1) := dk_42 (dk_at dksX0_count_5 1 rfl rfl)
theorem dX0_count_154 : decode cX0_count 154 = .ok (.getfield 39, 3) := dk_180 0 39 (dk_at dksX0_count_5 2 rfl rfl)
theorem dX0_count_157 : decode cX0_count 157 = .ok (.getfield 184, 3) := dk_180 0 184 (dk_at dksX0_count_5 5 rfl rfl)
theorem dX0_count_160 : decode cX0_count 160 = .ok (.ireturn, 1) := dk_172 (dk_at dksX0_count_5 8 rfl rfl)
theorem dX0_count_161 : decode cX0_count 161 = .ok (.aload_n 0, 1) := dk_42 (dk_at dksX0_count_5 9 rfl rfl)
theorem dX0_count_162 : decode cX0_count 162 = .ok (.invokevirtual 155, 3) := dk_182 0 155 (dk_at dksX0_count_5 10 rfl rfl)
theorem dX0_count_165 : decode cX0_count 165 = .ok (.getfield 227, 3) := dk_180 0 227 (dk_at dksX0_count_5 13 rfl rfl)
theorem dX0_count_168 : decode cX0_count 168 = .ok (.ireturn, 1) := dk_172 (dk_at dksX0_count_5 16 rfl rfl)
theorem dX0_count_169 : decode cX0_count 169 = .ok (.aload_n 0, 1) := dk_42 (dk_at dksX0_count_5 17 rfl rfl)
theorem dX0_count_170 : decode cX0_count 170 = .ok (.getfield 39, 3) := dk_180 0 39 (dk_at dksX0_count_5 18 rfl rfl)
theorem dX0_count_173 : decode cX0_count 173 = .ok (.getfield 230, 3) := dk_180 0 230 (dk_at dksX0_count_5 21 rfl rfl)
theorem dX0_count_176 : decode cX0_count 176 = .ok (.ireturn, 1) := dk_172 (dk_at dksX0_count_6 0 rfl rfl)
theorem dX0_count_177 : decode cX0_count 177 = .ok (.aload_n 0, 1) := dk_42 (dk_at dksX0_count_6 1 rfl rfl)
theorem dX0_count_178 : decode cX0_count 178 = .ok (.getfield 39, 3) := dk_180 0 39 (dk_at dksX0_count_6 2 rfl rfl)
theorem dX0_count_181 : decode cX0_count 181 = .ok (.getfield 233, 3) := dk_180 0 233 (dk_at dksX0_count_6 5 rfl rfl)
theorem dX0_count_184 : decode cX0_count 184 = .ok (.ireturn, 1) := dk_172 (dk_at dksX0_count_6 8 rfl rfl)
theorem dX0_count_185 : decode cX0_count 185 = .ok (.iconst (-1), 1) := dk_2 (dk_at dksX0_count_6 9 rfl rfl)
theorem dX0_count_186 : decode cX0_count 186 = .ok (.ireturn, 1) := dk_172 (dk_at dksX0_count_6 10 rfl rfl)
abbrev cX0_status : ByteArray := prog_1_method_96_code
def yX0_status : MethodName := ⟨RX0, "status", "()I"⟩
theorem dX0_status_0 : decode cX0_status 0 = .ok (.aload_n 0, 1) := by decide +kernel
theorem dX0_status_1 : decode cX0_status 1 = .ok (.getfield 1, 3) := by decide +kernel
theorem dX0_status_4 : decode cX0_status 4 = .ok (.ireturn, 1) := by decide +kernel
theorem q121 : (Jvm.Cond.initialized "DowryBoxes") ∈ lw_all := lw_g (lw_at lw_m1 1 rfl) rfl
theorem q158 : (Jvm.Cond.instantiable "DowryBoxes" (34 : Nat)) ∈ lw_all := lw_g (lw_at lw_m1 38 rfl) rfl
theorem q160 : (Jvm.Cond.instanceMethod ({ cls := "DowryBoxes", name := "<init>", desc := "()V" } : Jvm.MethodName)) ∈ lw_all := lw_g (lw_at lw_m1 40 rfl) rfl
theorem q161 : (Jvm.Cond.code ({ cls := "DowryBoxes", name := "<init>", desc := "()V" } : Jvm.MethodName) prog_1_method_10_code (2 : Nat) (Option.none : Option Jvm.ClassFile.FieldType)) ∈ lw_all := lw_g (lw_at lw_m1 41 rfl) rfl
theorem q162 : (Jvm.Cond.methodLink "DowryBoxes" (30 : Nat) ({ cls := "java/lang/Object", name := "<init>", desc := "()V" } : Jvm.MethodName)) ∈ lw_all := lw_g (lw_at lw_m1 42 rfl) rfl
theorem q165 : (Jvm.Cond.classLink "DowryBoxes" (36 : Nat) "DowryBoxes$State") ∈ lw_all := lw_g (lw_at lw_m1 45 rfl) rfl
theorem q167 : (Jvm.Cond.methodLinkNest "DowryBoxes" (38 : Nat) ({ cls := "DowryBoxes$State", name := "<init>", desc := "()V" } : Jvm.MethodName) "DowryBoxes") ∈ lw_tbl := lw_at lw_m1 47 rfl
theorem q178 : (Jvm.Cond.fieldLinkNest "DowryBoxes" (158 : Nat) "DowryBoxes$Table" "pins" "[I" "DowryBoxes") ∈ lw_tbl := lw_at lw_m1 58 rfl
theorem q180 : (Jvm.Cond.fieldLinkNest "DowryBoxes" (161 : Nat) "DowryBoxes$Table" "broken" "[I" "DowryBoxes") ∈ lw_tbl := lw_at lw_m1 60 rfl
theorem q182 : (Jvm.Cond.fieldLinkNest "DowryBoxes" (164 : Nat) "DowryBoxes$Table" "spring" "[I" "DowryBoxes") ∈ lw_tbl := lw_at lw_m1 62 rfl
theorem q184 : (Jvm.Cond.fieldLinkNest "DowryBoxes" (167 : Nat) "DowryBoxes$Table" "suitor" "[I" "DowryBoxes") ∈ lw_tbl := lw_at lw_m1 64 rfl
theorem q186 : (Jvm.Cond.fieldLinkNest "DowryBoxes" (170 : Nat) "DowryBoxes$Table" "left" "[I" "DowryBoxes") ∈ lw_tbl := lw_at lw_m1 66 rfl
theorem q188 : (Jvm.Cond.fieldLinkNest "DowryBoxes" (227 : Nat) "DowryBoxes$Table" "year" "I" "DowryBoxes") ∈ lw_tbl := lw_at lw_m1 68 rfl
theorem q232 : (Jvm.Cond.fieldLinkNest "DowryBoxes" (130 : Nat) "DowryBoxes$State" "table" "LDowryBoxes$Table;" "DowryBoxes") ∈ lw_tbl := lw_at lw_m1 112 rfl
theorem q234 : (Jvm.Cond.fieldLinkNest "DowryBoxes" (204 : Nat) "DowryBoxes$State" "ear" "[I" "DowryBoxes") ∈ lw_tbl := lw_at lw_m1 114 rfl
theorem q236 : (Jvm.Cond.fieldLinkNest "DowryBoxes" (207 : Nat) "DowryBoxes$State" "wants" "[I" "DowryBoxes") ∈ lw_tbl := lw_at lw_m1 116 rfl
theorem q238 : (Jvm.Cond.fieldLinkNest "DowryBoxes" (363 : Nat) "DowryBoxes$State" "heard" "[I" "DowryBoxes") ∈ lw_tbl := lw_at lw_m1 118 rfl
theorem q240 : (Jvm.Cond.fieldLinkNest "DowryBoxes" (256 : Nat) "DowryBoxes$State" "laws" "Ljava/util/ArrayList;" "DowryBoxes") ∈ lw_tbl := lw_at lw_m1 120 rfl
theorem q242 : (Jvm.Cond.fieldLinkNest "DowryBoxes" (139 : Nat) "DowryBoxes$State" "boxes" "I" "DowryBoxes") ∈ lw_tbl := lw_at lw_m1 122 rfl
theorem q244 : (Jvm.Cond.fieldLinkNest "DowryBoxes" (142 : Nat) "DowryBoxes$State" "suitors" "I" "DowryBoxes") ∈ lw_tbl := lw_at lw_m1 124 rfl
theorem q246 : (Jvm.Cond.fieldLinkNest "DowryBoxes" (360 : Nat) "DowryBoxes$State" "heardMany" "I" "DowryBoxes") ∈ lw_tbl := lw_at lw_m1 126 rfl
theorem q248 : (Jvm.Cond.fieldLinkNest "DowryBoxes" (230 : Nat) "DowryBoxes$State" "damp" "I" "DowryBoxes") ∈ lw_tbl := lw_at lw_m1 128 rfl
theorem q250 : (Jvm.Cond.fieldLinkNest "DowryBoxes" (233 : Nat) "DowryBoxes$State" "mood" "I" "DowryBoxes") ∈ lw_tbl := lw_at lw_m1 130 rfl
theorem q252 : (Jvm.Cond.fieldLinkNest "DowryBoxes" (184 : Nat) "DowryBoxes$State" "force" "I" "DowryBoxes") ∈ lw_tbl := lw_at lw_m1 132 rfl
theorem q277 : (Jvm.Cond.classLink "DowryBoxes" (47 : Nat) "DowryBoxes$Table") ∈ lw_all := lw_g (lw_at lw_m1 157 rfl) rfl
theorem q279 : (Jvm.Cond.methodLinkNest "DowryBoxes" (62 : Nat) ({ cls := "DowryBoxes$Table", name := "<init>", desc := "()V" } : Jvm.MethodName) "DowryBoxes") ∈ lw_tbl := lw_at lw_m1 159 rfl
theorem q280 : (Jvm.Cond.classLink "DowryBoxes" (80 : Nat) "DowryBoxes$Setting") ∈ lw_all := lw_g (lw_at lw_m1 160 rfl) rfl
theorem q282 : (Jvm.Cond.methodLinkNest "DowryBoxes" (82 : Nat) ({ cls := "DowryBoxes$Setting", name := "<init>", desc := "()V" } : Jvm.MethodName) "DowryBoxes") ∈ lw_tbl := lw_at lw_m1 162 rfl
theorem q351 : (Jvm.Cond.fieldLinkNest "DowryBoxes" (299 : Nat) "DowryBoxes$Setting" "values" "[J" "DowryBoxes") ∈ lw_tbl := lw_at lw_m1 231 rfl
theorem q358 : (Jvm.Cond.fieldLink "DowryBoxes" (1 : Nat) "DowryBoxes" "status" "I") ∈ lw_all := lw_g (lw_at lw_m1 238 rfl) rfl
theorem q359 : (Jvm.Cond.fieldLink "DowryBoxes" (7 : Nat) "DowryBoxes" "refused" "[I") ∈ lw_all := lw_g (lw_at lw_m1 239 rfl) rfl
theorem q360 : (Jvm.Cond.fieldLink "DowryBoxes" (39 : Nat) "DowryBoxes" "state" "LDowryBoxes$State;") ∈ lw_all := lw_g (lw_at lw_m2 0 rfl) rfl
theorem q361 : (Jvm.Cond.fieldLink "DowryBoxes" (43 : Nat) "DowryBoxes" "images" "[LDowryBoxes$State;") ∈ lw_all := lw_g (lw_at lw_m2 1 rfl) rfl
theorem q362 : (Jvm.Cond.fieldLink "DowryBoxes" (49 : Nat) "DowryBoxes" "undone" "[LDowryBoxes$Table;") ∈ lw_all := lw_g (lw_at lw_m2 2 rfl) rfl
theorem q363 : (Jvm.Cond.fieldLink "DowryBoxes" (53 : Nat) "DowryBoxes" "ordersUndone" "[LDowryBoxes$Table;") ∈ lw_all := lw_g (lw_at lw_m2 3 rfl) rfl
theorem q364 : (Jvm.Cond.fieldLink "DowryBoxes" (56 : Nat) "DowryBoxes" "undoneWhat" "[I") ∈ lw_all := lw_g (lw_at lw_m2 4 rfl) rfl
theorem q365 : (Jvm.Cond.fieldLink "DowryBoxes" (59 : Nat) "DowryBoxes" "ordersWhat" "[I") ∈ lw_all := lw_g (lw_at lw_m2 5 rfl) rfl
theorem q366 : (Jvm.Cond.fieldLink "DowryBoxes" (63 : Nat) "DowryBoxes" "ahead" "LDowryBoxes$Table;") ∈ lw_all := lw_g (lw_at lw_m2 6 rfl) rfl
theorem q367 : (Jvm.Cond.fieldLink "DowryBoxes" (67 : Nat) "DowryBoxes" "tried" "LDowryBoxes$Table;") ∈ lw_all := lw_g (lw_at lw_m2 7 rfl) rfl
theorem q368 : (Jvm.Cond.fieldLink "DowryBoxes" (70 : Nat) "DowryBoxes" "tape" "[B") ∈ lw_all := lw_g (lw_at lw_m2 8 rfl) rfl
theorem q369 : (Jvm.Cond.fieldLink "DowryBoxes" (236 : Nat) "DowryBoxes" "taped" "I") ∈ lw_all := lw_g (lw_at lw_m2 9 rfl) rfl
theorem q370 : (Jvm.Cond.fieldLink "DowryBoxes" (74 : Nat) "DowryBoxes" "fault" "I") ∈ lw_all := lw_g (lw_at lw_m2 10 rfl) rfl
theorem q371 : (Jvm.Cond.fieldLink "DowryBoxes" (243 : Nat) "DowryBoxes" "rust" "I") ∈ lw_all := lw_g (lw_at lw_m2 11 rfl) rfl
theorem q372 : (Jvm.Cond.fieldLink "DowryBoxes" (77 : Nat) "DowryBoxes" "stopped" "I") ∈ lw_all := lw_g (lw_at lw_m2 12 rfl) rfl
theorem q373 : (Jvm.Cond.fieldLink "DowryBoxes" (133 : Nat) "DowryBoxes" "undoMany" "I") ∈ lw_all := lw_g (lw_at lw_m2 13 rfl) rfl
theorem q374 : (Jvm.Cond.fieldLink "DowryBoxes" (83 : Nat) "DowryBoxes" "setting" "LDowryBoxes$Setting;") ∈ lw_all := lw_g (lw_at lw_m2 14 rfl) rfl
theorem q375 : (Jvm.Cond.fieldLink "DowryBoxes" (87 : Nat) "DowryBoxes" "lost" "[I") ∈ lw_all := lw_g (lw_at lw_m2 15 rfl) rfl
theorem q376 : (Jvm.Cond.fieldLink "DowryBoxes" (90 : Nat) "DowryBoxes" "gap" "[I") ∈ lw_all := lw_g (lw_at lw_m2 16 rfl) rfl
theorem q377 : (Jvm.Cond.fieldLink "DowryBoxes" (93 : Nat) "DowryBoxes" "liked" "[I") ∈ lw_all := lw_g (lw_at lw_m2 17 rfl) rfl
theorem q378 : (Jvm.Cond.fieldLink "DowryBoxes" (96 : Nat) "DowryBoxes" "keptBy" "[I") ∈ lw_all := lw_g (lw_at lw_m2 18 rfl) rfl
theorem q379 : (Jvm.Cond.fieldLink "DowryBoxes" (99 : Nat) "DowryBoxes" "asked" "[I") ∈ lw_all := lw_g (lw_at lw_m2 19 rfl) rfl
theorem q380 : (Jvm.Cond.fieldLink "DowryBoxes" (102 : Nat) "DowryBoxes" "most" "[I") ∈ lw_all := lw_g (lw_at lw_m2 20 rfl) rfl
theorem q381 : (Jvm.Cond.fieldLink "DowryBoxes" (391 : Nat) "DowryBoxes" "within" "I") ∈ lw_all := lw_g (lw_at lw_m2 21 rfl) rfl
theorem q382 : (Jvm.Cond.fieldLink "DowryBoxes" (105 : Nat) "DowryBoxes" "fewest" "[I") ∈ lw_all := lw_g (lw_at lw_m2 22 rfl) rfl
theorem q383 : (Jvm.Cond.fieldLink "DowryBoxes" (108 : Nat) "DowryBoxes" "share" "[I") ∈ lw_all := lw_g (lw_at lw_m2 23 rfl) rfl
theorem q384 : (Jvm.Cond.fieldLink "DowryBoxes" (111 : Nat) "DowryBoxes" "row" "[I") ∈ lw_all := lw_g (lw_at lw_m2 24 rfl) rfl
theorem q385 : (Jvm.Cond.fieldLink "DowryBoxes" (114 : Nat) "DowryBoxes" "bestRow" "[I") ∈ lw_all := lw_g (lw_at lw_m2 25 rfl) rfl
theorem q386 : (Jvm.Cond.fieldLink "DowryBoxes" (117 : Nat) "DowryBoxes" "years" "[I") ∈ lw_all := lw_g (lw_at lw_m2 26 rfl) rfl
theorem q387 : (Jvm.Cond.fieldLink "DowryBoxes" (425 : Nat) "DowryBoxes" "bestLeast" "I") ∈ lw_all := lw_g (lw_at lw_m2 27 rfl) rfl
theorem q388 : (Jvm.Cond.fieldLink "DowryBoxes" (120 : Nat) "DowryBoxes" "parts" "[J") ∈ lw_all := lw_g (lw_at lw_m2 28 rfl) rfl
theorem q389 : (Jvm.Cond.fieldLink "DowryBoxes" (124 : Nat) "DowryBoxes" "drawnTable" "LDowryBoxes$Table;") ∈ lw_all := lw_g (lw_at lw_m2 29 rfl) rfl
theorem q390 : (Jvm.Cond.fieldLink "DowryBoxes" (127 : Nat) "DowryBoxes" "drawnMany" "I") ∈ lw_all := lw_g (lw_at lw_m2 30 rfl) rfl
theorem q391 : (Jvm.Cond.fieldLink "DowryBoxes" (485 : Nat) "DowryBoxes" "drawn" "I") ∈ lw_all := lw_g (lw_at lw_m2 31 rfl) rfl
theorem q392 : (Jvm.Cond.lays "DowryBoxes" "DowryBoxes" "status" "I") ∈ lw_all := lw_g (lw_at lw_m2 32 rfl) rfl
theorem q393 : (Jvm.Cond.soleField "DowryBoxes" "status") ∈ lw_all := lw_g (lw_at lw_m2 33 rfl) rfl
theorem q394 : (Jvm.Cond.laysFinal "DowryBoxes" "DowryBoxes" "refused" "[I") ∈ lw_all := lw_g (lw_at lw_m2 34 rfl) rfl
theorem q395 : (Jvm.Cond.soleField "DowryBoxes" "refused") ∈ lw_all := lw_g (lw_at lw_m2 35 rfl) rfl
theorem q396 : (Jvm.Cond.laysFinal "DowryBoxes" "DowryBoxes" "state" "LDowryBoxes$State;") ∈ lw_all := lw_g (lw_at lw_m2 36 rfl) rfl
theorem q397 : (Jvm.Cond.soleField "DowryBoxes" "state") ∈ lw_all := lw_g (lw_at lw_m2 37 rfl) rfl
theorem q398 : (Jvm.Cond.laysFinal "DowryBoxes" "DowryBoxes" "images" "[LDowryBoxes$State;") ∈ lw_all := lw_g (lw_at lw_m2 38 rfl) rfl
theorem q399 : (Jvm.Cond.soleField "DowryBoxes" "images") ∈ lw_all := lw_g (lw_at lw_m2 39 rfl) rfl
theorem q400 : (Jvm.Cond.laysFinal "DowryBoxes" "DowryBoxes" "undone" "[LDowryBoxes$Table;") ∈ lw_all := lw_g (lw_at lw_m2 40 rfl) rfl
theorem q401 : (Jvm.Cond.soleField "DowryBoxes" "undone") ∈ lw_all := lw_g (lw_at lw_m2 41 rfl) rfl
theorem q402 : (Jvm.Cond.laysFinal "DowryBoxes" "DowryBoxes" "ordersUndone" "[LDowryBoxes$Table;") ∈ lw_all := lw_g (lw_at lw_m2 42 rfl) rfl
theorem q403 : (Jvm.Cond.soleField "DowryBoxes" "ordersUndone") ∈ lw_all := lw_g (lw_at lw_m2 43 rfl) rfl
theorem q404 : (Jvm.Cond.laysFinal "DowryBoxes" "DowryBoxes" "undoneWhat" "[I") ∈ lw_all := lw_g (lw_at lw_m2 44 rfl) rfl
theorem q405 : (Jvm.Cond.soleField "DowryBoxes" "undoneWhat") ∈ lw_all := lw_g (lw_at lw_m2 45 rfl) rfl
theorem q406 : (Jvm.Cond.laysFinal "DowryBoxes" "DowryBoxes" "ordersWhat" "[I") ∈ lw_all := lw_g (lw_at lw_m2 46 rfl) rfl
theorem q407 : (Jvm.Cond.soleField "DowryBoxes" "ordersWhat") ∈ lw_all := lw_g (lw_at lw_m2 47 rfl) rfl
theorem q408 : (Jvm.Cond.laysFinal "DowryBoxes" "DowryBoxes" "ahead" "LDowryBoxes$Table;") ∈ lw_all := lw_g (lw_at lw_m2 48 rfl) rfl
theorem q409 : (Jvm.Cond.soleField "DowryBoxes" "ahead") ∈ lw_all := lw_g (lw_at lw_m2 49 rfl) rfl
theorem q410 : (Jvm.Cond.laysFinal "DowryBoxes" "DowryBoxes" "tried" "LDowryBoxes$Table;") ∈ lw_all := lw_g (lw_at lw_m2 50 rfl) rfl
theorem q411 : (Jvm.Cond.soleField "DowryBoxes" "tried") ∈ lw_all := lw_g (lw_at lw_m2 51 rfl) rfl
theorem q412 : (Jvm.Cond.laysFinal "DowryBoxes" "DowryBoxes" "tape" "[B") ∈ lw_all := lw_g (lw_at lw_m2 52 rfl) rfl
theorem q413 : (Jvm.Cond.soleField "DowryBoxes" "tape") ∈ lw_all := lw_g (lw_at lw_m2 53 rfl) rfl
theorem q414 : (Jvm.Cond.lays "DowryBoxes" "DowryBoxes" "taped" "I") ∈ lw_all := lw_g (lw_at lw_m2 54 rfl) rfl
theorem q415 : (Jvm.Cond.soleField "DowryBoxes" "taped") ∈ lw_all := lw_g (lw_at lw_m2 55 rfl) rfl
theorem q416 : (Jvm.Cond.lays "DowryBoxes" "DowryBoxes" "fault" "I") ∈ lw_all := lw_g (lw_at lw_m2 56 rfl) rfl
theorem q417 : (Jvm.Cond.soleField "DowryBoxes" "fault") ∈ lw_all := lw_g (lw_at lw_m2 57 rfl) rfl
theorem q418 : (Jvm.Cond.lays "DowryBoxes" "DowryBoxes" "rust" "I") ∈ lw_all := lw_g (lw_at lw_m2 58 rfl) rfl
theorem q419 : (Jvm.Cond.soleField "DowryBoxes" "rust") ∈ lw_all := lw_g (lw_at lw_m2 59 rfl) rfl
theorem q420 : (Jvm.Cond.lays "DowryBoxes" "DowryBoxes" "stopped" "I") ∈ lw_all := lw_g (lw_at lw_m2 60 rfl) rfl
theorem q421 : (Jvm.Cond.soleField "DowryBoxes" "stopped") ∈ lw_all := lw_g (lw_at lw_m2 61 rfl) rfl
theorem q422 : (Jvm.Cond.lays "DowryBoxes" "DowryBoxes" "undoMany" "I") ∈ lw_all := lw_g (lw_at lw_m2 62 rfl) rfl
theorem q423 : (Jvm.Cond.soleField "DowryBoxes" "undoMany") ∈ lw_all := lw_g (lw_at lw_m2 63 rfl) rfl
theorem q424 : (Jvm.Cond.laysFinal "DowryBoxes" "DowryBoxes" "setting" "LDowryBoxes$Setting;") ∈ lw_all := lw_g (lw_at lw_m2 64 rfl) rfl
theorem q425 : (Jvm.Cond.soleField "DowryBoxes" "setting") ∈ lw_all := lw_g (lw_at lw_m2 65 rfl) rfl
theorem q426 : (Jvm.Cond.laysFinal "DowryBoxes" "DowryBoxes" "lost" "[I") ∈ lw_all := lw_g (lw_at lw_m2 66 rfl) rfl
theorem q427 : (Jvm.Cond.soleField "DowryBoxes" "lost") ∈ lw_all := lw_g (lw_at lw_m2 67 rfl) rfl
theorem q428 : (Jvm.Cond.laysFinal "DowryBoxes" "DowryBoxes" "gap" "[I") ∈ lw_all := lw_g (lw_at lw_m2 68 rfl) rfl
theorem q429 : (Jvm.Cond.soleField "DowryBoxes" "gap") ∈ lw_all := lw_g (lw_at lw_m2 69 rfl) rfl
theorem q430 : (Jvm.Cond.laysFinal "DowryBoxes" "DowryBoxes" "liked" "[I") ∈ lw_all := lw_g (lw_at lw_m2 70 rfl) rfl
theorem q431 : (Jvm.Cond.soleField "DowryBoxes" "liked") ∈ lw_all := lw_g (lw_at lw_m2 71 rfl) rfl
theorem q432 : (Jvm.Cond.laysFinal "DowryBoxes" "DowryBoxes" "keptBy" "[I") ∈ lw_all := lw_g (lw_at lw_m2 72 rfl) rfl
theorem q433 : (Jvm.Cond.soleField "DowryBoxes" "keptBy") ∈ lw_all := lw_g (lw_at lw_m2 73 rfl) rfl
theorem q434 : (Jvm.Cond.laysFinal "DowryBoxes" "DowryBoxes" "asked" "[I") ∈ lw_all := lw_g (lw_at lw_m2 74 rfl) rfl
theorem q435 : (Jvm.Cond.soleField "DowryBoxes" "asked") ∈ lw_all := lw_g (lw_at lw_m2 75 rfl) rfl
theorem q436 : (Jvm.Cond.laysFinal "DowryBoxes" "DowryBoxes" "most" "[I") ∈ lw_all := lw_g (lw_at lw_m2 76 rfl) rfl
theorem q437 : (Jvm.Cond.soleField "DowryBoxes" "most") ∈ lw_all := lw_g (lw_at lw_m2 77 rfl) rfl
theorem q438 : (Jvm.Cond.lays "DowryBoxes" "DowryBoxes" "within" "I") ∈ lw_all := lw_g (lw_at lw_m2 78 rfl) rfl
theorem q439 : (Jvm.Cond.soleField "DowryBoxes" "within") ∈ lw_all := lw_g (lw_at lw_m2 79 rfl) rfl
theorem q440 : (Jvm.Cond.laysFinal "DowryBoxes" "DowryBoxes" "fewest" "[I") ∈ lw_all := lw_g (lw_at lw_m2 80 rfl) rfl
theorem q441 : (Jvm.Cond.soleField "DowryBoxes" "fewest") ∈ lw_all := lw_g (lw_at lw_m2 81 rfl) rfl
theorem q442 : (Jvm.Cond.laysFinal "DowryBoxes" "DowryBoxes" "share" "[I") ∈ lw_all := lw_g (lw_at lw_m2 82 rfl) rfl
theorem q443 : (Jvm.Cond.soleField "DowryBoxes" "share") ∈ lw_all := lw_g (lw_at lw_m2 83 rfl) rfl
theorem q444 : (Jvm.Cond.laysFinal "DowryBoxes" "DowryBoxes" "row" "[I") ∈ lw_all := lw_g (lw_at lw_m2 84 rfl) rfl
theorem q445 : (Jvm.Cond.soleField "DowryBoxes" "row") ∈ lw_all := lw_g (lw_at lw_m2 85 rfl) rfl
theorem q446 : (Jvm.Cond.laysFinal "DowryBoxes" "DowryBoxes" "bestRow" "[I") ∈ lw_all := lw_g (lw_at lw_m2 86 rfl) rfl
theorem q447 : (Jvm.Cond.soleField "DowryBoxes" "bestRow") ∈ lw_all := lw_g (lw_at lw_m2 87 rfl) rfl
theorem q448 : (Jvm.Cond.laysFinal "DowryBoxes" "DowryBoxes" "years" "[I") ∈ lw_all := lw_g (lw_at lw_m2 88 rfl) rfl
theorem q449 : (Jvm.Cond.soleField "DowryBoxes" "years") ∈ lw_all := lw_g (lw_at lw_m2 89 rfl) rfl
theorem q450 : (Jvm.Cond.lays "DowryBoxes" "DowryBoxes" "bestLeast" "I") ∈ lw_all := lw_g (lw_at lw_m2 90 rfl) rfl
theorem q451 : (Jvm.Cond.soleField "DowryBoxes" "bestLeast") ∈ lw_all := lw_g (lw_at lw_m2 91 rfl) rfl
theorem q452 : (Jvm.Cond.laysFinal "DowryBoxes" "DowryBoxes" "parts" "[J") ∈ lw_all := lw_g (lw_at lw_m2 92 rfl) rfl
theorem q453 : (Jvm.Cond.soleField "DowryBoxes" "parts") ∈ lw_all := lw_g (lw_at lw_m2 93 rfl) rfl
theorem q454 : (Jvm.Cond.laysFinal "DowryBoxes" "DowryBoxes" "drawnTable" "LDowryBoxes$Table;") ∈ lw_all := lw_g (lw_at lw_m2 94 rfl) rfl
theorem q455 : (Jvm.Cond.soleField "DowryBoxes" "drawnTable") ∈ lw_all := lw_g (lw_at lw_m2 95 rfl) rfl
theorem q456 : (Jvm.Cond.lays "DowryBoxes" "DowryBoxes" "drawnMany" "I") ∈ lw_all := lw_g (lw_at lw_m2 96 rfl) rfl
theorem q457 : (Jvm.Cond.soleField "DowryBoxes" "drawnMany") ∈ lw_all := lw_g (lw_at lw_m2 97 rfl) rfl
theorem q458 : (Jvm.Cond.lays "DowryBoxes" "DowryBoxes" "drawn" "I") ∈ lw_all := lw_g (lw_at lw_m2 98 rfl) rfl
theorem q459 : (Jvm.Cond.soleField "DowryBoxes" "drawn") ∈ lw_all := lw_g (lw_at lw_m2 99 rfl) rfl
theorem q460 : (Jvm.Cond.superclass "DowryBoxes" "java/lang/Object") ∈ lw_all := lw_g (lw_at lw_m2 100 rfl) rfl
theorem q462 : (Jvm.Cond.instanceMethod ({ cls := "DowryBoxes", name := "image", desc := "(I)I" } : Jvm.MethodName)) ∈ lw_all := lw_g (lw_at lw_m2 102 rfl) rfl
theorem q463 : (Jvm.Cond.selects "DowryBoxes" ({ cls := "DowryBoxes", name := "image", desc := "(I)I" } : Jvm.MethodName) ({ cls := "DowryBoxes", name := "image", desc := "(I)I" } : Jvm.MethodName)) ∈ lw_all := lw_g (lw_at lw_m2 103 rfl) rfl
theorem q464 : (Jvm.Cond.code ({ cls := "DowryBoxes", name := "image", desc := "(I)I" } : Jvm.MethodName) prog_1_method_15_code (2 : Nat) (Option.some Jvm.ClassFile.FieldType.int)) ∈ lw_all := lw_g (lw_at lw_m2 104 rfl) rfl
theorem q465 : (Jvm.Cond.methodLink "DowryBoxes" (26 : Nat) ({ cls := "DowryBoxes", name := "in", desc := "(III)Z" } : Jvm.MethodName)) ∈ lw_all := lw_g (lw_at lw_m2 105 rfl) rfl
theorem q466 : (Jvm.Cond.static ({ cls := "DowryBoxes", name := "in", desc := "(III)Z" } : Jvm.MethodName)) ∈ lw_all := lw_g (lw_at lw_m2 106 rfl) rfl
theorem q467 : (Jvm.Cond.code ({ cls := "DowryBoxes", name := "in", desc := "(III)Z" } : Jvm.MethodName) prog_1_method_3_code (3 : Nat) (Option.some Jvm.ClassFile.FieldType.boolean)) ∈ lw_all := lw_g (lw_at lw_m2 107 rfl) rfl
theorem q468 : (Jvm.Cond.methodLink "DowryBoxes" (145 : Nat) ({ cls := "DowryBoxes", name := "refuse", desc := "(I)I" } : Jvm.MethodName)) ∈ lw_all := lw_g (lw_at lw_m2 108 rfl) rfl
theorem q469 : (Jvm.Cond.privateMethod ({ cls := "DowryBoxes", name := "refuse", desc := "(I)I" } : Jvm.MethodName)) ∈ lw_tbl := lw_at lw_m2 109 rfl
theorem q470 : (Jvm.Cond.instanceMethod ({ cls := "DowryBoxes", name := "refuse", desc := "(I)I" } : Jvm.MethodName)) ∈ lw_all := lw_g (lw_at lw_m2 110 rfl) rfl
theorem q471 : (Jvm.Cond.code ({ cls := "DowryBoxes", name := "refuse", desc := "(I)I" } : Jvm.MethodName) prog_1_method_1_code (2 : Nat) (Option.some Jvm.ClassFile.FieldType.int)) ∈ lw_all := lw_g (lw_at lw_m2 111 rfl) rfl
theorem q472 : (Jvm.Cond.methodLink "DowryBoxes" (148 : Nat) ({ cls := "DowryBoxes$State", name := "takes", desc := "(LDowryBoxes$State;)V" } : Jvm.MethodName)) ∈ lw_all := lw_g (lw_at lw_m2 112 rfl) rfl
theorem q511 : (Jvm.Cond.selects "DowryBoxes" ({ cls := "java/lang/Object", name := "getClass", desc := "()Ljava/lang/Class;" } : Jvm.MethodName) ({ cls := "java/lang/Object", name := "getClass", desc := "()Ljava/lang/Class;" } : Jvm.MethodName)) ∈ lw_all := lw_g (lw_at lw_m2 151 rfl) rfl
theorem q558 : (Jvm.Cond.methodLink "DowryBoxes" (136 : Nat) ({ cls := "DowryBoxes", name := "done", desc := "(I)I" } : Jvm.MethodName)) ∈ lw_all := lw_g (lw_at lw_m2 198 rfl) rfl
theorem q559 : (Jvm.Cond.privateMethod ({ cls := "DowryBoxes", name := "done", desc := "(I)I" } : Jvm.MethodName)) ∈ lw_tbl := lw_at lw_m2 199 rfl
theorem q560 : (Jvm.Cond.instanceMethod ({ cls := "DowryBoxes", name := "done", desc := "(I)I" } : Jvm.MethodName)) ∈ lw_all := lw_g (lw_at lw_m2 200 rfl) rfl
theorem q561 : (Jvm.Cond.code ({ cls := "DowryBoxes", name := "done", desc := "(I)I" } : Jvm.MethodName) prog_1_method_2_code (2 : Nat) (Option.some Jvm.ClassFile.FieldType.int)) ∈ lw_all := lw_g (lw_at lw_m2 201 rfl) rfl
theorem q563 : (Jvm.Cond.instanceMethod ({ cls := "DowryBoxes", name := "back", desc := "(I)I" } : Jvm.MethodName)) ∈ lw_all := lw_g (lw_at lw_m2 203 rfl) rfl
theorem q564 : (Jvm.Cond.selects "DowryBoxes" ({ cls := "DowryBoxes", name := "back", desc := "(I)I" } : Jvm.MethodName) ({ cls := "DowryBoxes", name := "back", desc := "(I)I" } : Jvm.MethodName)) ∈ lw_all := lw_g (lw_at lw_m2 204 rfl) rfl
theorem q565 : (Jvm.Cond.code ({ cls := "DowryBoxes", name := "back", desc := "(I)I" } : Jvm.MethodName) prog_1_method_16_code (2 : Nat) (Option.some Jvm.ClassFile.FieldType.int)) ∈ lw_all := lw_g (lw_at lw_m2 205 rfl) rfl
theorem q566 : (Jvm.Cond.methodLink "DowryBoxes" (152 : Nat) ({ cls := "DowryBoxes", name := "settled", desc := "(I)I" } : Jvm.MethodName)) ∈ lw_all := lw_g (lw_at lw_m2 206 rfl) rfl
theorem q567 : (Jvm.Cond.privateMethod ({ cls := "DowryBoxes", name := "settled", desc := "(I)I" } : Jvm.MethodName)) ∈ lw_tbl := lw_at lw_m2 207 rfl
theorem q568 : (Jvm.Cond.instanceMethod ({ cls := "DowryBoxes", name := "settled", desc := "(I)I" } : Jvm.MethodName)) ∈ lw_all := lw_g (lw_at lw_m2 208 rfl) rfl
theorem q569 : (Jvm.Cond.code ({ cls := "DowryBoxes", name := "settled", desc := "(I)I" } : Jvm.MethodName) prog_1_method_12_code (2 : Nat) (Option.some Jvm.ClassFile.FieldType.int)) ∈ lw_all := lw_g (lw_at lw_m2 209 rfl) rfl
theorem q571 : (Jvm.Cond.instanceMethod ({ cls := "DowryBoxes", name := "box", desc := "(I)I" } : Jvm.MethodName)) ∈ lw_all := lw_g (lw_at lw_m2 211 rfl) rfl
theorem q572 : (Jvm.Cond.selects "DowryBoxes" ({ cls := "DowryBoxes", name := "box", desc := "(I)I" } : Jvm.MethodName) ({ cls := "DowryBoxes", name := "box", desc := "(I)I" } : Jvm.MethodName)) ∈ lw_all := lw_g (lw_at lw_m2 212 rfl) rfl
theorem q573 : (Jvm.Cond.code ({ cls := "DowryBoxes", name := "box", desc := "(I)I" } : Jvm.MethodName) prog_1_method_17_code (5 : Nat) (Option.some Jvm.ClassFile.FieldType.int)) ∈ lw_all := lw_g (lw_at lw_m2 213 rfl) rfl
theorem q574 : (Jvm.Cond.methodLink "DowryBoxes" (155 : Nat) ({ cls := "DowryBoxes", name := "table", desc := "()LDowryBoxes$Table;" } : Jvm.MethodName)) ∈ lw_all := lw_g (lw_at lw_m2 214 rfl) rfl
theorem q575 : (Jvm.Cond.privateMethod ({ cls := "DowryBoxes", name := "table", desc := "()LDowryBoxes$Table;" } : Jvm.MethodName)) ∈ lw_tbl := lw_at lw_m2 215 rfl
theorem q576 : (Jvm.Cond.instanceMethod ({ cls := "DowryBoxes", name := "table", desc := "()LDowryBoxes$Table;" } : Jvm.MethodName)) ∈ lw_all := lw_g (lw_at lw_m2 216 rfl) rfl
theorem q577 : (Jvm.Cond.code ({ cls := "DowryBoxes", name := "table", desc := "()LDowryBoxes$Table;" } : Jvm.MethodName) prog_1_method_11_code (1 : Nat) (Option.some (Jvm.ClassFile.FieldType.object "DowryBoxes$Table"))) ∈ lw_all := lw_g (lw_at lw_m2 217 rfl) rfl
theorem q579 : (Jvm.Cond.instanceMethod ({ cls := "DowryBoxes", name := "of", desc := "(II)I" } : Jvm.MethodName)) ∈ lw_all := lw_g (lw_at lw_m2 219 rfl) rfl
theorem q580 : (Jvm.Cond.selects "DowryBoxes" ({ cls := "DowryBoxes", name := "of", desc := "(II)I" } : Jvm.MethodName) ({ cls := "DowryBoxes", name := "of", desc := "(II)I" } : Jvm.MethodName)) ∈ lw_all := lw_g (lw_at lw_m2 220 rfl) rfl
theorem q581 : (Jvm.Cond.code ({ cls := "DowryBoxes", name := "of", desc := "(II)I" } : Jvm.MethodName) prog_1_method_18_code (4 : Nat) (Option.some Jvm.ClassFile.FieldType.int)) ∈ lw_all := lw_g (lw_at lw_m2 221 rfl) rfl
theorem q582 : (Jvm.Cond.methodLink "DowryBoxes" (173 : Nat) ({ cls := "DowryBoxes", name := "isBox", desc := "(I)Z" } : Jvm.MethodName)) ∈ lw_all := lw_g (lw_at lw_m2 222 rfl) rfl
theorem q583 : (Jvm.Cond.privateMethod ({ cls := "DowryBoxes", name := "isBox", desc := "(I)Z" } : Jvm.MethodName)) ∈ lw_tbl := lw_at lw_m2 223 rfl
theorem q584 : (Jvm.Cond.instanceMethod ({ cls := "DowryBoxes", name := "isBox", desc := "(I)Z" } : Jvm.MethodName)) ∈ lw_all := lw_g (lw_at lw_m2 224 rfl) rfl
theorem q585 : (Jvm.Cond.code ({ cls := "DowryBoxes", name := "isBox", desc := "(I)Z" } : Jvm.MethodName) prog_1_method_13_code (2 : Nat) (Option.some Jvm.ClassFile.FieldType.boolean)) ∈ lw_all := lw_g (lw_at lw_m2 225 rfl) rfl
theorem q586 : (Jvm.Cond.methodLink "DowryBoxes" (177 : Nat) ({ cls := "DowryBoxes$Table", name := "pinsAt", desc := "(II)I" } : Jvm.MethodName)) ∈ lw_all := lw_g (lw_at lw_m2 226 rfl) rfl
theorem q590 : (Jvm.Cond.methodLink "DowryBoxes" (181 : Nat) ({ cls := "DowryBoxes$Table", name := "notes", desc := "(I)I" } : Jvm.MethodName)) ∈ lw_all := lw_g (lw_at lw_m2 230 rfl) rfl
theorem q600 : (Jvm.Cond.static ({ cls := "DowryBoxes", name := "ones", desc := "(I)I" } : Jvm.MethodName)) ∈ lw_all := lw_g (lw_at lw_m3 0 rfl) rfl
theorem q601 : (Jvm.Cond.code ({ cls := "DowryBoxes", name := "ones", desc := "(I)I" } : Jvm.MethodName) prog_1_method_5_code (1 : Nat) (Option.some Jvm.ClassFile.FieldType.int)) ∈ lw_all := lw_g (lw_at lw_m3 1 rfl) rfl
theorem q602 : (Jvm.Cond.methodLink "DowryBoxes" (11 : Nat) ({ cls := "java/lang/Integer", name := "bitCount", desc := "(I)I" } : Jvm.MethodName)) ∈ lw_all := lw_g (lw_at lw_m3 2 rfl) rfl
theorem q608 : (Jvm.Cond.methodLink "DowryBoxes" (187 : Nat) ({ cls := "DowryBoxes", name := "lasts", desc := "(ILDowryBoxes$Table;I)I" } : Jvm.MethodName)) ∈ lw_all := lw_g (lw_at lw_m3 8 rfl) rfl
theorem q609 : (Jvm.Cond.privateMethod ({ cls := "DowryBoxes", name := "lasts", desc := "(ILDowryBoxes$Table;I)I" } : Jvm.MethodName)) ∈ lw_tbl := lw_at lw_m3 9 rfl
theorem q610 : (Jvm.Cond.instanceMethod ({ cls := "DowryBoxes", name := "lasts", desc := "(ILDowryBoxes$Table;I)I" } : Jvm.MethodName)) ∈ lw_all := lw_g (lw_at lw_m3 10 rfl) rfl
theorem q611 : (Jvm.Cond.code ({ cls := "DowryBoxes", name := "lasts", desc := "(ILDowryBoxes$Table;I)I" } : Jvm.MethodName) prog_1_method_39_code (4 : Nat) (Option.some Jvm.ClassFile.FieldType.int)) ∈ lw_all := lw_g (lw_at lw_m3 11 rfl) rfl
theorem q612 : (Jvm.Cond.methodLink "DowryBoxes" (319 : Nat) ({ cls := "DowryBoxes", name := "says", desc := "(IILDowryBoxes$Table;II)J" } : Jvm.MethodName)) ∈ lw_all := lw_g (lw_at lw_m3 12 rfl) rfl
theorem q613 : (Jvm.Cond.privateMethod ({ cls := "DowryBoxes", name := "says", desc := "(IILDowryBoxes$Table;II)J" } : Jvm.MethodName)) ∈ lw_tbl := lw_at lw_m3 13 rfl
theorem q614 : (Jvm.Cond.instanceMethod ({ cls := "DowryBoxes", name := "says", desc := "(IILDowryBoxes$Table;II)J" } : Jvm.MethodName)) ∈ lw_all := lw_g (lw_at lw_m3 14 rfl) rfl
theorem q615 : (Jvm.Cond.code ({ cls := "DowryBoxes", name := "says", desc := "(IILDowryBoxes$Table;II)J" } : Jvm.MethodName) prog_1_method_37_code (7 : Nat) (Option.some Jvm.ClassFile.FieldType.long)) ∈ lw_all := lw_g (lw_at lw_m3 15 rfl) rfl
theorem q616 : (Jvm.Cond.constantLong "DowryBoxes" (297 : Nat) (-4000000000 : Int64)) ∈ lw_all := lw_g (lw_at lw_m3 16 rfl) rfl
theorem q617 : (Jvm.Cond.methodLink "DowryBoxes" (302 : Nat) ({ cls := "DowryBoxes", name := "ones", desc := "(I)I" } : Jvm.MethodName)) ∈ lw_all := lw_g (lw_at lw_m3 17 rfl) rfl
theorem q618 : (Jvm.Cond.constantLong "DowryBoxes" (305 : Nat) (-1 : Int64)) ∈ lw_all := lw_g (lw_at lw_m3 18 rfl) rfl
theorem q619 : (Jvm.Cond.methodLink "DowryBoxes" (216 : Nat) ({ cls := "DowryBoxes", name := "ears", desc := "(LDowryBoxes$Table;II)I" } : Jvm.MethodName)) ∈ lw_all := lw_g (lw_at lw_m3 19 rfl) rfl
theorem q620 : (Jvm.Cond.privateMethod ({ cls := "DowryBoxes", name := "ears", desc := "(LDowryBoxes$Table;II)I" } : Jvm.MethodName)) ∈ lw_tbl := lw_at lw_m3 20 rfl
theorem q621 : (Jvm.Cond.instanceMethod ({ cls := "DowryBoxes", name := "ears", desc := "(LDowryBoxes$Table;II)I" } : Jvm.MethodName)) ∈ lw_all := lw_g (lw_at lw_m3 21 rfl) rfl
theorem q622 : (Jvm.Cond.code ({ cls := "DowryBoxes", name := "ears", desc := "(LDowryBoxes$Table;II)I" } : Jvm.MethodName) prog_1_method_36_code (6 : Nat) (Option.some Jvm.ClassFile.FieldType.int)) ∈ lw_all := lw_g (lw_at lw_m3 22 rfl) rfl
theorem q623 : (Jvm.Cond.methodLink "DowryBoxes" (290 : Nat) ({ cls := "DowryBoxes$Table", name := "notesAt", desc := "(II)I" } : Jvm.MethodName)) ∈ lw_all := lw_g (lw_at lw_m3 23 rfl) rfl
theorem q624 : (Jvm.Cond.methodLink "DowryBoxes" (293 : Nat) ({ cls := "DowryBoxes", name := "isOf", desc := "(II)Z" } : Jvm.MethodName)) ∈ lw_all := lw_g (lw_at lw_m3 24 rfl) rfl
theorem q625 : (Jvm.Cond.static ({ cls := "DowryBoxes", name := "isOf", desc := "(II)Z" } : Jvm.MethodName)) ∈ lw_all := lw_g (lw_at lw_m3 25 rfl) rfl
theorem q626 : (Jvm.Cond.code ({ cls := "DowryBoxes", name := "isOf", desc := "(II)Z" } : Jvm.MethodName) prog_1_method_4_code (2 : Nat) (Option.some Jvm.ClassFile.FieldType.boolean)) ∈ lw_all := lw_g (lw_at lw_m3 26 rfl) rfl
theorem q627 : (Jvm.Cond.methodLink "DowryBoxes" (307 : Nat) ({ cls := "java/util/ArrayList", name := "get", desc := "(I)Ljava/lang/Object;" } : Jvm.MethodName)) ∈ lw_all := lw_g (lw_at lw_m3 27 rfl) rfl
theorem q641 : (Jvm.Cond.classLink "DowryBoxes" (275 : Nat) "DowryBoxes$Law") ∈ lw_all := lw_g (lw_at lw_m3 41 rfl) rfl
theorem q642 : (Jvm.Cond.methodLink "DowryBoxes" (311 : Nat) ({ cls := "DowryBoxes$Law", name := "told", desc := "(ILDowryBoxes$Setting;)J" } : Jvm.MethodName)) ∈ lw_all := lw_g (lw_at lw_m3 42 rfl) rfl
theorem q692 : (Jvm.Cond.methodLink "DowryBoxes" (323 : Nat) ({ cls := "DowryBoxes", name := "or", desc := "(JII)I" } : Jvm.MethodName)) ∈ lw_all := lw_g (lw_at lw_m3 92 rfl) rfl
theorem q693 : (Jvm.Cond.static ({ cls := "DowryBoxes", name := "or", desc := "(JII)I" } : Jvm.MethodName)) ∈ lw_all := lw_g (lw_at lw_m3 93 rfl) rfl
theorem q694 : (Jvm.Cond.code ({ cls := "DowryBoxes", name := "or", desc := "(JII)I" } : Jvm.MethodName) prog_1_method_38_code (4 : Nat) (Option.some Jvm.ClassFile.FieldType.int)) ∈ lw_all := lw_g (lw_at lw_m3 94 rfl) rfl
theorem q695 : (Jvm.Cond.methodLink "DowryBoxes" (315 : Nat) ({ cls := "DowryBoxes", name := "near", desc := "(JII)I" } : Jvm.MethodName)) ∈ lw_all := lw_g (lw_at lw_m3 95 rfl) rfl
theorem q696 : (Jvm.Cond.static ({ cls := "DowryBoxes", name := "near", desc := "(JII)I" } : Jvm.MethodName)) ∈ lw_all := lw_g (lw_at lw_m3 96 rfl) rfl
theorem q697 : (Jvm.Cond.code ({ cls := "DowryBoxes", name := "near", desc := "(JII)I" } : Jvm.MethodName) prog_1_method_6_code (4 : Nat) (Option.some Jvm.ClassFile.FieldType.int)) ∈ lw_all := lw_g (lw_at lw_m3 97 rfl) rfl
theorem q698 : (Jvm.Cond.methodLink "DowryBoxes" (17 : Nat) ({ cls := "java/lang/Math", name := "min", desc := "(JJ)J" } : Jvm.MethodName)) ∈ lw_all := lw_g (lw_at lw_m3 98 rfl) rfl
theorem q701 : (Jvm.Cond.methodLink "DowryBoxes" (23 : Nat) ({ cls := "java/lang/Math", name := "max", desc := "(JJ)J" } : Jvm.MethodName)) ∈ lw_all := lw_g (lw_at lw_m3 101 rfl) rfl
theorem q704 : (Jvm.Cond.methodLink "DowryBoxes" (191 : Nat) ({ cls := "DowryBoxes", name := "loses", desc := "(LDowryBoxes$Table;I)I" } : Jvm.MethodName)) ∈ lw_all := lw_g (lw_at lw_m3 104 rfl) rfl
theorem q705 : (Jvm.Cond.privateMethod ({ cls := "DowryBoxes", name := "loses", desc := "(LDowryBoxes$Table;I)I" } : Jvm.MethodName)) ∈ lw_tbl := lw_at lw_m3 105 rfl
theorem q706 : (Jvm.Cond.instanceMethod ({ cls := "DowryBoxes", name := "loses", desc := "(LDowryBoxes$Table;I)I" } : Jvm.MethodName)) ∈ lw_all := lw_g (lw_at lw_m3 106 rfl) rfl
theorem q707 : (Jvm.Cond.code ({ cls := "DowryBoxes", name := "loses", desc := "(LDowryBoxes$Table;I)I" } : Jvm.MethodName) prog_1_method_41_code (3 : Nat) (Option.some Jvm.ClassFile.FieldType.int)) ∈ lw_all := lw_g (lw_at lw_m3 107 rfl) rfl
theorem q709 : (Jvm.Cond.instanceMethod ({ cls := "DowryBoxes", name := "pins", desc := "(III)I" } : Jvm.MethodName)) ∈ lw_all := lw_g (lw_at lw_m3 109 rfl) rfl
theorem q710 : (Jvm.Cond.selects "DowryBoxes" ({ cls := "DowryBoxes", name := "pins", desc := "(III)I" } : Jvm.MethodName) ({ cls := "DowryBoxes", name := "pins", desc := "(III)I" } : Jvm.MethodName)) ∈ lw_all := lw_g (lw_at lw_m3 110 rfl) rfl
theorem q711 : (Jvm.Cond.code ({ cls := "DowryBoxes", name := "pins", desc := "(III)I" } : Jvm.MethodName) prog_1_method_19_code (5 : Nat) (Option.some Jvm.ClassFile.FieldType.int)) ∈ lw_all := lw_g (lw_at lw_m3 111 rfl) rfl
theorem q712 : (Jvm.Cond.methodLink "DowryBoxes" (195 : Nat) ({ cls := "DowryBoxes", name := "isBar", desc := "(I)Z" } : Jvm.MethodName)) ∈ lw_all := lw_g (lw_at lw_m3 112 rfl) rfl
theorem q713 : (Jvm.Cond.static ({ cls := "DowryBoxes", name := "isBar", desc := "(I)Z" } : Jvm.MethodName)) ∈ lw_all := lw_g (lw_at lw_m3 113 rfl) rfl
theorem q714 : (Jvm.Cond.code ({ cls := "DowryBoxes", name := "isBar", desc := "(I)Z" } : Jvm.MethodName) prog_1_method_7_code (1 : Nat) (Option.some Jvm.ClassFile.FieldType.boolean)) ∈ lw_all := lw_g (lw_at lw_m3 114 rfl) rfl
theorem q715 : (Jvm.Cond.methodLink "DowryBoxes" (198 : Nat) ({ cls := "DowryBoxes", name := "isSet", desc := "(I)Z" } : Jvm.MethodName)) ∈ lw_all := lw_g (lw_at lw_m3 115 rfl) rfl
theorem q716 : (Jvm.Cond.static ({ cls := "DowryBoxes", name := "isSet", desc := "(I)Z" } : Jvm.MethodName)) ∈ lw_all := lw_g (lw_at lw_m3 116 rfl) rfl
theorem q717 : (Jvm.Cond.code ({ cls := "DowryBoxes", name := "isSet", desc := "(I)Z" } : Jvm.MethodName) prog_1_method_9_code (1 : Nat) (Option.some Jvm.ClassFile.FieldType.boolean)) ∈ lw_all := lw_g (lw_at lw_m3 117 rfl) rfl
theorem q719 : (Jvm.Cond.instanceMethod ({ cls := "DowryBoxes", name := "suitor", desc := "(II)I" } : Jvm.MethodName)) ∈ lw_all := lw_g (lw_at lw_m3 119 rfl) rfl
theorem q720 : (Jvm.Cond.selects "DowryBoxes" ({ cls := "DowryBoxes", name := "suitor", desc := "(II)I" } : Jvm.MethodName) ({ cls := "DowryBoxes", name := "suitor", desc := "(II)I" } : Jvm.MethodName)) ∈ lw_all := lw_g (lw_at lw_m3 120 rfl) rfl
theorem q721 : (Jvm.Cond.code ({ cls := "DowryBoxes", name := "suitor", desc := "(II)I" } : Jvm.MethodName) prog_1_method_20_code (4 : Nat) (Option.some Jvm.ClassFile.FieldType.int)) ∈ lw_all := lw_g (lw_at lw_m3 121 rfl) rfl
theorem q722 : (Jvm.Cond.methodLink "DowryBoxes" (201 : Nat) ({ cls := "DowryBoxes", name := "isTooth", desc := "(I)Z" } : Jvm.MethodName)) ∈ lw_all := lw_g (lw_at lw_m3 122 rfl) rfl
theorem q723 : (Jvm.Cond.static ({ cls := "DowryBoxes", name := "isTooth", desc := "(I)Z" } : Jvm.MethodName)) ∈ lw_all := lw_g (lw_at lw_m3 123 rfl) rfl
theorem q724 : (Jvm.Cond.code ({ cls := "DowryBoxes", name := "isTooth", desc := "(I)Z" } : Jvm.MethodName) prog_1_method_8_code (1 : Nat) (Option.some Jvm.ClassFile.FieldType.boolean)) ∈ lw_all := lw_g (lw_at lw_m3 124 rfl) rfl
theorem q726 : (Jvm.Cond.instanceMethod ({ cls := "DowryBoxes", name := "at", desc := "(II)I" } : Jvm.MethodName)) ∈ lw_all := lw_g (lw_at lw_m3 126 rfl) rfl
theorem q727 : (Jvm.Cond.selects "DowryBoxes" ({ cls := "DowryBoxes", name := "at", desc := "(II)I" } : Jvm.MethodName) ({ cls := "DowryBoxes", name := "at", desc := "(II)I" } : Jvm.MethodName)) ∈ lw_all := lw_g (lw_at lw_m3 127 rfl) rfl
theorem q728 : (Jvm.Cond.code ({ cls := "DowryBoxes", name := "at", desc := "(II)I" } : Jvm.MethodName) prog_1_method_22_code (3 : Nat) (Option.some Jvm.ClassFile.FieldType.int)) ∈ lw_all := lw_g (lw_at lw_m3 128 rfl) rfl
theorem q729 : (Jvm.Cond.methodLink "DowryBoxes" (210 : Nat) ({ cls := "DowryBoxes", name := "isSuitor", desc := "(I)Z" } : Jvm.MethodName)) ∈ lw_all := lw_g (lw_at lw_m3 129 rfl) rfl
theorem q730 : (Jvm.Cond.privateMethod ({ cls := "DowryBoxes", name := "isSuitor", desc := "(I)Z" } : Jvm.MethodName)) ∈ lw_tbl := lw_at lw_m3 130 rfl
theorem q731 : (Jvm.Cond.instanceMethod ({ cls := "DowryBoxes", name := "isSuitor", desc := "(I)Z" } : Jvm.MethodName)) ∈ lw_all := lw_g (lw_at lw_m3 131 rfl) rfl
theorem q732 : (Jvm.Cond.code ({ cls := "DowryBoxes", name := "isSuitor", desc := "(I)Z" } : Jvm.MethodName) prog_1_method_14_code (2 : Nat) (Option.some Jvm.ClassFile.FieldType.boolean)) ∈ lw_all := lw_g (lw_at lw_m3 132 rfl) rfl
theorem q733 : (Jvm.Cond.methodLink "DowryBoxes" (213 : Nat) ({ cls := "DowryBoxes", name := "boxOf", desc := "(LDowryBoxes$Table;I)I" } : Jvm.MethodName)) ∈ lw_all := lw_g (lw_at lw_m3 133 rfl) rfl
theorem q734 : (Jvm.Cond.privateMethod ({ cls := "DowryBoxes", name := "boxOf", desc := "(LDowryBoxes$Table;I)I" } : Jvm.MethodName)) ∈ lw_tbl := lw_at lw_m3 134 rfl
theorem q735 : (Jvm.Cond.instanceMethod ({ cls := "DowryBoxes", name := "boxOf", desc := "(LDowryBoxes$Table;I)I" } : Jvm.MethodName)) ∈ lw_all := lw_g (lw_at lw_m3 135 rfl) rfl
theorem q736 : (Jvm.Cond.code ({ cls := "DowryBoxes", name := "boxOf", desc := "(LDowryBoxes$Table;I)I" } : Jvm.MethodName) prog_1_method_21_code (4 : Nat) (Option.some Jvm.ClassFile.FieldType.int)) ∈ lw_all := lw_g (lw_at lw_m3 136 rfl) rfl
theorem q738 : (Jvm.Cond.instanceMethod ({ cls := "DowryBoxes", name := "asks", desc := "(III)I" } : Jvm.MethodName)) ∈ lw_all := lw_g (lw_at lw_m3 138 rfl) rfl
theorem q739 : (Jvm.Cond.selects "DowryBoxes" ({ cls := "DowryBoxes", name := "asks", desc := "(III)I" } : Jvm.MethodName) ({ cls := "DowryBoxes", name := "asks", desc := "(III)I" } : Jvm.MethodName)) ∈ lw_all := lw_g (lw_at lw_m3 139 rfl) rfl
theorem q740 : (Jvm.Cond.code ({ cls := "DowryBoxes", name := "asks", desc := "(III)I" } : Jvm.MethodName) prog_1_method_23_code (4 : Nat) (Option.some Jvm.ClassFile.FieldType.int)) ∈ lw_all := lw_g (lw_at lw_m3 140 rfl) rfl
theorem q741 : (Jvm.Cond.methodLink "DowryBoxes" (220 : Nat) ({ cls := "DowryBoxes", name := "likes", desc := "(LDowryBoxes$Table;II)I" } : Jvm.MethodName)) ∈ lw_all := lw_g (lw_at lw_m3 141 rfl) rfl
theorem q742 : (Jvm.Cond.privateMethod ({ cls := "DowryBoxes", name := "likes", desc := "(LDowryBoxes$Table;II)I" } : Jvm.MethodName)) ∈ lw_tbl := lw_at lw_m3 142 rfl
theorem q743 : (Jvm.Cond.instanceMethod ({ cls := "DowryBoxes", name := "likes", desc := "(LDowryBoxes$Table;II)I" } : Jvm.MethodName)) ∈ lw_all := lw_g (lw_at lw_m3 143 rfl) rfl
theorem q744 : (Jvm.Cond.code ({ cls := "DowryBoxes", name := "likes", desc := "(LDowryBoxes$Table;II)I" } : Jvm.MethodName) prog_1_method_40_code (4 : Nat) (Option.some Jvm.ClassFile.FieldType.int)) ∈ lw_all := lw_g (lw_at lw_m3 144 rfl) rfl
theorem q745 : (Jvm.Cond.methodLink "DowryBoxes" (223 : Nat) ({ cls := "DowryBoxes", name := "isBarred", desc := "(LDowryBoxes$Table;II)Z" } : Jvm.MethodName)) ∈ lw_all := lw_g (lw_at lw_m3 145 rfl) rfl
theorem q746 : (Jvm.Cond.privateMethod ({ cls := "DowryBoxes", name := "isBarred", desc := "(LDowryBoxes$Table;II)Z" } : Jvm.MethodName)) ∈ lw_tbl := lw_at lw_m3 146 rfl
theorem q747 : (Jvm.Cond.instanceMethod ({ cls := "DowryBoxes", name := "isBarred", desc := "(LDowryBoxes$Table;II)Z" } : Jvm.MethodName)) ∈ lw_all := lw_g (lw_at lw_m3 147 rfl) rfl
theorem q748 : (Jvm.Cond.code ({ cls := "DowryBoxes", name := "isBarred", desc := "(LDowryBoxes$Table;II)Z" } : Jvm.MethodName) prog_1_method_42_code (4 : Nat) (Option.some Jvm.ClassFile.FieldType.boolean)) ∈ lw_all := lw_g (lw_at lw_m3 148 rfl) rfl
theorem q750 : (Jvm.Cond.instanceMethod ({ cls := "DowryBoxes", name := "terms", desc := "(II)I" } : Jvm.MethodName)) ∈ lw_all := lw_g (lw_at lw_m3 150 rfl) rfl
theorem q751 : (Jvm.Cond.selects "DowryBoxes" ({ cls := "DowryBoxes", name := "terms", desc := "(II)I" } : Jvm.MethodName) ({ cls := "DowryBoxes", name := "terms", desc := "(II)I" } : Jvm.MethodName)) ∈ lw_all := lw_g (lw_at lw_m3 151 rfl) rfl
theorem q752 : (Jvm.Cond.code ({ cls := "DowryBoxes", name := "terms", desc := "(II)I" } : Jvm.MethodName) prog_1_method_24_code (4 : Nat) (Option.some Jvm.ClassFile.FieldType.int)) ∈ lw_all := lw_g (lw_at lw_m3 152 rfl) rfl
theorem q754 : (Jvm.Cond.instanceMethod ({ cls := "DowryBoxes", name := "feed", desc := "(IIIII)I" } : Jvm.MethodName)) ∈ lw_all := lw_g (lw_at lw_m3 154 rfl) rfl
theorem q755 : (Jvm.Cond.selects "DowryBoxes" ({ cls := "DowryBoxes", name := "feed", desc := "(IIIII)I" } : Jvm.MethodName) ({ cls := "DowryBoxes", name := "feed", desc := "(IIIII)I" } : Jvm.MethodName)) ∈ lw_all := lw_g (lw_at lw_m3 155 rfl) rfl
theorem q756 : (Jvm.Cond.code ({ cls := "DowryBoxes", name := "feed", desc := "(IIIII)I" } : Jvm.MethodName) prog_1_method_25_code (6 : Nat) (Option.some Jvm.ClassFile.FieldType.int)) ∈ lw_all := lw_g (lw_at lw_m3 156 rfl) rfl
theorem q757 : (Jvm.Cond.methodLink "DowryBoxes" (239 : Nat) ({ cls := "DowryBoxes", name := "four", desc := "(I)V" } : Jvm.MethodName)) ∈ lw_all := lw_g (lw_at lw_m3 157 rfl) rfl
theorem q758 : (Jvm.Cond.privateMethod ({ cls := "DowryBoxes", name := "four", desc := "(I)V" } : Jvm.MethodName)) ∈ lw_tbl := lw_at lw_m3 158 rfl
theorem q759 : (Jvm.Cond.instanceMethod ({ cls := "DowryBoxes", name := "four", desc := "(I)V" } : Jvm.MethodName)) ∈ lw_all := lw_g (lw_at lw_m3 159 rfl) rfl
theorem q760 : (Jvm.Cond.code ({ cls := "DowryBoxes", name := "four", desc := "(I)V" } : Jvm.MethodName) prog_1_method_26_code (3 : Nat) (Option.none : Option Jvm.ClassFile.FieldType)) ∈ lw_all := lw_g (lw_at lw_m3 160 rfl) rfl
theorem q762 : (Jvm.Cond.instanceMethod ({ cls := "DowryBoxes", name := "end", desc := "(I)I" } : Jvm.MethodName)) ∈ lw_all := lw_g (lw_at lw_m3 162 rfl) rfl
theorem q763 : (Jvm.Cond.selects "DowryBoxes" ({ cls := "DowryBoxes", name := "end", desc := "(I)I" } : Jvm.MethodName) ({ cls := "DowryBoxes", name := "end", desc := "(I)I" } : Jvm.MethodName)) ∈ lw_all := lw_g (lw_at lw_m3 163 rfl) rfl
theorem q764 : (Jvm.Cond.code ({ cls := "DowryBoxes", name := "end", desc := "(I)I" } : Jvm.MethodName) prog_1_method_27_code (2 : Nat) (Option.some Jvm.ClassFile.FieldType.int)) ∈ lw_all := lw_g (lw_at lw_m3 164 rfl) rfl
theorem q766 : (Jvm.Cond.instanceMethod ({ cls := "DowryBoxes", name := "row", desc := "()I" } : Jvm.MethodName)) ∈ lw_all := lw_g (lw_at lw_m3 166 rfl) rfl
theorem q767 : (Jvm.Cond.selects "DowryBoxes" ({ cls := "DowryBoxes", name := "row", desc := "()I" } : Jvm.MethodName) ({ cls := "DowryBoxes", name := "row", desc := "()I" } : Jvm.MethodName)) ∈ lw_all := lw_g (lw_at lw_m3 167 rfl) rfl
theorem q768 : (Jvm.Cond.code ({ cls := "DowryBoxes", name := "row", desc := "()I" } : Jvm.MethodName) prog_1_method_28_code (5 : Nat) (Option.some Jvm.ClassFile.FieldType.int)) ∈ lw_all := lw_g (lw_at lw_m3 168 rfl) rfl
theorem q770 : (Jvm.Cond.instanceMethod ({ cls := "DowryBoxes", name := "rust", desc := "()I" } : Jvm.MethodName)) ∈ lw_all := lw_g (lw_at lw_m3 170 rfl) rfl
theorem q771 : (Jvm.Cond.selects "DowryBoxes" ({ cls := "DowryBoxes", name := "rust", desc := "()I" } : Jvm.MethodName) ({ cls := "DowryBoxes", name := "rust", desc := "()I" } : Jvm.MethodName)) ∈ lw_all := lw_g (lw_at lw_m3 171 rfl) rfl
theorem q772 : (Jvm.Cond.code ({ cls := "DowryBoxes", name := "rust", desc := "()I" } : Jvm.MethodName) prog_1_method_29_code (1 : Nat) (Option.some Jvm.ClassFile.FieldType.int)) ∈ lw_all := lw_g (lw_at lw_m3 172 rfl) rfl
theorem q774 : (Jvm.Cond.instanceMethod ({ cls := "DowryBoxes", name := "law", desc := "()I" } : Jvm.MethodName)) ∈ lw_all := lw_g (lw_at lw_m3 174 rfl) rfl
theorem q775 : (Jvm.Cond.selects "DowryBoxes" ({ cls := "DowryBoxes", name := "law", desc := "()I" } : Jvm.MethodName) ({ cls := "DowryBoxes", name := "law", desc := "()I" } : Jvm.MethodName)) ∈ lw_all := lw_g (lw_at lw_m3 175 rfl) rfl
theorem q776 : (Jvm.Cond.code ({ cls := "DowryBoxes", name := "law", desc := "()I" } : Jvm.MethodName) prog_1_method_31_code (3 : Nat) (Option.some Jvm.ClassFile.FieldType.int)) ∈ lw_all := lw_g (lw_at lw_m3 176 rfl) rfl
theorem q777 : (Jvm.Cond.methodLink "DowryBoxes" (260 : Nat) ({ cls := "java/util/ArrayList", name := "size", desc := "()I" } : Jvm.MethodName)) ∈ lw_all := lw_g (lw_at lw_m3 177 rfl) rfl
theorem q778 : (Jvm.Cond.classLink "DowryBoxes" (266 : Nat) "DowryBoxes$LawReader") ∈ lw_all := lw_g (lw_at lw_m3 178 rfl) rfl
theorem q780 : (Jvm.Cond.methodLink "DowryBoxes" (268 : Nat) ({ cls := "DowryBoxes$LawReader", name := "<init>", desc := "([BI)V" } : Jvm.MethodName)) ∈ lw_all := lw_g (lw_at lw_m3 180 rfl) rfl
theorem q790 : (Jvm.Cond.fieldLinkNest "DowryBoxes" (277 : Nat) "DowryBoxes$LawReader" "clauses" "Ljava/util/ArrayList;" "DowryBoxes") ∈ lw_tbl := lw_at lw_m3 190 rfl
theorem q815 : (Jvm.Cond.methodLink "DowryBoxes" (271 : Nat) ({ cls := "DowryBoxes", name := "reads", desc := "(LDowryBoxes$Reader;)Z" } : Jvm.MethodName)) ∈ lw_all := lw_g (lw_at lw_m3 215 rfl) rfl
theorem q816 : (Jvm.Cond.privateMethod ({ cls := "DowryBoxes", name := "reads", desc := "(LDowryBoxes$Reader;)Z" } : Jvm.MethodName)) ∈ lw_tbl := lw_at lw_m3 216 rfl
theorem q817 : (Jvm.Cond.instanceMethod ({ cls := "DowryBoxes", name := "reads", desc := "(LDowryBoxes$Reader;)Z" } : Jvm.MethodName)) ∈ lw_all := lw_g (lw_at lw_m3 217 rfl) rfl
theorem q818 : (Jvm.Cond.codeWith ({ cls := "DowryBoxes", name := "reads", desc := "(LDowryBoxes$Reader;)Z" } : Jvm.MethodName) prog_1_method_30_code (3 : Nat) (Option.some Jvm.ClassFile.FieldType.boolean) [((0 : Nat), (4 : Nat), (7 : Nat), (251 : Nat))]) ∈ lw_all := lw_g (lw_at lw_m3 218 rfl) rfl
theorem q819 : (Jvm.Cond.classLink "DowryBoxes" (251 : Nat) "DowryBoxes$Fault") ∈ lw_all := lw_g (lw_at lw_m3 219 rfl) rfl
theorem q820 : (Jvm.Cond.methodLink "DowryBoxes" (246 : Nat) ({ cls := "DowryBoxes$Reader", name := "read", desc := "()V" } : Jvm.MethodName)) ∈ lw_all := lw_g (lw_at lw_m3 220 rfl) rfl
theorem q920 : (Jvm.Cond.fieldLinkNest "DowryBoxes" (253 : Nat) "DowryBoxes$Fault" "place" "I" "DowryBoxes") ∈ lw_tbl := lw_at lw_m4 80 rfl
theorem q1200 : (Jvm.Cond.fieldLinkNest "DowryBoxes" (466 : Nat) "DowryBoxes$Order" "head" "I" "DowryBoxes") ∈ lw_tbl := lw_at lw_m5 120 rfl
theorem q1202 : (Jvm.Cond.fieldLinkNest "DowryBoxes" (469 : Nat) "DowryBoxes$Order" "one" "LDowryBoxes$Sum;" "DowryBoxes") ∈ lw_tbl := lw_at lw_m5 122 rfl
theorem q1204 : (Jvm.Cond.fieldLinkNest "DowryBoxes" (476 : Nat) "DowryBoxes$Order" "other" "LDowryBoxes$Sum;" "DowryBoxes") ∈ lw_tbl := lw_at lw_m5 124 rfl
theorem q1206 : (Jvm.Cond.fieldLinkNest "DowryBoxes" (479 : Nat) "DowryBoxes$Order" "third" "LDowryBoxes$Sum;" "DowryBoxes") ∈ lw_tbl := lw_at lw_m5 126 rfl
theorem q1209 : (Jvm.Cond.fieldLinkNest "DowryBoxes" (449 : Nat) "DowryBoxes$Order" "times" "I" "DowryBoxes") ∈ lw_tbl := lw_at lw_m5 129 rfl
theorem q1248 : (Jvm.Cond.methodLink "DowryBoxes" (280 : Nat) ({ cls := "DowryBoxes$Law", name := "<init>", desc := "(Ljava/util/ArrayList;)V" } : Jvm.MethodName)) ∈ lw_all := lw_g (lw_at lw_m5 168 rfl) rfl
theorem q1256 : (Jvm.Cond.methodLink "DowryBoxes" (283 : Nat) ({ cls := "java/util/ArrayList", name := "add", desc := "(Ljava/lang/Object;)Z" } : Jvm.MethodName)) ∈ lw_all := lw_g (lw_at lw_m5 176 rfl) rfl
theorem q1258 : (Jvm.Cond.instanceMethod ({ cls := "DowryBoxes", name := "fault", desc := "()I" } : Jvm.MethodName)) ∈ lw_all := lw_g (lw_at lw_m5 178 rfl) rfl
theorem q1259 : (Jvm.Cond.selects "DowryBoxes" ({ cls := "DowryBoxes", name := "fault", desc := "()I" } : Jvm.MethodName) ({ cls := "DowryBoxes", name := "fault", desc := "()I" } : Jvm.MethodName)) ∈ lw_all := lw_g (lw_at lw_m5 179 rfl) rfl
theorem q1260 : (Jvm.Cond.code ({ cls := "DowryBoxes", name := "fault", desc := "()I" } : Jvm.MethodName) prog_1_method_32_code (1 : Nat) (Option.some Jvm.ClassFile.FieldType.int)) ∈ lw_all := lw_g (lw_at lw_m5 180 rfl) rfl
theorem q1262 : (Jvm.Cond.instanceMethod ({ cls := "DowryBoxes", name := "stopped", desc := "()I" } : Jvm.MethodName)) ∈ lw_all := lw_g (lw_at lw_m5 182 rfl) rfl
theorem q1263 : (Jvm.Cond.selects "DowryBoxes" ({ cls := "DowryBoxes", name := "stopped", desc := "()I" } : Jvm.MethodName) ({ cls := "DowryBoxes", name := "stopped", desc := "()I" } : Jvm.MethodName)) ∈ lw_all := lw_g (lw_at lw_m5 183 rfl) rfl
theorem q1264 : (Jvm.Cond.code ({ cls := "DowryBoxes", name := "stopped", desc := "()I" } : Jvm.MethodName) prog_1_method_33_code (1 : Nat) (Option.some Jvm.ClassFile.FieldType.int)) ∈ lw_all := lw_g (lw_at lw_m5 184 rfl) rfl
theorem q1266 : (Jvm.Cond.instanceMethod ({ cls := "DowryBoxes", name := "force", desc := "(I)I" } : Jvm.MethodName)) ∈ lw_all := lw_g (lw_at lw_m5 186 rfl) rfl
theorem q1267 : (Jvm.Cond.selects "DowryBoxes" ({ cls := "DowryBoxes", name := "force", desc := "(I)I" } : Jvm.MethodName) ({ cls := "DowryBoxes", name := "force", desc := "(I)I" } : Jvm.MethodName)) ∈ lw_all := lw_g (lw_at lw_m5 187 rfl) rfl
theorem q1268 : (Jvm.Cond.code ({ cls := "DowryBoxes", name := "force", desc := "(I)I" } : Jvm.MethodName) prog_1_method_35_code (3 : Nat) (Option.some Jvm.ClassFile.FieldType.int)) ∈ lw_all := lw_g (lw_at lw_m5 188 rfl) rfl
theorem q1269 : (Jvm.Cond.methodLink "DowryBoxes" (287 : Nat) ({ cls := "DowryBoxes", name := "isLaw", desc := "(I)Z" } : Jvm.MethodName)) ∈ lw_all := lw_g (lw_at lw_m5 189 rfl) rfl
theorem q1270 : (Jvm.Cond.privateMethod ({ cls := "DowryBoxes", name := "isLaw", desc := "(I)Z" } : Jvm.MethodName)) ∈ lw_tbl := lw_at lw_m5 190 rfl
theorem q1271 : (Jvm.Cond.instanceMethod ({ cls := "DowryBoxes", name := "isLaw", desc := "(I)Z" } : Jvm.MethodName)) ∈ lw_all := lw_g (lw_at lw_m5 191 rfl) rfl
theorem q1272 : (Jvm.Cond.code ({ cls := "DowryBoxes", name := "isLaw", desc := "(I)Z" } : Jvm.MethodName) prog_1_method_34_code (2 : Nat) (Option.some Jvm.ClassFile.FieldType.boolean)) ∈ lw_all := lw_g (lw_at lw_m5 192 rfl) rfl
theorem q1274 : (Jvm.Cond.instanceMethod ({ cls := "DowryBoxes", name := "pull", desc := "(III)I" } : Jvm.MethodName)) ∈ lw_all := lw_g (lw_at lw_m5 194 rfl) rfl
theorem q1275 : (Jvm.Cond.selects "DowryBoxes" ({ cls := "DowryBoxes", name := "pull", desc := "(III)I" } : Jvm.MethodName) ({ cls := "DowryBoxes", name := "pull", desc := "(III)I" } : Jvm.MethodName)) ∈ lw_all := lw_g (lw_at lw_m5 195 rfl) rfl
theorem q1276 : (Jvm.Cond.code ({ cls := "DowryBoxes", name := "pull", desc := "(III)I" } : Jvm.MethodName) prog_1_method_51_code (4 : Nat) (Option.some Jvm.ClassFile.FieldType.int)) ∈ lw_all := lw_g (lw_at lw_m5 196 rfl) rfl
theorem q1277 : (Jvm.Cond.methodLink "DowryBoxes" (344 : Nat) ({ cls := "DowryBoxes", name := "pullsKept", desc := "(III)I" } : Jvm.MethodName)) ∈ lw_all := lw_g (lw_at lw_m5 197 rfl) rfl
theorem q1278 : (Jvm.Cond.privateMethod ({ cls := "DowryBoxes", name := "pullsKept", desc := "(III)I" } : Jvm.MethodName)) ∈ lw_tbl := lw_at lw_m5 198 rfl
theorem q1279 : (Jvm.Cond.instanceMethod ({ cls := "DowryBoxes", name := "pullsKept", desc := "(III)I" } : Jvm.MethodName)) ∈ lw_all := lw_g (lw_at lw_m5 199 rfl) rfl
theorem q1280 : (Jvm.Cond.code ({ cls := "DowryBoxes", name := "pullsKept", desc := "(III)I" } : Jvm.MethodName) prog_1_method_46_code (4 : Nat) (Option.some Jvm.ClassFile.FieldType.int)) ∈ lw_all := lw_g (lw_at lw_m5 200 rfl) rfl
theorem q1281 : (Jvm.Cond.methodLink "DowryBoxes" (334 : Nat) ({ cls := "DowryBoxes", name := "keeps", desc := "(I)V" } : Jvm.MethodName)) ∈ lw_all := lw_g (lw_at lw_m5 201 rfl) rfl
theorem q1282 : (Jvm.Cond.privateMethod ({ cls := "DowryBoxes", name := "keeps", desc := "(I)V" } : Jvm.MethodName)) ∈ lw_tbl := lw_at lw_m5 202 rfl
theorem q1283 : (Jvm.Cond.instanceMethod ({ cls := "DowryBoxes", name := "keeps", desc := "(I)V" } : Jvm.MethodName)) ∈ lw_all := lw_g (lw_at lw_m5 203 rfl) rfl
theorem q1284 : (Jvm.Cond.code ({ cls := "DowryBoxes", name := "keeps", desc := "(I)V" } : Jvm.MethodName) prog_1_method_45_code (4 : Nat) (Option.none : Option Jvm.ClassFile.FieldType)) ∈ lw_all := lw_g (lw_at lw_m5 204 rfl) rfl
theorem q1285 : (Jvm.Cond.methodLink "DowryBoxes" (331 : Nat) ({ cls := "DowryBoxes$Table", name := "takes", desc := "(LDowryBoxes$Table;)V" } : Jvm.MethodName)) ∈ lw_all := lw_g (lw_at lw_m5 205 rfl) rfl
theorem q1286 : (Jvm.Cond.methodLink "DowryBoxes" (348 : Nat) ({ cls := "DowryBoxes", name := "doneOr", desc := "(I)I" } : Jvm.MethodName)) ∈ lw_all := lw_g (lw_at lw_m5 206 rfl) rfl
theorem q1287 : (Jvm.Cond.privateMethod ({ cls := "DowryBoxes", name := "doneOr", desc := "(I)I" } : Jvm.MethodName)) ∈ lw_tbl := lw_at lw_m5 207 rfl
theorem q1288 : (Jvm.Cond.instanceMethod ({ cls := "DowryBoxes", name := "doneOr", desc := "(I)I" } : Jvm.MethodName)) ∈ lw_all := lw_g (lw_at lw_m5 208 rfl) rfl
theorem q1289 : (Jvm.Cond.code ({ cls := "DowryBoxes", name := "doneOr", desc := "(I)I" } : Jvm.MethodName) prog_1_method_50_code (2 : Nat) (Option.some Jvm.ClassFile.FieldType.int)) ∈ lw_all := lw_g (lw_at lw_m5 209 rfl) rfl
theorem q1291 : (Jvm.Cond.instanceMethod ({ cls := "DowryBoxes", name := "snap", desc := "(II)I" } : Jvm.MethodName)) ∈ lw_all := lw_g (lw_at lw_m5 211 rfl) rfl
theorem q1292 : (Jvm.Cond.selects "DowryBoxes" ({ cls := "DowryBoxes", name := "snap", desc := "(II)I" } : Jvm.MethodName) ({ cls := "DowryBoxes", name := "snap", desc := "(II)I" } : Jvm.MethodName)) ∈ lw_all := lw_g (lw_at lw_m5 212 rfl) rfl
theorem q1293 : (Jvm.Cond.code ({ cls := "DowryBoxes", name := "snap", desc := "(II)I" } : Jvm.MethodName) prog_1_method_52_code (3 : Nat) (Option.some Jvm.ClassFile.FieldType.int)) ∈ lw_all := lw_g (lw_at lw_m5 213 rfl) rfl
theorem q1294 : (Jvm.Cond.methodLink "DowryBoxes" (351 : Nat) ({ cls := "DowryBoxes", name := "snapsKept", desc := "(II)I" } : Jvm.MethodName)) ∈ lw_all := lw_g (lw_at lw_m5 214 rfl) rfl
theorem q1295 : (Jvm.Cond.privateMethod ({ cls := "DowryBoxes", name := "snapsKept", desc := "(II)I" } : Jvm.MethodName)) ∈ lw_tbl := lw_at lw_m5 215 rfl
theorem q1296 : (Jvm.Cond.instanceMethod ({ cls := "DowryBoxes", name := "snapsKept", desc := "(II)I" } : Jvm.MethodName)) ∈ lw_all := lw_g (lw_at lw_m5 216 rfl) rfl
theorem q1297 : (Jvm.Cond.code ({ cls := "DowryBoxes", name := "snapsKept", desc := "(II)I" } : Jvm.MethodName) prog_1_method_47_code (3 : Nat) (Option.some Jvm.ClassFile.FieldType.int)) ∈ lw_all := lw_g (lw_at lw_m5 217 rfl) rfl
theorem q1299 : (Jvm.Cond.instanceMethod ({ cls := "DowryBoxes", name := "wed", desc := "(II)I" } : Jvm.MethodName)) ∈ lw_all := lw_g (lw_at lw_m5 219 rfl) rfl
theorem q1300 : (Jvm.Cond.selects "DowryBoxes" ({ cls := "DowryBoxes", name := "wed", desc := "(II)I" } : Jvm.MethodName) ({ cls := "DowryBoxes", name := "wed", desc := "(II)I" } : Jvm.MethodName)) ∈ lw_all := lw_g (lw_at lw_m5 220 rfl) rfl
theorem q1301 : (Jvm.Cond.code ({ cls := "DowryBoxes", name := "wed", desc := "(II)I" } : Jvm.MethodName) prog_1_method_53_code (3 : Nat) (Option.some Jvm.ClassFile.FieldType.int)) ∈ lw_all := lw_g (lw_at lw_m5 221 rfl) rfl
theorem q1302 : (Jvm.Cond.methodLink "DowryBoxes" (354 : Nat) ({ cls := "DowryBoxes", name := "wedsKept", desc := "(II)I" } : Jvm.MethodName)) ∈ lw_all := lw_g (lw_at lw_m5 222 rfl) rfl
theorem q1303 : (Jvm.Cond.privateMethod ({ cls := "DowryBoxes", name := "wedsKept", desc := "(II)I" } : Jvm.MethodName)) ∈ lw_tbl := lw_at lw_m5 223 rfl
theorem q1304 : (Jvm.Cond.instanceMethod ({ cls := "DowryBoxes", name := "wedsKept", desc := "(II)I" } : Jvm.MethodName)) ∈ lw_all := lw_g (lw_at lw_m5 224 rfl) rfl
theorem q1305 : (Jvm.Cond.code ({ cls := "DowryBoxes", name := "wedsKept", desc := "(II)I" } : Jvm.MethodName) prog_1_method_48_code (4 : Nat) (Option.some Jvm.ClassFile.FieldType.int)) ∈ lw_all := lw_g (lw_at lw_m5 225 rfl) rfl
theorem q1306 : (Jvm.Cond.methodLink "DowryBoxes" (337 : Nat) ({ cls := "DowryBoxes", name := "canWed", desc := "(LDowryBoxes$Table;II)Z" } : Jvm.MethodName)) ∈ lw_all := lw_g (lw_at lw_m5 226 rfl) rfl
theorem q1307 : (Jvm.Cond.privateMethod ({ cls := "DowryBoxes", name := "canWed", desc := "(LDowryBoxes$Table;II)Z" } : Jvm.MethodName)) ∈ lw_tbl := lw_at lw_m5 227 rfl
theorem q1308 : (Jvm.Cond.instanceMethod ({ cls := "DowryBoxes", name := "canWed", desc := "(LDowryBoxes$Table;II)Z" } : Jvm.MethodName)) ∈ lw_all := lw_g (lw_at lw_m5 228 rfl) rfl
theorem q1309 : (Jvm.Cond.code ({ cls := "DowryBoxes", name := "canWed", desc := "(LDowryBoxes$Table;II)Z" } : Jvm.MethodName) prog_1_method_43_code (4 : Nat) (Option.some Jvm.ClassFile.FieldType.boolean)) ∈ lw_all := lw_g (lw_at lw_m5 229 rfl) rfl
theorem q1310 : (Jvm.Cond.methodLink "DowryBoxes" (326 : Nat) ({ cls := "DowryBoxes$Table", name := "isWed", desc := "(I)Z" } : Jvm.MethodName)) ∈ lw_all := lw_g (lw_at lw_m5 230 rfl) rfl
theorem q1315 : (Jvm.Cond.instanceMethod ({ cls := "DowryBoxes", name := "pass", desc := "()I" } : Jvm.MethodName)) ∈ lw_all := lw_g (lw_at lw_m5 235 rfl) rfl
theorem q1316 : (Jvm.Cond.selects "DowryBoxes" ({ cls := "DowryBoxes", name := "pass", desc := "()I" } : Jvm.MethodName) ({ cls := "DowryBoxes", name := "pass", desc := "()I" } : Jvm.MethodName)) ∈ lw_all := lw_g (lw_at lw_m5 236 rfl) rfl
theorem q1317 : (Jvm.Cond.code ({ cls := "DowryBoxes", name := "pass", desc := "()I" } : Jvm.MethodName) prog_1_method_54_code (1 : Nat) (Option.some Jvm.ClassFile.FieldType.int)) ∈ lw_all := lw_g (lw_at lw_m5 237 rfl) rfl
theorem q1318 : (Jvm.Cond.methodLink "DowryBoxes" (357 : Nat) ({ cls := "DowryBoxes", name := "passesKept", desc := "()I" } : Jvm.MethodName)) ∈ lw_all := lw_g (lw_at lw_m5 238 rfl) rfl
theorem q1319 : (Jvm.Cond.privateMethod ({ cls := "DowryBoxes", name := "passesKept", desc := "()I" } : Jvm.MethodName)) ∈ lw_tbl := lw_at lw_m5 239 rfl
theorem q1320 : (Jvm.Cond.instanceMethod ({ cls := "DowryBoxes", name := "passesKept", desc := "()I" } : Jvm.MethodName)) ∈ lw_all := lw_g (lw_at lw_m6 0 rfl) rfl
theorem q1321 : (Jvm.Cond.code ({ cls := "DowryBoxes", name := "passesKept", desc := "()I" } : Jvm.MethodName) prog_1_method_49_code (1 : Nat) (Option.some Jvm.ClassFile.FieldType.int)) ∈ lw_all := lw_g (lw_at lw_m6 1 rfl) rfl
theorem q1322 : (Jvm.Cond.methodLink "DowryBoxes" (340 : Nat) ({ cls := "DowryBoxes", name := "passes", desc := "(LDowryBoxes$Table;)I" } : Jvm.MethodName)) ∈ lw_all := lw_g (lw_at lw_m6 2 rfl) rfl
theorem q1323 : (Jvm.Cond.privateMethod ({ cls := "DowryBoxes", name := "passes", desc := "(LDowryBoxes$Table;)I" } : Jvm.MethodName)) ∈ lw_tbl := lw_at lw_m6 3 rfl
theorem q1324 : (Jvm.Cond.instanceMethod ({ cls := "DowryBoxes", name := "passes", desc := "(LDowryBoxes$Table;)I" } : Jvm.MethodName)) ∈ lw_all := lw_g (lw_at lw_m6 4 rfl) rfl
theorem q1325 : (Jvm.Cond.code ({ cls := "DowryBoxes", name := "passes", desc := "(LDowryBoxes$Table;)I" } : Jvm.MethodName) prog_1_method_44_code (4 : Nat) (Option.some Jvm.ClassFile.FieldType.int)) ∈ lw_all := lw_g (lw_at lw_m6 5 rfl) rfl
theorem q1326 : (Jvm.Cond.methodLink "DowryBoxes" (329 : Nat) ({ cls := "java/lang/Math", name := "max", desc := "(II)I" } : Jvm.MethodName)) ∈ lw_all := lw_g (lw_at lw_m6 6 rfl) rfl
theorem q1328 : (Jvm.Cond.instanceMethod ({ cls := "DowryBoxes", name := "undo", desc := "()I" } : Jvm.MethodName)) ∈ lw_all := lw_g (lw_at lw_m6 8 rfl) rfl
theorem q1329 : (Jvm.Cond.selects "DowryBoxes" ({ cls := "DowryBoxes", name := "undo", desc := "()I" } : Jvm.MethodName) ({ cls := "DowryBoxes", name := "undo", desc := "()I" } : Jvm.MethodName)) ∈ lw_all := lw_g (lw_at lw_m6 9 rfl) rfl
theorem q1330 : (Jvm.Cond.code ({ cls := "DowryBoxes", name := "undo", desc := "()I" } : Jvm.MethodName) prog_1_method_55_code (1 : Nat) (Option.some Jvm.ClassFile.FieldType.int)) ∈ lw_all := lw_g (lw_at lw_m6 10 rfl) rfl
theorem q1332 : (Jvm.Cond.instanceMethod ({ cls := "DowryBoxes", name := "hear", desc := "(III)I" } : Jvm.MethodName)) ∈ lw_all := lw_g (lw_at lw_m6 12 rfl) rfl
theorem q1333 : (Jvm.Cond.selects "DowryBoxes" ({ cls := "DowryBoxes", name := "hear", desc := "(III)I" } : Jvm.MethodName) ({ cls := "DowryBoxes", name := "hear", desc := "(III)I" } : Jvm.MethodName)) ∈ lw_all := lw_g (lw_at lw_m6 13 rfl) rfl
theorem q1334 : (Jvm.Cond.code ({ cls := "DowryBoxes", name := "hear", desc := "(III)I" } : Jvm.MethodName) prog_1_method_56_code (5 : Nat) (Option.some Jvm.ClassFile.FieldType.int)) ∈ lw_all := lw_g (lw_at lw_m6 14 rfl) rfl
theorem q1336 : (Jvm.Cond.instanceMethod ({ cls := "DowryBoxes", name := "forget", desc := "()I" } : Jvm.MethodName)) ∈ lw_all := lw_g (lw_at lw_m6 16 rfl) rfl
theorem q1337 : (Jvm.Cond.selects "DowryBoxes" ({ cls := "DowryBoxes", name := "forget", desc := "()I" } : Jvm.MethodName) ({ cls := "DowryBoxes", name := "forget", desc := "()I" } : Jvm.MethodName)) ∈ lw_all := lw_g (lw_at lw_m6 17 rfl) rfl
theorem q1338 : (Jvm.Cond.code ({ cls := "DowryBoxes", name := "forget", desc := "()I" } : Jvm.MethodName) prog_1_method_57_code (2 : Nat) (Option.some Jvm.ClassFile.FieldType.int)) ∈ lw_all := lw_g (lw_at lw_m6 18 rfl) rfl
theorem q1340 : (Jvm.Cond.instanceMethod ({ cls := "DowryBoxes", name := "which", desc := "()I" } : Jvm.MethodName)) ∈ lw_all := lw_g (lw_at lw_m6 20 rfl) rfl
theorem q1341 : (Jvm.Cond.selects "DowryBoxes" ({ cls := "DowryBoxes", name := "which", desc := "()I" } : Jvm.MethodName) ({ cls := "DowryBoxes", name := "which", desc := "()I" } : Jvm.MethodName)) ∈ lw_all := lw_g (lw_at lw_m6 21 rfl) rfl
theorem q1342 : (Jvm.Cond.code ({ cls := "DowryBoxes", name := "which", desc := "()I" } : Jvm.MethodName) prog_1_method_59_code (3 : Nat) (Option.some Jvm.ClassFile.FieldType.int)) ∈ lw_all := lw_g (lw_at lw_m6 22 rfl) rfl
theorem q1343 : (Jvm.Cond.methodLink "DowryBoxes" (366 : Nat) ({ cls := "DowryBoxes", name := "isSo", desc := "(I)Z" } : Jvm.MethodName)) ∈ lw_all := lw_g (lw_at lw_m6 23 rfl) rfl
theorem q1344 : (Jvm.Cond.privateMethod ({ cls := "DowryBoxes", name := "isSo", desc := "(I)Z" } : Jvm.MethodName)) ∈ lw_tbl := lw_at lw_m6 24 rfl
theorem q1345 : (Jvm.Cond.instanceMethod ({ cls := "DowryBoxes", name := "isSo", desc := "(I)Z" } : Jvm.MethodName)) ∈ lw_all := lw_g (lw_at lw_m6 25 rfl) rfl
theorem q1346 : (Jvm.Cond.code ({ cls := "DowryBoxes", name := "isSo", desc := "(I)Z" } : Jvm.MethodName) prog_1_method_58_code (3 : Nat) (Option.some Jvm.ClassFile.FieldType.boolean)) ∈ lw_all := lw_g (lw_at lw_m6 26 rfl) rfl
theorem q1348 : (Jvm.Cond.instanceMethod ({ cls := "DowryBoxes", name := "listen", desc := "(I)I" } : Jvm.MethodName)) ∈ lw_all := lw_g (lw_at lw_m6 28 rfl) rfl
theorem q1349 : (Jvm.Cond.selects "DowryBoxes" ({ cls := "DowryBoxes", name := "listen", desc := "(I)I" } : Jvm.MethodName) ({ cls := "DowryBoxes", name := "listen", desc := "(I)I" } : Jvm.MethodName)) ∈ lw_all := lw_g (lw_at lw_m6 29 rfl) rfl
theorem q1350 : (Jvm.Cond.code ({ cls := "DowryBoxes", name := "listen", desc := "(I)I" } : Jvm.MethodName) prog_1_method_60_code (8 : Nat) (Option.some Jvm.ClassFile.FieldType.int)) ∈ lw_all := lw_g (lw_at lw_m6 30 rfl) rfl
theorem q1351 : (Jvm.Cond.methodLink "DowryBoxes" (369 : Nat) ({ cls := "DowryBoxes", name := "which", desc := "()I" } : Jvm.MethodName)) ∈ lw_all := lw_g (lw_at lw_m6 31 rfl) rfl
theorem q1352 : (Jvm.Cond.constant "DowryBoxes" (372 : Nat) (1000000 : Int32)) ∈ lw_all := lw_g (lw_at lw_m6 32 rfl) rfl
theorem q1354 : (Jvm.Cond.instanceMethod ({ cls := "DowryBoxes", name := "steady", desc := "(I)I" } : Jvm.MethodName)) ∈ lw_all := lw_g (lw_at lw_m6 34 rfl) rfl
theorem q1355 : (Jvm.Cond.selects "DowryBoxes" ({ cls := "DowryBoxes", name := "steady", desc := "(I)I" } : Jvm.MethodName) ({ cls := "DowryBoxes", name := "steady", desc := "(I)I" } : Jvm.MethodName)) ∈ lw_all := lw_g (lw_at lw_m6 35 rfl) rfl
theorem q1356 : (Jvm.Cond.code ({ cls := "DowryBoxes", name := "steady", desc := "(I)I" } : Jvm.MethodName) prog_1_method_65_code (3 : Nat) (Option.some Jvm.ClassFile.FieldType.int)) ∈ lw_all := lw_g (lw_at lw_m6 36 rfl) rfl
theorem q1357 : (Jvm.Cond.methodLink "DowryBoxes" (385 : Nat) ({ cls := "DowryBoxes", name := "matches", desc := "()V" } : Jvm.MethodName)) ∈ lw_all := lw_g (lw_at lw_m6 37 rfl) rfl
theorem q1358 : (Jvm.Cond.privateMethod ({ cls := "DowryBoxes", name := "matches", desc := "()V" } : Jvm.MethodName)) ∈ lw_tbl := lw_at lw_m6 38 rfl
theorem q1359 : (Jvm.Cond.instanceMethod ({ cls := "DowryBoxes", name := "matches", desc := "()V" } : Jvm.MethodName)) ∈ lw_all := lw_g (lw_at lw_m6 39 rfl) rfl
theorem q1360 : (Jvm.Cond.code ({ cls := "DowryBoxes", name := "matches", desc := "()V" } : Jvm.MethodName) prog_1_method_64_code (5 : Nat) (Option.none : Option Jvm.ClassFile.FieldType)) ∈ lw_all := lw_g (lw_at lw_m6 40 rfl) rfl
theorem q1361 : (Jvm.Cond.methodLink "DowryBoxes" (376 : Nat) ({ cls := "DowryBoxes", name := "laysGaps", desc := "()V" } : Jvm.MethodName)) ∈ lw_all := lw_g (lw_at lw_m6 41 rfl) rfl
theorem q1362 : (Jvm.Cond.privateMethod ({ cls := "DowryBoxes", name := "laysGaps", desc := "()V" } : Jvm.MethodName)) ∈ lw_tbl := lw_at lw_m6 42 rfl
theorem q1363 : (Jvm.Cond.instanceMethod ({ cls := "DowryBoxes", name := "laysGaps", desc := "()V" } : Jvm.MethodName)) ∈ lw_all := lw_g (lw_at lw_m6 43 rfl) rfl
theorem q1364 : (Jvm.Cond.code ({ cls := "DowryBoxes", name := "laysGaps", desc := "()V" } : Jvm.MethodName) prog_1_method_61_code (4 : Nat) (Option.none : Option Jvm.ClassFile.FieldType)) ∈ lw_all := lw_g (lw_at lw_m6 44 rfl) rfl
theorem q1365 : (Jvm.Cond.methodLink "DowryBoxes" (373 : Nat) ({ cls := "java/lang/Math", name := "abs", desc := "(I)I" } : Jvm.MethodName)) ∈ lw_all := lw_g (lw_at lw_m6 45 rfl) rfl
theorem q1368 : (Jvm.Cond.methodLink "DowryBoxes" (379 : Nat) ({ cls := "DowryBoxes", name := "nextAsked", desc := "(I)I" } : Jvm.MethodName)) ∈ lw_all := lw_g (lw_at lw_m6 48 rfl) rfl
theorem q1369 : (Jvm.Cond.privateMethod ({ cls := "DowryBoxes", name := "nextAsked", desc := "(I)I" } : Jvm.MethodName)) ∈ lw_tbl := lw_at lw_m6 49 rfl
theorem q1370 : (Jvm.Cond.instanceMethod ({ cls := "DowryBoxes", name := "nextAsked", desc := "(I)I" } : Jvm.MethodName)) ∈ lw_all := lw_g (lw_at lw_m6 50 rfl) rfl
theorem q1371 : (Jvm.Cond.code ({ cls := "DowryBoxes", name := "nextAsked", desc := "(I)I" } : Jvm.MethodName) prog_1_method_62_code (5 : Nat) (Option.some Jvm.ClassFile.FieldType.int)) ∈ lw_all := lw_g (lw_at lw_m6 51 rfl) rfl
theorem q1372 : (Jvm.Cond.methodLink "DowryBoxes" (382 : Nat) ({ cls := "DowryBoxes", name := "isRather", desc := "(III)Z" } : Jvm.MethodName)) ∈ lw_all := lw_g (lw_at lw_m6 52 rfl) rfl
theorem q1373 : (Jvm.Cond.privateMethod ({ cls := "DowryBoxes", name := "isRather", desc := "(III)Z" } : Jvm.MethodName)) ∈ lw_tbl := lw_at lw_m6 53 rfl
theorem q1374 : (Jvm.Cond.instanceMethod ({ cls := "DowryBoxes", name := "isRather", desc := "(III)Z" } : Jvm.MethodName)) ∈ lw_all := lw_g (lw_at lw_m6 54 rfl) rfl
theorem q1375 : (Jvm.Cond.code ({ cls := "DowryBoxes", name := "isRather", desc := "(III)Z" } : Jvm.MethodName) prog_1_method_63_code (6 : Nat) (Option.some Jvm.ClassFile.FieldType.boolean)) ∈ lw_all := lw_g (lw_at lw_m6 55 rfl) rfl
theorem q1377 : (Jvm.Cond.instanceMethod ({ cls := "DowryBoxes", name := "about", desc := "(II)I" } : Jvm.MethodName)) ∈ lw_all := lw_g (lw_at lw_m6 57 rfl) rfl
theorem q1378 : (Jvm.Cond.selects "DowryBoxes" ({ cls := "DowryBoxes", name := "about", desc := "(II)I" } : Jvm.MethodName) ({ cls := "DowryBoxes", name := "about", desc := "(II)I" } : Jvm.MethodName)) ∈ lw_all := lw_g (lw_at lw_m6 58 rfl) rfl
theorem q1379 : (Jvm.Cond.code ({ cls := "DowryBoxes", name := "about", desc := "(II)I" } : Jvm.MethodName) prog_1_method_70_code (7 : Nat) (Option.some Jvm.ClassFile.FieldType.int)) ∈ lw_all := lw_g (lw_at lw_m6 59 rfl) rfl
theorem q1380 : (Jvm.Cond.methodLink "DowryBoxes" (397 : Nat) ({ cls := "DowryBoxes", name := "laysAbout", desc := "()V" } : Jvm.MethodName)) ∈ lw_all := lw_g (lw_at lw_m6 60 rfl) rfl
theorem q1381 : (Jvm.Cond.privateMethod ({ cls := "DowryBoxes", name := "laysAbout", desc := "()V" } : Jvm.MethodName)) ∈ lw_tbl := lw_at lw_m6 61 rfl
theorem q1382 : (Jvm.Cond.instanceMethod ({ cls := "DowryBoxes", name := "laysAbout", desc := "()V" } : Jvm.MethodName)) ∈ lw_all := lw_g (lw_at lw_m6 62 rfl) rfl
theorem q1383 : (Jvm.Cond.code ({ cls := "DowryBoxes", name := "laysAbout", desc := "()V" } : Jvm.MethodName) prog_1_method_69_code (5 : Nat) (Option.none : Option Jvm.ClassFile.FieldType)) ∈ lw_all := lw_g (lw_at lw_m6 63 rfl) rfl
theorem q1384 : (Jvm.Cond.methodLink "DowryBoxes" (394 : Nat) ({ cls := "DowryBoxes", name := "mostWith", desc := "(III)I" } : Jvm.MethodName)) ∈ lw_all := lw_g (lw_at lw_m6 64 rfl) rfl
theorem q1385 : (Jvm.Cond.privateMethod ({ cls := "DowryBoxes", name := "mostWith", desc := "(III)I" } : Jvm.MethodName)) ∈ lw_tbl := lw_at lw_m6 65 rfl
theorem q1386 : (Jvm.Cond.instanceMethod ({ cls := "DowryBoxes", name := "mostWith", desc := "(III)I" } : Jvm.MethodName)) ∈ lw_all := lw_g (lw_at lw_m6 66 rfl) rfl
theorem q1387 : (Jvm.Cond.code ({ cls := "DowryBoxes", name := "mostWith", desc := "(III)I" } : Jvm.MethodName) prog_1_method_67_code (5 : Nat) (Option.some Jvm.ClassFile.FieldType.int)) ∈ lw_all := lw_g (lw_at lw_m6 67 rfl) rfl
theorem q1388 : (Jvm.Cond.methodLink "DowryBoxes" (388 : Nat) ({ cls := "DowryBoxes", name := "mostOf", desc := "(II)I" } : Jvm.MethodName)) ∈ lw_all := lw_g (lw_at lw_m6 68 rfl) rfl
theorem q1389 : (Jvm.Cond.privateMethod ({ cls := "DowryBoxes", name := "mostOf", desc := "(II)I" } : Jvm.MethodName)) ∈ lw_tbl := lw_at lw_m6 69 rfl
theorem q1390 : (Jvm.Cond.instanceMethod ({ cls := "DowryBoxes", name := "mostOf", desc := "(II)I" } : Jvm.MethodName)) ∈ lw_all := lw_g (lw_at lw_m6 70 rfl) rfl
theorem q1391 : (Jvm.Cond.code ({ cls := "DowryBoxes", name := "mostOf", desc := "(II)I" } : Jvm.MethodName) prog_1_method_66_code (3 : Nat) (Option.some Jvm.ClassFile.FieldType.int)) ∈ lw_all := lw_g (lw_at lw_m6 71 rfl) rfl
theorem q1392 : (Jvm.Cond.methodLink "DowryBoxes" (400 : Nat) ({ cls := "DowryBoxes", name := "suitorOf", desc := "(II)I" } : Jvm.MethodName)) ∈ lw_all := lw_g (lw_at lw_m6 72 rfl) rfl
theorem q1393 : (Jvm.Cond.privateMethod ({ cls := "DowryBoxes", name := "suitorOf", desc := "(II)I" } : Jvm.MethodName)) ∈ lw_tbl := lw_at lw_m6 73 rfl
theorem q1394 : (Jvm.Cond.instanceMethod ({ cls := "DowryBoxes", name := "suitorOf", desc := "(II)I" } : Jvm.MethodName)) ∈ lw_all := lw_g (lw_at lw_m6 74 rfl) rfl
theorem q1395 : (Jvm.Cond.code ({ cls := "DowryBoxes", name := "suitorOf", desc := "(II)I" } : Jvm.MethodName) prog_1_method_68_code (4 : Nat) (Option.some Jvm.ClassFile.FieldType.int)) ∈ lw_all := lw_g (lw_at lw_m6 75 rfl) rfl
theorem q1397 : (Jvm.Cond.instanceMethod ({ cls := "DowryBoxes", name := "keep", desc := "(III)I" } : Jvm.MethodName)) ∈ lw_all := lw_g (lw_at lw_m6 77 rfl) rfl
theorem q1398 : (Jvm.Cond.selects "DowryBoxes" ({ cls := "DowryBoxes", name := "keep", desc := "(III)I" } : Jvm.MethodName) ({ cls := "DowryBoxes", name := "keep", desc := "(III)I" } : Jvm.MethodName)) ∈ lw_all := lw_g (lw_at lw_m6 78 rfl) rfl
theorem q1399 : (Jvm.Cond.code ({ cls := "DowryBoxes", name := "keep", desc := "(III)I" } : Jvm.MethodName) prog_1_method_73_code (8 : Nat) (Option.some Jvm.ClassFile.FieldType.int)) ∈ lw_all := lw_g (lw_at lw_m6 79 rfl) rfl
theorem q1400 : (Jvm.Cond.methodLink "DowryBoxes" (408 : Nat) ({ cls := "DowryBoxes", name := "laysFewest", desc := "(II)V" } : Jvm.MethodName)) ∈ lw_all := lw_g (lw_at lw_m6 80 rfl) rfl
theorem q1401 : (Jvm.Cond.privateMethod ({ cls := "DowryBoxes", name := "laysFewest", desc := "(II)V" } : Jvm.MethodName)) ∈ lw_tbl := lw_at lw_m6 81 rfl
theorem q1402 : (Jvm.Cond.instanceMethod ({ cls := "DowryBoxes", name := "laysFewest", desc := "(II)V" } : Jvm.MethodName)) ∈ lw_all := lw_g (lw_at lw_m6 82 rfl) rfl
theorem q1403 : (Jvm.Cond.code ({ cls := "DowryBoxes", name := "laysFewest", desc := "(II)V" } : Jvm.MethodName) prog_1_method_71_code (7 : Nat) (Option.none : Option Jvm.ClassFile.FieldType)) ∈ lw_all := lw_g (lw_at lw_m6 83 rfl) rfl
theorem q1404 : (Jvm.Cond.methodLink "DowryBoxes" (403 : Nat) ({ cls := "DowryBoxes", name := "fewestBehind", desc := "(III)I" } : Jvm.MethodName)) ∈ lw_all := lw_g (lw_at lw_m6 84 rfl) rfl
theorem q1405 : (Jvm.Cond.privateMethod ({ cls := "DowryBoxes", name := "fewestBehind", desc := "(III)I" } : Jvm.MethodName)) ∈ lw_tbl := lw_at lw_m6 85 rfl
theorem q1406 : (Jvm.Cond.instanceMethod ({ cls := "DowryBoxes", name := "fewestBehind", desc := "(III)I" } : Jvm.MethodName)) ∈ lw_all := lw_g (lw_at lw_m6 86 rfl) rfl
theorem q1407 : (Jvm.Cond.code ({ cls := "DowryBoxes", name := "fewestBehind", desc := "(III)I" } : Jvm.MethodName) prog_1_method_72_code (6 : Nat) (Option.some Jvm.ClassFile.FieldType.int)) ∈ lw_all := lw_g (lw_at lw_m6 87 rfl) rfl
theorem q1408 : (Jvm.Cond.methodLink "DowryBoxes" (406 : Nat) ({ cls := "java/lang/Math", name := "min", desc := "(II)I" } : Jvm.MethodName)) ∈ lw_all := lw_g (lw_at lw_m6 88 rfl) rfl
theorem q1410 : (Jvm.Cond.instanceMethod ({ cls := "DowryBoxes", name := "clash", desc := "(III)I" } : Jvm.MethodName)) ∈ lw_all := lw_g (lw_at lw_m6 90 rfl) rfl
theorem q1411 : (Jvm.Cond.selects "DowryBoxes" ({ cls := "DowryBoxes", name := "clash", desc := "(III)I" } : Jvm.MethodName) ({ cls := "DowryBoxes", name := "clash", desc := "(III)I" } : Jvm.MethodName)) ∈ lw_all := lw_g (lw_at lw_m6 91 rfl) rfl
theorem q1412 : (Jvm.Cond.code ({ cls := "DowryBoxes", name := "clash", desc := "(III)I" } : Jvm.MethodName) prog_1_method_77_code (4 : Nat) (Option.some Jvm.ClassFile.FieldType.int)) ∈ lw_all := lw_g (lw_at lw_m6 92 rfl) rfl
theorem q1413 : (Jvm.Cond.methodLink "DowryBoxes" (415 : Nat) ({ cls := "DowryBoxes", name := "areTwo", desc := "(II)Z" } : Jvm.MethodName)) ∈ lw_all := lw_g (lw_at lw_m6 93 rfl) rfl
theorem q1414 : (Jvm.Cond.privateMethod ({ cls := "DowryBoxes", name := "areTwo", desc := "(II)Z" } : Jvm.MethodName)) ∈ lw_tbl := lw_at lw_m6 94 rfl
theorem q1415 : (Jvm.Cond.instanceMethod ({ cls := "DowryBoxes", name := "areTwo", desc := "(II)Z" } : Jvm.MethodName)) ∈ lw_all := lw_g (lw_at lw_m6 95 rfl) rfl
theorem q1416 : (Jvm.Cond.code ({ cls := "DowryBoxes", name := "areTwo", desc := "(II)Z" } : Jvm.MethodName) prog_1_method_76_code (3 : Nat) (Option.some Jvm.ClassFile.FieldType.boolean)) ∈ lw_all := lw_g (lw_at lw_m6 96 rfl) rfl
theorem q1417 : (Jvm.Cond.methodLink "DowryBoxes" (418 : Nat) ({ cls := "DowryBoxes", name := "clashes", desc := "(III)I" } : Jvm.MethodName)) ∈ lw_all := lw_g (lw_at lw_m6 97 rfl) rfl
theorem q1418 : (Jvm.Cond.privateMethod ({ cls := "DowryBoxes", name := "clashes", desc := "(III)I" } : Jvm.MethodName)) ∈ lw_tbl := lw_at lw_m6 98 rfl
theorem q1419 : (Jvm.Cond.instanceMethod ({ cls := "DowryBoxes", name := "clashes", desc := "(III)I" } : Jvm.MethodName)) ∈ lw_all := lw_g (lw_at lw_m6 99 rfl) rfl
theorem q1420 : (Jvm.Cond.code ({ cls := "DowryBoxes", name := "clashes", desc := "(III)I" } : Jvm.MethodName) prog_1_method_75_code (6 : Nat) (Option.some Jvm.ClassFile.FieldType.int)) ∈ lw_all := lw_g (lw_at lw_m6 100 rfl) rfl
theorem q1421 : (Jvm.Cond.methodLink "DowryBoxes" (412 : Nat) ({ cls := "DowryBoxes", name := "next", desc := "(II)I" } : Jvm.MethodName)) ∈ lw_all := lw_g (lw_at lw_m6 101 rfl) rfl
theorem q1422 : (Jvm.Cond.static ({ cls := "DowryBoxes", name := "next", desc := "(II)I" } : Jvm.MethodName)) ∈ lw_all := lw_g (lw_at lw_m6 102 rfl) rfl
theorem q1423 : (Jvm.Cond.code ({ cls := "DowryBoxes", name := "next", desc := "(II)I" } : Jvm.MethodName) prog_1_method_74_code (2 : Nat) (Option.some Jvm.ClassFile.FieldType.int)) ∈ lw_all := lw_g (lw_at lw_m6 103 rfl) rfl
theorem q1425 : (Jvm.Cond.instanceMethod ({ cls := "DowryBoxes", name := "best", desc := "(III)I" } : Jvm.MethodName)) ∈ lw_all := lw_g (lw_at lw_m6 105 rfl) rfl
theorem q1426 : (Jvm.Cond.selects "DowryBoxes" ({ cls := "DowryBoxes", name := "best", desc := "(III)I" } : Jvm.MethodName) ({ cls := "DowryBoxes", name := "best", desc := "(III)I" } : Jvm.MethodName)) ∈ lw_all := lw_g (lw_at lw_m6 106 rfl) rfl
theorem q1427 : (Jvm.Cond.code ({ cls := "DowryBoxes", name := "best", desc := "(III)I" } : Jvm.MethodName) prog_1_method_78_code (6 : Nat) (Option.some Jvm.ClassFile.FieldType.int)) ∈ lw_all := lw_g (lw_at lw_m6 107 rfl) rfl
theorem q1429 : (Jvm.Cond.instanceMethod ({ cls := "DowryBoxes", name := "filed", desc := "(IIII)I" } : Jvm.MethodName)) ∈ lw_all := lw_g (lw_at lw_m6 109 rfl) rfl
theorem q1430 : (Jvm.Cond.selects "DowryBoxes" ({ cls := "DowryBoxes", name := "filed", desc := "(IIII)I" } : Jvm.MethodName) ({ cls := "DowryBoxes", name := "filed", desc := "(IIII)I" } : Jvm.MethodName)) ∈ lw_all := lw_g (lw_at lw_m6 110 rfl) rfl
theorem q1431 : (Jvm.Cond.code ({ cls := "DowryBoxes", name := "filed", desc := "(IIII)I" } : Jvm.MethodName) prog_1_method_80_code (9 : Nat) (Option.some Jvm.ClassFile.FieldType.int)) ∈ lw_all := lw_g (lw_at lw_m6 111 rfl) rfl
theorem q1432 : (Jvm.Cond.methodLink "DowryBoxes" (421 : Nat) ({ cls := "DowryBoxes", name := "clashing", desc := "(IIII)I" } : Jvm.MethodName)) ∈ lw_all := lw_g (lw_at lw_m6 112 rfl) rfl
theorem q1433 : (Jvm.Cond.privateMethod ({ cls := "DowryBoxes", name := "clashing", desc := "(IIII)I" } : Jvm.MethodName)) ∈ lw_tbl := lw_at lw_m6 113 rfl
theorem q1434 : (Jvm.Cond.instanceMethod ({ cls := "DowryBoxes", name := "clashing", desc := "(IIII)I" } : Jvm.MethodName)) ∈ lw_all := lw_g (lw_at lw_m6 114 rfl) rfl
theorem q1435 : (Jvm.Cond.code ({ cls := "DowryBoxes", name := "clashing", desc := "(IIII)I" } : Jvm.MethodName) prog_1_method_79_code (8 : Nat) (Option.some Jvm.ClassFile.FieldType.int)) ∈ lw_all := lw_g (lw_at lw_m6 115 rfl) rfl
theorem q1437 : (Jvm.Cond.instanceMethod ({ cls := "DowryBoxes", name := "shares", desc := "(II)I" } : Jvm.MethodName)) ∈ lw_all := lw_g (lw_at lw_m6 117 rfl) rfl
theorem q1438 : (Jvm.Cond.selects "DowryBoxes" ({ cls := "DowryBoxes", name := "shares", desc := "(II)I" } : Jvm.MethodName) ({ cls := "DowryBoxes", name := "shares", desc := "(II)I" } : Jvm.MethodName)) ∈ lw_all := lw_g (lw_at lw_m6 118 rfl) rfl
theorem q1439 : (Jvm.Cond.code ({ cls := "DowryBoxes", name := "shares", desc := "(II)I" } : Jvm.MethodName) prog_1_method_82_code (4 : Nat) (Option.some Jvm.ClassFile.FieldType.int)) ∈ lw_all := lw_g (lw_at lw_m6 119 rfl) rfl
theorem q1440 : (Jvm.Cond.methodLink "DowryBoxes" (434 : Nat) ({ cls := "DowryBoxes", name := "sharesFrom", desc := "(II)V" } : Jvm.MethodName)) ∈ lw_all := lw_g (lw_at lw_m6 120 rfl) rfl
theorem q1441 : (Jvm.Cond.privateMethod ({ cls := "DowryBoxes", name := "sharesFrom", desc := "(II)V" } : Jvm.MethodName)) ∈ lw_tbl := lw_at lw_m6 121 rfl
theorem q1442 : (Jvm.Cond.instanceMethod ({ cls := "DowryBoxes", name := "sharesFrom", desc := "(II)V" } : Jvm.MethodName)) ∈ lw_all := lw_g (lw_at lw_m6 122 rfl) rfl
theorem q1443 : (Jvm.Cond.code ({ cls := "DowryBoxes", name := "sharesFrom", desc := "(II)V" } : Jvm.MethodName) prog_1_method_81_code (5 : Nat) (Option.none : Option Jvm.ClassFile.FieldType)) ∈ lw_all := lw_g (lw_at lw_m6 123 rfl) rfl
theorem q1444 : (Jvm.Cond.methodLink "DowryBoxes" (428 : Nat) ({ cls := "java/lang/System", name := "arraycopy", desc := "(Ljava/lang/Object;ILjava/lang/Object;II)V" } : Jvm.MethodName)) ∈ lw_all := lw_g (lw_at lw_m6 124 rfl) rfl
theorem q1446 : (Jvm.Cond.instanceMethod ({ cls := "DowryBoxes", name := "again", desc := "(II)I" } : Jvm.MethodName)) ∈ lw_all := lw_g (lw_at lw_m6 126 rfl) rfl
theorem q1447 : (Jvm.Cond.selects "DowryBoxes" ({ cls := "DowryBoxes", name := "again", desc := "(II)I" } : Jvm.MethodName) ({ cls := "DowryBoxes", name := "again", desc := "(II)I" } : Jvm.MethodName)) ∈ lw_all := lw_g (lw_at lw_m6 127 rfl) rfl
theorem q1448 : (Jvm.Cond.code ({ cls := "DowryBoxes", name := "again", desc := "(II)I" } : Jvm.MethodName) prog_1_method_83_code (6 : Nat) (Option.some Jvm.ClassFile.FieldType.int)) ∈ lw_all := lw_g (lw_at lw_m6 128 rfl) rfl
theorem q1450 : (Jvm.Cond.instanceMethod ({ cls := "DowryBoxes", name := "ends", desc := "(I)I" } : Jvm.MethodName)) ∈ lw_all := lw_g (lw_at lw_m6 130 rfl) rfl
theorem q1451 : (Jvm.Cond.selects "DowryBoxes" ({ cls := "DowryBoxes", name := "ends", desc := "(I)I" } : Jvm.MethodName) ({ cls := "DowryBoxes", name := "ends", desc := "(I)I" } : Jvm.MethodName)) ∈ lw_all := lw_g (lw_at lw_m6 131 rfl) rfl
theorem q1452 : (Jvm.Cond.code ({ cls := "DowryBoxes", name := "ends", desc := "(I)I" } : Jvm.MethodName) prog_1_method_84_code (4 : Nat) (Option.some Jvm.ClassFile.FieldType.int)) ∈ lw_all := lw_g (lw_at lw_m6 132 rfl) rfl
theorem q1454 : (Jvm.Cond.instanceMethod ({ cls := "DowryBoxes", name := "stands", desc := "(II)J" } : Jvm.MethodName)) ∈ lw_all := lw_g (lw_at lw_m6 134 rfl) rfl
theorem q1455 : (Jvm.Cond.selects "DowryBoxes" ({ cls := "DowryBoxes", name := "stands", desc := "(II)J" } : Jvm.MethodName) ({ cls := "DowryBoxes", name := "stands", desc := "(II)J" } : Jvm.MethodName)) ∈ lw_all := lw_g (lw_at lw_m6 135 rfl) rfl
theorem q1456 : (Jvm.Cond.code ({ cls := "DowryBoxes", name := "stands", desc := "(II)J" } : Jvm.MethodName) prog_1_method_85_code (6 : Nat) (Option.some Jvm.ClassFile.FieldType.long)) ∈ lw_all := lw_g (lw_at lw_m6 136 rfl) rfl
theorem q1457 : (Jvm.Cond.constantLong "DowryBoxes" (437 : Nat) (1000000000000 : Int64)) ∈ lw_all := lw_g (lw_at lw_m6 137 rfl) rfl
theorem q1458 : (Jvm.Cond.constantLong "DowryBoxes" (439 : Nat) (10 : Int64)) ∈ lw_all := lw_g (lw_at lw_m6 138 rfl) rfl
theorem q1460 : (Jvm.Cond.instanceMethod ({ cls := "DowryBoxes", name := "compare", desc := "(I)I" } : Jvm.MethodName)) ∈ lw_all := lw_g (lw_at lw_m6 140 rfl) rfl
theorem q1461 : (Jvm.Cond.selects "DowryBoxes" ({ cls := "DowryBoxes", name := "compare", desc := "(I)I" } : Jvm.MethodName) ({ cls := "DowryBoxes", name := "compare", desc := "(I)I" } : Jvm.MethodName)) ∈ lw_all := lw_g (lw_at lw_m6 141 rfl) rfl
theorem q1462 : (Jvm.Cond.code ({ cls := "DowryBoxes", name := "compare", desc := "(I)I" } : Jvm.MethodName) prog_1_method_86_code (4 : Nat) (Option.some Jvm.ClassFile.FieldType.int)) ∈ lw_all := lw_g (lw_at lw_m6 142 rfl) rfl
theorem q1464 : (Jvm.Cond.instanceMethod ({ cls := "DowryBoxes", name := "orders", desc := "()I" } : Jvm.MethodName)) ∈ lw_all := lw_g (lw_at lw_m6 144 rfl) rfl
theorem q1465 : (Jvm.Cond.selects "DowryBoxes" ({ cls := "DowryBoxes", name := "orders", desc := "()I" } : Jvm.MethodName) ({ cls := "DowryBoxes", name := "orders", desc := "()I" } : Jvm.MethodName)) ∈ lw_all := lw_g (lw_at lw_m6 145 rfl) rfl
theorem q1466 : (Jvm.Cond.code ({ cls := "DowryBoxes", name := "orders", desc := "()I" } : Jvm.MethodName) prog_1_method_88_code (10 : Nat) (Option.some Jvm.ClassFile.FieldType.int)) ∈ lw_all := lw_g (lw_at lw_m6 146 rfl) rfl
theorem q1467 : (Jvm.Cond.classLink "DowryBoxes" (441 : Nat) "DowryBoxes$OrderReader") ∈ lw_all := lw_g (lw_at lw_m6 147 rfl) rfl
theorem q1469 : (Jvm.Cond.methodLink "DowryBoxes" (443 : Nat) ({ cls := "DowryBoxes$OrderReader", name := "<init>", desc := "([BI)V" } : Jvm.MethodName)) ∈ lw_all := lw_g (lw_at lw_m6 149 rfl) rfl
theorem q1476 : (Jvm.Cond.fieldLinkNest "DowryBoxes" (444 : Nat) "DowryBoxes$OrderReader" "orders" "Ljava/util/ArrayList;" "DowryBoxes") ∈ lw_tbl := lw_at lw_m6 156 rfl
theorem q1487 : (Jvm.Cond.classLink "DowryBoxes" (447 : Nat) "DowryBoxes$Order") ∈ lw_all := lw_g (lw_at lw_m6 167 rfl) rfl
theorem q1488 : (Jvm.Cond.methodLink "DowryBoxes" (452 : Nat) ({ cls := "DowryBoxes", name := "tellsOrder", desc := "(II)V" } : Jvm.MethodName)) ∈ lw_all := lw_g (lw_at lw_m6 168 rfl) rfl
theorem q1489 : (Jvm.Cond.privateMethod ({ cls := "DowryBoxes", name := "tellsOrder", desc := "(II)V" } : Jvm.MethodName)) ∈ lw_tbl := lw_at lw_m6 169 rfl
theorem q1490 : (Jvm.Cond.instanceMethod ({ cls := "DowryBoxes", name := "tellsOrder", desc := "(II)V" } : Jvm.MethodName)) ∈ lw_all := lw_g (lw_at lw_m6 170 rfl) rfl
theorem q1491 : (Jvm.Cond.code ({ cls := "DowryBoxes", name := "tellsOrder", desc := "(II)V" } : Jvm.MethodName) prog_1_method_91_code (6 : Nat) (Option.none : Option Jvm.ClassFile.FieldType)) ∈ lw_all := lw_g (lw_at lw_m6 171 rfl) rfl
theorem q1492 : (Jvm.Cond.methodLink "DowryBoxes" (482 : Nat) ({ cls := "DowryBoxes", name := "couples", desc := "(LDowryBoxes$Table;)I" } : Jvm.MethodName)) ∈ lw_all := lw_g (lw_at lw_m6 172 rfl) rfl
theorem q1493 : (Jvm.Cond.privateMethod ({ cls := "DowryBoxes", name := "couples", desc := "(LDowryBoxes$Table;)I" } : Jvm.MethodName)) ∈ lw_tbl := lw_at lw_m6 173 rfl
theorem q1494 : (Jvm.Cond.instanceMethod ({ cls := "DowryBoxes", name := "couples", desc := "(LDowryBoxes$Table;)I" } : Jvm.MethodName)) ∈ lw_all := lw_g (lw_at lw_m6 174 rfl) rfl
theorem q1495 : (Jvm.Cond.code ({ cls := "DowryBoxes", name := "couples", desc := "(LDowryBoxes$Table;)I" } : Jvm.MethodName) prog_1_method_87_code (4 : Nat) (Option.some Jvm.ClassFile.FieldType.int)) ∈ lw_all := lw_g (lw_at lw_m6 175 rfl) rfl
theorem q1496 : (Jvm.Cond.methodLink "DowryBoxes" (455 : Nat) ({ cls := "DowryBoxes$Order", name := "isNow", desc := "(LDowryBoxes$Setting;)Z" } : Jvm.MethodName)) ∈ lw_all := lw_g (lw_at lw_m6 176 rfl) rfl
theorem q1502 : (Jvm.Cond.methodLink "DowryBoxes" (459 : Nat) ({ cls := "DowryBoxes", name := "runs", desc := "(LDowryBoxes$Order;)I" } : Jvm.MethodName)) ∈ lw_all := lw_g (lw_at lw_m6 182 rfl) rfl
theorem q1503 : (Jvm.Cond.privateMethod ({ cls := "DowryBoxes", name := "runs", desc := "(LDowryBoxes$Order;)I" } : Jvm.MethodName)) ∈ lw_tbl := lw_at lw_m6 183 rfl
theorem q1504 : (Jvm.Cond.instanceMethod ({ cls := "DowryBoxes", name := "runs", desc := "(LDowryBoxes$Order;)I" } : Jvm.MethodName)) ∈ lw_all := lw_g (lw_at lw_m6 184 rfl) rfl
theorem q1505 : (Jvm.Cond.code ({ cls := "DowryBoxes", name := "runs", desc := "(LDowryBoxes$Order;)I" } : Jvm.MethodName) prog_1_method_89_code (4 : Nat) (Option.some Jvm.ClassFile.FieldType.int)) ∈ lw_all := lw_g (lw_at lw_m6 185 rfl) rfl
theorem q1506 : (Jvm.Cond.methodLink "DowryBoxes" (473 : Nat) ({ cls := "DowryBoxes$Order", name := "told", desc := "(LDowryBoxes$Sum;LDowryBoxes$Setting;)I" } : Jvm.MethodName)) ∈ lw_all := lw_g (lw_at lw_m6 186 rfl) rfl
theorem q1511 : (Jvm.Cond.methodLink "DowryBoxes" (463 : Nat) ({ cls := "DowryBoxes", name := "putsBack", desc := "(I)V" } : Jvm.MethodName)) ∈ lw_all := lw_g (lw_at lw_m6 191 rfl) rfl
theorem q1512 : (Jvm.Cond.privateMethod ({ cls := "DowryBoxes", name := "putsBack", desc := "(I)V" } : Jvm.MethodName)) ∈ lw_tbl := lw_at lw_m6 192 rfl
theorem q1513 : (Jvm.Cond.instanceMethod ({ cls := "DowryBoxes", name := "putsBack", desc := "(I)V" } : Jvm.MethodName)) ∈ lw_all := lw_g (lw_at lw_m6 193 rfl) rfl
theorem q1514 : (Jvm.Cond.code ({ cls := "DowryBoxes", name := "putsBack", desc := "(I)V" } : Jvm.MethodName) prog_1_method_90_code (3 : Nat) (Option.none : Option Jvm.ClassFile.FieldType)) ∈ lw_all := lw_g (lw_at lw_m6 194 rfl) rfl
theorem q1516 : (Jvm.Cond.instanceMethod ({ cls := "DowryBoxes", name := "generations", desc := "(II)I" } : Jvm.MethodName)) ∈ lw_all := lw_g (lw_at lw_m6 196 rfl) rfl
theorem q1517 : (Jvm.Cond.selects "DowryBoxes" ({ cls := "DowryBoxes", name := "generations", desc := "(II)I" } : Jvm.MethodName) ({ cls := "DowryBoxes", name := "generations", desc := "(II)I" } : Jvm.MethodName)) ∈ lw_all := lw_g (lw_at lw_m6 197 rfl) rfl
theorem q1518 : (Jvm.Cond.code ({ cls := "DowryBoxes", name := "generations", desc := "(II)I" } : Jvm.MethodName) prog_1_method_93_code (10 : Nat) (Option.some Jvm.ClassFile.FieldType.int)) ∈ lw_all := lw_g (lw_at lw_m6 198 rfl) rfl
theorem q1519 : (Jvm.Cond.methodLink "DowryBoxes" (494 : Nat) ({ cls := "DowryBoxes", name := "draw", desc := "(I)I" } : Jvm.MethodName)) ∈ lw_all := lw_g (lw_at lw_m6 199 rfl) rfl
theorem q1520 : (Jvm.Cond.privateMethod ({ cls := "DowryBoxes", name := "draw", desc := "(I)I" } : Jvm.MethodName)) ∈ lw_tbl := lw_at lw_m6 200 rfl
theorem q1521 : (Jvm.Cond.instanceMethod ({ cls := "DowryBoxes", name := "draw", desc := "(I)I" } : Jvm.MethodName)) ∈ lw_all := lw_g (lw_at lw_m6 201 rfl) rfl
theorem q1522 : (Jvm.Cond.code ({ cls := "DowryBoxes", name := "draw", desc := "(I)I" } : Jvm.MethodName) prog_1_method_92_code (2 : Nat) (Option.some Jvm.ClassFile.FieldType.int)) ∈ lw_all := lw_g (lw_at lw_m6 202 rfl) rfl
theorem q1523 : (Jvm.Cond.constantLong "DowryBoxes" (488 : Nat) (1103 : Int64)) ∈ lw_all := lw_g (lw_at lw_m6 203 rfl) rfl
theorem q1524 : (Jvm.Cond.constantLong "DowryBoxes" (490 : Nat) (12345 : Int64)) ∈ lw_all := lw_g (lw_at lw_m6 204 rfl) rfl
theorem q1525 : (Jvm.Cond.constantLong "DowryBoxes" (492 : Nat) (1000003 : Int64)) ∈ lw_all := lw_g (lw_at lw_m6 205 rfl) rfl
theorem q1527 : (Jvm.Cond.instanceMethod ({ cls := "DowryBoxes", name := "drawn", desc := "(II)I" } : Jvm.MethodName)) ∈ lw_all := lw_g (lw_at lw_m6 207 rfl) rfl
theorem q1528 : (Jvm.Cond.selects "DowryBoxes" ({ cls := "DowryBoxes", name := "drawn", desc := "(II)I" } : Jvm.MethodName) ({ cls := "DowryBoxes", name := "drawn", desc := "(II)I" } : Jvm.MethodName)) ∈ lw_all := lw_g (lw_at lw_m6 208 rfl) rfl
theorem q1529 : (Jvm.Cond.code ({ cls := "DowryBoxes", name := "drawn", desc := "(II)I" } : Jvm.MethodName) prog_1_method_94_code (3 : Nat) (Option.some Jvm.ClassFile.FieldType.int)) ∈ lw_all := lw_g (lw_at lw_m6 209 rfl) rfl
theorem q1531 : (Jvm.Cond.instanceMethod ({ cls := "DowryBoxes", name := "count", desc := "(I)I" } : Jvm.MethodName)) ∈ lw_all := lw_g (lw_at lw_m6 211 rfl) rfl
theorem q1532 : (Jvm.Cond.selects "DowryBoxes" ({ cls := "DowryBoxes", name := "count", desc := "(I)I" } : Jvm.MethodName) ({ cls := "DowryBoxes", name := "count", desc := "(I)I" } : Jvm.MethodName)) ∈ lw_all := lw_g (lw_at lw_m6 212 rfl) rfl
theorem q1533 : (Jvm.Cond.code ({ cls := "DowryBoxes", name := "count", desc := "(I)I" } : Jvm.MethodName) prog_1_method_95_code (2 : Nat) (Option.some Jvm.ClassFile.FieldType.int)) ∈ lw_all := lw_g (lw_at lw_m6 213 rfl) rfl
theorem q1535 : (Jvm.Cond.instanceMethod ({ cls := "DowryBoxes", name := "status", desc := "()I" } : Jvm.MethodName)) ∈ lw_all := lw_g (lw_at lw_m6 215 rfl) rfl
theorem q1536 : (Jvm.Cond.selects "DowryBoxes" ({ cls := "DowryBoxes", name := "status", desc := "()I" } : Jvm.MethodName) ({ cls := "DowryBoxes", name := "status", desc := "()I" } : Jvm.MethodName)) ∈ lw_all := lw_g (lw_at lw_m6 216 rfl) rfl
theorem q1537 : (Jvm.Cond.code ({ cls := "DowryBoxes", name := "status", desc := "()I" } : Jvm.MethodName) prog_1_method_96_code (1 : Nat) (Option.some Jvm.ClassFile.FieldType.int)) ∈ lw_all := lw_g (lw_at lw_m6 217 rfl) rfl
theorem q2291 : (Jvm.Cond.castable "DowryBoxes" "java/lang/Object") ∈ lw_tbl := lw_at lw_m10 11 rfl
theorem in_X0 : ∀ w ∈ wsX00, w ∈ lw_all := lw_in wsX00 [392, 394, 396, 398, 400, 402, 404, 406, 408, 410, 412, 414, 416, 418, 420, 422, 424, 426, 428, 430, 432, 434, 436, 438, 440, 442, 444, 446, 448, 450, 452, 454, 456, 458] (by decide +kernel) (by decide +kernel)
