/-! DowryBoxes$State -/
set_option maxRecDepth 100000
def RX1 : String := "DowryBoxes$State"
def TX1 : u_T := fun k => match k with
  | 0 => ("DowryBoxes$State", "table", "LDowryBoxes$Table;", true)
  | 1 => ("DowryBoxes$State", "ear", "[I", true)
  | 2 => ("DowryBoxes$State", "wants", "[I", true)
  | 3 => ("DowryBoxes$State", "heard", "[I", true)
  | 4 => ("DowryBoxes$State", "laws", "Ljava/util/ArrayList;", true)
  | 5 => ("DowryBoxes$State", "boxes", "I", false)
  | 6 => ("DowryBoxes$State", "suitors", "I", false)
  | 7 => ("DowryBoxes$State", "heardMany", "I", false)
  | 8 => ("DowryBoxes$State", "damp", "I", false)
  | 9 => ("DowryBoxes$State", "mood", "I", false)
  | _ => ("DowryBoxes$State", "force", "I", false)
def tyX1 : Nat → FieldType := fun k => match k with
  | 0 => .object "DowryBoxes$Table"
  | 1 => .array .int
  | 2 => .array .int
  | 3 => .array .int
  | 4 => .object "java/util/ArrayList"
  | 5 => .int
  | 6 => .int
  | 7 => .int
  | 8 => .int
  | 9 => .int
  | _ => .int
abbrev wsX10 : List Cond := u_ws RX1 TX1 11
theorem nmX1 : ∀ a, a < 11 → ∀ b, b < 11 → a ≠ b → (TX1 a).2.1 ≠ (TX1 b).2.1 := by decide +kernel
theorem tyX1_ok : ∀ k, k < 11 → parseFieldDescriptor (TX1 k).2.2.1 = some (tyX1 k) := by decide +kernel
abbrev cX1_init : ByteArray := prog_15_method_1_code
def yX1_init : MethodName := ⟨RX1, "<init>", "()V"⟩
def dkwX1_init_2 : List UInt8 := [181, 0, 33, 42, 5, 181, 0, 37, 42, 2, 181, 0, 41, 177]
abbrev dktX1_init_2 : List UInt8 := dkwX1_init_2 ++ []
def dkwX1_init_1 : List UInt8 := [16, 6, 188, 10, 181, 0, 22, 42, 16, 24, 188, 10, 181, 0, 25, 42, 187, 0, 28, 89, 5, 183, 0, 30]
abbrev dktX1_init_1 : List UInt8 := dkwX1_init_1 ++ dktX1_init_2
def dkwX1_init_0 : List UInt8 := [42, 183, 0, 3, 42, 187, 0, 9, 89, 183, 0, 11, 181, 0, 12, 42, 16, 6, 188, 10, 181, 0, 18, 42]
abbrev dktX1_init_0 : List UInt8 := dkwX1_init_0 ++ dktX1_init_1
theorem dksX1_init_0 : cX1_init.data.toList.drop 0 = dktX1_init_0 := by decide +kernel
theorem dksX1_init_1 : cX1_init.data.toList.drop 24 = dktX1_init_1 := dk_seg dksX1_init_0 24 rfl rfl
theorem dksX1_init_2 : cX1_init.data.toList.drop 48 = dktX1_init_2 := dk_seg dksX1_init_1 24 rfl rfl
theorem dX1_init_0 : decode cX1_init 0 = .ok (.aload_n 0, 1) := dk_42 (dk_at dksX1_init_0 0 rfl rfl)
theorem dX1_init_1 : decode cX1_init 1 = .ok (.invokespecial 3, 3) := dk_183 0 3 (dk_at dksX1_init_0 1 rfl rfl)
theorem dX1_init_4 : decode cX1_init 4 = .ok (.aload_n 0, 1) := dk_42 (dk_at dksX1_init_0 4 rfl rfl)
theorem dX1_init_5 : decode cX1_init 5 = .ok (.new 9, 3) := dk_187 0 9 (dk_at dksX1_init_0 5 rfl rfl)
theorem dX1_init_8 : decode cX1_init 8 = .ok (.dup, 1) := dk_89 (dk_at dksX1_init_0 8 rfl rfl)
theorem dX1_init_9 : decode cX1_init 9 = .ok (.invokespecial 11, 3) := dk_183 0 11 (dk_at dksX1_init_0 9 rfl rfl)
theorem dX1_init_12 : decode cX1_init 12 = .ok (.putfield 12, 3) := dk_181 0 12 (dk_at dksX1_init_0 12 rfl rfl)
theorem dX1_init_15 : decode cX1_init 15 = .ok (.aload_n 0, 1) := dk_42 (dk_at dksX1_init_0 15 rfl rfl)
theorem dX1_init_16 : decode cX1_init 16 = .ok (.bipush 6, 2) := dk_16 6 (dk_at dksX1_init_0 16 rfl rfl)
theorem dX1_init_18 : decode cX1_init 18 = .ok (.newarray .int, 2) := dk_188_10 (dk_at dksX1_init_0 18 rfl rfl)
theorem dX1_init_20 : decode cX1_init 20 = .ok (.putfield 18, 3) := dk_181 0 18 (dk_at dksX1_init_0 20 rfl rfl)
theorem dX1_init_23 : decode cX1_init 23 = .ok (.aload_n 0, 1) := dk_42 (dk_at dksX1_init_0 23 rfl rfl)
theorem dX1_init_24 : decode cX1_init 24 = .ok (.bipush 6, 2) := dk_16 6 (dk_at dksX1_init_1 0 rfl rfl)
theorem dX1_init_26 : decode cX1_init 26 = .ok (.newarray .int, 2) := dk_188_10 (dk_at dksX1_init_1 2 rfl rfl)
theorem dX1_init_28 : decode cX1_init 28 = .ok (.putfield 22, 3) := dk_181 0 22 (dk_at dksX1_init_1 4 rfl rfl)
theorem dX1_init_31 : decode cX1_init 31 = .ok (.aload_n 0, 1) := dk_42 (dk_at dksX1_init_1 7 rfl rfl)
theorem dX1_init_32 : decode cX1_init 32 = .ok (.bipush 24, 2) := dk_16 24 (dk_at dksX1_init_1 8 rfl rfl)
theorem dX1_init_34 : decode cX1_init 34 = .ok (.newarray .int, 2) := dk_188_10 (dk_at dksX1_init_1 10 rfl rfl)
theorem dX1_init_36 : decode cX1_init 36 = .ok (.putfield 25, 3) := dk_181 0 25 (dk_at dksX1_init_1 12 rfl rfl)
theorem dX1_init_39 : decode cX1_init 39 = .ok (.aload_n 0, 1) := dk_42 (dk_at dksX1_init_1 15 rfl rfl)
theorem dX1_init_40 : decode cX1_init 40 = .ok (.new 28, 3) := dk_187 0 28 (dk_at dksX1_init_1 16 rfl rfl)
theorem dX1_init_43 : decode cX1_init 43 = .ok (.dup, 1) := dk_89 (dk_at dksX1_init_1 19 rfl rfl)
theorem dX1_init_44 : decode cX1_init 44 = .ok (.iconst 2, 1) := dk_5 (dk_at dksX1_init_1 20 rfl rfl)
theorem dX1_init_45 : decode cX1_init 45 = .ok (.invokespecial 30, 3) := dk_183 0 30 (dk_at dksX1_init_1 21 rfl rfl)
theorem dX1_init_48 : decode cX1_init 48 = .ok (.putfield 33, 3) := dk_181 0 33 (dk_at dksX1_init_2 0 rfl rfl)
theorem dX1_init_51 : decode cX1_init 51 = .ok (.aload_n 0, 1) := dk_42 (dk_at dksX1_init_2 3 rfl rfl)
theorem dX1_init_52 : decode cX1_init 52 = .ok (.iconst 2, 1) := dk_5 (dk_at dksX1_init_2 4 rfl rfl)
theorem dX1_init_53 : decode cX1_init 53 = .ok (.putfield 37, 3) := dk_181 0 37 (dk_at dksX1_init_2 5 rfl rfl)
theorem dX1_init_56 : decode cX1_init 56 = .ok (.aload_n 0, 1) := dk_42 (dk_at dksX1_init_2 8 rfl rfl)
theorem dX1_init_57 : decode cX1_init 57 = .ok (.iconst (-1), 1) := dk_2 (dk_at dksX1_init_2 9 rfl rfl)
theorem dX1_init_58 : decode cX1_init 58 = .ok (.putfield 41, 3) := dk_181 0 41 (dk_at dksX1_init_2 10 rfl rfl)
theorem dX1_init_61 : decode cX1_init 61 = .ok (.return_, 1) := dk_177 (dk_at dksX1_init_2 13 rfl rfl)
abbrev cX1_takes : ByteArray := prog_15_method_2_code
def yX1_takes : MethodName := ⟨RX1, "takes", "(LDowryBoxes$State;)V"⟩
def dkwX1_takes_4 : List UInt8 := [181, 0, 37, 42, 43, 180, 0, 68, 181, 0, 68, 42, 43, 180, 0, 41, 181, 0, 41, 177]
abbrev dktX1_takes_4 : List UInt8 := dkwX1_takes_4 ++ []
def dkwX1_takes_3 : List UInt8 := [181, 0, 59, 42, 43, 180, 0, 62, 181, 0, 62, 42, 43, 180, 0, 65, 181, 0, 65, 42, 43, 180, 0, 37]
abbrev dktX1_takes_3 : List UInt8 := dkwX1_takes_3 ++ dktX1_takes_4
def dkwX1_takes_2 : List UInt8 := [180, 0, 33, 182, 0, 52, 42, 180, 0, 33, 43, 180, 0, 33, 182, 0, 55, 87, 42, 43, 180, 0, 59]
abbrev dktX1_takes_2 : List UInt8 := dkwX1_takes_2 ++ dktX1_takes_3
def dkwX1_takes_1 : List UInt8 := [180, 0, 22, 43, 180, 0, 22, 184, 0, 48, 42, 180, 0, 25, 43, 180, 0, 25, 184, 0, 48, 42]
abbrev dktX1_takes_1 : List UInt8 := dkwX1_takes_1 ++ dktX1_takes_2
def dkwX1_takes_0 : List UInt8 := [42, 180, 0, 12, 43, 180, 0, 12, 182, 0, 44, 42, 180, 0, 18, 43, 180, 0, 18, 184, 0, 48, 42]
abbrev dktX1_takes_0 : List UInt8 := dkwX1_takes_0 ++ dktX1_takes_1
theorem dksX1_takes_0 : cX1_takes.data.toList.drop 0 = dktX1_takes_0 := by decide +kernel
theorem dksX1_takes_1 : cX1_takes.data.toList.drop 23 = dktX1_takes_1 := dk_seg dksX1_takes_0 23 rfl rfl
theorem dksX1_takes_2 : cX1_takes.data.toList.drop 45 = dktX1_takes_2 := dk_seg dksX1_takes_1 22 rfl rfl
theorem dksX1_takes_3 : cX1_takes.data.toList.drop 68 = dktX1_takes_3 := dk_seg dksX1_takes_2 23 rfl rfl
theorem dksX1_takes_4 : cX1_takes.data.toList.drop 92 = dktX1_takes_4 := dk_seg dksX1_takes_3 24 rfl rfl
theorem dX1_takes_0 : decode cX1_takes 0 = .ok (.aload_n 0, 1) := dk_42 (dk_at dksX1_takes_0 0 rfl rfl)
theorem dX1_takes_1 : decode cX1_takes 1 = .ok (.getfield 12, 3) := dk_180 0 12 (dk_at dksX1_takes_0 1 rfl rfl)
theorem dX1_takes_4 : decode cX1_takes 4 = .ok (.aload_n 1, 1) := dk_43 (dk_at dksX1_takes_0 4 rfl rfl)
theorem dX1_takes_5 : decode cX1_takes 5 = .ok (.getfield 12, 3) := dk_180 0 12 (dk_at dksX1_takes_0 5 rfl rfl)
theorem dX1_takes_8 : decode cX1_takes 8 = .ok (.invokevirtual 44, 3) := dk_182 0 44 (dk_at dksX1_takes_0 8 rfl rfl)
theorem dX1_takes_11 : decode cX1_takes 11 = .ok (.aload_n 0, 1) := dk_42 (dk_at dksX1_takes_0 11 rfl rfl)
theorem dX1_takes_12 : decode cX1_takes 12 = .ok (.getfield 18, 3) := dk_180 0 18 (dk_at dksX1_takes_0 12 rfl rfl)
theorem dX1_takes_15 : decode cX1_takes 15 = .ok (.aload_n 1, 1) := dk_43 (dk_at dksX1_takes_0 15 rfl rfl)
theorem dX1_takes_16 : decode cX1_takes 16 = .ok (.getfield 18, 3) := dk_180 0 18 (dk_at dksX1_takes_0 16 rfl rfl)
theorem dX1_takes_19 : decode cX1_takes 19 = .ok (.invokestatic 48, 3) := dk_184 0 48 (dk_at dksX1_takes_0 19 rfl rfl)
theorem dX1_takes_22 : decode cX1_takes 22 = .ok (.aload_n 0, 1) := dk_42 (dk_at dksX1_takes_0 22 rfl rfl)
theorem dX1_takes_23 : decode cX1_takes 23 = .ok (.getfield 22, 3) := dk_180 0 22 (dk_at dksX1_takes_1 0 rfl rfl)
theorem dX1_takes_26 : decode cX1_takes 26 = .ok (.aload_n 1, 1) := dk_43 (dk_at dksX1_takes_1 3 rfl rfl)
theorem dX1_takes_27 : decode cX1_takes 27 = .ok (.getfield 22, 3) := dk_180 0 22 (dk_at dksX1_takes_1 4 rfl rfl)
theorem dX1_takes_30 : decode cX1_takes 30 = .ok (.invokestatic 48, 3) := dk_184 0 48 (dk_at dksX1_takes_1 7 rfl rfl)
theorem dX1_takes_33 : decode cX1_takes 33 = .ok (.aload_n 0, 1) := dk_42 (dk_at dksX1_takes_1 10 rfl rfl)
theorem dX1_takes_34 : decode cX1_takes 34 = .ok (.getfield 25, 3) := dk_180 0 25 (dk_at dksX1_takes_1 11 rfl rfl)
theorem dX1_takes_37 : decode cX1_takes 37 = .ok (.aload_n 1, 1) := dk_43 (dk_at dksX1_takes_1 14 rfl rfl)
theorem dX1_takes_38 : decode cX1_takes 38 = .ok (.getfield 25, 3) := dk_180 0 25 (dk_at dksX1_takes_1 15 rfl rfl)
theorem dX1_takes_41 : decode cX1_takes 41 = .ok (.invokestatic 48, 3) := dk_184 0 48 (dk_at dksX1_takes_1 18 rfl rfl)
theorem dX1_takes_44 : decode cX1_takes 44 = .ok (.aload_n 0, 1) := dk_42 (dk_at dksX1_takes_1 21 rfl rfl)
theorem dX1_takes_45 : decode cX1_takes 45 = .ok (.getfield 33, 3) := dk_180 0 33 (dk_at dksX1_takes_2 0 rfl rfl)
theorem dX1_takes_48 : decode cX1_takes 48 = .ok (.invokevirtual 52, 3) := dk_182 0 52 (dk_at dksX1_takes_2 3 rfl rfl)
theorem dX1_takes_51 : decode cX1_takes 51 = .ok (.aload_n 0, 1) := dk_42 (dk_at dksX1_takes_2 6 rfl rfl)
theorem dX1_takes_52 : decode cX1_takes 52 = .ok (.getfield 33, 3) := dk_180 0 33 (dk_at dksX1_takes_2 7 rfl rfl)
theorem dX1_takes_55 : decode cX1_takes 55 = .ok (.aload_n 1, 1) := dk_43 (dk_at dksX1_takes_2 10 rfl rfl)
theorem dX1_takes_56 : decode cX1_takes 56 = .ok (.getfield 33, 3) := dk_180 0 33 (dk_at dksX1_takes_2 11 rfl rfl)
theorem dX1_takes_59 : decode cX1_takes 59 = .ok (.invokevirtual 55, 3) := dk_182 0 55 (dk_at dksX1_takes_2 14 rfl rfl)
theorem dX1_takes_62 : decode cX1_takes 62 = .ok (.pop, 1) := dk_87 (dk_at dksX1_takes_2 17 rfl rfl)
theorem dX1_takes_63 : decode cX1_takes 63 = .ok (.aload_n 0, 1) := dk_42 (dk_at dksX1_takes_2 18 rfl rfl)
theorem dX1_takes_64 : decode cX1_takes 64 = .ok (.aload_n 1, 1) := dk_43 (dk_at dksX1_takes_2 19 rfl rfl)
theorem dX1_takes_65 : decode cX1_takes 65 = .ok (.getfield 59, 3) := dk_180 0 59 (dk_at dksX1_takes_2 20 rfl rfl)
theorem dX1_takes_68 : decode cX1_takes 68 = .ok (.putfield 59, 3) := dk_181 0 59 (dk_at dksX1_takes_3 0 rfl rfl)
theorem dX1_takes_71 : decode cX1_takes 71 = .ok (.aload_n 0, 1) := dk_42 (dk_at dksX1_takes_3 3 rfl rfl)
theorem dX1_takes_72 : decode cX1_takes 72 = .ok (.aload_n 1, 1) := dk_43 (dk_at dksX1_takes_3 4 rfl rfl)
theorem dX1_takes_73 : decode cX1_takes 73 = .ok (.getfield 62, 3) := dk_180 0 62 (dk_at dksX1_takes_3 5 rfl rfl)
theorem dX1_takes_76 : decode cX1_takes 76 = .ok (.putfield 62, 3) := dk_181 0 62 (dk_at dksX1_takes_3 8 rfl rfl)
theorem dX1_takes_79 : decode cX1_takes 79 = .ok (.aload_n 0, 1) := dk_42 (dk_at dksX1_takes_3 11 rfl rfl)
theorem dX1_takes_80 : decode cX1_takes 80 = .ok (.aload_n 1, 1) := dk_43 (dk_at dksX1_takes_3 12 rfl rfl)
theorem dX1_takes_81 : decode cX1_takes 81 = .ok (.getfield 65, 3) := dk_180 0 65 (dk_at dksX1_takes_3 13 rfl rfl)
theorem dX1_takes_84 : decode cX1_takes 84 = .ok (.putfield 65, 3) := dk_181 0 65 (dk_at dksX1_takes_3 16 rfl rfl)
theorem dX1_takes_87 : decode cX1_takes 87 = .ok (.aload_n 0, 1) := dk_42 (dk_at dksX1_takes_3 19 rfl rfl)
theorem dX1_takes_88 : decode cX1_takes 88 = .ok (.aload_n 1, 1) := dk_43 (dk_at dksX1_takes_3 20 rfl rfl)
theorem dX1_takes_89 : decode cX1_takes 89 = .ok (.getfield 37, 3) := dk_180 0 37 (dk_at dksX1_takes_3 21 rfl rfl)
theorem dX1_takes_92 : decode cX1_takes 92 = .ok (.putfield 37, 3) := dk_181 0 37 (dk_at dksX1_takes_4 0 rfl rfl)
theorem dX1_takes_95 : decode cX1_takes 95 = .ok (.aload_n 0, 1) := dk_42 (dk_at dksX1_takes_4 3 rfl rfl)
theorem dX1_takes_96 : decode cX1_takes 96 = .ok (.aload_n 1, 1) := dk_43 (dk_at dksX1_takes_4 4 rfl rfl)
theorem dX1_takes_97 : decode cX1_takes 97 = .ok (.getfield 68, 3) := dk_180 0 68 (dk_at dksX1_takes_4 5 rfl rfl)
theorem dX1_takes_100 : decode cX1_takes 100 = .ok (.putfield 68, 3) := dk_181 0 68 (dk_at dksX1_takes_4 8 rfl rfl)
theorem dX1_takes_103 : decode cX1_takes 103 = .ok (.aload_n 0, 1) := dk_42 (dk_at dksX1_takes_4 11 rfl rfl)
theorem dX1_takes_104 : decode cX1_takes 104 = .ok (.aload_n 1, 1) := dk_43 (dk_at dksX1_takes_4 12 rfl rfl)
theorem dX1_takes_105 : decode cX1_takes 105 = .ok (.getfield 41, 3) := dk_180 0 41 (dk_at dksX1_takes_4 13 rfl rfl)
theorem dX1_takes_108 : decode cX1_takes 108 = .ok (.putfield 41, 3) := dk_181 0 41 (dk_at dksX1_takes_4 16 rfl rfl)
theorem dX1_takes_111 : decode cX1_takes 111 = .ok (.return_, 1) := dk_177 (dk_at dksX1_takes_4 19 rfl rfl)
theorem q122 : (Jvm.Cond.initialized "DowryBoxes$State") ∈ lw_all := lw_g (lw_at lw_m1 2 rfl) rfl
theorem q166 : (Jvm.Cond.instantiable "DowryBoxes$State" (11 : Nat)) ∈ lw_all := lw_g (lw_at lw_m1 46 rfl) rfl
theorem q168 : (Jvm.Cond.instanceMethod ({ cls := "DowryBoxes$State", name := "<init>", desc := "()V" } : Jvm.MethodName)) ∈ lw_all := lw_g (lw_at lw_m1 48 rfl) rfl
theorem q169 : (Jvm.Cond.code ({ cls := "DowryBoxes$State", name := "<init>", desc := "()V" } : Jvm.MethodName) prog_15_method_1_code (1 : Nat) (Option.none : Option Jvm.ClassFile.FieldType)) ∈ lw_all := lw_g (lw_at lw_m1 49 rfl) rfl
theorem q170 : (Jvm.Cond.methodLink "DowryBoxes$State" (3 : Nat) ({ cls := "java/lang/Object", name := "<init>", desc := "()V" } : Jvm.MethodName)) ∈ lw_all := lw_g (lw_at lw_m1 50 rfl) rfl
theorem q171 : (Jvm.Cond.classLink "DowryBoxes$State" (9 : Nat) "DowryBoxes$Table") ∈ lw_all := lw_g (lw_at lw_m1 51 rfl) rfl
theorem q173 : (Jvm.Cond.methodLinkNest "DowryBoxes$State" (11 : Nat) ({ cls := "DowryBoxes$Table", name := "<init>", desc := "()V" } : Jvm.MethodName) "DowryBoxes") ∈ lw_tbl := lw_at lw_m1 53 rfl
theorem q203 : (Jvm.Cond.classLink "DowryBoxes$State" (28 : Nat) "java/util/ArrayList") ∈ lw_all := lw_g (lw_at lw_m1 83 rfl) rfl
theorem q205 : (Jvm.Cond.methodLink "DowryBoxes$State" (30 : Nat) ({ cls := "java/util/ArrayList", name := "<init>", desc := "(I)V" } : Jvm.MethodName)) ∈ lw_all := lw_g (lw_at lw_m1 85 rfl) rfl
theorem q231 : (Jvm.Cond.fieldLink "DowryBoxes$State" (12 : Nat) "DowryBoxes$State" "table" "LDowryBoxes$Table;") ∈ lw_all := lw_g (lw_at lw_m1 111 rfl) rfl
theorem q233 : (Jvm.Cond.fieldLink "DowryBoxes$State" (18 : Nat) "DowryBoxes$State" "ear" "[I") ∈ lw_all := lw_g (lw_at lw_m1 113 rfl) rfl
theorem q235 : (Jvm.Cond.fieldLink "DowryBoxes$State" (22 : Nat) "DowryBoxes$State" "wants" "[I") ∈ lw_all := lw_g (lw_at lw_m1 115 rfl) rfl
theorem q237 : (Jvm.Cond.fieldLink "DowryBoxes$State" (25 : Nat) "DowryBoxes$State" "heard" "[I") ∈ lw_all := lw_g (lw_at lw_m1 117 rfl) rfl
theorem q239 : (Jvm.Cond.fieldLink "DowryBoxes$State" (33 : Nat) "DowryBoxes$State" "laws" "Ljava/util/ArrayList;") ∈ lw_all := lw_g (lw_at lw_m1 119 rfl) rfl
theorem q241 : (Jvm.Cond.fieldLink "DowryBoxes$State" (59 : Nat) "DowryBoxes$State" "boxes" "I") ∈ lw_all := lw_g (lw_at lw_m1 121 rfl) rfl
theorem q243 : (Jvm.Cond.fieldLink "DowryBoxes$State" (62 : Nat) "DowryBoxes$State" "suitors" "I") ∈ lw_all := lw_g (lw_at lw_m1 123 rfl) rfl
theorem q245 : (Jvm.Cond.fieldLink "DowryBoxes$State" (65 : Nat) "DowryBoxes$State" "heardMany" "I") ∈ lw_all := lw_g (lw_at lw_m1 125 rfl) rfl
theorem q247 : (Jvm.Cond.fieldLink "DowryBoxes$State" (37 : Nat) "DowryBoxes$State" "damp" "I") ∈ lw_all := lw_g (lw_at lw_m1 127 rfl) rfl
theorem q249 : (Jvm.Cond.fieldLink "DowryBoxes$State" (68 : Nat) "DowryBoxes$State" "mood" "I") ∈ lw_all := lw_g (lw_at lw_m1 129 rfl) rfl
theorem q251 : (Jvm.Cond.fieldLink "DowryBoxes$State" (41 : Nat) "DowryBoxes$State" "force" "I") ∈ lw_all := lw_g (lw_at lw_m1 131 rfl) rfl
theorem q253 : (Jvm.Cond.laysFinal "DowryBoxes$State" "DowryBoxes$State" "table" "LDowryBoxes$Table;") ∈ lw_all := lw_g (lw_at lw_m1 133 rfl) rfl
theorem q254 : (Jvm.Cond.soleField "DowryBoxes$State" "table") ∈ lw_all := lw_g (lw_at lw_m1 134 rfl) rfl
theorem q255 : (Jvm.Cond.laysFinal "DowryBoxes$State" "DowryBoxes$State" "ear" "[I") ∈ lw_all := lw_g (lw_at lw_m1 135 rfl) rfl
theorem q256 : (Jvm.Cond.soleField "DowryBoxes$State" "ear") ∈ lw_all := lw_g (lw_at lw_m1 136 rfl) rfl
theorem q257 : (Jvm.Cond.laysFinal "DowryBoxes$State" "DowryBoxes$State" "wants" "[I") ∈ lw_all := lw_g (lw_at lw_m1 137 rfl) rfl
theorem q258 : (Jvm.Cond.soleField "DowryBoxes$State" "wants") ∈ lw_all := lw_g (lw_at lw_m1 138 rfl) rfl
theorem q259 : (Jvm.Cond.laysFinal "DowryBoxes$State" "DowryBoxes$State" "heard" "[I") ∈ lw_all := lw_g (lw_at lw_m1 139 rfl) rfl
theorem q260 : (Jvm.Cond.soleField "DowryBoxes$State" "heard") ∈ lw_all := lw_g (lw_at lw_m1 140 rfl) rfl
theorem q261 : (Jvm.Cond.laysFinal "DowryBoxes$State" "DowryBoxes$State" "laws" "Ljava/util/ArrayList;") ∈ lw_all := lw_g (lw_at lw_m1 141 rfl) rfl
theorem q262 : (Jvm.Cond.soleField "DowryBoxes$State" "laws") ∈ lw_all := lw_g (lw_at lw_m1 142 rfl) rfl
theorem q263 : (Jvm.Cond.lays "DowryBoxes$State" "DowryBoxes$State" "boxes" "I") ∈ lw_all := lw_g (lw_at lw_m1 143 rfl) rfl
theorem q264 : (Jvm.Cond.soleField "DowryBoxes$State" "boxes") ∈ lw_all := lw_g (lw_at lw_m1 144 rfl) rfl
theorem q265 : (Jvm.Cond.lays "DowryBoxes$State" "DowryBoxes$State" "suitors" "I") ∈ lw_all := lw_g (lw_at lw_m1 145 rfl) rfl
theorem q266 : (Jvm.Cond.soleField "DowryBoxes$State" "suitors") ∈ lw_all := lw_g (lw_at lw_m1 146 rfl) rfl
theorem q267 : (Jvm.Cond.lays "DowryBoxes$State" "DowryBoxes$State" "heardMany" "I") ∈ lw_all := lw_g (lw_at lw_m1 147 rfl) rfl
theorem q268 : (Jvm.Cond.soleField "DowryBoxes$State" "heardMany") ∈ lw_all := lw_g (lw_at lw_m1 148 rfl) rfl
theorem q269 : (Jvm.Cond.lays "DowryBoxes$State" "DowryBoxes$State" "damp" "I") ∈ lw_all := lw_g (lw_at lw_m1 149 rfl) rfl
theorem q270 : (Jvm.Cond.soleField "DowryBoxes$State" "damp") ∈ lw_all := lw_g (lw_at lw_m1 150 rfl) rfl
theorem q271 : (Jvm.Cond.lays "DowryBoxes$State" "DowryBoxes$State" "mood" "I") ∈ lw_all := lw_g (lw_at lw_m1 151 rfl) rfl
theorem q272 : (Jvm.Cond.soleField "DowryBoxes$State" "mood") ∈ lw_all := lw_g (lw_at lw_m1 152 rfl) rfl
theorem q273 : (Jvm.Cond.lays "DowryBoxes$State" "DowryBoxes$State" "force" "I") ∈ lw_all := lw_g (lw_at lw_m1 153 rfl) rfl
theorem q274 : (Jvm.Cond.soleField "DowryBoxes$State" "force") ∈ lw_all := lw_g (lw_at lw_m1 154 rfl) rfl
theorem q275 : (Jvm.Cond.superclass "DowryBoxes$State" "java/lang/Object") ∈ lw_all := lw_g (lw_at lw_m1 155 rfl) rfl
theorem q473 : (Jvm.Cond.instanceMethod ({ cls := "DowryBoxes$State", name := "takes", desc := "(LDowryBoxes$State;)V" } : Jvm.MethodName)) ∈ lw_all := lw_g (lw_at lw_m2 113 rfl) rfl
theorem q474 : (Jvm.Cond.selects "DowryBoxes$State" ({ cls := "DowryBoxes$State", name := "takes", desc := "(LDowryBoxes$State;)V" } : Jvm.MethodName) ({ cls := "DowryBoxes$State", name := "takes", desc := "(LDowryBoxes$State;)V" } : Jvm.MethodName)) ∈ lw_all := lw_g (lw_at lw_m2 114 rfl) rfl
theorem q475 : (Jvm.Cond.code ({ cls := "DowryBoxes$State", name := "takes", desc := "(LDowryBoxes$State;)V" } : Jvm.MethodName) prog_15_method_2_code (2 : Nat) (Option.none : Option Jvm.ClassFile.FieldType)) ∈ lw_all := lw_g (lw_at lw_m2 115 rfl) rfl
theorem q476 : (Jvm.Cond.methodLink "DowryBoxes$State" (44 : Nat) ({ cls := "DowryBoxes$Table", name := "takes", desc := "(LDowryBoxes$Table;)V" } : Jvm.MethodName)) ∈ lw_all := lw_g (lw_at lw_m2 116 rfl) rfl
theorem q486 : (Jvm.Cond.methodLinkNest "DowryBoxes$State" (48 : Nat) ({ cls := "DowryBoxes$Table", name := "rows", desc := "([I[I)V" } : Jvm.MethodName) "DowryBoxes") ∈ lw_tbl := lw_at lw_m2 126 rfl
theorem q487 : (Jvm.Cond.methodLink "DowryBoxes$State" (52 : Nat) ({ cls := "java/util/ArrayList", name := "clear", desc := "()V" } : Jvm.MethodName)) ∈ lw_all := lw_g (lw_at lw_m2 127 rfl) rfl
theorem q491 : (Jvm.Cond.methodLink "DowryBoxes$State" (55 : Nat) ({ cls := "java/util/ArrayList", name := "addAll", desc := "(Ljava/util/Collection;)Z" } : Jvm.MethodName)) ∈ lw_all := lw_g (lw_at lw_m2 131 rfl) rfl
theorem q524 : (Jvm.Cond.selects "DowryBoxes$State" ({ cls := "java/lang/Object", name := "getClass", desc := "()Ljava/lang/Class;" } : Jvm.MethodName) ({ cls := "java/lang/Object", name := "getClass", desc := "()Ljava/lang/Class;" } : Jvm.MethodName)) ∈ lw_all := lw_g (lw_at lw_m2 164 rfl) rfl
theorem q2289 : (Jvm.Cond.castable "DowryBoxes$State" "java/lang/Object") ∈ lw_tbl := lw_at lw_m10 9 rfl
theorem in_X1 : ∀ w ∈ wsX10, w ∈ lw_all := lw_in wsX10 [253, 255, 257, 259, 261, 263, 265, 267, 269, 271, 273] (by decide +kernel) (by decide +kernel)
/-! DowryBoxes$Table -/
set_option maxRecDepth 100000
def RX2 : String := "DowryBoxes$Table"
def TX2 : u_T := fun k => match k with
  | 0 => ("DowryBoxes$Table", "pins", "[I", true)
  | 1 => ("DowryBoxes$Table", "broken", "[I", true)
  | 2 => ("DowryBoxes$Table", "spring", "[I", true)
  | 3 => ("DowryBoxes$Table", "suitor", "[I", true)
  | 4 => ("DowryBoxes$Table", "left", "[I", true)
  | _ => ("DowryBoxes$Table", "year", "I", false)
def tyX2 : Nat → FieldType := fun k => match k with
  | 0 => .array .int
  | 1 => .array .int
  | 2 => .array .int
  | 3 => .array .int
  | 4 => .array .int
  | _ => .int
abbrev wsX20 : List Cond := u_ws RX2 TX2 6
theorem nmX2 : ∀ a, a < 6 → ∀ b, b < 6 → a ≠ b → (TX2 a).2.1 ≠ (TX2 b).2.1 := by decide +kernel
theorem tyX2_ok : ∀ k, k < 6 → parseFieldDescriptor (TX2 k).2.2.1 = some (tyX2 k) := by decide +kernel
abbrev cX2_init : ByteArray := prog_17_method_1_code
def yX2_init : MethodName := ⟨RX2, "<init>", "()V"⟩
def dkwX2_init_1 : List UInt8 := [188, 10, 181, 0, 18, 42, 16, 6, 188, 10, 181, 0, 21, 42, 16, 6, 188, 10, 181, 0, 24, 177]
abbrev dktX2_init_1 : List UInt8 := dkwX2_init_1 ++ []
def dkwX2_init_0 : List UInt8 := [42, 183, 0, 3, 42, 16, 48, 188, 10, 181, 0, 9, 42, 16, 6, 188, 10, 181, 0, 15, 42, 16, 6]
abbrev dktX2_init_0 : List UInt8 := dkwX2_init_0 ++ dktX2_init_1
theorem dksX2_init_0 : cX2_init.data.toList.drop 0 = dktX2_init_0 := by decide +kernel
theorem dksX2_init_1 : cX2_init.data.toList.drop 23 = dktX2_init_1 := dk_seg dksX2_init_0 23 rfl rfl
theorem dX2_init_0 : decode cX2_init 0 = .ok (.aload_n 0, 1) := dk_42 (dk_at dksX2_init_0 0 rfl rfl)
theorem dX2_init_1 : decode cX2_init 1 = .ok (.invokespecial 3, 3) := dk_183 0 3 (dk_at dksX2_init_0 1 rfl rfl)
theorem dX2_init_4 : decode cX2_init 4 = .ok (.aload_n 0, 1) := dk_42 (dk_at dksX2_init_0 4 rfl rfl)
theorem dX2_init_5 : decode cX2_init 5 = .ok (.bipush 48, 2) := dk_16 48 (dk_at dksX2_init_0 5 rfl rfl)
theorem dX2_init_7 : decode cX2_init 7 = .ok (.newarray .int, 2) := dk_188_10 (dk_at dksX2_init_0 7 rfl rfl)
theorem dX2_init_9 : decode cX2_init 9 = .ok (.putfield 9, 3) := dk_181 0 9 (dk_at dksX2_init_0 9 rfl rfl)
theorem dX2_init_12 : decode cX2_init 12 = .ok (.aload_n 0, 1) := dk_42 (dk_at dksX2_init_0 12 rfl rfl)
theorem dX2_init_13 : decode cX2_init 13 = .ok (.bipush 6, 2) := dk_16 6 (dk_at dksX2_init_0 13 rfl rfl)
theorem dX2_init_15 : decode cX2_init 15 = .ok (.newarray .int, 2) := dk_188_10 (dk_at dksX2_init_0 15 rfl rfl)
theorem dX2_init_17 : decode cX2_init 17 = .ok (.putfield 15, 3) := dk_181 0 15 (dk_at dksX2_init_0 17 rfl rfl)
theorem dX2_init_20 : decode cX2_init 20 = .ok (.aload_n 0, 1) := dk_42 (dk_at dksX2_init_0 20 rfl rfl)
theorem dX2_init_21 : decode cX2_init 21 = .ok (.bipush 6, 2) := dk_16 6 (dk_at dksX2_init_0 21 rfl rfl)
theorem dX2_init_23 : decode cX2_init 23 = .ok (.newarray .int, 2) := dk_188_10 (dk_at dksX2_init_1 0 rfl rfl)
theorem dX2_init_25 : decode cX2_init 25 = .ok (.putfield 18, 3) := dk_181 0 18 (dk_at dksX2_init_1 2 rfl rfl)
theorem dX2_init_28 : decode cX2_init 28 = .ok (.aload_n 0, 1) := dk_42 (dk_at dksX2_init_1 5 rfl rfl)
theorem dX2_init_29 : decode cX2_init 29 = .ok (.bipush 6, 2) := dk_16 6 (dk_at dksX2_init_1 6 rfl rfl)
theorem dX2_init_31 : decode cX2_init 31 = .ok (.newarray .int, 2) := dk_188_10 (dk_at dksX2_init_1 8 rfl rfl)
theorem dX2_init_33 : decode cX2_init 33 = .ok (.putfield 21, 3) := dk_181 0 21 (dk_at dksX2_init_1 10 rfl rfl)
theorem dX2_init_36 : decode cX2_init 36 = .ok (.aload_n 0, 1) := dk_42 (dk_at dksX2_init_1 13 rfl rfl)
theorem dX2_init_37 : decode cX2_init 37 = .ok (.bipush 6, 2) := dk_16 6 (dk_at dksX2_init_1 14 rfl rfl)
theorem dX2_init_39 : decode cX2_init 39 = .ok (.newarray .int, 2) := dk_188_10 (dk_at dksX2_init_1 16 rfl rfl)
theorem dX2_init_41 : decode cX2_init 41 = .ok (.putfield 24, 3) := dk_181 0 24 (dk_at dksX2_init_1 18 rfl rfl)
theorem dX2_init_44 : decode cX2_init 44 = .ok (.return_, 1) := dk_177 (dk_at dksX2_init_1 21 rfl rfl)
abbrev cX2_takes : ByteArray := prog_17_method_3_code
def yX2_takes : MethodName := ⟨RX2, "takes", "(LDowryBoxes$Table;)V"⟩
def dkwX2_takes_2 : List UInt8 := [180, 0, 24, 43, 180, 0, 24, 184, 0, 33, 42, 43, 180, 0, 37, 181, 0, 37, 177]
abbrev dktX2_takes_2 : List UInt8 := dkwX2_takes_2 ++ []
def dkwX2_takes_1 : List UInt8 := [180, 0, 18, 43, 180, 0, 18, 184, 0, 33, 42, 180, 0, 21, 43, 180, 0, 21, 184, 0, 33, 42]
abbrev dktX2_takes_1 : List UInt8 := dkwX2_takes_1 ++ dktX2_takes_2
def dkwX2_takes_0 : List UInt8 := [42, 180, 0, 9, 43, 180, 0, 9, 184, 0, 33, 42, 180, 0, 15, 43, 180, 0, 15, 184, 0, 33, 42]
abbrev dktX2_takes_0 : List UInt8 := dkwX2_takes_0 ++ dktX2_takes_1
theorem dksX2_takes_0 : cX2_takes.data.toList.drop 0 = dktX2_takes_0 := by decide +kernel
theorem dksX2_takes_1 : cX2_takes.data.toList.drop 23 = dktX2_takes_1 := dk_seg dksX2_takes_0 23 rfl rfl
theorem dksX2_takes_2 : cX2_takes.data.toList.drop 45 = dktX2_takes_2 := dk_seg dksX2_takes_1 22 rfl rfl
theorem dX2_takes_0 : decode cX2_takes 0 = .ok (.aload_n 0, 1) := dk_42 (dk_at dksX2_takes_0 0 rfl rfl)
theorem dX2_takes_1 : decode cX2_takes 1 = .ok (.getfield 9, 3) := dk_180 0 9 (dk_at dksX2_takes_0 1 rfl rfl)
theorem dX2_takes_4 : decode cX2_takes 4 = .ok (.aload_n 1, 1) := dk_43 (dk_at dksX2_takes_0 4 rfl rfl)
theorem dX2_takes_5 : decode cX2_takes 5 = .ok (.getfield 9, 3) := dk_180 0 9 (dk_at dksX2_takes_0 5 rfl rfl)
theorem dX2_takes_8 : decode cX2_takes 8 = .ok (.invokestatic 33, 3) := dk_184 0 33 (dk_at dksX2_takes_0 8 rfl rfl)
theorem dX2_takes_11 : decode cX2_takes 11 = .ok (.aload_n 0, 1) := dk_42 (dk_at dksX2_takes_0 11 rfl rfl)
theorem dX2_takes_12 : decode cX2_takes 12 = .ok (.getfield 15, 3) := dk_180 0 15 (dk_at dksX2_takes_0 12 rfl rfl)
theorem dX2_takes_15 : decode cX2_takes 15 = .ok (.aload_n 1, 1) := dk_43 (dk_at dksX2_takes_0 15 rfl rfl)
theorem dX2_takes_16 : decode cX2_takes 16 = .ok (.getfield 15, 3) := dk_180 0 15 (dk_at dksX2_takes_0 16 rfl rfl)
theorem dX2_takes_19 : decode cX2_takes 19 = .ok (.invokestatic 33, 3) := dk_184 0 33 (dk_at dksX2_takes_0 19 rfl rfl)
theorem dX2_takes_22 : decode cX2_takes 22 = .ok (.aload_n 0, 1) := dk_42 (dk_at dksX2_takes_0 22 rfl rfl)
theorem dX2_takes_23 : decode cX2_takes 23 = .ok (.getfield 18, 3) := dk_180 0 18 (dk_at dksX2_takes_1 0 rfl rfl)
theorem dX2_takes_26 : decode cX2_takes 26 = .ok (.aload_n 1, 1) := dk_43 (dk_at dksX2_takes_1 3 rfl rfl)
theorem dX2_takes_27 : decode cX2_takes 27 = .ok (.getfield 18, 3) := dk_180 0 18 (dk_at dksX2_takes_1 4 rfl rfl)
theorem dX2_takes_30 : decode cX2_takes 30 = .ok (.invokestatic 33, 3) := dk_184 0 33 (dk_at dksX2_takes_1 7 rfl rfl)
theorem dX2_takes_33 : decode cX2_takes 33 = .ok (.aload_n 0, 1) := dk_42 (dk_at dksX2_takes_1 10 rfl rfl)
theorem dX2_takes_34 : decode cX2_takes 34 = .ok (.getfield 21, 3) := dk_180 0 21 (dk_at dksX2_takes_1 11 rfl rfl)
theorem dX2_takes_37 : decode cX2_takes 37 = .ok (.aload_n 1, 1) := dk_43 (dk_at dksX2_takes_1 14 rfl rfl)
theorem dX2_takes_38 : decode cX2_takes 38 = .ok (.getfield 21, 3) := dk_180 0 21 (dk_at dksX2_takes_1 15 rfl rfl)
theorem dX2_takes_41 : decode cX2_takes 41 = .ok (.invokestatic 33, 3) := dk_184 0 33 (dk_at dksX2_takes_1 18 rfl rfl)
theorem dX2_takes_44 : decode cX2_takes 44 = .ok (.aload_n 0, 1) := dk_42 (dk_at dksX2_takes_1 21 rfl rfl)
theorem dX2_takes_45 : decode cX2_takes 45 = .ok (.getfield 24, 3) := dk_180 0 24 (dk_at dksX2_takes_2 0 rfl rfl)
theorem dX2_takes_48 : decode cX2_takes 48 = .ok (.aload_n 1, 1) := dk_43 (dk_at dksX2_takes_2 3 rfl rfl)
theorem dX2_takes_49 : decode cX2_takes 49 = .ok (.getfield 24, 3) := dk_180 0 24 (dk_at dksX2_takes_2 4 rfl rfl)
theorem dX2_takes_52 : decode cX2_takes 52 = .ok (.invokestatic 33, 3) := dk_184 0 33 (dk_at dksX2_takes_2 7 rfl rfl)
theorem dX2_takes_55 : decode cX2_takes 55 = .ok (.aload_n 0, 1) := dk_42 (dk_at dksX2_takes_2 10 rfl rfl)
theorem dX2_takes_56 : decode cX2_takes 56 = .ok (.aload_n 1, 1) := dk_43 (dk_at dksX2_takes_2 11 rfl rfl)
theorem dX2_takes_57 : decode cX2_takes 57 = .ok (.getfield 37, 3) := dk_180 0 37 (dk_at dksX2_takes_2 12 rfl rfl)
theorem dX2_takes_60 : decode cX2_takes 60 = .ok (.putfield 37, 3) := dk_181 0 37 (dk_at dksX2_takes_2 15 rfl rfl)
theorem dX2_takes_63 : decode cX2_takes 63 = .ok (.return_, 1) := dk_177 (dk_at dksX2_takes_2 18 rfl rfl)
abbrev cX2_rows : ByteArray := prog_17_method_2_code
def yX2_rows : MethodName := ⟨RX2, "rows", "([I[I)V"⟩
def dkwX2_rows_0 : List UInt8 := [43, 3, 42, 3, 42, 190, 184, 0, 27, 177]
abbrev dktX2_rows_0 : List UInt8 := dkwX2_rows_0 ++ []
theorem dksX2_rows_0 : cX2_rows.data.toList.drop 0 = dktX2_rows_0 := by decide +kernel
theorem dX2_rows_0 : decode cX2_rows 0 = .ok (.aload_n 1, 1) := dk_43 (dk_at dksX2_rows_0 0 rfl rfl)
theorem dX2_rows_1 : decode cX2_rows 1 = .ok (.iconst 0, 1) := dk_3 (dk_at dksX2_rows_0 1 rfl rfl)
theorem dX2_rows_2 : decode cX2_rows 2 = .ok (.aload_n 0, 1) := dk_42 (dk_at dksX2_rows_0 2 rfl rfl)
theorem dX2_rows_3 : decode cX2_rows 3 = .ok (.iconst 0, 1) := dk_3 (dk_at dksX2_rows_0 3 rfl rfl)
theorem dX2_rows_4 : decode cX2_rows 4 = .ok (.aload_n 0, 1) := dk_42 (dk_at dksX2_rows_0 4 rfl rfl)
theorem dX2_rows_5 : decode cX2_rows 5 = .ok (.arraylength, 1) := dk_190 (dk_at dksX2_rows_0 5 rfl rfl)
theorem dX2_rows_6 : decode cX2_rows 6 = .ok (.invokestatic 27, 3) := dk_184 0 27 (dk_at dksX2_rows_0 6 rfl rfl)
theorem dX2_rows_9 : decode cX2_rows 9 = .ok (.return_, 1) := dk_177 (dk_at dksX2_rows_0 9 rfl rfl)
abbrev cX2_pinsAt : ByteArray := prog_17_method_4_code
def yX2_pinsAt : MethodName := ⟨RX2, "pinsAt", "(II)I"⟩
def dkwX2_pinsAt_0 : List UInt8 := [42, 180, 0, 9, 16, 8, 27, 104, 28, 96, 46, 172]
abbrev dktX2_pinsAt_0 : List UInt8 := dkwX2_pinsAt_0 ++ []
theorem dksX2_pinsAt_0 : cX2_pinsAt.data.toList.drop 0 = dktX2_pinsAt_0 := by decide +kernel
theorem dX2_pinsAt_0 : decode cX2_pinsAt 0 = .ok (.aload_n 0, 1) := dk_42 (dk_at dksX2_pinsAt_0 0 rfl rfl)
theorem dX2_pinsAt_1 : decode cX2_pinsAt 1 = .ok (.getfield 9, 3) := dk_180 0 9 (dk_at dksX2_pinsAt_0 1 rfl rfl)
theorem dX2_pinsAt_4 : decode cX2_pinsAt 4 = .ok (.bipush 8, 2) := dk_16 8 (dk_at dksX2_pinsAt_0 4 rfl rfl)
theorem dX2_pinsAt_6 : decode cX2_pinsAt 6 = .ok (.iload_n 1, 1) := dk_27 (dk_at dksX2_pinsAt_0 6 rfl rfl)
theorem dX2_pinsAt_7 : decode cX2_pinsAt 7 = .ok (.imul, 1) := dk_104 (dk_at dksX2_pinsAt_0 7 rfl rfl)
theorem dX2_pinsAt_8 : decode cX2_pinsAt 8 = .ok (.iload_n 2, 1) := dk_28 (dk_at dksX2_pinsAt_0 8 rfl rfl)
theorem dX2_pinsAt_9 : decode cX2_pinsAt 9 = .ok (.iadd, 1) := dk_96 (dk_at dksX2_pinsAt_0 9 rfl rfl)
theorem dX2_pinsAt_10 : decode cX2_pinsAt 10 = .ok (.iaload, 1) := dk_46 (dk_at dksX2_pinsAt_0 10 rfl rfl)
theorem dX2_pinsAt_11 : decode cX2_pinsAt 11 = .ok (.ireturn, 1) := dk_172 (dk_at dksX2_pinsAt_0 11 rfl rfl)
abbrev cX2_notes : ByteArray := prog_17_method_6_code
def yX2_notes : MethodName := ⟨RX2, "notes", "(I)I"⟩
def dkwX2_notes_1 : List UInt8 := [132, 3, 1, 167, 255, 235, 28, 172]
abbrev dktX2_notes_1 : List UInt8 := dkwX2_notes_1 ++ []
def dkwX2_notes_0 : List UInt8 := [3, 61, 3, 62, 29, 16, 8, 162, 0, 21, 28, 42, 27, 29, 182, 0, 45, 184, 0, 48, 96, 61]
abbrev dktX2_notes_0 : List UInt8 := dkwX2_notes_0 ++ dktX2_notes_1
theorem dksX2_notes_0 : cX2_notes.data.toList.drop 0 = dktX2_notes_0 := by decide +kernel
theorem dksX2_notes_1 : cX2_notes.data.toList.drop 22 = dktX2_notes_1 := dk_seg dksX2_notes_0 22 rfl rfl
theorem dX2_notes_0 : decode cX2_notes 0 = .ok (.iconst 0, 1) := dk_3 (dk_at dksX2_notes_0 0 rfl rfl)
theorem dX2_notes_1 : decode cX2_notes 1 = .ok (.istore_n 2, 1) := dk_61 (dk_at dksX2_notes_0 1 rfl rfl)
theorem dX2_notes_2 : decode cX2_notes 2 = .ok (.iconst 0, 1) := dk_3 (dk_at dksX2_notes_0 2 rfl rfl)
theorem dX2_notes_3 : decode cX2_notes 3 = .ok (.istore_n 3, 1) := dk_62 (dk_at dksX2_notes_0 3 rfl rfl)
theorem dX2_notes_4 : decode cX2_notes 4 = .ok (.iload_n 3, 1) := dk_29 (dk_at dksX2_notes_0 4 rfl rfl)
theorem dX2_notes_5 : decode cX2_notes 5 = .ok (.bipush 8, 2) := dk_16 8 (dk_at dksX2_notes_0 5 rfl rfl)
theorem dX2_notes_7 : decode cX2_notes 7 = .ok (.if_icmp .ge 21, 3) := dk_162 0 21 (dk_at dksX2_notes_0 7 rfl rfl)
theorem dX2_notes_10 : decode cX2_notes 10 = .ok (.iload_n 2, 1) := dk_28 (dk_at dksX2_notes_0 10 rfl rfl)
theorem dX2_notes_11 : decode cX2_notes 11 = .ok (.aload_n 0, 1) := dk_42 (dk_at dksX2_notes_0 11 rfl rfl)
theorem dX2_notes_12 : decode cX2_notes 12 = .ok (.iload_n 1, 1) := dk_27 (dk_at dksX2_notes_0 12 rfl rfl)
theorem dX2_notes_13 : decode cX2_notes 13 = .ok (.iload_n 3, 1) := dk_29 (dk_at dksX2_notes_0 13 rfl rfl)
theorem dX2_notes_14 : decode cX2_notes 14 = .ok (.invokevirtual 45, 3) := dk_182 0 45 (dk_at dksX2_notes_0 14 rfl rfl)
theorem dX2_notes_17 : decode cX2_notes 17 = .ok (.invokestatic 48, 3) := dk_184 0 48 (dk_at dksX2_notes_0 17 rfl rfl)
theorem dX2_notes_20 : decode cX2_notes 20 = .ok (.iadd, 1) := dk_96 (dk_at dksX2_notes_0 20 rfl rfl)
theorem dX2_notes_21 : decode cX2_notes 21 = .ok (.istore_n 2, 1) := dk_61 (dk_at dksX2_notes_0 21 rfl rfl)
theorem dX2_notes_22 : decode cX2_notes 22 = .ok (.iinc 3 1, 3) := dk_132 3 1 (dk_at dksX2_notes_1 0 rfl rfl)
theorem dX2_notes_25 : decode cX2_notes 25 = .ok (.goto (-21), 3) := dk_167 255 235 (dk_at dksX2_notes_1 3 rfl rfl)
theorem dX2_notes_28 : decode cX2_notes 28 = .ok (.iload_n 2, 1) := dk_28 (dk_at dksX2_notes_1 6 rfl rfl)
theorem dX2_notes_29 : decode cX2_notes 29 = .ok (.ireturn, 1) := dk_172 (dk_at dksX2_notes_1 7 rfl rfl)
abbrev cX2_notesAt : ByteArray := prog_17_method_5_code
def yX2_notesAt : MethodName := ⟨RX2, "notesAt", "(II)I"⟩
def dkwX2_notesAt_0 : List UInt8 := [42, 27, 28, 182, 0, 41, 42, 180, 0, 15, 27, 46, 2, 130, 126, 172]
abbrev dktX2_notesAt_0 : List UInt8 := dkwX2_notesAt_0 ++ []
theorem dksX2_notesAt_0 : cX2_notesAt.data.toList.drop 0 = dktX2_notesAt_0 := by decide +kernel
theorem dX2_notesAt_0 : decode cX2_notesAt 0 = .ok (.aload_n 0, 1) := dk_42 (dk_at dksX2_notesAt_0 0 rfl rfl)
theorem dX2_notesAt_1 : decode cX2_notesAt 1 = .ok (.iload_n 1, 1) := dk_27 (dk_at dksX2_notesAt_0 1 rfl rfl)
theorem dX2_notesAt_2 : decode cX2_notesAt 2 = .ok (.iload_n 2, 1) := dk_28 (dk_at dksX2_notesAt_0 2 rfl rfl)
theorem dX2_notesAt_3 : decode cX2_notesAt 3 = .ok (.invokevirtual 41, 3) := dk_182 0 41 (dk_at dksX2_notesAt_0 3 rfl rfl)
theorem dX2_notesAt_6 : decode cX2_notesAt 6 = .ok (.aload_n 0, 1) := dk_42 (dk_at dksX2_notesAt_0 6 rfl rfl)
theorem dX2_notesAt_7 : decode cX2_notesAt 7 = .ok (.getfield 15, 3) := dk_180 0 15 (dk_at dksX2_notesAt_0 7 rfl rfl)
theorem dX2_notesAt_10 : decode cX2_notesAt 10 = .ok (.iload_n 1, 1) := dk_27 (dk_at dksX2_notesAt_0 10 rfl rfl)
theorem dX2_notesAt_11 : decode cX2_notesAt 11 = .ok (.iaload, 1) := dk_46 (dk_at dksX2_notesAt_0 11 rfl rfl)
theorem dX2_notesAt_12 : decode cX2_notesAt 12 = .ok (.iconst (-1), 1) := dk_2 (dk_at dksX2_notesAt_0 12 rfl rfl)
theorem dX2_notesAt_13 : decode cX2_notesAt 13 = .ok (.ixor, 1) := dk_130 (dk_at dksX2_notesAt_0 13 rfl rfl)
theorem dX2_notesAt_14 : decode cX2_notesAt 14 = .ok (.iand, 1) := dk_126 (dk_at dksX2_notesAt_0 14 rfl rfl)
theorem dX2_notesAt_15 : decode cX2_notesAt 15 = .ok (.ireturn, 1) := dk_172 (dk_at dksX2_notesAt_0 15 rfl rfl)
abbrev cX2_isWed : ByteArray := prog_17_method_7_code
def yX2_isWed : MethodName := ⟨RX2, "isWed", "(I)Z"⟩
def dkwX2_isWed_0 : List UInt8 := [42, 180, 0, 21, 27, 46, 2, 159, 0, 7, 4, 167, 0, 4, 3, 172]
abbrev dktX2_isWed_0 : List UInt8 := dkwX2_isWed_0 ++ []
theorem dksX2_isWed_0 : cX2_isWed.data.toList.drop 0 = dktX2_isWed_0 := by decide +kernel
theorem dX2_isWed_0 : decode cX2_isWed 0 = .ok (.aload_n 0, 1) := dk_42 (dk_at dksX2_isWed_0 0 rfl rfl)
theorem dX2_isWed_1 : decode cX2_isWed 1 = .ok (.getfield 21, 3) := dk_180 0 21 (dk_at dksX2_isWed_0 1 rfl rfl)
theorem dX2_isWed_4 : decode cX2_isWed 4 = .ok (.iload_n 1, 1) := dk_27 (dk_at dksX2_isWed_0 4 rfl rfl)
theorem dX2_isWed_5 : decode cX2_isWed 5 = .ok (.iaload, 1) := dk_46 (dk_at dksX2_isWed_0 5 rfl rfl)
theorem dX2_isWed_6 : decode cX2_isWed 6 = .ok (.iconst (-1), 1) := dk_2 (dk_at dksX2_isWed_0 6 rfl rfl)
theorem dX2_isWed_7 : decode cX2_isWed 7 = .ok (.if_icmp .eq 7, 3) := dk_159 0 7 (dk_at dksX2_isWed_0 7 rfl rfl)
theorem dX2_isWed_10 : decode cX2_isWed 10 = .ok (.iconst 1, 1) := dk_4 (dk_at dksX2_isWed_0 10 rfl rfl)
theorem dX2_isWed_11 : decode cX2_isWed 11 = .ok (.goto 4, 3) := dk_167 0 4 (dk_at dksX2_isWed_0 11 rfl rfl)
theorem dX2_isWed_14 : decode cX2_isWed 14 = .ok (.iconst 0, 1) := dk_3 (dk_at dksX2_isWed_0 14 rfl rfl)
theorem dX2_isWed_15 : decode cX2_isWed 15 = .ok (.ireturn, 1) := dk_172 (dk_at dksX2_isWed_0 15 rfl rfl)
theorem q123 : (Jvm.Cond.initialized "DowryBoxes$Table") ∈ lw_all := lw_g (lw_at lw_m1 3 rfl) rfl
theorem q172 : (Jvm.Cond.instantiable "DowryBoxes$Table" (6 : Nat)) ∈ lw_all := lw_g (lw_at lw_m1 52 rfl) rfl
theorem q174 : (Jvm.Cond.instanceMethod ({ cls := "DowryBoxes$Table", name := "<init>", desc := "()V" } : Jvm.MethodName)) ∈ lw_all := lw_g (lw_at lw_m1 54 rfl) rfl
theorem q175 : (Jvm.Cond.code ({ cls := "DowryBoxes$Table", name := "<init>", desc := "()V" } : Jvm.MethodName) prog_17_method_1_code (1 : Nat) (Option.none : Option Jvm.ClassFile.FieldType)) ∈ lw_all := lw_g (lw_at lw_m1 55 rfl) rfl
theorem q176 : (Jvm.Cond.methodLink "DowryBoxes$Table" (3 : Nat) ({ cls := "java/lang/Object", name := "<init>", desc := "()V" } : Jvm.MethodName)) ∈ lw_all := lw_g (lw_at lw_m1 56 rfl) rfl
theorem q177 : (Jvm.Cond.fieldLink "DowryBoxes$Table" (9 : Nat) "DowryBoxes$Table" "pins" "[I") ∈ lw_all := lw_g (lw_at lw_m1 57 rfl) rfl
theorem q179 : (Jvm.Cond.fieldLink "DowryBoxes$Table" (15 : Nat) "DowryBoxes$Table" "broken" "[I") ∈ lw_all := lw_g (lw_at lw_m1 59 rfl) rfl
theorem q181 : (Jvm.Cond.fieldLink "DowryBoxes$Table" (18 : Nat) "DowryBoxes$Table" "spring" "[I") ∈ lw_all := lw_g (lw_at lw_m1 61 rfl) rfl
theorem q183 : (Jvm.Cond.fieldLink "DowryBoxes$Table" (21 : Nat) "DowryBoxes$Table" "suitor" "[I") ∈ lw_all := lw_g (lw_at lw_m1 63 rfl) rfl
theorem q185 : (Jvm.Cond.fieldLink "DowryBoxes$Table" (24 : Nat) "DowryBoxes$Table" "left" "[I") ∈ lw_all := lw_g (lw_at lw_m1 65 rfl) rfl
theorem q187 : (Jvm.Cond.fieldLink "DowryBoxes$Table" (37 : Nat) "DowryBoxes$Table" "year" "I") ∈ lw_all := lw_g (lw_at lw_m1 67 rfl) rfl
theorem q189 : (Jvm.Cond.laysFinal "DowryBoxes$Table" "DowryBoxes$Table" "pins" "[I") ∈ lw_all := lw_g (lw_at lw_m1 69 rfl) rfl
theorem q190 : (Jvm.Cond.soleField "DowryBoxes$Table" "pins") ∈ lw_all := lw_g (lw_at lw_m1 70 rfl) rfl
theorem q191 : (Jvm.Cond.laysFinal "DowryBoxes$Table" "DowryBoxes$Table" "broken" "[I") ∈ lw_all := lw_g (lw_at lw_m1 71 rfl) rfl
theorem q192 : (Jvm.Cond.soleField "DowryBoxes$Table" "broken") ∈ lw_all := lw_g (lw_at lw_m1 72 rfl) rfl
theorem q193 : (Jvm.Cond.laysFinal "DowryBoxes$Table" "DowryBoxes$Table" "spring" "[I") ∈ lw_all := lw_g (lw_at lw_m1 73 rfl) rfl
theorem q194 : (Jvm.Cond.soleField "DowryBoxes$Table" "spring") ∈ lw_all := lw_g (lw_at lw_m1 74 rfl) rfl
theorem q195 : (Jvm.Cond.laysFinal "DowryBoxes$Table" "DowryBoxes$Table" "suitor" "[I") ∈ lw_all := lw_g (lw_at lw_m1 75 rfl) rfl
theorem q196 : (Jvm.Cond.soleField "DowryBoxes$Table" "suitor") ∈ lw_all := lw_g (lw_at lw_m1 76 rfl) rfl
theorem q197 : (Jvm.Cond.laysFinal "DowryBoxes$Table" "DowryBoxes$Table" "left" "[I") ∈ lw_all := lw_g (lw_at lw_m1 77 rfl) rfl
theorem q198 : (Jvm.Cond.soleField "DowryBoxes$Table" "left") ∈ lw_all := lw_g (lw_at lw_m1 78 rfl) rfl
theorem q199 : (Jvm.Cond.lays "DowryBoxes$Table" "DowryBoxes$Table" "year" "I") ∈ lw_all := lw_g (lw_at lw_m1 79 rfl) rfl
theorem q200 : (Jvm.Cond.soleField "DowryBoxes$Table" "year") ∈ lw_all := lw_g (lw_at lw_m1 80 rfl) rfl
theorem q201 : (Jvm.Cond.superclass "DowryBoxes$Table" "java/lang/Object") ∈ lw_all := lw_g (lw_at lw_m1 81 rfl) rfl
theorem q477 : (Jvm.Cond.instanceMethod ({ cls := "DowryBoxes$Table", name := "takes", desc := "(LDowryBoxes$Table;)V" } : Jvm.MethodName)) ∈ lw_all := lw_g (lw_at lw_m2 117 rfl) rfl
theorem q478 : (Jvm.Cond.selects "DowryBoxes$Table" ({ cls := "DowryBoxes$Table", name := "takes", desc := "(LDowryBoxes$Table;)V" } : Jvm.MethodName) ({ cls := "DowryBoxes$Table", name := "takes", desc := "(LDowryBoxes$Table;)V" } : Jvm.MethodName)) ∈ lw_all := lw_g (lw_at lw_m2 118 rfl) rfl
theorem q479 : (Jvm.Cond.code ({ cls := "DowryBoxes$Table", name := "takes", desc := "(LDowryBoxes$Table;)V" } : Jvm.MethodName) prog_17_method_3_code (2 : Nat) (Option.none : Option Jvm.ClassFile.FieldType)) ∈ lw_all := lw_g (lw_at lw_m2 119 rfl) rfl
theorem q480 : (Jvm.Cond.methodLink "DowryBoxes$Table" (33 : Nat) ({ cls := "DowryBoxes$Table", name := "rows", desc := "([I[I)V" } : Jvm.MethodName)) ∈ lw_all := lw_g (lw_at lw_m2 120 rfl) rfl
theorem q481 : (Jvm.Cond.static ({ cls := "DowryBoxes$Table", name := "rows", desc := "([I[I)V" } : Jvm.MethodName)) ∈ lw_all := lw_g (lw_at lw_m2 121 rfl) rfl
theorem q482 : (Jvm.Cond.code ({ cls := "DowryBoxes$Table", name := "rows", desc := "([I[I)V" } : Jvm.MethodName) prog_17_method_2_code (2 : Nat) (Option.none : Option Jvm.ClassFile.FieldType)) ∈ lw_all := lw_g (lw_at lw_m2 122 rfl) rfl
theorem q483 : (Jvm.Cond.methodLink "DowryBoxes$Table" (27 : Nat) ({ cls := "java/lang/System", name := "arraycopy", desc := "(Ljava/lang/Object;ILjava/lang/Object;II)V" } : Jvm.MethodName)) ∈ lw_all := lw_g (lw_at lw_m2 123 rfl) rfl
theorem q525 : (Jvm.Cond.selects "DowryBoxes$Table" ({ cls := "java/lang/Object", name := "getClass", desc := "()Ljava/lang/Class;" } : Jvm.MethodName) ({ cls := "java/lang/Object", name := "getClass", desc := "()Ljava/lang/Class;" } : Jvm.MethodName)) ∈ lw_all := lw_g (lw_at lw_m2 165 rfl) rfl
theorem q587 : (Jvm.Cond.instanceMethod ({ cls := "DowryBoxes$Table", name := "pinsAt", desc := "(II)I" } : Jvm.MethodName)) ∈ lw_all := lw_g (lw_at lw_m2 227 rfl) rfl
theorem q588 : (Jvm.Cond.selects "DowryBoxes$Table" ({ cls := "DowryBoxes$Table", name := "pinsAt", desc := "(II)I" } : Jvm.MethodName) ({ cls := "DowryBoxes$Table", name := "pinsAt", desc := "(II)I" } : Jvm.MethodName)) ∈ lw_all := lw_g (lw_at lw_m2 228 rfl) rfl
theorem q589 : (Jvm.Cond.code ({ cls := "DowryBoxes$Table", name := "pinsAt", desc := "(II)I" } : Jvm.MethodName) prog_17_method_4_code (3 : Nat) (Option.some Jvm.ClassFile.FieldType.int)) ∈ lw_all := lw_g (lw_at lw_m2 229 rfl) rfl
theorem q591 : (Jvm.Cond.instanceMethod ({ cls := "DowryBoxes$Table", name := "notes", desc := "(I)I" } : Jvm.MethodName)) ∈ lw_all := lw_g (lw_at lw_m2 231 rfl) rfl
theorem q592 : (Jvm.Cond.selects "DowryBoxes$Table" ({ cls := "DowryBoxes$Table", name := "notes", desc := "(I)I" } : Jvm.MethodName) ({ cls := "DowryBoxes$Table", name := "notes", desc := "(I)I" } : Jvm.MethodName)) ∈ lw_all := lw_g (lw_at lw_m2 232 rfl) rfl
theorem q593 : (Jvm.Cond.code ({ cls := "DowryBoxes$Table", name := "notes", desc := "(I)I" } : Jvm.MethodName) prog_17_method_6_code (4 : Nat) (Option.some Jvm.ClassFile.FieldType.int)) ∈ lw_all := lw_g (lw_at lw_m2 233 rfl) rfl
theorem q594 : (Jvm.Cond.methodLink "DowryBoxes$Table" (45 : Nat) ({ cls := "DowryBoxes$Table", name := "notesAt", desc := "(II)I" } : Jvm.MethodName)) ∈ lw_all := lw_g (lw_at lw_m2 234 rfl) rfl
theorem q595 : (Jvm.Cond.instanceMethod ({ cls := "DowryBoxes$Table", name := "notesAt", desc := "(II)I" } : Jvm.MethodName)) ∈ lw_all := lw_g (lw_at lw_m2 235 rfl) rfl
theorem q596 : (Jvm.Cond.selects "DowryBoxes$Table" ({ cls := "DowryBoxes$Table", name := "notesAt", desc := "(II)I" } : Jvm.MethodName) ({ cls := "DowryBoxes$Table", name := "notesAt", desc := "(II)I" } : Jvm.MethodName)) ∈ lw_all := lw_g (lw_at lw_m2 236 rfl) rfl
theorem q597 : (Jvm.Cond.code ({ cls := "DowryBoxes$Table", name := "notesAt", desc := "(II)I" } : Jvm.MethodName) prog_17_method_5_code (3 : Nat) (Option.some Jvm.ClassFile.FieldType.int)) ∈ lw_all := lw_g (lw_at lw_m2 237 rfl) rfl
theorem q598 : (Jvm.Cond.methodLink "DowryBoxes$Table" (41 : Nat) ({ cls := "DowryBoxes$Table", name := "pinsAt", desc := "(II)I" } : Jvm.MethodName)) ∈ lw_all := lw_g (lw_at lw_m2 238 rfl) rfl
theorem q599 : (Jvm.Cond.methodLinkNest "DowryBoxes$Table" (48 : Nat) ({ cls := "DowryBoxes", name := "ones", desc := "(I)I" } : Jvm.MethodName) "DowryBoxes") ∈ lw_tbl := lw_at lw_m2 239 rfl
theorem q1311 : (Jvm.Cond.instanceMethod ({ cls := "DowryBoxes$Table", name := "isWed", desc := "(I)Z" } : Jvm.MethodName)) ∈ lw_all := lw_g (lw_at lw_m5 231 rfl) rfl
theorem q1312 : (Jvm.Cond.selects "DowryBoxes$Table" ({ cls := "DowryBoxes$Table", name := "isWed", desc := "(I)Z" } : Jvm.MethodName) ({ cls := "DowryBoxes$Table", name := "isWed", desc := "(I)Z" } : Jvm.MethodName)) ∈ lw_all := lw_g (lw_at lw_m5 232 rfl) rfl
theorem q1313 : (Jvm.Cond.code ({ cls := "DowryBoxes$Table", name := "isWed", desc := "(I)Z" } : Jvm.MethodName) prog_17_method_7_code (2 : Nat) (Option.some Jvm.ClassFile.FieldType.boolean)) ∈ lw_all := lw_g (lw_at lw_m5 233 rfl) rfl
theorem q2290 : (Jvm.Cond.castable "DowryBoxes$Table" "java/lang/Object") ∈ lw_tbl := lw_at lw_m10 10 rfl
theorem in_X2 : ∀ w ∈ wsX20, w ∈ lw_all := lw_in wsX20 [189, 191, 193, 195, 197, 199] (by decide +kernel) (by decide +kernel)
/-! DowryBoxes$Setting -/
set_option maxRecDepth 100000
def RX3 : String := "DowryBoxes$Setting"
def TX3 : u_T := fun k => match k with
  | 0 => ("DowryBoxes$Setting", "broken", "LDowryBoxes$Broken;", true)
  | _ => ("DowryBoxes$Setting", "values", "[J", true)
def tyX3 : Nat → FieldType := fun k => match k with
  | 0 => .object "DowryBoxes$Broken"
  | _ => .array .long
abbrev wsX30 : List Cond := u_ws RX3 TX3 2
theorem nmX3 : ∀ a, a < 2 → ∀ b, b < 2 → a ≠ b → (TX3 a).2.1 ≠ (TX3 b).2.1 := by decide +kernel
theorem tyX3_ok : ∀ k, k < 2 → parseFieldDescriptor (TX3 k).2.2.1 = some (tyX3 k) := by decide +kernel
abbrev cX3_init : ByteArray := prog_13_method_1_code
def yX3_init : MethodName := ⟨RX3, "<init>", "()V"⟩
def dkwX3_init_0 : List UInt8 := [42, 183, 0, 3, 42, 187, 0, 9, 89, 183, 0, 11, 181, 0, 12, 42, 16, 16, 188, 11, 181, 0, 18, 177]
abbrev dktX3_init_0 : List UInt8 := dkwX3_init_0 ++ []
theorem dksX3_init_0 : cX3_init.data.toList.drop 0 = dktX3_init_0 := by decide +kernel
theorem dX3_init_0 : decode cX3_init 0 = .ok (.aload_n 0, 1) := dk_42 (dk_at dksX3_init_0 0 rfl rfl)
theorem dX3_init_1 : decode cX3_init 1 = .ok (.invokespecial 3, 3) := dk_183 0 3 (dk_at dksX3_init_0 1 rfl rfl)
theorem dX3_init_4 : decode cX3_init 4 = .ok (.aload_n 0, 1) := dk_42 (dk_at dksX3_init_0 4 rfl rfl)
theorem dX3_init_5 : decode cX3_init 5 = .ok (.new 9, 3) := dk_187 0 9 (dk_at dksX3_init_0 5 rfl rfl)
theorem dX3_init_8 : decode cX3_init 8 = .ok (.dup, 1) := dk_89 (dk_at dksX3_init_0 8 rfl rfl)
theorem dX3_init_9 : decode cX3_init 9 = .ok (.invokespecial 11, 3) := dk_183 0 11 (dk_at dksX3_init_0 9 rfl rfl)
theorem dX3_init_12 : decode cX3_init 12 = .ok (.putfield 12, 3) := dk_181 0 12 (dk_at dksX3_init_0 12 rfl rfl)
theorem dX3_init_15 : decode cX3_init 15 = .ok (.aload_n 0, 1) := dk_42 (dk_at dksX3_init_0 15 rfl rfl)
theorem dX3_init_16 : decode cX3_init 16 = .ok (.bipush 16, 2) := dk_16 16 (dk_at dksX3_init_0 16 rfl rfl)
theorem dX3_init_18 : decode cX3_init 18 = .ok (.newarray .long, 2) := dk_188_11 (dk_at dksX3_init_0 18 rfl rfl)
theorem dX3_init_20 : decode cX3_init 20 = .ok (.putfield 18, 3) := dk_181 0 18 (dk_at dksX3_init_0 20 rfl rfl)
theorem dX3_init_23 : decode cX3_init 23 = .ok (.return_, 1) := dk_177 (dk_at dksX3_init_0 23 rfl rfl)
theorem q127 : (Jvm.Cond.initialized "DowryBoxes$Setting") ∈ lw_all := lw_g (lw_at lw_m1 7 rfl) rfl
theorem q281 : (Jvm.Cond.instantiable "DowryBoxes$Setting" (2 : Nat)) ∈ lw_all := lw_g (lw_at lw_m1 161 rfl) rfl
theorem q283 : (Jvm.Cond.instanceMethod ({ cls := "DowryBoxes$Setting", name := "<init>", desc := "()V" } : Jvm.MethodName)) ∈ lw_all := lw_g (lw_at lw_m1 163 rfl) rfl
theorem q284 : (Jvm.Cond.code ({ cls := "DowryBoxes$Setting", name := "<init>", desc := "()V" } : Jvm.MethodName) prog_13_method_1_code (1 : Nat) (Option.none : Option Jvm.ClassFile.FieldType)) ∈ lw_all := lw_g (lw_at lw_m1 164 rfl) rfl
theorem q285 : (Jvm.Cond.methodLink "DowryBoxes$Setting" (3 : Nat) ({ cls := "java/lang/Object", name := "<init>", desc := "()V" } : Jvm.MethodName)) ∈ lw_all := lw_g (lw_at lw_m1 165 rfl) rfl
theorem q286 : (Jvm.Cond.classLink "DowryBoxes$Setting" (9 : Nat) "DowryBoxes$Broken") ∈ lw_all := lw_g (lw_at lw_m1 166 rfl) rfl
theorem q324 : (Jvm.Cond.methodLink "DowryBoxes$Setting" (11 : Nat) ({ cls := "DowryBoxes$Broken", name := "<init>", desc := "()V" } : Jvm.MethodName)) ∈ lw_all := lw_g (lw_at lw_m1 204 rfl) rfl
theorem q347 : (Jvm.Cond.fieldLink "DowryBoxes$Setting" (12 : Nat) "DowryBoxes$Setting" "broken" "LDowryBoxes$Broken;") ∈ lw_all := lw_g (lw_at lw_m1 227 rfl) rfl
theorem q349 : (Jvm.Cond.fieldLink "DowryBoxes$Setting" (18 : Nat) "DowryBoxes$Setting" "values" "[J") ∈ lw_all := lw_g (lw_at lw_m1 229 rfl) rfl
theorem q352 : (Jvm.Cond.laysFinal "DowryBoxes$Setting" "DowryBoxes$Setting" "broken" "LDowryBoxes$Broken;") ∈ lw_all := lw_g (lw_at lw_m1 232 rfl) rfl
theorem q353 : (Jvm.Cond.soleField "DowryBoxes$Setting" "broken") ∈ lw_all := lw_g (lw_at lw_m1 233 rfl) rfl
theorem q354 : (Jvm.Cond.laysFinal "DowryBoxes$Setting" "DowryBoxes$Setting" "values" "[J") ∈ lw_all := lw_g (lw_at lw_m1 234 rfl) rfl
theorem q355 : (Jvm.Cond.soleField "DowryBoxes$Setting" "values") ∈ lw_all := lw_g (lw_at lw_m1 235 rfl) rfl
theorem q356 : (Jvm.Cond.superclass "DowryBoxes$Setting" "java/lang/Object") ∈ lw_all := lw_g (lw_at lw_m1 236 rfl) rfl
theorem q522 : (Jvm.Cond.selects "DowryBoxes$Setting" ({ cls := "java/lang/Object", name := "getClass", desc := "()Ljava/lang/Class;" } : Jvm.MethodName) ({ cls := "java/lang/Object", name := "getClass", desc := "()Ljava/lang/Class;" } : Jvm.MethodName)) ∈ lw_all := lw_g (lw_at lw_m2 162 rfl) rfl
theorem q2293 : (Jvm.Cond.castable "DowryBoxes$Setting" "java/lang/Object") ∈ lw_tbl := lw_at lw_m10 13 rfl
theorem in_X3 : ∀ w ∈ wsX30, w ∈ lw_all := lw_in wsX30 [352, 354] (by decide +kernel) (by decide +kernel)
/-! DowryBoxes$Broken -/
set_option maxRecDepth 100000
def RX4 : String := "DowryBoxes$Broken"
def TX4 : u_T := fun k => match k with
  | 0 => ("java/lang/Throwable", "cause", "Ljava/lang/Throwable;", false)
  | 1 => ("java/lang/Throwable", "stackTrace", "[Ljava/lang/StackTraceElement;", false)
  | 2 => ("java/lang/Throwable", "suppressedExceptions", "Ljava/util/List;", false)
  | 3 => ("java/lang/Throwable", "detailMessage", "Ljava/lang/String;", false)
  | 4 => ("java/lang/Throwable", "backtrace", "Ljava/lang/Object;", false)
  | _ => ("java/lang/Throwable", "depth", "I", false)
def tyX4 : Nat → FieldType := fun k => match k with
  | 0 => .object "java/lang/Throwable"
  | 1 => .array (.object "java/lang/StackTraceElement")
  | 2 => .object "java/util/List"
  | 3 => .object "java/lang/String"
  | 4 => .object "java/lang/Object"
  | _ => .int
abbrev wsX40 : List Cond := u_ws RX4 TX4 6
theorem nmX4 : ∀ a, a < 6 → ∀ b, b < 6 → a ≠ b → (TX4 a).2.1 ≠ (TX4 b).2.1 := by decide +kernel
theorem tyX4_ok : ∀ k, k < 6 → parseFieldDescriptor (TX4 k).2.2.1 = some (tyX4 k) := by decide +kernel
abbrev cX4_init : ByteArray := prog_2_method_1_code
def yX4_init : MethodName := ⟨RX4, "<init>", "()V"⟩
def dkwX4_init_0 : List UInt8 := [42, 1, 1, 3, 3, 183, 0, 1, 177]
abbrev dktX4_init_0 : List UInt8 := dkwX4_init_0 ++ []
theorem dksX4_init_0 : cX4_init.data.toList.drop 0 = dktX4_init_0 := by decide +kernel
theorem dX4_init_0 : decode cX4_init 0 = .ok (.aload_n 0, 1) := dk_42 (dk_at dksX4_init_0 0 rfl rfl)
theorem dX4_init_1 : decode cX4_init 1 = .ok (.aconst_null, 1) := dk_1 (dk_at dksX4_init_0 1 rfl rfl)
theorem dX4_init_2 : decode cX4_init 2 = .ok (.aconst_null, 1) := dk_1 (dk_at dksX4_init_0 2 rfl rfl)
theorem dX4_init_3 : decode cX4_init 3 = .ok (.iconst 0, 1) := dk_3 (dk_at dksX4_init_0 3 rfl rfl)
theorem dX4_init_4 : decode cX4_init 4 = .ok (.iconst 0, 1) := dk_3 (dk_at dksX4_init_0 4 rfl rfl)
theorem dX4_init_5 : decode cX4_init 5 = .ok (.invokespecial 1, 3) := dk_183 0 1 (dk_at dksX4_init_0 5 rfl rfl)
theorem dX4_init_8 : decode cX4_init 8 = .ok (.return_, 1) := dk_177 (dk_at dksX4_init_0 8 rfl rfl)
theorem q130 : (Jvm.Cond.initialized "DowryBoxes$Broken") ∈ lw_all := lw_g (lw_at lw_m1 10 rfl) rfl
theorem q287 : (Jvm.Cond.instantiable "DowryBoxes$Broken" (6 : Nat)) ∈ lw_all := lw_g (lw_at lw_m1 167 rfl) rfl
theorem q288 : (Jvm.Cond.castable "DowryBoxes$Broken" "DowryBoxes$Broken") ∈ lw_tbl := lw_at lw_m1 168 rfl
theorem q293 : (Jvm.Cond.selects "DowryBoxes$Broken" ({ cls := "java/lang/Throwable", name := "fillInStackTrace", desc := "(I)Ljava/lang/Throwable;" } : Jvm.MethodName) ({ cls := "java/lang/Throwable", name := "fillInStackTrace", desc := "(I)Ljava/lang/Throwable;" } : Jvm.MethodName)) ∈ lw_all := lw_g (lw_at lw_m1 173 rfl) rfl
theorem q294 : (Jvm.Cond.selects "DowryBoxes$Broken" ({ cls := "java/lang/Throwable", name := "fillInStackTrace", desc := "()Ljava/lang/Throwable;" } : Jvm.MethodName) ({ cls := "java/lang/Throwable", name := "fillInStackTrace", desc := "()Ljava/lang/Throwable;" } : Jvm.MethodName)) ∈ lw_all := lw_g (lw_at lw_m1 174 rfl) rfl
theorem q295 : (Jvm.Cond.lays "DowryBoxes$Broken" "java/lang/Throwable" "cause" "Ljava/lang/Throwable;") ∈ lw_all := lw_g (lw_at lw_m1 175 rfl) rfl
theorem q297 : (Jvm.Cond.lays "DowryBoxes$Broken" "java/lang/Throwable" "stackTrace" "[Ljava/lang/StackTraceElement;") ∈ lw_all := lw_g (lw_at lw_m1 177 rfl) rfl
theorem q299 : (Jvm.Cond.lays "DowryBoxes$Broken" "java/lang/Throwable" "suppressedExceptions" "Ljava/util/List;") ∈ lw_all := lw_g (lw_at lw_m1 179 rfl) rfl
theorem q301 : (Jvm.Cond.lays "DowryBoxes$Broken" "java/lang/Throwable" "detailMessage" "Ljava/lang/String;") ∈ lw_all := lw_g (lw_at lw_m1 181 rfl) rfl
theorem q303 : (Jvm.Cond.lays "DowryBoxes$Broken" "java/lang/Throwable" "backtrace" "Ljava/lang/Object;") ∈ lw_all := lw_g (lw_at lw_m1 183 rfl) rfl
theorem q325 : (Jvm.Cond.instanceMethod ({ cls := "DowryBoxes$Broken", name := "<init>", desc := "()V" } : Jvm.MethodName)) ∈ lw_all := lw_g (lw_at lw_m1 205 rfl) rfl
theorem q326 : (Jvm.Cond.code ({ cls := "DowryBoxes$Broken", name := "<init>", desc := "()V" } : Jvm.MethodName) prog_2_method_1_code (1 : Nat) (Option.none : Option Jvm.ClassFile.FieldType)) ∈ lw_all := lw_g (lw_at lw_m1 206 rfl) rfl
theorem q327 : (Jvm.Cond.methodLink "DowryBoxes$Broken" (1 : Nat) ({ cls := "java/lang/Exception", name := "<init>", desc := "(Ljava/lang/String;Ljava/lang/Throwable;ZZ)V" } : Jvm.MethodName)) ∈ lw_all := lw_g (lw_at lw_m1 207 rfl) rfl
theorem q342 : (Jvm.Cond.lays "DowryBoxes$Broken" "java/lang/Throwable" "depth" "I") ∈ lw_all := lw_g (lw_at lw_m1 222 rfl) rfl
theorem q345 : (Jvm.Cond.superclass "DowryBoxes$Broken" "java/lang/Exception") ∈ lw_all := lw_g (lw_at lw_m1 225 rfl) rfl
theorem q512 : (Jvm.Cond.selects "DowryBoxes$Broken" ({ cls := "java/lang/Object", name := "getClass", desc := "()Ljava/lang/Class;" } : Jvm.MethodName) ({ cls := "java/lang/Object", name := "getClass", desc := "()Ljava/lang/Class;" } : Jvm.MethodName)) ∈ lw_all := lw_g (lw_at lw_m2 152 rfl) rfl
theorem q2294 : (Jvm.Cond.castable "DowryBoxes$Broken" "java/lang/Object") ∈ lw_tbl := lw_at lw_m10 14 rfl
theorem in_X4 : ∀ w ∈ wsX40, w ∈ lw_all := lw_in wsX40 [295, 297, 299, 301, 303, 342] (by decide +kernel) (by decide +kernel)
/-! DowryBoxes$Reader -/
set_option maxRecDepth 100000
def RX6 : String := "DowryBoxes$Reader"
abbrev cX6_init : ByteArray := prog_12_method_1_code
def yX6_init : MethodName := ⟨RX6, "<init>", "([BI)V"⟩
def dkwX6_init_0 : List UInt8 := [42, 183, 0, 3, 42, 43, 181, 0, 9, 42, 28, 181, 0, 15, 177]
abbrev dktX6_init_0 : List UInt8 := dkwX6_init_0 ++ []
theorem dksX6_init_0 : cX6_init.data.toList.drop 0 = dktX6_init_0 := by decide +kernel
theorem dX6_init_0 : decode cX6_init 0 = .ok (.aload_n 0, 1) := dk_42 (dk_at dksX6_init_0 0 rfl rfl)
theorem dX6_init_1 : decode cX6_init 1 = .ok (.invokespecial 3, 3) := dk_183 0 3 (dk_at dksX6_init_0 1 rfl rfl)
theorem dX6_init_4 : decode cX6_init 4 = .ok (.aload_n 0, 1) := dk_42 (dk_at dksX6_init_0 4 rfl rfl)
theorem dX6_init_5 : decode cX6_init 5 = .ok (.aload_n 1, 1) := dk_43 (dk_at dksX6_init_0 5 rfl rfl)
theorem dX6_init_6 : decode cX6_init 6 = .ok (.putfield 9, 3) := dk_181 0 9 (dk_at dksX6_init_0 6 rfl rfl)
theorem dX6_init_9 : decode cX6_init 9 = .ok (.aload_n 0, 1) := dk_42 (dk_at dksX6_init_0 9 rfl rfl)
theorem dX6_init_10 : decode cX6_init 10 = .ok (.iload_n 2, 1) := dk_28 (dk_at dksX6_init_0 10 rfl rfl)
theorem dX6_init_11 : decode cX6_init 11 = .ok (.putfield 15, 3) := dk_181 0 15 (dk_at dksX6_init_0 11 rfl rfl)
theorem dX6_init_14 : decode cX6_init 14 = .ok (.return_, 1) := dk_177 (dk_at dksX6_init_0 14 rfl rfl)
abbrev cX6_read : ByteArray := prog_12_method_10_code
def yX6_read : MethodName := ⟨RX6, "read", "()V"⟩
def dkwX6_read_1 : List UInt8 := [42, 180, 0, 22, 42, 180, 0, 15, 162, 0, 15, 187, 0, 49, 89, 42, 180, 0, 22, 183, 0, 51, 191, 177]
abbrev dktX6_read_1 : List UInt8 := dkwX6_read_1 ++ []
def dkwX6_read_0 : List UInt8 := [42, 182, 0, 43, 42, 182, 0, 54, 42, 18, 57, 182, 0, 46, 153, 0, 10, 42, 182, 0, 54, 167, 255, 243]
abbrev dktX6_read_0 : List UInt8 := dkwX6_read_0 ++ dktX6_read_1
theorem dksX6_read_0 : cX6_read.data.toList.drop 0 = dktX6_read_0 := by decide +kernel
theorem dksX6_read_1 : cX6_read.data.toList.drop 24 = dktX6_read_1 := dk_seg dksX6_read_0 24 rfl rfl
theorem dX6_read_0 : decode cX6_read 0 = .ok (.aload_n 0, 1) := dk_42 (dk_at dksX6_read_0 0 rfl rfl)
theorem dX6_read_1 : decode cX6_read 1 = .ok (.invokevirtual 43, 3) := dk_182 0 43 (dk_at dksX6_read_0 1 rfl rfl)
theorem dX6_read_4 : decode cX6_read 4 = .ok (.aload_n 0, 1) := dk_42 (dk_at dksX6_read_0 4 rfl rfl)
theorem dX6_read_5 : decode cX6_read 5 = .ok (.invokevirtual 54, 3) := dk_182 0 54 (dk_at dksX6_read_0 5 rfl rfl)
theorem dX6_read_8 : decode cX6_read 8 = .ok (.aload_n 0, 1) := dk_42 (dk_at dksX6_read_0 8 rfl rfl)
theorem dX6_read_9 : decode cX6_read 9 = .ok (.ldc 57, 2) := dk_18 57 (dk_at dksX6_read_0 9 rfl rfl)
theorem dX6_read_11 : decode cX6_read 11 = .ok (.invokevirtual 46, 3) := dk_182 0 46 (dk_at dksX6_read_0 11 rfl rfl)
theorem dX6_read_14 : decode cX6_read 14 = .ok (.ifCond .eq 10, 3) := dk_153 0 10 (dk_at dksX6_read_0 14 rfl rfl)
theorem dX6_read_17 : decode cX6_read 17 = .ok (.aload_n 0, 1) := dk_42 (dk_at dksX6_read_0 17 rfl rfl)
theorem dX6_read_18 : decode cX6_read 18 = .ok (.invokevirtual 54, 3) := dk_182 0 54 (dk_at dksX6_read_0 18 rfl rfl)
theorem dX6_read_21 : decode cX6_read 21 = .ok (.goto (-13), 3) := dk_167 255 243 (dk_at dksX6_read_0 21 rfl rfl)
theorem dX6_read_24 : decode cX6_read 24 = .ok (.aload_n 0, 1) := dk_42 (dk_at dksX6_read_1 0 rfl rfl)
theorem dX6_read_25 : decode cX6_read 25 = .ok (.getfield 22, 3) := dk_180 0 22 (dk_at dksX6_read_1 1 rfl rfl)
theorem dX6_read_28 : decode cX6_read 28 = .ok (.aload_n 0, 1) := dk_42 (dk_at dksX6_read_1 4 rfl rfl)
theorem dX6_read_29 : decode cX6_read 29 = .ok (.getfield 15, 3) := dk_180 0 15 (dk_at dksX6_read_1 5 rfl rfl)
theorem dX6_read_32 : decode cX6_read 32 = .ok (.if_icmp .ge 15, 3) := dk_162 0 15 (dk_at dksX6_read_1 8 rfl rfl)
theorem dX6_read_35 : decode cX6_read 35 = .ok (.new 49, 3) := dk_187 0 49 (dk_at dksX6_read_1 11 rfl rfl)
theorem dX6_read_38 : decode cX6_read 38 = .ok (.dup, 1) := dk_89 (dk_at dksX6_read_1 14 rfl rfl)
theorem dX6_read_39 : decode cX6_read 39 = .ok (.aload_n 0, 1) := dk_42 (dk_at dksX6_read_1 15 rfl rfl)
theorem dX6_read_40 : decode cX6_read 40 = .ok (.getfield 22, 3) := dk_180 0 22 (dk_at dksX6_read_1 16 rfl rfl)
theorem dX6_read_43 : decode cX6_read 43 = .ok (.invokespecial 51, 3) := dk_183 0 51 (dk_at dksX6_read_1 19 rfl rfl)
theorem dX6_read_46 : decode cX6_read 46 = .ok (.athrow, 1) := dk_191 (dk_at dksX6_read_1 22 rfl rfl)
theorem dX6_read_47 : decode cX6_read 47 = .ok (.return_, 1) := dk_177 (dk_at dksX6_read_1 23 rfl rfl)
abbrev cX6_next : ByteArray := prog_12_method_3_code
def yX6_next : MethodName := ⟨RX6, "next", "()V"⟩
def dkwX6_next_6 : List UInt8 := [162, 0, 13, 42, 89, 180, 0, 19, 4, 96, 181, 0, 19, 177]
abbrev dktX6_next_6 : List UInt8 := dkwX6_next_6 ++ []
def dkwX6_next_5 : List UInt8 := [153, 0, 37, 42, 89, 180, 0, 19, 4, 96, 181, 0, 19, 167, 255, 231, 42, 180, 0, 22, 42, 180, 0, 15]
abbrev dktX6_next_5 : List UInt8 := dkwX6_next_5 ++ dktX6_next_6
def dkwX6_next_4 : List UInt8 := [16, 48, 16, 57, 182, 0, 25, 153, 0, 31, 42, 42, 180, 0, 19, 16, 48, 16, 57, 182, 0, 25]
abbrev dktX6_next_4 : List UInt8 := dkwX6_next_4 ++ dktX6_next_5
def dkwX6_next_3 : List UInt8 := [182, 0, 25, 153, 0, 80, 42, 89, 180, 0, 19, 4, 96, 181, 0, 19, 167, 255, 231, 42, 42, 180, 0, 22]
abbrev dktX6_next_3 : List UInt8 := dkwX6_next_3 ++ dktX6_next_4
def dkwX6_next_2 : List UInt8 := [180, 0, 22, 16, 97, 16, 122, 182, 0, 25, 153, 0, 31, 42, 42, 180, 0, 19, 16, 97, 16, 122]
abbrev dktX6_next_2 : List UInt8 := dkwX6_next_2 ++ dktX6_next_3
def dkwX6_next_1 : List UInt8 := [89, 180, 0, 22, 4, 96, 181, 0, 22, 167, 255, 231, 42, 42, 180, 0, 22, 181, 0, 19, 42, 42]
abbrev dktX6_next_1 : List UInt8 := dkwX6_next_1 ++ dktX6_next_2
def dkwX6_next_0 : List UInt8 := [42, 42, 180, 0, 19, 181, 0, 22, 42, 42, 180, 0, 22, 16, 32, 16, 32, 182, 0, 25, 153, 0, 16, 42]
abbrev dktX6_next_0 : List UInt8 := dkwX6_next_0 ++ dktX6_next_1
theorem dksX6_next_0 : cX6_next.data.toList.drop 0 = dktX6_next_0 := by decide +kernel
theorem dksX6_next_1 : cX6_next.data.toList.drop 24 = dktX6_next_1 := dk_seg dksX6_next_0 24 rfl rfl
theorem dksX6_next_2 : cX6_next.data.toList.drop 46 = dktX6_next_2 := dk_seg dksX6_next_1 22 rfl rfl
theorem dksX6_next_3 : cX6_next.data.toList.drop 68 = dktX6_next_3 := dk_seg dksX6_next_2 22 rfl rfl
theorem dksX6_next_4 : cX6_next.data.toList.drop 92 = dktX6_next_4 := dk_seg dksX6_next_3 24 rfl rfl
theorem dksX6_next_5 : cX6_next.data.toList.drop 114 = dktX6_next_5 := dk_seg dksX6_next_4 22 rfl rfl
theorem dksX6_next_6 : cX6_next.data.toList.drop 138 = dktX6_next_6 := dk_seg dksX6_next_5 24 rfl rfl
theorem dX6_next_0 : decode cX6_next 0 = .ok (.aload_n 0, 1) := dk_42 (dk_at dksX6_next_0 0 rfl rfl)
theorem dX6_next_1 : decode cX6_next 1 = .ok (.aload_n 0, 1) := dk_42 (dk_at dksX6_next_0 1 rfl rfl)
theorem dX6_next_2 : decode cX6_next 2 = .ok (.getfield 19, 3) := dk_180 0 19 (dk_at dksX6_next_0 2 rfl rfl)
theorem dX6_next_5 : decode cX6_next 5 = .ok (.putfield 22, 3) := dk_181 0 22 (dk_at dksX6_next_0 5 rfl rfl)
theorem dX6_next_8 : decode cX6_next 8 = .ok (.aload_n 0, 1) := dk_42 (dk_at dksX6_next_0 8 rfl rfl)
theorem dX6_next_9 : decode cX6_next 9 = .ok (.aload_n 0, 1) := dk_42 (dk_at dksX6_next_0 9 rfl rfl)
theorem dX6_next_10 : decode cX6_next 10 = .ok (.getfield 22, 3) := dk_180 0 22 (dk_at dksX6_next_0 10 rfl rfl)
theorem dX6_next_13 : decode cX6_next 13 = .ok (.bipush 32, 2) := dk_16 32 (dk_at dksX6_next_0 13 rfl rfl)
theorem dX6_next_15 : decode cX6_next 15 = .ok (.bipush 32, 2) := dk_16 32 (dk_at dksX6_next_0 15 rfl rfl)
theorem dX6_next_17 : decode cX6_next 17 = .ok (.invokevirtual 25, 3) := dk_182 0 25 (dk_at dksX6_next_0 17 rfl rfl)
theorem dX6_next_20 : decode cX6_next 20 = .ok (.ifCond .eq 16, 3) := dk_153 0 16 (dk_at dksX6_next_0 20 rfl rfl)
theorem dX6_next_23 : decode cX6_next 23 = .ok (.aload_n 0, 1) := dk_42 (dk_at dksX6_next_0 23 rfl rfl)
theorem dX6_next_24 : decode cX6_next 24 = .ok (.dup, 1) := dk_89 (dk_at dksX6_next_1 0 rfl rfl)
theorem dX6_next_25 : decode cX6_next 25 = .ok (.getfield 22, 3) := dk_180 0 22 (dk_at dksX6_next_1 1 rfl rfl)
theorem dX6_next_28 : decode cX6_next 28 = .ok (.iconst 1, 1) := dk_4 (dk_at dksX6_next_1 4 rfl rfl)
theorem dX6_next_29 : decode cX6_next 29 = .ok (.iadd, 1) := dk_96 (dk_at dksX6_next_1 5 rfl rfl)
theorem dX6_next_30 : decode cX6_next 30 = .ok (.putfield 22, 3) := dk_181 0 22 (dk_at dksX6_next_1 6 rfl rfl)
theorem dX6_next_33 : decode cX6_next 33 = .ok (.goto (-25), 3) := dk_167 255 231 (dk_at dksX6_next_1 9 rfl rfl)
theorem dX6_next_36 : decode cX6_next 36 = .ok (.aload_n 0, 1) := dk_42 (dk_at dksX6_next_1 12 rfl rfl)
theorem dX6_next_37 : decode cX6_next 37 = .ok (.aload_n 0, 1) := dk_42 (dk_at dksX6_next_1 13 rfl rfl)
theorem dX6_next_38 : decode cX6_next 38 = .ok (.getfield 22, 3) := dk_180 0 22 (dk_at dksX6_next_1 14 rfl rfl)
theorem dX6_next_41 : decode cX6_next 41 = .ok (.putfield 19, 3) := dk_181 0 19 (dk_at dksX6_next_1 17 rfl rfl)
theorem dX6_next_44 : decode cX6_next 44 = .ok (.aload_n 0, 1) := dk_42 (dk_at dksX6_next_1 20 rfl rfl)
theorem dX6_next_45 : decode cX6_next 45 = .ok (.aload_n 0, 1) := dk_42 (dk_at dksX6_next_1 21 rfl rfl)
theorem dX6_next_46 : decode cX6_next 46 = .ok (.getfield 22, 3) := dk_180 0 22 (dk_at dksX6_next_2 0 rfl rfl)
theorem dX6_next_49 : decode cX6_next 49 = .ok (.bipush 97, 2) := dk_16 97 (dk_at dksX6_next_2 3 rfl rfl)
theorem dX6_next_51 : decode cX6_next 51 = .ok (.bipush 122, 2) := dk_16 122 (dk_at dksX6_next_2 5 rfl rfl)
theorem dX6_next_53 : decode cX6_next 53 = .ok (.invokevirtual 25, 3) := dk_182 0 25 (dk_at dksX6_next_2 7 rfl rfl)
theorem dX6_next_56 : decode cX6_next 56 = .ok (.ifCond .eq 31, 3) := dk_153 0 31 (dk_at dksX6_next_2 10 rfl rfl)
theorem dX6_next_59 : decode cX6_next 59 = .ok (.aload_n 0, 1) := dk_42 (dk_at dksX6_next_2 13 rfl rfl)
theorem dX6_next_60 : decode cX6_next 60 = .ok (.aload_n 0, 1) := dk_42 (dk_at dksX6_next_2 14 rfl rfl)
theorem dX6_next_61 : decode cX6_next 61 = .ok (.getfield 19, 3) := dk_180 0 19 (dk_at dksX6_next_2 15 rfl rfl)
theorem dX6_next_64 : decode cX6_next 64 = .ok (.bipush 97, 2) := dk_16 97 (dk_at dksX6_next_2 18 rfl rfl)
theorem dX6_next_66 : decode cX6_next 66 = .ok (.bipush 122, 2) := dk_16 122 (dk_at dksX6_next_2 20 rfl rfl)
theorem dX6_next_68 : decode cX6_next 68 = .ok (.invokevirtual 25, 3) := dk_182 0 25 (dk_at dksX6_next_3 0 rfl rfl)
theorem dX6_next_71 : decode cX6_next 71 = .ok (.ifCond .eq 80, 3) := dk_153 0 80 (dk_at dksX6_next_3 3 rfl rfl)
theorem dX6_next_74 : decode cX6_next 74 = .ok (.aload_n 0, 1) := dk_42 (dk_at dksX6_next_3 6 rfl rfl)
theorem dX6_next_75 : decode cX6_next 75 = .ok (.dup, 1) := dk_89 (dk_at dksX6_next_3 7 rfl rfl)
theorem dX6_next_76 : decode cX6_next 76 = .ok (.getfield 19, 3) := dk_180 0 19 (dk_at dksX6_next_3 8 rfl rfl)
theorem dX6_next_79 : decode cX6_next 79 = .ok (.iconst 1, 1) := dk_4 (dk_at dksX6_next_3 11 rfl rfl)
theorem dX6_next_80 : decode cX6_next 80 = .ok (.iadd, 1) := dk_96 (dk_at dksX6_next_3 12 rfl rfl)
theorem dX6_next_81 : decode cX6_next 81 = .ok (.putfield 19, 3) := dk_181 0 19 (dk_at dksX6_next_3 13 rfl rfl)
theorem dX6_next_84 : decode cX6_next 84 = .ok (.goto (-25), 3) := dk_167 255 231 (dk_at dksX6_next_3 16 rfl rfl)
theorem dX6_next_87 : decode cX6_next 87 = .ok (.aload_n 0, 1) := dk_42 (dk_at dksX6_next_3 19 rfl rfl)
theorem dX6_next_88 : decode cX6_next 88 = .ok (.aload_n 0, 1) := dk_42 (dk_at dksX6_next_3 20 rfl rfl)
theorem dX6_next_89 : decode cX6_next 89 = .ok (.getfield 22, 3) := dk_180 0 22 (dk_at dksX6_next_3 21 rfl rfl)
theorem dX6_next_92 : decode cX6_next 92 = .ok (.bipush 48, 2) := dk_16 48 (dk_at dksX6_next_4 0 rfl rfl)
theorem dX6_next_94 : decode cX6_next 94 = .ok (.bipush 57, 2) := dk_16 57 (dk_at dksX6_next_4 2 rfl rfl)
theorem dX6_next_96 : decode cX6_next 96 = .ok (.invokevirtual 25, 3) := dk_182 0 25 (dk_at dksX6_next_4 4 rfl rfl)
theorem dX6_next_99 : decode cX6_next 99 = .ok (.ifCond .eq 31, 3) := dk_153 0 31 (dk_at dksX6_next_4 7 rfl rfl)
theorem dX6_next_102 : decode cX6_next 102 = .ok (.aload_n 0, 1) := dk_42 (dk_at dksX6_next_4 10 rfl rfl)
theorem dX6_next_103 : decode cX6_next 103 = .ok (.aload_n 0, 1) := dk_42 (dk_at dksX6_next_4 11 rfl rfl)
theorem dX6_next_104 : decode cX6_next 104 = .ok (.getfield 19, 3) := dk_180 0 19 (dk_at dksX6_next_4 12 rfl rfl)
theorem dX6_next_107 : decode cX6_next 107 = .ok (.bipush 48, 2) := dk_16 48 (dk_at dksX6_next_4 15 rfl rfl)
theorem dX6_next_109 : decode cX6_next 109 = .ok (.bipush 57, 2) := dk_16 57 (dk_at dksX6_next_4 17 rfl rfl)
theorem dX6_next_111 : decode cX6_next 111 = .ok (.invokevirtual 25, 3) := dk_182 0 25 (dk_at dksX6_next_4 19 rfl rfl)
theorem dX6_next_114 : decode cX6_next 114 = .ok (.ifCond .eq 37, 3) := dk_153 0 37 (dk_at dksX6_next_5 0 rfl rfl)
theorem dX6_next_117 : decode cX6_next 117 = .ok (.aload_n 0, 1) := dk_42 (dk_at dksX6_next_5 3 rfl rfl)
theorem dX6_next_118 : decode cX6_next 118 = .ok (.dup, 1) := dk_89 (dk_at dksX6_next_5 4 rfl rfl)
theorem dX6_next_119 : decode cX6_next 119 = .ok (.getfield 19, 3) := dk_180 0 19 (dk_at dksX6_next_5 5 rfl rfl)
theorem dX6_next_122 : decode cX6_next 122 = .ok (.iconst 1, 1) := dk_4 (dk_at dksX6_next_5 8 rfl rfl)
theorem dX6_next_123 : decode cX6_next 123 = .ok (.iadd, 1) := dk_96 (dk_at dksX6_next_5 9 rfl rfl)
theorem dX6_next_124 : decode cX6_next 124 = .ok (.putfield 19, 3) := dk_181 0 19 (dk_at dksX6_next_5 10 rfl rfl)
theorem dX6_next_127 : decode cX6_next 127 = .ok (.goto (-25), 3) := dk_167 255 231 (dk_at dksX6_next_5 13 rfl rfl)
theorem dX6_next_130 : decode cX6_next 130 = .ok (.aload_n 0, 1) := dk_42 (dk_at dksX6_next_5 16 rfl rfl)
theorem dX6_next_131 : decode cX6_next 131 = .ok (.getfield 22, 3) := dk_180 0 22 (dk_at dksX6_next_5 17 rfl rfl)
theorem dX6_next_134 : decode cX6_next 134 = .ok (.aload_n 0, 1) := dk_42 (dk_at dksX6_next_5 20 rfl rfl)
theorem dX6_next_135 : decode cX6_next 135 = .ok (.getfield 15, 3) := dk_180 0 15 (dk_at dksX6_next_5 21 rfl rfl)
theorem dX6_next_138 : decode cX6_next 138 = .ok (.if_icmp .ge 13, 3) := dk_162 0 13 (dk_at dksX6_next_6 0 rfl rfl)
theorem dX6_next_141 : decode cX6_next 141 = .ok (.aload_n 0, 1) := dk_42 (dk_at dksX6_next_6 3 rfl rfl)
theorem dX6_next_142 : decode cX6_next 142 = .ok (.dup, 1) := dk_89 (dk_at dksX6_next_6 4 rfl rfl)
theorem dX6_next_143 : decode cX6_next 143 = .ok (.getfield 19, 3) := dk_180 0 19 (dk_at dksX6_next_6 5 rfl rfl)
theorem dX6_next_146 : decode cX6_next 146 = .ok (.iconst 1, 1) := dk_4 (dk_at dksX6_next_6 8 rfl rfl)
theorem dX6_next_147 : decode cX6_next 147 = .ok (.iadd, 1) := dk_96 (dk_at dksX6_next_6 9 rfl rfl)
theorem dX6_next_148 : decode cX6_next 148 = .ok (.putfield 19, 3) := dk_181 0 19 (dk_at dksX6_next_6 10 rfl rfl)
theorem dX6_next_151 : decode cX6_next 151 = .ok (.return_, 1) := dk_177 (dk_at dksX6_next_6 13 rfl rfl)
abbrev cX6_isIn : ByteArray := prog_12_method_2_code
def yX6_isIn : MethodName := ⟨RX6, "isIn", "(III)Z"⟩
def dkwX6_isIn_1 : List UInt8 := [29, 163, 0, 7, 4, 167, 0, 4, 3, 172]
abbrev dktX6_isIn_1 : List UInt8 := dkwX6_isIn_1 ++ []
def dkwX6_isIn_0 : List UInt8 := [27, 42, 180, 0, 15, 162, 0, 27, 42, 180, 0, 9, 27, 51, 28, 161, 0, 17, 42, 180, 0, 9, 27, 51]
abbrev dktX6_isIn_0 : List UInt8 := dkwX6_isIn_0 ++ dktX6_isIn_1
theorem dksX6_isIn_0 : cX6_isIn.data.toList.drop 0 = dktX6_isIn_0 := by decide +kernel
theorem dksX6_isIn_1 : cX6_isIn.data.toList.drop 24 = dktX6_isIn_1 := dk_seg dksX6_isIn_0 24 rfl rfl
theorem dX6_isIn_0 : decode cX6_isIn 0 = .ok (.iload_n 1, 1) := dk_27 (dk_at dksX6_isIn_0 0 rfl rfl)
theorem dX6_isIn_1 : decode cX6_isIn 1 = .ok (.aload_n 0, 1) := dk_42 (dk_at dksX6_isIn_0 1 rfl rfl)
theorem dX6_isIn_2 : decode cX6_isIn 2 = .ok (.getfield 15, 3) := dk_180 0 15 (dk_at dksX6_isIn_0 2 rfl rfl)
theorem dX6_isIn_5 : decode cX6_isIn 5 = .ok (.if_icmp .ge 27, 3) := dk_162 0 27 (dk_at dksX6_isIn_0 5 rfl rfl)
theorem dX6_isIn_8 : decode cX6_isIn 8 = .ok (.aload_n 0, 1) := dk_42 (dk_at dksX6_isIn_0 8 rfl rfl)
theorem dX6_isIn_9 : decode cX6_isIn 9 = .ok (.getfield 9, 3) := dk_180 0 9 (dk_at dksX6_isIn_0 9 rfl rfl)
theorem dX6_isIn_12 : decode cX6_isIn 12 = .ok (.iload_n 1, 1) := dk_27 (dk_at dksX6_isIn_0 12 rfl rfl)
theorem dX6_isIn_13 : decode cX6_isIn 13 = .ok (.baload, 1) := dk_51 (dk_at dksX6_isIn_0 13 rfl rfl)
theorem dX6_isIn_14 : decode cX6_isIn 14 = .ok (.iload_n 2, 1) := dk_28 (dk_at dksX6_isIn_0 14 rfl rfl)
theorem dX6_isIn_15 : decode cX6_isIn 15 = .ok (.if_icmp .lt 17, 3) := dk_161 0 17 (dk_at dksX6_isIn_0 15 rfl rfl)
theorem dX6_isIn_18 : decode cX6_isIn 18 = .ok (.aload_n 0, 1) := dk_42 (dk_at dksX6_isIn_0 18 rfl rfl)
theorem dX6_isIn_19 : decode cX6_isIn 19 = .ok (.getfield 9, 3) := dk_180 0 9 (dk_at dksX6_isIn_0 19 rfl rfl)
theorem dX6_isIn_22 : decode cX6_isIn 22 = .ok (.iload_n 1, 1) := dk_27 (dk_at dksX6_isIn_0 22 rfl rfl)
theorem dX6_isIn_23 : decode cX6_isIn 23 = .ok (.baload, 1) := dk_51 (dk_at dksX6_isIn_0 23 rfl rfl)
theorem dX6_isIn_24 : decode cX6_isIn 24 = .ok (.iload_n 3, 1) := dk_29 (dk_at dksX6_isIn_1 0 rfl rfl)
theorem dX6_isIn_25 : decode cX6_isIn 25 = .ok (.if_icmp .gt 7, 3) := dk_163 0 7 (dk_at dksX6_isIn_1 1 rfl rfl)
theorem dX6_isIn_28 : decode cX6_isIn 28 = .ok (.iconst 1, 1) := dk_4 (dk_at dksX6_isIn_1 4 rfl rfl)
theorem dX6_isIn_29 : decode cX6_isIn 29 = .ok (.goto 4, 3) := dk_167 0 4 (dk_at dksX6_isIn_1 5 rfl rfl)
theorem dX6_isIn_32 : decode cX6_isIn 32 = .ok (.iconst 0, 1) := dk_3 (dk_at dksX6_isIn_1 8 rfl rfl)
theorem dX6_isIn_33 : decode cX6_isIn 33 = .ok (.ireturn, 1) := dk_172 (dk_at dksX6_isIn_1 9 rfl rfl)
abbrev cX6_is : ByteArray := prog_12_method_4_code
def yX6_is : MethodName := ⟨RX6, "is", "(Ljava/lang/String;)Z"⟩
def dkwX6_is_2 : List UInt8 := [159, 0, 5, 3, 172, 132, 2, 1, 167, 255, 224, 4, 172]
abbrev dktX6_is_2 : List UInt8 := dkwX6_is_2 ++ []
def dkwX6_is_1 : List UInt8 := [182, 0, 29, 162, 0, 30, 42, 180, 0, 9, 42, 180, 0, 22, 28, 96, 51, 43, 28, 182, 0, 35]
abbrev dktX6_is_1 : List UInt8 := dkwX6_is_1 ++ dktX6_is_2
def dkwX6_is_0 : List UInt8 := [42, 180, 0, 19, 42, 180, 0, 22, 100, 43, 182, 0, 29, 159, 0, 5, 3, 172, 3, 61, 28, 43]
abbrev dktX6_is_0 : List UInt8 := dkwX6_is_0 ++ dktX6_is_1
theorem dksX6_is_0 : cX6_is.data.toList.drop 0 = dktX6_is_0 := by decide +kernel
theorem dksX6_is_1 : cX6_is.data.toList.drop 22 = dktX6_is_1 := dk_seg dksX6_is_0 22 rfl rfl
theorem dksX6_is_2 : cX6_is.data.toList.drop 44 = dktX6_is_2 := dk_seg dksX6_is_1 22 rfl rfl
theorem dX6_is_0 : decode cX6_is 0 = .ok (.aload_n 0, 1) := dk_42 (dk_at dksX6_is_0 0 rfl rfl)
theorem dX6_is_1 : decode cX6_is 1 = .ok (.getfield 19, 3) := dk_180 0 19 (dk_at dksX6_is_0 1 rfl rfl)
theorem dX6_is_4 : decode cX6_is 4 = .ok (.aload_n 0, 1) := dk_42 (dk_at dksX6_is_0 4 rfl rfl)
theorem dX6_is_5 : decode cX6_is 5 = .ok (.getfield 22, 3) := dk_180 0 22 (dk_at dksX6_is_0 5 rfl rfl)
theorem dX6_is_8 : decode cX6_is 8 = .ok (.isub, 1) := dk_100 (dk_at dksX6_is_0 8 rfl rfl)
theorem dX6_is_9 : decode cX6_is 9 = .ok (.aload_n 1, 1) := dk_43 (dk_at dksX6_is_0 9 rfl rfl)
theorem dX6_is_10 : decode cX6_is 10 = .ok (.invokevirtual 29, 3) := dk_182 0 29 (dk_at dksX6_is_0 10 rfl rfl)
theorem dX6_is_13 : decode cX6_is 13 = .ok (.if_icmp .eq 5, 3) := dk_159 0 5 (dk_at dksX6_is_0 13 rfl rfl)
theorem dX6_is_16 : decode cX6_is 16 = .ok (.iconst 0, 1) := dk_3 (dk_at dksX6_is_0 16 rfl rfl)
theorem dX6_is_17 : decode cX6_is 17 = .ok (.ireturn, 1) := dk_172 (dk_at dksX6_is_0 17 rfl rfl)
theorem dX6_is_18 : decode cX6_is 18 = .ok (.iconst 0, 1) := dk_3 (dk_at dksX6_is_0 18 rfl rfl)
theorem dX6_is_19 : decode cX6_is 19 = .ok (.istore_n 2, 1) := dk_61 (dk_at dksX6_is_0 19 rfl rfl)
theorem dX6_is_20 : decode cX6_is 20 = .ok (.iload_n 2, 1) := dk_28 (dk_at dksX6_is_0 20 rfl rfl)
theorem dX6_is_21 : decode cX6_is 21 = .ok (.aload_n 1, 1) := dk_43 (dk_at dksX6_is_0 21 rfl rfl)
theorem dX6_is_22 : decode cX6_is 22 = .ok (.invokevirtual 29, 3) := dk_182 0 29 (dk_at dksX6_is_1 0 rfl rfl)
theorem dX6_is_25 : decode cX6_is 25 = .ok (.if_icmp .ge 30, 3) := dk_162 0 30 (dk_at dksX6_is_1 3 rfl rfl)
theorem dX6_is_28 : decode cX6_is 28 = .ok (.aload_n 0, 1) := dk_42 (dk_at dksX6_is_1 6 rfl rfl)
theorem dX6_is_29 : decode cX6_is 29 = .ok (.getfield 9, 3) := dk_180 0 9 (dk_at dksX6_is_1 7 rfl rfl)
theorem dX6_is_32 : decode cX6_is 32 = .ok (.aload_n 0, 1) := dk_42 (dk_at dksX6_is_1 10 rfl rfl)
theorem dX6_is_33 : decode cX6_is 33 = .ok (.getfield 22, 3) := dk_180 0 22 (dk_at dksX6_is_1 11 rfl rfl)
theorem dX6_is_36 : decode cX6_is 36 = .ok (.iload_n 2, 1) := dk_28 (dk_at dksX6_is_1 14 rfl rfl)
theorem dX6_is_37 : decode cX6_is 37 = .ok (.iadd, 1) := dk_96 (dk_at dksX6_is_1 15 rfl rfl)
theorem dX6_is_38 : decode cX6_is 38 = .ok (.baload, 1) := dk_51 (dk_at dksX6_is_1 16 rfl rfl)
theorem dX6_is_39 : decode cX6_is 39 = .ok (.aload_n 1, 1) := dk_43 (dk_at dksX6_is_1 17 rfl rfl)
theorem dX6_is_40 : decode cX6_is 40 = .ok (.iload_n 2, 1) := dk_28 (dk_at dksX6_is_1 18 rfl rfl)
theorem dX6_is_41 : decode cX6_is 41 = .ok (.invokevirtual 35, 3) := dk_182 0 35 (dk_at dksX6_is_1 19 rfl rfl)
theorem dX6_is_44 : decode cX6_is 44 = .ok (.if_icmp .eq 5, 3) := dk_159 0 5 (dk_at dksX6_is_2 0 rfl rfl)
theorem dX6_is_47 : decode cX6_is 47 = .ok (.iconst 0, 1) := dk_3 (dk_at dksX6_is_2 3 rfl rfl)
theorem dX6_is_48 : decode cX6_is 48 = .ok (.ireturn, 1) := dk_172 (dk_at dksX6_is_2 4 rfl rfl)
theorem dX6_is_49 : decode cX6_is 49 = .ok (.iinc 2 1, 3) := dk_132 2 1 (dk_at dksX6_is_2 5 rfl rfl)
theorem dX6_is_52 : decode cX6_is 52 = .ok (.goto (-32), 3) := dk_167 255 224 (dk_at dksX6_is_2 8 rfl rfl)
theorem dX6_is_55 : decode cX6_is 55 = .ok (.iconst 1, 1) := dk_4 (dk_at dksX6_is_2 11 rfl rfl)
theorem dX6_is_56 : decode cX6_is 56 = .ok (.ireturn, 1) := dk_172 (dk_at dksX6_is_2 12 rfl rfl)
abbrev cX6_begins : ByteArray := prog_12_method_11_code
def yX6_begins : MethodName := ⟨RX6, "begins", "(Z)V"⟩
def dkwX6_begins_1 : List UInt8 := [191, 42, 89, 180, 0, 59, 4, 96, 181, 0, 59, 177]
abbrev dktX6_begins_1 : List UInt8 := dkwX6_begins_1 ++ []
def dkwX6_begins_0 : List UInt8 := [42, 180, 0, 59, 16, 12, 159, 0, 7, 27, 154, 0, 15, 187, 0, 49, 89, 42, 180, 0, 22, 183, 0, 51]
abbrev dktX6_begins_0 : List UInt8 := dkwX6_begins_0 ++ dktX6_begins_1
theorem dksX6_begins_0 : cX6_begins.data.toList.drop 0 = dktX6_begins_0 := by decide +kernel
theorem dksX6_begins_1 : cX6_begins.data.toList.drop 24 = dktX6_begins_1 := dk_seg dksX6_begins_0 24 rfl rfl
theorem dX6_begins_0 : decode cX6_begins 0 = .ok (.aload_n 0, 1) := dk_42 (dk_at dksX6_begins_0 0 rfl rfl)
theorem dX6_begins_1 : decode cX6_begins 1 = .ok (.getfield 59, 3) := dk_180 0 59 (dk_at dksX6_begins_0 1 rfl rfl)
theorem dX6_begins_4 : decode cX6_begins 4 = .ok (.bipush 12, 2) := dk_16 12 (dk_at dksX6_begins_0 4 rfl rfl)
theorem dX6_begins_6 : decode cX6_begins 6 = .ok (.if_icmp .eq 7, 3) := dk_159 0 7 (dk_at dksX6_begins_0 6 rfl rfl)
theorem dX6_begins_9 : decode cX6_begins 9 = .ok (.iload_n 1, 1) := dk_27 (dk_at dksX6_begins_0 9 rfl rfl)
theorem dX6_begins_10 : decode cX6_begins 10 = .ok (.ifCond .ne 15, 3) := dk_154 0 15 (dk_at dksX6_begins_0 10 rfl rfl)
theorem dX6_begins_13 : decode cX6_begins 13 = .ok (.new 49, 3) := dk_187 0 49 (dk_at dksX6_begins_0 13 rfl rfl)
theorem dX6_begins_16 : decode cX6_begins 16 = .ok (.dup, 1) := dk_89 (dk_at dksX6_begins_0 16 rfl rfl)
theorem dX6_begins_17 : decode cX6_begins 17 = .ok (.aload_n 0, 1) := dk_42 (dk_at dksX6_begins_0 17 rfl rfl)
theorem dX6_begins_18 : decode cX6_begins 18 = .ok (.getfield 22, 3) := dk_180 0 22 (dk_at dksX6_begins_0 18 rfl rfl)
theorem dX6_begins_21 : decode cX6_begins 21 = .ok (.invokespecial 51, 3) := dk_183 0 51 (dk_at dksX6_begins_0 21 rfl rfl)
theorem dX6_begins_24 : decode cX6_begins 24 = .ok (.athrow, 1) := dk_191 (dk_at dksX6_begins_1 0 rfl rfl)
theorem dX6_begins_25 : decode cX6_begins 25 = .ok (.aload_n 0, 1) := dk_42 (dk_at dksX6_begins_1 1 rfl rfl)
theorem dX6_begins_26 : decode cX6_begins 26 = .ok (.dup, 1) := dk_89 (dk_at dksX6_begins_1 2 rfl rfl)
theorem dX6_begins_27 : decode cX6_begins 27 = .ok (.getfield 59, 3) := dk_180 0 59 (dk_at dksX6_begins_1 3 rfl rfl)
theorem dX6_begins_30 : decode cX6_begins 30 = .ok (.iconst 1, 1) := dk_4 (dk_at dksX6_begins_1 6 rfl rfl)
theorem dX6_begins_31 : decode cX6_begins 31 = .ok (.iadd, 1) := dk_96 (dk_at dksX6_begins_1 7 rfl rfl)
theorem dX6_begins_32 : decode cX6_begins 32 = .ok (.putfield 59, 3) := dk_181 0 59 (dk_at dksX6_begins_1 8 rfl rfl)
theorem dX6_begins_35 : decode cX6_begins 35 = .ok (.return_, 1) := dk_177 (dk_at dksX6_begins_1 11 rfl rfl)
abbrev cX6_sum : ByteArray := prog_12_method_17_code
def yX6_sum : MethodName := ⟨RX6, "sum", "()LDowryBoxes$Sum;"⟩
def dkwX6_sum_2 : List UInt8 := [183, 0, 139, 76, 167, 255, 209, 43, 176]
abbrev dktX6_sum_2 : List UInt8 := dkwX6_sum_2 ++ []
def dkwX6_sum_1 : List UInt8 := [180, 0, 9, 42, 180, 0, 22, 51, 146, 61, 42, 182, 0, 43, 187, 0, 137, 89, 28, 43, 42, 182, 0, 130]
abbrev dktX6_sum_1 : List UInt8 := dkwX6_sum_1 ++ dktX6_sum_2
def dkwX6_sum_0 : List UInt8 := [42, 182, 0, 130, 76, 42, 18, 133, 182, 0, 39, 154, 0, 12, 42, 18, 135, 182, 0, 39, 153, 0, 35, 42]
abbrev dktX6_sum_0 : List UInt8 := dkwX6_sum_0 ++ dktX6_sum_1
theorem dksX6_sum_0 : cX6_sum.data.toList.drop 0 = dktX6_sum_0 := by decide +kernel
theorem dksX6_sum_1 : cX6_sum.data.toList.drop 24 = dktX6_sum_1 := dk_seg dksX6_sum_0 24 rfl rfl
theorem dksX6_sum_2 : cX6_sum.data.toList.drop 48 = dktX6_sum_2 := dk_seg dksX6_sum_1 24 rfl rfl
theorem dX6_sum_0 : decode cX6_sum 0 = .ok (.aload_n 0, 1) := dk_42 (dk_at dksX6_sum_0 0 rfl rfl)
theorem dX6_sum_1 : decode cX6_sum 1 = .ok (.invokevirtual 130, 3) := dk_182 0 130 (dk_at dksX6_sum_0 1 rfl rfl)
theorem dX6_sum_4 : decode cX6_sum 4 = .ok (.astore_n 1, 1) := dk_76 (dk_at dksX6_sum_0 4 rfl rfl)
theorem dX6_sum_5 : decode cX6_sum 5 = .ok (.aload_n 0, 1) := dk_42 (dk_at dksX6_sum_0 5 rfl rfl)
theorem dX6_sum_6 : decode cX6_sum 6 = .ok (.ldc 133, 2) := dk_18 133 (dk_at dksX6_sum_0 6 rfl rfl)
theorem dX6_sum_8 : decode cX6_sum 8 = .ok (.invokevirtual 39, 3) := dk_182 0 39 (dk_at dksX6_sum_0 8 rfl rfl)
theorem dX6_sum_11 : decode cX6_sum 11 = .ok (.ifCond .ne 12, 3) := dk_154 0 12 (dk_at dksX6_sum_0 11 rfl rfl)
theorem dX6_sum_14 : decode cX6_sum 14 = .ok (.aload_n 0, 1) := dk_42 (dk_at dksX6_sum_0 14 rfl rfl)
theorem dX6_sum_15 : decode cX6_sum 15 = .ok (.ldc 135, 2) := dk_18 135 (dk_at dksX6_sum_0 15 rfl rfl)
theorem dX6_sum_17 : decode cX6_sum 17 = .ok (.invokevirtual 39, 3) := dk_182 0 39 (dk_at dksX6_sum_0 17 rfl rfl)
theorem dX6_sum_20 : decode cX6_sum 20 = .ok (.ifCond .eq 35, 3) := dk_153 0 35 (dk_at dksX6_sum_0 20 rfl rfl)
theorem dX6_sum_23 : decode cX6_sum 23 = .ok (.aload_n 0, 1) := dk_42 (dk_at dksX6_sum_0 23 rfl rfl)
theorem dX6_sum_24 : decode cX6_sum 24 = .ok (.getfield 9, 3) := dk_180 0 9 (dk_at dksX6_sum_1 0 rfl rfl)
theorem dX6_sum_27 : decode cX6_sum 27 = .ok (.aload_n 0, 1) := dk_42 (dk_at dksX6_sum_1 3 rfl rfl)
theorem dX6_sum_28 : decode cX6_sum 28 = .ok (.getfield 22, 3) := dk_180 0 22 (dk_at dksX6_sum_1 4 rfl rfl)
theorem dX6_sum_31 : decode cX6_sum 31 = .ok (.baload, 1) := dk_51 (dk_at dksX6_sum_1 7 rfl rfl)
theorem dX6_sum_32 : decode cX6_sum 32 = .ok (.i2c, 1) := dk_146 (dk_at dksX6_sum_1 8 rfl rfl)
theorem dX6_sum_33 : decode cX6_sum 33 = .ok (.istore_n 2, 1) := dk_61 (dk_at dksX6_sum_1 9 rfl rfl)
theorem dX6_sum_34 : decode cX6_sum 34 = .ok (.aload_n 0, 1) := dk_42 (dk_at dksX6_sum_1 10 rfl rfl)
theorem dX6_sum_35 : decode cX6_sum 35 = .ok (.invokevirtual 43, 3) := dk_182 0 43 (dk_at dksX6_sum_1 11 rfl rfl)
theorem dX6_sum_38 : decode cX6_sum 38 = .ok (.new 137, 3) := dk_187 0 137 (dk_at dksX6_sum_1 14 rfl rfl)
theorem dX6_sum_41 : decode cX6_sum 41 = .ok (.dup, 1) := dk_89 (dk_at dksX6_sum_1 17 rfl rfl)
theorem dX6_sum_42 : decode cX6_sum 42 = .ok (.iload_n 2, 1) := dk_28 (dk_at dksX6_sum_1 18 rfl rfl)
theorem dX6_sum_43 : decode cX6_sum 43 = .ok (.aload_n 1, 1) := dk_43 (dk_at dksX6_sum_1 19 rfl rfl)
theorem dX6_sum_44 : decode cX6_sum 44 = .ok (.aload_n 0, 1) := dk_42 (dk_at dksX6_sum_1 20 rfl rfl)
theorem dX6_sum_45 : decode cX6_sum 45 = .ok (.invokevirtual 130, 3) := dk_182 0 130 (dk_at dksX6_sum_1 21 rfl rfl)
theorem dX6_sum_48 : decode cX6_sum 48 = .ok (.invokespecial 139, 3) := dk_183 0 139 (dk_at dksX6_sum_2 0 rfl rfl)
theorem dX6_sum_51 : decode cX6_sum 51 = .ok (.astore_n 1, 1) := dk_76 (dk_at dksX6_sum_2 3 rfl rfl)
theorem dX6_sum_52 : decode cX6_sum 52 = .ok (.goto (-47), 3) := dk_167 255 209 (dk_at dksX6_sum_2 4 rfl rfl)
theorem dX6_sum_55 : decode cX6_sum 55 = .ok (.aload_n 1, 1) := dk_43 (dk_at dksX6_sum_2 7 rfl rfl)
theorem dX6_sum_56 : decode cX6_sum 56 = .ok (.areturn, 1) := dk_176 (dk_at dksX6_sum_2 8 rfl rfl)
abbrev cX6_term : ByteArray := prog_12_method_18_code
def yX6_term : MethodName := ⟨RX6, "term", "()LDowryBoxes$Sum;"⟩
def dkwX6_term_2 : List UInt8 := [187, 0, 137, 89, 28, 43, 42, 182, 0, 140, 183, 0, 139, 76, 167, 255, 200, 43, 176]
abbrev dktX6_term_2 : List UInt8 := dkwX6_term_2 ++ []
def dkwX6_term_1 : List UInt8 := [18, 147, 182, 0, 39, 153, 0, 35, 42, 180, 0, 9, 42, 180, 0, 22, 51, 146, 61, 42, 182, 0, 43]
abbrev dktX6_term_1 : List UInt8 := dkwX6_term_1 ++ dktX6_term_2
def dkwX6_term_0 : List UInt8 := [42, 182, 0, 140, 76, 42, 18, 143, 182, 0, 39, 154, 0, 21, 42, 18, 145, 182, 0, 39, 154, 0, 12, 42]
abbrev dktX6_term_0 : List UInt8 := dkwX6_term_0 ++ dktX6_term_1
theorem dksX6_term_0 : cX6_term.data.toList.drop 0 = dktX6_term_0 := by decide +kernel
theorem dksX6_term_1 : cX6_term.data.toList.drop 24 = dktX6_term_1 := dk_seg dksX6_term_0 24 rfl rfl
theorem dksX6_term_2 : cX6_term.data.toList.drop 47 = dktX6_term_2 := dk_seg dksX6_term_1 23 rfl rfl
theorem dX6_term_0 : decode cX6_term 0 = .ok (.aload_n 0, 1) := dk_42 (dk_at dksX6_term_0 0 rfl rfl)
theorem dX6_term_1 : decode cX6_term 1 = .ok (.invokevirtual 140, 3) := dk_182 0 140 (dk_at dksX6_term_0 1 rfl rfl)
theorem dX6_term_4 : decode cX6_term 4 = .ok (.astore_n 1, 1) := dk_76 (dk_at dksX6_term_0 4 rfl rfl)
theorem dX6_term_5 : decode cX6_term 5 = .ok (.aload_n 0, 1) := dk_42 (dk_at dksX6_term_0 5 rfl rfl)
theorem dX6_term_6 : decode cX6_term 6 = .ok (.ldc 143, 2) := dk_18 143 (dk_at dksX6_term_0 6 rfl rfl)
theorem dX6_term_8 : decode cX6_term 8 = .ok (.invokevirtual 39, 3) := dk_182 0 39 (dk_at dksX6_term_0 8 rfl rfl)
theorem dX6_term_11 : decode cX6_term 11 = .ok (.ifCond .ne 21, 3) := dk_154 0 21 (dk_at dksX6_term_0 11 rfl rfl)
theorem dX6_term_14 : decode cX6_term 14 = .ok (.aload_n 0, 1) := dk_42 (dk_at dksX6_term_0 14 rfl rfl)
theorem dX6_term_15 : decode cX6_term 15 = .ok (.ldc 145, 2) := dk_18 145 (dk_at dksX6_term_0 15 rfl rfl)
theorem dX6_term_17 : decode cX6_term 17 = .ok (.invokevirtual 39, 3) := dk_182 0 39 (dk_at dksX6_term_0 17 rfl rfl)
theorem dX6_term_20 : decode cX6_term 20 = .ok (.ifCond .ne 12, 3) := dk_154 0 12 (dk_at dksX6_term_0 20 rfl rfl)
theorem dX6_term_23 : decode cX6_term 23 = .ok (.aload_n 0, 1) := dk_42 (dk_at dksX6_term_0 23 rfl rfl)
theorem dX6_term_24 : decode cX6_term 24 = .ok (.ldc 147, 2) := dk_18 147 (dk_at dksX6_term_1 0 rfl rfl)
theorem dX6_term_26 : decode cX6_term 26 = .ok (.invokevirtual 39, 3) := dk_182 0 39 (dk_at dksX6_term_1 2 rfl rfl)
theorem dX6_term_29 : decode cX6_term 29 = .ok (.ifCond .eq 35, 3) := dk_153 0 35 (dk_at dksX6_term_1 5 rfl rfl)
theorem dX6_term_32 : decode cX6_term 32 = .ok (.aload_n 0, 1) := dk_42 (dk_at dksX6_term_1 8 rfl rfl)
theorem dX6_term_33 : decode cX6_term 33 = .ok (.getfield 9, 3) := dk_180 0 9 (dk_at dksX6_term_1 9 rfl rfl)
theorem dX6_term_36 : decode cX6_term 36 = .ok (.aload_n 0, 1) := dk_42 (dk_at dksX6_term_1 12 rfl rfl)
theorem dX6_term_37 : decode cX6_term 37 = .ok (.getfield 22, 3) := dk_180 0 22 (dk_at dksX6_term_1 13 rfl rfl)
theorem dX6_term_40 : decode cX6_term 40 = .ok (.baload, 1) := dk_51 (dk_at dksX6_term_1 16 rfl rfl)
theorem dX6_term_41 : decode cX6_term 41 = .ok (.i2c, 1) := dk_146 (dk_at dksX6_term_1 17 rfl rfl)
theorem dX6_term_42 : decode cX6_term 42 = .ok (.istore_n 2, 1) := dk_61 (dk_at dksX6_term_1 18 rfl rfl)
theorem dX6_term_43 : decode cX6_term 43 = .ok (.aload_n 0, 1) := dk_42 (dk_at dksX6_term_1 19 rfl rfl)
theorem dX6_term_44 : decode cX6_term 44 = .ok (.invokevirtual 43, 3) := dk_182 0 43 (dk_at dksX6_term_1 20 rfl rfl)
theorem dX6_term_47 : decode cX6_term 47 = .ok (.new 137, 3) := dk_187 0 137 (dk_at dksX6_term_2 0 rfl rfl)
theorem dX6_term_50 : decode cX6_term 50 = .ok (.dup, 1) := dk_89 (dk_at dksX6_term_2 3 rfl rfl)
theorem dX6_term_51 : decode cX6_term 51 = .ok (.iload_n 2, 1) := dk_28 (dk_at dksX6_term_2 4 rfl rfl)
theorem dX6_term_52 : decode cX6_term 52 = .ok (.aload_n 1, 1) := dk_43 (dk_at dksX6_term_2 5 rfl rfl)
theorem dX6_term_53 : decode cX6_term 53 = .ok (.aload_n 0, 1) := dk_42 (dk_at dksX6_term_2 6 rfl rfl)
theorem dX6_term_54 : decode cX6_term 54 = .ok (.invokevirtual 140, 3) := dk_182 0 140 (dk_at dksX6_term_2 7 rfl rfl)
theorem dX6_term_57 : decode cX6_term 57 = .ok (.invokespecial 139, 3) := dk_183 0 139 (dk_at dksX6_term_2 10 rfl rfl)
theorem dX6_term_60 : decode cX6_term 60 = .ok (.astore_n 1, 1) := dk_76 (dk_at dksX6_term_2 13 rfl rfl)
theorem dX6_term_61 : decode cX6_term 61 = .ok (.goto (-56), 3) := dk_167 255 200 (dk_at dksX6_term_2 14 rfl rfl)
theorem dX6_term_64 : decode cX6_term 64 = .ok (.aload_n 1, 1) := dk_43 (dk_at dksX6_term_2 17 rfl rfl)
theorem dX6_term_65 : decode cX6_term 65 = .ok (.areturn, 1) := dk_176 (dk_at dksX6_term_2 18 rfl rfl)
abbrev cX6_part : ByteArray := prog_12_method_20_code
def yX6_part : MethodName := ⟨RX6, "part", "()LDowryBoxes$Sum;"⟩
def dkwX6_part_4 : List UInt8 := [89, 27, 183, 0, 171, 176]
abbrev dktX6_part_4 : List UInt8 := dkwX6_part_4 ++ []
def dkwX6_part_3 : List UInt8 := [182, 0, 166, 60, 27, 2, 160, 0, 15, 187, 0, 49, 89, 42, 180, 0, 22, 183, 0, 51, 191, 187, 0, 169]
abbrev dktX6_part_3 : List UInt8 := dkwX6_part_3 ++ dktX6_part_4
def dkwX6_part_2 : List UInt8 := [153, 0, 23, 42, 182, 0, 156, 187, 0, 159, 89, 42, 3, 17, 3, 232, 182, 0, 161, 183, 0, 165, 176, 42]
abbrev dktX6_part_2 : List UInt8 := dkwX6_part_2 ++ dktX6_part_3
def dkwX6_part_1 : List UInt8 := [42, 89, 180, 0, 88, 4, 100, 181, 0, 88, 43, 176, 42, 42, 180, 0, 22, 16, 48, 16, 57, 182, 0, 25]
abbrev dktX6_part_1 : List UInt8 := dkwX6_part_1 ++ dktX6_part_2
def dkwX6_part_0 : List UInt8 := [42, 18, 152, 182, 0, 39, 153, 0, 30, 42, 182, 0, 103, 42, 182, 0, 115, 76, 42, 18, 154, 182, 0, 111]
abbrev dktX6_part_0 : List UInt8 := dkwX6_part_0 ++ dktX6_part_1
theorem dksX6_part_0 : cX6_part.data.toList.drop 0 = dktX6_part_0 := by decide +kernel
theorem dksX6_part_1 : cX6_part.data.toList.drop 24 = dktX6_part_1 := dk_seg dksX6_part_0 24 rfl rfl
theorem dksX6_part_2 : cX6_part.data.toList.drop 48 = dktX6_part_2 := dk_seg dksX6_part_1 24 rfl rfl
theorem dksX6_part_3 : cX6_part.data.toList.drop 72 = dktX6_part_3 := dk_seg dksX6_part_2 24 rfl rfl
theorem dksX6_part_4 : cX6_part.data.toList.drop 96 = dktX6_part_4 := dk_seg dksX6_part_3 24 rfl rfl
theorem dX6_part_0 : decode cX6_part 0 = .ok (.aload_n 0, 1) := dk_42 (dk_at dksX6_part_0 0 rfl rfl)
theorem dX6_part_1 : decode cX6_part 1 = .ok (.ldc 152, 2) := dk_18 152 (dk_at dksX6_part_0 1 rfl rfl)
theorem dX6_part_3 : decode cX6_part 3 = .ok (.invokevirtual 39, 3) := dk_182 0 39 (dk_at dksX6_part_0 3 rfl rfl)
theorem dX6_part_6 : decode cX6_part 6 = .ok (.ifCond .eq 30, 3) := dk_153 0 30 (dk_at dksX6_part_0 6 rfl rfl)
theorem dX6_part_9 : decode cX6_part 9 = .ok (.aload_n 0, 1) := dk_42 (dk_at dksX6_part_0 9 rfl rfl)
theorem dX6_part_10 : decode cX6_part 10 = .ok (.invokevirtual 103, 3) := dk_182 0 103 (dk_at dksX6_part_0 10 rfl rfl)
theorem dX6_part_13 : decode cX6_part 13 = .ok (.aload_n 0, 1) := dk_42 (dk_at dksX6_part_0 13 rfl rfl)
theorem dX6_part_14 : decode cX6_part 14 = .ok (.invokevirtual 115, 3) := dk_182 0 115 (dk_at dksX6_part_0 14 rfl rfl)
theorem dX6_part_17 : decode cX6_part 17 = .ok (.astore_n 1, 1) := dk_76 (dk_at dksX6_part_0 17 rfl rfl)
theorem dX6_part_18 : decode cX6_part 18 = .ok (.aload_n 0, 1) := dk_42 (dk_at dksX6_part_0 18 rfl rfl)
theorem dX6_part_19 : decode cX6_part 19 = .ok (.ldc 154, 2) := dk_18 154 (dk_at dksX6_part_0 19 rfl rfl)
theorem dX6_part_21 : decode cX6_part 21 = .ok (.invokevirtual 111, 3) := dk_182 0 111 (dk_at dksX6_part_0 21 rfl rfl)
theorem dX6_part_24 : decode cX6_part 24 = .ok (.aload_n 0, 1) := dk_42 (dk_at dksX6_part_1 0 rfl rfl)
theorem dX6_part_25 : decode cX6_part 25 = .ok (.dup, 1) := dk_89 (dk_at dksX6_part_1 1 rfl rfl)
theorem dX6_part_26 : decode cX6_part 26 = .ok (.getfield 88, 3) := dk_180 0 88 (dk_at dksX6_part_1 2 rfl rfl)
theorem dX6_part_29 : decode cX6_part 29 = .ok (.iconst 1, 1) := dk_4 (dk_at dksX6_part_1 5 rfl rfl)
theorem dX6_part_30 : decode cX6_part 30 = .ok (.isub, 1) := dk_100 (dk_at dksX6_part_1 6 rfl rfl)
theorem dX6_part_31 : decode cX6_part 31 = .ok (.putfield 88, 3) := dk_181 0 88 (dk_at dksX6_part_1 7 rfl rfl)
theorem dX6_part_34 : decode cX6_part 34 = .ok (.aload_n 1, 1) := dk_43 (dk_at dksX6_part_1 10 rfl rfl)
theorem dX6_part_35 : decode cX6_part 35 = .ok (.areturn, 1) := dk_176 (dk_at dksX6_part_1 11 rfl rfl)
theorem dX6_part_36 : decode cX6_part 36 = .ok (.aload_n 0, 1) := dk_42 (dk_at dksX6_part_1 12 rfl rfl)
theorem dX6_part_37 : decode cX6_part 37 = .ok (.aload_n 0, 1) := dk_42 (dk_at dksX6_part_1 13 rfl rfl)
theorem dX6_part_38 : decode cX6_part 38 = .ok (.getfield 22, 3) := dk_180 0 22 (dk_at dksX6_part_1 14 rfl rfl)
theorem dX6_part_41 : decode cX6_part 41 = .ok (.bipush 48, 2) := dk_16 48 (dk_at dksX6_part_1 17 rfl rfl)
theorem dX6_part_43 : decode cX6_part 43 = .ok (.bipush 57, 2) := dk_16 57 (dk_at dksX6_part_1 19 rfl rfl)
theorem dX6_part_45 : decode cX6_part 45 = .ok (.invokevirtual 25, 3) := dk_182 0 25 (dk_at dksX6_part_1 21 rfl rfl)
theorem dX6_part_48 : decode cX6_part 48 = .ok (.ifCond .eq 23, 3) := dk_153 0 23 (dk_at dksX6_part_2 0 rfl rfl)
theorem dX6_part_51 : decode cX6_part 51 = .ok (.aload_n 0, 1) := dk_42 (dk_at dksX6_part_2 3 rfl rfl)
theorem dX6_part_52 : decode cX6_part 52 = .ok (.invokevirtual 156, 3) := dk_182 0 156 (dk_at dksX6_part_2 4 rfl rfl)
theorem dX6_part_55 : decode cX6_part 55 = .ok (.new 159, 3) := dk_187 0 159 (dk_at dksX6_part_2 7 rfl rfl)
theorem dX6_part_58 : decode cX6_part 58 = .ok (.dup, 1) := dk_89 (dk_at dksX6_part_2 10 rfl rfl)
theorem dX6_part_59 : decode cX6_part 59 = .ok (.aload_n 0, 1) := dk_42 (dk_at dksX6_part_2 11 rfl rfl)
theorem dX6_part_60 : decode cX6_part 60 = .ok (.iconst 0, 1) := dk_3 (dk_at dksX6_part_2 12 rfl rfl)
theorem dX6_part_61 : decode cX6_part 61 = .ok (.sipush 1000, 3) := dk_17 3 232 (dk_at dksX6_part_2 13 rfl rfl)
theorem dX6_part_64 : decode cX6_part 64 = .ok (.invokevirtual 161, 3) := dk_182 0 161 (dk_at dksX6_part_2 16 rfl rfl)
theorem dX6_part_67 : decode cX6_part 67 = .ok (.invokespecial 165, 3) := dk_183 0 165 (dk_at dksX6_part_2 19 rfl rfl)
theorem dX6_part_70 : decode cX6_part 70 = .ok (.areturn, 1) := dk_176 (dk_at dksX6_part_2 22 rfl rfl)
theorem dX6_part_71 : decode cX6_part 71 = .ok (.aload_n 0, 1) := dk_42 (dk_at dksX6_part_2 23 rfl rfl)
theorem dX6_part_72 : decode cX6_part 72 = .ok (.invokevirtual 166, 3) := dk_182 0 166 (dk_at dksX6_part_3 0 rfl rfl)
theorem dX6_part_75 : decode cX6_part 75 = .ok (.istore_n 1, 1) := dk_60 (dk_at dksX6_part_3 3 rfl rfl)
theorem dX6_part_76 : decode cX6_part 76 = .ok (.iload_n 1, 1) := dk_27 (dk_at dksX6_part_3 4 rfl rfl)
theorem dX6_part_77 : decode cX6_part 77 = .ok (.iconst (-1), 1) := dk_2 (dk_at dksX6_part_3 5 rfl rfl)
theorem dX6_part_78 : decode cX6_part 78 = .ok (.if_icmp .ne 15, 3) := dk_160 0 15 (dk_at dksX6_part_3 6 rfl rfl)
theorem dX6_part_81 : decode cX6_part 81 = .ok (.new 49, 3) := dk_187 0 49 (dk_at dksX6_part_3 9 rfl rfl)
theorem dX6_part_84 : decode cX6_part 84 = .ok (.dup, 1) := dk_89 (dk_at dksX6_part_3 12 rfl rfl)
theorem dX6_part_85 : decode cX6_part 85 = .ok (.aload_n 0, 1) := dk_42 (dk_at dksX6_part_3 13 rfl rfl)
theorem dX6_part_86 : decode cX6_part 86 = .ok (.getfield 22, 3) := dk_180 0 22 (dk_at dksX6_part_3 14 rfl rfl)
theorem dX6_part_89 : decode cX6_part 89 = .ok (.invokespecial 51, 3) := dk_183 0 51 (dk_at dksX6_part_3 17 rfl rfl)
theorem dX6_part_92 : decode cX6_part 92 = .ok (.athrow, 1) := dk_191 (dk_at dksX6_part_3 20 rfl rfl)
theorem dX6_part_93 : decode cX6_part 93 = .ok (.new 169, 3) := dk_187 0 169 (dk_at dksX6_part_3 21 rfl rfl)
theorem dX6_part_96 : decode cX6_part 96 = .ok (.dup, 1) := dk_89 (dk_at dksX6_part_4 0 rfl rfl)
theorem dX6_part_97 : decode cX6_part 97 = .ok (.iload_n 1, 1) := dk_27 (dk_at dksX6_part_4 1 rfl rfl)
theorem dX6_part_98 : decode cX6_part 98 = .ok (.invokespecial 171, 3) := dk_183 0 171 (dk_at dksX6_part_4 2 rfl rfl)
theorem dX6_part_101 : decode cX6_part 101 = .ok (.areturn, 1) := dk_176 (dk_at dksX6_part_4 5 rfl rfl)
abbrev cX6_opens : ByteArray := prog_12_method_14_code
def yX6_opens : MethodName := ⟨RX6, "opens", "()V"⟩
def dkwX6_opens_1 : List UInt8 := [180, 0, 88, 4, 96, 181, 0, 88, 42, 182, 0, 43, 177]
abbrev dktX6_opens_1 : List UInt8 := dkwX6_opens_1 ++ []
def dkwX6_opens_0 : List UInt8 := [42, 180, 0, 88, 16, 8, 160, 0, 15, 187, 0, 49, 89, 42, 180, 0, 22, 183, 0, 51, 191, 42, 89]
abbrev dktX6_opens_0 : List UInt8 := dkwX6_opens_0 ++ dktX6_opens_1
theorem dksX6_opens_0 : cX6_opens.data.toList.drop 0 = dktX6_opens_0 := by decide +kernel
theorem dksX6_opens_1 : cX6_opens.data.toList.drop 23 = dktX6_opens_1 := dk_seg dksX6_opens_0 23 rfl rfl
theorem dX6_opens_0 : decode cX6_opens 0 = .ok (.aload_n 0, 1) := dk_42 (dk_at dksX6_opens_0 0 rfl rfl)
theorem dX6_opens_1 : decode cX6_opens 1 = .ok (.getfield 88, 3) := dk_180 0 88 (dk_at dksX6_opens_0 1 rfl rfl)
theorem dX6_opens_4 : decode cX6_opens 4 = .ok (.bipush 8, 2) := dk_16 8 (dk_at dksX6_opens_0 4 rfl rfl)
theorem dX6_opens_6 : decode cX6_opens 6 = .ok (.if_icmp .ne 15, 3) := dk_160 0 15 (dk_at dksX6_opens_0 6 rfl rfl)
theorem dX6_opens_9 : decode cX6_opens 9 = .ok (.new 49, 3) := dk_187 0 49 (dk_at dksX6_opens_0 9 rfl rfl)
theorem dX6_opens_12 : decode cX6_opens 12 = .ok (.dup, 1) := dk_89 (dk_at dksX6_opens_0 12 rfl rfl)
theorem dX6_opens_13 : decode cX6_opens 13 = .ok (.aload_n 0, 1) := dk_42 (dk_at dksX6_opens_0 13 rfl rfl)
theorem dX6_opens_14 : decode cX6_opens 14 = .ok (.getfield 22, 3) := dk_180 0 22 (dk_at dksX6_opens_0 14 rfl rfl)
theorem dX6_opens_17 : decode cX6_opens 17 = .ok (.invokespecial 51, 3) := dk_183 0 51 (dk_at dksX6_opens_0 17 rfl rfl)
theorem dX6_opens_20 : decode cX6_opens 20 = .ok (.athrow, 1) := dk_191 (dk_at dksX6_opens_0 20 rfl rfl)
theorem dX6_opens_21 : decode cX6_opens 21 = .ok (.aload_n 0, 1) := dk_42 (dk_at dksX6_opens_0 21 rfl rfl)
theorem dX6_opens_22 : decode cX6_opens 22 = .ok (.dup, 1) := dk_89 (dk_at dksX6_opens_0 22 rfl rfl)
theorem dX6_opens_23 : decode cX6_opens 23 = .ok (.getfield 88, 3) := dk_180 0 88 (dk_at dksX6_opens_1 0 rfl rfl)
theorem dX6_opens_26 : decode cX6_opens 26 = .ok (.iconst 1, 1) := dk_4 (dk_at dksX6_opens_1 3 rfl rfl)
theorem dX6_opens_27 : decode cX6_opens 27 = .ok (.iadd, 1) := dk_96 (dk_at dksX6_opens_1 4 rfl rfl)
theorem dX6_opens_28 : decode cX6_opens 28 = .ok (.putfield 88, 3) := dk_181 0 88 (dk_at dksX6_opens_1 5 rfl rfl)
theorem dX6_opens_31 : decode cX6_opens 31 = .ok (.aload_n 0, 1) := dk_42 (dk_at dksX6_opens_1 8 rfl rfl)
theorem dX6_opens_32 : decode cX6_opens 32 = .ok (.invokevirtual 43, 3) := dk_182 0 43 (dk_at dksX6_opens_1 9 rfl rfl)
theorem dX6_opens_35 : decode cX6_opens 35 = .ok (.return_, 1) := dk_177 (dk_at dksX6_opens_1 12 rfl rfl)
abbrev cX6_need : ByteArray := prog_12_method_6_code
def yX6_need : MethodName := ⟨RX6, "need", "(Ljava/lang/String;)V"⟩
def dkwX6_need_0 : List UInt8 := [42, 43, 182, 0, 46, 154, 0, 15, 187, 0, 49, 89, 42, 180, 0, 22, 183, 0, 51, 191, 177]
abbrev dktX6_need_0 : List UInt8 := dkwX6_need_0 ++ []
theorem dksX6_need_0 : cX6_need.data.toList.drop 0 = dktX6_need_0 := by decide +kernel
theorem dX6_need_0 : decode cX6_need 0 = .ok (.aload_n 0, 1) := dk_42 (dk_at dksX6_need_0 0 rfl rfl)
theorem dX6_need_1 : decode cX6_need 1 = .ok (.aload_n 1, 1) := dk_43 (dk_at dksX6_need_0 1 rfl rfl)
theorem dX6_need_2 : decode cX6_need 2 = .ok (.invokevirtual 46, 3) := dk_182 0 46 (dk_at dksX6_need_0 2 rfl rfl)
theorem dX6_need_5 : decode cX6_need 5 = .ok (.ifCond .ne 15, 3) := dk_154 0 15 (dk_at dksX6_need_0 5 rfl rfl)
theorem dX6_need_8 : decode cX6_need 8 = .ok (.new 49, 3) := dk_187 0 49 (dk_at dksX6_need_0 8 rfl rfl)
theorem dX6_need_11 : decode cX6_need 11 = .ok (.dup, 1) := dk_89 (dk_at dksX6_need_0 11 rfl rfl)
theorem dX6_need_12 : decode cX6_need 12 = .ok (.aload_n 0, 1) := dk_42 (dk_at dksX6_need_0 12 rfl rfl)
theorem dX6_need_13 : decode cX6_need 13 = .ok (.getfield 22, 3) := dk_180 0 22 (dk_at dksX6_need_0 13 rfl rfl)
theorem dX6_need_16 : decode cX6_need 16 = .ok (.invokespecial 51, 3) := dk_183 0 51 (dk_at dksX6_need_0 16 rfl rfl)
theorem dX6_need_19 : decode cX6_need 19 = .ok (.athrow, 1) := dk_191 (dk_at dksX6_need_0 19 rfl rfl)
theorem dX6_need_20 : decode cX6_need 20 = .ok (.return_, 1) := dk_177 (dk_at dksX6_need_0 20 rfl rfl)
abbrev cX6_takes : ByteArray := prog_12_method_5_code
def yX6_takes : MethodName := ⟨RX6, "takes", "(Ljava/lang/String;)Z"⟩
def dkwX6_takes_0 : List UInt8 := [42, 43, 182, 0, 39, 61, 28, 153, 0, 7, 42, 182, 0, 43, 28, 172]
abbrev dktX6_takes_0 : List UInt8 := dkwX6_takes_0 ++ []
theorem dksX6_takes_0 : cX6_takes.data.toList.drop 0 = dktX6_takes_0 := by decide +kernel
theorem dX6_takes_0 : decode cX6_takes 0 = .ok (.aload_n 0, 1) := dk_42 (dk_at dksX6_takes_0 0 rfl rfl)
theorem dX6_takes_1 : decode cX6_takes 1 = .ok (.aload_n 1, 1) := dk_43 (dk_at dksX6_takes_0 1 rfl rfl)
theorem dX6_takes_2 : decode cX6_takes 2 = .ok (.invokevirtual 39, 3) := dk_182 0 39 (dk_at dksX6_takes_0 2 rfl rfl)
theorem dX6_takes_5 : decode cX6_takes 5 = .ok (.istore_n 2, 1) := dk_61 (dk_at dksX6_takes_0 5 rfl rfl)
theorem dX6_takes_6 : decode cX6_takes 6 = .ok (.iload_n 2, 1) := dk_28 (dk_at dksX6_takes_0 6 rfl rfl)
theorem dX6_takes_7 : decode cX6_takes 7 = .ok (.ifCond .eq 7, 3) := dk_153 0 7 (dk_at dksX6_takes_0 7 rfl rfl)
theorem dX6_takes_10 : decode cX6_takes 10 = .ok (.aload_n 0, 1) := dk_42 (dk_at dksX6_takes_0 10 rfl rfl)
theorem dX6_takes_11 : decode cX6_takes 11 = .ok (.invokevirtual 43, 3) := dk_182 0 43 (dk_at dksX6_takes_0 11 rfl rfl)
theorem dX6_takes_14 : decode cX6_takes 14 = .ok (.iload_n 2, 1) := dk_28 (dk_at dksX6_takes_0 14 rfl rfl)
theorem dX6_takes_15 : decode cX6_takes 15 = .ok (.ireturn, 1) := dk_172 (dk_at dksX6_takes_0 15 rfl rfl)
abbrev cX6_leaf : ByteArray := prog_12_method_19_code
def yX6_leaf : MethodName := ⟨RX6, "leaf", "()V"⟩
def dkwX6_leaf_1 : List UInt8 := [180, 0, 149, 4, 96, 181, 0, 149, 177]
abbrev dktX6_leaf_1 : List UInt8 := dkwX6_leaf_1 ++ []
def dkwX6_leaf_0 : List UInt8 := [42, 180, 0, 149, 16, 50, 160, 0, 15, 187, 0, 49, 89, 42, 180, 0, 22, 183, 0, 51, 191, 42, 89]
abbrev dktX6_leaf_0 : List UInt8 := dkwX6_leaf_0 ++ dktX6_leaf_1
theorem dksX6_leaf_0 : cX6_leaf.data.toList.drop 0 = dktX6_leaf_0 := by decide +kernel
theorem dksX6_leaf_1 : cX6_leaf.data.toList.drop 23 = dktX6_leaf_1 := dk_seg dksX6_leaf_0 23 rfl rfl
theorem dX6_leaf_0 : decode cX6_leaf 0 = .ok (.aload_n 0, 1) := dk_42 (dk_at dksX6_leaf_0 0 rfl rfl)
theorem dX6_leaf_1 : decode cX6_leaf 1 = .ok (.getfield 149, 3) := dk_180 0 149 (dk_at dksX6_leaf_0 1 rfl rfl)
theorem dX6_leaf_4 : decode cX6_leaf 4 = .ok (.bipush 50, 2) := dk_16 50 (dk_at dksX6_leaf_0 4 rfl rfl)
theorem dX6_leaf_6 : decode cX6_leaf 6 = .ok (.if_icmp .ne 15, 3) := dk_160 0 15 (dk_at dksX6_leaf_0 6 rfl rfl)
theorem dX6_leaf_9 : decode cX6_leaf 9 = .ok (.new 49, 3) := dk_187 0 49 (dk_at dksX6_leaf_0 9 rfl rfl)
theorem dX6_leaf_12 : decode cX6_leaf 12 = .ok (.dup, 1) := dk_89 (dk_at dksX6_leaf_0 12 rfl rfl)
theorem dX6_leaf_13 : decode cX6_leaf 13 = .ok (.aload_n 0, 1) := dk_42 (dk_at dksX6_leaf_0 13 rfl rfl)
theorem dX6_leaf_14 : decode cX6_leaf 14 = .ok (.getfield 22, 3) := dk_180 0 22 (dk_at dksX6_leaf_0 14 rfl rfl)
theorem dX6_leaf_17 : decode cX6_leaf 17 = .ok (.invokespecial 51, 3) := dk_183 0 51 (dk_at dksX6_leaf_0 17 rfl rfl)
theorem dX6_leaf_20 : decode cX6_leaf 20 = .ok (.athrow, 1) := dk_191 (dk_at dksX6_leaf_0 20 rfl rfl)
theorem dX6_leaf_21 : decode cX6_leaf 21 = .ok (.aload_n 0, 1) := dk_42 (dk_at dksX6_leaf_0 21 rfl rfl)
theorem dX6_leaf_22 : decode cX6_leaf 22 = .ok (.dup, 1) := dk_89 (dk_at dksX6_leaf_0 22 rfl rfl)
theorem dX6_leaf_23 : decode cX6_leaf 23 = .ok (.getfield 149, 3) := dk_180 0 149 (dk_at dksX6_leaf_1 0 rfl rfl)
theorem dX6_leaf_26 : decode cX6_leaf 26 = .ok (.iconst 1, 1) := dk_4 (dk_at dksX6_leaf_1 3 rfl rfl)
theorem dX6_leaf_27 : decode cX6_leaf 27 = .ok (.iadd, 1) := dk_96 (dk_at dksX6_leaf_1 4 rfl rfl)
theorem dX6_leaf_28 : decode cX6_leaf 28 = .ok (.putfield 149, 3) := dk_181 0 149 (dk_at dksX6_leaf_1 5 rfl rfl)
theorem dX6_leaf_31 : decode cX6_leaf 31 = .ok (.return_, 1) := dk_177 (dk_at dksX6_leaf_1 8 rfl rfl)
abbrev cX6_number : ByteArray := prog_12_method_7_code
def yX6_number : MethodName := ⟨RX6, "number", "(II)I"⟩
def dkwX6_number_4 : List UInt8 := [191, 42, 182, 0, 43, 29, 172]
abbrev dktX6_number_4 : List UInt8 := dkwX6_number_4 ++ []
def dkwX6_number_3 : List UInt8 := [167, 255, 223, 29, 27, 161, 0, 8, 29, 28, 164, 0, 15, 187, 0, 49, 89, 42, 180, 0, 22, 183, 0, 51]
abbrev dktX6_number_3 : List UInt8 := dkwX6_number_3 ++ dktX6_number_4
def dkwX6_number_2 : List UInt8 := [163, 0, 25, 16, 10, 29, 104, 42, 180, 0, 9, 21, 4, 51, 96, 16, 48, 100, 62, 132, 4, 1]
abbrev dktX6_number_2 : List UInt8 := dkwX6_number_2 ++ dktX6_number_3
def dkwX6_number_1 : List UInt8 := [183, 0, 51, 191, 3, 62, 42, 180, 0, 22, 54, 4, 21, 4, 42, 180, 0, 19, 162, 0, 30, 29, 28]
abbrev dktX6_number_1 : List UInt8 := dkwX6_number_1 ++ dktX6_number_2
def dkwX6_number_0 : List UInt8 := [42, 42, 180, 0, 22, 16, 48, 16, 57, 182, 0, 25, 154, 0, 15, 187, 0, 49, 89, 42, 180, 0, 22]
abbrev dktX6_number_0 : List UInt8 := dkwX6_number_0 ++ dktX6_number_1
theorem dksX6_number_0 : cX6_number.data.toList.drop 0 = dktX6_number_0 := by decide +kernel
theorem dksX6_number_1 : cX6_number.data.toList.drop 23 = dktX6_number_1 := dk_seg dksX6_number_0 23 rfl rfl
theorem dksX6_number_2 : cX6_number.data.toList.drop 46 = dktX6_number_2 := dk_seg dksX6_number_1 23 rfl rfl
theorem dksX6_number_3 : cX6_number.data.toList.drop 68 = dktX6_number_3 := dk_seg dksX6_number_2 22 rfl rfl
theorem dksX6_number_4 : cX6_number.data.toList.drop 92 = dktX6_number_4 := dk_seg dksX6_number_3 24 rfl rfl
theorem dX6_number_0 : decode cX6_number 0 = .ok (.aload_n 0, 1) := dk_42 (dk_at dksX6_number_0 0 rfl rfl)
theorem dX6_number_1 : decode cX6_number 1 = .ok (.aload_n 0, 1) := dk_42 (dk_at dksX6_number_0 1 rfl rfl)
theorem dX6_number_2 : decode cX6_number 2 = .ok (.getfield 22, 3) := dk_180 0 22 (dk_at dksX6_number_0 2 rfl rfl)
theorem dX6_number_5 : decode cX6_number 5 = .ok (.bipush 48, 2) := dk_16 48 (dk_at dksX6_number_0 5 rfl rfl)
theorem dX6_number_7 : decode cX6_number 7 = .ok (.bipush 57, 2) := dk_16 57 (dk_at dksX6_number_0 7 rfl rfl)
theorem dX6_number_9 : decode cX6_number 9 = .ok (.invokevirtual 25, 3) := dk_182 0 25 (dk_at dksX6_number_0 9 rfl rfl)
theorem dX6_number_12 : decode cX6_number 12 = .ok (.ifCond .ne 15, 3) := dk_154 0 15 (dk_at dksX6_number_0 12 rfl rfl)
theorem dX6_number_15 : decode cX6_number 15 = .ok (.new 49, 3) := dk_187 0 49 (dk_at dksX6_number_0 15 rfl rfl)
theorem dX6_number_18 : decode cX6_number 18 = .ok (.dup, 1) := dk_89 (dk_at dksX6_number_0 18 rfl rfl)
theorem dX6_number_19 : decode cX6_number 19 = .ok (.aload_n 0, 1) := dk_42 (dk_at dksX6_number_0 19 rfl rfl)
theorem dX6_number_20 : decode cX6_number 20 = .ok (.getfield 22, 3) := dk_180 0 22 (dk_at dksX6_number_0 20 rfl rfl)
theorem dX6_number_23 : decode cX6_number 23 = .ok (.invokespecial 51, 3) := dk_183 0 51 (dk_at dksX6_number_1 0 rfl rfl)
theorem dX6_number_26 : decode cX6_number 26 = .ok (.athrow, 1) := dk_191 (dk_at dksX6_number_1 3 rfl rfl)
theorem dX6_number_27 : decode cX6_number 27 = .ok (.iconst 0, 1) := dk_3 (dk_at dksX6_number_1 4 rfl rfl)
theorem dX6_number_28 : decode cX6_number 28 = .ok (.istore_n 3, 1) := dk_62 (dk_at dksX6_number_1 5 rfl rfl)
theorem dX6_number_29 : decode cX6_number 29 = .ok (.aload_n 0, 1) := dk_42 (dk_at dksX6_number_1 6 rfl rfl)
theorem dX6_number_30 : decode cX6_number 30 = .ok (.getfield 22, 3) := dk_180 0 22 (dk_at dksX6_number_1 7 rfl rfl)
theorem dX6_number_33 : decode cX6_number 33 = .ok (.istore 4, 2) := dk_54 4 (dk_at dksX6_number_1 10 rfl rfl)
theorem dX6_number_35 : decode cX6_number 35 = .ok (.iload 4, 2) := dk_21 4 (dk_at dksX6_number_1 12 rfl rfl)
theorem dX6_number_37 : decode cX6_number 37 = .ok (.aload_n 0, 1) := dk_42 (dk_at dksX6_number_1 14 rfl rfl)
theorem dX6_number_38 : decode cX6_number 38 = .ok (.getfield 19, 3) := dk_180 0 19 (dk_at dksX6_number_1 15 rfl rfl)
theorem dX6_number_41 : decode cX6_number 41 = .ok (.if_icmp .ge 30, 3) := dk_162 0 30 (dk_at dksX6_number_1 18 rfl rfl)
theorem dX6_number_44 : decode cX6_number 44 = .ok (.iload_n 3, 1) := dk_29 (dk_at dksX6_number_1 21 rfl rfl)
theorem dX6_number_45 : decode cX6_number 45 = .ok (.iload_n 2, 1) := dk_28 (dk_at dksX6_number_1 22 rfl rfl)
theorem dX6_number_46 : decode cX6_number 46 = .ok (.if_icmp .gt 25, 3) := dk_163 0 25 (dk_at dksX6_number_2 0 rfl rfl)
theorem dX6_number_49 : decode cX6_number 49 = .ok (.bipush 10, 2) := dk_16 10 (dk_at dksX6_number_2 3 rfl rfl)
theorem dX6_number_51 : decode cX6_number 51 = .ok (.iload_n 3, 1) := dk_29 (dk_at dksX6_number_2 5 rfl rfl)
theorem dX6_number_52 : decode cX6_number 52 = .ok (.imul, 1) := dk_104 (dk_at dksX6_number_2 6 rfl rfl)
theorem dX6_number_53 : decode cX6_number 53 = .ok (.aload_n 0, 1) := dk_42 (dk_at dksX6_number_2 7 rfl rfl)
theorem dX6_number_54 : decode cX6_number 54 = .ok (.getfield 9, 3) := dk_180 0 9 (dk_at dksX6_number_2 8 rfl rfl)
theorem dX6_number_57 : decode cX6_number 57 = .ok (.iload 4, 2) := dk_21 4 (dk_at dksX6_number_2 11 rfl rfl)
theorem dX6_number_59 : decode cX6_number 59 = .ok (.baload, 1) := dk_51 (dk_at dksX6_number_2 13 rfl rfl)
theorem dX6_number_60 : decode cX6_number 60 = .ok (.iadd, 1) := dk_96 (dk_at dksX6_number_2 14 rfl rfl)
theorem dX6_number_61 : decode cX6_number 61 = .ok (.bipush 48, 2) := dk_16 48 (dk_at dksX6_number_2 15 rfl rfl)
theorem dX6_number_63 : decode cX6_number 63 = .ok (.isub, 1) := dk_100 (dk_at dksX6_number_2 17 rfl rfl)
theorem dX6_number_64 : decode cX6_number 64 = .ok (.istore_n 3, 1) := dk_62 (dk_at dksX6_number_2 18 rfl rfl)
theorem dX6_number_65 : decode cX6_number 65 = .ok (.iinc 4 1, 3) := dk_132 4 1 (dk_at dksX6_number_2 19 rfl rfl)
theorem dX6_number_68 : decode cX6_number 68 = .ok (.goto (-33), 3) := dk_167 255 223 (dk_at dksX6_number_3 0 rfl rfl)
theorem dX6_number_71 : decode cX6_number 71 = .ok (.iload_n 3, 1) := dk_29 (dk_at dksX6_number_3 3 rfl rfl)
theorem dX6_number_72 : decode cX6_number 72 = .ok (.iload_n 1, 1) := dk_27 (dk_at dksX6_number_3 4 rfl rfl)
theorem dX6_number_73 : decode cX6_number 73 = .ok (.if_icmp .lt 8, 3) := dk_161 0 8 (dk_at dksX6_number_3 5 rfl rfl)
theorem dX6_number_76 : decode cX6_number 76 = .ok (.iload_n 3, 1) := dk_29 (dk_at dksX6_number_3 8 rfl rfl)
theorem dX6_number_77 : decode cX6_number 77 = .ok (.iload_n 2, 1) := dk_28 (dk_at dksX6_number_3 9 rfl rfl)
theorem dX6_number_78 : decode cX6_number 78 = .ok (.if_icmp .le 15, 3) := dk_164 0 15 (dk_at dksX6_number_3 10 rfl rfl)
theorem dX6_number_81 : decode cX6_number 81 = .ok (.new 49, 3) := dk_187 0 49 (dk_at dksX6_number_3 13 rfl rfl)
theorem dX6_number_84 : decode cX6_number 84 = .ok (.dup, 1) := dk_89 (dk_at dksX6_number_3 16 rfl rfl)
theorem dX6_number_85 : decode cX6_number 85 = .ok (.aload_n 0, 1) := dk_42 (dk_at dksX6_number_3 17 rfl rfl)
theorem dX6_number_86 : decode cX6_number 86 = .ok (.getfield 22, 3) := dk_180 0 22 (dk_at dksX6_number_3 18 rfl rfl)
theorem dX6_number_89 : decode cX6_number 89 = .ok (.invokespecial 51, 3) := dk_183 0 51 (dk_at dksX6_number_3 21 rfl rfl)
theorem dX6_number_92 : decode cX6_number 92 = .ok (.athrow, 1) := dk_191 (dk_at dksX6_number_4 0 rfl rfl)
theorem dX6_number_93 : decode cX6_number 93 = .ok (.aload_n 0, 1) := dk_42 (dk_at dksX6_number_4 1 rfl rfl)
theorem dX6_number_94 : decode cX6_number 94 = .ok (.invokevirtual 43, 3) := dk_182 0 43 (dk_at dksX6_number_4 2 rfl rfl)
theorem dX6_number_97 : decode cX6_number 97 = .ok (.iload_n 3, 1) := dk_29 (dk_at dksX6_number_4 5 rfl rfl)
theorem dX6_number_98 : decode cX6_number 98 = .ok (.ireturn, 1) := dk_172 (dk_at dksX6_number_4 6 rfl rfl)
abbrev cX6_isValue : ByteArray := prog_12_method_21_code
def yX6_isValue : MethodName := ⟨RX6, "isValue", "(Ljava/lang/String;)Z"⟩
def dkwX6_isValue_0 : List UInt8 := [42, 43, 182, 0, 39, 154, 0, 5, 3, 172, 42, 182, 0, 156, 42, 182, 0, 43, 4, 172]
abbrev dktX6_isValue_0 : List UInt8 := dkwX6_isValue_0 ++ []
theorem dksX6_isValue_0 : cX6_isValue.data.toList.drop 0 = dktX6_isValue_0 := by decide +kernel
theorem dX6_isValue_0 : decode cX6_isValue 0 = .ok (.aload_n 0, 1) := dk_42 (dk_at dksX6_isValue_0 0 rfl rfl)
theorem dX6_isValue_1 : decode cX6_isValue 1 = .ok (.aload_n 1, 1) := dk_43 (dk_at dksX6_isValue_0 1 rfl rfl)
theorem dX6_isValue_2 : decode cX6_isValue 2 = .ok (.invokevirtual 39, 3) := dk_182 0 39 (dk_at dksX6_isValue_0 2 rfl rfl)
theorem dX6_isValue_5 : decode cX6_isValue 5 = .ok (.ifCond .ne 5, 3) := dk_154 0 5 (dk_at dksX6_isValue_0 5 rfl rfl)
theorem dX6_isValue_8 : decode cX6_isValue 8 = .ok (.iconst 0, 1) := dk_3 (dk_at dksX6_isValue_0 8 rfl rfl)
theorem dX6_isValue_9 : decode cX6_isValue 9 = .ok (.ireturn, 1) := dk_172 (dk_at dksX6_isValue_0 9 rfl rfl)
theorem dX6_isValue_10 : decode cX6_isValue 10 = .ok (.aload_n 0, 1) := dk_42 (dk_at dksX6_isValue_0 10 rfl rfl)
theorem dX6_isValue_11 : decode cX6_isValue 11 = .ok (.invokevirtual 156, 3) := dk_182 0 156 (dk_at dksX6_isValue_0 11 rfl rfl)
theorem dX6_isValue_14 : decode cX6_isValue 14 = .ok (.aload_n 0, 1) := dk_42 (dk_at dksX6_isValue_0 14 rfl rfl)
theorem dX6_isValue_15 : decode cX6_isValue 15 = .ok (.invokevirtual 43, 3) := dk_182 0 43 (dk_at dksX6_isValue_0 15 rfl rfl)
theorem dX6_isValue_18 : decode cX6_isValue 18 = .ok (.iconst 1, 1) := dk_4 (dk_at dksX6_isValue_0 18 rfl rfl)
theorem dX6_isValue_19 : decode cX6_isValue 19 = .ok (.ireturn, 1) := dk_172 (dk_at dksX6_isValue_0 19 rfl rfl)
abbrev cX6_test : ByteArray := prog_12_method_12_code
def yX6_test : MethodName := ⟨RX6, "test", "()LDowryBoxes$Test;"⟩
def dkwX6_test_2 : List UInt8 := [182, 0, 62, 182, 0, 77, 87, 167, 255, 235, 44, 176]
abbrev dktX6_test_2 : List UInt8 := dkwX6_test_2 ++ []
def dkwX6_test_1 : List UInt8 := [77, 44, 180, 0, 73, 43, 182, 0, 77, 87, 42, 18, 66, 182, 0, 46, 153, 0, 18, 44, 180, 0, 73, 42]
abbrev dktX6_test_1 : List UInt8 := dkwX6_test_1 ++ dktX6_test_2
def dkwX6_test_0 : List UInt8 := [42, 182, 0, 62, 76, 42, 18, 66, 182, 0, 39, 154, 0, 5, 43, 176, 187, 0, 68, 89, 3, 183, 0, 70]
abbrev dktX6_test_0 : List UInt8 := dkwX6_test_0 ++ dktX6_test_1
theorem dksX6_test_0 : cX6_test.data.toList.drop 0 = dktX6_test_0 := by decide +kernel
theorem dksX6_test_1 : cX6_test.data.toList.drop 24 = dktX6_test_1 := dk_seg dksX6_test_0 24 rfl rfl
theorem dksX6_test_2 : cX6_test.data.toList.drop 48 = dktX6_test_2 := dk_seg dksX6_test_1 24 rfl rfl
theorem dX6_test_0 : decode cX6_test 0 = .ok (.aload_n 0, 1) := dk_42 (dk_at dksX6_test_0 0 rfl rfl)
theorem dX6_test_1 : decode cX6_test 1 = .ok (.invokevirtual 62, 3) := dk_182 0 62 (dk_at dksX6_test_0 1 rfl rfl)
theorem dX6_test_4 : decode cX6_test 4 = .ok (.astore_n 1, 1) := dk_76 (dk_at dksX6_test_0 4 rfl rfl)
theorem dX6_test_5 : decode cX6_test 5 = .ok (.aload_n 0, 1) := dk_42 (dk_at dksX6_test_0 5 rfl rfl)
theorem dX6_test_6 : decode cX6_test 6 = .ok (.ldc 66, 2) := dk_18 66 (dk_at dksX6_test_0 6 rfl rfl)
theorem dX6_test_8 : decode cX6_test 8 = .ok (.invokevirtual 39, 3) := dk_182 0 39 (dk_at dksX6_test_0 8 rfl rfl)
theorem dX6_test_11 : decode cX6_test 11 = .ok (.ifCond .ne 5, 3) := dk_154 0 5 (dk_at dksX6_test_0 11 rfl rfl)
theorem dX6_test_14 : decode cX6_test 14 = .ok (.aload_n 1, 1) := dk_43 (dk_at dksX6_test_0 14 rfl rfl)
theorem dX6_test_15 : decode cX6_test 15 = .ok (.areturn, 1) := dk_176 (dk_at dksX6_test_0 15 rfl rfl)
theorem dX6_test_16 : decode cX6_test 16 = .ok (.new 68, 3) := dk_187 0 68 (dk_at dksX6_test_0 16 rfl rfl)
theorem dX6_test_19 : decode cX6_test 19 = .ok (.dup, 1) := dk_89 (dk_at dksX6_test_0 19 rfl rfl)
theorem dX6_test_20 : decode cX6_test 20 = .ok (.iconst 0, 1) := dk_3 (dk_at dksX6_test_0 20 rfl rfl)
theorem dX6_test_21 : decode cX6_test 21 = .ok (.invokespecial 70, 3) := dk_183 0 70 (dk_at dksX6_test_0 21 rfl rfl)
theorem dX6_test_24 : decode cX6_test 24 = .ok (.astore_n 2, 1) := dk_77 (dk_at dksX6_test_1 0 rfl rfl)
theorem dX6_test_25 : decode cX6_test 25 = .ok (.aload_n 2, 1) := dk_44 (dk_at dksX6_test_1 1 rfl rfl)
theorem dX6_test_26 : decode cX6_test 26 = .ok (.getfield 73, 3) := dk_180 0 73 (dk_at dksX6_test_1 2 rfl rfl)
theorem dX6_test_29 : decode cX6_test 29 = .ok (.aload_n 1, 1) := dk_43 (dk_at dksX6_test_1 5 rfl rfl)
theorem dX6_test_30 : decode cX6_test 30 = .ok (.invokevirtual 77, 3) := dk_182 0 77 (dk_at dksX6_test_1 6 rfl rfl)
theorem dX6_test_33 : decode cX6_test 33 = .ok (.pop, 1) := dk_87 (dk_at dksX6_test_1 9 rfl rfl)
theorem dX6_test_34 : decode cX6_test 34 = .ok (.aload_n 0, 1) := dk_42 (dk_at dksX6_test_1 10 rfl rfl)
theorem dX6_test_35 : decode cX6_test 35 = .ok (.ldc 66, 2) := dk_18 66 (dk_at dksX6_test_1 11 rfl rfl)
theorem dX6_test_37 : decode cX6_test 37 = .ok (.invokevirtual 46, 3) := dk_182 0 46 (dk_at dksX6_test_1 13 rfl rfl)
theorem dX6_test_40 : decode cX6_test 40 = .ok (.ifCond .eq 18, 3) := dk_153 0 18 (dk_at dksX6_test_1 16 rfl rfl)
theorem dX6_test_43 : decode cX6_test 43 = .ok (.aload_n 2, 1) := dk_44 (dk_at dksX6_test_1 19 rfl rfl)
theorem dX6_test_44 : decode cX6_test 44 = .ok (.getfield 73, 3) := dk_180 0 73 (dk_at dksX6_test_1 20 rfl rfl)
theorem dX6_test_47 : decode cX6_test 47 = .ok (.aload_n 0, 1) := dk_42 (dk_at dksX6_test_1 23 rfl rfl)
theorem dX6_test_48 : decode cX6_test 48 = .ok (.invokevirtual 62, 3) := dk_182 0 62 (dk_at dksX6_test_2 0 rfl rfl)
theorem dX6_test_51 : decode cX6_test 51 = .ok (.invokevirtual 77, 3) := dk_182 0 77 (dk_at dksX6_test_2 3 rfl rfl)
theorem dX6_test_54 : decode cX6_test 54 = .ok (.pop, 1) := dk_87 (dk_at dksX6_test_2 6 rfl rfl)
theorem dX6_test_55 : decode cX6_test 55 = .ok (.goto (-21), 3) := dk_167 255 235 (dk_at dksX6_test_2 7 rfl rfl)
theorem dX6_test_58 : decode cX6_test 58 = .ok (.aload_n 2, 1) := dk_44 (dk_at dksX6_test_2 10 rfl rfl)
theorem dX6_test_59 : decode cX6_test 59 = .ok (.areturn, 1) := dk_176 (dk_at dksX6_test_2 11 rfl rfl)
abbrev cX6_both : ByteArray := prog_12_method_13_code
def yX6_both : MethodName := ⟨RX6, "both", "()LDowryBoxes$Test;"⟩
def dkwX6_both_2 : List UInt8 := [182, 0, 83, 182, 0, 77, 87, 167, 255, 235, 44, 176]
abbrev dktX6_both_2 : List UInt8 := dkwX6_both_2 ++ []
def dkwX6_both_1 : List UInt8 := [77, 44, 180, 0, 73, 43, 182, 0, 77, 87, 42, 18, 86, 182, 0, 46, 153, 0, 18, 44, 180, 0, 73, 42]
abbrev dktX6_both_1 : List UInt8 := dkwX6_both_1 ++ dktX6_both_2
def dkwX6_both_0 : List UInt8 := [42, 182, 0, 83, 76, 42, 18, 86, 182, 0, 39, 154, 0, 5, 43, 176, 187, 0, 68, 89, 4, 183, 0, 70]
abbrev dktX6_both_0 : List UInt8 := dkwX6_both_0 ++ dktX6_both_1
theorem dksX6_both_0 : cX6_both.data.toList.drop 0 = dktX6_both_0 := by decide +kernel
theorem dksX6_both_1 : cX6_both.data.toList.drop 24 = dktX6_both_1 := dk_seg dksX6_both_0 24 rfl rfl
theorem dksX6_both_2 : cX6_both.data.toList.drop 48 = dktX6_both_2 := dk_seg dksX6_both_1 24 rfl rfl
theorem dX6_both_0 : decode cX6_both 0 = .ok (.aload_n 0, 1) := dk_42 (dk_at dksX6_both_0 0 rfl rfl)
theorem dX6_both_1 : decode cX6_both 1 = .ok (.invokevirtual 83, 3) := dk_182 0 83 (dk_at dksX6_both_0 1 rfl rfl)
theorem dX6_both_4 : decode cX6_both 4 = .ok (.astore_n 1, 1) := dk_76 (dk_at dksX6_both_0 4 rfl rfl)
theorem dX6_both_5 : decode cX6_both 5 = .ok (.aload_n 0, 1) := dk_42 (dk_at dksX6_both_0 5 rfl rfl)
theorem dX6_both_6 : decode cX6_both 6 = .ok (.ldc 86, 2) := dk_18 86 (dk_at dksX6_both_0 6 rfl rfl)
theorem dX6_both_8 : decode cX6_both 8 = .ok (.invokevirtual 39, 3) := dk_182 0 39 (dk_at dksX6_both_0 8 rfl rfl)
theorem dX6_both_11 : decode cX6_both 11 = .ok (.ifCond .ne 5, 3) := dk_154 0 5 (dk_at dksX6_both_0 11 rfl rfl)
theorem dX6_both_14 : decode cX6_both 14 = .ok (.aload_n 1, 1) := dk_43 (dk_at dksX6_both_0 14 rfl rfl)
theorem dX6_both_15 : decode cX6_both 15 = .ok (.areturn, 1) := dk_176 (dk_at dksX6_both_0 15 rfl rfl)
theorem dX6_both_16 : decode cX6_both 16 = .ok (.new 68, 3) := dk_187 0 68 (dk_at dksX6_both_0 16 rfl rfl)
theorem dX6_both_19 : decode cX6_both 19 = .ok (.dup, 1) := dk_89 (dk_at dksX6_both_0 19 rfl rfl)
theorem dX6_both_20 : decode cX6_both 20 = .ok (.iconst 1, 1) := dk_4 (dk_at dksX6_both_0 20 rfl rfl)
theorem dX6_both_21 : decode cX6_both 21 = .ok (.invokespecial 70, 3) := dk_183 0 70 (dk_at dksX6_both_0 21 rfl rfl)
theorem dX6_both_24 : decode cX6_both 24 = .ok (.astore_n 2, 1) := dk_77 (dk_at dksX6_both_1 0 rfl rfl)
theorem dX6_both_25 : decode cX6_both 25 = .ok (.aload_n 2, 1) := dk_44 (dk_at dksX6_both_1 1 rfl rfl)
theorem dX6_both_26 : decode cX6_both 26 = .ok (.getfield 73, 3) := dk_180 0 73 (dk_at dksX6_both_1 2 rfl rfl)
theorem dX6_both_29 : decode cX6_both 29 = .ok (.aload_n 1, 1) := dk_43 (dk_at dksX6_both_1 5 rfl rfl)
theorem dX6_both_30 : decode cX6_both 30 = .ok (.invokevirtual 77, 3) := dk_182 0 77 (dk_at dksX6_both_1 6 rfl rfl)
theorem dX6_both_33 : decode cX6_both 33 = .ok (.pop, 1) := dk_87 (dk_at dksX6_both_1 9 rfl rfl)
theorem dX6_both_34 : decode cX6_both 34 = .ok (.aload_n 0, 1) := dk_42 (dk_at dksX6_both_1 10 rfl rfl)
theorem dX6_both_35 : decode cX6_both 35 = .ok (.ldc 86, 2) := dk_18 86 (dk_at dksX6_both_1 11 rfl rfl)
theorem dX6_both_37 : decode cX6_both 37 = .ok (.invokevirtual 46, 3) := dk_182 0 46 (dk_at dksX6_both_1 13 rfl rfl)
theorem dX6_both_40 : decode cX6_both 40 = .ok (.ifCond .eq 18, 3) := dk_153 0 18 (dk_at dksX6_both_1 16 rfl rfl)
theorem dX6_both_43 : decode cX6_both 43 = .ok (.aload_n 2, 1) := dk_44 (dk_at dksX6_both_1 19 rfl rfl)
theorem dX6_both_44 : decode cX6_both 44 = .ok (.getfield 73, 3) := dk_180 0 73 (dk_at dksX6_both_1 20 rfl rfl)
theorem dX6_both_47 : decode cX6_both 47 = .ok (.aload_n 0, 1) := dk_42 (dk_at dksX6_both_1 23 rfl rfl)
theorem dX6_both_48 : decode cX6_both 48 = .ok (.invokevirtual 83, 3) := dk_182 0 83 (dk_at dksX6_both_2 0 rfl rfl)
theorem dX6_both_51 : decode cX6_both 51 = .ok (.invokevirtual 77, 3) := dk_182 0 77 (dk_at dksX6_both_2 3 rfl rfl)
theorem dX6_both_54 : decode cX6_both 54 = .ok (.pop, 1) := dk_87 (dk_at dksX6_both_2 6 rfl rfl)
theorem dX6_both_55 : decode cX6_both 55 = .ok (.goto (-21), 3) := dk_167 255 235 (dk_at dksX6_both_2 7 rfl rfl)
theorem dX6_both_58 : decode cX6_both 58 = .ok (.aload_n 2, 1) := dk_44 (dk_at dksX6_both_2 10 rfl rfl)
theorem dX6_both_59 : decode cX6_both 59 = .ok (.areturn, 1) := dk_176 (dk_at dksX6_both_2 11 rfl rfl)
abbrev cX6_plain : ByteArray := prog_12_method_15_code
def yX6_plain : MethodName := ⟨RX6, "plain", "()LDowryBoxes$Test;"⟩
def dkwX6_plain_1 : List UInt8 := [42, 182, 0, 93, 77, 27, 153, 0, 14, 187, 0, 96, 89, 44, 183, 0, 98, 167, 0, 4, 44, 176]
abbrev dktX6_plain_1 : List UInt8 := dkwX6_plain_1 ++ []
def dkwX6_plain_0 : List UInt8 := [3, 60, 42, 18, 91, 182, 0, 46, 153, 0, 16, 27, 154, 0, 7, 4, 167, 0, 4, 3, 60, 167, 255, 237]
abbrev dktX6_plain_0 : List UInt8 := dkwX6_plain_0 ++ dktX6_plain_1
theorem dksX6_plain_0 : cX6_plain.data.toList.drop 0 = dktX6_plain_0 := by decide +kernel
theorem dksX6_plain_1 : cX6_plain.data.toList.drop 24 = dktX6_plain_1 := dk_seg dksX6_plain_0 24 rfl rfl
theorem dX6_plain_0 : decode cX6_plain 0 = .ok (.iconst 0, 1) := dk_3 (dk_at dksX6_plain_0 0 rfl rfl)
theorem dX6_plain_1 : decode cX6_plain 1 = .ok (.istore_n 1, 1) := dk_60 (dk_at dksX6_plain_0 1 rfl rfl)
theorem dX6_plain_2 : decode cX6_plain 2 = .ok (.aload_n 0, 1) := dk_42 (dk_at dksX6_plain_0 2 rfl rfl)
theorem dX6_plain_3 : decode cX6_plain 3 = .ok (.ldc 91, 2) := dk_18 91 (dk_at dksX6_plain_0 3 rfl rfl)
theorem dX6_plain_5 : decode cX6_plain 5 = .ok (.invokevirtual 46, 3) := dk_182 0 46 (dk_at dksX6_plain_0 5 rfl rfl)
theorem dX6_plain_8 : decode cX6_plain 8 = .ok (.ifCond .eq 16, 3) := dk_153 0 16 (dk_at dksX6_plain_0 8 rfl rfl)
theorem dX6_plain_11 : decode cX6_plain 11 = .ok (.iload_n 1, 1) := dk_27 (dk_at dksX6_plain_0 11 rfl rfl)
theorem dX6_plain_12 : decode cX6_plain 12 = .ok (.ifCond .ne 7, 3) := dk_154 0 7 (dk_at dksX6_plain_0 12 rfl rfl)
theorem dX6_plain_15 : decode cX6_plain 15 = .ok (.iconst 1, 1) := dk_4 (dk_at dksX6_plain_0 15 rfl rfl)
theorem dX6_plain_16 : decode cX6_plain 16 = .ok (.goto 4, 3) := dk_167 0 4 (dk_at dksX6_plain_0 16 rfl rfl)
theorem dX6_plain_19 : decode cX6_plain 19 = .ok (.iconst 0, 1) := dk_3 (dk_at dksX6_plain_0 19 rfl rfl)
theorem dX6_plain_20 : decode cX6_plain 20 = .ok (.istore_n 1, 1) := dk_60 (dk_at dksX6_plain_0 20 rfl rfl)
theorem dX6_plain_21 : decode cX6_plain 21 = .ok (.goto (-19), 3) := dk_167 255 237 (dk_at dksX6_plain_0 21 rfl rfl)
theorem dX6_plain_24 : decode cX6_plain 24 = .ok (.aload_n 0, 1) := dk_42 (dk_at dksX6_plain_1 0 rfl rfl)
theorem dX6_plain_25 : decode cX6_plain 25 = .ok (.invokevirtual 93, 3) := dk_182 0 93 (dk_at dksX6_plain_1 1 rfl rfl)
theorem dX6_plain_28 : decode cX6_plain 28 = .ok (.astore_n 2, 1) := dk_77 (dk_at dksX6_plain_1 4 rfl rfl)
theorem dX6_plain_29 : decode cX6_plain 29 = .ok (.iload_n 1, 1) := dk_27 (dk_at dksX6_plain_1 5 rfl rfl)
theorem dX6_plain_30 : decode cX6_plain 30 = .ok (.ifCond .eq 14, 3) := dk_153 0 14 (dk_at dksX6_plain_1 6 rfl rfl)
theorem dX6_plain_33 : decode cX6_plain 33 = .ok (.new 96, 3) := dk_187 0 96 (dk_at dksX6_plain_1 9 rfl rfl)
theorem dX6_plain_36 : decode cX6_plain 36 = .ok (.dup, 1) := dk_89 (dk_at dksX6_plain_1 12 rfl rfl)
theorem dX6_plain_37 : decode cX6_plain 37 = .ok (.aload_n 2, 1) := dk_44 (dk_at dksX6_plain_1 13 rfl rfl)
theorem dX6_plain_38 : decode cX6_plain 38 = .ok (.invokespecial 98, 3) := dk_183 0 98 (dk_at dksX6_plain_1 14 rfl rfl)
theorem dX6_plain_41 : decode cX6_plain 41 = .ok (.goto 4, 3) := dk_167 0 4 (dk_at dksX6_plain_1 17 rfl rfl)
theorem dX6_plain_44 : decode cX6_plain 44 = .ok (.aload_n 2, 1) := dk_44 (dk_at dksX6_plain_1 20 rfl rfl)
theorem dX6_plain_45 : decode cX6_plain 45 = .ok (.areturn, 1) := dk_176 (dk_at dksX6_plain_1 21 rfl rfl)
abbrev cX6_positive : ByteArray := prog_12_method_16_code
def yX6_positive : MethodName := ⟨RX6, "positive", "()LDowryBoxes$Test;"⟩
def dkwX6_positive_4 : List UInt8 := [187, 0, 125, 89, 28, 43, 42, 182, 0, 115, 183, 0, 127, 176]
abbrev dktX6_positive_4 : List UInt8 := dkwX6_positive_4 ++ []
def dkwX6_positive_3 : List UInt8 := [89, 42, 180, 0, 22, 183, 0, 51, 191, 42, 180, 0, 9, 42, 180, 0, 22, 51, 146, 61, 42, 182, 0, 43]
abbrev dktX6_positive_3 : List UInt8 := dkwX6_positive_3 ++ dktX6_positive_4
def dkwX6_positive_2 : List UInt8 := [154, 0, 33, 42, 18, 121, 182, 0, 39, 154, 0, 24, 42, 18, 123, 182, 0, 39, 154, 0, 15, 187, 0, 49]
abbrev dktX6_positive_2 : List UInt8 := dkwX6_positive_2 ++ dktX6_positive_3
def dkwX6_positive_1 : List UInt8 := [42, 89, 180, 0, 88, 4, 100, 181, 0, 88, 43, 176, 42, 182, 0, 115, 76, 42, 18, 119, 182, 0, 39]
abbrev dktX6_positive_1 : List UInt8 := dkwX6_positive_1 ++ dktX6_positive_2
def dkwX6_positive_0 : List UInt8 := [42, 18, 101, 182, 0, 39, 153, 0, 30, 42, 182, 0, 103, 42, 182, 0, 106, 76, 42, 18, 109, 182, 0, 111]
abbrev dktX6_positive_0 : List UInt8 := dkwX6_positive_0 ++ dktX6_positive_1
theorem dksX6_positive_0 : cX6_positive.data.toList.drop 0 = dktX6_positive_0 := by decide +kernel
theorem dksX6_positive_1 : cX6_positive.data.toList.drop 24 = dktX6_positive_1 := dk_seg dksX6_positive_0 24 rfl rfl
theorem dksX6_positive_2 : cX6_positive.data.toList.drop 47 = dktX6_positive_2 := dk_seg dksX6_positive_1 23 rfl rfl
theorem dksX6_positive_3 : cX6_positive.data.toList.drop 71 = dktX6_positive_3 := dk_seg dksX6_positive_2 24 rfl rfl
theorem dksX6_positive_4 : cX6_positive.data.toList.drop 95 = dktX6_positive_4 := dk_seg dksX6_positive_3 24 rfl rfl
theorem dX6_positive_0 : decode cX6_positive 0 = .ok (.aload_n 0, 1) := dk_42 (dk_at dksX6_positive_0 0 rfl rfl)
theorem dX6_positive_1 : decode cX6_positive 1 = .ok (.ldc 101, 2) := dk_18 101 (dk_at dksX6_positive_0 1 rfl rfl)
theorem dX6_positive_3 : decode cX6_positive 3 = .ok (.invokevirtual 39, 3) := dk_182 0 39 (dk_at dksX6_positive_0 3 rfl rfl)
theorem dX6_positive_6 : decode cX6_positive 6 = .ok (.ifCond .eq 30, 3) := dk_153 0 30 (dk_at dksX6_positive_0 6 rfl rfl)
theorem dX6_positive_9 : decode cX6_positive 9 = .ok (.aload_n 0, 1) := dk_42 (dk_at dksX6_positive_0 9 rfl rfl)
theorem dX6_positive_10 : decode cX6_positive 10 = .ok (.invokevirtual 103, 3) := dk_182 0 103 (dk_at dksX6_positive_0 10 rfl rfl)
theorem dX6_positive_13 : decode cX6_positive 13 = .ok (.aload_n 0, 1) := dk_42 (dk_at dksX6_positive_0 13 rfl rfl)
theorem dX6_positive_14 : decode cX6_positive 14 = .ok (.invokevirtual 106, 3) := dk_182 0 106 (dk_at dksX6_positive_0 14 rfl rfl)
theorem dX6_positive_17 : decode cX6_positive 17 = .ok (.astore_n 1, 1) := dk_76 (dk_at dksX6_positive_0 17 rfl rfl)
theorem dX6_positive_18 : decode cX6_positive 18 = .ok (.aload_n 0, 1) := dk_42 (dk_at dksX6_positive_0 18 rfl rfl)
theorem dX6_positive_19 : decode cX6_positive 19 = .ok (.ldc 109, 2) := dk_18 109 (dk_at dksX6_positive_0 19 rfl rfl)
theorem dX6_positive_21 : decode cX6_positive 21 = .ok (.invokevirtual 111, 3) := dk_182 0 111 (dk_at dksX6_positive_0 21 rfl rfl)
theorem dX6_positive_24 : decode cX6_positive 24 = .ok (.aload_n 0, 1) := dk_42 (dk_at dksX6_positive_1 0 rfl rfl)
theorem dX6_positive_25 : decode cX6_positive 25 = .ok (.dup, 1) := dk_89 (dk_at dksX6_positive_1 1 rfl rfl)
theorem dX6_positive_26 : decode cX6_positive 26 = .ok (.getfield 88, 3) := dk_180 0 88 (dk_at dksX6_positive_1 2 rfl rfl)
theorem dX6_positive_29 : decode cX6_positive 29 = .ok (.iconst 1, 1) := dk_4 (dk_at dksX6_positive_1 5 rfl rfl)
theorem dX6_positive_30 : decode cX6_positive 30 = .ok (.isub, 1) := dk_100 (dk_at dksX6_positive_1 6 rfl rfl)
theorem dX6_positive_31 : decode cX6_positive 31 = .ok (.putfield 88, 3) := dk_181 0 88 (dk_at dksX6_positive_1 7 rfl rfl)
theorem dX6_positive_34 : decode cX6_positive 34 = .ok (.aload_n 1, 1) := dk_43 (dk_at dksX6_positive_1 10 rfl rfl)
theorem dX6_positive_35 : decode cX6_positive 35 = .ok (.areturn, 1) := dk_176 (dk_at dksX6_positive_1 11 rfl rfl)
theorem dX6_positive_36 : decode cX6_positive 36 = .ok (.aload_n 0, 1) := dk_42 (dk_at dksX6_positive_1 12 rfl rfl)
theorem dX6_positive_37 : decode cX6_positive 37 = .ok (.invokevirtual 115, 3) := dk_182 0 115 (dk_at dksX6_positive_1 13 rfl rfl)
theorem dX6_positive_40 : decode cX6_positive 40 = .ok (.astore_n 1, 1) := dk_76 (dk_at dksX6_positive_1 16 rfl rfl)
theorem dX6_positive_41 : decode cX6_positive 41 = .ok (.aload_n 0, 1) := dk_42 (dk_at dksX6_positive_1 17 rfl rfl)
theorem dX6_positive_42 : decode cX6_positive 42 = .ok (.ldc 119, 2) := dk_18 119 (dk_at dksX6_positive_1 18 rfl rfl)
theorem dX6_positive_44 : decode cX6_positive 44 = .ok (.invokevirtual 39, 3) := dk_182 0 39 (dk_at dksX6_positive_1 20 rfl rfl)
theorem dX6_positive_47 : decode cX6_positive 47 = .ok (.ifCond .ne 33, 3) := dk_154 0 33 (dk_at dksX6_positive_2 0 rfl rfl)
theorem dX6_positive_50 : decode cX6_positive 50 = .ok (.aload_n 0, 1) := dk_42 (dk_at dksX6_positive_2 3 rfl rfl)
theorem dX6_positive_51 : decode cX6_positive 51 = .ok (.ldc 121, 2) := dk_18 121 (dk_at dksX6_positive_2 4 rfl rfl)
theorem dX6_positive_53 : decode cX6_positive 53 = .ok (.invokevirtual 39, 3) := dk_182 0 39 (dk_at dksX6_positive_2 6 rfl rfl)
theorem dX6_positive_56 : decode cX6_positive 56 = .ok (.ifCond .ne 24, 3) := dk_154 0 24 (dk_at dksX6_positive_2 9 rfl rfl)
theorem dX6_positive_59 : decode cX6_positive 59 = .ok (.aload_n 0, 1) := dk_42 (dk_at dksX6_positive_2 12 rfl rfl)
theorem dX6_positive_60 : decode cX6_positive 60 = .ok (.ldc 123, 2) := dk_18 123 (dk_at dksX6_positive_2 13 rfl rfl)
theorem dX6_positive_62 : decode cX6_positive 62 = .ok (.invokevirtual 39, 3) := dk_182 0 39 (dk_at dksX6_positive_2 15 rfl rfl)
theorem dX6_positive_65 : decode cX6_positive 65 = .ok (.ifCond .ne 15, 3) := dk_154 0 15 (dk_at dksX6_positive_2 18 rfl rfl)
theorem dX6_positive_68 : decode cX6_positive 68 = .ok (.new 49, 3) := dk_187 0 49 (dk_at dksX6_positive_2 21 rfl rfl)
theorem dX6_positive_71 : decode cX6_positive 71 = .ok (.dup, 1) := dk_89 (dk_at dksX6_positive_3 0 rfl rfl)
theorem dX6_positive_72 : decode cX6_positive 72 = .ok (.aload_n 0, 1) := dk_42 (dk_at dksX6_positive_3 1 rfl rfl)
theorem dX6_positive_73 : decode cX6_positive 73 = .ok (.getfield 22, 3) := dk_180 0 22 (dk_at dksX6_positive_3 2 rfl rfl)
theorem dX6_positive_76 : decode cX6_positive 76 = .ok (.invokespecial 51, 3) := dk_183 0 51 (dk_at dksX6_positive_3 5 rfl rfl)
theorem dX6_positive_79 : decode cX6_positive 79 = .ok (.athrow, 1) := dk_191 (dk_at dksX6_positive_3 8 rfl rfl)
theorem dX6_positive_80 : decode cX6_positive 80 = .ok (.aload_n 0, 1) := dk_42 (dk_at dksX6_positive_3 9 rfl rfl)
theorem dX6_positive_81 : decode cX6_positive 81 = .ok (.getfield 9, 3) := dk_180 0 9 (dk_at dksX6_positive_3 10 rfl rfl)
theorem dX6_positive_84 : decode cX6_positive 84 = .ok (.aload_n 0, 1) := dk_42 (dk_at dksX6_positive_3 13 rfl rfl)
theorem dX6_positive_85 : decode cX6_positive 85 = .ok (.getfield 22, 3) := dk_180 0 22 (dk_at dksX6_positive_3 14 rfl rfl)
theorem dX6_positive_88 : decode cX6_positive 88 = .ok (.baload, 1) := dk_51 (dk_at dksX6_positive_3 17 rfl rfl)
theorem dX6_positive_89 : decode cX6_positive 89 = .ok (.i2c, 1) := dk_146 (dk_at dksX6_positive_3 18 rfl rfl)
theorem dX6_positive_90 : decode cX6_positive 90 = .ok (.istore_n 2, 1) := dk_61 (dk_at dksX6_positive_3 19 rfl rfl)
theorem dX6_positive_91 : decode cX6_positive 91 = .ok (.aload_n 0, 1) := dk_42 (dk_at dksX6_positive_3 20 rfl rfl)
theorem dX6_positive_92 : decode cX6_positive 92 = .ok (.invokevirtual 43, 3) := dk_182 0 43 (dk_at dksX6_positive_3 21 rfl rfl)
theorem dX6_positive_95 : decode cX6_positive 95 = .ok (.new 125, 3) := dk_187 0 125 (dk_at dksX6_positive_4 0 rfl rfl)
theorem dX6_positive_98 : decode cX6_positive 98 = .ok (.dup, 1) := dk_89 (dk_at dksX6_positive_4 3 rfl rfl)
theorem dX6_positive_99 : decode cX6_positive 99 = .ok (.iload_n 2, 1) := dk_28 (dk_at dksX6_positive_4 4 rfl rfl)
theorem dX6_positive_100 : decode cX6_positive 100 = .ok (.aload_n 1, 1) := dk_43 (dk_at dksX6_positive_4 5 rfl rfl)
theorem dX6_positive_101 : decode cX6_positive 101 = .ok (.aload_n 0, 1) := dk_42 (dk_at dksX6_positive_4 6 rfl rfl)
theorem dX6_positive_102 : decode cX6_positive 102 = .ok (.invokevirtual 115, 3) := dk_182 0 115 (dk_at dksX6_positive_4 7 rfl rfl)
theorem dX6_positive_105 : decode cX6_positive 105 = .ok (.invokespecial 127, 3) := dk_183 0 127 (dk_at dksX6_positive_4 10 rfl rfl)
theorem dX6_positive_108 : decode cX6_positive 108 = .ok (.areturn, 1) := dk_176 (dk_at dksX6_positive_4 13 rfl rfl)
abbrev cX6_behind : ByteArray := prog_12_method_22_code
def yX6_behind : MethodName := ⟨RX6, "behind", "(Ljava/lang/String;)LDowryBoxes$Sum;"⟩
def dkwX6_behind_0 : List UInt8 := [42, 43, 182, 0, 111, 42, 182, 0, 115, 176]
abbrev dktX6_behind_0 : List UInt8 := dkwX6_behind_0 ++ []
theorem dksX6_behind_0 : cX6_behind.data.toList.drop 0 = dktX6_behind_0 := by decide +kernel
theorem dX6_behind_0 : decode cX6_behind 0 = .ok (.aload_n 0, 1) := dk_42 (dk_at dksX6_behind_0 0 rfl rfl)
theorem dX6_behind_1 : decode cX6_behind 1 = .ok (.aload_n 1, 1) := dk_43 (dk_at dksX6_behind_0 1 rfl rfl)
theorem dX6_behind_2 : decode cX6_behind 2 = .ok (.invokevirtual 111, 3) := dk_182 0 111 (dk_at dksX6_behind_0 2 rfl rfl)
theorem dX6_behind_5 : decode cX6_behind 5 = .ok (.aload_n 0, 1) := dk_42 (dk_at dksX6_behind_0 5 rfl rfl)
theorem dX6_behind_6 : decode cX6_behind 6 = .ok (.invokevirtual 115, 3) := dk_182 0 115 (dk_at dksX6_behind_0 6 rfl rfl)
theorem dX6_behind_9 : decode cX6_behind 9 = .ok (.areturn, 1) := dk_176 (dk_at dksX6_behind_0 9 rfl rfl)
theorem q136 : (Jvm.Cond.initialized "DowryBoxes$Reader") ∈ lw_all := lw_g (lw_at lw_m1 16 rfl) rfl
theorem q784 : (Jvm.Cond.instanceMethod ({ cls := "DowryBoxes$Reader", name := "<init>", desc := "([BI)V" } : Jvm.MethodName)) ∈ lw_all := lw_g (lw_at lw_m3 184 rfl) rfl
theorem q785 : (Jvm.Cond.code ({ cls := "DowryBoxes$Reader", name := "<init>", desc := "([BI)V" } : Jvm.MethodName) prog_12_method_1_code (3 : Nat) (Option.none : Option Jvm.ClassFile.FieldType)) ∈ lw_all := lw_g (lw_at lw_m3 185 rfl) rfl
theorem q786 : (Jvm.Cond.methodLink "DowryBoxes$Reader" (3 : Nat) ({ cls := "java/lang/Object", name := "<init>", desc := "()V" } : Jvm.MethodName)) ∈ lw_all := lw_g (lw_at lw_m3 186 rfl) rfl
theorem q791 : (Jvm.Cond.fieldLink "DowryBoxes$Reader" (9 : Nat) "DowryBoxes$Reader" "tape" "[B") ∈ lw_all := lw_g (lw_at lw_m3 191 rfl) rfl
theorem q792 : (Jvm.Cond.fieldLink "DowryBoxes$Reader" (15 : Nat) "DowryBoxes$Reader" "size" "I") ∈ lw_all := lw_g (lw_at lw_m3 192 rfl) rfl
theorem q793 : (Jvm.Cond.fieldLink "DowryBoxes$Reader" (59 : Nat) "DowryBoxes$Reader" "made" "I") ∈ lw_all := lw_g (lw_at lw_m3 193 rfl) rfl
theorem q794 : (Jvm.Cond.fieldLink "DowryBoxes$Reader" (22 : Nat) "DowryBoxes$Reader" "from" "I") ∈ lw_all := lw_g (lw_at lw_m3 194 rfl) rfl
theorem q795 : (Jvm.Cond.fieldLink "DowryBoxes$Reader" (19 : Nat) "DowryBoxes$Reader" "to" "I") ∈ lw_all := lw_g (lw_at lw_m3 195 rfl) rfl
theorem q796 : (Jvm.Cond.fieldLink "DowryBoxes$Reader" (149 : Nat) "DowryBoxes$Reader" "leaves" "I") ∈ lw_all := lw_g (lw_at lw_m3 196 rfl) rfl
theorem q797 : (Jvm.Cond.fieldLink "DowryBoxes$Reader" (88 : Nat) "DowryBoxes$Reader" "deep" "I") ∈ lw_all := lw_g (lw_at lw_m3 197 rfl) rfl
theorem q801 : (Jvm.Cond.soleField "DowryBoxes$Reader" "tape") ∈ lw_all := lw_g (lw_at lw_m3 201 rfl) rfl
theorem q803 : (Jvm.Cond.soleField "DowryBoxes$Reader" "size") ∈ lw_all := lw_g (lw_at lw_m3 203 rfl) rfl
theorem q805 : (Jvm.Cond.soleField "DowryBoxes$Reader" "made") ∈ lw_all := lw_g (lw_at lw_m3 205 rfl) rfl
theorem q807 : (Jvm.Cond.soleField "DowryBoxes$Reader" "from") ∈ lw_all := lw_g (lw_at lw_m3 207 rfl) rfl
theorem q809 : (Jvm.Cond.soleField "DowryBoxes$Reader" "to") ∈ lw_all := lw_g (lw_at lw_m3 209 rfl) rfl
theorem q811 : (Jvm.Cond.soleField "DowryBoxes$Reader" "leaves") ∈ lw_all := lw_g (lw_at lw_m3 211 rfl) rfl
theorem q813 : (Jvm.Cond.soleField "DowryBoxes$Reader" "deep") ∈ lw_all := lw_g (lw_at lw_m3 213 rfl) rfl
theorem q821 : (Jvm.Cond.instanceMethod ({ cls := "DowryBoxes$Reader", name := "read", desc := "()V" } : Jvm.MethodName)) ∈ lw_all := lw_g (lw_at lw_m3 221 rfl) rfl
theorem q822 : (Jvm.Cond.sameMethod "DowryBoxes$Reader" "DowryBoxes$Reader" "read" "()V") ∈ lw_all := lw_g (lw_at lw_m3 222 rfl) rfl
theorem q825 : (Jvm.Cond.code ({ cls := "DowryBoxes$Reader", name := "read", desc := "()V" } : Jvm.MethodName) prog_12_method_10_code (1 : Nat) (Option.none : Option Jvm.ClassFile.FieldType)) ∈ lw_all := lw_g (lw_at lw_m3 225 rfl) rfl
theorem q826 : (Jvm.Cond.methodLink "DowryBoxes$Reader" (43 : Nat) ({ cls := "DowryBoxes$Reader", name := "next", desc := "()V" } : Jvm.MethodName)) ∈ lw_all := lw_g (lw_at lw_m3 226 rfl) rfl
theorem q827 : (Jvm.Cond.instanceMethod ({ cls := "DowryBoxes$Reader", name := "next", desc := "()V" } : Jvm.MethodName)) ∈ lw_all := lw_g (lw_at lw_m3 227 rfl) rfl
theorem q828 : (Jvm.Cond.sameMethod "DowryBoxes$Reader" "DowryBoxes$Reader" "next" "()V") ∈ lw_all := lw_g (lw_at lw_m3 228 rfl) rfl
theorem q831 : (Jvm.Cond.code ({ cls := "DowryBoxes$Reader", name := "next", desc := "()V" } : Jvm.MethodName) prog_12_method_3_code (1 : Nat) (Option.none : Option Jvm.ClassFile.FieldType)) ∈ lw_all := lw_g (lw_at lw_m3 231 rfl) rfl
theorem q832 : (Jvm.Cond.methodLink "DowryBoxes$Reader" (25 : Nat) ({ cls := "DowryBoxes$Reader", name := "isIn", desc := "(III)Z" } : Jvm.MethodName)) ∈ lw_all := lw_g (lw_at lw_m3 232 rfl) rfl
theorem q833 : (Jvm.Cond.instanceMethod ({ cls := "DowryBoxes$Reader", name := "isIn", desc := "(III)Z" } : Jvm.MethodName)) ∈ lw_all := lw_g (lw_at lw_m3 233 rfl) rfl
theorem q834 : (Jvm.Cond.sameMethod "DowryBoxes$Reader" "DowryBoxes$Reader" "isIn" "(III)Z") ∈ lw_all := lw_g (lw_at lw_m3 234 rfl) rfl
theorem q837 : (Jvm.Cond.code ({ cls := "DowryBoxes$Reader", name := "isIn", desc := "(III)Z" } : Jvm.MethodName) prog_12_method_2_code (4 : Nat) (Option.some Jvm.ClassFile.FieldType.boolean)) ∈ lw_all := lw_g (lw_at lw_m3 237 rfl) rfl
theorem q838 : (Jvm.Cond.methodLink "DowryBoxes$Reader" (54 : Nat) ({ cls := "DowryBoxes$Reader", name := "clause", desc := "()V" } : Jvm.MethodName)) ∈ lw_all := lw_g (lw_at lw_m3 238 rfl) rfl
theorem q839 : (Jvm.Cond.declares ({ cls := "DowryBoxes$Reader", name := "clause", desc := "()V" } : Jvm.MethodName)) ∈ lw_tbl := lw_at lw_m3 239 rfl
theorem q840 : (Jvm.Cond.sameMethod "DowryBoxes$Reader" "DowryBoxes$Reader" "clause" "()V") ∈ lw_all := lw_g (lw_at lw_m4 0 rfl) rfl
theorem q847 : (Jvm.Cond.declares ({ cls := "DowryBoxes$Reader", name := "is", desc := "(Ljava/lang/String;)Z" } : Jvm.MethodName)) ∈ lw_tbl := lw_at lw_m4 7 rfl
theorem q849 : (Jvm.Cond.instanceMethod ({ cls := "DowryBoxes$Reader", name := "is", desc := "(Ljava/lang/String;)Z" } : Jvm.MethodName)) ∈ lw_all := lw_g (lw_at lw_m4 9 rfl) rfl
theorem q850 : (Jvm.Cond.code ({ cls := "DowryBoxes$Reader", name := "is", desc := "(Ljava/lang/String;)Z" } : Jvm.MethodName) prog_12_method_4_code (3 : Nat) (Option.some Jvm.ClassFile.FieldType.boolean)) ∈ lw_all := lw_g (lw_at lw_m4 10 rfl) rfl
theorem q851 : (Jvm.Cond.methodLink "DowryBoxes$Reader" (29 : Nat) ({ cls := "java/lang/String", name := "length", desc := "()I" } : Jvm.MethodName)) ∈ lw_all := lw_g (lw_at lw_m4 11 rfl) rfl
theorem q861 : (Jvm.Cond.methodLink "DowryBoxes$Reader" (35 : Nat) ({ cls := "java/lang/String", name := "charAt", desc := "(I)C" } : Jvm.MethodName)) ∈ lw_all := lw_g (lw_at lw_m4 21 rfl) rfl
theorem q902 : (Jvm.Cond.declares ({ cls := "DowryBoxes$Reader", name := "begins", desc := "(Z)V" } : Jvm.MethodName)) ∈ lw_tbl := lw_at lw_m4 62 rfl
theorem q904 : (Jvm.Cond.instanceMethod ({ cls := "DowryBoxes$Reader", name := "begins", desc := "(Z)V" } : Jvm.MethodName)) ∈ lw_all := lw_g (lw_at lw_m4 64 rfl) rfl
theorem q905 : (Jvm.Cond.code ({ cls := "DowryBoxes$Reader", name := "begins", desc := "(Z)V" } : Jvm.MethodName) prog_12_method_11_code (2 : Nat) (Option.none : Option Jvm.ClassFile.FieldType)) ∈ lw_all := lw_g (lw_at lw_m4 65 rfl) rfl
theorem q906 : (Jvm.Cond.classLink "DowryBoxes$Reader" (49 : Nat) "DowryBoxes$Fault") ∈ lw_all := lw_g (lw_at lw_m4 66 rfl) rfl
theorem q915 : (Jvm.Cond.methodLink "DowryBoxes$Reader" (51 : Nat) ({ cls := "DowryBoxes$Fault", name := "<init>", desc := "(I)V" } : Jvm.MethodName)) ∈ lw_all := lw_g (lw_at lw_m4 75 rfl) rfl
theorem q927 : (Jvm.Cond.declares ({ cls := "DowryBoxes$Reader", name := "next", desc := "()V" } : Jvm.MethodName)) ∈ lw_tbl := lw_at lw_m4 87 rfl
theorem q950 : (Jvm.Cond.declares ({ cls := "DowryBoxes$Reader", name := "sum", desc := "()LDowryBoxes$Sum;" } : Jvm.MethodName)) ∈ lw_tbl := lw_at lw_m4 110 rfl
theorem q952 : (Jvm.Cond.instanceMethod ({ cls := "DowryBoxes$Reader", name := "sum", desc := "()LDowryBoxes$Sum;" } : Jvm.MethodName)) ∈ lw_all := lw_g (lw_at lw_m4 112 rfl) rfl
theorem q953 : (Jvm.Cond.code ({ cls := "DowryBoxes$Reader", name := "sum", desc := "()LDowryBoxes$Sum;" } : Jvm.MethodName) prog_12_method_17_code (3 : Nat) (Option.some (Jvm.ClassFile.FieldType.object "DowryBoxes$Sum"))) ∈ lw_all := lw_g (lw_at lw_m4 113 rfl) rfl
theorem q954 : (Jvm.Cond.methodLink "DowryBoxes$Reader" (130 : Nat) ({ cls := "DowryBoxes$Reader", name := "term", desc := "()LDowryBoxes$Sum;" } : Jvm.MethodName)) ∈ lw_all := lw_g (lw_at lw_m4 114 rfl) rfl
theorem q955 : (Jvm.Cond.instanceMethod ({ cls := "DowryBoxes$Reader", name := "term", desc := "()LDowryBoxes$Sum;" } : Jvm.MethodName)) ∈ lw_all := lw_g (lw_at lw_m4 115 rfl) rfl
theorem q956 : (Jvm.Cond.sameMethod "DowryBoxes$Reader" "DowryBoxes$Reader" "term" "()LDowryBoxes$Sum;") ∈ lw_all := lw_g (lw_at lw_m4 116 rfl) rfl
theorem q959 : (Jvm.Cond.code ({ cls := "DowryBoxes$Reader", name := "term", desc := "()LDowryBoxes$Sum;" } : Jvm.MethodName) prog_12_method_18_code (3 : Nat) (Option.some (Jvm.ClassFile.FieldType.object "DowryBoxes$Sum"))) ∈ lw_all := lw_g (lw_at lw_m4 119 rfl) rfl
theorem q960 : (Jvm.Cond.methodLink "DowryBoxes$Reader" (140 : Nat) ({ cls := "DowryBoxes$Reader", name := "part", desc := "()LDowryBoxes$Sum;" } : Jvm.MethodName)) ∈ lw_all := lw_g (lw_at lw_m4 120 rfl) rfl
theorem q961 : (Jvm.Cond.instanceMethod ({ cls := "DowryBoxes$Reader", name := "part", desc := "()LDowryBoxes$Sum;" } : Jvm.MethodName)) ∈ lw_all := lw_g (lw_at lw_m4 121 rfl) rfl
theorem q962 : (Jvm.Cond.sameMethod "DowryBoxes$Reader" "DowryBoxes$Reader" "part" "()LDowryBoxes$Sum;") ∈ lw_all := lw_g (lw_at lw_m4 122 rfl) rfl
theorem q965 : (Jvm.Cond.code ({ cls := "DowryBoxes$Reader", name := "part", desc := "()LDowryBoxes$Sum;" } : Jvm.MethodName) prog_12_method_20_code (2 : Nat) (Option.some (Jvm.ClassFile.FieldType.object "DowryBoxes$Sum"))) ∈ lw_all := lw_g (lw_at lw_m4 125 rfl) rfl
theorem q966 : (Jvm.Cond.stringRef "DowryBoxes$Reader" (152 : Nat) "[") ∈ lw_tbl := lw_at lw_m4 126 rfl
theorem q967 : (Jvm.Cond.methodLink "DowryBoxes$Reader" (39 : Nat) ({ cls := "DowryBoxes$Reader", name := "is", desc := "(Ljava/lang/String;)Z" } : Jvm.MethodName)) ∈ lw_all := lw_g (lw_at lw_m4 127 rfl) rfl
theorem q968 : (Jvm.Cond.methodLink "DowryBoxes$Reader" (103 : Nat) ({ cls := "DowryBoxes$Reader", name := "opens", desc := "()V" } : Jvm.MethodName)) ∈ lw_all := lw_g (lw_at lw_m4 128 rfl) rfl
theorem q969 : (Jvm.Cond.instanceMethod ({ cls := "DowryBoxes$Reader", name := "opens", desc := "()V" } : Jvm.MethodName)) ∈ lw_all := lw_g (lw_at lw_m4 129 rfl) rfl
theorem q970 : (Jvm.Cond.sameMethod "DowryBoxes$Reader" "DowryBoxes$Reader" "opens" "()V") ∈ lw_all := lw_g (lw_at lw_m4 130 rfl) rfl
theorem q973 : (Jvm.Cond.code ({ cls := "DowryBoxes$Reader", name := "opens", desc := "()V" } : Jvm.MethodName) prog_12_method_14_code (1 : Nat) (Option.none : Option Jvm.ClassFile.FieldType)) ∈ lw_all := lw_g (lw_at lw_m4 133 rfl) rfl
theorem q974 : (Jvm.Cond.methodLink "DowryBoxes$Reader" (115 : Nat) ({ cls := "DowryBoxes$Reader", name := "sum", desc := "()LDowryBoxes$Sum;" } : Jvm.MethodName)) ∈ lw_all := lw_g (lw_at lw_m4 134 rfl) rfl
theorem q975 : (Jvm.Cond.stringRef "DowryBoxes$Reader" (154 : Nat) "]") ∈ lw_tbl := lw_at lw_m4 135 rfl
theorem q976 : (Jvm.Cond.methodLink "DowryBoxes$Reader" (111 : Nat) ({ cls := "DowryBoxes$Reader", name := "need", desc := "(Ljava/lang/String;)V" } : Jvm.MethodName)) ∈ lw_all := lw_g (lw_at lw_m4 136 rfl) rfl
theorem q977 : (Jvm.Cond.instanceMethod ({ cls := "DowryBoxes$Reader", name := "need", desc := "(Ljava/lang/String;)V" } : Jvm.MethodName)) ∈ lw_all := lw_g (lw_at lw_m4 137 rfl) rfl
theorem q978 : (Jvm.Cond.sameMethod "DowryBoxes$Reader" "DowryBoxes$Reader" "need" "(Ljava/lang/String;)V") ∈ lw_all := lw_g (lw_at lw_m4 138 rfl) rfl
theorem q981 : (Jvm.Cond.code ({ cls := "DowryBoxes$Reader", name := "need", desc := "(Ljava/lang/String;)V" } : Jvm.MethodName) prog_12_method_6_code (2 : Nat) (Option.none : Option Jvm.ClassFile.FieldType)) ∈ lw_all := lw_g (lw_at lw_m4 141 rfl) rfl
theorem q982 : (Jvm.Cond.methodLink "DowryBoxes$Reader" (46 : Nat) ({ cls := "DowryBoxes$Reader", name := "takes", desc := "(Ljava/lang/String;)Z" } : Jvm.MethodName)) ∈ lw_all := lw_g (lw_at lw_m4 142 rfl) rfl
theorem q983 : (Jvm.Cond.instanceMethod ({ cls := "DowryBoxes$Reader", name := "takes", desc := "(Ljava/lang/String;)Z" } : Jvm.MethodName)) ∈ lw_all := lw_g (lw_at lw_m4 143 rfl) rfl
theorem q984 : (Jvm.Cond.sameMethod "DowryBoxes$Reader" "DowryBoxes$Reader" "takes" "(Ljava/lang/String;)Z") ∈ lw_all := lw_g (lw_at lw_m4 144 rfl) rfl
theorem q987 : (Jvm.Cond.code ({ cls := "DowryBoxes$Reader", name := "takes", desc := "(Ljava/lang/String;)Z" } : Jvm.MethodName) prog_12_method_5_code (3 : Nat) (Option.some Jvm.ClassFile.FieldType.boolean)) ∈ lw_all := lw_g (lw_at lw_m4 147 rfl) rfl
theorem q988 : (Jvm.Cond.methodLink "DowryBoxes$Reader" (156 : Nat) ({ cls := "DowryBoxes$Reader", name := "leaf", desc := "()V" } : Jvm.MethodName)) ∈ lw_all := lw_g (lw_at lw_m4 148 rfl) rfl
theorem q989 : (Jvm.Cond.instanceMethod ({ cls := "DowryBoxes$Reader", name := "leaf", desc := "()V" } : Jvm.MethodName)) ∈ lw_all := lw_g (lw_at lw_m4 149 rfl) rfl
theorem q990 : (Jvm.Cond.sameMethod "DowryBoxes$Reader" "DowryBoxes$Reader" "leaf" "()V") ∈ lw_all := lw_g (lw_at lw_m4 150 rfl) rfl
theorem q993 : (Jvm.Cond.code ({ cls := "DowryBoxes$Reader", name := "leaf", desc := "()V" } : Jvm.MethodName) prog_12_method_19_code (1 : Nat) (Option.none : Option Jvm.ClassFile.FieldType)) ∈ lw_all := lw_g (lw_at lw_m4 153 rfl) rfl
theorem q994 : (Jvm.Cond.classLink "DowryBoxes$Reader" (159 : Nat) "DowryBoxes$Number") ∈ lw_all := lw_g (lw_at lw_m4 154 rfl) rfl
theorem q996 : (Jvm.Cond.methodLink "DowryBoxes$Reader" (161 : Nat) ({ cls := "DowryBoxes$Reader", name := "number", desc := "(II)I" } : Jvm.MethodName)) ∈ lw_all := lw_g (lw_at lw_m4 156 rfl) rfl
theorem q997 : (Jvm.Cond.instanceMethod ({ cls := "DowryBoxes$Reader", name := "number", desc := "(II)I" } : Jvm.MethodName)) ∈ lw_all := lw_g (lw_at lw_m4 157 rfl) rfl
theorem q998 : (Jvm.Cond.sameMethod "DowryBoxes$Reader" "DowryBoxes$Reader" "number" "(II)I") ∈ lw_all := lw_g (lw_at lw_m4 158 rfl) rfl
theorem q1001 : (Jvm.Cond.code ({ cls := "DowryBoxes$Reader", name := "number", desc := "(II)I" } : Jvm.MethodName) prog_12_method_7_code (5 : Nat) (Option.some Jvm.ClassFile.FieldType.int)) ∈ lw_all := lw_g (lw_at lw_m4 161 rfl) rfl
theorem q1002 : (Jvm.Cond.methodLink "DowryBoxes$Reader" (165 : Nat) ({ cls := "DowryBoxes$Number", name := "<init>", desc := "(I)V" } : Jvm.MethodName)) ∈ lw_all := lw_g (lw_at lw_m4 162 rfl) rfl
theorem q1013 : (Jvm.Cond.methodLink "DowryBoxes$Reader" (166 : Nat) ({ cls := "DowryBoxes$Reader", name := "value", desc := "()I" } : Jvm.MethodName)) ∈ lw_all := lw_g (lw_at lw_m4 173 rfl) rfl
theorem q1014 : (Jvm.Cond.declares ({ cls := "DowryBoxes$Reader", name := "value", desc := "()I" } : Jvm.MethodName)) ∈ lw_tbl := lw_at lw_m4 174 rfl
theorem q1015 : (Jvm.Cond.sameMethod "DowryBoxes$Reader" "DowryBoxes$Reader" "value" "()I") ∈ lw_all := lw_g (lw_at lw_m4 175 rfl) rfl
theorem q1022 : (Jvm.Cond.declares ({ cls := "DowryBoxes$Reader", name := "isValue", desc := "(Ljava/lang/String;)Z" } : Jvm.MethodName)) ∈ lw_tbl := lw_at lw_m4 182 rfl
theorem q1024 : (Jvm.Cond.instanceMethod ({ cls := "DowryBoxes$Reader", name := "isValue", desc := "(Ljava/lang/String;)Z" } : Jvm.MethodName)) ∈ lw_all := lw_g (lw_at lw_m4 184 rfl) rfl
theorem q1025 : (Jvm.Cond.code ({ cls := "DowryBoxes$Reader", name := "isValue", desc := "(Ljava/lang/String;)Z" } : Jvm.MethodName) prog_12_method_21_code (2 : Nat) (Option.some Jvm.ClassFile.FieldType.boolean)) ∈ lw_all := lw_g (lw_at lw_m4 185 rfl) rfl
theorem q1047 : (Jvm.Cond.declares ({ cls := "DowryBoxes$Reader", name := "number", desc := "(II)I" } : Jvm.MethodName)) ∈ lw_tbl := lw_at lw_m4 207 rfl
theorem q1050 : (Jvm.Cond.classLink "DowryBoxes$Reader" (169 : Nat) "DowryBoxes$Value") ∈ lw_all := lw_g (lw_at lw_m4 210 rfl) rfl
theorem q1052 : (Jvm.Cond.methodLink "DowryBoxes$Reader" (171 : Nat) ({ cls := "DowryBoxes$Value", name := "<init>", desc := "(I)V" } : Jvm.MethodName)) ∈ lw_all := lw_g (lw_at lw_m4 212 rfl) rfl
theorem q1060 : (Jvm.Cond.stringRef "DowryBoxes$Reader" (143 : Nat) "*") ∈ lw_tbl := lw_at lw_m4 220 rfl
theorem q1061 : (Jvm.Cond.stringRef "DowryBoxes$Reader" (145 : Nat) "/") ∈ lw_tbl := lw_at lw_m4 221 rfl
theorem q1062 : (Jvm.Cond.stringRef "DowryBoxes$Reader" (147 : Nat) "%") ∈ lw_tbl := lw_at lw_m4 222 rfl
theorem q1063 : (Jvm.Cond.classLink "DowryBoxes$Reader" (137 : Nat) "DowryBoxes$Two") ∈ lw_all := lw_g (lw_at lw_m4 223 rfl) rfl
theorem q1065 : (Jvm.Cond.methodLink "DowryBoxes$Reader" (139 : Nat) ({ cls := "DowryBoxes$Two", name := "<init>", desc := "(CLDowryBoxes$Sum;LDowryBoxes$Sum;)V" } : Jvm.MethodName)) ∈ lw_all := lw_g (lw_at lw_m4 225 rfl) rfl
theorem q1079 : (Jvm.Cond.stringRef "DowryBoxes$Reader" (133 : Nat) "+") ∈ lw_tbl := lw_at lw_m4 239 rfl
theorem q1080 : (Jvm.Cond.stringRef "DowryBoxes$Reader" (135 : Nat) "-") ∈ lw_tbl := lw_at lw_m5 0 rfl
theorem q1084 : (Jvm.Cond.declares ({ cls := "DowryBoxes$Reader", name := "takes", desc := "(Ljava/lang/String;)Z" } : Jvm.MethodName)) ∈ lw_tbl := lw_at lw_m5 4 rfl
theorem q1088 : (Jvm.Cond.declares ({ cls := "DowryBoxes$Reader", name := "test", desc := "()LDowryBoxes$Test;" } : Jvm.MethodName)) ∈ lw_tbl := lw_at lw_m5 8 rfl
theorem q1090 : (Jvm.Cond.instanceMethod ({ cls := "DowryBoxes$Reader", name := "test", desc := "()LDowryBoxes$Test;" } : Jvm.MethodName)) ∈ lw_all := lw_g (lw_at lw_m5 10 rfl) rfl
theorem q1091 : (Jvm.Cond.code ({ cls := "DowryBoxes$Reader", name := "test", desc := "()LDowryBoxes$Test;" } : Jvm.MethodName) prog_12_method_12_code (3 : Nat) (Option.some (Jvm.ClassFile.FieldType.object "DowryBoxes$Test"))) ∈ lw_all := lw_g (lw_at lw_m5 11 rfl) rfl
theorem q1092 : (Jvm.Cond.methodLink "DowryBoxes$Reader" (62 : Nat) ({ cls := "DowryBoxes$Reader", name := "both", desc := "()LDowryBoxes$Test;" } : Jvm.MethodName)) ∈ lw_all := lw_g (lw_at lw_m5 12 rfl) rfl
theorem q1093 : (Jvm.Cond.instanceMethod ({ cls := "DowryBoxes$Reader", name := "both", desc := "()LDowryBoxes$Test;" } : Jvm.MethodName)) ∈ lw_all := lw_g (lw_at lw_m5 13 rfl) rfl
theorem q1094 : (Jvm.Cond.sameMethod "DowryBoxes$Reader" "DowryBoxes$Reader" "both" "()LDowryBoxes$Test;") ∈ lw_all := lw_g (lw_at lw_m5 14 rfl) rfl
theorem q1097 : (Jvm.Cond.code ({ cls := "DowryBoxes$Reader", name := "both", desc := "()LDowryBoxes$Test;" } : Jvm.MethodName) prog_12_method_13_code (3 : Nat) (Option.some (Jvm.ClassFile.FieldType.object "DowryBoxes$Test"))) ∈ lw_all := lw_g (lw_at lw_m5 17 rfl) rfl
theorem q1098 : (Jvm.Cond.methodLink "DowryBoxes$Reader" (83 : Nat) ({ cls := "DowryBoxes$Reader", name := "plain", desc := "()LDowryBoxes$Test;" } : Jvm.MethodName)) ∈ lw_all := lw_g (lw_at lw_m5 18 rfl) rfl
theorem q1099 : (Jvm.Cond.instanceMethod ({ cls := "DowryBoxes$Reader", name := "plain", desc := "()LDowryBoxes$Test;" } : Jvm.MethodName)) ∈ lw_all := lw_g (lw_at lw_m5 19 rfl) rfl
theorem q1100 : (Jvm.Cond.sameMethod "DowryBoxes$Reader" "DowryBoxes$Reader" "plain" "()LDowryBoxes$Test;") ∈ lw_all := lw_g (lw_at lw_m5 20 rfl) rfl
theorem q1103 : (Jvm.Cond.code ({ cls := "DowryBoxes$Reader", name := "plain", desc := "()LDowryBoxes$Test;" } : Jvm.MethodName) prog_12_method_15_code (3 : Nat) (Option.some (Jvm.ClassFile.FieldType.object "DowryBoxes$Test"))) ∈ lw_all := lw_g (lw_at lw_m5 23 rfl) rfl
theorem q1104 : (Jvm.Cond.stringRef "DowryBoxes$Reader" (91 : Nat) "not") ∈ lw_tbl := lw_at lw_m5 24 rfl
theorem q1105 : (Jvm.Cond.methodLink "DowryBoxes$Reader" (93 : Nat) ({ cls := "DowryBoxes$Reader", name := "positive", desc := "()LDowryBoxes$Test;" } : Jvm.MethodName)) ∈ lw_all := lw_g (lw_at lw_m5 25 rfl) rfl
theorem q1106 : (Jvm.Cond.instanceMethod ({ cls := "DowryBoxes$Reader", name := "positive", desc := "()LDowryBoxes$Test;" } : Jvm.MethodName)) ∈ lw_all := lw_g (lw_at lw_m5 26 rfl) rfl
theorem q1107 : (Jvm.Cond.sameMethod "DowryBoxes$Reader" "DowryBoxes$Reader" "positive" "()LDowryBoxes$Test;") ∈ lw_all := lw_g (lw_at lw_m5 27 rfl) rfl
theorem q1110 : (Jvm.Cond.code ({ cls := "DowryBoxes$Reader", name := "positive", desc := "()LDowryBoxes$Test;" } : Jvm.MethodName) prog_12_method_16_code (3 : Nat) (Option.some (Jvm.ClassFile.FieldType.object "DowryBoxes$Test"))) ∈ lw_all := lw_g (lw_at lw_m5 30 rfl) rfl
theorem q1111 : (Jvm.Cond.stringRef "DowryBoxes$Reader" (101 : Nat) "(") ∈ lw_tbl := lw_at lw_m5 31 rfl
theorem q1112 : (Jvm.Cond.methodLink "DowryBoxes$Reader" (106 : Nat) ({ cls := "DowryBoxes$Reader", name := "test", desc := "()LDowryBoxes$Test;" } : Jvm.MethodName)) ∈ lw_all := lw_g (lw_at lw_m5 32 rfl) rfl
theorem q1113 : (Jvm.Cond.stringRef "DowryBoxes$Reader" (109 : Nat) ")") ∈ lw_tbl := lw_at lw_m5 33 rfl
theorem q1114 : (Jvm.Cond.stringRef "DowryBoxes$Reader" (119 : Nat) "<") ∈ lw_tbl := lw_at lw_m5 34 rfl
theorem q1115 : (Jvm.Cond.stringRef "DowryBoxes$Reader" (121 : Nat) ">") ∈ lw_tbl := lw_at lw_m5 35 rfl
theorem q1116 : (Jvm.Cond.stringRef "DowryBoxes$Reader" (123 : Nat) "=") ∈ lw_tbl := lw_at lw_m5 36 rfl
theorem q1117 : (Jvm.Cond.classLink "DowryBoxes$Reader" (125 : Nat) "DowryBoxes$Compare") ∈ lw_all := lw_g (lw_at lw_m5 37 rfl) rfl
theorem q1119 : (Jvm.Cond.methodLink "DowryBoxes$Reader" (127 : Nat) ({ cls := "DowryBoxes$Compare", name := "<init>", desc := "(CLDowryBoxes$Sum;LDowryBoxes$Sum;)V" } : Jvm.MethodName)) ∈ lw_all := lw_g (lw_at lw_m5 39 rfl) rfl
theorem q1136 : (Jvm.Cond.classLink "DowryBoxes$Reader" (96 : Nat) "DowryBoxes$Not") ∈ lw_all := lw_g (lw_at lw_m5 56 rfl) rfl
theorem q1138 : (Jvm.Cond.methodLink "DowryBoxes$Reader" (98 : Nat) ({ cls := "DowryBoxes$Not", name := "<init>", desc := "(LDowryBoxes$Test;)V" } : Jvm.MethodName)) ∈ lw_all := lw_g (lw_at lw_m5 58 rfl) rfl
theorem q1146 : (Jvm.Cond.stringRef "DowryBoxes$Reader" (86 : Nat) "and") ∈ lw_tbl := lw_at lw_m5 66 rfl
theorem q1147 : (Jvm.Cond.classLink "DowryBoxes$Reader" (68 : Nat) "DowryBoxes$Several") ∈ lw_all := lw_g (lw_at lw_m5 67 rfl) rfl
theorem q1149 : (Jvm.Cond.methodLink "DowryBoxes$Reader" (70 : Nat) ({ cls := "DowryBoxes$Several", name := "<init>", desc := "(Z)V" } : Jvm.MethodName)) ∈ lw_all := lw_g (lw_at lw_m5 69 rfl) rfl
theorem q1157 : (Jvm.Cond.fieldLinkNest "DowryBoxes$Reader" (73 : Nat) "DowryBoxes$Several" "of" "Ljava/util/ArrayList;" "DowryBoxes") ∈ lw_tbl := lw_at lw_m5 77 rfl
theorem q1163 : (Jvm.Cond.methodLink "DowryBoxes$Reader" (77 : Nat) ({ cls := "java/util/ArrayList", name := "add", desc := "(Ljava/lang/Object;)Z" } : Jvm.MethodName)) ∈ lw_all := lw_g (lw_at lw_m5 83 rfl) rfl
theorem q1175 : (Jvm.Cond.stringRef "DowryBoxes$Reader" (66 : Nat) "or") ∈ lw_tbl := lw_at lw_m5 95 rfl
theorem q1233 : (Jvm.Cond.declares ({ cls := "DowryBoxes$Reader", name := "behind", desc := "(Ljava/lang/String;)LDowryBoxes$Sum;" } : Jvm.MethodName)) ∈ lw_tbl := lw_at lw_m5 153 rfl
theorem q1235 : (Jvm.Cond.instanceMethod ({ cls := "DowryBoxes$Reader", name := "behind", desc := "(Ljava/lang/String;)LDowryBoxes$Sum;" } : Jvm.MethodName)) ∈ lw_all := lw_g (lw_at lw_m5 155 rfl) rfl
theorem q1236 : (Jvm.Cond.code ({ cls := "DowryBoxes$Reader", name := "behind", desc := "(Ljava/lang/String;)LDowryBoxes$Sum;" } : Jvm.MethodName) prog_12_method_22_code (2 : Nat) (Option.some (Jvm.ClassFile.FieldType.object "DowryBoxes$Sum"))) ∈ lw_all := lw_g (lw_at lw_m5 156 rfl) rfl
theorem q1246 : (Jvm.Cond.stringRef "DowryBoxes$Reader" (57 : Nat) ";") ∈ lw_tbl := lw_at lw_m5 166 rfl
theorem q2276 : (Jvm.Cond.sameMethod "DowryBoxes$Reader" "DowryBoxes$Reader" "is" "(Ljava/lang/String;)Z") ∈ lw_all := lw_g (lw_at lw_m9 236 rfl) rfl
theorem q2279 : (Jvm.Cond.sameMethod "DowryBoxes$Reader" "DowryBoxes$Reader" "sum" "()LDowryBoxes$Sum;") ∈ lw_all := lw_g (lw_at lw_m9 239 rfl) rfl
theorem q2282 : (Jvm.Cond.sameMethod "DowryBoxes$Reader" "DowryBoxes$Reader" "test" "()LDowryBoxes$Test;") ∈ lw_all := lw_g (lw_at lw_m10 2 rfl) rfl
/-! DowryBoxes$LawReader -/
set_option maxRecDepth 100000
def RX7 : String := "DowryBoxes$LawReader"
def TX7 : u_T := fun k => match k with
  | 0 => ("DowryBoxes$Reader", "tape", "[B", true)
  | 1 => ("DowryBoxes$Reader", "size", "I", true)
  | 2 => ("DowryBoxes$Reader", "made", "I", false)
  | 3 => ("DowryBoxes$Reader", "from", "I", false)
  | 4 => ("DowryBoxes$Reader", "to", "I", false)
  | 5 => ("DowryBoxes$Reader", "leaves", "I", false)
  | 6 => ("DowryBoxes$Reader", "deep", "I", false)
  | _ => ("DowryBoxes$LawReader", "clauses", "Ljava/util/ArrayList;", true)
def tyX7 : Nat → FieldType := fun k => match k with
  | 0 => .array .byte
  | 1 => .int
  | 2 => .int
  | 3 => .int
  | 4 => .int
  | 5 => .int
  | 6 => .int
  | _ => .object "java/util/ArrayList"
abbrev wsX70 : List Cond := u_ws RX7 TX7 8
theorem nmX7 : ∀ a, a < 8 → ∀ b, b < 8 → a ≠ b → (TX7 a).2.1 ≠ (TX7 b).2.1 := by decide +kernel
theorem tyX7_ok : ∀ k, k < 8 → parseFieldDescriptor (TX7 k).2.2.1 = some (tyX7 k) := by decide +kernel
abbrev cX7_init : ByteArray := prog_7_method_1_code
def yX7_init : MethodName := ⟨RX7, "<init>", "([BI)V"⟩
def dkwX7_init_0 : List UInt8 := [42, 43, 28, 183, 0, 3, 42, 187, 0, 9, 89, 5, 183, 0, 11, 181, 0, 14, 177]
abbrev dktX7_init_0 : List UInt8 := dkwX7_init_0 ++ []
theorem dksX7_init_0 : cX7_init.data.toList.drop 0 = dktX7_init_0 := by decide +kernel
theorem dX7_init_0 : decode cX7_init 0 = .ok (.aload_n 0, 1) := dk_42 (dk_at dksX7_init_0 0 rfl rfl)
theorem dX7_init_1 : decode cX7_init 1 = .ok (.aload_n 1, 1) := dk_43 (dk_at dksX7_init_0 1 rfl rfl)
theorem dX7_init_2 : decode cX7_init 2 = .ok (.iload_n 2, 1) := dk_28 (dk_at dksX7_init_0 2 rfl rfl)
theorem dX7_init_3 : decode cX7_init 3 = .ok (.invokespecial 3, 3) := dk_183 0 3 (dk_at dksX7_init_0 3 rfl rfl)
theorem dX7_init_6 : decode cX7_init 6 = .ok (.aload_n 0, 1) := dk_42 (dk_at dksX7_init_0 6 rfl rfl)
theorem dX7_init_7 : decode cX7_init 7 = .ok (.new 9, 3) := dk_187 0 9 (dk_at dksX7_init_0 7 rfl rfl)
theorem dX7_init_10 : decode cX7_init 10 = .ok (.dup, 1) := dk_89 (dk_at dksX7_init_0 10 rfl rfl)
theorem dX7_init_11 : decode cX7_init 11 = .ok (.iconst 2, 1) := dk_5 (dk_at dksX7_init_0 11 rfl rfl)
theorem dX7_init_12 : decode cX7_init 12 = .ok (.invokespecial 11, 3) := dk_183 0 11 (dk_at dksX7_init_0 12 rfl rfl)
theorem dX7_init_15 : decode cX7_init 15 = .ok (.putfield 14, 3) := dk_181 0 14 (dk_at dksX7_init_0 15 rfl rfl)
theorem dX7_init_18 : decode cX7_init 18 = .ok (.return_, 1) := dk_177 (dk_at dksX7_init_0 18 rfl rfl)
abbrev cX7_clause : ByteArray := prog_7_method_2_code
def yX7_clause : MethodName := ⟨RX7, "clause", "()V"⟩
def dkwX7_clause_5 : List UInt8 := [44, 182, 0, 63, 87, 177]
abbrev dktX7_clause_5 : List UInt8 := dkwX7_clause_5 ++ []
def dkwX7_clause_4 : List UInt8 := [181, 0, 47, 42, 18, 50, 182, 0, 52, 153, 0, 11, 44, 42, 182, 0, 55, 181, 0, 59, 42, 180, 0, 14]
abbrev dktX7_clause_4 : List UInt8 := dkwX7_clause_4 ++ dktX7_clause_5
def dkwX7_clause_3 : List UInt8 := [182, 0, 36, 187, 0, 40, 89, 27, 183, 0, 42, 77, 27, 6, 159, 0, 11, 44, 42, 182, 0, 43]
abbrev dktX7_clause_3 : List UInt8 := dkwX7_clause_3 ++ dktX7_clause_4
def dkwX7_clause_2 : List UInt8 := [153, 0, 7, 6, 167, 0, 4, 2, 60, 42, 27, 2, 159, 0, 7, 4, 167, 0, 4, 3, 182, 0, 32, 42]
abbrev dktX7_clause_2 : List UInt8 := dkwX7_clause_2 ++ dktX7_clause_3
def dkwX7_clause_1 : List UInt8 := [167, 0, 30, 42, 18, 28, 182, 0, 22, 153, 0, 7, 5, 167, 0, 17, 42, 18, 30, 182, 0, 22]
abbrev dktX7_clause_1 : List UInt8 := dkwX7_clause_1 ++ dktX7_clause_2
def dkwX7_clause_0 : List UInt8 := [42, 18, 20, 182, 0, 22, 153, 0, 7, 3, 167, 0, 43, 42, 18, 26, 182, 0, 22, 153, 0, 7, 4]
abbrev dktX7_clause_0 : List UInt8 := dkwX7_clause_0 ++ dktX7_clause_1
theorem dksX7_clause_0 : cX7_clause.data.toList.drop 0 = dktX7_clause_0 := by decide +kernel
theorem dksX7_clause_1 : cX7_clause.data.toList.drop 23 = dktX7_clause_1 := dk_seg dksX7_clause_0 23 rfl rfl
theorem dksX7_clause_2 : cX7_clause.data.toList.drop 45 = dktX7_clause_2 := dk_seg dksX7_clause_1 22 rfl rfl
theorem dksX7_clause_3 : cX7_clause.data.toList.drop 69 = dktX7_clause_3 := dk_seg dksX7_clause_2 24 rfl rfl
theorem dksX7_clause_4 : cX7_clause.data.toList.drop 91 = dktX7_clause_4 := dk_seg dksX7_clause_3 22 rfl rfl
theorem dksX7_clause_5 : cX7_clause.data.toList.drop 115 = dktX7_clause_5 := dk_seg dksX7_clause_4 24 rfl rfl
theorem dX7_clause_0 : decode cX7_clause 0 = .ok (.aload_n 0, 1) := dk_42 (dk_at dksX7_clause_0 0 rfl rfl)
theorem dX7_clause_1 : decode cX7_clause 1 = .ok (.ldc 20, 2) := dk_18 20 (dk_at dksX7_clause_0 1 rfl rfl)
theorem dX7_clause_3 : decode cX7_clause 3 = .ok (.invokevirtual 22, 3) := dk_182 0 22 (dk_at dksX7_clause_0 3 rfl rfl)
theorem dX7_clause_6 : decode cX7_clause 6 = .ok (.ifCond .eq 7, 3) := dk_153 0 7 (dk_at dksX7_clause_0 6 rfl rfl)
theorem dX7_clause_9 : decode cX7_clause 9 = .ok (.iconst 0, 1) := dk_3 (dk_at dksX7_clause_0 9 rfl rfl)
theorem dX7_clause_10 : decode cX7_clause 10 = .ok (.goto 43, 3) := dk_167 0 43 (dk_at dksX7_clause_0 10 rfl rfl)
theorem dX7_clause_13 : decode cX7_clause 13 = .ok (.aload_n 0, 1) := dk_42 (dk_at dksX7_clause_0 13 rfl rfl)
theorem dX7_clause_14 : decode cX7_clause 14 = .ok (.ldc 26, 2) := dk_18 26 (dk_at dksX7_clause_0 14 rfl rfl)
theorem dX7_clause_16 : decode cX7_clause 16 = .ok (.invokevirtual 22, 3) := dk_182 0 22 (dk_at dksX7_clause_0 16 rfl rfl)
theorem dX7_clause_19 : decode cX7_clause 19 = .ok (.ifCond .eq 7, 3) := dk_153 0 7 (dk_at dksX7_clause_0 19 rfl rfl)
theorem dX7_clause_22 : decode cX7_clause 22 = .ok (.iconst 1, 1) := dk_4 (dk_at dksX7_clause_0 22 rfl rfl)
theorem dX7_clause_23 : decode cX7_clause 23 = .ok (.goto 30, 3) := dk_167 0 30 (dk_at dksX7_clause_1 0 rfl rfl)
theorem dX7_clause_26 : decode cX7_clause 26 = .ok (.aload_n 0, 1) := dk_42 (dk_at dksX7_clause_1 3 rfl rfl)
theorem dX7_clause_27 : decode cX7_clause 27 = .ok (.ldc 28, 2) := dk_18 28 (dk_at dksX7_clause_1 4 rfl rfl)
theorem dX7_clause_29 : decode cX7_clause 29 = .ok (.invokevirtual 22, 3) := dk_182 0 22 (dk_at dksX7_clause_1 6 rfl rfl)
theorem dX7_clause_32 : decode cX7_clause 32 = .ok (.ifCond .eq 7, 3) := dk_153 0 7 (dk_at dksX7_clause_1 9 rfl rfl)
theorem dX7_clause_35 : decode cX7_clause 35 = .ok (.iconst 2, 1) := dk_5 (dk_at dksX7_clause_1 12 rfl rfl)
theorem dX7_clause_36 : decode cX7_clause 36 = .ok (.goto 17, 3) := dk_167 0 17 (dk_at dksX7_clause_1 13 rfl rfl)
theorem dX7_clause_39 : decode cX7_clause 39 = .ok (.aload_n 0, 1) := dk_42 (dk_at dksX7_clause_1 16 rfl rfl)
theorem dX7_clause_40 : decode cX7_clause 40 = .ok (.ldc 30, 2) := dk_18 30 (dk_at dksX7_clause_1 17 rfl rfl)
theorem dX7_clause_42 : decode cX7_clause 42 = .ok (.invokevirtual 22, 3) := dk_182 0 22 (dk_at dksX7_clause_1 19 rfl rfl)
theorem dX7_clause_45 : decode cX7_clause 45 = .ok (.ifCond .eq 7, 3) := dk_153 0 7 (dk_at dksX7_clause_2 0 rfl rfl)
theorem dX7_clause_48 : decode cX7_clause 48 = .ok (.iconst 3, 1) := dk_6 (dk_at dksX7_clause_2 3 rfl rfl)
theorem dX7_clause_49 : decode cX7_clause 49 = .ok (.goto 4, 3) := dk_167 0 4 (dk_at dksX7_clause_2 4 rfl rfl)
theorem dX7_clause_52 : decode cX7_clause 52 = .ok (.iconst (-1), 1) := dk_2 (dk_at dksX7_clause_2 7 rfl rfl)
theorem dX7_clause_53 : decode cX7_clause 53 = .ok (.istore_n 1, 1) := dk_60 (dk_at dksX7_clause_2 8 rfl rfl)
theorem dX7_clause_54 : decode cX7_clause 54 = .ok (.aload_n 0, 1) := dk_42 (dk_at dksX7_clause_2 9 rfl rfl)
theorem dX7_clause_55 : decode cX7_clause 55 = .ok (.iload_n 1, 1) := dk_27 (dk_at dksX7_clause_2 10 rfl rfl)
theorem dX7_clause_56 : decode cX7_clause 56 = .ok (.iconst (-1), 1) := dk_2 (dk_at dksX7_clause_2 11 rfl rfl)
theorem dX7_clause_57 : decode cX7_clause 57 = .ok (.if_icmp .eq 7, 3) := dk_159 0 7 (dk_at dksX7_clause_2 12 rfl rfl)
theorem dX7_clause_60 : decode cX7_clause 60 = .ok (.iconst 1, 1) := dk_4 (dk_at dksX7_clause_2 15 rfl rfl)
theorem dX7_clause_61 : decode cX7_clause 61 = .ok (.goto 4, 3) := dk_167 0 4 (dk_at dksX7_clause_2 16 rfl rfl)
theorem dX7_clause_64 : decode cX7_clause 64 = .ok (.iconst 0, 1) := dk_3 (dk_at dksX7_clause_2 19 rfl rfl)
theorem dX7_clause_65 : decode cX7_clause 65 = .ok (.invokevirtual 32, 3) := dk_182 0 32 (dk_at dksX7_clause_2 20 rfl rfl)
theorem dX7_clause_68 : decode cX7_clause 68 = .ok (.aload_n 0, 1) := dk_42 (dk_at dksX7_clause_2 23 rfl rfl)
theorem dX7_clause_69 : decode cX7_clause 69 = .ok (.invokevirtual 36, 3) := dk_182 0 36 (dk_at dksX7_clause_3 0 rfl rfl)
theorem dX7_clause_72 : decode cX7_clause 72 = .ok (.new 40, 3) := dk_187 0 40 (dk_at dksX7_clause_3 3 rfl rfl)
theorem dX7_clause_75 : decode cX7_clause 75 = .ok (.dup, 1) := dk_89 (dk_at dksX7_clause_3 6 rfl rfl)
theorem dX7_clause_76 : decode cX7_clause 76 = .ok (.iload_n 1, 1) := dk_27 (dk_at dksX7_clause_3 7 rfl rfl)
theorem dX7_clause_77 : decode cX7_clause 77 = .ok (.invokespecial 42, 3) := dk_183 0 42 (dk_at dksX7_clause_3 8 rfl rfl)
theorem dX7_clause_80 : decode cX7_clause 80 = .ok (.astore_n 2, 1) := dk_77 (dk_at dksX7_clause_3 11 rfl rfl)
theorem dX7_clause_81 : decode cX7_clause 81 = .ok (.iload_n 1, 1) := dk_27 (dk_at dksX7_clause_3 12 rfl rfl)
theorem dX7_clause_82 : decode cX7_clause 82 = .ok (.iconst 3, 1) := dk_6 (dk_at dksX7_clause_3 13 rfl rfl)
theorem dX7_clause_83 : decode cX7_clause 83 = .ok (.if_icmp .eq 11, 3) := dk_159 0 11 (dk_at dksX7_clause_3 14 rfl rfl)
theorem dX7_clause_86 : decode cX7_clause 86 = .ok (.aload_n 2, 1) := dk_44 (dk_at dksX7_clause_3 17 rfl rfl)
theorem dX7_clause_87 : decode cX7_clause 87 = .ok (.aload_n 0, 1) := dk_42 (dk_at dksX7_clause_3 18 rfl rfl)
theorem dX7_clause_88 : decode cX7_clause 88 = .ok (.invokevirtual 43, 3) := dk_182 0 43 (dk_at dksX7_clause_3 19 rfl rfl)
theorem dX7_clause_91 : decode cX7_clause 91 = .ok (.putfield 47, 3) := dk_181 0 47 (dk_at dksX7_clause_4 0 rfl rfl)
theorem dX7_clause_94 : decode cX7_clause 94 = .ok (.aload_n 0, 1) := dk_42 (dk_at dksX7_clause_4 3 rfl rfl)
theorem dX7_clause_95 : decode cX7_clause 95 = .ok (.ldc 50, 2) := dk_18 50 (dk_at dksX7_clause_4 4 rfl rfl)
theorem dX7_clause_97 : decode cX7_clause 97 = .ok (.invokevirtual 52, 3) := dk_182 0 52 (dk_at dksX7_clause_4 6 rfl rfl)
theorem dX7_clause_100 : decode cX7_clause 100 = .ok (.ifCond .eq 11, 3) := dk_153 0 11 (dk_at dksX7_clause_4 9 rfl rfl)
theorem dX7_clause_103 : decode cX7_clause 103 = .ok (.aload_n 2, 1) := dk_44 (dk_at dksX7_clause_4 12 rfl rfl)
theorem dX7_clause_104 : decode cX7_clause 104 = .ok (.aload_n 0, 1) := dk_42 (dk_at dksX7_clause_4 13 rfl rfl)
theorem dX7_clause_105 : decode cX7_clause 105 = .ok (.invokevirtual 55, 3) := dk_182 0 55 (dk_at dksX7_clause_4 14 rfl rfl)
theorem dX7_clause_108 : decode cX7_clause 108 = .ok (.putfield 59, 3) := dk_181 0 59 (dk_at dksX7_clause_4 17 rfl rfl)
theorem dX7_clause_111 : decode cX7_clause 111 = .ok (.aload_n 0, 1) := dk_42 (dk_at dksX7_clause_4 20 rfl rfl)
theorem dX7_clause_112 : decode cX7_clause 112 = .ok (.getfield 14, 3) := dk_180 0 14 (dk_at dksX7_clause_4 21 rfl rfl)
theorem dX7_clause_115 : decode cX7_clause 115 = .ok (.aload_n 2, 1) := dk_44 (dk_at dksX7_clause_5 0 rfl rfl)
theorem dX7_clause_116 : decode cX7_clause 116 = .ok (.invokevirtual 63, 3) := dk_182 0 63 (dk_at dksX7_clause_5 1 rfl rfl)
theorem dX7_clause_119 : decode cX7_clause 119 = .ok (.pop, 1) := dk_87 (dk_at dksX7_clause_5 4 rfl rfl)
theorem dX7_clause_120 : decode cX7_clause 120 = .ok (.return_, 1) := dk_177 (dk_at dksX7_clause_5 5 rfl rfl)
abbrev cX7_value : ByteArray := prog_7_method_3_code
def yX7_value : MethodName := ⟨RX7, "value", "()I"⟩
def dkwX7_value_4 : List UInt8 := [182, 0, 69, 153, 0, 8, 16, 8, 167, 0, 4, 2, 172]
abbrev dktX7_value_4 : List UInt8 := dkwX7_value_4 ++ []
def dkwX7_value_3 : List UInt8 := [182, 0, 69, 153, 0, 6, 16, 6, 172, 42, 18, 84, 182, 0, 69, 153, 0, 6, 16, 7, 172, 42, 18, 86]
abbrev dktX7_value_3 : List UInt8 := dkwX7_value_3 ++ dktX7_value_4
def dkwX7_value_2 : List UInt8 := [182, 0, 69, 153, 0, 5, 7, 172, 42, 18, 80, 182, 0, 69, 153, 0, 5, 8, 172, 42, 18, 82]
abbrev dktX7_value_2 : List UInt8 := dkwX7_value_2 ++ dktX7_value_3
def dkwX7_value_1 : List UInt8 := [18, 74, 182, 0, 69, 153, 0, 5, 5, 172, 42, 18, 76, 182, 0, 69, 153, 0, 5, 6, 172, 42, 18, 78]
abbrev dktX7_value_1 : List UInt8 := dkwX7_value_1 ++ dktX7_value_2
def dkwX7_value_0 : List UInt8 := [42, 18, 67, 182, 0, 69, 153, 0, 5, 3, 172, 42, 18, 72, 182, 0, 69, 153, 0, 5, 4, 172, 42]
abbrev dktX7_value_0 : List UInt8 := dkwX7_value_0 ++ dktX7_value_1
theorem dksX7_value_0 : cX7_value.data.toList.drop 0 = dktX7_value_0 := by decide +kernel
theorem dksX7_value_1 : cX7_value.data.toList.drop 23 = dktX7_value_1 := dk_seg dksX7_value_0 23 rfl rfl
theorem dksX7_value_2 : cX7_value.data.toList.drop 47 = dktX7_value_2 := dk_seg dksX7_value_1 24 rfl rfl
theorem dksX7_value_3 : cX7_value.data.toList.drop 69 = dktX7_value_3 := dk_seg dksX7_value_2 22 rfl rfl
theorem dksX7_value_4 : cX7_value.data.toList.drop 93 = dktX7_value_4 := dk_seg dksX7_value_3 24 rfl rfl
theorem dX7_value_0 : decode cX7_value 0 = .ok (.aload_n 0, 1) := dk_42 (dk_at dksX7_value_0 0 rfl rfl)
theorem dX7_value_1 : decode cX7_value 1 = .ok (.ldc 67, 2) := dk_18 67 (dk_at dksX7_value_0 1 rfl rfl)
theorem dX7_value_3 : decode cX7_value 3 = .ok (.invokevirtual 69, 3) := dk_182 0 69 (dk_at dksX7_value_0 3 rfl rfl)
theorem dX7_value_6 : decode cX7_value 6 = .ok (.ifCond .eq 5, 3) := dk_153 0 5 (dk_at dksX7_value_0 6 rfl rfl)
theorem dX7_value_9 : decode cX7_value 9 = .ok (.iconst 0, 1) := dk_3 (dk_at dksX7_value_0 9 rfl rfl)
theorem dX7_value_10 : decode cX7_value 10 = .ok (.ireturn, 1) := dk_172 (dk_at dksX7_value_0 10 rfl rfl)
theorem dX7_value_11 : decode cX7_value 11 = .ok (.aload_n 0, 1) := dk_42 (dk_at dksX7_value_0 11 rfl rfl)
theorem dX7_value_12 : decode cX7_value 12 = .ok (.ldc 72, 2) := dk_18 72 (dk_at dksX7_value_0 12 rfl rfl)
theorem dX7_value_14 : decode cX7_value 14 = .ok (.invokevirtual 69, 3) := dk_182 0 69 (dk_at dksX7_value_0 14 rfl rfl)
theorem dX7_value_17 : decode cX7_value 17 = .ok (.ifCond .eq 5, 3) := dk_153 0 5 (dk_at dksX7_value_0 17 rfl rfl)
theorem dX7_value_20 : decode cX7_value 20 = .ok (.iconst 1, 1) := dk_4 (dk_at dksX7_value_0 20 rfl rfl)
theorem dX7_value_21 : decode cX7_value 21 = .ok (.ireturn, 1) := dk_172 (dk_at dksX7_value_0 21 rfl rfl)
theorem dX7_value_22 : decode cX7_value 22 = .ok (.aload_n 0, 1) := dk_42 (dk_at dksX7_value_0 22 rfl rfl)
theorem dX7_value_23 : decode cX7_value 23 = .ok (.ldc 74, 2) := dk_18 74 (dk_at dksX7_value_1 0 rfl rfl)
theorem dX7_value_25 : decode cX7_value 25 = .ok (.invokevirtual 69, 3) := dk_182 0 69 (dk_at dksX7_value_1 2 rfl rfl)
theorem dX7_value_28 : decode cX7_value 28 = .ok (.ifCond .eq 5, 3) := dk_153 0 5 (dk_at dksX7_value_1 5 rfl rfl)
theorem dX7_value_31 : decode cX7_value 31 = .ok (.iconst 2, 1) := dk_5 (dk_at dksX7_value_1 8 rfl rfl)
theorem dX7_value_32 : decode cX7_value 32 = .ok (.ireturn, 1) := dk_172 (dk_at dksX7_value_1 9 rfl rfl)
theorem dX7_value_33 : decode cX7_value 33 = .ok (.aload_n 0, 1) := dk_42 (dk_at dksX7_value_1 10 rfl rfl)
theorem dX7_value_34 : decode cX7_value 34 = .ok (.ldc 76, 2) := dk_18 76 (dk_at dksX7_value_1 11 rfl rfl)
theorem dX7_value_36 : decode cX7_value 36 = .ok (.invokevirtual 69, 3) := dk_182 0 69 (dk_at dksX7_value_1 13 rfl rfl)
theorem dX7_value_39 : decode cX7_value 39 = .ok (.ifCond .eq 5, 3) := dk_153 0 5 (dk_at dksX7_value_1 16 rfl rfl)
theorem dX7_value_42 : decode cX7_value 42 = .ok (.iconst 3, 1) := dk_6 (dk_at dksX7_value_1 19 rfl rfl)
theorem dX7_value_43 : decode cX7_value 43 = .ok (.ireturn, 1) := dk_172 (dk_at dksX7_value_1 20 rfl rfl)
theorem dX7_value_44 : decode cX7_value 44 = .ok (.aload_n 0, 1) := dk_42 (dk_at dksX7_value_1 21 rfl rfl)
theorem dX7_value_45 : decode cX7_value 45 = .ok (.ldc 78, 2) := dk_18 78 (dk_at dksX7_value_1 22 rfl rfl)
theorem dX7_value_47 : decode cX7_value 47 = .ok (.invokevirtual 69, 3) := dk_182 0 69 (dk_at dksX7_value_2 0 rfl rfl)
theorem dX7_value_50 : decode cX7_value 50 = .ok (.ifCond .eq 5, 3) := dk_153 0 5 (dk_at dksX7_value_2 3 rfl rfl)
theorem dX7_value_53 : decode cX7_value 53 = .ok (.iconst 4, 1) := dk_7 (dk_at dksX7_value_2 6 rfl rfl)
theorem dX7_value_54 : decode cX7_value 54 = .ok (.ireturn, 1) := dk_172 (dk_at dksX7_value_2 7 rfl rfl)
theorem dX7_value_55 : decode cX7_value 55 = .ok (.aload_n 0, 1) := dk_42 (dk_at dksX7_value_2 8 rfl rfl)
theorem dX7_value_56 : decode cX7_value 56 = .ok (.ldc 80, 2) := dk_18 80 (dk_at dksX7_value_2 9 rfl rfl)
theorem dX7_value_58 : decode cX7_value 58 = .ok (.invokevirtual 69, 3) := dk_182 0 69 (dk_at dksX7_value_2 11 rfl rfl)
theorem dX7_value_61 : decode cX7_value 61 = .ok (.ifCond .eq 5, 3) := dk_153 0 5 (dk_at dksX7_value_2 14 rfl rfl)
theorem dX7_value_64 : decode cX7_value 64 = .ok (.iconst 5, 1) := dk_8 (dk_at dksX7_value_2 17 rfl rfl)
theorem dX7_value_65 : decode cX7_value 65 = .ok (.ireturn, 1) := dk_172 (dk_at dksX7_value_2 18 rfl rfl)
theorem dX7_value_66 : decode cX7_value 66 = .ok (.aload_n 0, 1) := dk_42 (dk_at dksX7_value_2 19 rfl rfl)
theorem dX7_value_67 : decode cX7_value 67 = .ok (.ldc 82, 2) := dk_18 82 (dk_at dksX7_value_2 20 rfl rfl)
theorem dX7_value_69 : decode cX7_value 69 = .ok (.invokevirtual 69, 3) := dk_182 0 69 (dk_at dksX7_value_3 0 rfl rfl)
theorem dX7_value_72 : decode cX7_value 72 = .ok (.ifCond .eq 6, 3) := dk_153 0 6 (dk_at dksX7_value_3 3 rfl rfl)
theorem dX7_value_75 : decode cX7_value 75 = .ok (.bipush 6, 2) := dk_16 6 (dk_at dksX7_value_3 6 rfl rfl)
theorem dX7_value_77 : decode cX7_value 77 = .ok (.ireturn, 1) := dk_172 (dk_at dksX7_value_3 8 rfl rfl)
theorem dX7_value_78 : decode cX7_value 78 = .ok (.aload_n 0, 1) := dk_42 (dk_at dksX7_value_3 9 rfl rfl)
theorem dX7_value_79 : decode cX7_value 79 = .ok (.ldc 84, 2) := dk_18 84 (dk_at dksX7_value_3 10 rfl rfl)
theorem dX7_value_81 : decode cX7_value 81 = .ok (.invokevirtual 69, 3) := dk_182 0 69 (dk_at dksX7_value_3 12 rfl rfl)
theorem dX7_value_84 : decode cX7_value 84 = .ok (.ifCond .eq 6, 3) := dk_153 0 6 (dk_at dksX7_value_3 15 rfl rfl)
theorem dX7_value_87 : decode cX7_value 87 = .ok (.bipush 7, 2) := dk_16 7 (dk_at dksX7_value_3 18 rfl rfl)
theorem dX7_value_89 : decode cX7_value 89 = .ok (.ireturn, 1) := dk_172 (dk_at dksX7_value_3 20 rfl rfl)
theorem dX7_value_90 : decode cX7_value 90 = .ok (.aload_n 0, 1) := dk_42 (dk_at dksX7_value_3 21 rfl rfl)
theorem dX7_value_91 : decode cX7_value 91 = .ok (.ldc 86, 2) := dk_18 86 (dk_at dksX7_value_3 22 rfl rfl)
theorem dX7_value_93 : decode cX7_value 93 = .ok (.invokevirtual 69, 3) := dk_182 0 69 (dk_at dksX7_value_4 0 rfl rfl)
theorem dX7_value_96 : decode cX7_value 96 = .ok (.ifCond .eq 8, 3) := dk_153 0 8 (dk_at dksX7_value_4 3 rfl rfl)
theorem dX7_value_99 : decode cX7_value 99 = .ok (.bipush 8, 2) := dk_16 8 (dk_at dksX7_value_4 6 rfl rfl)
theorem dX7_value_101 : decode cX7_value 101 = .ok (.goto 4, 3) := dk_167 0 4 (dk_at dksX7_value_4 8 rfl rfl)
theorem dX7_value_104 : decode cX7_value 104 = .ok (.iconst (-1), 1) := dk_2 (dk_at dksX7_value_4 11 rfl rfl)
theorem dX7_value_105 : decode cX7_value 105 = .ok (.ireturn, 1) := dk_172 (dk_at dksX7_value_4 12 rfl rfl)
theorem q137 : (Jvm.Cond.initialized "DowryBoxes$LawReader") ∈ lw_all := lw_g (lw_at lw_m1 17 rfl) rfl
theorem q517 : (Jvm.Cond.selects "DowryBoxes$LawReader" ({ cls := "java/lang/Object", name := "getClass", desc := "()Ljava/lang/Class;" } : Jvm.MethodName) ({ cls := "java/lang/Object", name := "getClass", desc := "()Ljava/lang/Class;" } : Jvm.MethodName)) ∈ lw_all := lw_g (lw_at lw_m2 157 rfl) rfl
theorem q779 : (Jvm.Cond.instantiable "DowryBoxes$LawReader" (8 : Nat)) ∈ lw_all := lw_g (lw_at lw_m3 179 rfl) rfl
theorem q781 : (Jvm.Cond.instanceMethod ({ cls := "DowryBoxes$LawReader", name := "<init>", desc := "([BI)V" } : Jvm.MethodName)) ∈ lw_all := lw_g (lw_at lw_m3 181 rfl) rfl
theorem q782 : (Jvm.Cond.code ({ cls := "DowryBoxes$LawReader", name := "<init>", desc := "([BI)V" } : Jvm.MethodName) prog_7_method_1_code (3 : Nat) (Option.none : Option Jvm.ClassFile.FieldType)) ∈ lw_all := lw_g (lw_at lw_m3 182 rfl) rfl
theorem q783 : (Jvm.Cond.methodLink "DowryBoxes$LawReader" (3 : Nat) ({ cls := "DowryBoxes$Reader", name := "<init>", desc := "([BI)V" } : Jvm.MethodName)) ∈ lw_all := lw_g (lw_at lw_m3 183 rfl) rfl
theorem q787 : (Jvm.Cond.classLink "DowryBoxes$LawReader" (9 : Nat) "java/util/ArrayList") ∈ lw_all := lw_g (lw_at lw_m3 187 rfl) rfl
theorem q788 : (Jvm.Cond.methodLink "DowryBoxes$LawReader" (11 : Nat) ({ cls := "java/util/ArrayList", name := "<init>", desc := "(I)V" } : Jvm.MethodName)) ∈ lw_all := lw_g (lw_at lw_m3 188 rfl) rfl
theorem q789 : (Jvm.Cond.fieldLink "DowryBoxes$LawReader" (14 : Nat) "DowryBoxes$LawReader" "clauses" "Ljava/util/ArrayList;") ∈ lw_all := lw_g (lw_at lw_m3 189 rfl) rfl
theorem q798 : (Jvm.Cond.laysFinal "DowryBoxes$LawReader" "DowryBoxes$LawReader" "clauses" "Ljava/util/ArrayList;") ∈ lw_all := lw_g (lw_at lw_m3 198 rfl) rfl
theorem q799 : (Jvm.Cond.soleField "DowryBoxes$LawReader" "clauses") ∈ lw_all := lw_g (lw_at lw_m3 199 rfl) rfl
theorem q800 : (Jvm.Cond.laysFinal "DowryBoxes$LawReader" "DowryBoxes$Reader" "tape" "[B") ∈ lw_all := lw_g (lw_at lw_m3 200 rfl) rfl
theorem q802 : (Jvm.Cond.laysFinal "DowryBoxes$LawReader" "DowryBoxes$Reader" "size" "I") ∈ lw_all := lw_g (lw_at lw_m3 202 rfl) rfl
theorem q804 : (Jvm.Cond.lays "DowryBoxes$LawReader" "DowryBoxes$Reader" "made" "I") ∈ lw_all := lw_g (lw_at lw_m3 204 rfl) rfl
theorem q806 : (Jvm.Cond.lays "DowryBoxes$LawReader" "DowryBoxes$Reader" "from" "I") ∈ lw_all := lw_g (lw_at lw_m3 206 rfl) rfl
theorem q808 : (Jvm.Cond.lays "DowryBoxes$LawReader" "DowryBoxes$Reader" "to" "I") ∈ lw_all := lw_g (lw_at lw_m3 208 rfl) rfl
theorem q810 : (Jvm.Cond.lays "DowryBoxes$LawReader" "DowryBoxes$Reader" "leaves" "I") ∈ lw_all := lw_g (lw_at lw_m3 210 rfl) rfl
theorem q812 : (Jvm.Cond.lays "DowryBoxes$LawReader" "DowryBoxes$Reader" "deep" "I") ∈ lw_all := lw_g (lw_at lw_m3 212 rfl) rfl
theorem q814 : (Jvm.Cond.superclass "DowryBoxes$LawReader" "DowryBoxes$Reader") ∈ lw_all := lw_g (lw_at lw_m3 214 rfl) rfl
theorem q823 : (Jvm.Cond.selects "DowryBoxes$LawReader" ({ cls := "DowryBoxes$Reader", name := "read", desc := "()V" } : Jvm.MethodName) ({ cls := "DowryBoxes$Reader", name := "read", desc := "()V" } : Jvm.MethodName)) ∈ lw_all := lw_g (lw_at lw_m3 223 rfl) rfl
theorem q829 : (Jvm.Cond.selects "DowryBoxes$LawReader" ({ cls := "DowryBoxes$Reader", name := "next", desc := "()V" } : Jvm.MethodName) ({ cls := "DowryBoxes$Reader", name := "next", desc := "()V" } : Jvm.MethodName)) ∈ lw_all := lw_g (lw_at lw_m3 229 rfl) rfl
theorem q835 : (Jvm.Cond.selects "DowryBoxes$LawReader" ({ cls := "DowryBoxes$Reader", name := "isIn", desc := "(III)Z" } : Jvm.MethodName) ({ cls := "DowryBoxes$Reader", name := "isIn", desc := "(III)Z" } : Jvm.MethodName)) ∈ lw_all := lw_g (lw_at lw_m3 235 rfl) rfl
theorem q841 : (Jvm.Cond.selects "DowryBoxes$LawReader" ({ cls := "DowryBoxes$Reader", name := "clause", desc := "()V" } : Jvm.MethodName) ({ cls := "DowryBoxes$LawReader", name := "clause", desc := "()V" } : Jvm.MethodName)) ∈ lw_all := lw_g (lw_at lw_m4 1 rfl) rfl
theorem q842 : (Jvm.Cond.instanceMethod ({ cls := "DowryBoxes$LawReader", name := "clause", desc := "()V" } : Jvm.MethodName)) ∈ lw_all := lw_g (lw_at lw_m4 2 rfl) rfl
theorem q843 : (Jvm.Cond.code ({ cls := "DowryBoxes$LawReader", name := "clause", desc := "()V" } : Jvm.MethodName) prog_7_method_2_code (3 : Nat) (Option.none : Option Jvm.ClassFile.FieldType)) ∈ lw_all := lw_g (lw_at lw_m4 3 rfl) rfl
theorem q844 : (Jvm.Cond.stringRef "DowryBoxes$LawReader" (20 : Nat) "lasts") ∈ lw_tbl := lw_at lw_m4 4 rfl
theorem q845 : (Jvm.Cond.methodLink "DowryBoxes$LawReader" (22 : Nat) ({ cls := "DowryBoxes$LawReader", name := "is", desc := "(Ljava/lang/String;)Z" } : Jvm.MethodName)) ∈ lw_all := lw_g (lw_at lw_m4 5 rfl) rfl
theorem q846 : (Jvm.Cond.sameMethod "DowryBoxes$LawReader" "DowryBoxes$Reader" "is" "(Ljava/lang/String;)Z") ∈ lw_all := lw_g (lw_at lw_m4 6 rfl) rfl
theorem q848 : (Jvm.Cond.selects "DowryBoxes$LawReader" ({ cls := "DowryBoxes$LawReader", name := "is", desc := "(Ljava/lang/String;)Z" } : Jvm.MethodName) ({ cls := "DowryBoxes$Reader", name := "is", desc := "(Ljava/lang/String;)Z" } : Jvm.MethodName)) ∈ lw_all := lw_g (lw_at lw_m4 8 rfl) rfl
theorem q897 : (Jvm.Cond.stringRef "DowryBoxes$LawReader" (26 : Nat) "likes") ∈ lw_tbl := lw_at lw_m4 57 rfl
theorem q898 : (Jvm.Cond.stringRef "DowryBoxes$LawReader" (28 : Nat) "loses") ∈ lw_tbl := lw_at lw_m4 58 rfl
theorem q899 : (Jvm.Cond.stringRef "DowryBoxes$LawReader" (30 : Nat) "bars") ∈ lw_tbl := lw_at lw_m4 59 rfl
theorem q900 : (Jvm.Cond.methodLink "DowryBoxes$LawReader" (32 : Nat) ({ cls := "DowryBoxes$LawReader", name := "begins", desc := "(Z)V" } : Jvm.MethodName)) ∈ lw_all := lw_g (lw_at lw_m4 60 rfl) rfl
theorem q901 : (Jvm.Cond.sameMethod "DowryBoxes$LawReader" "DowryBoxes$Reader" "begins" "(Z)V") ∈ lw_all := lw_g (lw_at lw_m4 61 rfl) rfl
theorem q903 : (Jvm.Cond.selects "DowryBoxes$LawReader" ({ cls := "DowryBoxes$LawReader", name := "begins", desc := "(Z)V" } : Jvm.MethodName) ({ cls := "DowryBoxes$Reader", name := "begins", desc := "(Z)V" } : Jvm.MethodName)) ∈ lw_all := lw_g (lw_at lw_m4 63 rfl) rfl
theorem q925 : (Jvm.Cond.methodLink "DowryBoxes$LawReader" (36 : Nat) ({ cls := "DowryBoxes$LawReader", name := "next", desc := "()V" } : Jvm.MethodName)) ∈ lw_all := lw_g (lw_at lw_m4 85 rfl) rfl
theorem q926 : (Jvm.Cond.sameMethod "DowryBoxes$LawReader" "DowryBoxes$Reader" "next" "()V") ∈ lw_all := lw_g (lw_at lw_m4 86 rfl) rfl
theorem q928 : (Jvm.Cond.selects "DowryBoxes$LawReader" ({ cls := "DowryBoxes$LawReader", name := "next", desc := "()V" } : Jvm.MethodName) ({ cls := "DowryBoxes$Reader", name := "next", desc := "()V" } : Jvm.MethodName)) ∈ lw_all := lw_g (lw_at lw_m4 88 rfl) rfl
theorem q929 : (Jvm.Cond.classLink "DowryBoxes$LawReader" (40 : Nat) "DowryBoxes$Clause") ∈ lw_all := lw_g (lw_at lw_m4 89 rfl) rfl
theorem q931 : (Jvm.Cond.methodLink "DowryBoxes$LawReader" (42 : Nat) ({ cls := "DowryBoxes$Clause", name := "<init>", desc := "(I)V" } : Jvm.MethodName)) ∈ lw_all := lw_g (lw_at lw_m4 91 rfl) rfl
theorem q938 : (Jvm.Cond.fieldLinkNest "DowryBoxes$LawReader" (47 : Nat) "DowryBoxes$Clause" "sum" "LDowryBoxes$Sum;" "DowryBoxes") ∈ lw_tbl := lw_at lw_m4 98 rfl
theorem q940 : (Jvm.Cond.fieldLinkNest "DowryBoxes$LawReader" (59 : Nat) "DowryBoxes$Clause" "when" "LDowryBoxes$Test;" "DowryBoxes") ∈ lw_tbl := lw_at lw_m4 100 rfl
theorem q948 : (Jvm.Cond.methodLink "DowryBoxes$LawReader" (43 : Nat) ({ cls := "DowryBoxes$LawReader", name := "sum", desc := "()LDowryBoxes$Sum;" } : Jvm.MethodName)) ∈ lw_all := lw_g (lw_at lw_m4 108 rfl) rfl
theorem q949 : (Jvm.Cond.sameMethod "DowryBoxes$LawReader" "DowryBoxes$Reader" "sum" "()LDowryBoxes$Sum;") ∈ lw_all := lw_g (lw_at lw_m4 109 rfl) rfl
theorem q951 : (Jvm.Cond.selects "DowryBoxes$LawReader" ({ cls := "DowryBoxes$LawReader", name := "sum", desc := "()LDowryBoxes$Sum;" } : Jvm.MethodName) ({ cls := "DowryBoxes$Reader", name := "sum", desc := "()LDowryBoxes$Sum;" } : Jvm.MethodName)) ∈ lw_all := lw_g (lw_at lw_m4 111 rfl) rfl
theorem q957 : (Jvm.Cond.selects "DowryBoxes$LawReader" ({ cls := "DowryBoxes$Reader", name := "term", desc := "()LDowryBoxes$Sum;" } : Jvm.MethodName) ({ cls := "DowryBoxes$Reader", name := "term", desc := "()LDowryBoxes$Sum;" } : Jvm.MethodName)) ∈ lw_all := lw_g (lw_at lw_m4 117 rfl) rfl
theorem q963 : (Jvm.Cond.selects "DowryBoxes$LawReader" ({ cls := "DowryBoxes$Reader", name := "part", desc := "()LDowryBoxes$Sum;" } : Jvm.MethodName) ({ cls := "DowryBoxes$Reader", name := "part", desc := "()LDowryBoxes$Sum;" } : Jvm.MethodName)) ∈ lw_all := lw_g (lw_at lw_m4 123 rfl) rfl
theorem q971 : (Jvm.Cond.selects "DowryBoxes$LawReader" ({ cls := "DowryBoxes$Reader", name := "opens", desc := "()V" } : Jvm.MethodName) ({ cls := "DowryBoxes$Reader", name := "opens", desc := "()V" } : Jvm.MethodName)) ∈ lw_all := lw_g (lw_at lw_m4 131 rfl) rfl
theorem q979 : (Jvm.Cond.selects "DowryBoxes$LawReader" ({ cls := "DowryBoxes$Reader", name := "need", desc := "(Ljava/lang/String;)V" } : Jvm.MethodName) ({ cls := "DowryBoxes$Reader", name := "need", desc := "(Ljava/lang/String;)V" } : Jvm.MethodName)) ∈ lw_all := lw_g (lw_at lw_m4 139 rfl) rfl
theorem q985 : (Jvm.Cond.selects "DowryBoxes$LawReader" ({ cls := "DowryBoxes$Reader", name := "takes", desc := "(Ljava/lang/String;)Z" } : Jvm.MethodName) ({ cls := "DowryBoxes$Reader", name := "takes", desc := "(Ljava/lang/String;)Z" } : Jvm.MethodName)) ∈ lw_all := lw_g (lw_at lw_m4 145 rfl) rfl
theorem q991 : (Jvm.Cond.selects "DowryBoxes$LawReader" ({ cls := "DowryBoxes$Reader", name := "leaf", desc := "()V" } : Jvm.MethodName) ({ cls := "DowryBoxes$Reader", name := "leaf", desc := "()V" } : Jvm.MethodName)) ∈ lw_all := lw_g (lw_at lw_m4 151 rfl) rfl
theorem q999 : (Jvm.Cond.selects "DowryBoxes$LawReader" ({ cls := "DowryBoxes$Reader", name := "number", desc := "(II)I" } : Jvm.MethodName) ({ cls := "DowryBoxes$Reader", name := "number", desc := "(II)I" } : Jvm.MethodName)) ∈ lw_all := lw_g (lw_at lw_m4 159 rfl) rfl
theorem q1016 : (Jvm.Cond.selects "DowryBoxes$LawReader" ({ cls := "DowryBoxes$Reader", name := "value", desc := "()I" } : Jvm.MethodName) ({ cls := "DowryBoxes$LawReader", name := "value", desc := "()I" } : Jvm.MethodName)) ∈ lw_all := lw_g (lw_at lw_m4 176 rfl) rfl
theorem q1017 : (Jvm.Cond.instanceMethod ({ cls := "DowryBoxes$LawReader", name := "value", desc := "()I" } : Jvm.MethodName)) ∈ lw_all := lw_g (lw_at lw_m4 177 rfl) rfl
theorem q1018 : (Jvm.Cond.code ({ cls := "DowryBoxes$LawReader", name := "value", desc := "()I" } : Jvm.MethodName) prog_7_method_3_code (1 : Nat) (Option.some Jvm.ClassFile.FieldType.int)) ∈ lw_all := lw_g (lw_at lw_m4 178 rfl) rfl
theorem q1019 : (Jvm.Cond.stringRef "DowryBoxes$LawReader" (67 : Nat) "box") ∈ lw_tbl := lw_at lw_m4 179 rfl
theorem q1020 : (Jvm.Cond.methodLink "DowryBoxes$LawReader" (69 : Nat) ({ cls := "DowryBoxes$LawReader", name := "isValue", desc := "(Ljava/lang/String;)Z" } : Jvm.MethodName)) ∈ lw_all := lw_g (lw_at lw_m4 180 rfl) rfl
theorem q1021 : (Jvm.Cond.sameMethod "DowryBoxes$LawReader" "DowryBoxes$Reader" "isValue" "(Ljava/lang/String;)Z") ∈ lw_all := lw_g (lw_at lw_m4 181 rfl) rfl
theorem q1023 : (Jvm.Cond.selects "DowryBoxes$LawReader" ({ cls := "DowryBoxes$LawReader", name := "isValue", desc := "(Ljava/lang/String;)Z" } : Jvm.MethodName) ({ cls := "DowryBoxes$Reader", name := "isValue", desc := "(Ljava/lang/String;)Z" } : Jvm.MethodName)) ∈ lw_all := lw_g (lw_at lw_m4 183 rfl) rfl
theorem q1026 : (Jvm.Cond.stringRef "DowryBoxes$LawReader" (72 : Nat) "spring") ∈ lw_tbl := lw_at lw_m4 186 rfl
theorem q1027 : (Jvm.Cond.stringRef "DowryBoxes$LawReader" (74 : Nat) "notes") ∈ lw_tbl := lw_at lw_m4 187 rfl
theorem q1028 : (Jvm.Cond.stringRef "DowryBoxes$LawReader" (76 : Nat) "broken") ∈ lw_tbl := lw_at lw_m4 188 rfl
theorem q1029 : (Jvm.Cond.stringRef "DowryBoxes$LawReader" (78 : Nat) "suitor") ∈ lw_tbl := lw_at lw_m4 189 rfl
theorem q1030 : (Jvm.Cond.stringRef "DowryBoxes$LawReader" (80 : Nat) "ear") ∈ lw_tbl := lw_at lw_m4 190 rfl
theorem q1031 : (Jvm.Cond.stringRef "DowryBoxes$LawReader" (82 : Nat) "wants") ∈ lw_tbl := lw_at lw_m4 191 rfl
theorem q1032 : (Jvm.Cond.stringRef "DowryBoxes$LawReader" (84 : Nat) "year") ∈ lw_tbl := lw_at lw_m4 192 rfl
theorem q1033 : (Jvm.Cond.stringRef "DowryBoxes$LawReader" (86 : Nat) "mood") ∈ lw_tbl := lw_at lw_m4 193 rfl
theorem q1081 : (Jvm.Cond.stringRef "DowryBoxes$LawReader" (50 : Nat) "if") ∈ lw_tbl := lw_at lw_m5 1 rfl
theorem q1082 : (Jvm.Cond.methodLink "DowryBoxes$LawReader" (52 : Nat) ({ cls := "DowryBoxes$LawReader", name := "takes", desc := "(Ljava/lang/String;)Z" } : Jvm.MethodName)) ∈ lw_all := lw_g (lw_at lw_m5 2 rfl) rfl
theorem q1083 : (Jvm.Cond.sameMethod "DowryBoxes$LawReader" "DowryBoxes$Reader" "takes" "(Ljava/lang/String;)Z") ∈ lw_all := lw_g (lw_at lw_m5 3 rfl) rfl
theorem q1085 : (Jvm.Cond.selects "DowryBoxes$LawReader" ({ cls := "DowryBoxes$LawReader", name := "takes", desc := "(Ljava/lang/String;)Z" } : Jvm.MethodName) ({ cls := "DowryBoxes$Reader", name := "takes", desc := "(Ljava/lang/String;)Z" } : Jvm.MethodName)) ∈ lw_all := lw_g (lw_at lw_m5 5 rfl) rfl
theorem q1086 : (Jvm.Cond.methodLink "DowryBoxes$LawReader" (55 : Nat) ({ cls := "DowryBoxes$LawReader", name := "test", desc := "()LDowryBoxes$Test;" } : Jvm.MethodName)) ∈ lw_all := lw_g (lw_at lw_m5 6 rfl) rfl
theorem q1087 : (Jvm.Cond.sameMethod "DowryBoxes$LawReader" "DowryBoxes$Reader" "test" "()LDowryBoxes$Test;") ∈ lw_all := lw_g (lw_at lw_m5 7 rfl) rfl
theorem q1089 : (Jvm.Cond.selects "DowryBoxes$LawReader" ({ cls := "DowryBoxes$LawReader", name := "test", desc := "()LDowryBoxes$Test;" } : Jvm.MethodName) ({ cls := "DowryBoxes$Reader", name := "test", desc := "()LDowryBoxes$Test;" } : Jvm.MethodName)) ∈ lw_all := lw_g (lw_at lw_m5 9 rfl) rfl
theorem q1095 : (Jvm.Cond.selects "DowryBoxes$LawReader" ({ cls := "DowryBoxes$Reader", name := "both", desc := "()LDowryBoxes$Test;" } : Jvm.MethodName) ({ cls := "DowryBoxes$Reader", name := "both", desc := "()LDowryBoxes$Test;" } : Jvm.MethodName)) ∈ lw_all := lw_g (lw_at lw_m5 15 rfl) rfl
theorem q1101 : (Jvm.Cond.selects "DowryBoxes$LawReader" ({ cls := "DowryBoxes$Reader", name := "plain", desc := "()LDowryBoxes$Test;" } : Jvm.MethodName) ({ cls := "DowryBoxes$Reader", name := "plain", desc := "()LDowryBoxes$Test;" } : Jvm.MethodName)) ∈ lw_all := lw_g (lw_at lw_m5 21 rfl) rfl
theorem q1108 : (Jvm.Cond.selects "DowryBoxes$LawReader" ({ cls := "DowryBoxes$Reader", name := "positive", desc := "()LDowryBoxes$Test;" } : Jvm.MethodName) ({ cls := "DowryBoxes$Reader", name := "positive", desc := "()LDowryBoxes$Test;" } : Jvm.MethodName)) ∈ lw_all := lw_g (lw_at lw_m5 28 rfl) rfl
theorem q1176 : (Jvm.Cond.methodLink "DowryBoxes$LawReader" (63 : Nat) ({ cls := "java/util/ArrayList", name := "add", desc := "(Ljava/lang/Object;)Z" } : Jvm.MethodName)) ∈ lw_all := lw_g (lw_at lw_m5 96 rfl) rfl
theorem q2277 : (Jvm.Cond.selects "DowryBoxes$LawReader" ({ cls := "DowryBoxes$Reader", name := "is", desc := "(Ljava/lang/String;)Z" } : Jvm.MethodName) ({ cls := "DowryBoxes$Reader", name := "is", desc := "(Ljava/lang/String;)Z" } : Jvm.MethodName)) ∈ lw_all := lw_g (lw_at lw_m9 237 rfl) rfl
theorem q2280 : (Jvm.Cond.selects "DowryBoxes$LawReader" ({ cls := "DowryBoxes$Reader", name := "sum", desc := "()LDowryBoxes$Sum;" } : Jvm.MethodName) ({ cls := "DowryBoxes$Reader", name := "sum", desc := "()LDowryBoxes$Sum;" } : Jvm.MethodName)) ∈ lw_all := lw_g (lw_at lw_m10 0 rfl) rfl
theorem q2283 : (Jvm.Cond.selects "DowryBoxes$LawReader" ({ cls := "DowryBoxes$Reader", name := "test", desc := "()LDowryBoxes$Test;" } : Jvm.MethodName) ({ cls := "DowryBoxes$Reader", name := "test", desc := "()LDowryBoxes$Test;" } : Jvm.MethodName)) ∈ lw_all := lw_g (lw_at lw_m10 3 rfl) rfl
theorem q2296 : (Jvm.Cond.castable "DowryBoxes$LawReader" "java/lang/Object") ∈ lw_tbl := lw_at lw_m10 16 rfl
theorem in_X7 : ∀ w ∈ wsX70, w ∈ lw_all := lw_in wsX70 [800, 802, 804, 806, 808, 810, 812, 798] (by decide +kernel) (by decide +kernel)
/-! DowryBoxes$Fault -/
set_option maxRecDepth 100000
def RX8 : String := "DowryBoxes$Fault"
def TX8 : u_T := fun k => match k with
  | 0 => ("java/lang/Throwable", "cause", "Ljava/lang/Throwable;", false)
  | 1 => ("java/lang/Throwable", "stackTrace", "[Ljava/lang/StackTraceElement;", false)
  | 2 => ("java/lang/Throwable", "suppressedExceptions", "Ljava/util/List;", false)
  | 3 => ("java/lang/Throwable", "detailMessage", "Ljava/lang/String;", false)
  | 4 => ("java/lang/Throwable", "backtrace", "Ljava/lang/Object;", false)
  | 5 => ("java/lang/Throwable", "depth", "I", false)
  | _ => ("DowryBoxes$Fault", "place", "I", true)
def tyX8 : Nat → FieldType := fun k => match k with
  | 0 => .object "java/lang/Throwable"
  | 1 => .array (.object "java/lang/StackTraceElement")
  | 2 => .object "java/util/List"
  | 3 => .object "java/lang/String"
  | 4 => .object "java/lang/Object"
  | 5 => .int
  | _ => .int
abbrev wsX80 : List Cond := u_ws RX8 TX8 7
theorem nmX8 : ∀ a, a < 7 → ∀ b, b < 7 → a ≠ b → (TX8 a).2.1 ≠ (TX8 b).2.1 := by decide +kernel
theorem tyX8_ok : ∀ k, k < 7 → parseFieldDescriptor (TX8 k).2.2.1 = some (tyX8 k) := by decide +kernel
abbrev cX8_init : ByteArray := prog_5_method_1_code
def yX8_init : MethodName := ⟨RX8, "<init>", "(I)V"⟩
def dkwX8_init_0 : List UInt8 := [42, 1, 1, 3, 3, 183, 0, 1, 42, 27, 181, 0, 7, 177]
abbrev dktX8_init_0 : List UInt8 := dkwX8_init_0 ++ []
theorem dksX8_init_0 : cX8_init.data.toList.drop 0 = dktX8_init_0 := by decide +kernel
theorem dX8_init_0 : decode cX8_init 0 = .ok (.aload_n 0, 1) := dk_42 (dk_at dksX8_init_0 0 rfl rfl)
theorem dX8_init_1 : decode cX8_init 1 = .ok (.aconst_null, 1) := dk_1 (dk_at dksX8_init_0 1 rfl rfl)
theorem dX8_init_2 : decode cX8_init 2 = .ok (.aconst_null, 1) := dk_1 (dk_at dksX8_init_0 2 rfl rfl)
theorem dX8_init_3 : decode cX8_init 3 = .ok (.iconst 0, 1) := dk_3 (dk_at dksX8_init_0 3 rfl rfl)
theorem dX8_init_4 : decode cX8_init 4 = .ok (.iconst 0, 1) := dk_3 (dk_at dksX8_init_0 4 rfl rfl)
theorem dX8_init_5 : decode cX8_init 5 = .ok (.invokespecial 1, 3) := dk_183 0 1 (dk_at dksX8_init_0 5 rfl rfl)
theorem dX8_init_8 : decode cX8_init 8 = .ok (.aload_n 0, 1) := dk_42 (dk_at dksX8_init_0 8 rfl rfl)
theorem dX8_init_9 : decode cX8_init 9 = .ok (.iload_n 1, 1) := dk_27 (dk_at dksX8_init_0 9 rfl rfl)
theorem dX8_init_10 : decode cX8_init 10 = .ok (.putfield 7, 3) := dk_181 0 7 (dk_at dksX8_init_0 10 rfl rfl)
theorem dX8_init_13 : decode cX8_init 13 = .ok (.return_, 1) := dk_177 (dk_at dksX8_init_0 13 rfl rfl)
theorem q141 : (Jvm.Cond.initialized "DowryBoxes$Fault") ∈ lw_all := lw_g (lw_at lw_m1 21 rfl) rfl
theorem q317 : (Jvm.Cond.selects "DowryBoxes$Fault" ({ cls := "java/lang/Throwable", name := "fillInStackTrace", desc := "()Ljava/lang/Throwable;" } : Jvm.MethodName) ({ cls := "java/lang/Throwable", name := "fillInStackTrace", desc := "()Ljava/lang/Throwable;" } : Jvm.MethodName)) ∈ lw_all := lw_g (lw_at lw_m1 197 rfl) rfl
theorem q515 : (Jvm.Cond.selects "DowryBoxes$Fault" ({ cls := "java/lang/Object", name := "getClass", desc := "()Ljava/lang/Class;" } : Jvm.MethodName) ({ cls := "java/lang/Object", name := "getClass", desc := "()Ljava/lang/Class;" } : Jvm.MethodName)) ∈ lw_all := lw_g (lw_at lw_m2 155 rfl) rfl
theorem q907 : (Jvm.Cond.instantiable "DowryBoxes$Fault" (7 : Nat)) ∈ lw_all := lw_g (lw_at lw_m4 67 rfl) rfl
theorem q908 : (Jvm.Cond.castable "DowryBoxes$Fault" "DowryBoxes$Fault") ∈ lw_tbl := lw_at lw_m4 68 rfl
theorem q909 : (Jvm.Cond.selects "DowryBoxes$Fault" ({ cls := "java/lang/Throwable", name := "fillInStackTrace", desc := "(I)Ljava/lang/Throwable;" } : Jvm.MethodName) ({ cls := "java/lang/Throwable", name := "fillInStackTrace", desc := "(I)Ljava/lang/Throwable;" } : Jvm.MethodName)) ∈ lw_all := lw_g (lw_at lw_m4 69 rfl) rfl
theorem q910 : (Jvm.Cond.lays "DowryBoxes$Fault" "java/lang/Throwable" "cause" "Ljava/lang/Throwable;") ∈ lw_all := lw_g (lw_at lw_m4 70 rfl) rfl
theorem q911 : (Jvm.Cond.lays "DowryBoxes$Fault" "java/lang/Throwable" "stackTrace" "[Ljava/lang/StackTraceElement;") ∈ lw_all := lw_g (lw_at lw_m4 71 rfl) rfl
theorem q912 : (Jvm.Cond.lays "DowryBoxes$Fault" "java/lang/Throwable" "suppressedExceptions" "Ljava/util/List;") ∈ lw_all := lw_g (lw_at lw_m4 72 rfl) rfl
theorem q913 : (Jvm.Cond.lays "DowryBoxes$Fault" "java/lang/Throwable" "detailMessage" "Ljava/lang/String;") ∈ lw_all := lw_g (lw_at lw_m4 73 rfl) rfl
theorem q914 : (Jvm.Cond.lays "DowryBoxes$Fault" "java/lang/Throwable" "backtrace" "Ljava/lang/Object;") ∈ lw_all := lw_g (lw_at lw_m4 74 rfl) rfl
theorem q916 : (Jvm.Cond.instanceMethod ({ cls := "DowryBoxes$Fault", name := "<init>", desc := "(I)V" } : Jvm.MethodName)) ∈ lw_all := lw_g (lw_at lw_m4 76 rfl) rfl
theorem q917 : (Jvm.Cond.code ({ cls := "DowryBoxes$Fault", name := "<init>", desc := "(I)V" } : Jvm.MethodName) prog_5_method_1_code (2 : Nat) (Option.none : Option Jvm.ClassFile.FieldType)) ∈ lw_all := lw_g (lw_at lw_m4 77 rfl) rfl
theorem q918 : (Jvm.Cond.methodLink "DowryBoxes$Fault" (1 : Nat) ({ cls := "java/lang/Exception", name := "<init>", desc := "(Ljava/lang/String;Ljava/lang/Throwable;ZZ)V" } : Jvm.MethodName)) ∈ lw_all := lw_g (lw_at lw_m4 78 rfl) rfl
theorem q919 : (Jvm.Cond.fieldLink "DowryBoxes$Fault" (7 : Nat) "DowryBoxes$Fault" "place" "I") ∈ lw_all := lw_g (lw_at lw_m4 79 rfl) rfl
theorem q921 : (Jvm.Cond.laysFinal "DowryBoxes$Fault" "DowryBoxes$Fault" "place" "I") ∈ lw_all := lw_g (lw_at lw_m4 81 rfl) rfl
theorem q922 : (Jvm.Cond.soleField "DowryBoxes$Fault" "place") ∈ lw_all := lw_g (lw_at lw_m4 82 rfl) rfl
theorem q923 : (Jvm.Cond.lays "DowryBoxes$Fault" "java/lang/Throwable" "depth" "I") ∈ lw_all := lw_g (lw_at lw_m4 83 rfl) rfl
theorem q924 : (Jvm.Cond.superclass "DowryBoxes$Fault" "java/lang/Exception") ∈ lw_all := lw_g (lw_at lw_m4 84 rfl) rfl
theorem q2297 : (Jvm.Cond.castable "DowryBoxes$Fault" "java/lang/Object") ∈ lw_tbl := lw_at lw_m10 17 rfl
theorem in_X8 : ∀ w ∈ wsX80, w ∈ lw_all := lw_in wsX80 [910, 911, 912, 913, 914, 923, 921] (by decide +kernel) (by decide +kernel)
/-! DowryBoxes$Clause -/
set_option maxRecDepth 100000
def RX9 : String := "DowryBoxes$Clause"
def TX9 : u_T := fun k => match k with
  | 0 => ("DowryBoxes$Clause", "head", "I", true)
  | 1 => ("DowryBoxes$Clause", "sum", "LDowryBoxes$Sum;", false)
  | _ => ("DowryBoxes$Clause", "when", "LDowryBoxes$Test;", false)
def tyX9 : Nat → FieldType := fun k => match k with
  | 0 => .int
  | 1 => .object "DowryBoxes$Sum"
  | _ => .object "DowryBoxes$Test"
abbrev wsX90 : List Cond := u_ws RX9 TX9 3
theorem nmX9 : ∀ a, a < 3 → ∀ b, b < 3 → a ≠ b → (TX9 a).2.1 ≠ (TX9 b).2.1 := by decide +kernel
theorem tyX9_ok : ∀ k, k < 3 → parseFieldDescriptor (TX9 k).2.2.1 = some (tyX9 k) := by decide +kernel
abbrev cX9_tells : ByteArray := prog_3_method_2_code
def yX9_tells : MethodName := ⟨RX9, "tells", "(LDowryBoxes$Setting;)J"⟩
def dkwX9_tells_1 : List UInt8 := [180, 0, 27, 199, 0, 7, 10, 167, 0, 11, 42, 180, 0, 27, 43, 182, 0, 31, 173, 77, 20, 0, 25, 173]
abbrev dktX9_tells_1 : List UInt8 := dkwX9_tells_1 ++ []
def dkwX9_tells_0 : List UInt8 := [42, 180, 0, 15, 198, 0, 18, 42, 180, 0, 15, 43, 182, 0, 19, 154, 0, 7, 20, 0, 25, 173, 42]
abbrev dktX9_tells_0 : List UInt8 := dkwX9_tells_0 ++ dktX9_tells_1
theorem dksX9_tells_0 : cX9_tells.data.toList.drop 0 = dktX9_tells_0 := by decide +kernel
theorem dksX9_tells_1 : cX9_tells.data.toList.drop 23 = dktX9_tells_1 := dk_seg dksX9_tells_0 23 rfl rfl
theorem dX9_tells_0 : decode cX9_tells 0 = .ok (.aload_n 0, 1) := dk_42 (dk_at dksX9_tells_0 0 rfl rfl)
theorem dX9_tells_1 : decode cX9_tells 1 = .ok (.getfield 15, 3) := dk_180 0 15 (dk_at dksX9_tells_0 1 rfl rfl)
theorem dX9_tells_4 : decode cX9_tells 4 = .ok (.ifnull 18, 3) := dk_198 0 18 (dk_at dksX9_tells_0 4 rfl rfl)
theorem dX9_tells_7 : decode cX9_tells 7 = .ok (.aload_n 0, 1) := dk_42 (dk_at dksX9_tells_0 7 rfl rfl)
theorem dX9_tells_8 : decode cX9_tells 8 = .ok (.getfield 15, 3) := dk_180 0 15 (dk_at dksX9_tells_0 8 rfl rfl)
theorem dX9_tells_11 : decode cX9_tells 11 = .ok (.aload_n 1, 1) := dk_43 (dk_at dksX9_tells_0 11 rfl rfl)
theorem dX9_tells_12 : decode cX9_tells 12 = .ok (.invokevirtual 19, 3) := dk_182 0 19 (dk_at dksX9_tells_0 12 rfl rfl)
theorem dX9_tells_15 : decode cX9_tells 15 = .ok (.ifCond .ne 7, 3) := dk_154 0 7 (dk_at dksX9_tells_0 15 rfl rfl)
theorem dX9_tells_18 : decode cX9_tells 18 = .ok (.ldc2_w 25, 3) := dk_20 0 25 (dk_at dksX9_tells_0 18 rfl rfl)
theorem dX9_tells_21 : decode cX9_tells 21 = .ok (.lreturn, 1) := dk_173 (dk_at dksX9_tells_0 21 rfl rfl)
theorem dX9_tells_22 : decode cX9_tells 22 = .ok (.aload_n 0, 1) := dk_42 (dk_at dksX9_tells_0 22 rfl rfl)
theorem dX9_tells_23 : decode cX9_tells 23 = .ok (.getfield 27, 3) := dk_180 0 27 (dk_at dksX9_tells_1 0 rfl rfl)
theorem dX9_tells_26 : decode cX9_tells 26 = .ok (.ifnonnull 7, 3) := dk_199 0 7 (dk_at dksX9_tells_1 3 rfl rfl)
theorem dX9_tells_29 : decode cX9_tells 29 = .ok (.lconst 1, 1) := dk_10 (dk_at dksX9_tells_1 6 rfl rfl)
theorem dX9_tells_30 : decode cX9_tells 30 = .ok (.goto 11, 3) := dk_167 0 11 (dk_at dksX9_tells_1 7 rfl rfl)
theorem dX9_tells_33 : decode cX9_tells 33 = .ok (.aload_n 0, 1) := dk_42 (dk_at dksX9_tells_1 10 rfl rfl)
theorem dX9_tells_34 : decode cX9_tells 34 = .ok (.getfield 27, 3) := dk_180 0 27 (dk_at dksX9_tells_1 11 rfl rfl)
theorem dX9_tells_37 : decode cX9_tells 37 = .ok (.aload_n 1, 1) := dk_43 (dk_at dksX9_tells_1 14 rfl rfl)
theorem dX9_tells_38 : decode cX9_tells 38 = .ok (.invokevirtual 31, 3) := dk_182 0 31 (dk_at dksX9_tells_1 15 rfl rfl)
theorem dX9_tells_41 : decode cX9_tells 41 = .ok (.lreturn, 1) := dk_173 (dk_at dksX9_tells_1 18 rfl rfl)
theorem dX9_tells_42 : decode cX9_tells 42 = .ok (.astore_n 2, 1) := dk_77 (dk_at dksX9_tells_1 19 rfl rfl)
theorem dX9_tells_43 : decode cX9_tells 43 = .ok (.ldc2_w 25, 3) := dk_20 0 25 (dk_at dksX9_tells_1 20 rfl rfl)
theorem dX9_tells_46 : decode cX9_tells 46 = .ok (.lreturn, 1) := dk_173 (dk_at dksX9_tells_1 23 rfl rfl)
abbrev cX9_init : ByteArray := prog_3_method_1_code
def yX9_init : MethodName := ⟨RX9, "<init>", "(I)V"⟩
def dkwX9_init_0 : List UInt8 := [42, 183, 0, 3, 42, 27, 181, 0, 9, 177]
abbrev dktX9_init_0 : List UInt8 := dkwX9_init_0 ++ []
theorem dksX9_init_0 : cX9_init.data.toList.drop 0 = dktX9_init_0 := by decide +kernel
theorem dX9_init_0 : decode cX9_init 0 = .ok (.aload_n 0, 1) := dk_42 (dk_at dksX9_init_0 0 rfl rfl)
theorem dX9_init_1 : decode cX9_init 1 = .ok (.invokespecial 3, 3) := dk_183 0 3 (dk_at dksX9_init_0 1 rfl rfl)
theorem dX9_init_4 : decode cX9_init 4 = .ok (.aload_n 0, 1) := dk_42 (dk_at dksX9_init_0 4 rfl rfl)
theorem dX9_init_5 : decode cX9_init 5 = .ok (.iload_n 1, 1) := dk_27 (dk_at dksX9_init_0 5 rfl rfl)
theorem dX9_init_6 : decode cX9_init 6 = .ok (.putfield 9, 3) := dk_181 0 9 (dk_at dksX9_init_0 6 rfl rfl)
theorem dX9_init_9 : decode cX9_init 9 = .ok (.return_, 1) := dk_177 (dk_at dksX9_init_0 9 rfl rfl)
theorem q142 : (Jvm.Cond.initialized "DowryBoxes$Clause") ∈ lw_all := lw_g (lw_at lw_m1 22 rfl) rfl
theorem q513 : (Jvm.Cond.selects "DowryBoxes$Clause" ({ cls := "java/lang/Object", name := "getClass", desc := "()Ljava/lang/Class;" } : Jvm.MethodName) ({ cls := "java/lang/Object", name := "getClass", desc := "()Ljava/lang/Class;" } : Jvm.MethodName)) ∈ lw_all := lw_g (lw_at lw_m2 153 rfl) rfl
theorem q654 : (Jvm.Cond.instanceMethod ({ cls := "DowryBoxes$Clause", name := "tells", desc := "(LDowryBoxes$Setting;)J" } : Jvm.MethodName)) ∈ lw_all := lw_g (lw_at lw_m3 54 rfl) rfl
theorem q655 : (Jvm.Cond.selects "DowryBoxes$Clause" ({ cls := "DowryBoxes$Clause", name := "tells", desc := "(LDowryBoxes$Setting;)J" } : Jvm.MethodName) ({ cls := "DowryBoxes$Clause", name := "tells", desc := "(LDowryBoxes$Setting;)J" } : Jvm.MethodName)) ∈ lw_all := lw_g (lw_at lw_m3 55 rfl) rfl
theorem q656 : (Jvm.Cond.codeWith ({ cls := "DowryBoxes$Clause", name := "tells", desc := "(LDowryBoxes$Setting;)J" } : Jvm.MethodName) prog_3_method_2_code (3 : Nat) (Option.some Jvm.ClassFile.FieldType.long) [((0 : Nat), (21 : Nat), (42 : Nat), (37 : Nat)), ((22 : Nat), (41 : Nat), (42 : Nat), (37 : Nat))]) ∈ lw_all := lw_g (lw_at lw_m3 56 rfl) rfl
theorem q657 : (Jvm.Cond.classLink "DowryBoxes$Clause" (37 : Nat) "DowryBoxes$Broken") ∈ lw_all := lw_g (lw_at lw_m3 57 rfl) rfl
theorem q658 : (Jvm.Cond.methodLink "DowryBoxes$Clause" (19 : Nat) ({ cls := "DowryBoxes$Test", name := "is", desc := "(LDowryBoxes$Setting;)Z" } : Jvm.MethodName)) ∈ lw_all := lw_g (lw_at lw_m3 58 rfl) rfl
theorem q690 : (Jvm.Cond.constantLong "DowryBoxes$Clause" (25 : Nat) (-4000000000 : Int64)) ∈ lw_all := lw_g (lw_at lw_m3 90 rfl) rfl
theorem q691 : (Jvm.Cond.methodLink "DowryBoxes$Clause" (31 : Nat) ({ cls := "DowryBoxes$Sum", name := "of", desc := "(LDowryBoxes$Setting;)J" } : Jvm.MethodName)) ∈ lw_all := lw_g (lw_at lw_m3 91 rfl) rfl
theorem q930 : (Jvm.Cond.instantiable "DowryBoxes$Clause" (3 : Nat)) ∈ lw_all := lw_g (lw_at lw_m4 90 rfl) rfl
theorem q932 : (Jvm.Cond.instanceMethod ({ cls := "DowryBoxes$Clause", name := "<init>", desc := "(I)V" } : Jvm.MethodName)) ∈ lw_all := lw_g (lw_at lw_m4 92 rfl) rfl
theorem q933 : (Jvm.Cond.code ({ cls := "DowryBoxes$Clause", name := "<init>", desc := "(I)V" } : Jvm.MethodName) prog_3_method_1_code (2 : Nat) (Option.none : Option Jvm.ClassFile.FieldType)) ∈ lw_all := lw_g (lw_at lw_m4 93 rfl) rfl
theorem q934 : (Jvm.Cond.methodLink "DowryBoxes$Clause" (3 : Nat) ({ cls := "java/lang/Object", name := "<init>", desc := "()V" } : Jvm.MethodName)) ∈ lw_all := lw_g (lw_at lw_m4 94 rfl) rfl
theorem q935 : (Jvm.Cond.fieldLink "DowryBoxes$Clause" (9 : Nat) "DowryBoxes$Clause" "head" "I") ∈ lw_all := lw_g (lw_at lw_m4 95 rfl) rfl
theorem q937 : (Jvm.Cond.fieldLink "DowryBoxes$Clause" (27 : Nat) "DowryBoxes$Clause" "sum" "LDowryBoxes$Sum;") ∈ lw_all := lw_g (lw_at lw_m4 97 rfl) rfl
theorem q939 : (Jvm.Cond.fieldLink "DowryBoxes$Clause" (15 : Nat) "DowryBoxes$Clause" "when" "LDowryBoxes$Test;") ∈ lw_all := lw_g (lw_at lw_m4 99 rfl) rfl
theorem q941 : (Jvm.Cond.laysFinal "DowryBoxes$Clause" "DowryBoxes$Clause" "head" "I") ∈ lw_all := lw_g (lw_at lw_m4 101 rfl) rfl
theorem q942 : (Jvm.Cond.soleField "DowryBoxes$Clause" "head") ∈ lw_all := lw_g (lw_at lw_m4 102 rfl) rfl
theorem q943 : (Jvm.Cond.lays "DowryBoxes$Clause" "DowryBoxes$Clause" "sum" "LDowryBoxes$Sum;") ∈ lw_all := lw_g (lw_at lw_m4 103 rfl) rfl
theorem q944 : (Jvm.Cond.soleField "DowryBoxes$Clause" "sum") ∈ lw_all := lw_g (lw_at lw_m4 104 rfl) rfl
theorem q945 : (Jvm.Cond.lays "DowryBoxes$Clause" "DowryBoxes$Clause" "when" "LDowryBoxes$Test;") ∈ lw_all := lw_g (lw_at lw_m4 105 rfl) rfl
theorem q946 : (Jvm.Cond.soleField "DowryBoxes$Clause" "when") ∈ lw_all := lw_g (lw_at lw_m4 106 rfl) rfl
theorem q947 : (Jvm.Cond.superclass "DowryBoxes$Clause" "java/lang/Object") ∈ lw_all := lw_g (lw_at lw_m4 107 rfl) rfl
theorem q2298 : (Jvm.Cond.castable "DowryBoxes$Clause" "java/lang/Object") ∈ lw_tbl := lw_at lw_m10 18 rfl
theorem in_X9 : ∀ w ∈ wsX90, w ∈ lw_all := lw_in wsX90 [941, 943, 945] (by decide +kernel) (by decide +kernel)
/-! DowryBoxes$Sum -/
set_option maxRecDepth 100000
def RX10 : String := "DowryBoxes$Sum"
abbrev cX10_init : ByteArray := prog_16_method_1_code
def yX10_init : MethodName := ⟨RX10, "<init>", "()V"⟩
theorem dX10_init_0 : decode cX10_init 0 = .ok (.aload_n 0, 1) := by decide +kernel
theorem dX10_init_1 : decode cX10_init 1 = .ok (.invokespecial 1, 3) := by decide +kernel
theorem dX10_init_4 : decode cX10_init 4 = .ok (.return_, 1) := by decide +kernel
theorem q143 : (Jvm.Cond.initialized "DowryBoxes$Sum") ∈ lw_all := lw_g (lw_at lw_m1 23 rfl) rfl
theorem q665 : (Jvm.Cond.declares ({ cls := "DowryBoxes$Sum", name := "of", desc := "(LDowryBoxes$Setting;)J" } : Jvm.MethodName)) ∈ lw_tbl := lw_at lw_m3 65 rfl
theorem q666 : (Jvm.Cond.sameMethod "DowryBoxes$Sum" "DowryBoxes$Sum" "of" "(LDowryBoxes$Setting;)J") ∈ lw_all := lw_g (lw_at lw_m3 66 rfl) rfl
theorem q1006 : (Jvm.Cond.instanceMethod ({ cls := "DowryBoxes$Sum", name := "<init>", desc := "()V" } : Jvm.MethodName)) ∈ lw_all := lw_g (lw_at lw_m4 166 rfl) rfl
theorem q1007 : (Jvm.Cond.code ({ cls := "DowryBoxes$Sum", name := "<init>", desc := "()V" } : Jvm.MethodName) prog_16_method_1_code (1 : Nat) (Option.none : Option Jvm.ClassFile.FieldType)) ∈ lw_all := lw_g (lw_at lw_m4 167 rfl) rfl
theorem q1008 : (Jvm.Cond.methodLink "DowryBoxes$Sum" (1 : Nat) ({ cls := "java/lang/Object", name := "<init>", desc := "()V" } : Jvm.MethodName)) ∈ lw_all := lw_g (lw_at lw_m4 168 rfl) rfl
/-! DowryBoxes$Number -/
set_option maxRecDepth 100000
def RX11 : String := "DowryBoxes$Number"
def TX11 : u_T := fun k => match k with
  | _ => ("DowryBoxes$Number", "number", "I", true)
def tyX11 : Nat → FieldType := fun k => match k with
  | _ => .int
abbrev wsX110 : List Cond := u_ws RX11 TX11 1
theorem nmX11 : ∀ a, a < 1 → ∀ b, b < 1 → a ≠ b → (TX11 a).2.1 ≠ (TX11 b).2.1 := by decide +kernel
theorem tyX11_ok : ∀ k, k < 1 → parseFieldDescriptor (TX11 k).2.2.1 = some (tyX11 k) := by decide +kernel
abbrev cX11_of : ByteArray := prog_9_method_2_code
def yX11_of : MethodName := ⟨RX11, "of", "(LDowryBoxes$Setting;)J"⟩
def dkwX11_of_0 : List UInt8 := [42, 180, 0, 7, 133, 173]
abbrev dktX11_of_0 : List UInt8 := dkwX11_of_0 ++ []
theorem dksX11_of_0 : cX11_of.data.toList.drop 0 = dktX11_of_0 := by decide +kernel
theorem dX11_of_0 : decode cX11_of 0 = .ok (.aload_n 0, 1) := dk_42 (dk_at dksX11_of_0 0 rfl rfl)
theorem dX11_of_1 : decode cX11_of 1 = .ok (.getfield 7, 3) := dk_180 0 7 (dk_at dksX11_of_0 1 rfl rfl)
theorem dX11_of_4 : decode cX11_of 4 = .ok (.i2l, 1) := dk_133 (dk_at dksX11_of_0 4 rfl rfl)
theorem dX11_of_5 : decode cX11_of 5 = .ok (.lreturn, 1) := dk_173 (dk_at dksX11_of_0 5 rfl rfl)
abbrev cX11_init : ByteArray := prog_9_method_1_code
def yX11_init : MethodName := ⟨RX11, "<init>", "(I)V"⟩
def dkwX11_init_0 : List UInt8 := [42, 183, 0, 1, 42, 27, 181, 0, 7, 177]
abbrev dktX11_init_0 : List UInt8 := dkwX11_init_0 ++ []
theorem dksX11_init_0 : cX11_init.data.toList.drop 0 = dktX11_init_0 := by decide +kernel
theorem dX11_init_0 : decode cX11_init 0 = .ok (.aload_n 0, 1) := dk_42 (dk_at dksX11_init_0 0 rfl rfl)
theorem dX11_init_1 : decode cX11_init 1 = .ok (.invokespecial 1, 3) := dk_183 0 1 (dk_at dksX11_init_0 1 rfl rfl)
theorem dX11_init_4 : decode cX11_init 4 = .ok (.aload_n 0, 1) := dk_42 (dk_at dksX11_init_0 4 rfl rfl)
theorem dX11_init_5 : decode cX11_init 5 = .ok (.iload_n 1, 1) := dk_27 (dk_at dksX11_init_0 5 rfl rfl)
theorem dX11_init_6 : decode cX11_init 6 = .ok (.putfield 7, 3) := dk_181 0 7 (dk_at dksX11_init_0 6 rfl rfl)
theorem dX11_init_9 : decode cX11_init 9 = .ok (.return_, 1) := dk_177 (dk_at dksX11_init_0 9 rfl rfl)
theorem q144 : (Jvm.Cond.initialized "DowryBoxes$Number") ∈ lw_all := lw_g (lw_at lw_m1 24 rfl) rfl
theorem q519 : (Jvm.Cond.selects "DowryBoxes$Number" ({ cls := "java/lang/Object", name := "getClass", desc := "()Ljava/lang/Class;" } : Jvm.MethodName) ({ cls := "java/lang/Object", name := "getClass", desc := "()Ljava/lang/Class;" } : Jvm.MethodName)) ∈ lw_all := lw_g (lw_at lw_m2 159 rfl) rfl
theorem q667 : (Jvm.Cond.selects "DowryBoxes$Number" ({ cls := "DowryBoxes$Sum", name := "of", desc := "(LDowryBoxes$Setting;)J" } : Jvm.MethodName) ({ cls := "DowryBoxes$Number", name := "of", desc := "(LDowryBoxes$Setting;)J" } : Jvm.MethodName)) ∈ lw_all := lw_g (lw_at lw_m3 67 rfl) rfl
theorem q668 : (Jvm.Cond.instanceMethod ({ cls := "DowryBoxes$Number", name := "of", desc := "(LDowryBoxes$Setting;)J" } : Jvm.MethodName)) ∈ lw_all := lw_g (lw_at lw_m3 68 rfl) rfl
theorem q669 : (Jvm.Cond.code ({ cls := "DowryBoxes$Number", name := "of", desc := "(LDowryBoxes$Setting;)J" } : Jvm.MethodName) prog_9_method_2_code (2 : Nat) (Option.some Jvm.ClassFile.FieldType.long)) ∈ lw_all := lw_g (lw_at lw_m3 69 rfl) rfl
theorem q995 : (Jvm.Cond.instantiable "DowryBoxes$Number" (1 : Nat)) ∈ lw_all := lw_g (lw_at lw_m4 155 rfl) rfl
theorem q1003 : (Jvm.Cond.instanceMethod ({ cls := "DowryBoxes$Number", name := "<init>", desc := "(I)V" } : Jvm.MethodName)) ∈ lw_all := lw_g (lw_at lw_m4 163 rfl) rfl
theorem q1004 : (Jvm.Cond.code ({ cls := "DowryBoxes$Number", name := "<init>", desc := "(I)V" } : Jvm.MethodName) prog_9_method_1_code (2 : Nat) (Option.none : Option Jvm.ClassFile.FieldType)) ∈ lw_all := lw_g (lw_at lw_m4 164 rfl) rfl
theorem q1005 : (Jvm.Cond.methodLinkNest "DowryBoxes$Number" (1 : Nat) ({ cls := "DowryBoxes$Sum", name := "<init>", desc := "()V" } : Jvm.MethodName) "DowryBoxes") ∈ lw_tbl := lw_at lw_m4 165 rfl
theorem q1009 : (Jvm.Cond.fieldLink "DowryBoxes$Number" (7 : Nat) "DowryBoxes$Number" "number" "I") ∈ lw_all := lw_g (lw_at lw_m4 169 rfl) rfl
theorem q1010 : (Jvm.Cond.laysFinal "DowryBoxes$Number" "DowryBoxes$Number" "number" "I") ∈ lw_all := lw_g (lw_at lw_m4 170 rfl) rfl
theorem q1011 : (Jvm.Cond.soleField "DowryBoxes$Number" "number") ∈ lw_all := lw_g (lw_at lw_m4 171 rfl) rfl
theorem q1012 : (Jvm.Cond.superclass "DowryBoxes$Number" "DowryBoxes$Sum") ∈ lw_all := lw_g (lw_at lw_m4 172 rfl) rfl
theorem q2299 : (Jvm.Cond.castable "DowryBoxes$Number" "java/lang/Object") ∈ lw_tbl := lw_at lw_m10 19 rfl
theorem in_X11 : ∀ w ∈ wsX110, w ∈ lw_all := lw_in wsX110 [1010] (by decide +kernel) (by decide +kernel)
/-! DowryBoxes$Value -/
set_option maxRecDepth 100000
def RX12 : String := "DowryBoxes$Value"
def TX12 : u_T := fun k => match k with
  | _ => ("DowryBoxes$Value", "which", "I", true)
def tyX12 : Nat → FieldType := fun k => match k with
  | _ => .int
abbrev wsX120 : List Cond := u_ws RX12 TX12 1
theorem nmX12 : ∀ a, a < 1 → ∀ b, b < 1 → a ≠ b → (TX12 a).2.1 ≠ (TX12 b).2.1 := by decide +kernel
theorem tyX12_ok : ∀ k, k < 1 → parseFieldDescriptor (TX12 k).2.2.1 = some (tyX12 k) := by decide +kernel
abbrev cX12_of : ByteArray := prog_20_method_2_code
def yX12_of : MethodName := ⟨RX12, "of", "(LDowryBoxes$Setting;)J"⟩
def dkwX12_of_0 : List UInt8 := [43, 180, 0, 13, 42, 180, 0, 7, 47, 173]
abbrev dktX12_of_0 : List UInt8 := dkwX12_of_0 ++ []
theorem dksX12_of_0 : cX12_of.data.toList.drop 0 = dktX12_of_0 := by decide +kernel
theorem dX12_of_0 : decode cX12_of 0 = .ok (.aload_n 1, 1) := dk_43 (dk_at dksX12_of_0 0 rfl rfl)
theorem dX12_of_1 : decode cX12_of 1 = .ok (.getfield 13, 3) := dk_180 0 13 (dk_at dksX12_of_0 1 rfl rfl)
theorem dX12_of_4 : decode cX12_of 4 = .ok (.aload_n 0, 1) := dk_42 (dk_at dksX12_of_0 4 rfl rfl)
theorem dX12_of_5 : decode cX12_of 5 = .ok (.getfield 7, 3) := dk_180 0 7 (dk_at dksX12_of_0 5 rfl rfl)
theorem dX12_of_8 : decode cX12_of 8 = .ok (.laload, 1) := dk_47 (dk_at dksX12_of_0 8 rfl rfl)
theorem dX12_of_9 : decode cX12_of 9 = .ok (.lreturn, 1) := dk_173 (dk_at dksX12_of_0 9 rfl rfl)
abbrev cX12_init : ByteArray := prog_20_method_1_code
def yX12_init : MethodName := ⟨RX12, "<init>", "(I)V"⟩
def dkwX12_init_0 : List UInt8 := [42, 183, 0, 1, 42, 27, 181, 0, 7, 177]
abbrev dktX12_init_0 : List UInt8 := dkwX12_init_0 ++ []
theorem dksX12_init_0 : cX12_init.data.toList.drop 0 = dktX12_init_0 := by decide +kernel
theorem dX12_init_0 : decode cX12_init 0 = .ok (.aload_n 0, 1) := dk_42 (dk_at dksX12_init_0 0 rfl rfl)
theorem dX12_init_1 : decode cX12_init 1 = .ok (.invokespecial 1, 3) := dk_183 0 1 (dk_at dksX12_init_0 1 rfl rfl)
theorem dX12_init_4 : decode cX12_init 4 = .ok (.aload_n 0, 1) := dk_42 (dk_at dksX12_init_0 4 rfl rfl)
theorem dX12_init_5 : decode cX12_init 5 = .ok (.iload_n 1, 1) := dk_27 (dk_at dksX12_init_0 5 rfl rfl)
theorem dX12_init_6 : decode cX12_init 6 = .ok (.putfield 7, 3) := dk_181 0 7 (dk_at dksX12_init_0 6 rfl rfl)
theorem dX12_init_9 : decode cX12_init 9 = .ok (.return_, 1) := dk_177 (dk_at dksX12_init_0 9 rfl rfl)
theorem q145 : (Jvm.Cond.initialized "DowryBoxes$Value") ∈ lw_all := lw_g (lw_at lw_m1 25 rfl) rfl
theorem q350 : (Jvm.Cond.fieldLinkNest "DowryBoxes$Value" (13 : Nat) "DowryBoxes$Setting" "values" "[J" "DowryBoxes") ∈ lw_tbl := lw_at lw_m1 230 rfl
theorem q527 : (Jvm.Cond.selects "DowryBoxes$Value" ({ cls := "java/lang/Object", name := "getClass", desc := "()Ljava/lang/Class;" } : Jvm.MethodName) ({ cls := "java/lang/Object", name := "getClass", desc := "()Ljava/lang/Class;" } : Jvm.MethodName)) ∈ lw_all := lw_g (lw_at lw_m2 167 rfl) rfl
theorem q674 : (Jvm.Cond.instanceMethod ({ cls := "DowryBoxes$Value", name := "of", desc := "(LDowryBoxes$Setting;)J" } : Jvm.MethodName)) ∈ lw_all := lw_g (lw_at lw_m3 74 rfl) rfl
theorem q675 : (Jvm.Cond.code ({ cls := "DowryBoxes$Value", name := "of", desc := "(LDowryBoxes$Setting;)J" } : Jvm.MethodName) prog_20_method_2_code (2 : Nat) (Option.some Jvm.ClassFile.FieldType.long)) ∈ lw_all := lw_g (lw_at lw_m3 75 rfl) rfl
theorem q678 : (Jvm.Cond.selects "DowryBoxes$Value" ({ cls := "DowryBoxes$Sum", name := "of", desc := "(LDowryBoxes$Setting;)J" } : Jvm.MethodName) ({ cls := "DowryBoxes$Value", name := "of", desc := "(LDowryBoxes$Setting;)J" } : Jvm.MethodName)) ∈ lw_all := lw_g (lw_at lw_m3 78 rfl) rfl
theorem q1051 : (Jvm.Cond.instantiable "DowryBoxes$Value" (1 : Nat)) ∈ lw_all := lw_g (lw_at lw_m4 211 rfl) rfl
theorem q1053 : (Jvm.Cond.instanceMethod ({ cls := "DowryBoxes$Value", name := "<init>", desc := "(I)V" } : Jvm.MethodName)) ∈ lw_all := lw_g (lw_at lw_m4 213 rfl) rfl
theorem q1054 : (Jvm.Cond.code ({ cls := "DowryBoxes$Value", name := "<init>", desc := "(I)V" } : Jvm.MethodName) prog_20_method_1_code (2 : Nat) (Option.none : Option Jvm.ClassFile.FieldType)) ∈ lw_all := lw_g (lw_at lw_m4 214 rfl) rfl
theorem q1055 : (Jvm.Cond.methodLinkNest "DowryBoxes$Value" (1 : Nat) ({ cls := "DowryBoxes$Sum", name := "<init>", desc := "()V" } : Jvm.MethodName) "DowryBoxes") ∈ lw_tbl := lw_at lw_m4 215 rfl
theorem q1056 : (Jvm.Cond.fieldLink "DowryBoxes$Value" (7 : Nat) "DowryBoxes$Value" "which" "I") ∈ lw_all := lw_g (lw_at lw_m4 216 rfl) rfl
theorem q1057 : (Jvm.Cond.laysFinal "DowryBoxes$Value" "DowryBoxes$Value" "which" "I") ∈ lw_all := lw_g (lw_at lw_m4 217 rfl) rfl
theorem q1058 : (Jvm.Cond.soleField "DowryBoxes$Value" "which") ∈ lw_all := lw_g (lw_at lw_m4 218 rfl) rfl
theorem q1059 : (Jvm.Cond.superclass "DowryBoxes$Value" "DowryBoxes$Sum") ∈ lw_all := lw_g (lw_at lw_m4 219 rfl) rfl
theorem q2300 : (Jvm.Cond.castable "DowryBoxes$Value" "java/lang/Object") ∈ lw_tbl := lw_at lw_m10 20 rfl
theorem in_X12 : ∀ w ∈ wsX120, w ∈ lw_all := lw_in wsX120 [1057] (by decide +kernel) (by decide +kernel)
/-! DowryBoxes$Two -/
set_option maxRecDepth 100000
def RX13 : String := "DowryBoxes$Two"
def TX13 : u_T := fun k => match k with
  | 0 => ("DowryBoxes$Two", "sign", "C", true)
  | 1 => ("DowryBoxes$Two", "left", "LDowryBoxes$Sum;", true)
  | _ => ("DowryBoxes$Two", "right", "LDowryBoxes$Sum;", true)
def tyX13 : Nat → FieldType := fun k => match k with
  | 0 => .char
  | 1 => .object "DowryBoxes$Sum"
  | _ => .object "DowryBoxes$Sum"
abbrev wsX130 : List Cond := u_ws RX13 TX13 3
theorem nmX13 : ∀ a, a < 3 → ∀ b, b < 3 → a ≠ b → (TX13 a).2.1 ≠ (TX13 b).2.1 := by decide +kernel
theorem tyX13_ok : ∀ k, k < 3 → parseFieldDescriptor (TX13 k).2.2.1 = some (tyX13 k) := by decide +kernel
abbrev cX13_of : ByteArray := prog_19_method_2_code
def yX13_of : MethodName := ⟨RX13, "of", "(LDowryBoxes$Setting;)J"⟩
def dkwX13_of_6 : List UInt8 := [191, 22, 6, 173]
abbrev dktX13_of_6 : List UInt8 := dkwX13_of_6 ++ []
def dkwX13_of_5 : List UInt8 := [55, 6, 22, 6, 20, 0, 32, 148, 157, 0, 12, 22, 6, 20, 0, 34, 148, 156, 0, 8, 43, 180, 0, 26]
abbrev dktX13_of_5 : List UInt8 := dkwX13_of_5 ++ dktX13_of_6
def dkwX13_of_4 : List UInt8 := [105, 167, 0, 23, 42, 180, 0, 9, 16, 47, 160, 0, 10, 32, 22, 4, 109, 167, 0, 7, 32, 22, 4, 113]
abbrev dktX13_of_4 : List UInt8 := dkwX13_of_4 ++ dktX13_of_5
def dkwX13_of_3 : List UInt8 := [16, 45, 160, 0, 10, 32, 22, 4, 101, 167, 0, 39, 42, 180, 0, 9, 16, 42, 160, 0, 10, 32, 22, 4]
abbrev dktX13_of_3 : List UInt8 := dkwX13_of_3 ++ dktX13_of_4
def dkwX13_of_2 : List UInt8 := [180, 0, 26, 191, 42, 180, 0, 9, 16, 43, 160, 0, 10, 32, 22, 4, 97, 167, 0, 55, 42, 180, 0, 9]
abbrev dktX13_of_2 : List UInt8 := dkwX13_of_2 ++ dktX13_of_3
def dkwX13_of_1 : List UInt8 := [16, 47, 159, 0, 12, 42, 180, 0, 9, 16, 37, 160, 0, 15, 22, 4, 9, 148, 154, 0, 8, 43]
abbrev dktX13_of_1 : List UInt8 := dkwX13_of_1 ++ dktX13_of_2
def dkwX13_of_0 : List UInt8 := [42, 180, 0, 15, 43, 182, 0, 22, 65, 42, 180, 0, 19, 43, 182, 0, 22, 55, 4, 42, 180, 0, 9]
abbrev dktX13_of_0 : List UInt8 := dkwX13_of_0 ++ dktX13_of_1
theorem dksX13_of_0 : cX13_of.data.toList.drop 0 = dktX13_of_0 := by decide +kernel
theorem dksX13_of_1 : cX13_of.data.toList.drop 23 = dktX13_of_1 := dk_seg dksX13_of_0 23 rfl rfl
theorem dksX13_of_2 : cX13_of.data.toList.drop 45 = dktX13_of_2 := dk_seg dksX13_of_1 22 rfl rfl
theorem dksX13_of_3 : cX13_of.data.toList.drop 69 = dktX13_of_3 := dk_seg dksX13_of_2 24 rfl rfl
theorem dksX13_of_4 : cX13_of.data.toList.drop 93 = dktX13_of_4 := dk_seg dksX13_of_3 24 rfl rfl
theorem dksX13_of_5 : cX13_of.data.toList.drop 117 = dktX13_of_5 := dk_seg dksX13_of_4 24 rfl rfl
theorem dksX13_of_6 : cX13_of.data.toList.drop 141 = dktX13_of_6 := dk_seg dksX13_of_5 24 rfl rfl
theorem dX13_of_0 : decode cX13_of 0 = .ok (.aload_n 0, 1) := dk_42 (dk_at dksX13_of_0 0 rfl rfl)
theorem dX13_of_1 : decode cX13_of 1 = .ok (.getfield 15, 3) := dk_180 0 15 (dk_at dksX13_of_0 1 rfl rfl)
theorem dX13_of_4 : decode cX13_of 4 = .ok (.aload_n 1, 1) := dk_43 (dk_at dksX13_of_0 4 rfl rfl)
theorem dX13_of_5 : decode cX13_of 5 = .ok (.invokevirtual 22, 3) := dk_182 0 22 (dk_at dksX13_of_0 5 rfl rfl)
theorem dX13_of_8 : decode cX13_of 8 = .ok (.lstore_n 2, 1) := dk_65 (dk_at dksX13_of_0 8 rfl rfl)
theorem dX13_of_9 : decode cX13_of 9 = .ok (.aload_n 0, 1) := dk_42 (dk_at dksX13_of_0 9 rfl rfl)
theorem dX13_of_10 : decode cX13_of 10 = .ok (.getfield 19, 3) := dk_180 0 19 (dk_at dksX13_of_0 10 rfl rfl)
theorem dX13_of_13 : decode cX13_of 13 = .ok (.aload_n 1, 1) := dk_43 (dk_at dksX13_of_0 13 rfl rfl)
theorem dX13_of_14 : decode cX13_of 14 = .ok (.invokevirtual 22, 3) := dk_182 0 22 (dk_at dksX13_of_0 14 rfl rfl)
theorem dX13_of_17 : decode cX13_of 17 = .ok (.lstore 4, 2) := dk_55 4 (dk_at dksX13_of_0 17 rfl rfl)
theorem dX13_of_19 : decode cX13_of 19 = .ok (.aload_n 0, 1) := dk_42 (dk_at dksX13_of_0 19 rfl rfl)
theorem dX13_of_20 : decode cX13_of 20 = .ok (.getfield 9, 3) := dk_180 0 9 (dk_at dksX13_of_0 20 rfl rfl)
theorem dX13_of_23 : decode cX13_of 23 = .ok (.bipush 47, 2) := dk_16 47 (dk_at dksX13_of_1 0 rfl rfl)
theorem dX13_of_25 : decode cX13_of 25 = .ok (.if_icmp .eq 12, 3) := dk_159 0 12 (dk_at dksX13_of_1 2 rfl rfl)
theorem dX13_of_28 : decode cX13_of 28 = .ok (.aload_n 0, 1) := dk_42 (dk_at dksX13_of_1 5 rfl rfl)
theorem dX13_of_29 : decode cX13_of 29 = .ok (.getfield 9, 3) := dk_180 0 9 (dk_at dksX13_of_1 6 rfl rfl)
theorem dX13_of_32 : decode cX13_of 32 = .ok (.bipush 37, 2) := dk_16 37 (dk_at dksX13_of_1 9 rfl rfl)
theorem dX13_of_34 : decode cX13_of 34 = .ok (.if_icmp .ne 15, 3) := dk_160 0 15 (dk_at dksX13_of_1 11 rfl rfl)
theorem dX13_of_37 : decode cX13_of 37 = .ok (.lload 4, 2) := dk_22 4 (dk_at dksX13_of_1 14 rfl rfl)
theorem dX13_of_39 : decode cX13_of 39 = .ok (.lconst 0, 1) := dk_9 (dk_at dksX13_of_1 16 rfl rfl)
theorem dX13_of_40 : decode cX13_of 40 = .ok (.lcmp, 1) := dk_148 (dk_at dksX13_of_1 17 rfl rfl)
theorem dX13_of_41 : decode cX13_of 41 = .ok (.ifCond .ne 8, 3) := dk_154 0 8 (dk_at dksX13_of_1 18 rfl rfl)
theorem dX13_of_44 : decode cX13_of 44 = .ok (.aload_n 1, 1) := dk_43 (dk_at dksX13_of_1 21 rfl rfl)
theorem dX13_of_45 : decode cX13_of 45 = .ok (.getfield 26, 3) := dk_180 0 26 (dk_at dksX13_of_2 0 rfl rfl)
theorem dX13_of_48 : decode cX13_of 48 = .ok (.athrow, 1) := dk_191 (dk_at dksX13_of_2 3 rfl rfl)
theorem dX13_of_49 : decode cX13_of 49 = .ok (.aload_n 0, 1) := dk_42 (dk_at dksX13_of_2 4 rfl rfl)
theorem dX13_of_50 : decode cX13_of 50 = .ok (.getfield 9, 3) := dk_180 0 9 (dk_at dksX13_of_2 5 rfl rfl)
theorem dX13_of_53 : decode cX13_of 53 = .ok (.bipush 43, 2) := dk_16 43 (dk_at dksX13_of_2 8 rfl rfl)
theorem dX13_of_55 : decode cX13_of 55 = .ok (.if_icmp .ne 10, 3) := dk_160 0 10 (dk_at dksX13_of_2 10 rfl rfl)
theorem dX13_of_58 : decode cX13_of 58 = .ok (.lload_n 2, 1) := dk_32 (dk_at dksX13_of_2 13 rfl rfl)
theorem dX13_of_59 : decode cX13_of 59 = .ok (.lload 4, 2) := dk_22 4 (dk_at dksX13_of_2 14 rfl rfl)
theorem dX13_of_61 : decode cX13_of 61 = .ok (.ladd, 1) := dk_97 (dk_at dksX13_of_2 16 rfl rfl)
theorem dX13_of_62 : decode cX13_of 62 = .ok (.goto 55, 3) := dk_167 0 55 (dk_at dksX13_of_2 17 rfl rfl)
theorem dX13_of_65 : decode cX13_of 65 = .ok (.aload_n 0, 1) := dk_42 (dk_at dksX13_of_2 20 rfl rfl)
theorem dX13_of_66 : decode cX13_of 66 = .ok (.getfield 9, 3) := dk_180 0 9 (dk_at dksX13_of_2 21 rfl rfl)
theorem dX13_of_69 : decode cX13_of 69 = .ok (.bipush 45, 2) := dk_16 45 (dk_at dksX13_of_3 0 rfl rfl)
theorem dX13_of_71 : decode cX13_of 71 = .ok (.if_icmp .ne 10, 3) := dk_160 0 10 (dk_at dksX13_of_3 2 rfl rfl)
theorem dX13_of_74 : decode cX13_of 74 = .ok (.lload_n 2, 1) := dk_32 (dk_at dksX13_of_3 5 rfl rfl)
theorem dX13_of_75 : decode cX13_of 75 = .ok (.lload 4, 2) := dk_22 4 (dk_at dksX13_of_3 6 rfl rfl)
theorem dX13_of_77 : decode cX13_of 77 = .ok (.lsub, 1) := dk_101 (dk_at dksX13_of_3 8 rfl rfl)
theorem dX13_of_78 : decode cX13_of 78 = .ok (.goto 39, 3) := dk_167 0 39 (dk_at dksX13_of_3 9 rfl rfl)
theorem dX13_of_81 : decode cX13_of 81 = .ok (.aload_n 0, 1) := dk_42 (dk_at dksX13_of_3 12 rfl rfl)
theorem dX13_of_82 : decode cX13_of 82 = .ok (.getfield 9, 3) := dk_180 0 9 (dk_at dksX13_of_3 13 rfl rfl)
theorem dX13_of_85 : decode cX13_of 85 = .ok (.bipush 42, 2) := dk_16 42 (dk_at dksX13_of_3 16 rfl rfl)
theorem dX13_of_87 : decode cX13_of 87 = .ok (.if_icmp .ne 10, 3) := dk_160 0 10 (dk_at dksX13_of_3 18 rfl rfl)
theorem dX13_of_90 : decode cX13_of 90 = .ok (.lload_n 2, 1) := dk_32 (dk_at dksX13_of_3 21 rfl rfl)
theorem dX13_of_91 : decode cX13_of 91 = .ok (.lload 4, 2) := dk_22 4 (dk_at dksX13_of_3 22 rfl rfl)
theorem dX13_of_93 : decode cX13_of 93 = .ok (.lmul, 1) := dk_105 (dk_at dksX13_of_4 0 rfl rfl)
theorem dX13_of_94 : decode cX13_of 94 = .ok (.goto 23, 3) := dk_167 0 23 (dk_at dksX13_of_4 1 rfl rfl)
theorem dX13_of_97 : decode cX13_of 97 = .ok (.aload_n 0, 1) := dk_42 (dk_at dksX13_of_4 4 rfl rfl)
theorem dX13_of_98 : decode cX13_of 98 = .ok (.getfield 9, 3) := dk_180 0 9 (dk_at dksX13_of_4 5 rfl rfl)
theorem dX13_of_101 : decode cX13_of 101 = .ok (.bipush 47, 2) := dk_16 47 (dk_at dksX13_of_4 8 rfl rfl)
theorem dX13_of_103 : decode cX13_of 103 = .ok (.if_icmp .ne 10, 3) := dk_160 0 10 (dk_at dksX13_of_4 10 rfl rfl)
theorem dX13_of_106 : decode cX13_of 106 = .ok (.lload_n 2, 1) := dk_32 (dk_at dksX13_of_4 13 rfl rfl)
theorem dX13_of_107 : decode cX13_of 107 = .ok (.lload 4, 2) := dk_22 4 (dk_at dksX13_of_4 14 rfl rfl)
theorem dX13_of_109 : decode cX13_of 109 = .ok (.ldiv, 1) := dk_109 (dk_at dksX13_of_4 16 rfl rfl)
theorem dX13_of_110 : decode cX13_of 110 = .ok (.goto 7, 3) := dk_167 0 7 (dk_at dksX13_of_4 17 rfl rfl)
theorem dX13_of_113 : decode cX13_of 113 = .ok (.lload_n 2, 1) := dk_32 (dk_at dksX13_of_4 20 rfl rfl)
theorem dX13_of_114 : decode cX13_of 114 = .ok (.lload 4, 2) := dk_22 4 (dk_at dksX13_of_4 21 rfl rfl)
theorem dX13_of_116 : decode cX13_of 116 = .ok (.lrem, 1) := dk_113 (dk_at dksX13_of_4 23 rfl rfl)
theorem dX13_of_117 : decode cX13_of 117 = .ok (.lstore 6, 2) := dk_55 6 (dk_at dksX13_of_5 0 rfl rfl)
theorem dX13_of_119 : decode cX13_of 119 = .ok (.lload 6, 2) := dk_22 6 (dk_at dksX13_of_5 2 rfl rfl)
theorem dX13_of_121 : decode cX13_of 121 = .ok (.ldc2_w 32, 3) := dk_20 0 32 (dk_at dksX13_of_5 4 rfl rfl)
theorem dX13_of_124 : decode cX13_of 124 = .ok (.lcmp, 1) := dk_148 (dk_at dksX13_of_5 7 rfl rfl)
theorem dX13_of_125 : decode cX13_of 125 = .ok (.ifCond .gt 12, 3) := dk_157 0 12 (dk_at dksX13_of_5 8 rfl rfl)
theorem dX13_of_128 : decode cX13_of 128 = .ok (.lload 6, 2) := dk_22 6 (dk_at dksX13_of_5 11 rfl rfl)
theorem dX13_of_130 : decode cX13_of 130 = .ok (.ldc2_w 34, 3) := dk_20 0 34 (dk_at dksX13_of_5 13 rfl rfl)
theorem dX13_of_133 : decode cX13_of 133 = .ok (.lcmp, 1) := dk_148 (dk_at dksX13_of_5 16 rfl rfl)
theorem dX13_of_134 : decode cX13_of 134 = .ok (.ifCond .ge 8, 3) := dk_156 0 8 (dk_at dksX13_of_5 17 rfl rfl)
theorem dX13_of_137 : decode cX13_of 137 = .ok (.aload_n 1, 1) := dk_43 (dk_at dksX13_of_5 20 rfl rfl)
theorem dX13_of_138 : decode cX13_of 138 = .ok (.getfield 26, 3) := dk_180 0 26 (dk_at dksX13_of_5 21 rfl rfl)
theorem dX13_of_141 : decode cX13_of 141 = .ok (.athrow, 1) := dk_191 (dk_at dksX13_of_6 0 rfl rfl)
theorem dX13_of_142 : decode cX13_of 142 = .ok (.lload 6, 2) := dk_22 6 (dk_at dksX13_of_6 1 rfl rfl)
theorem dX13_of_144 : decode cX13_of 144 = .ok (.lreturn, 1) := dk_173 (dk_at dksX13_of_6 3 rfl rfl)
abbrev cX13_init : ByteArray := prog_19_method_1_code
def yX13_init : MethodName := ⟨RX13, "<init>", "(CLDowryBoxes$Sum;LDowryBoxes$Sum;)V"⟩
def dkwX13_init_0 : List UInt8 := [42, 183, 0, 3, 42, 27, 181, 0, 9, 42, 44, 181, 0, 15, 42, 45, 181, 0, 19, 177]
abbrev dktX13_init_0 : List UInt8 := dkwX13_init_0 ++ []
theorem dksX13_init_0 : cX13_init.data.toList.drop 0 = dktX13_init_0 := by decide +kernel
theorem dX13_init_0 : decode cX13_init 0 = .ok (.aload_n 0, 1) := dk_42 (dk_at dksX13_init_0 0 rfl rfl)
theorem dX13_init_1 : decode cX13_init 1 = .ok (.invokespecial 3, 3) := dk_183 0 3 (dk_at dksX13_init_0 1 rfl rfl)
theorem dX13_init_4 : decode cX13_init 4 = .ok (.aload_n 0, 1) := dk_42 (dk_at dksX13_init_0 4 rfl rfl)
theorem dX13_init_5 : decode cX13_init 5 = .ok (.iload_n 1, 1) := dk_27 (dk_at dksX13_init_0 5 rfl rfl)
theorem dX13_init_6 : decode cX13_init 6 = .ok (.putfield 9, 3) := dk_181 0 9 (dk_at dksX13_init_0 6 rfl rfl)
theorem dX13_init_9 : decode cX13_init 9 = .ok (.aload_n 0, 1) := dk_42 (dk_at dksX13_init_0 9 rfl rfl)
theorem dX13_init_10 : decode cX13_init 10 = .ok (.aload_n 2, 1) := dk_44 (dk_at dksX13_init_0 10 rfl rfl)
theorem dX13_init_11 : decode cX13_init 11 = .ok (.putfield 15, 3) := dk_181 0 15 (dk_at dksX13_init_0 11 rfl rfl)
theorem dX13_init_14 : decode cX13_init 14 = .ok (.aload_n 0, 1) := dk_42 (dk_at dksX13_init_0 14 rfl rfl)
theorem dX13_init_15 : decode cX13_init 15 = .ok (.aload_n 3, 1) := dk_45 (dk_at dksX13_init_0 15 rfl rfl)
theorem dX13_init_16 : decode cX13_init 16 = .ok (.putfield 19, 3) := dk_181 0 19 (dk_at dksX13_init_0 16 rfl rfl)
theorem dX13_init_19 : decode cX13_init 19 = .ok (.return_, 1) := dk_177 (dk_at dksX13_init_0 19 rfl rfl)
theorem q146 : (Jvm.Cond.initialized "DowryBoxes$Two") ∈ lw_all := lw_g (lw_at lw_m1 26 rfl) rfl
theorem q348 : (Jvm.Cond.fieldLinkNest "DowryBoxes$Two" (26 : Nat) "DowryBoxes$Setting" "broken" "LDowryBoxes$Broken;" "DowryBoxes") ∈ lw_tbl := lw_at lw_m1 228 rfl
theorem q526 : (Jvm.Cond.selects "DowryBoxes$Two" ({ cls := "java/lang/Object", name := "getClass", desc := "()Ljava/lang/Class;" } : Jvm.MethodName) ({ cls := "java/lang/Object", name := "getClass", desc := "()Ljava/lang/Class;" } : Jvm.MethodName)) ∈ lw_all := lw_g (lw_at lw_m2 166 rfl) rfl
theorem q670 : (Jvm.Cond.selects "DowryBoxes$Two" ({ cls := "DowryBoxes$Sum", name := "of", desc := "(LDowryBoxes$Setting;)J" } : Jvm.MethodName) ({ cls := "DowryBoxes$Two", name := "of", desc := "(LDowryBoxes$Setting;)J" } : Jvm.MethodName)) ∈ lw_all := lw_g (lw_at lw_m3 70 rfl) rfl
theorem q671 : (Jvm.Cond.instanceMethod ({ cls := "DowryBoxes$Two", name := "of", desc := "(LDowryBoxes$Setting;)J" } : Jvm.MethodName)) ∈ lw_all := lw_g (lw_at lw_m3 71 rfl) rfl
theorem q672 : (Jvm.Cond.code ({ cls := "DowryBoxes$Two", name := "of", desc := "(LDowryBoxes$Setting;)J" } : Jvm.MethodName) prog_19_method_2_code (8 : Nat) (Option.some Jvm.ClassFile.FieldType.long)) ∈ lw_all := lw_g (lw_at lw_m3 72 rfl) rfl
theorem q673 : (Jvm.Cond.methodLink "DowryBoxes$Two" (22 : Nat) ({ cls := "DowryBoxes$Sum", name := "of", desc := "(LDowryBoxes$Setting;)J" } : Jvm.MethodName)) ∈ lw_all := lw_g (lw_at lw_m3 73 rfl) rfl
theorem q676 : (Jvm.Cond.constantLong "DowryBoxes$Two" (32 : Nat) (1000000000 : Int64)) ∈ lw_all := lw_g (lw_at lw_m3 76 rfl) rfl
theorem q677 : (Jvm.Cond.constantLong "DowryBoxes$Two" (34 : Nat) (-1000000000 : Int64)) ∈ lw_all := lw_g (lw_at lw_m3 77 rfl) rfl
theorem q1064 : (Jvm.Cond.instantiable "DowryBoxes$Two" (3 : Nat)) ∈ lw_all := lw_g (lw_at lw_m4 224 rfl) rfl
theorem q1066 : (Jvm.Cond.instanceMethod ({ cls := "DowryBoxes$Two", name := "<init>", desc := "(CLDowryBoxes$Sum;LDowryBoxes$Sum;)V" } : Jvm.MethodName)) ∈ lw_all := lw_g (lw_at lw_m4 226 rfl) rfl
theorem q1067 : (Jvm.Cond.code ({ cls := "DowryBoxes$Two", name := "<init>", desc := "(CLDowryBoxes$Sum;LDowryBoxes$Sum;)V" } : Jvm.MethodName) prog_19_method_1_code (4 : Nat) (Option.none : Option Jvm.ClassFile.FieldType)) ∈ lw_all := lw_g (lw_at lw_m4 227 rfl) rfl
theorem q1068 : (Jvm.Cond.methodLinkNest "DowryBoxes$Two" (3 : Nat) ({ cls := "DowryBoxes$Sum", name := "<init>", desc := "()V" } : Jvm.MethodName) "DowryBoxes") ∈ lw_tbl := lw_at lw_m4 228 rfl
theorem q1069 : (Jvm.Cond.fieldLink "DowryBoxes$Two" (9 : Nat) "DowryBoxes$Two" "sign" "C") ∈ lw_all := lw_g (lw_at lw_m4 229 rfl) rfl
theorem q1070 : (Jvm.Cond.fieldLink "DowryBoxes$Two" (15 : Nat) "DowryBoxes$Two" "left" "LDowryBoxes$Sum;") ∈ lw_all := lw_g (lw_at lw_m4 230 rfl) rfl
theorem q1071 : (Jvm.Cond.fieldLink "DowryBoxes$Two" (19 : Nat) "DowryBoxes$Two" "right" "LDowryBoxes$Sum;") ∈ lw_all := lw_g (lw_at lw_m4 231 rfl) rfl
theorem q1072 : (Jvm.Cond.laysFinal "DowryBoxes$Two" "DowryBoxes$Two" "sign" "C") ∈ lw_all := lw_g (lw_at lw_m4 232 rfl) rfl
theorem q1073 : (Jvm.Cond.soleField "DowryBoxes$Two" "sign") ∈ lw_all := lw_g (lw_at lw_m4 233 rfl) rfl
theorem q1074 : (Jvm.Cond.laysFinal "DowryBoxes$Two" "DowryBoxes$Two" "left" "LDowryBoxes$Sum;") ∈ lw_all := lw_g (lw_at lw_m4 234 rfl) rfl
theorem q1075 : (Jvm.Cond.soleField "DowryBoxes$Two" "left") ∈ lw_all := lw_g (lw_at lw_m4 235 rfl) rfl
theorem q1076 : (Jvm.Cond.laysFinal "DowryBoxes$Two" "DowryBoxes$Two" "right" "LDowryBoxes$Sum;") ∈ lw_all := lw_g (lw_at lw_m4 236 rfl) rfl
theorem q1077 : (Jvm.Cond.soleField "DowryBoxes$Two" "right") ∈ lw_all := lw_g (lw_at lw_m4 237 rfl) rfl
theorem q1078 : (Jvm.Cond.superclass "DowryBoxes$Two" "DowryBoxes$Sum") ∈ lw_all := lw_g (lw_at lw_m4 238 rfl) rfl
theorem q2301 : (Jvm.Cond.castable "DowryBoxes$Two" "java/lang/Object") ∈ lw_tbl := lw_at lw_m10 21 rfl
theorem in_X13 : ∀ w ∈ wsX130, w ∈ lw_all := lw_in wsX130 [1072, 1074, 1076] (by decide +kernel) (by decide +kernel)
/-! DowryBoxes$Test -/
set_option maxRecDepth 100000
def RX14 : String := "DowryBoxes$Test"
abbrev cX14_init : ByteArray := prog_18_method_1_code
def yX14_init : MethodName := ⟨RX14, "<init>", "()V"⟩
theorem dX14_init_0 : decode cX14_init 0 = .ok (.aload_n 0, 1) := by decide +kernel
theorem dX14_init_1 : decode cX14_init 1 = .ok (.invokespecial 1, 3) := by decide +kernel
theorem dX14_init_4 : decode cX14_init 4 = .ok (.return_, 1) := by decide +kernel
theorem q147 : (Jvm.Cond.initialized "DowryBoxes$Test") ∈ lw_all := lw_g (lw_at lw_m1 27 rfl) rfl
theorem q659 : (Jvm.Cond.declares ({ cls := "DowryBoxes$Test", name := "is", desc := "(LDowryBoxes$Setting;)Z" } : Jvm.MethodName)) ∈ lw_tbl := lw_at lw_m3 59 rfl
theorem q660 : (Jvm.Cond.sameMethod "DowryBoxes$Test" "DowryBoxes$Test" "is" "(LDowryBoxes$Setting;)Z") ∈ lw_all := lw_g (lw_at lw_m3 60 rfl) rfl
theorem q1123 : (Jvm.Cond.instanceMethod ({ cls := "DowryBoxes$Test", name := "<init>", desc := "()V" } : Jvm.MethodName)) ∈ lw_all := lw_g (lw_at lw_m5 43 rfl) rfl
theorem q1124 : (Jvm.Cond.code ({ cls := "DowryBoxes$Test", name := "<init>", desc := "()V" } : Jvm.MethodName) prog_18_method_1_code (1 : Nat) (Option.none : Option Jvm.ClassFile.FieldType)) ∈ lw_all := lw_g (lw_at lw_m5 44 rfl) rfl
theorem q1125 : (Jvm.Cond.methodLink "DowryBoxes$Test" (1 : Nat) ({ cls := "java/lang/Object", name := "<init>", desc := "()V" } : Jvm.MethodName)) ∈ lw_all := lw_g (lw_at lw_m5 45 rfl) rfl
/-! DowryBoxes$Compare -/
set_option maxRecDepth 100000
def RX15 : String := "DowryBoxes$Compare"
def TX15 : u_T := fun k => match k with
  | 0 => ("DowryBoxes$Compare", "sign", "C", true)
  | 1 => ("DowryBoxes$Compare", "left", "LDowryBoxes$Sum;", true)
  | _ => ("DowryBoxes$Compare", "right", "LDowryBoxes$Sum;", true)
def tyX15 : Nat → FieldType := fun k => match k with
  | 0 => .char
  | 1 => .object "DowryBoxes$Sum"
  | _ => .object "DowryBoxes$Sum"
abbrev wsX150 : List Cond := u_ws RX15 TX15 3
theorem nmX15 : ∀ a, a < 3 → ∀ b, b < 3 → a ≠ b → (TX15 a).2.1 ≠ (TX15 b).2.1 := by decide +kernel
theorem tyX15_ok : ∀ k, k < 3 → parseFieldDescriptor (TX15 k).2.2.1 = some (tyX15 k) := by decide +kernel
abbrev cX15_is : ByteArray := prog_4_method_2_code
def yX15_is : MethodName := ⟨RX15, "is", "(LDowryBoxes$Setting;)Z"⟩
def dkwX15_is_3 : List UInt8 := [154, 0, 7, 4, 167, 0, 4, 3, 172]
abbrev dktX15_is_3 : List UInt8 := dkwX15_is_3 ++ []
def dkwX15_is_2 : List UInt8 := [16, 62, 160, 0, 18, 32, 22, 4, 148, 158, 0, 7, 4, 167, 0, 19, 3, 167, 0, 15, 32, 22, 4, 148]
abbrev dktX15_is_2 : List UInt8 := dkwX15_is_2 ++ dktX15_is_3
def dkwX15_is_1 : List UInt8 := [16, 60, 160, 0, 18, 32, 22, 4, 148, 156, 0, 7, 4, 167, 0, 43, 3, 167, 0, 39, 42, 180, 0, 7]
abbrev dktX15_is_1 : List UInt8 := dkwX15_is_1 ++ dktX15_is_2
def dkwX15_is_0 : List UInt8 := [42, 180, 0, 13, 43, 182, 0, 20, 65, 42, 180, 0, 17, 43, 182, 0, 20, 55, 4, 42, 180, 0, 7]
abbrev dktX15_is_0 : List UInt8 := dkwX15_is_0 ++ dktX15_is_1
theorem dksX15_is_0 : cX15_is.data.toList.drop 0 = dktX15_is_0 := by decide +kernel
theorem dksX15_is_1 : cX15_is.data.toList.drop 23 = dktX15_is_1 := dk_seg dksX15_is_0 23 rfl rfl
theorem dksX15_is_2 : cX15_is.data.toList.drop 47 = dktX15_is_2 := dk_seg dksX15_is_1 24 rfl rfl
theorem dksX15_is_3 : cX15_is.data.toList.drop 71 = dktX15_is_3 := dk_seg dksX15_is_2 24 rfl rfl
theorem dX15_is_0 : decode cX15_is 0 = .ok (.aload_n 0, 1) := dk_42 (dk_at dksX15_is_0 0 rfl rfl)
theorem dX15_is_1 : decode cX15_is 1 = .ok (.getfield 13, 3) := dk_180 0 13 (dk_at dksX15_is_0 1 rfl rfl)
theorem dX15_is_4 : decode cX15_is 4 = .ok (.aload_n 1, 1) := dk_43 (dk_at dksX15_is_0 4 rfl rfl)
theorem dX15_is_5 : decode cX15_is 5 = .ok (.invokevirtual 20, 3) := dk_182 0 20 (dk_at dksX15_is_0 5 rfl rfl)
theorem dX15_is_8 : decode cX15_is 8 = .ok (.lstore_n 2, 1) := dk_65 (dk_at dksX15_is_0 8 rfl rfl)
theorem dX15_is_9 : decode cX15_is 9 = .ok (.aload_n 0, 1) := dk_42 (dk_at dksX15_is_0 9 rfl rfl)
theorem dX15_is_10 : decode cX15_is 10 = .ok (.getfield 17, 3) := dk_180 0 17 (dk_at dksX15_is_0 10 rfl rfl)
theorem dX15_is_13 : decode cX15_is 13 = .ok (.aload_n 1, 1) := dk_43 (dk_at dksX15_is_0 13 rfl rfl)
theorem dX15_is_14 : decode cX15_is 14 = .ok (.invokevirtual 20, 3) := dk_182 0 20 (dk_at dksX15_is_0 14 rfl rfl)
theorem dX15_is_17 : decode cX15_is 17 = .ok (.lstore 4, 2) := dk_55 4 (dk_at dksX15_is_0 17 rfl rfl)
theorem dX15_is_19 : decode cX15_is 19 = .ok (.aload_n 0, 1) := dk_42 (dk_at dksX15_is_0 19 rfl rfl)
theorem dX15_is_20 : decode cX15_is 20 = .ok (.getfield 7, 3) := dk_180 0 7 (dk_at dksX15_is_0 20 rfl rfl)
theorem dX15_is_23 : decode cX15_is 23 = .ok (.bipush 60, 2) := dk_16 60 (dk_at dksX15_is_1 0 rfl rfl)
theorem dX15_is_25 : decode cX15_is 25 = .ok (.if_icmp .ne 18, 3) := dk_160 0 18 (dk_at dksX15_is_1 2 rfl rfl)
theorem dX15_is_28 : decode cX15_is 28 = .ok (.lload_n 2, 1) := dk_32 (dk_at dksX15_is_1 5 rfl rfl)
theorem dX15_is_29 : decode cX15_is 29 = .ok (.lload 4, 2) := dk_22 4 (dk_at dksX15_is_1 6 rfl rfl)
theorem dX15_is_31 : decode cX15_is 31 = .ok (.lcmp, 1) := dk_148 (dk_at dksX15_is_1 8 rfl rfl)
theorem dX15_is_32 : decode cX15_is 32 = .ok (.ifCond .ge 7, 3) := dk_156 0 7 (dk_at dksX15_is_1 9 rfl rfl)
theorem dX15_is_35 : decode cX15_is 35 = .ok (.iconst 1, 1) := dk_4 (dk_at dksX15_is_1 12 rfl rfl)
theorem dX15_is_36 : decode cX15_is 36 = .ok (.goto 43, 3) := dk_167 0 43 (dk_at dksX15_is_1 13 rfl rfl)
theorem dX15_is_39 : decode cX15_is 39 = .ok (.iconst 0, 1) := dk_3 (dk_at dksX15_is_1 16 rfl rfl)
theorem dX15_is_40 : decode cX15_is 40 = .ok (.goto 39, 3) := dk_167 0 39 (dk_at dksX15_is_1 17 rfl rfl)
theorem dX15_is_43 : decode cX15_is 43 = .ok (.aload_n 0, 1) := dk_42 (dk_at dksX15_is_1 20 rfl rfl)
theorem dX15_is_44 : decode cX15_is 44 = .ok (.getfield 7, 3) := dk_180 0 7 (dk_at dksX15_is_1 21 rfl rfl)
theorem dX15_is_47 : decode cX15_is 47 = .ok (.bipush 62, 2) := dk_16 62 (dk_at dksX15_is_2 0 rfl rfl)
theorem dX15_is_49 : decode cX15_is 49 = .ok (.if_icmp .ne 18, 3) := dk_160 0 18 (dk_at dksX15_is_2 2 rfl rfl)
theorem dX15_is_52 : decode cX15_is 52 = .ok (.lload_n 2, 1) := dk_32 (dk_at dksX15_is_2 5 rfl rfl)
theorem dX15_is_53 : decode cX15_is 53 = .ok (.lload 4, 2) := dk_22 4 (dk_at dksX15_is_2 6 rfl rfl)
theorem dX15_is_55 : decode cX15_is 55 = .ok (.lcmp, 1) := dk_148 (dk_at dksX15_is_2 8 rfl rfl)
theorem dX15_is_56 : decode cX15_is 56 = .ok (.ifCond .le 7, 3) := dk_158 0 7 (dk_at dksX15_is_2 9 rfl rfl)
theorem dX15_is_59 : decode cX15_is 59 = .ok (.iconst 1, 1) := dk_4 (dk_at dksX15_is_2 12 rfl rfl)
theorem dX15_is_60 : decode cX15_is 60 = .ok (.goto 19, 3) := dk_167 0 19 (dk_at dksX15_is_2 13 rfl rfl)
theorem dX15_is_63 : decode cX15_is 63 = .ok (.iconst 0, 1) := dk_3 (dk_at dksX15_is_2 16 rfl rfl)
theorem dX15_is_64 : decode cX15_is 64 = .ok (.goto 15, 3) := dk_167 0 15 (dk_at dksX15_is_2 17 rfl rfl)
theorem dX15_is_67 : decode cX15_is 67 = .ok (.lload_n 2, 1) := dk_32 (dk_at dksX15_is_2 20 rfl rfl)
theorem dX15_is_68 : decode cX15_is 68 = .ok (.lload 4, 2) := dk_22 4 (dk_at dksX15_is_2 21 rfl rfl)
theorem dX15_is_70 : decode cX15_is 70 = .ok (.lcmp, 1) := dk_148 (dk_at dksX15_is_2 23 rfl rfl)
theorem dX15_is_71 : decode cX15_is 71 = .ok (.ifCond .ne 7, 3) := dk_154 0 7 (dk_at dksX15_is_3 0 rfl rfl)
theorem dX15_is_74 : decode cX15_is 74 = .ok (.iconst 1, 1) := dk_4 (dk_at dksX15_is_3 3 rfl rfl)
theorem dX15_is_75 : decode cX15_is 75 = .ok (.goto 4, 3) := dk_167 0 4 (dk_at dksX15_is_3 4 rfl rfl)
theorem dX15_is_78 : decode cX15_is 78 = .ok (.iconst 0, 1) := dk_3 (dk_at dksX15_is_3 7 rfl rfl)
theorem dX15_is_79 : decode cX15_is 79 = .ok (.ireturn, 1) := dk_172 (dk_at dksX15_is_3 8 rfl rfl)
abbrev cX15_init : ByteArray := prog_4_method_1_code
def yX15_init : MethodName := ⟨RX15, "<init>", "(CLDowryBoxes$Sum;LDowryBoxes$Sum;)V"⟩
def dkwX15_init_0 : List UInt8 := [42, 183, 0, 1, 42, 27, 181, 0, 7, 42, 44, 181, 0, 13, 42, 45, 181, 0, 17, 177]
abbrev dktX15_init_0 : List UInt8 := dkwX15_init_0 ++ []
theorem dksX15_init_0 : cX15_init.data.toList.drop 0 = dktX15_init_0 := by decide +kernel
theorem dX15_init_0 : decode cX15_init 0 = .ok (.aload_n 0, 1) := dk_42 (dk_at dksX15_init_0 0 rfl rfl)
theorem dX15_init_1 : decode cX15_init 1 = .ok (.invokespecial 1, 3) := dk_183 0 1 (dk_at dksX15_init_0 1 rfl rfl)
theorem dX15_init_4 : decode cX15_init 4 = .ok (.aload_n 0, 1) := dk_42 (dk_at dksX15_init_0 4 rfl rfl)
theorem dX15_init_5 : decode cX15_init 5 = .ok (.iload_n 1, 1) := dk_27 (dk_at dksX15_init_0 5 rfl rfl)
theorem dX15_init_6 : decode cX15_init 6 = .ok (.putfield 7, 3) := dk_181 0 7 (dk_at dksX15_init_0 6 rfl rfl)
theorem dX15_init_9 : decode cX15_init 9 = .ok (.aload_n 0, 1) := dk_42 (dk_at dksX15_init_0 9 rfl rfl)
theorem dX15_init_10 : decode cX15_init 10 = .ok (.aload_n 2, 1) := dk_44 (dk_at dksX15_init_0 10 rfl rfl)
theorem dX15_init_11 : decode cX15_init 11 = .ok (.putfield 13, 3) := dk_181 0 13 (dk_at dksX15_init_0 11 rfl rfl)
theorem dX15_init_14 : decode cX15_init 14 = .ok (.aload_n 0, 1) := dk_42 (dk_at dksX15_init_0 14 rfl rfl)
theorem dX15_init_15 : decode cX15_init 15 = .ok (.aload_n 3, 1) := dk_45 (dk_at dksX15_init_0 15 rfl rfl)
theorem dX15_init_16 : decode cX15_init 16 = .ok (.putfield 17, 3) := dk_181 0 17 (dk_at dksX15_init_0 16 rfl rfl)
theorem dX15_init_19 : decode cX15_init 19 = .ok (.return_, 1) := dk_177 (dk_at dksX15_init_0 19 rfl rfl)
theorem q148 : (Jvm.Cond.initialized "DowryBoxes$Compare") ∈ lw_all := lw_g (lw_at lw_m1 28 rfl) rfl
theorem q514 : (Jvm.Cond.selects "DowryBoxes$Compare" ({ cls := "java/lang/Object", name := "getClass", desc := "()Ljava/lang/Class;" } : Jvm.MethodName) ({ cls := "java/lang/Object", name := "getClass", desc := "()Ljava/lang/Class;" } : Jvm.MethodName)) ∈ lw_all := lw_g (lw_at lw_m2 154 rfl) rfl
theorem q661 : (Jvm.Cond.selects "DowryBoxes$Compare" ({ cls := "DowryBoxes$Test", name := "is", desc := "(LDowryBoxes$Setting;)Z" } : Jvm.MethodName) ({ cls := "DowryBoxes$Compare", name := "is", desc := "(LDowryBoxes$Setting;)Z" } : Jvm.MethodName)) ∈ lw_all := lw_g (lw_at lw_m3 61 rfl) rfl
theorem q662 : (Jvm.Cond.instanceMethod ({ cls := "DowryBoxes$Compare", name := "is", desc := "(LDowryBoxes$Setting;)Z" } : Jvm.MethodName)) ∈ lw_all := lw_g (lw_at lw_m3 62 rfl) rfl
theorem q663 : (Jvm.Cond.code ({ cls := "DowryBoxes$Compare", name := "is", desc := "(LDowryBoxes$Setting;)Z" } : Jvm.MethodName) prog_4_method_2_code (6 : Nat) (Option.some Jvm.ClassFile.FieldType.boolean)) ∈ lw_all := lw_g (lw_at lw_m3 63 rfl) rfl
theorem q664 : (Jvm.Cond.methodLink "DowryBoxes$Compare" (20 : Nat) ({ cls := "DowryBoxes$Sum", name := "of", desc := "(LDowryBoxes$Setting;)J" } : Jvm.MethodName)) ∈ lw_all := lw_g (lw_at lw_m3 64 rfl) rfl
theorem q1118 : (Jvm.Cond.instantiable "DowryBoxes$Compare" (3 : Nat)) ∈ lw_all := lw_g (lw_at lw_m5 38 rfl) rfl
theorem q1120 : (Jvm.Cond.instanceMethod ({ cls := "DowryBoxes$Compare", name := "<init>", desc := "(CLDowryBoxes$Sum;LDowryBoxes$Sum;)V" } : Jvm.MethodName)) ∈ lw_all := lw_g (lw_at lw_m5 40 rfl) rfl
theorem q1121 : (Jvm.Cond.code ({ cls := "DowryBoxes$Compare", name := "<init>", desc := "(CLDowryBoxes$Sum;LDowryBoxes$Sum;)V" } : Jvm.MethodName) prog_4_method_1_code (4 : Nat) (Option.none : Option Jvm.ClassFile.FieldType)) ∈ lw_all := lw_g (lw_at lw_m5 41 rfl) rfl
theorem q1122 : (Jvm.Cond.methodLinkNest "DowryBoxes$Compare" (1 : Nat) ({ cls := "DowryBoxes$Test", name := "<init>", desc := "()V" } : Jvm.MethodName) "DowryBoxes") ∈ lw_tbl := lw_at lw_m5 42 rfl
theorem q1126 : (Jvm.Cond.fieldLink "DowryBoxes$Compare" (7 : Nat) "DowryBoxes$Compare" "sign" "C") ∈ lw_all := lw_g (lw_at lw_m5 46 rfl) rfl
theorem q1127 : (Jvm.Cond.fieldLink "DowryBoxes$Compare" (13 : Nat) "DowryBoxes$Compare" "left" "LDowryBoxes$Sum;") ∈ lw_all := lw_g (lw_at lw_m5 47 rfl) rfl
theorem q1128 : (Jvm.Cond.fieldLink "DowryBoxes$Compare" (17 : Nat) "DowryBoxes$Compare" "right" "LDowryBoxes$Sum;") ∈ lw_all := lw_g (lw_at lw_m5 48 rfl) rfl
theorem q1129 : (Jvm.Cond.laysFinal "DowryBoxes$Compare" "DowryBoxes$Compare" "sign" "C") ∈ lw_all := lw_g (lw_at lw_m5 49 rfl) rfl
theorem q1130 : (Jvm.Cond.soleField "DowryBoxes$Compare" "sign") ∈ lw_all := lw_g (lw_at lw_m5 50 rfl) rfl
theorem q1131 : (Jvm.Cond.laysFinal "DowryBoxes$Compare" "DowryBoxes$Compare" "left" "LDowryBoxes$Sum;") ∈ lw_all := lw_g (lw_at lw_m5 51 rfl) rfl
theorem q1132 : (Jvm.Cond.soleField "DowryBoxes$Compare" "left") ∈ lw_all := lw_g (lw_at lw_m5 52 rfl) rfl
theorem q1133 : (Jvm.Cond.laysFinal "DowryBoxes$Compare" "DowryBoxes$Compare" "right" "LDowryBoxes$Sum;") ∈ lw_all := lw_g (lw_at lw_m5 53 rfl) rfl
theorem q1134 : (Jvm.Cond.soleField "DowryBoxes$Compare" "right") ∈ lw_all := lw_g (lw_at lw_m5 54 rfl) rfl
theorem q1135 : (Jvm.Cond.superclass "DowryBoxes$Compare" "DowryBoxes$Test") ∈ lw_all := lw_g (lw_at lw_m5 55 rfl) rfl
theorem q2286 : (Jvm.Cond.castable "DowryBoxes$Compare" "DowryBoxes$Test") ∈ lw_tbl := lw_at lw_m10 6 rfl
theorem q2302 : (Jvm.Cond.castable "DowryBoxes$Compare" "java/lang/Object") ∈ lw_tbl := lw_at lw_m10 22 rfl
theorem in_X15 : ∀ w ∈ wsX150, w ∈ lw_all := lw_in wsX150 [1129, 1131, 1133] (by decide +kernel) (by decide +kernel)
/-! DowryBoxes$Not -/
set_option maxRecDepth 100000
def RX16 : String := "DowryBoxes$Not"
def TX16 : u_T := fun k => match k with
  | _ => ("DowryBoxes$Not", "of", "LDowryBoxes$Test;", true)
def tyX16 : Nat → FieldType := fun k => match k with
  | _ => .object "DowryBoxes$Test"
abbrev wsX160 : List Cond := u_ws RX16 TX16 1
theorem nmX16 : ∀ a, a < 1 → ∀ b, b < 1 → a ≠ b → (TX16 a).2.1 ≠ (TX16 b).2.1 := by decide +kernel
theorem tyX16_ok : ∀ k, k < 1 → parseFieldDescriptor (TX16 k).2.2.1 = some (tyX16 k) := by decide +kernel
abbrev cX16_is : ByteArray := prog_8_method_2_code
def yX16_is : MethodName := ⟨RX16, "is", "(LDowryBoxes$Setting;)Z"⟩
def dkwX16_is_0 : List UInt8 := [42, 180, 0, 7, 43, 182, 0, 13, 154, 0, 7, 4, 167, 0, 4, 3, 172]
abbrev dktX16_is_0 : List UInt8 := dkwX16_is_0 ++ []
theorem dksX16_is_0 : cX16_is.data.toList.drop 0 = dktX16_is_0 := by decide +kernel
theorem dX16_is_0 : decode cX16_is 0 = .ok (.aload_n 0, 1) := dk_42 (dk_at dksX16_is_0 0 rfl rfl)
theorem dX16_is_1 : decode cX16_is 1 = .ok (.getfield 7, 3) := dk_180 0 7 (dk_at dksX16_is_0 1 rfl rfl)
theorem dX16_is_4 : decode cX16_is 4 = .ok (.aload_n 1, 1) := dk_43 (dk_at dksX16_is_0 4 rfl rfl)
theorem dX16_is_5 : decode cX16_is 5 = .ok (.invokevirtual 13, 3) := dk_182 0 13 (dk_at dksX16_is_0 5 rfl rfl)
theorem dX16_is_8 : decode cX16_is 8 = .ok (.ifCond .ne 7, 3) := dk_154 0 7 (dk_at dksX16_is_0 8 rfl rfl)
theorem dX16_is_11 : decode cX16_is 11 = .ok (.iconst 1, 1) := dk_4 (dk_at dksX16_is_0 11 rfl rfl)
theorem dX16_is_12 : decode cX16_is 12 = .ok (.goto 4, 3) := dk_167 0 4 (dk_at dksX16_is_0 12 rfl rfl)
theorem dX16_is_15 : decode cX16_is 15 = .ok (.iconst 0, 1) := dk_3 (dk_at dksX16_is_0 15 rfl rfl)
theorem dX16_is_16 : decode cX16_is 16 = .ok (.ireturn, 1) := dk_172 (dk_at dksX16_is_0 16 rfl rfl)
abbrev cX16_init : ByteArray := prog_8_method_1_code
def yX16_init : MethodName := ⟨RX16, "<init>", "(LDowryBoxes$Test;)V"⟩
def dkwX16_init_0 : List UInt8 := [42, 183, 0, 1, 42, 43, 181, 0, 7, 177]
abbrev dktX16_init_0 : List UInt8 := dkwX16_init_0 ++ []
theorem dksX16_init_0 : cX16_init.data.toList.drop 0 = dktX16_init_0 := by decide +kernel
theorem dX16_init_0 : decode cX16_init 0 = .ok (.aload_n 0, 1) := dk_42 (dk_at dksX16_init_0 0 rfl rfl)
theorem dX16_init_1 : decode cX16_init 1 = .ok (.invokespecial 1, 3) := dk_183 0 1 (dk_at dksX16_init_0 1 rfl rfl)
theorem dX16_init_4 : decode cX16_init 4 = .ok (.aload_n 0, 1) := dk_42 (dk_at dksX16_init_0 4 rfl rfl)
theorem dX16_init_5 : decode cX16_init 5 = .ok (.aload_n 1, 1) := dk_43 (dk_at dksX16_init_0 5 rfl rfl)
theorem dX16_init_6 : decode cX16_init 6 = .ok (.putfield 7, 3) := dk_181 0 7 (dk_at dksX16_init_0 6 rfl rfl)
theorem dX16_init_9 : decode cX16_init 9 = .ok (.return_, 1) := dk_177 (dk_at dksX16_init_0 9 rfl rfl)
theorem q149 : (Jvm.Cond.initialized "DowryBoxes$Not") ∈ lw_all := lw_g (lw_at lw_m1 29 rfl) rfl
theorem q518 : (Jvm.Cond.selects "DowryBoxes$Not" ({ cls := "java/lang/Object", name := "getClass", desc := "()Ljava/lang/Class;" } : Jvm.MethodName) ({ cls := "java/lang/Object", name := "getClass", desc := "()Ljava/lang/Class;" } : Jvm.MethodName)) ∈ lw_all := lw_g (lw_at lw_m2 158 rfl) rfl
theorem q679 : (Jvm.Cond.selects "DowryBoxes$Not" ({ cls := "DowryBoxes$Test", name := "is", desc := "(LDowryBoxes$Setting;)Z" } : Jvm.MethodName) ({ cls := "DowryBoxes$Not", name := "is", desc := "(LDowryBoxes$Setting;)Z" } : Jvm.MethodName)) ∈ lw_all := lw_g (lw_at lw_m3 79 rfl) rfl
theorem q680 : (Jvm.Cond.instanceMethod ({ cls := "DowryBoxes$Not", name := "is", desc := "(LDowryBoxes$Setting;)Z" } : Jvm.MethodName)) ∈ lw_all := lw_g (lw_at lw_m3 80 rfl) rfl
theorem q681 : (Jvm.Cond.code ({ cls := "DowryBoxes$Not", name := "is", desc := "(LDowryBoxes$Setting;)Z" } : Jvm.MethodName) prog_8_method_2_code (2 : Nat) (Option.some Jvm.ClassFile.FieldType.boolean)) ∈ lw_all := lw_g (lw_at lw_m3 81 rfl) rfl
theorem q682 : (Jvm.Cond.methodLink "DowryBoxes$Not" (13 : Nat) ({ cls := "DowryBoxes$Test", name := "is", desc := "(LDowryBoxes$Setting;)Z" } : Jvm.MethodName)) ∈ lw_all := lw_g (lw_at lw_m3 82 rfl) rfl
theorem q1137 : (Jvm.Cond.instantiable "DowryBoxes$Not" (1 : Nat)) ∈ lw_all := lw_g (lw_at lw_m5 57 rfl) rfl
theorem q1139 : (Jvm.Cond.instanceMethod ({ cls := "DowryBoxes$Not", name := "<init>", desc := "(LDowryBoxes$Test;)V" } : Jvm.MethodName)) ∈ lw_all := lw_g (lw_at lw_m5 59 rfl) rfl
theorem q1140 : (Jvm.Cond.code ({ cls := "DowryBoxes$Not", name := "<init>", desc := "(LDowryBoxes$Test;)V" } : Jvm.MethodName) prog_8_method_1_code (2 : Nat) (Option.none : Option Jvm.ClassFile.FieldType)) ∈ lw_all := lw_g (lw_at lw_m5 60 rfl) rfl
theorem q1141 : (Jvm.Cond.methodLinkNest "DowryBoxes$Not" (1 : Nat) ({ cls := "DowryBoxes$Test", name := "<init>", desc := "()V" } : Jvm.MethodName) "DowryBoxes") ∈ lw_tbl := lw_at lw_m5 61 rfl
theorem q1142 : (Jvm.Cond.fieldLink "DowryBoxes$Not" (7 : Nat) "DowryBoxes$Not" "of" "LDowryBoxes$Test;") ∈ lw_all := lw_g (lw_at lw_m5 62 rfl) rfl
theorem q1143 : (Jvm.Cond.laysFinal "DowryBoxes$Not" "DowryBoxes$Not" "of" "LDowryBoxes$Test;") ∈ lw_all := lw_g (lw_at lw_m5 63 rfl) rfl
theorem q1144 : (Jvm.Cond.soleField "DowryBoxes$Not" "of") ∈ lw_all := lw_g (lw_at lw_m5 64 rfl) rfl
theorem q1145 : (Jvm.Cond.superclass "DowryBoxes$Not" "DowryBoxes$Test") ∈ lw_all := lw_g (lw_at lw_m5 65 rfl) rfl
theorem q2287 : (Jvm.Cond.castable "DowryBoxes$Not" "DowryBoxes$Test") ∈ lw_tbl := lw_at lw_m10 7 rfl
theorem q2303 : (Jvm.Cond.castable "DowryBoxes$Not" "java/lang/Object") ∈ lw_tbl := lw_at lw_m10 23 rfl
theorem in_X16 : ∀ w ∈ wsX160, w ∈ lw_all := lw_in wsX160 [1143] (by decide +kernel) (by decide +kernel)
/-! DowryBoxes$Several -/
set_option maxRecDepth 100000
def RX17 : String := "DowryBoxes$Several"
def TX17 : u_T := fun k => match k with
  | 0 => ("DowryBoxes$Several", "all", "Z", true)
  | _ => ("DowryBoxes$Several", "of", "Ljava/util/ArrayList;", true)
def tyX17 : Nat → FieldType := fun k => match k with
  | 0 => .boolean
  | _ => .object "java/util/ArrayList"
abbrev wsX170 : List Cond := u_ws RX17 TX17 2
theorem nmX17 : ∀ a, a < 2 → ∀ b, b < 2 → a ≠ b → (TX17 a).2.1 ≠ (TX17 b).2.1 := by decide +kernel
theorem tyX17_ok : ∀ k, k < 2 → parseFieldDescriptor (TX17 k).2.2.1 = some (tyX17 k) := by decide +kernel
abbrev cX17_is : ByteArray := prog_14_method_2_code
def yX17_is : MethodName := ⟨RX17, "is", "(LDowryBoxes$Setting;)Z"⟩
def dkwX17_is_2 : List UInt8 := [132, 2, 1, 167, 255, 207, 42, 180, 0, 18, 172]
abbrev dktX17_is_2 : List UInt8 := dkwX17_is_2 ++ []
def dkwX17_is_1 : List UInt8 := [43, 182, 0, 30, 42, 180, 0, 18, 159, 0, 16, 42, 180, 0, 18, 154, 0, 7, 4, 167, 0, 4, 3, 172]
abbrev dktX17_is_1 : List UInt8 := dkwX17_is_1 ++ dktX17_is_2
def dkwX17_is_0 : List UInt8 := [3, 61, 28, 42, 180, 0, 12, 182, 0, 22, 162, 0, 44, 42, 180, 0, 12, 28, 182, 0, 26, 192, 0, 2]
abbrev dktX17_is_0 : List UInt8 := dkwX17_is_0 ++ dktX17_is_1
theorem dksX17_is_0 : cX17_is.data.toList.drop 0 = dktX17_is_0 := by decide +kernel
theorem dksX17_is_1 : cX17_is.data.toList.drop 24 = dktX17_is_1 := dk_seg dksX17_is_0 24 rfl rfl
theorem dksX17_is_2 : cX17_is.data.toList.drop 48 = dktX17_is_2 := dk_seg dksX17_is_1 24 rfl rfl
theorem dX17_is_0 : decode cX17_is 0 = .ok (.iconst 0, 1) := dk_3 (dk_at dksX17_is_0 0 rfl rfl)
theorem dX17_is_1 : decode cX17_is 1 = .ok (.istore_n 2, 1) := dk_61 (dk_at dksX17_is_0 1 rfl rfl)
theorem dX17_is_2 : decode cX17_is 2 = .ok (.iload_n 2, 1) := dk_28 (dk_at dksX17_is_0 2 rfl rfl)
theorem dX17_is_3 : decode cX17_is 3 = .ok (.aload_n 0, 1) := dk_42 (dk_at dksX17_is_0 3 rfl rfl)
theorem dX17_is_4 : decode cX17_is 4 = .ok (.getfield 12, 3) := dk_180 0 12 (dk_at dksX17_is_0 4 rfl rfl)
theorem dX17_is_7 : decode cX17_is 7 = .ok (.invokevirtual 22, 3) := dk_182 0 22 (dk_at dksX17_is_0 7 rfl rfl)
theorem dX17_is_10 : decode cX17_is 10 = .ok (.if_icmp .ge 44, 3) := dk_162 0 44 (dk_at dksX17_is_0 10 rfl rfl)
theorem dX17_is_13 : decode cX17_is 13 = .ok (.aload_n 0, 1) := dk_42 (dk_at dksX17_is_0 13 rfl rfl)
theorem dX17_is_14 : decode cX17_is 14 = .ok (.getfield 12, 3) := dk_180 0 12 (dk_at dksX17_is_0 14 rfl rfl)
theorem dX17_is_17 : decode cX17_is 17 = .ok (.iload_n 2, 1) := dk_28 (dk_at dksX17_is_0 17 rfl rfl)
theorem dX17_is_18 : decode cX17_is 18 = .ok (.invokevirtual 26, 3) := dk_182 0 26 (dk_at dksX17_is_0 18 rfl rfl)
theorem dX17_is_21 : decode cX17_is 21 = .ok (.checkcast 2, 3) := dk_192 0 2 (dk_at dksX17_is_0 21 rfl rfl)
theorem dX17_is_24 : decode cX17_is 24 = .ok (.aload_n 1, 1) := dk_43 (dk_at dksX17_is_1 0 rfl rfl)
theorem dX17_is_25 : decode cX17_is 25 = .ok (.invokevirtual 30, 3) := dk_182 0 30 (dk_at dksX17_is_1 1 rfl rfl)
theorem dX17_is_28 : decode cX17_is 28 = .ok (.aload_n 0, 1) := dk_42 (dk_at dksX17_is_1 4 rfl rfl)
theorem dX17_is_29 : decode cX17_is 29 = .ok (.getfield 18, 3) := dk_180 0 18 (dk_at dksX17_is_1 5 rfl rfl)
theorem dX17_is_32 : decode cX17_is 32 = .ok (.if_icmp .eq 16, 3) := dk_159 0 16 (dk_at dksX17_is_1 8 rfl rfl)
theorem dX17_is_35 : decode cX17_is 35 = .ok (.aload_n 0, 1) := dk_42 (dk_at dksX17_is_1 11 rfl rfl)
theorem dX17_is_36 : decode cX17_is 36 = .ok (.getfield 18, 3) := dk_180 0 18 (dk_at dksX17_is_1 12 rfl rfl)
theorem dX17_is_39 : decode cX17_is 39 = .ok (.ifCond .ne 7, 3) := dk_154 0 7 (dk_at dksX17_is_1 15 rfl rfl)
theorem dX17_is_42 : decode cX17_is 42 = .ok (.iconst 1, 1) := dk_4 (dk_at dksX17_is_1 18 rfl rfl)
theorem dX17_is_43 : decode cX17_is 43 = .ok (.goto 4, 3) := dk_167 0 4 (dk_at dksX17_is_1 19 rfl rfl)
theorem dX17_is_46 : decode cX17_is 46 = .ok (.iconst 0, 1) := dk_3 (dk_at dksX17_is_1 22 rfl rfl)
theorem dX17_is_47 : decode cX17_is 47 = .ok (.ireturn, 1) := dk_172 (dk_at dksX17_is_1 23 rfl rfl)
theorem dX17_is_48 : decode cX17_is 48 = .ok (.iinc 2 1, 3) := dk_132 2 1 (dk_at dksX17_is_2 0 rfl rfl)
theorem dX17_is_51 : decode cX17_is 51 = .ok (.goto (-49), 3) := dk_167 255 207 (dk_at dksX17_is_2 3 rfl rfl)
theorem dX17_is_54 : decode cX17_is 54 = .ok (.aload_n 0, 1) := dk_42 (dk_at dksX17_is_2 6 rfl rfl)
theorem dX17_is_55 : decode cX17_is 55 = .ok (.getfield 18, 3) := dk_180 0 18 (dk_at dksX17_is_2 7 rfl rfl)
theorem dX17_is_58 : decode cX17_is 58 = .ok (.ireturn, 1) := dk_172 (dk_at dksX17_is_2 10 rfl rfl)
abbrev cX17_init : ByteArray := prog_14_method_1_code
def yX17_init : MethodName := ⟨RX17, "<init>", "(Z)V"⟩
def dkwX17_init_0 : List UInt8 := [42, 183, 0, 1, 42, 187, 0, 7, 89, 5, 183, 0, 9, 181, 0, 12, 42, 27, 181, 0, 18, 177]
abbrev dktX17_init_0 : List UInt8 := dkwX17_init_0 ++ []
theorem dksX17_init_0 : cX17_init.data.toList.drop 0 = dktX17_init_0 := by decide +kernel
theorem dX17_init_0 : decode cX17_init 0 = .ok (.aload_n 0, 1) := dk_42 (dk_at dksX17_init_0 0 rfl rfl)
theorem dX17_init_1 : decode cX17_init 1 = .ok (.invokespecial 1, 3) := dk_183 0 1 (dk_at dksX17_init_0 1 rfl rfl)
theorem dX17_init_4 : decode cX17_init 4 = .ok (.aload_n 0, 1) := dk_42 (dk_at dksX17_init_0 4 rfl rfl)
theorem dX17_init_5 : decode cX17_init 5 = .ok (.new 7, 3) := dk_187 0 7 (dk_at dksX17_init_0 5 rfl rfl)
theorem dX17_init_8 : decode cX17_init 8 = .ok (.dup, 1) := dk_89 (dk_at dksX17_init_0 8 rfl rfl)
theorem dX17_init_9 : decode cX17_init 9 = .ok (.iconst 2, 1) := dk_5 (dk_at dksX17_init_0 9 rfl rfl)
theorem dX17_init_10 : decode cX17_init 10 = .ok (.invokespecial 9, 3) := dk_183 0 9 (dk_at dksX17_init_0 10 rfl rfl)
theorem dX17_init_13 : decode cX17_init 13 = .ok (.putfield 12, 3) := dk_181 0 12 (dk_at dksX17_init_0 13 rfl rfl)
theorem dX17_init_16 : decode cX17_init 16 = .ok (.aload_n 0, 1) := dk_42 (dk_at dksX17_init_0 16 rfl rfl)
theorem dX17_init_17 : decode cX17_init 17 = .ok (.iload_n 1, 1) := dk_27 (dk_at dksX17_init_0 17 rfl rfl)
theorem dX17_init_18 : decode cX17_init 18 = .ok (.putfield 18, 3) := dk_181 0 18 (dk_at dksX17_init_0 18 rfl rfl)
theorem dX17_init_21 : decode cX17_init 21 = .ok (.return_, 1) := dk_177 (dk_at dksX17_init_0 21 rfl rfl)
theorem q150 : (Jvm.Cond.initialized "DowryBoxes$Several") ∈ lw_all := lw_g (lw_at lw_m1 30 rfl) rfl
theorem q523 : (Jvm.Cond.selects "DowryBoxes$Several" ({ cls := "java/lang/Object", name := "getClass", desc := "()Ljava/lang/Class;" } : Jvm.MethodName) ({ cls := "java/lang/Object", name := "getClass", desc := "()Ljava/lang/Class;" } : Jvm.MethodName)) ∈ lw_all := lw_g (lw_at lw_m2 163 rfl) rfl
theorem q683 : (Jvm.Cond.instanceMethod ({ cls := "DowryBoxes$Several", name := "is", desc := "(LDowryBoxes$Setting;)Z" } : Jvm.MethodName)) ∈ lw_all := lw_g (lw_at lw_m3 83 rfl) rfl
theorem q684 : (Jvm.Cond.code ({ cls := "DowryBoxes$Several", name := "is", desc := "(LDowryBoxes$Setting;)Z" } : Jvm.MethodName) prog_14_method_2_code (3 : Nat) (Option.some Jvm.ClassFile.FieldType.boolean)) ∈ lw_all := lw_g (lw_at lw_m3 84 rfl) rfl
theorem q685 : (Jvm.Cond.methodLink "DowryBoxes$Several" (22 : Nat) ({ cls := "java/util/ArrayList", name := "size", desc := "()I" } : Jvm.MethodName)) ∈ lw_all := lw_g (lw_at lw_m3 85 rfl) rfl
theorem q686 : (Jvm.Cond.methodLink "DowryBoxes$Several" (26 : Nat) ({ cls := "java/util/ArrayList", name := "get", desc := "(I)Ljava/lang/Object;" } : Jvm.MethodName)) ∈ lw_all := lw_g (lw_at lw_m3 86 rfl) rfl
theorem q687 : (Jvm.Cond.classLink "DowryBoxes$Several" (2 : Nat) "DowryBoxes$Test") ∈ lw_all := lw_g (lw_at lw_m3 87 rfl) rfl
theorem q688 : (Jvm.Cond.methodLink "DowryBoxes$Several" (30 : Nat) ({ cls := "DowryBoxes$Test", name := "is", desc := "(LDowryBoxes$Setting;)Z" } : Jvm.MethodName)) ∈ lw_all := lw_g (lw_at lw_m3 88 rfl) rfl
theorem q689 : (Jvm.Cond.selects "DowryBoxes$Several" ({ cls := "DowryBoxes$Test", name := "is", desc := "(LDowryBoxes$Setting;)Z" } : Jvm.MethodName) ({ cls := "DowryBoxes$Several", name := "is", desc := "(LDowryBoxes$Setting;)Z" } : Jvm.MethodName)) ∈ lw_all := lw_g (lw_at lw_m3 89 rfl) rfl
theorem q1148 : (Jvm.Cond.instantiable "DowryBoxes$Several" (2 : Nat)) ∈ lw_all := lw_g (lw_at lw_m5 68 rfl) rfl
theorem q1150 : (Jvm.Cond.instanceMethod ({ cls := "DowryBoxes$Several", name := "<init>", desc := "(Z)V" } : Jvm.MethodName)) ∈ lw_all := lw_g (lw_at lw_m5 70 rfl) rfl
theorem q1151 : (Jvm.Cond.code ({ cls := "DowryBoxes$Several", name := "<init>", desc := "(Z)V" } : Jvm.MethodName) prog_14_method_1_code (2 : Nat) (Option.none : Option Jvm.ClassFile.FieldType)) ∈ lw_all := lw_g (lw_at lw_m5 71 rfl) rfl
theorem q1152 : (Jvm.Cond.methodLinkNest "DowryBoxes$Several" (1 : Nat) ({ cls := "DowryBoxes$Test", name := "<init>", desc := "()V" } : Jvm.MethodName) "DowryBoxes") ∈ lw_tbl := lw_at lw_m5 72 rfl
theorem q1153 : (Jvm.Cond.classLink "DowryBoxes$Several" (7 : Nat) "java/util/ArrayList") ∈ lw_all := lw_g (lw_at lw_m5 73 rfl) rfl
theorem q1154 : (Jvm.Cond.methodLink "DowryBoxes$Several" (9 : Nat) ({ cls := "java/util/ArrayList", name := "<init>", desc := "(I)V" } : Jvm.MethodName)) ∈ lw_all := lw_g (lw_at lw_m5 74 rfl) rfl
theorem q1155 : (Jvm.Cond.fieldLink "DowryBoxes$Several" (18 : Nat) "DowryBoxes$Several" "all" "Z") ∈ lw_all := lw_g (lw_at lw_m5 75 rfl) rfl
theorem q1156 : (Jvm.Cond.fieldLink "DowryBoxes$Several" (12 : Nat) "DowryBoxes$Several" "of" "Ljava/util/ArrayList;") ∈ lw_all := lw_g (lw_at lw_m5 76 rfl) rfl
theorem q1158 : (Jvm.Cond.laysFinal "DowryBoxes$Several" "DowryBoxes$Several" "all" "Z") ∈ lw_all := lw_g (lw_at lw_m5 78 rfl) rfl
theorem q1159 : (Jvm.Cond.soleField "DowryBoxes$Several" "all") ∈ lw_all := lw_g (lw_at lw_m5 79 rfl) rfl
theorem q1160 : (Jvm.Cond.laysFinal "DowryBoxes$Several" "DowryBoxes$Several" "of" "Ljava/util/ArrayList;") ∈ lw_all := lw_g (lw_at lw_m5 80 rfl) rfl
theorem q1161 : (Jvm.Cond.soleField "DowryBoxes$Several" "of") ∈ lw_all := lw_g (lw_at lw_m5 81 rfl) rfl
theorem q1162 : (Jvm.Cond.superclass "DowryBoxes$Several" "DowryBoxes$Test") ∈ lw_all := lw_g (lw_at lw_m5 82 rfl) rfl
theorem q2288 : (Jvm.Cond.castable "DowryBoxes$Several" "DowryBoxes$Test") ∈ lw_tbl := lw_at lw_m10 8 rfl
theorem q2304 : (Jvm.Cond.castable "DowryBoxes$Several" "java/lang/Object") ∈ lw_tbl := lw_at lw_m10 24 rfl
theorem in_X17 : ∀ w ∈ wsX170, w ∈ lw_all := lw_in wsX170 [1158, 1160] (by decide +kernel) (by decide +kernel)
/-! DowryBoxes$Order -/
set_option maxRecDepth 100000
def RX18 : String := "DowryBoxes$Order"
def TX18 : u_T := fun k => match k with
  | 0 => ("DowryBoxes$Order", "head", "I", true)
  | 1 => ("DowryBoxes$Order", "one", "LDowryBoxes$Sum;", false)
  | 2 => ("DowryBoxes$Order", "other", "LDowryBoxes$Sum;", false)
  | 3 => ("DowryBoxes$Order", "third", "LDowryBoxes$Sum;", false)
  | 4 => ("DowryBoxes$Order", "times", "I", false)
  | _ => ("DowryBoxes$Order", "when", "LDowryBoxes$Test;", false)
def tyX18 : Nat → FieldType := fun k => match k with
  | 0 => .int
  | 1 => .object "DowryBoxes$Sum"
  | 2 => .object "DowryBoxes$Sum"
  | 3 => .object "DowryBoxes$Sum"
  | 4 => .int
  | _ => .object "DowryBoxes$Test"
abbrev wsX180 : List Cond := u_ws RX18 TX18 6
theorem nmX18 : ∀ a, a < 6 → ∀ b, b < 6 → a ≠ b → (TX18 a).2.1 ≠ (TX18 b).2.1 := by decide +kernel
theorem tyX18_ok : ∀ k, k < 6 → parseFieldDescriptor (TX18 k).2.2.1 = some (tyX18 k) := by decide +kernel
abbrev cX18_init : ByteArray := prog_10_method_1_code
def yX18_init : MethodName := ⟨RX18, "<init>", "(I)V"⟩
def dkwX18_init_0 : List UInt8 := [42, 183, 0, 3, 42, 4, 181, 0, 9, 42, 27, 181, 0, 15, 177]
abbrev dktX18_init_0 : List UInt8 := dkwX18_init_0 ++ []
theorem dksX18_init_0 : cX18_init.data.toList.drop 0 = dktX18_init_0 := by decide +kernel
theorem dX18_init_0 : decode cX18_init 0 = .ok (.aload_n 0, 1) := dk_42 (dk_at dksX18_init_0 0 rfl rfl)
theorem dX18_init_1 : decode cX18_init 1 = .ok (.invokespecial 3, 3) := dk_183 0 3 (dk_at dksX18_init_0 1 rfl rfl)
theorem dX18_init_4 : decode cX18_init 4 = .ok (.aload_n 0, 1) := dk_42 (dk_at dksX18_init_0 4 rfl rfl)
theorem dX18_init_5 : decode cX18_init 5 = .ok (.iconst 1, 1) := dk_4 (dk_at dksX18_init_0 5 rfl rfl)
theorem dX18_init_6 : decode cX18_init 6 = .ok (.putfield 9, 3) := dk_181 0 9 (dk_at dksX18_init_0 6 rfl rfl)
theorem dX18_init_9 : decode cX18_init 9 = .ok (.aload_n 0, 1) := dk_42 (dk_at dksX18_init_0 9 rfl rfl)
theorem dX18_init_10 : decode cX18_init 10 = .ok (.iload_n 1, 1) := dk_27 (dk_at dksX18_init_0 10 rfl rfl)
theorem dX18_init_11 : decode cX18_init 11 = .ok (.putfield 15, 3) := dk_181 0 15 (dk_at dksX18_init_0 11 rfl rfl)
theorem dX18_init_14 : decode cX18_init 14 = .ok (.return_, 1) := dk_177 (dk_at dksX18_init_0 14 rfl rfl)
abbrev cX18_isNow : ByteArray := prog_10_method_2_code
def yX18_isNow : MethodName := ⟨RX18, "isNow", "(LDowryBoxes$Setting;)Z"⟩
def dkwX18_isNow_1 : List UInt8 := [77, 3, 172]
abbrev dktX18_isNow_1 : List UInt8 := dkwX18_isNow_1 ++ []
def dkwX18_isNow_0 : List UInt8 := [42, 180, 0, 18, 198, 0, 14, 42, 180, 0, 18, 43, 182, 0, 22, 153, 0, 7, 4, 167, 0, 4, 3, 172]
abbrev dktX18_isNow_0 : List UInt8 := dkwX18_isNow_0 ++ dktX18_isNow_1
theorem dksX18_isNow_0 : cX18_isNow.data.toList.drop 0 = dktX18_isNow_0 := by decide +kernel
theorem dksX18_isNow_1 : cX18_isNow.data.toList.drop 24 = dktX18_isNow_1 := dk_seg dksX18_isNow_0 24 rfl rfl
theorem dX18_isNow_0 : decode cX18_isNow 0 = .ok (.aload_n 0, 1) := dk_42 (dk_at dksX18_isNow_0 0 rfl rfl)
theorem dX18_isNow_1 : decode cX18_isNow 1 = .ok (.getfield 18, 3) := dk_180 0 18 (dk_at dksX18_isNow_0 1 rfl rfl)
theorem dX18_isNow_4 : decode cX18_isNow 4 = .ok (.ifnull 14, 3) := dk_198 0 14 (dk_at dksX18_isNow_0 4 rfl rfl)
theorem dX18_isNow_7 : decode cX18_isNow 7 = .ok (.aload_n 0, 1) := dk_42 (dk_at dksX18_isNow_0 7 rfl rfl)
theorem dX18_isNow_8 : decode cX18_isNow 8 = .ok (.getfield 18, 3) := dk_180 0 18 (dk_at dksX18_isNow_0 8 rfl rfl)
theorem dX18_isNow_11 : decode cX18_isNow 11 = .ok (.aload_n 1, 1) := dk_43 (dk_at dksX18_isNow_0 11 rfl rfl)
theorem dX18_isNow_12 : decode cX18_isNow 12 = .ok (.invokevirtual 22, 3) := dk_182 0 22 (dk_at dksX18_isNow_0 12 rfl rfl)
theorem dX18_isNow_15 : decode cX18_isNow 15 = .ok (.ifCond .eq 7, 3) := dk_153 0 7 (dk_at dksX18_isNow_0 15 rfl rfl)
theorem dX18_isNow_18 : decode cX18_isNow 18 = .ok (.iconst 1, 1) := dk_4 (dk_at dksX18_isNow_0 18 rfl rfl)
theorem dX18_isNow_19 : decode cX18_isNow 19 = .ok (.goto 4, 3) := dk_167 0 4 (dk_at dksX18_isNow_0 19 rfl rfl)
theorem dX18_isNow_22 : decode cX18_isNow 22 = .ok (.iconst 0, 1) := dk_3 (dk_at dksX18_isNow_0 22 rfl rfl)
theorem dX18_isNow_23 : decode cX18_isNow 23 = .ok (.ireturn, 1) := dk_172 (dk_at dksX18_isNow_0 23 rfl rfl)
theorem dX18_isNow_24 : decode cX18_isNow 24 = .ok (.astore_n 2, 1) := dk_77 (dk_at dksX18_isNow_1 0 rfl rfl)
theorem dX18_isNow_25 : decode cX18_isNow 25 = .ok (.iconst 0, 1) := dk_3 (dk_at dksX18_isNow_1 1 rfl rfl)
theorem dX18_isNow_26 : decode cX18_isNow 26 = .ok (.ireturn, 1) := dk_172 (dk_at dksX18_isNow_1 2 rfl rfl)
abbrev cX18_told : ByteArray := prog_10_method_3_code
def yX18_told : MethodName := ⟨RX18, "told", "(LDowryBoxes$Sum;LDowryBoxes$Setting;)I"⟩
def dkwX18_told_1 : List UInt8 := [32, 136, 172, 77, 2, 172]
abbrev dktX18_told_1 : List UInt8 := dkwX18_told_1 ++ []
def dkwX18_told_0 : List UInt8 := [42, 43, 182, 0, 30, 65, 32, 9, 148, 155, 0, 11, 32, 20, 0, 36, 148, 155, 0, 7, 2, 167, 0, 5]
abbrev dktX18_told_0 : List UInt8 := dkwX18_told_0 ++ dktX18_told_1
theorem dksX18_told_0 : cX18_told.data.toList.drop 0 = dktX18_told_0 := by decide +kernel
theorem dksX18_told_1 : cX18_told.data.toList.drop 24 = dktX18_told_1 := dk_seg dksX18_told_0 24 rfl rfl
theorem dX18_told_0 : decode cX18_told 0 = .ok (.aload_n 0, 1) := dk_42 (dk_at dksX18_told_0 0 rfl rfl)
theorem dX18_told_1 : decode cX18_told 1 = .ok (.aload_n 1, 1) := dk_43 (dk_at dksX18_told_0 1 rfl rfl)
theorem dX18_told_2 : decode cX18_told 2 = .ok (.invokevirtual 30, 3) := dk_182 0 30 (dk_at dksX18_told_0 2 rfl rfl)
theorem dX18_told_5 : decode cX18_told 5 = .ok (.lstore_n 2, 1) := dk_65 (dk_at dksX18_told_0 5 rfl rfl)
theorem dX18_told_6 : decode cX18_told 6 = .ok (.lload_n 2, 1) := dk_32 (dk_at dksX18_told_0 6 rfl rfl)
theorem dX18_told_7 : decode cX18_told 7 = .ok (.lconst 0, 1) := dk_9 (dk_at dksX18_told_0 7 rfl rfl)
theorem dX18_told_8 : decode cX18_told 8 = .ok (.lcmp, 1) := dk_148 (dk_at dksX18_told_0 8 rfl rfl)
theorem dX18_told_9 : decode cX18_told 9 = .ok (.ifCond .lt 11, 3) := dk_155 0 11 (dk_at dksX18_told_0 9 rfl rfl)
theorem dX18_told_12 : decode cX18_told 12 = .ok (.lload_n 2, 1) := dk_32 (dk_at dksX18_told_0 12 rfl rfl)
theorem dX18_told_13 : decode cX18_told 13 = .ok (.ldc2_w 36, 3) := dk_20 0 36 (dk_at dksX18_told_0 13 rfl rfl)
theorem dX18_told_16 : decode cX18_told 16 = .ok (.lcmp, 1) := dk_148 (dk_at dksX18_told_0 16 rfl rfl)
theorem dX18_told_17 : decode cX18_told 17 = .ok (.ifCond .lt 7, 3) := dk_155 0 7 (dk_at dksX18_told_0 17 rfl rfl)
theorem dX18_told_20 : decode cX18_told 20 = .ok (.iconst (-1), 1) := dk_2 (dk_at dksX18_told_0 20 rfl rfl)
theorem dX18_told_21 : decode cX18_told 21 = .ok (.goto 5, 3) := dk_167 0 5 (dk_at dksX18_told_0 21 rfl rfl)
theorem dX18_told_24 : decode cX18_told 24 = .ok (.lload_n 2, 1) := dk_32 (dk_at dksX18_told_1 0 rfl rfl)
theorem dX18_told_25 : decode cX18_told 25 = .ok (.l2i, 1) := dk_136 (dk_at dksX18_told_1 1 rfl rfl)
theorem dX18_told_26 : decode cX18_told 26 = .ok (.ireturn, 1) := dk_172 (dk_at dksX18_told_1 2 rfl rfl)
theorem dX18_told_27 : decode cX18_told 27 = .ok (.astore_n 2, 1) := dk_77 (dk_at dksX18_told_1 3 rfl rfl)
theorem dX18_told_28 : decode cX18_told 28 = .ok (.iconst (-1), 1) := dk_2 (dk_at dksX18_told_1 4 rfl rfl)
theorem dX18_told_29 : decode cX18_told 29 = .ok (.ireturn, 1) := dk_172 (dk_at dksX18_told_1 5 rfl rfl)
theorem q154 : (Jvm.Cond.initialized "DowryBoxes$Order") ∈ lw_all := lw_g (lw_at lw_m1 34 rfl) rfl
theorem q520 : (Jvm.Cond.selects "DowryBoxes$Order" ({ cls := "java/lang/Object", name := "getClass", desc := "()Ljava/lang/Class;" } : Jvm.MethodName) ({ cls := "java/lang/Object", name := "getClass", desc := "()Ljava/lang/Class;" } : Jvm.MethodName)) ∈ lw_all := lw_g (lw_at lw_m2 160 rfl) rfl
theorem q1194 : (Jvm.Cond.instantiable "DowryBoxes$Order" (6 : Nat)) ∈ lw_all := lw_g (lw_at lw_m5 114 rfl) rfl
theorem q1196 : (Jvm.Cond.instanceMethod ({ cls := "DowryBoxes$Order", name := "<init>", desc := "(I)V" } : Jvm.MethodName)) ∈ lw_all := lw_g (lw_at lw_m5 116 rfl) rfl
theorem q1197 : (Jvm.Cond.code ({ cls := "DowryBoxes$Order", name := "<init>", desc := "(I)V" } : Jvm.MethodName) prog_10_method_1_code (2 : Nat) (Option.none : Option Jvm.ClassFile.FieldType)) ∈ lw_all := lw_g (lw_at lw_m5 117 rfl) rfl
theorem q1198 : (Jvm.Cond.methodLink "DowryBoxes$Order" (3 : Nat) ({ cls := "java/lang/Object", name := "<init>", desc := "()V" } : Jvm.MethodName)) ∈ lw_all := lw_g (lw_at lw_m5 118 rfl) rfl
theorem q1199 : (Jvm.Cond.fieldLink "DowryBoxes$Order" (15 : Nat) "DowryBoxes$Order" "head" "I") ∈ lw_all := lw_g (lw_at lw_m5 119 rfl) rfl
theorem q1207 : (Jvm.Cond.fieldLink "DowryBoxes$Order" (9 : Nat) "DowryBoxes$Order" "times" "I") ∈ lw_all := lw_g (lw_at lw_m5 127 rfl) rfl
theorem q1210 : (Jvm.Cond.fieldLink "DowryBoxes$Order" (18 : Nat) "DowryBoxes$Order" "when" "LDowryBoxes$Test;") ∈ lw_all := lw_g (lw_at lw_m5 130 rfl) rfl
theorem q1212 : (Jvm.Cond.laysFinal "DowryBoxes$Order" "DowryBoxes$Order" "head" "I") ∈ lw_all := lw_g (lw_at lw_m5 132 rfl) rfl
theorem q1213 : (Jvm.Cond.soleField "DowryBoxes$Order" "head") ∈ lw_all := lw_g (lw_at lw_m5 133 rfl) rfl
theorem q1214 : (Jvm.Cond.lays "DowryBoxes$Order" "DowryBoxes$Order" "one" "LDowryBoxes$Sum;") ∈ lw_all := lw_g (lw_at lw_m5 134 rfl) rfl
theorem q1215 : (Jvm.Cond.soleField "DowryBoxes$Order" "one") ∈ lw_all := lw_g (lw_at lw_m5 135 rfl) rfl
theorem q1216 : (Jvm.Cond.lays "DowryBoxes$Order" "DowryBoxes$Order" "other" "LDowryBoxes$Sum;") ∈ lw_all := lw_g (lw_at lw_m5 136 rfl) rfl
theorem q1217 : (Jvm.Cond.soleField "DowryBoxes$Order" "other") ∈ lw_all := lw_g (lw_at lw_m5 137 rfl) rfl
theorem q1218 : (Jvm.Cond.lays "DowryBoxes$Order" "DowryBoxes$Order" "third" "LDowryBoxes$Sum;") ∈ lw_all := lw_g (lw_at lw_m5 138 rfl) rfl
theorem q1219 : (Jvm.Cond.soleField "DowryBoxes$Order" "third") ∈ lw_all := lw_g (lw_at lw_m5 139 rfl) rfl
theorem q1220 : (Jvm.Cond.lays "DowryBoxes$Order" "DowryBoxes$Order" "times" "I") ∈ lw_all := lw_g (lw_at lw_m5 140 rfl) rfl
theorem q1221 : (Jvm.Cond.soleField "DowryBoxes$Order" "times") ∈ lw_all := lw_g (lw_at lw_m5 141 rfl) rfl
theorem q1222 : (Jvm.Cond.lays "DowryBoxes$Order" "DowryBoxes$Order" "when" "LDowryBoxes$Test;") ∈ lw_all := lw_g (lw_at lw_m5 142 rfl) rfl
theorem q1223 : (Jvm.Cond.soleField "DowryBoxes$Order" "when") ∈ lw_all := lw_g (lw_at lw_m5 143 rfl) rfl
theorem q1224 : (Jvm.Cond.superclass "DowryBoxes$Order" "java/lang/Object") ∈ lw_all := lw_g (lw_at lw_m5 144 rfl) rfl
theorem q1497 : (Jvm.Cond.instanceMethod ({ cls := "DowryBoxes$Order", name := "isNow", desc := "(LDowryBoxes$Setting;)Z" } : Jvm.MethodName)) ∈ lw_all := lw_g (lw_at lw_m6 177 rfl) rfl
theorem q1498 : (Jvm.Cond.selects "DowryBoxes$Order" ({ cls := "DowryBoxes$Order", name := "isNow", desc := "(LDowryBoxes$Setting;)Z" } : Jvm.MethodName) ({ cls := "DowryBoxes$Order", name := "isNow", desc := "(LDowryBoxes$Setting;)Z" } : Jvm.MethodName)) ∈ lw_all := lw_g (lw_at lw_m6 178 rfl) rfl
theorem q1499 : (Jvm.Cond.codeWith ({ cls := "DowryBoxes$Order", name := "isNow", desc := "(LDowryBoxes$Setting;)Z" } : Jvm.MethodName) prog_10_method_2_code (3 : Nat) (Option.some Jvm.ClassFile.FieldType.boolean) [((0 : Nat), (23 : Nat), (24 : Nat), (28 : Nat))]) ∈ lw_all := lw_g (lw_at lw_m6 179 rfl) rfl
theorem q1500 : (Jvm.Cond.classLink "DowryBoxes$Order" (28 : Nat) "DowryBoxes$Broken") ∈ lw_all := lw_g (lw_at lw_m6 180 rfl) rfl
theorem q1501 : (Jvm.Cond.methodLink "DowryBoxes$Order" (22 : Nat) ({ cls := "DowryBoxes$Test", name := "is", desc := "(LDowryBoxes$Setting;)Z" } : Jvm.MethodName)) ∈ lw_all := lw_g (lw_at lw_m6 181 rfl) rfl
theorem q1507 : (Jvm.Cond.static ({ cls := "DowryBoxes$Order", name := "told", desc := "(LDowryBoxes$Sum;LDowryBoxes$Setting;)I" } : Jvm.MethodName)) ∈ lw_all := lw_g (lw_at lw_m6 187 rfl) rfl
theorem q1508 : (Jvm.Cond.codeWith ({ cls := "DowryBoxes$Order", name := "told", desc := "(LDowryBoxes$Sum;LDowryBoxes$Setting;)I" } : Jvm.MethodName) prog_10_method_3_code (4 : Nat) (Option.some Jvm.ClassFile.FieldType.int) [((0 : Nat), (26 : Nat), (27 : Nat), (28 : Nat))]) ∈ lw_all := lw_g (lw_at lw_m6 188 rfl) rfl
theorem q1509 : (Jvm.Cond.methodLink "DowryBoxes$Order" (30 : Nat) ({ cls := "DowryBoxes$Sum", name := "of", desc := "(LDowryBoxes$Setting;)J" } : Jvm.MethodName)) ∈ lw_all := lw_g (lw_at lw_m6 189 rfl) rfl
theorem q1510 : (Jvm.Cond.constantLong "DowryBoxes$Order" (36 : Nat) (1000000 : Int64)) ∈ lw_all := lw_g (lw_at lw_m6 190 rfl) rfl
theorem q2307 : (Jvm.Cond.castable "DowryBoxes$Order" "java/lang/Object") ∈ lw_tbl := lw_at lw_m10 27 rfl
theorem in_X18 : ∀ w ∈ wsX180, w ∈ lw_all := lw_in wsX180 [1212, 1214, 1216, 1218, 1220, 1222] (by decide +kernel) (by decide +kernel)
/-! DowryBoxes$Law -/
set_option maxRecDepth 100000
def RX19 : String := "DowryBoxes$Law"
def TX19 : u_T := fun k => match k with
  | _ => ("DowryBoxes$Law", "clauses", "Ljava/util/ArrayList;", true)
def tyX19 : Nat → FieldType := fun k => match k with
  | _ => .object "java/util/ArrayList"
abbrev wsX190 : List Cond := u_ws RX19 TX19 1
theorem nmX19 : ∀ a, a < 1 → ∀ b, b < 1 → a ≠ b → (TX19 a).2.1 ≠ (TX19 b).2.1 := by decide +kernel
theorem tyX19_ok : ∀ k, k < 1 → parseFieldDescriptor (TX19 k).2.2.1 = some (tyX19 k) := by decide +kernel
abbrev cX19_told : ByteArray := prog_6_method_2_code
def yX19_told : MethodName := ⟨RX19, "told", "(ILDowryBoxes$Setting;)J"⟩
def dkwX19_told_3 : List UInt8 := [132, 5, 1, 167, 255, 189, 33, 173]
abbrev dktX19_told_3 : List UInt8 := dkwX19_told_3 ++ []
def dkwX19_told_2 : List UInt8 := [182, 0, 23, 192, 0, 27, 44, 182, 0, 33, 55, 6, 22, 6, 20, 0, 15, 148, 153, 0, 6, 22, 6, 66]
abbrev dktX19_told_2 : List UInt8 := dkwX19_told_2 ++ dktX19_told_3
def dkwX19_told_1 : List UInt8 := [21, 5, 182, 0, 23, 192, 0, 27, 180, 0, 29, 27, 159, 0, 6, 167, 0, 33, 42, 180, 0, 9, 21, 5]
abbrev dktX19_told_1 : List UInt8 := dkwX19_told_1 ++ dktX19_told_2
def dkwX19_told_0 : List UInt8 := [20, 0, 15, 66, 3, 54, 5, 21, 5, 42, 180, 0, 9, 182, 0, 17, 162, 0, 61, 42, 180, 0, 9]
abbrev dktX19_told_0 : List UInt8 := dkwX19_told_0 ++ dktX19_told_1
theorem dksX19_told_0 : cX19_told.data.toList.drop 0 = dktX19_told_0 := by decide +kernel
theorem dksX19_told_1 : cX19_told.data.toList.drop 23 = dktX19_told_1 := dk_seg dksX19_told_0 23 rfl rfl
theorem dksX19_told_2 : cX19_told.data.toList.drop 47 = dktX19_told_2 := dk_seg dksX19_told_1 24 rfl rfl
theorem dksX19_told_3 : cX19_told.data.toList.drop 71 = dktX19_told_3 := dk_seg dksX19_told_2 24 rfl rfl
theorem dX19_told_0 : decode cX19_told 0 = .ok (.ldc2_w 15, 3) := dk_20 0 15 (dk_at dksX19_told_0 0 rfl rfl)
theorem dX19_told_3 : decode cX19_told 3 = .ok (.lstore_n 3, 1) := dk_66 (dk_at dksX19_told_0 3 rfl rfl)
theorem dX19_told_4 : decode cX19_told 4 = .ok (.iconst 0, 1) := dk_3 (dk_at dksX19_told_0 4 rfl rfl)
theorem dX19_told_5 : decode cX19_told 5 = .ok (.istore 5, 2) := dk_54 5 (dk_at dksX19_told_0 5 rfl rfl)
theorem dX19_told_7 : decode cX19_told 7 = .ok (.iload 5, 2) := dk_21 5 (dk_at dksX19_told_0 7 rfl rfl)
theorem dX19_told_9 : decode cX19_told 9 = .ok (.aload_n 0, 1) := dk_42 (dk_at dksX19_told_0 9 rfl rfl)
theorem dX19_told_10 : decode cX19_told 10 = .ok (.getfield 9, 3) := dk_180 0 9 (dk_at dksX19_told_0 10 rfl rfl)
theorem dX19_told_13 : decode cX19_told 13 = .ok (.invokevirtual 17, 3) := dk_182 0 17 (dk_at dksX19_told_0 13 rfl rfl)
theorem dX19_told_16 : decode cX19_told 16 = .ok (.if_icmp .ge 61, 3) := dk_162 0 61 (dk_at dksX19_told_0 16 rfl rfl)
theorem dX19_told_19 : decode cX19_told 19 = .ok (.aload_n 0, 1) := dk_42 (dk_at dksX19_told_0 19 rfl rfl)
theorem dX19_told_20 : decode cX19_told 20 = .ok (.getfield 9, 3) := dk_180 0 9 (dk_at dksX19_told_0 20 rfl rfl)
theorem dX19_told_23 : decode cX19_told 23 = .ok (.iload 5, 2) := dk_21 5 (dk_at dksX19_told_1 0 rfl rfl)
theorem dX19_told_25 : decode cX19_told 25 = .ok (.invokevirtual 23, 3) := dk_182 0 23 (dk_at dksX19_told_1 2 rfl rfl)
theorem dX19_told_28 : decode cX19_told 28 = .ok (.checkcast 27, 3) := dk_192 0 27 (dk_at dksX19_told_1 5 rfl rfl)
theorem dX19_told_31 : decode cX19_told 31 = .ok (.getfield 29, 3) := dk_180 0 29 (dk_at dksX19_told_1 8 rfl rfl)
theorem dX19_told_34 : decode cX19_told 34 = .ok (.iload_n 1, 1) := dk_27 (dk_at dksX19_told_1 11 rfl rfl)
theorem dX19_told_35 : decode cX19_told 35 = .ok (.if_icmp .eq 6, 3) := dk_159 0 6 (dk_at dksX19_told_1 12 rfl rfl)
theorem dX19_told_38 : decode cX19_told 38 = .ok (.goto 33, 3) := dk_167 0 33 (dk_at dksX19_told_1 15 rfl rfl)
theorem dX19_told_41 : decode cX19_told 41 = .ok (.aload_n 0, 1) := dk_42 (dk_at dksX19_told_1 18 rfl rfl)
theorem dX19_told_42 : decode cX19_told 42 = .ok (.getfield 9, 3) := dk_180 0 9 (dk_at dksX19_told_1 19 rfl rfl)
theorem dX19_told_45 : decode cX19_told 45 = .ok (.iload 5, 2) := dk_21 5 (dk_at dksX19_told_1 22 rfl rfl)
theorem dX19_told_47 : decode cX19_told 47 = .ok (.invokevirtual 23, 3) := dk_182 0 23 (dk_at dksX19_told_2 0 rfl rfl)
theorem dX19_told_50 : decode cX19_told 50 = .ok (.checkcast 27, 3) := dk_192 0 27 (dk_at dksX19_told_2 3 rfl rfl)
theorem dX19_told_53 : decode cX19_told 53 = .ok (.aload_n 2, 1) := dk_44 (dk_at dksX19_told_2 6 rfl rfl)
theorem dX19_told_54 : decode cX19_told 54 = .ok (.invokevirtual 33, 3) := dk_182 0 33 (dk_at dksX19_told_2 7 rfl rfl)
theorem dX19_told_57 : decode cX19_told 57 = .ok (.lstore 6, 2) := dk_55 6 (dk_at dksX19_told_2 10 rfl rfl)
theorem dX19_told_59 : decode cX19_told 59 = .ok (.lload 6, 2) := dk_22 6 (dk_at dksX19_told_2 12 rfl rfl)
theorem dX19_told_61 : decode cX19_told 61 = .ok (.ldc2_w 15, 3) := dk_20 0 15 (dk_at dksX19_told_2 14 rfl rfl)
theorem dX19_told_64 : decode cX19_told 64 = .ok (.lcmp, 1) := dk_148 (dk_at dksX19_told_2 17 rfl rfl)
theorem dX19_told_65 : decode cX19_told 65 = .ok (.ifCond .eq 6, 3) := dk_153 0 6 (dk_at dksX19_told_2 18 rfl rfl)
theorem dX19_told_68 : decode cX19_told 68 = .ok (.lload 6, 2) := dk_22 6 (dk_at dksX19_told_2 21 rfl rfl)
theorem dX19_told_70 : decode cX19_told 70 = .ok (.lstore_n 3, 1) := dk_66 (dk_at dksX19_told_2 23 rfl rfl)
theorem dX19_told_71 : decode cX19_told 71 = .ok (.iinc 5 1, 3) := dk_132 5 1 (dk_at dksX19_told_3 0 rfl rfl)
theorem dX19_told_74 : decode cX19_told 74 = .ok (.goto (-67), 3) := dk_167 255 189 (dk_at dksX19_told_3 3 rfl rfl)
theorem dX19_told_77 : decode cX19_told 77 = .ok (.lload_n 3, 1) := dk_33 (dk_at dksX19_told_3 6 rfl rfl)
theorem dX19_told_78 : decode cX19_told 78 = .ok (.lreturn, 1) := dk_173 (dk_at dksX19_told_3 7 rfl rfl)
abbrev cX19_init : ByteArray := prog_6_method_1_code
def yX19_init : MethodName := ⟨RX19, "<init>", "(Ljava/util/ArrayList;)V"⟩
def dkwX19_init_0 : List UInt8 := [42, 183, 0, 3, 42, 43, 181, 0, 9, 177]
abbrev dktX19_init_0 : List UInt8 := dkwX19_init_0 ++ []
theorem dksX19_init_0 : cX19_init.data.toList.drop 0 = dktX19_init_0 := by decide +kernel
theorem dX19_init_0 : decode cX19_init 0 = .ok (.aload_n 0, 1) := dk_42 (dk_at dksX19_init_0 0 rfl rfl)
theorem dX19_init_1 : decode cX19_init 1 = .ok (.invokespecial 3, 3) := dk_183 0 3 (dk_at dksX19_init_0 1 rfl rfl)
theorem dX19_init_4 : decode cX19_init 4 = .ok (.aload_n 0, 1) := dk_42 (dk_at dksX19_init_0 4 rfl rfl)
theorem dX19_init_5 : decode cX19_init 5 = .ok (.aload_n 1, 1) := dk_43 (dk_at dksX19_init_0 5 rfl rfl)
theorem dX19_init_6 : decode cX19_init 6 = .ok (.putfield 9, 3) := dk_181 0 9 (dk_at dksX19_init_0 6 rfl rfl)
theorem dX19_init_9 : decode cX19_init 9 = .ok (.return_, 1) := dk_177 (dk_at dksX19_init_0 9 rfl rfl)
theorem q155 : (Jvm.Cond.initialized "DowryBoxes$Law") ∈ lw_all := lw_g (lw_at lw_m1 35 rfl) rfl
theorem q516 : (Jvm.Cond.selects "DowryBoxes$Law" ({ cls := "java/lang/Object", name := "getClass", desc := "()Ljava/lang/Class;" } : Jvm.MethodName) ({ cls := "java/lang/Object", name := "getClass", desc := "()Ljava/lang/Class;" } : Jvm.MethodName)) ∈ lw_all := lw_g (lw_at lw_m2 156 rfl) rfl
theorem q643 : (Jvm.Cond.instanceMethod ({ cls := "DowryBoxes$Law", name := "told", desc := "(ILDowryBoxes$Setting;)J" } : Jvm.MethodName)) ∈ lw_all := lw_g (lw_at lw_m3 43 rfl) rfl
theorem q644 : (Jvm.Cond.selects "DowryBoxes$Law" ({ cls := "DowryBoxes$Law", name := "told", desc := "(ILDowryBoxes$Setting;)J" } : Jvm.MethodName) ({ cls := "DowryBoxes$Law", name := "told", desc := "(ILDowryBoxes$Setting;)J" } : Jvm.MethodName)) ∈ lw_all := lw_g (lw_at lw_m3 44 rfl) rfl
theorem q645 : (Jvm.Cond.code ({ cls := "DowryBoxes$Law", name := "told", desc := "(ILDowryBoxes$Setting;)J" } : Jvm.MethodName) prog_6_method_2_code (8 : Nat) (Option.some Jvm.ClassFile.FieldType.long)) ∈ lw_all := lw_g (lw_at lw_m3 45 rfl) rfl
theorem q646 : (Jvm.Cond.constantLong "DowryBoxes$Law" (15 : Nat) (-4000000000 : Int64)) ∈ lw_all := lw_g (lw_at lw_m3 46 rfl) rfl
theorem q647 : (Jvm.Cond.methodLink "DowryBoxes$Law" (17 : Nat) ({ cls := "java/util/ArrayList", name := "size", desc := "()I" } : Jvm.MethodName)) ∈ lw_all := lw_g (lw_at lw_m3 47 rfl) rfl
theorem q651 : (Jvm.Cond.methodLink "DowryBoxes$Law" (23 : Nat) ({ cls := "java/util/ArrayList", name := "get", desc := "(I)Ljava/lang/Object;" } : Jvm.MethodName)) ∈ lw_all := lw_g (lw_at lw_m3 51 rfl) rfl
theorem q652 : (Jvm.Cond.classLink "DowryBoxes$Law" (27 : Nat) "DowryBoxes$Clause") ∈ lw_all := lw_g (lw_at lw_m3 52 rfl) rfl
theorem q653 : (Jvm.Cond.methodLink "DowryBoxes$Law" (33 : Nat) ({ cls := "DowryBoxes$Clause", name := "tells", desc := "(LDowryBoxes$Setting;)J" } : Jvm.MethodName)) ∈ lw_all := lw_g (lw_at lw_m3 53 rfl) rfl
theorem q936 : (Jvm.Cond.fieldLinkNest "DowryBoxes$Law" (29 : Nat) "DowryBoxes$Clause" "head" "I" "DowryBoxes") ∈ lw_tbl := lw_at lw_m4 96 rfl
theorem q1247 : (Jvm.Cond.instantiable "DowryBoxes$Law" (1 : Nat)) ∈ lw_all := lw_g (lw_at lw_m5 167 rfl) rfl
theorem q1249 : (Jvm.Cond.instanceMethod ({ cls := "DowryBoxes$Law", name := "<init>", desc := "(Ljava/util/ArrayList;)V" } : Jvm.MethodName)) ∈ lw_all := lw_g (lw_at lw_m5 169 rfl) rfl
theorem q1250 : (Jvm.Cond.code ({ cls := "DowryBoxes$Law", name := "<init>", desc := "(Ljava/util/ArrayList;)V" } : Jvm.MethodName) prog_6_method_1_code (2 : Nat) (Option.none : Option Jvm.ClassFile.FieldType)) ∈ lw_all := lw_g (lw_at lw_m5 170 rfl) rfl
theorem q1251 : (Jvm.Cond.methodLink "DowryBoxes$Law" (3 : Nat) ({ cls := "java/lang/Object", name := "<init>", desc := "()V" } : Jvm.MethodName)) ∈ lw_all := lw_g (lw_at lw_m5 171 rfl) rfl
theorem q1252 : (Jvm.Cond.fieldLink "DowryBoxes$Law" (9 : Nat) "DowryBoxes$Law" "clauses" "Ljava/util/ArrayList;") ∈ lw_all := lw_g (lw_at lw_m5 172 rfl) rfl
theorem q1253 : (Jvm.Cond.laysFinal "DowryBoxes$Law" "DowryBoxes$Law" "clauses" "Ljava/util/ArrayList;") ∈ lw_all := lw_g (lw_at lw_m5 173 rfl) rfl
theorem q1254 : (Jvm.Cond.soleField "DowryBoxes$Law" "clauses") ∈ lw_all := lw_g (lw_at lw_m5 174 rfl) rfl
theorem q1255 : (Jvm.Cond.superclass "DowryBoxes$Law" "java/lang/Object") ∈ lw_all := lw_g (lw_at lw_m5 175 rfl) rfl
theorem q2305 : (Jvm.Cond.castable "DowryBoxes$Law" "java/lang/Object") ∈ lw_tbl := lw_at lw_m10 25 rfl
theorem in_X19 : ∀ w ∈ wsX190, w ∈ lw_all := lw_in wsX190 [1253] (by decide +kernel) (by decide +kernel)
/-! DowryBoxes$OrderReader -/
set_option maxRecDepth 100000
def RX20 : String := "DowryBoxes$OrderReader"
def TX20 : u_T := fun k => match k with
  | 0 => ("DowryBoxes$Reader", "tape", "[B", true)
  | 1 => ("DowryBoxes$Reader", "size", "I", true)
  | 2 => ("DowryBoxes$Reader", "made", "I", false)
  | 3 => ("DowryBoxes$Reader", "from", "I", false)
  | 4 => ("DowryBoxes$Reader", "to", "I", false)
  | 5 => ("DowryBoxes$Reader", "leaves", "I", false)
  | 6 => ("DowryBoxes$Reader", "deep", "I", false)
  | _ => ("DowryBoxes$OrderReader", "orders", "Ljava/util/ArrayList;", true)
def tyX20 : Nat → FieldType := fun k => match k with
  | 0 => .array .byte
  | 1 => .int
  | 2 => .int
  | 3 => .int
  | 4 => .int
  | 5 => .int
  | 6 => .int
  | _ => .object "java/util/ArrayList"
abbrev wsX200 : List Cond := u_ws RX20 TX20 8
theorem nmX20 : ∀ a, a < 8 → ∀ b, b < 8 → a ≠ b → (TX20 a).2.1 ≠ (TX20 b).2.1 := by decide +kernel
theorem tyX20_ok : ∀ k, k < 8 → parseFieldDescriptor (TX20 k).2.2.1 = some (tyX20 k) := by decide +kernel
abbrev cX20_value : ByteArray := prog_11_method_3_code
def yX20_value : MethodName := ⟨RX20, "value", "()I"⟩
def dkwX20_value_3 : List UInt8 := [16, 10, 42, 3, 8, 182, 0, 72, 96, 167, 0, 4, 2, 172]
abbrev dktX20_value_3 : List UInt8 := dkwX20_value_3 ++ []
def dkwX20_value_2 : List UInt8 := [182, 0, 95, 153, 0, 12, 7, 42, 3, 8, 182, 0, 72, 96, 172, 42, 18, 106, 182, 0, 95, 153, 0, 15]
abbrev dktX20_value_2 : List UInt8 := dkwX20_value_2 ++ dktX20_value_3
def dkwX20_value_1 : List UInt8 := [18, 100, 182, 0, 95, 153, 0, 5, 5, 172, 42, 18, 102, 182, 0, 95, 153, 0, 5, 6, 172, 42, 18, 104]
abbrev dktX20_value_1 : List UInt8 := dkwX20_value_1 ++ dktX20_value_2
def dkwX20_value_0 : List UInt8 := [42, 18, 93, 182, 0, 95, 153, 0, 5, 3, 172, 42, 18, 98, 182, 0, 95, 153, 0, 5, 4, 172, 42]
abbrev dktX20_value_0 : List UInt8 := dkwX20_value_0 ++ dktX20_value_1
theorem dksX20_value_0 : cX20_value.data.toList.drop 0 = dktX20_value_0 := by decide +kernel
theorem dksX20_value_1 : cX20_value.data.toList.drop 23 = dktX20_value_1 := dk_seg dksX20_value_0 23 rfl rfl
theorem dksX20_value_2 : cX20_value.data.toList.drop 47 = dktX20_value_2 := dk_seg dksX20_value_1 24 rfl rfl
theorem dksX20_value_3 : cX20_value.data.toList.drop 71 = dktX20_value_3 := dk_seg dksX20_value_2 24 rfl rfl
theorem dX20_value_0 : decode cX20_value 0 = .ok (.aload_n 0, 1) := dk_42 (dk_at dksX20_value_0 0 rfl rfl)
theorem dX20_value_1 : decode cX20_value 1 = .ok (.ldc 93, 2) := dk_18 93 (dk_at dksX20_value_0 1 rfl rfl)
theorem dX20_value_3 : decode cX20_value 3 = .ok (.invokevirtual 95, 3) := dk_182 0 95 (dk_at dksX20_value_0 3 rfl rfl)
theorem dX20_value_6 : decode cX20_value 6 = .ok (.ifCond .eq 5, 3) := dk_153 0 5 (dk_at dksX20_value_0 6 rfl rfl)
theorem dX20_value_9 : decode cX20_value 9 = .ok (.iconst 0, 1) := dk_3 (dk_at dksX20_value_0 9 rfl rfl)
theorem dX20_value_10 : decode cX20_value 10 = .ok (.ireturn, 1) := dk_172 (dk_at dksX20_value_0 10 rfl rfl)
theorem dX20_value_11 : decode cX20_value 11 = .ok (.aload_n 0, 1) := dk_42 (dk_at dksX20_value_0 11 rfl rfl)
theorem dX20_value_12 : decode cX20_value 12 = .ok (.ldc 98, 2) := dk_18 98 (dk_at dksX20_value_0 12 rfl rfl)
theorem dX20_value_14 : decode cX20_value 14 = .ok (.invokevirtual 95, 3) := dk_182 0 95 (dk_at dksX20_value_0 14 rfl rfl)
theorem dX20_value_17 : decode cX20_value 17 = .ok (.ifCond .eq 5, 3) := dk_153 0 5 (dk_at dksX20_value_0 17 rfl rfl)
theorem dX20_value_20 : decode cX20_value 20 = .ok (.iconst 1, 1) := dk_4 (dk_at dksX20_value_0 20 rfl rfl)
theorem dX20_value_21 : decode cX20_value 21 = .ok (.ireturn, 1) := dk_172 (dk_at dksX20_value_0 21 rfl rfl)
theorem dX20_value_22 : decode cX20_value 22 = .ok (.aload_n 0, 1) := dk_42 (dk_at dksX20_value_0 22 rfl rfl)
theorem dX20_value_23 : decode cX20_value 23 = .ok (.ldc 100, 2) := dk_18 100 (dk_at dksX20_value_1 0 rfl rfl)
theorem dX20_value_25 : decode cX20_value 25 = .ok (.invokevirtual 95, 3) := dk_182 0 95 (dk_at dksX20_value_1 2 rfl rfl)
theorem dX20_value_28 : decode cX20_value 28 = .ok (.ifCond .eq 5, 3) := dk_153 0 5 (dk_at dksX20_value_1 5 rfl rfl)
theorem dX20_value_31 : decode cX20_value 31 = .ok (.iconst 2, 1) := dk_5 (dk_at dksX20_value_1 8 rfl rfl)
theorem dX20_value_32 : decode cX20_value 32 = .ok (.ireturn, 1) := dk_172 (dk_at dksX20_value_1 9 rfl rfl)
theorem dX20_value_33 : decode cX20_value 33 = .ok (.aload_n 0, 1) := dk_42 (dk_at dksX20_value_1 10 rfl rfl)
theorem dX20_value_34 : decode cX20_value 34 = .ok (.ldc 102, 2) := dk_18 102 (dk_at dksX20_value_1 11 rfl rfl)
theorem dX20_value_36 : decode cX20_value 36 = .ok (.invokevirtual 95, 3) := dk_182 0 95 (dk_at dksX20_value_1 13 rfl rfl)
theorem dX20_value_39 : decode cX20_value 39 = .ok (.ifCond .eq 5, 3) := dk_153 0 5 (dk_at dksX20_value_1 16 rfl rfl)
theorem dX20_value_42 : decode cX20_value 42 = .ok (.iconst 3, 1) := dk_6 (dk_at dksX20_value_1 19 rfl rfl)
theorem dX20_value_43 : decode cX20_value 43 = .ok (.ireturn, 1) := dk_172 (dk_at dksX20_value_1 20 rfl rfl)
theorem dX20_value_44 : decode cX20_value 44 = .ok (.aload_n 0, 1) := dk_42 (dk_at dksX20_value_1 21 rfl rfl)
theorem dX20_value_45 : decode cX20_value 45 = .ok (.ldc 104, 2) := dk_18 104 (dk_at dksX20_value_1 22 rfl rfl)
theorem dX20_value_47 : decode cX20_value 47 = .ok (.invokevirtual 95, 3) := dk_182 0 95 (dk_at dksX20_value_2 0 rfl rfl)
theorem dX20_value_50 : decode cX20_value 50 = .ok (.ifCond .eq 12, 3) := dk_153 0 12 (dk_at dksX20_value_2 3 rfl rfl)
theorem dX20_value_53 : decode cX20_value 53 = .ok (.iconst 4, 1) := dk_7 (dk_at dksX20_value_2 6 rfl rfl)
theorem dX20_value_54 : decode cX20_value 54 = .ok (.aload_n 0, 1) := dk_42 (dk_at dksX20_value_2 7 rfl rfl)
theorem dX20_value_55 : decode cX20_value 55 = .ok (.iconst 0, 1) := dk_3 (dk_at dksX20_value_2 8 rfl rfl)
theorem dX20_value_56 : decode cX20_value 56 = .ok (.iconst 5, 1) := dk_8 (dk_at dksX20_value_2 9 rfl rfl)
theorem dX20_value_57 : decode cX20_value 57 = .ok (.invokevirtual 72, 3) := dk_182 0 72 (dk_at dksX20_value_2 10 rfl rfl)
theorem dX20_value_60 : decode cX20_value 60 = .ok (.iadd, 1) := dk_96 (dk_at dksX20_value_2 13 rfl rfl)
theorem dX20_value_61 : decode cX20_value 61 = .ok (.ireturn, 1) := dk_172 (dk_at dksX20_value_2 14 rfl rfl)
theorem dX20_value_62 : decode cX20_value 62 = .ok (.aload_n 0, 1) := dk_42 (dk_at dksX20_value_2 15 rfl rfl)
theorem dX20_value_63 : decode cX20_value 63 = .ok (.ldc 106, 2) := dk_18 106 (dk_at dksX20_value_2 16 rfl rfl)
theorem dX20_value_65 : decode cX20_value 65 = .ok (.invokevirtual 95, 3) := dk_182 0 95 (dk_at dksX20_value_2 18 rfl rfl)
theorem dX20_value_68 : decode cX20_value 68 = .ok (.ifCond .eq 15, 3) := dk_153 0 15 (dk_at dksX20_value_2 21 rfl rfl)
theorem dX20_value_71 : decode cX20_value 71 = .ok (.bipush 10, 2) := dk_16 10 (dk_at dksX20_value_3 0 rfl rfl)
theorem dX20_value_73 : decode cX20_value 73 = .ok (.aload_n 0, 1) := dk_42 (dk_at dksX20_value_3 2 rfl rfl)
theorem dX20_value_74 : decode cX20_value 74 = .ok (.iconst 0, 1) := dk_3 (dk_at dksX20_value_3 3 rfl rfl)
theorem dX20_value_75 : decode cX20_value 75 = .ok (.iconst 5, 1) := dk_8 (dk_at dksX20_value_3 4 rfl rfl)
theorem dX20_value_76 : decode cX20_value 76 = .ok (.invokevirtual 72, 3) := dk_182 0 72 (dk_at dksX20_value_3 5 rfl rfl)
theorem dX20_value_79 : decode cX20_value 79 = .ok (.iadd, 1) := dk_96 (dk_at dksX20_value_3 8 rfl rfl)
theorem dX20_value_80 : decode cX20_value 80 = .ok (.goto 4, 3) := dk_167 0 4 (dk_at dksX20_value_3 9 rfl rfl)
theorem dX20_value_83 : decode cX20_value 83 = .ok (.iconst (-1), 1) := dk_2 (dk_at dksX20_value_3 12 rfl rfl)
theorem dX20_value_84 : decode cX20_value 84 = .ok (.ireturn, 1) := dk_172 (dk_at dksX20_value_3 13 rfl rfl)
abbrev cX20_clause : ByteArray := prog_11_method_2_code
def yX20_clause : MethodName := ⟨RX20, "clause", "()V"⟩
def dkwX20_clause_7 : List UInt8 := [182, 0, 69, 153, 0, 11, 44, 42, 182, 0, 81, 181, 0, 85, 42, 180, 0, 14, 44, 182, 0, 89, 87, 177]
abbrev dktX20_clause_7 : List UInt8 := dkwX20_clause_7 ++ []
def dkwX20_clause_6 : List UInt8 := [18, 67, 182, 0, 69, 153, 0, 14, 44, 42, 4, 16, 20, 182, 0, 72, 181, 0, 76, 42, 18, 79]
abbrev dktX20_clause_6 : List UInt8 := dkwX20_clause_6 ++ dktX20_clause_7
def dkwX20_clause_5 : List UInt8 := [18, 55, 182, 0, 57, 181, 0, 61, 27, 154, 0, 13, 44, 42, 18, 53, 182, 0, 57, 181, 0, 64, 42]
abbrev dktX20_clause_5 : List UInt8 := dkwX20_clause_5 ++ dktX20_clause_6
def dkwX20_clause_4 : List UInt8 := [181, 0, 47, 44, 42, 27, 154, 0, 8, 18, 51, 167, 0, 15, 27, 4, 160, 0, 8, 18, 53, 167, 0, 5]
abbrev dktX20_clause_4 : List UInt8 := dkwX20_clause_4 ++ dktX20_clause_5
def dkwX20_clause_3 : List UInt8 := [182, 0, 36, 187, 0, 40, 89, 27, 183, 0, 42, 77, 27, 6, 159, 0, 40, 44, 42, 182, 0, 43]
abbrev dktX20_clause_3 : List UInt8 := dkwX20_clause_3 ++ dktX20_clause_4
def dkwX20_clause_2 : List UInt8 := [153, 0, 7, 6, 167, 0, 4, 2, 60, 42, 27, 2, 159, 0, 7, 4, 167, 0, 4, 3, 182, 0, 32, 42]
abbrev dktX20_clause_2 : List UInt8 := dkwX20_clause_2 ++ dktX20_clause_3
def dkwX20_clause_1 : List UInt8 := [167, 0, 30, 42, 18, 28, 182, 0, 22, 153, 0, 7, 5, 167, 0, 17, 42, 18, 30, 182, 0, 22]
abbrev dktX20_clause_1 : List UInt8 := dkwX20_clause_1 ++ dktX20_clause_2
def dkwX20_clause_0 : List UInt8 := [42, 18, 20, 182, 0, 22, 153, 0, 7, 3, 167, 0, 43, 42, 18, 26, 182, 0, 22, 153, 0, 7, 4]
abbrev dktX20_clause_0 : List UInt8 := dkwX20_clause_0 ++ dktX20_clause_1
theorem dksX20_clause_0 : cX20_clause.data.toList.drop 0 = dktX20_clause_0 := by decide +kernel
theorem dksX20_clause_1 : cX20_clause.data.toList.drop 23 = dktX20_clause_1 := dk_seg dksX20_clause_0 23 rfl rfl
theorem dksX20_clause_2 : cX20_clause.data.toList.drop 45 = dktX20_clause_2 := dk_seg dksX20_clause_1 22 rfl rfl
theorem dksX20_clause_3 : cX20_clause.data.toList.drop 69 = dktX20_clause_3 := dk_seg dksX20_clause_2 24 rfl rfl
theorem dksX20_clause_4 : cX20_clause.data.toList.drop 91 = dktX20_clause_4 := dk_seg dksX20_clause_3 22 rfl rfl
theorem dksX20_clause_5 : cX20_clause.data.toList.drop 115 = dktX20_clause_5 := dk_seg dksX20_clause_4 24 rfl rfl
theorem dksX20_clause_6 : cX20_clause.data.toList.drop 138 = dktX20_clause_6 := dk_seg dksX20_clause_5 23 rfl rfl
theorem dksX20_clause_7 : cX20_clause.data.toList.drop 160 = dktX20_clause_7 := dk_seg dksX20_clause_6 22 rfl rfl
theorem dX20_clause_0 : decode cX20_clause 0 = .ok (.aload_n 0, 1) := dk_42 (dk_at dksX20_clause_0 0 rfl rfl)
theorem dX20_clause_1 : decode cX20_clause 1 = .ok (.ldc 20, 2) := dk_18 20 (dk_at dksX20_clause_0 1 rfl rfl)
theorem dX20_clause_3 : decode cX20_clause 3 = .ok (.invokevirtual 22, 3) := dk_182 0 22 (dk_at dksX20_clause_0 3 rfl rfl)
theorem dX20_clause_6 : decode cX20_clause 6 = .ok (.ifCond .eq 7, 3) := dk_153 0 7 (dk_at dksX20_clause_0 6 rfl rfl)
theorem dX20_clause_9 : decode cX20_clause 9 = .ok (.iconst 0, 1) := dk_3 (dk_at dksX20_clause_0 9 rfl rfl)
theorem dX20_clause_10 : decode cX20_clause 10 = .ok (.goto 43, 3) := dk_167 0 43 (dk_at dksX20_clause_0 10 rfl rfl)
theorem dX20_clause_13 : decode cX20_clause 13 = .ok (.aload_n 0, 1) := dk_42 (dk_at dksX20_clause_0 13 rfl rfl)
theorem dX20_clause_14 : decode cX20_clause 14 = .ok (.ldc 26, 2) := dk_18 26 (dk_at dksX20_clause_0 14 rfl rfl)
theorem dX20_clause_16 : decode cX20_clause 16 = .ok (.invokevirtual 22, 3) := dk_182 0 22 (dk_at dksX20_clause_0 16 rfl rfl)
theorem dX20_clause_19 : decode cX20_clause 19 = .ok (.ifCond .eq 7, 3) := dk_153 0 7 (dk_at dksX20_clause_0 19 rfl rfl)
theorem dX20_clause_22 : decode cX20_clause 22 = .ok (.iconst 1, 1) := dk_4 (dk_at dksX20_clause_0 22 rfl rfl)
theorem dX20_clause_23 : decode cX20_clause 23 = .ok (.goto 30, 3) := dk_167 0 30 (dk_at dksX20_clause_1 0 rfl rfl)
theorem dX20_clause_26 : decode cX20_clause 26 = .ok (.aload_n 0, 1) := dk_42 (dk_at dksX20_clause_1 3 rfl rfl)
theorem dX20_clause_27 : decode cX20_clause 27 = .ok (.ldc 28, 2) := dk_18 28 (dk_at dksX20_clause_1 4 rfl rfl)
theorem dX20_clause_29 : decode cX20_clause 29 = .ok (.invokevirtual 22, 3) := dk_182 0 22 (dk_at dksX20_clause_1 6 rfl rfl)
theorem dX20_clause_32 : decode cX20_clause 32 = .ok (.ifCond .eq 7, 3) := dk_153 0 7 (dk_at dksX20_clause_1 9 rfl rfl)
theorem dX20_clause_35 : decode cX20_clause 35 = .ok (.iconst 2, 1) := dk_5 (dk_at dksX20_clause_1 12 rfl rfl)
theorem dX20_clause_36 : decode cX20_clause 36 = .ok (.goto 17, 3) := dk_167 0 17 (dk_at dksX20_clause_1 13 rfl rfl)
theorem dX20_clause_39 : decode cX20_clause 39 = .ok (.aload_n 0, 1) := dk_42 (dk_at dksX20_clause_1 16 rfl rfl)
theorem dX20_clause_40 : decode cX20_clause 40 = .ok (.ldc 30, 2) := dk_18 30 (dk_at dksX20_clause_1 17 rfl rfl)
theorem dX20_clause_42 : decode cX20_clause 42 = .ok (.invokevirtual 22, 3) := dk_182 0 22 (dk_at dksX20_clause_1 19 rfl rfl)
theorem dX20_clause_45 : decode cX20_clause 45 = .ok (.ifCond .eq 7, 3) := dk_153 0 7 (dk_at dksX20_clause_2 0 rfl rfl)
theorem dX20_clause_48 : decode cX20_clause 48 = .ok (.iconst 3, 1) := dk_6 (dk_at dksX20_clause_2 3 rfl rfl)
theorem dX20_clause_49 : decode cX20_clause 49 = .ok (.goto 4, 3) := dk_167 0 4 (dk_at dksX20_clause_2 4 rfl rfl)
theorem dX20_clause_52 : decode cX20_clause 52 = .ok (.iconst (-1), 1) := dk_2 (dk_at dksX20_clause_2 7 rfl rfl)
theorem dX20_clause_53 : decode cX20_clause 53 = .ok (.istore_n 1, 1) := dk_60 (dk_at dksX20_clause_2 8 rfl rfl)
theorem dX20_clause_54 : decode cX20_clause 54 = .ok (.aload_n 0, 1) := dk_42 (dk_at dksX20_clause_2 9 rfl rfl)
theorem dX20_clause_55 : decode cX20_clause 55 = .ok (.iload_n 1, 1) := dk_27 (dk_at dksX20_clause_2 10 rfl rfl)
theorem dX20_clause_56 : decode cX20_clause 56 = .ok (.iconst (-1), 1) := dk_2 (dk_at dksX20_clause_2 11 rfl rfl)
theorem dX20_clause_57 : decode cX20_clause 57 = .ok (.if_icmp .eq 7, 3) := dk_159 0 7 (dk_at dksX20_clause_2 12 rfl rfl)
theorem dX20_clause_60 : decode cX20_clause 60 = .ok (.iconst 1, 1) := dk_4 (dk_at dksX20_clause_2 15 rfl rfl)
theorem dX20_clause_61 : decode cX20_clause 61 = .ok (.goto 4, 3) := dk_167 0 4 (dk_at dksX20_clause_2 16 rfl rfl)
theorem dX20_clause_64 : decode cX20_clause 64 = .ok (.iconst 0, 1) := dk_3 (dk_at dksX20_clause_2 19 rfl rfl)
theorem dX20_clause_65 : decode cX20_clause 65 = .ok (.invokevirtual 32, 3) := dk_182 0 32 (dk_at dksX20_clause_2 20 rfl rfl)
theorem dX20_clause_68 : decode cX20_clause 68 = .ok (.aload_n 0, 1) := dk_42 (dk_at dksX20_clause_2 23 rfl rfl)
theorem dX20_clause_69 : decode cX20_clause 69 = .ok (.invokevirtual 36, 3) := dk_182 0 36 (dk_at dksX20_clause_3 0 rfl rfl)
theorem dX20_clause_72 : decode cX20_clause 72 = .ok (.new 40, 3) := dk_187 0 40 (dk_at dksX20_clause_3 3 rfl rfl)
theorem dX20_clause_75 : decode cX20_clause 75 = .ok (.dup, 1) := dk_89 (dk_at dksX20_clause_3 6 rfl rfl)
theorem dX20_clause_76 : decode cX20_clause 76 = .ok (.iload_n 1, 1) := dk_27 (dk_at dksX20_clause_3 7 rfl rfl)
theorem dX20_clause_77 : decode cX20_clause 77 = .ok (.invokespecial 42, 3) := dk_183 0 42 (dk_at dksX20_clause_3 8 rfl rfl)
theorem dX20_clause_80 : decode cX20_clause 80 = .ok (.astore_n 2, 1) := dk_77 (dk_at dksX20_clause_3 11 rfl rfl)
theorem dX20_clause_81 : decode cX20_clause 81 = .ok (.iload_n 1, 1) := dk_27 (dk_at dksX20_clause_3 12 rfl rfl)
theorem dX20_clause_82 : decode cX20_clause 82 = .ok (.iconst 3, 1) := dk_6 (dk_at dksX20_clause_3 13 rfl rfl)
theorem dX20_clause_83 : decode cX20_clause 83 = .ok (.if_icmp .eq 40, 3) := dk_159 0 40 (dk_at dksX20_clause_3 14 rfl rfl)
theorem dX20_clause_86 : decode cX20_clause 86 = .ok (.aload_n 2, 1) := dk_44 (dk_at dksX20_clause_3 17 rfl rfl)
theorem dX20_clause_87 : decode cX20_clause 87 = .ok (.aload_n 0, 1) := dk_42 (dk_at dksX20_clause_3 18 rfl rfl)
theorem dX20_clause_88 : decode cX20_clause 88 = .ok (.invokevirtual 43, 3) := dk_182 0 43 (dk_at dksX20_clause_3 19 rfl rfl)
theorem dX20_clause_91 : decode cX20_clause 91 = .ok (.putfield 47, 3) := dk_181 0 47 (dk_at dksX20_clause_4 0 rfl rfl)
theorem dX20_clause_94 : decode cX20_clause 94 = .ok (.aload_n 2, 1) := dk_44 (dk_at dksX20_clause_4 3 rfl rfl)
theorem dX20_clause_95 : decode cX20_clause 95 = .ok (.aload_n 0, 1) := dk_42 (dk_at dksX20_clause_4 4 rfl rfl)
theorem dX20_clause_96 : decode cX20_clause 96 = .ok (.iload_n 1, 1) := dk_27 (dk_at dksX20_clause_4 5 rfl rfl)
theorem dX20_clause_97 : decode cX20_clause 97 = .ok (.ifCond .ne 8, 3) := dk_154 0 8 (dk_at dksX20_clause_4 6 rfl rfl)
theorem dX20_clause_100 : decode cX20_clause 100 = .ok (.ldc 51, 2) := dk_18 51 (dk_at dksX20_clause_4 9 rfl rfl)
theorem dX20_clause_102 : decode cX20_clause 102 = .ok (.goto 15, 3) := dk_167 0 15 (dk_at dksX20_clause_4 11 rfl rfl)
theorem dX20_clause_105 : decode cX20_clause 105 = .ok (.iload_n 1, 1) := dk_27 (dk_at dksX20_clause_4 14 rfl rfl)
theorem dX20_clause_106 : decode cX20_clause 106 = .ok (.iconst 1, 1) := dk_4 (dk_at dksX20_clause_4 15 rfl rfl)
theorem dX20_clause_107 : decode cX20_clause 107 = .ok (.if_icmp .ne 8, 3) := dk_160 0 8 (dk_at dksX20_clause_4 16 rfl rfl)
theorem dX20_clause_110 : decode cX20_clause 110 = .ok (.ldc 53, 2) := dk_18 53 (dk_at dksX20_clause_4 19 rfl rfl)
theorem dX20_clause_112 : decode cX20_clause 112 = .ok (.goto 5, 3) := dk_167 0 5 (dk_at dksX20_clause_4 21 rfl rfl)
theorem dX20_clause_115 : decode cX20_clause 115 = .ok (.ldc 55, 2) := dk_18 55 (dk_at dksX20_clause_5 0 rfl rfl)
theorem dX20_clause_117 : decode cX20_clause 117 = .ok (.invokevirtual 57, 3) := dk_182 0 57 (dk_at dksX20_clause_5 2 rfl rfl)
theorem dX20_clause_120 : decode cX20_clause 120 = .ok (.putfield 61, 3) := dk_181 0 61 (dk_at dksX20_clause_5 5 rfl rfl)
theorem dX20_clause_123 : decode cX20_clause 123 = .ok (.iload_n 1, 1) := dk_27 (dk_at dksX20_clause_5 8 rfl rfl)
theorem dX20_clause_124 : decode cX20_clause 124 = .ok (.ifCond .ne 13, 3) := dk_154 0 13 (dk_at dksX20_clause_5 9 rfl rfl)
theorem dX20_clause_127 : decode cX20_clause 127 = .ok (.aload_n 2, 1) := dk_44 (dk_at dksX20_clause_5 12 rfl rfl)
theorem dX20_clause_128 : decode cX20_clause 128 = .ok (.aload_n 0, 1) := dk_42 (dk_at dksX20_clause_5 13 rfl rfl)
theorem dX20_clause_129 : decode cX20_clause 129 = .ok (.ldc 53, 2) := dk_18 53 (dk_at dksX20_clause_5 14 rfl rfl)
theorem dX20_clause_131 : decode cX20_clause 131 = .ok (.invokevirtual 57, 3) := dk_182 0 57 (dk_at dksX20_clause_5 16 rfl rfl)
theorem dX20_clause_134 : decode cX20_clause 134 = .ok (.putfield 64, 3) := dk_181 0 64 (dk_at dksX20_clause_5 19 rfl rfl)
theorem dX20_clause_137 : decode cX20_clause 137 = .ok (.aload_n 0, 1) := dk_42 (dk_at dksX20_clause_5 22 rfl rfl)
theorem dX20_clause_138 : decode cX20_clause 138 = .ok (.ldc 67, 2) := dk_18 67 (dk_at dksX20_clause_6 0 rfl rfl)
theorem dX20_clause_140 : decode cX20_clause 140 = .ok (.invokevirtual 69, 3) := dk_182 0 69 (dk_at dksX20_clause_6 2 rfl rfl)
theorem dX20_clause_143 : decode cX20_clause 143 = .ok (.ifCond .eq 14, 3) := dk_153 0 14 (dk_at dksX20_clause_6 5 rfl rfl)
theorem dX20_clause_146 : decode cX20_clause 146 = .ok (.aload_n 2, 1) := dk_44 (dk_at dksX20_clause_6 8 rfl rfl)
theorem dX20_clause_147 : decode cX20_clause 147 = .ok (.aload_n 0, 1) := dk_42 (dk_at dksX20_clause_6 9 rfl rfl)
theorem dX20_clause_148 : decode cX20_clause 148 = .ok (.iconst 1, 1) := dk_4 (dk_at dksX20_clause_6 10 rfl rfl)
theorem dX20_clause_149 : decode cX20_clause 149 = .ok (.bipush 20, 2) := dk_16 20 (dk_at dksX20_clause_6 11 rfl rfl)
theorem dX20_clause_151 : decode cX20_clause 151 = .ok (.invokevirtual 72, 3) := dk_182 0 72 (dk_at dksX20_clause_6 13 rfl rfl)
theorem dX20_clause_154 : decode cX20_clause 154 = .ok (.putfield 76, 3) := dk_181 0 76 (dk_at dksX20_clause_6 16 rfl rfl)
theorem dX20_clause_157 : decode cX20_clause 157 = .ok (.aload_n 0, 1) := dk_42 (dk_at dksX20_clause_6 19 rfl rfl)
theorem dX20_clause_158 : decode cX20_clause 158 = .ok (.ldc 79, 2) := dk_18 79 (dk_at dksX20_clause_6 20 rfl rfl)
theorem dX20_clause_160 : decode cX20_clause 160 = .ok (.invokevirtual 69, 3) := dk_182 0 69 (dk_at dksX20_clause_7 0 rfl rfl)
theorem dX20_clause_163 : decode cX20_clause 163 = .ok (.ifCond .eq 11, 3) := dk_153 0 11 (dk_at dksX20_clause_7 3 rfl rfl)
theorem dX20_clause_166 : decode cX20_clause 166 = .ok (.aload_n 2, 1) := dk_44 (dk_at dksX20_clause_7 6 rfl rfl)
theorem dX20_clause_167 : decode cX20_clause 167 = .ok (.aload_n 0, 1) := dk_42 (dk_at dksX20_clause_7 7 rfl rfl)
theorem dX20_clause_168 : decode cX20_clause 168 = .ok (.invokevirtual 81, 3) := dk_182 0 81 (dk_at dksX20_clause_7 8 rfl rfl)
theorem dX20_clause_171 : decode cX20_clause 171 = .ok (.putfield 85, 3) := dk_181 0 85 (dk_at dksX20_clause_7 11 rfl rfl)
theorem dX20_clause_174 : decode cX20_clause 174 = .ok (.aload_n 0, 1) := dk_42 (dk_at dksX20_clause_7 14 rfl rfl)
theorem dX20_clause_175 : decode cX20_clause 175 = .ok (.getfield 14, 3) := dk_180 0 14 (dk_at dksX20_clause_7 15 rfl rfl)
theorem dX20_clause_178 : decode cX20_clause 178 = .ok (.aload_n 2, 1) := dk_44 (dk_at dksX20_clause_7 18 rfl rfl)
theorem dX20_clause_179 : decode cX20_clause 179 = .ok (.invokevirtual 89, 3) := dk_182 0 89 (dk_at dksX20_clause_7 19 rfl rfl)
theorem dX20_clause_182 : decode cX20_clause 182 = .ok (.pop, 1) := dk_87 (dk_at dksX20_clause_7 22 rfl rfl)
theorem dX20_clause_183 : decode cX20_clause 183 = .ok (.return_, 1) := dk_177 (dk_at dksX20_clause_7 23 rfl rfl)
abbrev cX20_init : ByteArray := prog_11_method_1_code
def yX20_init : MethodName := ⟨RX20, "<init>", "([BI)V"⟩
def dkwX20_init_0 : List UInt8 := [42, 43, 28, 183, 0, 3, 42, 187, 0, 9, 89, 5, 183, 0, 11, 181, 0, 14, 177]
abbrev dktX20_init_0 : List UInt8 := dkwX20_init_0 ++ []
theorem dksX20_init_0 : cX20_init.data.toList.drop 0 = dktX20_init_0 := by decide +kernel
theorem dX20_init_0 : decode cX20_init 0 = .ok (.aload_n 0, 1) := dk_42 (dk_at dksX20_init_0 0 rfl rfl)
theorem dX20_init_1 : decode cX20_init 1 = .ok (.aload_n 1, 1) := dk_43 (dk_at dksX20_init_0 1 rfl rfl)
theorem dX20_init_2 : decode cX20_init 2 = .ok (.iload_n 2, 1) := dk_28 (dk_at dksX20_init_0 2 rfl rfl)
theorem dX20_init_3 : decode cX20_init 3 = .ok (.invokespecial 3, 3) := dk_183 0 3 (dk_at dksX20_init_0 3 rfl rfl)
theorem dX20_init_6 : decode cX20_init 6 = .ok (.aload_n 0, 1) := dk_42 (dk_at dksX20_init_0 6 rfl rfl)
theorem dX20_init_7 : decode cX20_init 7 = .ok (.new 9, 3) := dk_187 0 9 (dk_at dksX20_init_0 7 rfl rfl)
theorem dX20_init_10 : decode cX20_init 10 = .ok (.dup, 1) := dk_89 (dk_at dksX20_init_0 10 rfl rfl)
theorem dX20_init_11 : decode cX20_init 11 = .ok (.iconst 2, 1) := dk_5 (dk_at dksX20_init_0 11 rfl rfl)
theorem dX20_init_12 : decode cX20_init 12 = .ok (.invokespecial 11, 3) := dk_183 0 11 (dk_at dksX20_init_0 12 rfl rfl)
theorem dX20_init_15 : decode cX20_init 15 = .ok (.putfield 14, 3) := dk_181 0 14 (dk_at dksX20_init_0 15 rfl rfl)
theorem dX20_init_18 : decode cX20_init 18 = .ok (.return_, 1) := dk_177 (dk_at dksX20_init_0 18 rfl rfl)
theorem q156 : (Jvm.Cond.initialized "DowryBoxes$OrderReader") ∈ lw_all := lw_g (lw_at lw_m1 36 rfl) rfl
theorem q521 : (Jvm.Cond.selects "DowryBoxes$OrderReader" ({ cls := "java/lang/Object", name := "getClass", desc := "()Ljava/lang/Class;" } : Jvm.MethodName) ({ cls := "java/lang/Object", name := "getClass", desc := "()Ljava/lang/Class;" } : Jvm.MethodName)) ∈ lw_all := lw_g (lw_at lw_m2 161 rfl) rfl
theorem q824 : (Jvm.Cond.selects "DowryBoxes$OrderReader" ({ cls := "DowryBoxes$Reader", name := "read", desc := "()V" } : Jvm.MethodName) ({ cls := "DowryBoxes$Reader", name := "read", desc := "()V" } : Jvm.MethodName)) ∈ lw_all := lw_g (lw_at lw_m3 224 rfl) rfl
theorem q830 : (Jvm.Cond.selects "DowryBoxes$OrderReader" ({ cls := "DowryBoxes$Reader", name := "next", desc := "()V" } : Jvm.MethodName) ({ cls := "DowryBoxes$Reader", name := "next", desc := "()V" } : Jvm.MethodName)) ∈ lw_all := lw_g (lw_at lw_m3 230 rfl) rfl
theorem q836 : (Jvm.Cond.selects "DowryBoxes$OrderReader" ({ cls := "DowryBoxes$Reader", name := "isIn", desc := "(III)Z" } : Jvm.MethodName) ({ cls := "DowryBoxes$Reader", name := "isIn", desc := "(III)Z" } : Jvm.MethodName)) ∈ lw_all := lw_g (lw_at lw_m3 236 rfl) rfl
theorem q958 : (Jvm.Cond.selects "DowryBoxes$OrderReader" ({ cls := "DowryBoxes$Reader", name := "term", desc := "()LDowryBoxes$Sum;" } : Jvm.MethodName) ({ cls := "DowryBoxes$Reader", name := "term", desc := "()LDowryBoxes$Sum;" } : Jvm.MethodName)) ∈ lw_all := lw_g (lw_at lw_m4 118 rfl) rfl
theorem q964 : (Jvm.Cond.selects "DowryBoxes$OrderReader" ({ cls := "DowryBoxes$Reader", name := "part", desc := "()LDowryBoxes$Sum;" } : Jvm.MethodName) ({ cls := "DowryBoxes$Reader", name := "part", desc := "()LDowryBoxes$Sum;" } : Jvm.MethodName)) ∈ lw_all := lw_g (lw_at lw_m4 124 rfl) rfl
theorem q972 : (Jvm.Cond.selects "DowryBoxes$OrderReader" ({ cls := "DowryBoxes$Reader", name := "opens", desc := "()V" } : Jvm.MethodName) ({ cls := "DowryBoxes$Reader", name := "opens", desc := "()V" } : Jvm.MethodName)) ∈ lw_all := lw_g (lw_at lw_m4 132 rfl) rfl
theorem q980 : (Jvm.Cond.selects "DowryBoxes$OrderReader" ({ cls := "DowryBoxes$Reader", name := "need", desc := "(Ljava/lang/String;)V" } : Jvm.MethodName) ({ cls := "DowryBoxes$Reader", name := "need", desc := "(Ljava/lang/String;)V" } : Jvm.MethodName)) ∈ lw_all := lw_g (lw_at lw_m4 140 rfl) rfl
theorem q986 : (Jvm.Cond.selects "DowryBoxes$OrderReader" ({ cls := "DowryBoxes$Reader", name := "takes", desc := "(Ljava/lang/String;)Z" } : Jvm.MethodName) ({ cls := "DowryBoxes$Reader", name := "takes", desc := "(Ljava/lang/String;)Z" } : Jvm.MethodName)) ∈ lw_all := lw_g (lw_at lw_m4 146 rfl) rfl
theorem q992 : (Jvm.Cond.selects "DowryBoxes$OrderReader" ({ cls := "DowryBoxes$Reader", name := "leaf", desc := "()V" } : Jvm.MethodName) ({ cls := "DowryBoxes$Reader", name := "leaf", desc := "()V" } : Jvm.MethodName)) ∈ lw_all := lw_g (lw_at lw_m4 152 rfl) rfl
theorem q1000 : (Jvm.Cond.selects "DowryBoxes$OrderReader" ({ cls := "DowryBoxes$Reader", name := "number", desc := "(II)I" } : Jvm.MethodName) ({ cls := "DowryBoxes$Reader", name := "number", desc := "(II)I" } : Jvm.MethodName)) ∈ lw_all := lw_g (lw_at lw_m4 160 rfl) rfl
theorem q1034 : (Jvm.Cond.selects "DowryBoxes$OrderReader" ({ cls := "DowryBoxes$Reader", name := "value", desc := "()I" } : Jvm.MethodName) ({ cls := "DowryBoxes$OrderReader", name := "value", desc := "()I" } : Jvm.MethodName)) ∈ lw_all := lw_g (lw_at lw_m4 194 rfl) rfl
theorem q1035 : (Jvm.Cond.instanceMethod ({ cls := "DowryBoxes$OrderReader", name := "value", desc := "()I" } : Jvm.MethodName)) ∈ lw_all := lw_g (lw_at lw_m4 195 rfl) rfl
theorem q1036 : (Jvm.Cond.code ({ cls := "DowryBoxes$OrderReader", name := "value", desc := "()I" } : Jvm.MethodName) prog_11_method_3_code (1 : Nat) (Option.some Jvm.ClassFile.FieldType.int)) ∈ lw_all := lw_g (lw_at lw_m4 196 rfl) rfl
theorem q1037 : (Jvm.Cond.stringRef "DowryBoxes$OrderReader" (93 : Nat) "year") ∈ lw_tbl := lw_at lw_m4 197 rfl
theorem q1038 : (Jvm.Cond.methodLink "DowryBoxes$OrderReader" (95 : Nat) ({ cls := "DowryBoxes$OrderReader", name := "isValue", desc := "(Ljava/lang/String;)Z" } : Jvm.MethodName)) ∈ lw_all := lw_g (lw_at lw_m4 198 rfl) rfl
theorem q1039 : (Jvm.Cond.sameMethod "DowryBoxes$OrderReader" "DowryBoxes$Reader" "isValue" "(Ljava/lang/String;)Z") ∈ lw_all := lw_g (lw_at lw_m4 199 rfl) rfl
theorem q1040 : (Jvm.Cond.selects "DowryBoxes$OrderReader" ({ cls := "DowryBoxes$OrderReader", name := "isValue", desc := "(Ljava/lang/String;)Z" } : Jvm.MethodName) ({ cls := "DowryBoxes$Reader", name := "isValue", desc := "(Ljava/lang/String;)Z" } : Jvm.MethodName)) ∈ lw_all := lw_g (lw_at lw_m4 200 rfl) rfl
theorem q1041 : (Jvm.Cond.stringRef "DowryBoxes$OrderReader" (98 : Nat) "done") ∈ lw_tbl := lw_at lw_m4 201 rfl
theorem q1042 : (Jvm.Cond.stringRef "DowryBoxes$OrderReader" (100 : Nat) "latest") ∈ lw_tbl := lw_at lw_m4 202 rfl
theorem q1043 : (Jvm.Cond.stringRef "DowryBoxes$OrderReader" (102 : Nat) "couples") ∈ lw_tbl := lw_at lw_m4 203 rfl
theorem q1044 : (Jvm.Cond.stringRef "DowryBoxes$OrderReader" (104 : Nat) "left") ∈ lw_tbl := lw_at lw_m4 204 rfl
theorem q1045 : (Jvm.Cond.methodLink "DowryBoxes$OrderReader" (72 : Nat) ({ cls := "DowryBoxes$OrderReader", name := "number", desc := "(II)I" } : Jvm.MethodName)) ∈ lw_all := lw_g (lw_at lw_m4 205 rfl) rfl
theorem q1046 : (Jvm.Cond.sameMethod "DowryBoxes$OrderReader" "DowryBoxes$Reader" "number" "(II)I") ∈ lw_all := lw_g (lw_at lw_m4 206 rfl) rfl
theorem q1048 : (Jvm.Cond.selects "DowryBoxes$OrderReader" ({ cls := "DowryBoxes$OrderReader", name := "number", desc := "(II)I" } : Jvm.MethodName) ({ cls := "DowryBoxes$Reader", name := "number", desc := "(II)I" } : Jvm.MethodName)) ∈ lw_all := lw_g (lw_at lw_m4 208 rfl) rfl
theorem q1049 : (Jvm.Cond.stringRef "DowryBoxes$OrderReader" (106 : Nat) "notes") ∈ lw_tbl := lw_at lw_m4 209 rfl
theorem q1096 : (Jvm.Cond.selects "DowryBoxes$OrderReader" ({ cls := "DowryBoxes$Reader", name := "both", desc := "()LDowryBoxes$Test;" } : Jvm.MethodName) ({ cls := "DowryBoxes$Reader", name := "both", desc := "()LDowryBoxes$Test;" } : Jvm.MethodName)) ∈ lw_all := lw_g (lw_at lw_m5 16 rfl) rfl
theorem q1102 : (Jvm.Cond.selects "DowryBoxes$OrderReader" ({ cls := "DowryBoxes$Reader", name := "plain", desc := "()LDowryBoxes$Test;" } : Jvm.MethodName) ({ cls := "DowryBoxes$Reader", name := "plain", desc := "()LDowryBoxes$Test;" } : Jvm.MethodName)) ∈ lw_all := lw_g (lw_at lw_m5 22 rfl) rfl
theorem q1109 : (Jvm.Cond.selects "DowryBoxes$OrderReader" ({ cls := "DowryBoxes$Reader", name := "positive", desc := "()LDowryBoxes$Test;" } : Jvm.MethodName) ({ cls := "DowryBoxes$Reader", name := "positive", desc := "()LDowryBoxes$Test;" } : Jvm.MethodName)) ∈ lw_all := lw_g (lw_at lw_m5 29 rfl) rfl
theorem q1177 : (Jvm.Cond.selects "DowryBoxes$OrderReader" ({ cls := "DowryBoxes$Reader", name := "clause", desc := "()V" } : Jvm.MethodName) ({ cls := "DowryBoxes$OrderReader", name := "clause", desc := "()V" } : Jvm.MethodName)) ∈ lw_all := lw_g (lw_at lw_m5 97 rfl) rfl
theorem q1178 : (Jvm.Cond.instanceMethod ({ cls := "DowryBoxes$OrderReader", name := "clause", desc := "()V" } : Jvm.MethodName)) ∈ lw_all := lw_g (lw_at lw_m5 98 rfl) rfl
theorem q1179 : (Jvm.Cond.code ({ cls := "DowryBoxes$OrderReader", name := "clause", desc := "()V" } : Jvm.MethodName) prog_11_method_2_code (3 : Nat) (Option.none : Option Jvm.ClassFile.FieldType)) ∈ lw_all := lw_g (lw_at lw_m5 99 rfl) rfl
theorem q1180 : (Jvm.Cond.stringRef "DowryBoxes$OrderReader" (20 : Nat) "pull") ∈ lw_tbl := lw_at lw_m5 100 rfl
theorem q1181 : (Jvm.Cond.methodLink "DowryBoxes$OrderReader" (22 : Nat) ({ cls := "DowryBoxes$OrderReader", name := "is", desc := "(Ljava/lang/String;)Z" } : Jvm.MethodName)) ∈ lw_all := lw_g (lw_at lw_m5 101 rfl) rfl
theorem q1182 : (Jvm.Cond.sameMethod "DowryBoxes$OrderReader" "DowryBoxes$Reader" "is" "(Ljava/lang/String;)Z") ∈ lw_all := lw_g (lw_at lw_m5 102 rfl) rfl
theorem q1183 : (Jvm.Cond.selects "DowryBoxes$OrderReader" ({ cls := "DowryBoxes$OrderReader", name := "is", desc := "(Ljava/lang/String;)Z" } : Jvm.MethodName) ({ cls := "DowryBoxes$Reader", name := "is", desc := "(Ljava/lang/String;)Z" } : Jvm.MethodName)) ∈ lw_all := lw_g (lw_at lw_m5 103 rfl) rfl
theorem q1184 : (Jvm.Cond.stringRef "DowryBoxes$OrderReader" (26 : Nat) "snap") ∈ lw_tbl := lw_at lw_m5 104 rfl
theorem q1185 : (Jvm.Cond.stringRef "DowryBoxes$OrderReader" (28 : Nat) "wed") ∈ lw_tbl := lw_at lw_m5 105 rfl
theorem q1186 : (Jvm.Cond.stringRef "DowryBoxes$OrderReader" (30 : Nat) "pass") ∈ lw_tbl := lw_at lw_m5 106 rfl
theorem q1187 : (Jvm.Cond.methodLink "DowryBoxes$OrderReader" (32 : Nat) ({ cls := "DowryBoxes$OrderReader", name := "begins", desc := "(Z)V" } : Jvm.MethodName)) ∈ lw_all := lw_g (lw_at lw_m5 107 rfl) rfl
theorem q1188 : (Jvm.Cond.sameMethod "DowryBoxes$OrderReader" "DowryBoxes$Reader" "begins" "(Z)V") ∈ lw_all := lw_g (lw_at lw_m5 108 rfl) rfl
theorem q1189 : (Jvm.Cond.selects "DowryBoxes$OrderReader" ({ cls := "DowryBoxes$OrderReader", name := "begins", desc := "(Z)V" } : Jvm.MethodName) ({ cls := "DowryBoxes$Reader", name := "begins", desc := "(Z)V" } : Jvm.MethodName)) ∈ lw_all := lw_g (lw_at lw_m5 109 rfl) rfl
theorem q1190 : (Jvm.Cond.methodLink "DowryBoxes$OrderReader" (36 : Nat) ({ cls := "DowryBoxes$OrderReader", name := "next", desc := "()V" } : Jvm.MethodName)) ∈ lw_all := lw_g (lw_at lw_m5 110 rfl) rfl
theorem q1191 : (Jvm.Cond.sameMethod "DowryBoxes$OrderReader" "DowryBoxes$Reader" "next" "()V") ∈ lw_all := lw_g (lw_at lw_m5 111 rfl) rfl
theorem q1192 : (Jvm.Cond.selects "DowryBoxes$OrderReader" ({ cls := "DowryBoxes$OrderReader", name := "next", desc := "()V" } : Jvm.MethodName) ({ cls := "DowryBoxes$Reader", name := "next", desc := "()V" } : Jvm.MethodName)) ∈ lw_all := lw_g (lw_at lw_m5 112 rfl) rfl
theorem q1193 : (Jvm.Cond.classLink "DowryBoxes$OrderReader" (40 : Nat) "DowryBoxes$Order") ∈ lw_all := lw_g (lw_at lw_m5 113 rfl) rfl
theorem q1195 : (Jvm.Cond.methodLink "DowryBoxes$OrderReader" (42 : Nat) ({ cls := "DowryBoxes$Order", name := "<init>", desc := "(I)V" } : Jvm.MethodName)) ∈ lw_all := lw_g (lw_at lw_m5 115 rfl) rfl
theorem q1201 : (Jvm.Cond.fieldLinkNest "DowryBoxes$OrderReader" (47 : Nat) "DowryBoxes$Order" "one" "LDowryBoxes$Sum;" "DowryBoxes") ∈ lw_tbl := lw_at lw_m5 121 rfl
theorem q1203 : (Jvm.Cond.fieldLinkNest "DowryBoxes$OrderReader" (61 : Nat) "DowryBoxes$Order" "other" "LDowryBoxes$Sum;" "DowryBoxes") ∈ lw_tbl := lw_at lw_m5 123 rfl
theorem q1205 : (Jvm.Cond.fieldLinkNest "DowryBoxes$OrderReader" (64 : Nat) "DowryBoxes$Order" "third" "LDowryBoxes$Sum;" "DowryBoxes") ∈ lw_tbl := lw_at lw_m5 125 rfl
theorem q1208 : (Jvm.Cond.fieldLinkNest "DowryBoxes$OrderReader" (76 : Nat) "DowryBoxes$Order" "times" "I" "DowryBoxes") ∈ lw_tbl := lw_at lw_m5 128 rfl
theorem q1211 : (Jvm.Cond.fieldLinkNest "DowryBoxes$OrderReader" (85 : Nat) "DowryBoxes$Order" "when" "LDowryBoxes$Test;" "DowryBoxes") ∈ lw_tbl := lw_at lw_m5 131 rfl
theorem q1225 : (Jvm.Cond.methodLink "DowryBoxes$OrderReader" (43 : Nat) ({ cls := "DowryBoxes$OrderReader", name := "sum", desc := "()LDowryBoxes$Sum;" } : Jvm.MethodName)) ∈ lw_all := lw_g (lw_at lw_m5 145 rfl) rfl
theorem q1226 : (Jvm.Cond.sameMethod "DowryBoxes$OrderReader" "DowryBoxes$Reader" "sum" "()LDowryBoxes$Sum;") ∈ lw_all := lw_g (lw_at lw_m5 146 rfl) rfl
theorem q1227 : (Jvm.Cond.selects "DowryBoxes$OrderReader" ({ cls := "DowryBoxes$OrderReader", name := "sum", desc := "()LDowryBoxes$Sum;" } : Jvm.MethodName) ({ cls := "DowryBoxes$Reader", name := "sum", desc := "()LDowryBoxes$Sum;" } : Jvm.MethodName)) ∈ lw_all := lw_g (lw_at lw_m5 147 rfl) rfl
theorem q1228 : (Jvm.Cond.stringRef "DowryBoxes$OrderReader" (51 : Nat) "at") ∈ lw_tbl := lw_at lw_m5 148 rfl
theorem q1229 : (Jvm.Cond.stringRef "DowryBoxes$OrderReader" (53 : Nat) "of") ∈ lw_tbl := lw_at lw_m5 149 rfl
theorem q1230 : (Jvm.Cond.stringRef "DowryBoxes$OrderReader" (55 : Nat) "to") ∈ lw_tbl := lw_at lw_m5 150 rfl
theorem q1231 : (Jvm.Cond.methodLink "DowryBoxes$OrderReader" (57 : Nat) ({ cls := "DowryBoxes$OrderReader", name := "behind", desc := "(Ljava/lang/String;)LDowryBoxes$Sum;" } : Jvm.MethodName)) ∈ lw_all := lw_g (lw_at lw_m5 151 rfl) rfl
theorem q1232 : (Jvm.Cond.sameMethod "DowryBoxes$OrderReader" "DowryBoxes$Reader" "behind" "(Ljava/lang/String;)LDowryBoxes$Sum;") ∈ lw_all := lw_g (lw_at lw_m5 152 rfl) rfl
theorem q1234 : (Jvm.Cond.selects "DowryBoxes$OrderReader" ({ cls := "DowryBoxes$OrderReader", name := "behind", desc := "(Ljava/lang/String;)LDowryBoxes$Sum;" } : Jvm.MethodName) ({ cls := "DowryBoxes$Reader", name := "behind", desc := "(Ljava/lang/String;)LDowryBoxes$Sum;" } : Jvm.MethodName)) ∈ lw_all := lw_g (lw_at lw_m5 154 rfl) rfl
theorem q1237 : (Jvm.Cond.stringRef "DowryBoxes$OrderReader" (67 : Nat) "times") ∈ lw_tbl := lw_at lw_m5 157 rfl
theorem q1238 : (Jvm.Cond.methodLink "DowryBoxes$OrderReader" (69 : Nat) ({ cls := "DowryBoxes$OrderReader", name := "takes", desc := "(Ljava/lang/String;)Z" } : Jvm.MethodName)) ∈ lw_all := lw_g (lw_at lw_m5 158 rfl) rfl
theorem q1239 : (Jvm.Cond.sameMethod "DowryBoxes$OrderReader" "DowryBoxes$Reader" "takes" "(Ljava/lang/String;)Z") ∈ lw_all := lw_g (lw_at lw_m5 159 rfl) rfl
theorem q1240 : (Jvm.Cond.selects "DowryBoxes$OrderReader" ({ cls := "DowryBoxes$OrderReader", name := "takes", desc := "(Ljava/lang/String;)Z" } : Jvm.MethodName) ({ cls := "DowryBoxes$Reader", name := "takes", desc := "(Ljava/lang/String;)Z" } : Jvm.MethodName)) ∈ lw_all := lw_g (lw_at lw_m5 160 rfl) rfl
theorem q1241 : (Jvm.Cond.stringRef "DowryBoxes$OrderReader" (79 : Nat) "if") ∈ lw_tbl := lw_at lw_m5 161 rfl
theorem q1242 : (Jvm.Cond.methodLink "DowryBoxes$OrderReader" (81 : Nat) ({ cls := "DowryBoxes$OrderReader", name := "test", desc := "()LDowryBoxes$Test;" } : Jvm.MethodName)) ∈ lw_all := lw_g (lw_at lw_m5 162 rfl) rfl
theorem q1243 : (Jvm.Cond.sameMethod "DowryBoxes$OrderReader" "DowryBoxes$Reader" "test" "()LDowryBoxes$Test;") ∈ lw_all := lw_g (lw_at lw_m5 163 rfl) rfl
theorem q1244 : (Jvm.Cond.selects "DowryBoxes$OrderReader" ({ cls := "DowryBoxes$OrderReader", name := "test", desc := "()LDowryBoxes$Test;" } : Jvm.MethodName) ({ cls := "DowryBoxes$Reader", name := "test", desc := "()LDowryBoxes$Test;" } : Jvm.MethodName)) ∈ lw_all := lw_g (lw_at lw_m5 164 rfl) rfl
theorem q1245 : (Jvm.Cond.methodLink "DowryBoxes$OrderReader" (89 : Nat) ({ cls := "java/util/ArrayList", name := "add", desc := "(Ljava/lang/Object;)Z" } : Jvm.MethodName)) ∈ lw_all := lw_g (lw_at lw_m5 165 rfl) rfl
theorem q1468 : (Jvm.Cond.instantiable "DowryBoxes$OrderReader" (8 : Nat)) ∈ lw_all := lw_g (lw_at lw_m6 148 rfl) rfl
theorem q1470 : (Jvm.Cond.instanceMethod ({ cls := "DowryBoxes$OrderReader", name := "<init>", desc := "([BI)V" } : Jvm.MethodName)) ∈ lw_all := lw_g (lw_at lw_m6 150 rfl) rfl
theorem q1471 : (Jvm.Cond.code ({ cls := "DowryBoxes$OrderReader", name := "<init>", desc := "([BI)V" } : Jvm.MethodName) prog_11_method_1_code (3 : Nat) (Option.none : Option Jvm.ClassFile.FieldType)) ∈ lw_all := lw_g (lw_at lw_m6 151 rfl) rfl
theorem q1472 : (Jvm.Cond.methodLink "DowryBoxes$OrderReader" (3 : Nat) ({ cls := "DowryBoxes$Reader", name := "<init>", desc := "([BI)V" } : Jvm.MethodName)) ∈ lw_all := lw_g (lw_at lw_m6 152 rfl) rfl
theorem q1473 : (Jvm.Cond.classLink "DowryBoxes$OrderReader" (9 : Nat) "java/util/ArrayList") ∈ lw_all := lw_g (lw_at lw_m6 153 rfl) rfl
theorem q1474 : (Jvm.Cond.methodLink "DowryBoxes$OrderReader" (11 : Nat) ({ cls := "java/util/ArrayList", name := "<init>", desc := "(I)V" } : Jvm.MethodName)) ∈ lw_all := lw_g (lw_at lw_m6 154 rfl) rfl
theorem q1475 : (Jvm.Cond.fieldLink "DowryBoxes$OrderReader" (14 : Nat) "DowryBoxes$OrderReader" "orders" "Ljava/util/ArrayList;") ∈ lw_all := lw_g (lw_at lw_m6 155 rfl) rfl
theorem q1477 : (Jvm.Cond.laysFinal "DowryBoxes$OrderReader" "DowryBoxes$OrderReader" "orders" "Ljava/util/ArrayList;") ∈ lw_all := lw_g (lw_at lw_m6 157 rfl) rfl
theorem q1478 : (Jvm.Cond.soleField "DowryBoxes$OrderReader" "orders") ∈ lw_all := lw_g (lw_at lw_m6 158 rfl) rfl
theorem q1479 : (Jvm.Cond.laysFinal "DowryBoxes$OrderReader" "DowryBoxes$Reader" "tape" "[B") ∈ lw_all := lw_g (lw_at lw_m6 159 rfl) rfl
theorem q1480 : (Jvm.Cond.laysFinal "DowryBoxes$OrderReader" "DowryBoxes$Reader" "size" "I") ∈ lw_all := lw_g (lw_at lw_m6 160 rfl) rfl
theorem q1481 : (Jvm.Cond.lays "DowryBoxes$OrderReader" "DowryBoxes$Reader" "made" "I") ∈ lw_all := lw_g (lw_at lw_m6 161 rfl) rfl
theorem q1482 : (Jvm.Cond.lays "DowryBoxes$OrderReader" "DowryBoxes$Reader" "from" "I") ∈ lw_all := lw_g (lw_at lw_m6 162 rfl) rfl
theorem q1483 : (Jvm.Cond.lays "DowryBoxes$OrderReader" "DowryBoxes$Reader" "to" "I") ∈ lw_all := lw_g (lw_at lw_m6 163 rfl) rfl
theorem q1484 : (Jvm.Cond.lays "DowryBoxes$OrderReader" "DowryBoxes$Reader" "leaves" "I") ∈ lw_all := lw_g (lw_at lw_m6 164 rfl) rfl
theorem q1485 : (Jvm.Cond.lays "DowryBoxes$OrderReader" "DowryBoxes$Reader" "deep" "I") ∈ lw_all := lw_g (lw_at lw_m6 165 rfl) rfl
theorem q1486 : (Jvm.Cond.superclass "DowryBoxes$OrderReader" "DowryBoxes$Reader") ∈ lw_all := lw_g (lw_at lw_m6 166 rfl) rfl
theorem q2278 : (Jvm.Cond.selects "DowryBoxes$OrderReader" ({ cls := "DowryBoxes$Reader", name := "is", desc := "(Ljava/lang/String;)Z" } : Jvm.MethodName) ({ cls := "DowryBoxes$Reader", name := "is", desc := "(Ljava/lang/String;)Z" } : Jvm.MethodName)) ∈ lw_all := lw_g (lw_at lw_m9 238 rfl) rfl
theorem q2281 : (Jvm.Cond.selects "DowryBoxes$OrderReader" ({ cls := "DowryBoxes$Reader", name := "sum", desc := "()LDowryBoxes$Sum;" } : Jvm.MethodName) ({ cls := "DowryBoxes$Reader", name := "sum", desc := "()LDowryBoxes$Sum;" } : Jvm.MethodName)) ∈ lw_all := lw_g (lw_at lw_m10 1 rfl) rfl
theorem q2284 : (Jvm.Cond.selects "DowryBoxes$OrderReader" ({ cls := "DowryBoxes$Reader", name := "test", desc := "()LDowryBoxes$Test;" } : Jvm.MethodName) ({ cls := "DowryBoxes$Reader", name := "test", desc := "()LDowryBoxes$Test;" } : Jvm.MethodName)) ∈ lw_all := lw_g (lw_at lw_m10 4 rfl) rfl
theorem q2306 : (Jvm.Cond.castable "DowryBoxes$OrderReader" "java/lang/Object") ∈ lw_tbl := lw_at lw_m10 26 rfl
theorem in_X20 : ∀ w ∈ wsX200, w ∈ lw_all := lw_in wsX200 [1479, 1480, 1481, 1482, 1483, 1484, 1485, 1477] (by decide +kernel) (by decide +kernel)
/-! java/util/AbstractCollection -/
set_option maxRecDepth 100000
def RJ0 : String := "java/util/AbstractCollection"
abbrev cJ0_init : ByteArray := prog_38_method_1_code
def yJ0_init : MethodName := ⟨RJ0, "<init>", "()V"⟩
theorem dJ0_init_0 : decode cJ0_init 0 = .ok (.aload_n 0, 1) := by decide +kernel
theorem dJ0_init_1 : decode cJ0_init 1 = .ok (.invokespecial 1, 3) := by decide +kernel
theorem dJ0_init_4 : decode cJ0_init 4 = .ok (.return_, 1) := by decide +kernel
theorem q124 : (Jvm.Cond.initialized "java/util/AbstractCollection") ∈ lw_all := lw_g (lw_at lw_m1 4 rfl) rfl
theorem q212 : (Jvm.Cond.instanceMethod ({ cls := "java/util/AbstractCollection", name := "<init>", desc := "()V" } : Jvm.MethodName)) ∈ lw_all := lw_g (lw_at lw_m1 92 rfl) rfl
theorem q213 : (Jvm.Cond.code ({ cls := "java/util/AbstractCollection", name := "<init>", desc := "()V" } : Jvm.MethodName) prog_38_method_1_code (1 : Nat) (Option.none : Option Jvm.ClassFile.FieldType)) ∈ lw_all := lw_g (lw_at lw_m1 93 rfl) rfl
theorem q214 : (Jvm.Cond.methodLink "java/util/AbstractCollection" (1 : Nat) ({ cls := "java/lang/Object", name := "<init>", desc := "()V" } : Jvm.MethodName)) ∈ lw_all := lw_g (lw_at lw_m1 94 rfl) rfl
/-! java/util/AbstractList -/
set_option maxRecDepth 100000
def RJ1 : String := "java/util/AbstractList"
abbrev cJ1_init : ByteArray := prog_39_method_1_code
def yJ1_init : MethodName := ⟨RJ1, "<init>", "()V"⟩
def dkwJ1_init_0 : List UInt8 := [42, 183, 0, 1, 42, 3, 181, 0, 7, 177]
abbrev dktJ1_init_0 : List UInt8 := dkwJ1_init_0 ++ []
theorem dksJ1_init_0 : cJ1_init.data.toList.drop 0 = dktJ1_init_0 := by decide +kernel
theorem dJ1_init_0 : decode cJ1_init 0 = .ok (.aload_n 0, 1) := dk_42 (dk_at dksJ1_init_0 0 rfl rfl)
theorem dJ1_init_1 : decode cJ1_init 1 = .ok (.invokespecial 1, 3) := dk_183 0 1 (dk_at dksJ1_init_0 1 rfl rfl)
theorem dJ1_init_4 : decode cJ1_init 4 = .ok (.aload_n 0, 1) := dk_42 (dk_at dksJ1_init_0 4 rfl rfl)
theorem dJ1_init_5 : decode cJ1_init 5 = .ok (.iconst 0, 1) := dk_3 (dk_at dksJ1_init_0 5 rfl rfl)
theorem dJ1_init_6 : decode cJ1_init 6 = .ok (.putfield 7, 3) := dk_181 0 7 (dk_at dksJ1_init_0 6 rfl rfl)
theorem dJ1_init_9 : decode cJ1_init 9 = .ok (.return_, 1) := dk_177 (dk_at dksJ1_init_0 9 rfl rfl)
theorem q125 : (Jvm.Cond.initialized "java/util/AbstractList") ∈ lw_all := lw_g (lw_at lw_m1 5 rfl) rfl
theorem q209 : (Jvm.Cond.instanceMethod ({ cls := "java/util/AbstractList", name := "<init>", desc := "()V" } : Jvm.MethodName)) ∈ lw_all := lw_g (lw_at lw_m1 89 rfl) rfl
theorem q210 : (Jvm.Cond.code ({ cls := "java/util/AbstractList", name := "<init>", desc := "()V" } : Jvm.MethodName) prog_39_method_1_code (1 : Nat) (Option.none : Option Jvm.ClassFile.FieldType)) ∈ lw_all := lw_g (lw_at lw_m1 90 rfl) rfl
theorem q211 : (Jvm.Cond.methodLink "java/util/AbstractList" (1 : Nat) ({ cls := "java/util/AbstractCollection", name := "<init>", desc := "()V" } : Jvm.MethodName)) ∈ lw_all := lw_g (lw_at lw_m1 91 rfl) rfl
theorem q221 : (Jvm.Cond.fieldLink "java/util/AbstractList" (7 : Nat) "java/util/AbstractList" "modCount" "I") ∈ lw_all := lw_g (lw_at lw_m1 101 rfl) rfl
theorem q229 : (Jvm.Cond.soleField "java/util/AbstractList" "modCount") ∈ lw_all := lw_g (lw_at lw_m1 109 rfl) rfl
/-! java/util/ArrayList -/
set_option maxRecDepth 100000
def RJ2 : String := "java/util/ArrayList"
def TJ2 : u_T := fun k => match k with
  | 0 => ("java/util/AbstractList", "modCount", "I", false)
  | 1 => ("java/util/ArrayList", "elementData", "[Ljava/lang/Object;", false)
  | _ => ("java/util/ArrayList", "size", "I", false)
def tyJ2 : Nat → FieldType := fun k => match k with
  | 0 => .int
  | 1 => .array (.object "java/lang/Object")
  | _ => .int
abbrev wsJ20 : List Cond := u_ws RJ2 TJ2 3
theorem nmJ2 : ∀ a, a < 3 → ∀ b, b < 3 → a ≠ b → (TJ2 a).2.1 ≠ (TJ2 b).2.1 := by decide +kernel
theorem tyJ2_ok : ∀ k, k < 3 → parseFieldDescriptor (TJ2 k).2.2.1 = some (tyJ2 k) := by decide +kernel
abbrev cJ2_init : ByteArray := prog_40_method_1_code
def yJ2_init : MethodName := ⟨RJ2, "<init>", "(I)V"⟩
def dkwJ2_init_2 : List UInt8 := [182, 0, 25, 27, 182, 0, 29, 182, 0, 32, 183, 0, 36, 191, 177]
abbrev dktJ2_init_2 : List UInt8 := dkwJ2_init_2 ++ []
def dkwJ2_init_1 : List UInt8 := [178, 0, 15, 181, 0, 9, 167, 0, 30, 187, 0, 18, 89, 187, 0, 20, 89, 183, 0, 22, 18, 23]
abbrev dktJ2_init_1 : List UInt8 := dkwJ2_init_1 ++ dktJ2_init_2
def dkwJ2_init_0 : List UInt8 := [42, 183, 0, 1, 27, 158, 0, 14, 42, 27, 189, 0, 7, 181, 0, 9, 167, 0, 44, 27, 154, 0, 13, 42]
abbrev dktJ2_init_0 : List UInt8 := dkwJ2_init_0 ++ dktJ2_init_1
theorem dksJ2_init_0 : cJ2_init.data.toList.drop 0 = dktJ2_init_0 := by decide +kernel
theorem dksJ2_init_1 : cJ2_init.data.toList.drop 24 = dktJ2_init_1 := dk_seg dksJ2_init_0 24 rfl rfl
theorem dksJ2_init_2 : cJ2_init.data.toList.drop 46 = dktJ2_init_2 := dk_seg dksJ2_init_1 22 rfl rfl
theorem dJ2_init_0 : decode cJ2_init 0 = .ok (.aload_n 0, 1) := dk_42 (dk_at dksJ2_init_0 0 rfl rfl)
theorem dJ2_init_1 : decode cJ2_init 1 = .ok (.invokespecial 1, 3) := dk_183 0 1 (dk_at dksJ2_init_0 1 rfl rfl)
theorem dJ2_init_4 : decode cJ2_init 4 = .ok (.iload_n 1, 1) := dk_27 (dk_at dksJ2_init_0 4 rfl rfl)
theorem dJ2_init_5 : decode cJ2_init 5 = .ok (.ifCond .le 14, 3) := dk_158 0 14 (dk_at dksJ2_init_0 5 rfl rfl)
theorem dJ2_init_8 : decode cJ2_init 8 = .ok (.aload_n 0, 1) := dk_42 (dk_at dksJ2_init_0 8 rfl rfl)
theorem dJ2_init_9 : decode cJ2_init 9 = .ok (.iload_n 1, 1) := dk_27 (dk_at dksJ2_init_0 9 rfl rfl)
theorem dJ2_init_10 : decode cJ2_init 10 = .ok (.anewarray 7, 3) := dk_189 0 7 (dk_at dksJ2_init_0 10 rfl rfl)
theorem dJ2_init_13 : decode cJ2_init 13 = .ok (.putfield 9, 3) := dk_181 0 9 (dk_at dksJ2_init_0 13 rfl rfl)
theorem dJ2_init_16 : decode cJ2_init 16 = .ok (.goto 44, 3) := dk_167 0 44 (dk_at dksJ2_init_0 16 rfl rfl)
theorem dJ2_init_19 : decode cJ2_init 19 = .ok (.iload_n 1, 1) := dk_27 (dk_at dksJ2_init_0 19 rfl rfl)
theorem dJ2_init_20 : decode cJ2_init 20 = .ok (.ifCond .ne 13, 3) := dk_154 0 13 (dk_at dksJ2_init_0 20 rfl rfl)
theorem dJ2_init_23 : decode cJ2_init 23 = .ok (.aload_n 0, 1) := dk_42 (dk_at dksJ2_init_0 23 rfl rfl)
theorem dJ2_init_24 : decode cJ2_init 24 = .ok (.getstatic 15, 3) := dk_178 0 15 (dk_at dksJ2_init_1 0 rfl rfl)
theorem dJ2_init_27 : decode cJ2_init 27 = .ok (.putfield 9, 3) := dk_181 0 9 (dk_at dksJ2_init_1 3 rfl rfl)
theorem dJ2_init_30 : decode cJ2_init 30 = .ok (.goto 30, 3) := dk_167 0 30 (dk_at dksJ2_init_1 6 rfl rfl)
theorem dJ2_init_33 : decode cJ2_init 33 = .ok (.new 18, 3) := dk_187 0 18 (dk_at dksJ2_init_1 9 rfl rfl)
theorem dJ2_init_36 : decode cJ2_init 36 = .ok (.dup, 1) := dk_89 (dk_at dksJ2_init_1 12 rfl rfl)
theorem dJ2_init_37 : decode cJ2_init 37 = .ok (.new 20, 3) := dk_187 0 20 (dk_at dksJ2_init_1 13 rfl rfl)
theorem dJ2_init_40 : decode cJ2_init 40 = .ok (.dup, 1) := dk_89 (dk_at dksJ2_init_1 16 rfl rfl)
theorem dJ2_init_41 : decode cJ2_init 41 = .ok (.invokespecial 22, 3) := dk_183 0 22 (dk_at dksJ2_init_1 17 rfl rfl)
theorem dJ2_init_44 : decode cJ2_init 44 = .ok (.ldc 23, 2) := dk_18 23 (dk_at dksJ2_init_1 20 rfl rfl)
theorem dJ2_init_46 : decode cJ2_init 46 = .ok (.invokevirtual 25, 3) := dk_182 0 25 (dk_at dksJ2_init_2 0 rfl rfl)
theorem dJ2_init_49 : decode cJ2_init 49 = .ok (.iload_n 1, 1) := dk_27 (dk_at dksJ2_init_2 3 rfl rfl)
theorem dJ2_init_50 : decode cJ2_init 50 = .ok (.invokevirtual 29, 3) := dk_182 0 29 (dk_at dksJ2_init_2 4 rfl rfl)
theorem dJ2_init_53 : decode cJ2_init 53 = .ok (.invokevirtual 32, 3) := dk_182 0 32 (dk_at dksJ2_init_2 7 rfl rfl)
theorem dJ2_init_56 : decode cJ2_init 56 = .ok (.invokespecial 36, 3) := dk_183 0 36 (dk_at dksJ2_init_2 10 rfl rfl)
theorem dJ2_init_59 : decode cJ2_init 59 = .ok (.athrow, 1) := dk_191 (dk_at dksJ2_init_2 13 rfl rfl)
theorem dJ2_init_60 : decode cJ2_init 60 = .ok (.return_, 1) := dk_177 (dk_at dksJ2_init_2 14 rfl rfl)
abbrev cJ2_clear : ByteArray := prog_40_method_40_code
def yJ2_clear : MethodName := ⟨RJ2, "clear", "()V"⟩
def dkwJ2_clear_1 : List UInt8 := [181, 0, 48, 62, 29, 28, 162, 0, 13, 43, 29, 1, 83, 132, 3, 1, 167, 255, 244, 177]
abbrev dktJ2_clear_1 : List UInt8 := dkwJ2_clear_1 ++ []
def dkwJ2_clear_0 : List UInt8 := [42, 89, 180, 0, 63, 4, 96, 181, 0, 63, 42, 180, 0, 9, 76, 42, 180, 0, 48, 61, 42, 3, 90]
abbrev dktJ2_clear_0 : List UInt8 := dkwJ2_clear_0 ++ dktJ2_clear_1
theorem dksJ2_clear_0 : cJ2_clear.data.toList.drop 0 = dktJ2_clear_0 := by decide +kernel
theorem dksJ2_clear_1 : cJ2_clear.data.toList.drop 23 = dktJ2_clear_1 := dk_seg dksJ2_clear_0 23 rfl rfl
theorem dJ2_clear_0 : decode cJ2_clear 0 = .ok (.aload_n 0, 1) := dk_42 (dk_at dksJ2_clear_0 0 rfl rfl)
theorem dJ2_clear_1 : decode cJ2_clear 1 = .ok (.dup, 1) := dk_89 (dk_at dksJ2_clear_0 1 rfl rfl)
theorem dJ2_clear_2 : decode cJ2_clear 2 = .ok (.getfield 63, 3) := dk_180 0 63 (dk_at dksJ2_clear_0 2 rfl rfl)
theorem dJ2_clear_5 : decode cJ2_clear 5 = .ok (.iconst 1, 1) := dk_4 (dk_at dksJ2_clear_0 5 rfl rfl)
theorem dJ2_clear_6 : decode cJ2_clear 6 = .ok (.iadd, 1) := dk_96 (dk_at dksJ2_clear_0 6 rfl rfl)
theorem dJ2_clear_7 : decode cJ2_clear 7 = .ok (.putfield 63, 3) := dk_181 0 63 (dk_at dksJ2_clear_0 7 rfl rfl)
theorem dJ2_clear_10 : decode cJ2_clear 10 = .ok (.aload_n 0, 1) := dk_42 (dk_at dksJ2_clear_0 10 rfl rfl)
theorem dJ2_clear_11 : decode cJ2_clear 11 = .ok (.getfield 9, 3) := dk_180 0 9 (dk_at dksJ2_clear_0 11 rfl rfl)
theorem dJ2_clear_14 : decode cJ2_clear 14 = .ok (.astore_n 1, 1) := dk_76 (dk_at dksJ2_clear_0 14 rfl rfl)
theorem dJ2_clear_15 : decode cJ2_clear 15 = .ok (.aload_n 0, 1) := dk_42 (dk_at dksJ2_clear_0 15 rfl rfl)
theorem dJ2_clear_16 : decode cJ2_clear 16 = .ok (.getfield 48, 3) := dk_180 0 48 (dk_at dksJ2_clear_0 16 rfl rfl)
theorem dJ2_clear_19 : decode cJ2_clear 19 = .ok (.istore_n 2, 1) := dk_61 (dk_at dksJ2_clear_0 19 rfl rfl)
theorem dJ2_clear_20 : decode cJ2_clear 20 = .ok (.aload_n 0, 1) := dk_42 (dk_at dksJ2_clear_0 20 rfl rfl)
theorem dJ2_clear_21 : decode cJ2_clear 21 = .ok (.iconst 0, 1) := dk_3 (dk_at dksJ2_clear_0 21 rfl rfl)
theorem dJ2_clear_22 : decode cJ2_clear 22 = .ok (.dup_x1, 1) := dk_90 (dk_at dksJ2_clear_0 22 rfl rfl)
theorem dJ2_clear_23 : decode cJ2_clear 23 = .ok (.putfield 48, 3) := dk_181 0 48 (dk_at dksJ2_clear_1 0 rfl rfl)
theorem dJ2_clear_26 : decode cJ2_clear 26 = .ok (.istore_n 3, 1) := dk_62 (dk_at dksJ2_clear_1 3 rfl rfl)
theorem dJ2_clear_27 : decode cJ2_clear 27 = .ok (.iload_n 3, 1) := dk_29 (dk_at dksJ2_clear_1 4 rfl rfl)
theorem dJ2_clear_28 : decode cJ2_clear 28 = .ok (.iload_n 2, 1) := dk_28 (dk_at dksJ2_clear_1 5 rfl rfl)
theorem dJ2_clear_29 : decode cJ2_clear 29 = .ok (.if_icmp .ge 13, 3) := dk_162 0 13 (dk_at dksJ2_clear_1 6 rfl rfl)
theorem dJ2_clear_32 : decode cJ2_clear 32 = .ok (.aload_n 1, 1) := dk_43 (dk_at dksJ2_clear_1 9 rfl rfl)
theorem dJ2_clear_33 : decode cJ2_clear 33 = .ok (.iload_n 3, 1) := dk_29 (dk_at dksJ2_clear_1 10 rfl rfl)
theorem dJ2_clear_34 : decode cJ2_clear 34 = .ok (.aconst_null, 1) := dk_1 (dk_at dksJ2_clear_1 11 rfl rfl)
theorem dJ2_clear_35 : decode cJ2_clear 35 = .ok (.aastore, 1) := dk_83 (dk_at dksJ2_clear_1 12 rfl rfl)
theorem dJ2_clear_36 : decode cJ2_clear 36 = .ok (.iinc 3 1, 3) := dk_132 3 1 (dk_at dksJ2_clear_1 13 rfl rfl)
theorem dJ2_clear_39 : decode cJ2_clear 39 = .ok (.goto (-12), 3) := dk_167 255 244 (dk_at dksJ2_clear_1 16 rfl rfl)
theorem dJ2_clear_42 : decode cJ2_clear 42 = .ok (.return_, 1) := dk_177 (dk_at dksJ2_clear_1 19 rfl rfl)
abbrev cJ2_addAll : ByteArray := prog_40_method_41_code
def yJ2_addAll : MethodName := ⟨RJ2, "addAll", "(Ljava/util/Collection;)Z"⟩
def dkwJ2_addAll_3 : List UInt8 := [181, 0, 48, 4, 172]
abbrev dktJ2_addAll_3 : List UInt8 := dkwJ2_addAll_3 ++ []
def dkwJ2_addAll_2 : List UInt8 := [21, 5, 29, 96, 182, 0, 69, 58, 4, 44, 3, 25, 4, 21, 5, 29, 184, 0, 112, 42, 21, 5, 29, 96]
abbrev dktJ2_addAll_2 : List UInt8 := dkwJ2_addAll_2 ++ dktJ2_addAll_3
def dkwJ2_addAll_1 : List UInt8 := [3, 172, 29, 42, 180, 0, 9, 89, 58, 4, 190, 42, 180, 0, 48, 89, 54, 5, 100, 164, 0, 13, 42]
abbrev dktJ2_addAll_1 : List UInt8 := dkwJ2_addAll_1 ++ dktJ2_addAll_2
def dkwJ2_addAll_0 : List UInt8 := [43, 185, 0, 42, 1, 0, 77, 42, 89, 180, 0, 63, 4, 96, 181, 0, 63, 44, 190, 62, 29, 154, 0, 5]
abbrev dktJ2_addAll_0 : List UInt8 := dkwJ2_addAll_0 ++ dktJ2_addAll_1
theorem dksJ2_addAll_0 : cJ2_addAll.data.toList.drop 0 = dktJ2_addAll_0 := by decide +kernel
theorem dksJ2_addAll_1 : cJ2_addAll.data.toList.drop 24 = dktJ2_addAll_1 := dk_seg dksJ2_addAll_0 24 rfl rfl
theorem dksJ2_addAll_2 : cJ2_addAll.data.toList.drop 47 = dktJ2_addAll_2 := dk_seg dksJ2_addAll_1 23 rfl rfl
theorem dksJ2_addAll_3 : cJ2_addAll.data.toList.drop 71 = dktJ2_addAll_3 := dk_seg dksJ2_addAll_2 24 rfl rfl
theorem dJ2_addAll_0 : decode cJ2_addAll 0 = .ok (.aload_n 1, 1) := dk_43 (dk_at dksJ2_addAll_0 0 rfl rfl)
theorem dJ2_addAll_1 : decode cJ2_addAll 1 = .ok (.invokeinterface 42 1, 5) := by decide +kernel
theorem dJ2_addAll_6 : decode cJ2_addAll 6 = .ok (.astore_n 2, 1) := dk_77 (dk_at dksJ2_addAll_0 6 rfl rfl)
theorem dJ2_addAll_7 : decode cJ2_addAll 7 = .ok (.aload_n 0, 1) := dk_42 (dk_at dksJ2_addAll_0 7 rfl rfl)
theorem dJ2_addAll_8 : decode cJ2_addAll 8 = .ok (.dup, 1) := dk_89 (dk_at dksJ2_addAll_0 8 rfl rfl)
theorem dJ2_addAll_9 : decode cJ2_addAll 9 = .ok (.getfield 63, 3) := dk_180 0 63 (dk_at dksJ2_addAll_0 9 rfl rfl)
theorem dJ2_addAll_12 : decode cJ2_addAll 12 = .ok (.iconst 1, 1) := dk_4 (dk_at dksJ2_addAll_0 12 rfl rfl)
theorem dJ2_addAll_13 : decode cJ2_addAll 13 = .ok (.iadd, 1) := dk_96 (dk_at dksJ2_addAll_0 13 rfl rfl)
theorem dJ2_addAll_14 : decode cJ2_addAll 14 = .ok (.putfield 63, 3) := dk_181 0 63 (dk_at dksJ2_addAll_0 14 rfl rfl)
theorem dJ2_addAll_17 : decode cJ2_addAll 17 = .ok (.aload_n 2, 1) := dk_44 (dk_at dksJ2_addAll_0 17 rfl rfl)
theorem dJ2_addAll_18 : decode cJ2_addAll 18 = .ok (.arraylength, 1) := dk_190 (dk_at dksJ2_addAll_0 18 rfl rfl)
theorem dJ2_addAll_19 : decode cJ2_addAll 19 = .ok (.istore_n 3, 1) := dk_62 (dk_at dksJ2_addAll_0 19 rfl rfl)
theorem dJ2_addAll_20 : decode cJ2_addAll 20 = .ok (.iload_n 3, 1) := dk_29 (dk_at dksJ2_addAll_0 20 rfl rfl)
theorem dJ2_addAll_21 : decode cJ2_addAll 21 = .ok (.ifCond .ne 5, 3) := dk_154 0 5 (dk_at dksJ2_addAll_0 21 rfl rfl)
theorem dJ2_addAll_24 : decode cJ2_addAll 24 = .ok (.iconst 0, 1) := dk_3 (dk_at dksJ2_addAll_1 0 rfl rfl)
theorem dJ2_addAll_25 : decode cJ2_addAll 25 = .ok (.ireturn, 1) := dk_172 (dk_at dksJ2_addAll_1 1 rfl rfl)
theorem dJ2_addAll_26 : decode cJ2_addAll 26 = .ok (.iload_n 3, 1) := dk_29 (dk_at dksJ2_addAll_1 2 rfl rfl)
theorem dJ2_addAll_27 : decode cJ2_addAll 27 = .ok (.aload_n 0, 1) := dk_42 (dk_at dksJ2_addAll_1 3 rfl rfl)
theorem dJ2_addAll_28 : decode cJ2_addAll 28 = .ok (.getfield 9, 3) := dk_180 0 9 (dk_at dksJ2_addAll_1 4 rfl rfl)
theorem dJ2_addAll_31 : decode cJ2_addAll 31 = .ok (.dup, 1) := dk_89 (dk_at dksJ2_addAll_1 7 rfl rfl)
theorem dJ2_addAll_32 : decode cJ2_addAll 32 = .ok (.astore 4, 2) := dk_58 4 (dk_at dksJ2_addAll_1 8 rfl rfl)
theorem dJ2_addAll_34 : decode cJ2_addAll 34 = .ok (.arraylength, 1) := dk_190 (dk_at dksJ2_addAll_1 10 rfl rfl)
theorem dJ2_addAll_35 : decode cJ2_addAll 35 = .ok (.aload_n 0, 1) := dk_42 (dk_at dksJ2_addAll_1 11 rfl rfl)
theorem dJ2_addAll_36 : decode cJ2_addAll 36 = .ok (.getfield 48, 3) := dk_180 0 48 (dk_at dksJ2_addAll_1 12 rfl rfl)
theorem dJ2_addAll_39 : decode cJ2_addAll 39 = .ok (.dup, 1) := dk_89 (dk_at dksJ2_addAll_1 15 rfl rfl)
theorem dJ2_addAll_40 : decode cJ2_addAll 40 = .ok (.istore 5, 2) := dk_54 5 (dk_at dksJ2_addAll_1 16 rfl rfl)
theorem dJ2_addAll_42 : decode cJ2_addAll 42 = .ok (.isub, 1) := dk_100 (dk_at dksJ2_addAll_1 18 rfl rfl)
theorem dJ2_addAll_43 : decode cJ2_addAll 43 = .ok (.if_icmp .le 13, 3) := dk_164 0 13 (dk_at dksJ2_addAll_1 19 rfl rfl)
theorem dJ2_addAll_46 : decode cJ2_addAll 46 = .ok (.aload_n 0, 1) := dk_42 (dk_at dksJ2_addAll_1 22 rfl rfl)
theorem dJ2_addAll_47 : decode cJ2_addAll 47 = .ok (.iload 5, 2) := dk_21 5 (dk_at dksJ2_addAll_2 0 rfl rfl)
theorem dJ2_addAll_49 : decode cJ2_addAll 49 = .ok (.iload_n 3, 1) := dk_29 (dk_at dksJ2_addAll_2 2 rfl rfl)
theorem dJ2_addAll_50 : decode cJ2_addAll 50 = .ok (.iadd, 1) := dk_96 (dk_at dksJ2_addAll_2 3 rfl rfl)
theorem dJ2_addAll_51 : decode cJ2_addAll 51 = .ok (.invokevirtual 69, 3) := dk_182 0 69 (dk_at dksJ2_addAll_2 4 rfl rfl)
theorem dJ2_addAll_54 : decode cJ2_addAll 54 = .ok (.astore 4, 2) := dk_58 4 (dk_at dksJ2_addAll_2 7 rfl rfl)
theorem dJ2_addAll_56 : decode cJ2_addAll 56 = .ok (.aload_n 2, 1) := dk_44 (dk_at dksJ2_addAll_2 9 rfl rfl)
theorem dJ2_addAll_57 : decode cJ2_addAll 57 = .ok (.iconst 0, 1) := dk_3 (dk_at dksJ2_addAll_2 10 rfl rfl)
theorem dJ2_addAll_58 : decode cJ2_addAll 58 = .ok (.aload 4, 2) := dk_25 4 (dk_at dksJ2_addAll_2 11 rfl rfl)
theorem dJ2_addAll_60 : decode cJ2_addAll 60 = .ok (.iload 5, 2) := dk_21 5 (dk_at dksJ2_addAll_2 13 rfl rfl)
theorem dJ2_addAll_62 : decode cJ2_addAll 62 = .ok (.iload_n 3, 1) := dk_29 (dk_at dksJ2_addAll_2 15 rfl rfl)
theorem dJ2_addAll_63 : decode cJ2_addAll 63 = .ok (.invokestatic 112, 3) := dk_184 0 112 (dk_at dksJ2_addAll_2 16 rfl rfl)
theorem dJ2_addAll_66 : decode cJ2_addAll 66 = .ok (.aload_n 0, 1) := dk_42 (dk_at dksJ2_addAll_2 19 rfl rfl)
theorem dJ2_addAll_67 : decode cJ2_addAll 67 = .ok (.iload 5, 2) := dk_21 5 (dk_at dksJ2_addAll_2 20 rfl rfl)
theorem dJ2_addAll_69 : decode cJ2_addAll 69 = .ok (.iload_n 3, 1) := dk_29 (dk_at dksJ2_addAll_2 22 rfl rfl)
theorem dJ2_addAll_70 : decode cJ2_addAll 70 = .ok (.iadd, 1) := dk_96 (dk_at dksJ2_addAll_2 23 rfl rfl)
theorem dJ2_addAll_71 : decode cJ2_addAll 71 = .ok (.putfield 48, 3) := dk_181 0 48 (dk_at dksJ2_addAll_3 0 rfl rfl)
theorem dJ2_addAll_74 : decode cJ2_addAll 74 = .ok (.iconst 1, 1) := dk_4 (dk_at dksJ2_addAll_3 3 rfl rfl)
theorem dJ2_addAll_75 : decode cJ2_addAll 75 = .ok (.ireturn, 1) := dk_172 (dk_at dksJ2_addAll_3 4 rfl rfl)
abbrev cJ2_toArray : ByteArray := prog_40_method_16_code
def yJ2_toArray : MethodName := ⟨RJ2, "toArray", "()[Ljava/lang/Object;"⟩
def dkwJ2_toArray_0 : List UInt8 := [42, 180, 0, 9, 42, 180, 0, 48, 184, 0, 66, 176]
abbrev dktJ2_toArray_0 : List UInt8 := dkwJ2_toArray_0 ++ []
theorem dksJ2_toArray_0 : cJ2_toArray.data.toList.drop 0 = dktJ2_toArray_0 := by decide +kernel
theorem dJ2_toArray_0 : decode cJ2_toArray 0 = .ok (.aload_n 0, 1) := dk_42 (dk_at dksJ2_toArray_0 0 rfl rfl)
theorem dJ2_toArray_1 : decode cJ2_toArray 1 = .ok (.getfield 9, 3) := dk_180 0 9 (dk_at dksJ2_toArray_0 1 rfl rfl)
theorem dJ2_toArray_4 : decode cJ2_toArray 4 = .ok (.aload_n 0, 1) := dk_42 (dk_at dksJ2_toArray_0 4 rfl rfl)
theorem dJ2_toArray_5 : decode cJ2_toArray 5 = .ok (.getfield 48, 3) := dk_180 0 48 (dk_at dksJ2_toArray_0 5 rfl rfl)
theorem dJ2_toArray_8 : decode cJ2_toArray 8 = .ok (.invokestatic 66, 3) := dk_184 0 66 (dk_at dksJ2_toArray_0 8 rfl rfl)
theorem dJ2_toArray_11 : decode cJ2_toArray 11 = .ok (.areturn, 1) := dk_176 (dk_at dksJ2_toArray_0 11 rfl rfl)
abbrev cJ2_grow : ByteArray := prog_40_method_6_code
def yJ2_grow : MethodName := ⟨RJ2, "grow", "(I)[Ljava/lang/Object;"⟩
def dkwJ2_grow_2 : List UInt8 := [27, 184, 0, 79, 189, 0, 7, 90, 181, 0, 9, 176]
abbrev dktJ2_grow_2 : List UInt8 := dkwJ2_grow_2 ++ []
def dkwJ2_grow_1 : List UInt8 := [28, 4, 122, 184, 0, 73, 62, 42, 42, 180, 0, 9, 29, 184, 0, 66, 90, 181, 0, 9, 176, 42, 16, 10]
abbrev dktJ2_grow_1 : List UInt8 := dkwJ2_grow_1 ++ dktJ2_grow_2
def dkwJ2_grow_0 : List UInt8 := [42, 180, 0, 9, 190, 61, 28, 157, 0, 13, 42, 180, 0, 9, 178, 0, 39, 165, 0, 28, 28, 27, 28, 100]
abbrev dktJ2_grow_0 : List UInt8 := dkwJ2_grow_0 ++ dktJ2_grow_1
theorem dksJ2_grow_0 : cJ2_grow.data.toList.drop 0 = dktJ2_grow_0 := by decide +kernel
theorem dksJ2_grow_1 : cJ2_grow.data.toList.drop 24 = dktJ2_grow_1 := dk_seg dksJ2_grow_0 24 rfl rfl
theorem dksJ2_grow_2 : cJ2_grow.data.toList.drop 48 = dktJ2_grow_2 := dk_seg dksJ2_grow_1 24 rfl rfl
theorem dJ2_grow_0 : decode cJ2_grow 0 = .ok (.aload_n 0, 1) := dk_42 (dk_at dksJ2_grow_0 0 rfl rfl)
theorem dJ2_grow_1 : decode cJ2_grow 1 = .ok (.getfield 9, 3) := dk_180 0 9 (dk_at dksJ2_grow_0 1 rfl rfl)
theorem dJ2_grow_4 : decode cJ2_grow 4 = .ok (.arraylength, 1) := dk_190 (dk_at dksJ2_grow_0 4 rfl rfl)
theorem dJ2_grow_5 : decode cJ2_grow 5 = .ok (.istore_n 2, 1) := dk_61 (dk_at dksJ2_grow_0 5 rfl rfl)
theorem dJ2_grow_6 : decode cJ2_grow 6 = .ok (.iload_n 2, 1) := dk_28 (dk_at dksJ2_grow_0 6 rfl rfl)
theorem dJ2_grow_7 : decode cJ2_grow 7 = .ok (.ifCond .gt 13, 3) := dk_157 0 13 (dk_at dksJ2_grow_0 7 rfl rfl)
theorem dJ2_grow_10 : decode cJ2_grow 10 = .ok (.aload_n 0, 1) := dk_42 (dk_at dksJ2_grow_0 10 rfl rfl)
theorem dJ2_grow_11 : decode cJ2_grow 11 = .ok (.getfield 9, 3) := dk_180 0 9 (dk_at dksJ2_grow_0 11 rfl rfl)
theorem dJ2_grow_14 : decode cJ2_grow 14 = .ok (.getstatic 39, 3) := dk_178 0 39 (dk_at dksJ2_grow_0 14 rfl rfl)
theorem dJ2_grow_17 : decode cJ2_grow 17 = .ok (.if_acmp .eq 28, 3) := dk_165 0 28 (dk_at dksJ2_grow_0 17 rfl rfl)
theorem dJ2_grow_20 : decode cJ2_grow 20 = .ok (.iload_n 2, 1) := dk_28 (dk_at dksJ2_grow_0 20 rfl rfl)
theorem dJ2_grow_21 : decode cJ2_grow 21 = .ok (.iload_n 1, 1) := dk_27 (dk_at dksJ2_grow_0 21 rfl rfl)
theorem dJ2_grow_22 : decode cJ2_grow 22 = .ok (.iload_n 2, 1) := dk_28 (dk_at dksJ2_grow_0 22 rfl rfl)
theorem dJ2_grow_23 : decode cJ2_grow 23 = .ok (.isub, 1) := dk_100 (dk_at dksJ2_grow_0 23 rfl rfl)
theorem dJ2_grow_24 : decode cJ2_grow 24 = .ok (.iload_n 2, 1) := dk_28 (dk_at dksJ2_grow_1 0 rfl rfl)
theorem dJ2_grow_25 : decode cJ2_grow 25 = .ok (.iconst 1, 1) := dk_4 (dk_at dksJ2_grow_1 1 rfl rfl)
theorem dJ2_grow_26 : decode cJ2_grow 26 = .ok (.ishr, 1) := dk_122 (dk_at dksJ2_grow_1 2 rfl rfl)
theorem dJ2_grow_27 : decode cJ2_grow 27 = .ok (.invokestatic 73, 3) := dk_184 0 73 (dk_at dksJ2_grow_1 3 rfl rfl)
theorem dJ2_grow_30 : decode cJ2_grow 30 = .ok (.istore_n 3, 1) := dk_62 (dk_at dksJ2_grow_1 6 rfl rfl)
theorem dJ2_grow_31 : decode cJ2_grow 31 = .ok (.aload_n 0, 1) := dk_42 (dk_at dksJ2_grow_1 7 rfl rfl)
theorem dJ2_grow_32 : decode cJ2_grow 32 = .ok (.aload_n 0, 1) := dk_42 (dk_at dksJ2_grow_1 8 rfl rfl)
theorem dJ2_grow_33 : decode cJ2_grow 33 = .ok (.getfield 9, 3) := dk_180 0 9 (dk_at dksJ2_grow_1 9 rfl rfl)
theorem dJ2_grow_36 : decode cJ2_grow 36 = .ok (.iload_n 3, 1) := dk_29 (dk_at dksJ2_grow_1 12 rfl rfl)
theorem dJ2_grow_37 : decode cJ2_grow 37 = .ok (.invokestatic 66, 3) := dk_184 0 66 (dk_at dksJ2_grow_1 13 rfl rfl)
theorem dJ2_grow_40 : decode cJ2_grow 40 = .ok (.dup_x1, 1) := dk_90 (dk_at dksJ2_grow_1 16 rfl rfl)
theorem dJ2_grow_41 : decode cJ2_grow 41 = .ok (.putfield 9, 3) := dk_181 0 9 (dk_at dksJ2_grow_1 17 rfl rfl)
theorem dJ2_grow_44 : decode cJ2_grow 44 = .ok (.areturn, 1) := dk_176 (dk_at dksJ2_grow_1 20 rfl rfl)
theorem dJ2_grow_45 : decode cJ2_grow 45 = .ok (.aload_n 0, 1) := dk_42 (dk_at dksJ2_grow_1 21 rfl rfl)
theorem dJ2_grow_46 : decode cJ2_grow 46 = .ok (.bipush 10, 2) := dk_16 10 (dk_at dksJ2_grow_1 22 rfl rfl)
theorem dJ2_grow_48 : decode cJ2_grow 48 = .ok (.iload_n 1, 1) := dk_27 (dk_at dksJ2_grow_2 0 rfl rfl)
theorem dJ2_grow_49 : decode cJ2_grow 49 = .ok (.invokestatic 79, 3) := dk_184 0 79 (dk_at dksJ2_grow_2 1 rfl rfl)
theorem dJ2_grow_52 : decode cJ2_grow 52 = .ok (.anewarray 7, 3) := dk_189 0 7 (dk_at dksJ2_grow_2 4 rfl rfl)
theorem dJ2_grow_55 : decode cJ2_grow 55 = .ok (.dup_x1, 1) := dk_90 (dk_at dksJ2_grow_2 7 rfl rfl)
theorem dJ2_grow_56 : decode cJ2_grow 56 = .ok (.putfield 9, 3) := dk_181 0 9 (dk_at dksJ2_grow_2 8 rfl rfl)
theorem dJ2_grow_59 : decode cJ2_grow 59 = .ok (.areturn, 1) := dk_176 (dk_at dksJ2_grow_2 11 rfl rfl)
abbrev cJ2_get : ByteArray := prog_40_method_20_code
def yJ2_get : MethodName := ⟨RJ2, "get", "(I)Ljava/lang/Object;"⟩
def dkwJ2_get_0 : List UInt8 := [27, 42, 180, 0, 48, 184, 0, 118, 87, 42, 27, 182, 0, 123, 176]
abbrev dktJ2_get_0 : List UInt8 := dkwJ2_get_0 ++ []
theorem dksJ2_get_0 : cJ2_get.data.toList.drop 0 = dktJ2_get_0 := by decide +kernel
theorem dJ2_get_0 : decode cJ2_get 0 = .ok (.iload_n 1, 1) := dk_27 (dk_at dksJ2_get_0 0 rfl rfl)
theorem dJ2_get_1 : decode cJ2_get 1 = .ok (.aload_n 0, 1) := dk_42 (dk_at dksJ2_get_0 1 rfl rfl)
theorem dJ2_get_2 : decode cJ2_get 2 = .ok (.getfield 48, 3) := dk_180 0 48 (dk_at dksJ2_get_0 2 rfl rfl)
theorem dJ2_get_5 : decode cJ2_get 5 = .ok (.invokestatic 118, 3) := dk_184 0 118 (dk_at dksJ2_get_0 5 rfl rfl)
theorem dJ2_get_8 : decode cJ2_get 8 = .ok (.pop, 1) := dk_87 (dk_at dksJ2_get_0 8 rfl rfl)
theorem dJ2_get_9 : decode cJ2_get 9 = .ok (.aload_n 0, 1) := dk_42 (dk_at dksJ2_get_0 9 rfl rfl)
theorem dJ2_get_10 : decode cJ2_get 10 = .ok (.iload_n 1, 1) := dk_27 (dk_at dksJ2_get_0 10 rfl rfl)
theorem dJ2_get_11 : decode cJ2_get 11 = .ok (.invokevirtual 123, 3) := dk_182 0 123 (dk_at dksJ2_get_0 11 rfl rfl)
theorem dJ2_get_14 : decode cJ2_get 14 = .ok (.areturn, 1) := dk_176 (dk_at dksJ2_get_0 14 rfl rfl)
abbrev cJ2_elementData : ByteArray := prog_40_method_18_code
def yJ2_elementData : MethodName := ⟨RJ2, "elementData", "(I)Ljava/lang/Object;"⟩
def dkwJ2_elementData_0 : List UInt8 := [42, 180, 0, 9, 27, 50, 176]
abbrev dktJ2_elementData_0 : List UInt8 := dkwJ2_elementData_0 ++ []
theorem dksJ2_elementData_0 : cJ2_elementData.data.toList.drop 0 = dktJ2_elementData_0 := by decide +kernel
theorem dJ2_elementData_0 : decode cJ2_elementData 0 = .ok (.aload_n 0, 1) := dk_42 (dk_at dksJ2_elementData_0 0 rfl rfl)
theorem dJ2_elementData_1 : decode cJ2_elementData 1 = .ok (.getfield 9, 3) := dk_180 0 9 (dk_at dksJ2_elementData_0 1 rfl rfl)
theorem dJ2_elementData_4 : decode cJ2_elementData 4 = .ok (.iload_n 1, 1) := dk_27 (dk_at dksJ2_elementData_0 4 rfl rfl)
theorem dJ2_elementData_5 : decode cJ2_elementData 5 = .ok (.aaload, 1) := dk_50 (dk_at dksJ2_elementData_0 5 rfl rfl)
theorem dJ2_elementData_6 : decode cJ2_elementData 6 = .ok (.areturn, 1) := dk_176 (dk_at dksJ2_elementData_0 6 rfl rfl)
abbrev cJ2_size : ByteArray := prog_40_method_8_code
def yJ2_size : MethodName := ⟨RJ2, "size", "()I"⟩
theorem dJ2_size_0 : decode cJ2_size 0 = .ok (.aload_n 0, 1) := by decide +kernel
theorem dJ2_size_1 : decode cJ2_size 1 = .ok (.getfield 48, 3) := by decide +kernel
theorem dJ2_size_4 : decode cJ2_size 4 = .ok (.ireturn, 1) := by decide +kernel
abbrev cJ2_add : ByteArray := prog_40_method_25_code
def yJ2_add : MethodName := ⟨RJ2, "add", "(Ljava/lang/Object;)Z"⟩
def dkwJ2_add_1 : List UInt8 := [172]
abbrev dktJ2_add_1 : List UInt8 := dkwJ2_add_1 ++ []
def dkwJ2_add_0 : List UInt8 := [42, 89, 180, 0, 63, 4, 96, 181, 0, 63, 42, 43, 42, 180, 0, 9, 42, 180, 0, 48, 182, 0, 131, 4]
abbrev dktJ2_add_0 : List UInt8 := dkwJ2_add_0 ++ dktJ2_add_1
theorem dksJ2_add_0 : cJ2_add.data.toList.drop 0 = dktJ2_add_0 := by decide +kernel
theorem dksJ2_add_1 : cJ2_add.data.toList.drop 24 = dktJ2_add_1 := dk_seg dksJ2_add_0 24 rfl rfl
theorem dJ2_add_0 : decode cJ2_add 0 = .ok (.aload_n 0, 1) := dk_42 (dk_at dksJ2_add_0 0 rfl rfl)
theorem dJ2_add_1 : decode cJ2_add 1 = .ok (.dup, 1) := dk_89 (dk_at dksJ2_add_0 1 rfl rfl)
theorem dJ2_add_2 : decode cJ2_add 2 = .ok (.getfield 63, 3) := dk_180 0 63 (dk_at dksJ2_add_0 2 rfl rfl)
theorem dJ2_add_5 : decode cJ2_add 5 = .ok (.iconst 1, 1) := dk_4 (dk_at dksJ2_add_0 5 rfl rfl)
theorem dJ2_add_6 : decode cJ2_add 6 = .ok (.iadd, 1) := dk_96 (dk_at dksJ2_add_0 6 rfl rfl)
theorem dJ2_add_7 : decode cJ2_add 7 = .ok (.putfield 63, 3) := dk_181 0 63 (dk_at dksJ2_add_0 7 rfl rfl)
theorem dJ2_add_10 : decode cJ2_add 10 = .ok (.aload_n 0, 1) := dk_42 (dk_at dksJ2_add_0 10 rfl rfl)
theorem dJ2_add_11 : decode cJ2_add 11 = .ok (.aload_n 1, 1) := dk_43 (dk_at dksJ2_add_0 11 rfl rfl)
theorem dJ2_add_12 : decode cJ2_add 12 = .ok (.aload_n 0, 1) := dk_42 (dk_at dksJ2_add_0 12 rfl rfl)
theorem dJ2_add_13 : decode cJ2_add 13 = .ok (.getfield 9, 3) := dk_180 0 9 (dk_at dksJ2_add_0 13 rfl rfl)
theorem dJ2_add_16 : decode cJ2_add 16 = .ok (.aload_n 0, 1) := dk_42 (dk_at dksJ2_add_0 16 rfl rfl)
theorem dJ2_add_17 : decode cJ2_add 17 = .ok (.getfield 48, 3) := dk_180 0 48 (dk_at dksJ2_add_0 17 rfl rfl)
theorem dJ2_add_20 : decode cJ2_add 20 = .ok (.invokevirtual 131, 3) := dk_182 0 131 (dk_at dksJ2_add_0 20 rfl rfl)
theorem dJ2_add_23 : decode cJ2_add 23 = .ok (.iconst 1, 1) := dk_4 (dk_at dksJ2_add_0 23 rfl rfl)
theorem dJ2_add_24 : decode cJ2_add 24 = .ok (.ireturn, 1) := dk_172 (dk_at dksJ2_add_1 0 rfl rfl)
abbrev cJ2_add_2 : ByteArray := prog_40_method_24_code
def yJ2_add_2 : MethodName := ⟨RJ2, "add", "(Ljava/lang/Object;[Ljava/lang/Object;I)V"⟩
def dkwJ2_add_2_0 : List UInt8 := [29, 44, 190, 160, 0, 8, 42, 182, 0, 129, 77, 44, 29, 43, 83, 42, 29, 4, 96, 181, 0, 48, 177]
abbrev dktJ2_add_2_0 : List UInt8 := dkwJ2_add_2_0 ++ []
theorem dksJ2_add_2_0 : cJ2_add_2.data.toList.drop 0 = dktJ2_add_2_0 := by decide +kernel
theorem dJ2_add_2_0 : decode cJ2_add_2 0 = .ok (.iload_n 3, 1) := dk_29 (dk_at dksJ2_add_2_0 0 rfl rfl)
theorem dJ2_add_2_1 : decode cJ2_add_2 1 = .ok (.aload_n 2, 1) := dk_44 (dk_at dksJ2_add_2_0 1 rfl rfl)
theorem dJ2_add_2_2 : decode cJ2_add_2 2 = .ok (.arraylength, 1) := dk_190 (dk_at dksJ2_add_2_0 2 rfl rfl)
theorem dJ2_add_2_3 : decode cJ2_add_2 3 = .ok (.if_icmp .ne 8, 3) := dk_160 0 8 (dk_at dksJ2_add_2_0 3 rfl rfl)
theorem dJ2_add_2_6 : decode cJ2_add_2 6 = .ok (.aload_n 0, 1) := dk_42 (dk_at dksJ2_add_2_0 6 rfl rfl)
theorem dJ2_add_2_7 : decode cJ2_add_2 7 = .ok (.invokevirtual 129, 3) := dk_182 0 129 (dk_at dksJ2_add_2_0 7 rfl rfl)
theorem dJ2_add_2_10 : decode cJ2_add_2 10 = .ok (.astore_n 2, 1) := dk_77 (dk_at dksJ2_add_2_0 10 rfl rfl)
theorem dJ2_add_2_11 : decode cJ2_add_2 11 = .ok (.aload_n 2, 1) := dk_44 (dk_at dksJ2_add_2_0 11 rfl rfl)
theorem dJ2_add_2_12 : decode cJ2_add_2 12 = .ok (.iload_n 3, 1) := dk_29 (dk_at dksJ2_add_2_0 12 rfl rfl)
theorem dJ2_add_2_13 : decode cJ2_add_2 13 = .ok (.aload_n 1, 1) := dk_43 (dk_at dksJ2_add_2_0 13 rfl rfl)
theorem dJ2_add_2_14 : decode cJ2_add_2 14 = .ok (.aastore, 1) := dk_83 (dk_at dksJ2_add_2_0 14 rfl rfl)
theorem dJ2_add_2_15 : decode cJ2_add_2 15 = .ok (.aload_n 0, 1) := dk_42 (dk_at dksJ2_add_2_0 15 rfl rfl)
theorem dJ2_add_2_16 : decode cJ2_add_2 16 = .ok (.iload_n 3, 1) := dk_29 (dk_at dksJ2_add_2_0 16 rfl rfl)
theorem dJ2_add_2_17 : decode cJ2_add_2 17 = .ok (.iconst 1, 1) := dk_4 (dk_at dksJ2_add_2_0 17 rfl rfl)
theorem dJ2_add_2_18 : decode cJ2_add_2 18 = .ok (.iadd, 1) := dk_96 (dk_at dksJ2_add_2_0 18 rfl rfl)
theorem dJ2_add_2_19 : decode cJ2_add_2 19 = .ok (.putfield 48, 3) := dk_181 0 48 (dk_at dksJ2_add_2_0 19 rfl rfl)
theorem dJ2_add_2_22 : decode cJ2_add_2 22 = .ok (.return_, 1) := dk_177 (dk_at dksJ2_add_2_0 22 rfl rfl)
abbrev cJ2_grow_2 : ByteArray := prog_40_method_7_code
def yJ2_grow_2 : MethodName := ⟨RJ2, "grow", "()[Ljava/lang/Object;"⟩
def dkwJ2_grow_2_0 : List UInt8 := [42, 42, 180, 0, 48, 4, 96, 182, 0, 69, 176]
abbrev dktJ2_grow_2_0 : List UInt8 := dkwJ2_grow_2_0 ++ []
theorem dksJ2_grow_2_0 : cJ2_grow_2.data.toList.drop 0 = dktJ2_grow_2_0 := by decide +kernel
theorem dJ2_grow_2_0 : decode cJ2_grow_2 0 = .ok (.aload_n 0, 1) := dk_42 (dk_at dksJ2_grow_2_0 0 rfl rfl)
theorem dJ2_grow_2_1 : decode cJ2_grow_2 1 = .ok (.aload_n 0, 1) := dk_42 (dk_at dksJ2_grow_2_0 1 rfl rfl)
theorem dJ2_grow_2_2 : decode cJ2_grow_2 2 = .ok (.getfield 48, 3) := dk_180 0 48 (dk_at dksJ2_grow_2_0 2 rfl rfl)
theorem dJ2_grow_2_5 : decode cJ2_grow_2 5 = .ok (.iconst 1, 1) := dk_4 (dk_at dksJ2_grow_2_0 5 rfl rfl)
theorem dJ2_grow_2_6 : decode cJ2_grow_2 6 = .ok (.iadd, 1) := dk_96 (dk_at dksJ2_grow_2_0 6 rfl rfl)
theorem dJ2_grow_2_7 : decode cJ2_grow_2 7 = .ok (.invokevirtual 69, 3) := dk_182 0 69 (dk_at dksJ2_grow_2_0 7 rfl rfl)
theorem dJ2_grow_2_10 : decode cJ2_grow_2 10 = .ok (.areturn, 1) := dk_176 (dk_at dksJ2_grow_2_0 10 rfl rfl)
theorem q126 : (Jvm.Cond.initialized "java/util/ArrayList") ∈ lw_all := lw_g (lw_at lw_m1 6 rfl) rfl
theorem q204 : (Jvm.Cond.instantiable "java/util/ArrayList" (3 : Nat)) ∈ lw_all := lw_g (lw_at lw_m1 84 rfl) rfl
theorem q206 : (Jvm.Cond.instanceMethod ({ cls := "java/util/ArrayList", name := "<init>", desc := "(I)V" } : Jvm.MethodName)) ∈ lw_all := lw_g (lw_at lw_m1 86 rfl) rfl
theorem q207 : (Jvm.Cond.code ({ cls := "java/util/ArrayList", name := "<init>", desc := "(I)V" } : Jvm.MethodName) prog_40_method_1_code (2 : Nat) (Option.none : Option Jvm.ClassFile.FieldType)) ∈ lw_all := lw_g (lw_at lw_m1 87 rfl) rfl
theorem q208 : (Jvm.Cond.methodLink "java/util/ArrayList" (1 : Nat) ({ cls := "java/util/AbstractList", name := "<init>", desc := "()V" } : Jvm.MethodName)) ∈ lw_all := lw_g (lw_at lw_m1 88 rfl) rfl
theorem q215 : (Jvm.Cond.classLink "java/util/ArrayList" (7 : Nat) "java/lang/Object") ∈ lw_all := lw_g (lw_at lw_m1 95 rfl) rfl
theorem q217 : (Jvm.Cond.fieldLink "java/util/ArrayList" (15 : Nat) "java/util/ArrayList" "EMPTY_ELEMENTDATA" "[Ljava/lang/Object;") ∈ lw_all := lw_g (lw_at lw_m1 97 rfl) rfl
theorem q218 : (Jvm.Cond.laysStatic "java/util/ArrayList" "EMPTY_ELEMENTDATA" "[Ljava/lang/Object;") ∈ lw_tbl := lw_at lw_m1 98 rfl
theorem q219 : (Jvm.Cond.fieldLink "java/util/ArrayList" (9 : Nat) "java/util/ArrayList" "elementData" "[Ljava/lang/Object;") ∈ lw_all := lw_g (lw_at lw_m1 99 rfl) rfl
theorem q220 : (Jvm.Cond.fieldLink "java/util/ArrayList" (48 : Nat) "java/util/ArrayList" "size" "I") ∈ lw_all := lw_g (lw_at lw_m1 100 rfl) rfl
theorem q222 : (Jvm.Cond.fieldLink "java/util/ArrayList" (63 : Nat) "java/util/ArrayList" "modCount" "I") ∈ lw_all := lw_g (lw_at lw_m1 102 rfl) rfl
theorem q223 : (Jvm.Cond.sameField "java/util/ArrayList" "java/util/AbstractList" "modCount" "I") ∈ lw_all := lw_g (lw_at lw_m1 103 rfl) rfl
theorem q224 : (Jvm.Cond.lays "java/util/ArrayList" "java/util/ArrayList" "elementData" "[Ljava/lang/Object;") ∈ lw_all := lw_g (lw_at lw_m1 104 rfl) rfl
theorem q225 : (Jvm.Cond.soleField "java/util/ArrayList" "elementData") ∈ lw_all := lw_g (lw_at lw_m1 105 rfl) rfl
theorem q226 : (Jvm.Cond.lays "java/util/ArrayList" "java/util/ArrayList" "size" "I") ∈ lw_all := lw_g (lw_at lw_m1 106 rfl) rfl
theorem q227 : (Jvm.Cond.soleField "java/util/ArrayList" "size") ∈ lw_all := lw_g (lw_at lw_m1 107 rfl) rfl
theorem q228 : (Jvm.Cond.lays "java/util/ArrayList" "java/util/AbstractList" "modCount" "I") ∈ lw_all := lw_g (lw_at lw_m1 108 rfl) rfl
theorem q230 : (Jvm.Cond.superclass "java/util/ArrayList" "java/util/AbstractList") ∈ lw_all := lw_g (lw_at lw_m1 110 rfl) rfl
theorem q488 : (Jvm.Cond.instanceMethod ({ cls := "java/util/ArrayList", name := "clear", desc := "()V" } : Jvm.MethodName)) ∈ lw_all := lw_g (lw_at lw_m2 128 rfl) rfl
theorem q489 : (Jvm.Cond.selects "java/util/ArrayList" ({ cls := "java/util/ArrayList", name := "clear", desc := "()V" } : Jvm.MethodName) ({ cls := "java/util/ArrayList", name := "clear", desc := "()V" } : Jvm.MethodName)) ∈ lw_all := lw_g (lw_at lw_m2 129 rfl) rfl
theorem q490 : (Jvm.Cond.code ({ cls := "java/util/ArrayList", name := "clear", desc := "()V" } : Jvm.MethodName) prog_40_method_40_code (4 : Nat) (Option.none : Option Jvm.ClassFile.FieldType)) ∈ lw_all := lw_g (lw_at lw_m2 130 rfl) rfl
theorem q492 : (Jvm.Cond.instanceMethod ({ cls := "java/util/ArrayList", name := "addAll", desc := "(Ljava/util/Collection;)Z" } : Jvm.MethodName)) ∈ lw_all := lw_g (lw_at lw_m2 132 rfl) rfl
theorem q493 : (Jvm.Cond.selects "java/util/ArrayList" ({ cls := "java/util/ArrayList", name := "addAll", desc := "(Ljava/util/Collection;)Z" } : Jvm.MethodName) ({ cls := "java/util/ArrayList", name := "addAll", desc := "(Ljava/util/Collection;)Z" } : Jvm.MethodName)) ∈ lw_all := lw_g (lw_at lw_m2 133 rfl) rfl
theorem q494 : (Jvm.Cond.code ({ cls := "java/util/ArrayList", name := "addAll", desc := "(Ljava/util/Collection;)Z" } : Jvm.MethodName) prog_40_method_41_code (6 : Nat) (Option.some Jvm.ClassFile.FieldType.boolean)) ∈ lw_all := lw_g (lw_at lw_m2 134 rfl) rfl
theorem q495 : (Jvm.Cond.interfaceEntry "java/util/ArrayList" (42 : Nat)) ∈ lw_tbl := lw_at lw_m2 135 rfl
theorem q496 : (Jvm.Cond.methodLink "java/util/ArrayList" (42 : Nat) ({ cls := "java/util/Collection", name := "toArray", desc := "()[Ljava/lang/Object;" } : Jvm.MethodName)) ∈ lw_all := lw_g (lw_at lw_m2 136 rfl) rfl
theorem q499 : (Jvm.Cond.castable "java/util/ArrayList" "java/util/Collection") ∈ lw_tbl := lw_at lw_m2 139 rfl
theorem q500 : (Jvm.Cond.selects "java/util/ArrayList" ({ cls := "java/util/Collection", name := "toArray", desc := "()[Ljava/lang/Object;" } : Jvm.MethodName) ({ cls := "java/util/ArrayList", name := "toArray", desc := "()[Ljava/lang/Object;" } : Jvm.MethodName)) ∈ lw_all := lw_g (lw_at lw_m2 140 rfl) rfl
theorem q501 : (Jvm.Cond.unhidden "java/util/ArrayList" "toArray" "()[Ljava/lang/Object;") ∈ lw_tbl := lw_at lw_m2 141 rfl
theorem q502 : (Jvm.Cond.instanceMethod ({ cls := "java/util/ArrayList", name := "toArray", desc := "()[Ljava/lang/Object;" } : Jvm.MethodName)) ∈ lw_all := lw_g (lw_at lw_m2 142 rfl) rfl
theorem q503 : (Jvm.Cond.publicMethod ({ cls := "java/util/ArrayList", name := "toArray", desc := "()[Ljava/lang/Object;" } : Jvm.MethodName)) ∈ lw_tbl := lw_at lw_m2 143 rfl
theorem q504 : (Jvm.Cond.code ({ cls := "java/util/ArrayList", name := "toArray", desc := "()[Ljava/lang/Object;" } : Jvm.MethodName) prog_40_method_16_code (1 : Nat) (Option.some (Jvm.ClassFile.FieldType.array (Jvm.ClassFile.FieldType.object "java/lang/Object")))) ∈ lw_all := lw_g (lw_at lw_m2 144 rfl) rfl
theorem q505 : (Jvm.Cond.methodLink "java/util/ArrayList" (66 : Nat) ({ cls := "java/util/Arrays", name := "copyOf", desc := "([Ljava/lang/Object;I)[Ljava/lang/Object;" } : Jvm.MethodName)) ∈ lw_all := lw_g (lw_at lw_m2 145 rfl) rfl
theorem q529 : (Jvm.Cond.selects "java/util/ArrayList" ({ cls := "java/lang/Object", name := "getClass", desc := "()Ljava/lang/Class;" } : Jvm.MethodName) ({ cls := "java/lang/Object", name := "getClass", desc := "()Ljava/lang/Class;" } : Jvm.MethodName)) ∈ lw_all := lw_g (lw_at lw_m2 169 rfl) rfl
theorem q540 : (Jvm.Cond.methodLink "java/util/ArrayList" (69 : Nat) ({ cls := "java/util/ArrayList", name := "grow", desc := "(I)[Ljava/lang/Object;" } : Jvm.MethodName)) ∈ lw_all := lw_g (lw_at lw_m2 180 rfl) rfl
theorem q541 : (Jvm.Cond.privateMethod ({ cls := "java/util/ArrayList", name := "grow", desc := "(I)[Ljava/lang/Object;" } : Jvm.MethodName)) ∈ lw_tbl := lw_at lw_m2 181 rfl
theorem q542 : (Jvm.Cond.instanceMethod ({ cls := "java/util/ArrayList", name := "grow", desc := "(I)[Ljava/lang/Object;" } : Jvm.MethodName)) ∈ lw_all := lw_g (lw_at lw_m2 182 rfl) rfl
theorem q543 : (Jvm.Cond.code ({ cls := "java/util/ArrayList", name := "grow", desc := "(I)[Ljava/lang/Object;" } : Jvm.MethodName) prog_40_method_6_code (4 : Nat) (Option.some (Jvm.ClassFile.FieldType.array (Jvm.ClassFile.FieldType.object "java/lang/Object")))) ∈ lw_all := lw_g (lw_at lw_m2 183 rfl) rfl
theorem q544 : (Jvm.Cond.fieldLink "java/util/ArrayList" (39 : Nat) "java/util/ArrayList" "DEFAULTCAPACITY_EMPTY_ELEMENTDATA" "[Ljava/lang/Object;") ∈ lw_all := lw_g (lw_at lw_m2 184 rfl) rfl
theorem q545 : (Jvm.Cond.laysStatic "java/util/ArrayList" "DEFAULTCAPACITY_EMPTY_ELEMENTDATA" "[Ljava/lang/Object;") ∈ lw_tbl := lw_at lw_m2 185 rfl
theorem q546 : (Jvm.Cond.methodLink "java/util/ArrayList" (73 : Nat) ({ cls := "jdk/internal/util/ArraysSupport", name := "newLength", desc := "(III)I" } : Jvm.MethodName)) ∈ lw_all := lw_g (lw_at lw_m2 186 rfl) rfl
theorem q556 : (Jvm.Cond.methodLink "java/util/ArrayList" (79 : Nat) ({ cls := "java/lang/Math", name := "max", desc := "(II)I" } : Jvm.MethodName)) ∈ lw_all := lw_g (lw_at lw_m2 196 rfl) rfl
theorem q557 : (Jvm.Cond.methodLink "java/util/ArrayList" (112 : Nat) ({ cls := "java/lang/System", name := "arraycopy", desc := "(Ljava/lang/Object;ILjava/lang/Object;II)V" } : Jvm.MethodName)) ∈ lw_all := lw_g (lw_at lw_m2 197 rfl) rfl
theorem q628 : (Jvm.Cond.instanceMethod ({ cls := "java/util/ArrayList", name := "get", desc := "(I)Ljava/lang/Object;" } : Jvm.MethodName)) ∈ lw_all := lw_g (lw_at lw_m3 28 rfl) rfl
theorem q629 : (Jvm.Cond.selects "java/util/ArrayList" ({ cls := "java/util/ArrayList", name := "get", desc := "(I)Ljava/lang/Object;" } : Jvm.MethodName) ({ cls := "java/util/ArrayList", name := "get", desc := "(I)Ljava/lang/Object;" } : Jvm.MethodName)) ∈ lw_all := lw_g (lw_at lw_m3 29 rfl) rfl
theorem q630 : (Jvm.Cond.code ({ cls := "java/util/ArrayList", name := "get", desc := "(I)Ljava/lang/Object;" } : Jvm.MethodName) prog_40_method_20_code (2 : Nat) (Option.some (Jvm.ClassFile.FieldType.object "java/lang/Object"))) ∈ lw_all := lw_g (lw_at lw_m3 30 rfl) rfl
theorem q631 : (Jvm.Cond.methodLink "java/util/ArrayList" (118 : Nat) ({ cls := "java/util/Objects", name := "checkIndex", desc := "(II)I" } : Jvm.MethodName)) ∈ lw_all := lw_g (lw_at lw_m3 31 rfl) rfl
theorem q637 : (Jvm.Cond.methodLink "java/util/ArrayList" (123 : Nat) ({ cls := "java/util/ArrayList", name := "elementData", desc := "(I)Ljava/lang/Object;" } : Jvm.MethodName)) ∈ lw_all := lw_g (lw_at lw_m3 37 rfl) rfl
theorem q638 : (Jvm.Cond.instanceMethod ({ cls := "java/util/ArrayList", name := "elementData", desc := "(I)Ljava/lang/Object;" } : Jvm.MethodName)) ∈ lw_all := lw_g (lw_at lw_m3 38 rfl) rfl
theorem q639 : (Jvm.Cond.selects "java/util/ArrayList" ({ cls := "java/util/ArrayList", name := "elementData", desc := "(I)Ljava/lang/Object;" } : Jvm.MethodName) ({ cls := "java/util/ArrayList", name := "elementData", desc := "(I)Ljava/lang/Object;" } : Jvm.MethodName)) ∈ lw_all := lw_g (lw_at lw_m3 39 rfl) rfl
theorem q640 : (Jvm.Cond.code ({ cls := "java/util/ArrayList", name := "elementData", desc := "(I)Ljava/lang/Object;" } : Jvm.MethodName) prog_40_method_18_code (2 : Nat) (Option.some (Jvm.ClassFile.FieldType.object "java/lang/Object"))) ∈ lw_all := lw_g (lw_at lw_m3 40 rfl) rfl
theorem q648 : (Jvm.Cond.instanceMethod ({ cls := "java/util/ArrayList", name := "size", desc := "()I" } : Jvm.MethodName)) ∈ lw_all := lw_g (lw_at lw_m3 48 rfl) rfl
theorem q649 : (Jvm.Cond.selects "java/util/ArrayList" ({ cls := "java/util/ArrayList", name := "size", desc := "()I" } : Jvm.MethodName) ({ cls := "java/util/ArrayList", name := "size", desc := "()I" } : Jvm.MethodName)) ∈ lw_all := lw_g (lw_at lw_m3 49 rfl) rfl
theorem q650 : (Jvm.Cond.code ({ cls := "java/util/ArrayList", name := "size", desc := "()I" } : Jvm.MethodName) prog_40_method_8_code (1 : Nat) (Option.some Jvm.ClassFile.FieldType.int)) ∈ lw_all := lw_g (lw_at lw_m3 50 rfl) rfl
theorem q1164 : (Jvm.Cond.instanceMethod ({ cls := "java/util/ArrayList", name := "add", desc := "(Ljava/lang/Object;)Z" } : Jvm.MethodName)) ∈ lw_all := lw_g (lw_at lw_m5 84 rfl) rfl
theorem q1165 : (Jvm.Cond.selects "java/util/ArrayList" ({ cls := "java/util/ArrayList", name := "add", desc := "(Ljava/lang/Object;)Z" } : Jvm.MethodName) ({ cls := "java/util/ArrayList", name := "add", desc := "(Ljava/lang/Object;)Z" } : Jvm.MethodName)) ∈ lw_all := lw_g (lw_at lw_m5 85 rfl) rfl
theorem q1166 : (Jvm.Cond.code ({ cls := "java/util/ArrayList", name := "add", desc := "(Ljava/lang/Object;)Z" } : Jvm.MethodName) prog_40_method_25_code (2 : Nat) (Option.some Jvm.ClassFile.FieldType.boolean)) ∈ lw_all := lw_g (lw_at lw_m5 86 rfl) rfl
theorem q1167 : (Jvm.Cond.methodLink "java/util/ArrayList" (131 : Nat) ({ cls := "java/util/ArrayList", name := "add", desc := "(Ljava/lang/Object;[Ljava/lang/Object;I)V" } : Jvm.MethodName)) ∈ lw_all := lw_g (lw_at lw_m5 87 rfl) rfl
theorem q1168 : (Jvm.Cond.privateMethod ({ cls := "java/util/ArrayList", name := "add", desc := "(Ljava/lang/Object;[Ljava/lang/Object;I)V" } : Jvm.MethodName)) ∈ lw_tbl := lw_at lw_m5 88 rfl
theorem q1169 : (Jvm.Cond.instanceMethod ({ cls := "java/util/ArrayList", name := "add", desc := "(Ljava/lang/Object;[Ljava/lang/Object;I)V" } : Jvm.MethodName)) ∈ lw_all := lw_g (lw_at lw_m5 89 rfl) rfl
theorem q1170 : (Jvm.Cond.code ({ cls := "java/util/ArrayList", name := "add", desc := "(Ljava/lang/Object;[Ljava/lang/Object;I)V" } : Jvm.MethodName) prog_40_method_24_code (4 : Nat) (Option.none : Option Jvm.ClassFile.FieldType)) ∈ lw_all := lw_g (lw_at lw_m5 90 rfl) rfl
theorem q1171 : (Jvm.Cond.methodLink "java/util/ArrayList" (129 : Nat) ({ cls := "java/util/ArrayList", name := "grow", desc := "()[Ljava/lang/Object;" } : Jvm.MethodName)) ∈ lw_all := lw_g (lw_at lw_m5 91 rfl) rfl
theorem q1172 : (Jvm.Cond.privateMethod ({ cls := "java/util/ArrayList", name := "grow", desc := "()[Ljava/lang/Object;" } : Jvm.MethodName)) ∈ lw_tbl := lw_at lw_m5 92 rfl
theorem q1173 : (Jvm.Cond.instanceMethod ({ cls := "java/util/ArrayList", name := "grow", desc := "()[Ljava/lang/Object;" } : Jvm.MethodName)) ∈ lw_all := lw_g (lw_at lw_m5 93 rfl) rfl
theorem q1174 : (Jvm.Cond.code ({ cls := "java/util/ArrayList", name := "grow", desc := "()[Ljava/lang/Object;" } : Jvm.MethodName) prog_40_method_7_code (1 : Nat) (Option.some (Jvm.ClassFile.FieldType.array (Jvm.ClassFile.FieldType.object "java/lang/Object")))) ∈ lw_all := lw_g (lw_at lw_m5 94 rfl) rfl
theorem q2292 : (Jvm.Cond.castable "java/util/ArrayList" "java/lang/Object") ∈ lw_tbl := lw_at lw_m10 12 rfl
theorem in_J2 : ∀ w ∈ wsJ20, w ∈ lw_all := lw_in wsJ20 [228, 224, 226] (by decide +kernel) (by decide +kernel)
/-! java/lang/Throwable -/
set_option maxRecDepth 100000
def RJ3 : String := "java/lang/Throwable"
def TJ3 : u_T := fun k => match k with
  | 0 => ("java/lang/Throwable", "cause", "Ljava/lang/Throwable;", false)
  | 1 => ("java/lang/Throwable", "stackTrace", "[Ljava/lang/StackTraceElement;", false)
  | 2 => ("java/lang/Throwable", "suppressedExceptions", "Ljava/util/List;", false)
  | 3 => ("java/lang/Throwable", "detailMessage", "Ljava/lang/String;", false)
  | _ => ("java/lang/Throwable", "backtrace", "Ljava/lang/Object;", false)
def tyJ3 : Nat → FieldType := fun k => match k with
  | 0 => .object "java/lang/Throwable"
  | 1 => .array (.object "java/lang/StackTraceElement")
  | 2 => .object "java/util/List"
  | 3 => .object "java/lang/String"
  | _ => .object "java/lang/Object"
abbrev wsJ30 : List Cond := u_ws RJ3 TJ3 5
theorem nmJ3 : ∀ a, a < 5 → ∀ b, b < 5 → a ≠ b → (TJ3 a).2.1 ≠ (TJ3 b).2.1 := by decide +kernel
theorem tyJ3_ok : ∀ k, k < 5 → parseFieldDescriptor (TJ3 k).2.2.1 = some (tyJ3 k) := by decide +kernel
abbrev cJ3_init : ByteArray := prog_35_method_1_code
def yJ3_init : MethodName := ⟨RJ3, "<init>", "()V"⟩
def dkwJ3_init_1 : List UInt8 := [182, 0, 27, 87, 177]
abbrev dktJ3_init_1 : List UInt8 := dkwJ3_init_1 ++ []
def dkwJ3_init_0 : List UInt8 := [42, 183, 0, 1, 42, 42, 181, 0, 7, 42, 178, 0, 13, 181, 0, 17, 42, 178, 0, 20, 181, 0, 24, 42]
abbrev dktJ3_init_0 : List UInt8 := dkwJ3_init_0 ++ dktJ3_init_1
theorem dksJ3_init_0 : cJ3_init.data.toList.drop 0 = dktJ3_init_0 := by decide +kernel
theorem dksJ3_init_1 : cJ3_init.data.toList.drop 24 = dktJ3_init_1 := dk_seg dksJ3_init_0 24 rfl rfl
theorem dJ3_init_0 : decode cJ3_init 0 = .ok (.aload_n 0, 1) := dk_42 (dk_at dksJ3_init_0 0 rfl rfl)
theorem dJ3_init_1 : decode cJ3_init 1 = .ok (.invokespecial 1, 3) := dk_183 0 1 (dk_at dksJ3_init_0 1 rfl rfl)
theorem dJ3_init_4 : decode cJ3_init 4 = .ok (.aload_n 0, 1) := dk_42 (dk_at dksJ3_init_0 4 rfl rfl)
theorem dJ3_init_5 : decode cJ3_init 5 = .ok (.aload_n 0, 1) := dk_42 (dk_at dksJ3_init_0 5 rfl rfl)
theorem dJ3_init_6 : decode cJ3_init 6 = .ok (.putfield 7, 3) := dk_181 0 7 (dk_at dksJ3_init_0 6 rfl rfl)
theorem dJ3_init_9 : decode cJ3_init 9 = .ok (.aload_n 0, 1) := dk_42 (dk_at dksJ3_init_0 9 rfl rfl)
theorem dJ3_init_10 : decode cJ3_init 10 = .ok (.getstatic 13, 3) := dk_178 0 13 (dk_at dksJ3_init_0 10 rfl rfl)
theorem dJ3_init_13 : decode cJ3_init 13 = .ok (.putfield 17, 3) := dk_181 0 17 (dk_at dksJ3_init_0 13 rfl rfl)
theorem dJ3_init_16 : decode cJ3_init 16 = .ok (.aload_n 0, 1) := dk_42 (dk_at dksJ3_init_0 16 rfl rfl)
theorem dJ3_init_17 : decode cJ3_init 17 = .ok (.getstatic 20, 3) := dk_178 0 20 (dk_at dksJ3_init_0 17 rfl rfl)
theorem dJ3_init_20 : decode cJ3_init 20 = .ok (.putfield 24, 3) := dk_181 0 24 (dk_at dksJ3_init_0 20 rfl rfl)
theorem dJ3_init_23 : decode cJ3_init 23 = .ok (.aload_n 0, 1) := dk_42 (dk_at dksJ3_init_0 23 rfl rfl)
theorem dJ3_init_24 : decode cJ3_init 24 = .ok (.invokevirtual 27, 3) := dk_182 0 27 (dk_at dksJ3_init_1 0 rfl rfl)
theorem dJ3_init_27 : decode cJ3_init 27 = .ok (.pop, 1) := dk_87 (dk_at dksJ3_init_1 3 rfl rfl)
theorem dJ3_init_28 : decode cJ3_init 28 = .ok (.return_, 1) := dk_177 (dk_at dksJ3_init_1 4 rfl rfl)
abbrev cJ3_init_2 : ByteArray := prog_35_method_5_code
def yJ3_init_2 : MethodName := ⟨RJ3, "<init>", "(Ljava/lang/String;Ljava/lang/Throwable;ZZ)V"⟩
def dkwJ3_init_2_2 : List UInt8 := [44, 181, 0, 7, 29, 154, 0, 8, 42, 1, 181, 0, 24, 177]
abbrev dktJ3_init_2_2 : List UInt8 := dkwJ3_init_2_2 ++ []
def dkwJ3_init_2_1 : List UInt8 := [21, 4, 153, 0, 11, 42, 182, 0, 27, 87, 167, 0, 8, 42, 1, 181, 0, 17, 42, 43, 181, 0, 31, 42]
abbrev dktJ3_init_2_1 : List UInt8 := dkwJ3_init_2_1 ++ dktJ3_init_2_2
def dkwJ3_init_2_0 : List UInt8 := [42, 183, 0, 1, 42, 42, 181, 0, 7, 42, 178, 0, 13, 181, 0, 17, 42, 178, 0, 20, 181, 0, 24]
abbrev dktJ3_init_2_0 : List UInt8 := dkwJ3_init_2_0 ++ dktJ3_init_2_1
theorem dksJ3_init_2_0 : cJ3_init_2.data.toList.drop 0 = dktJ3_init_2_0 := by decide +kernel
theorem dksJ3_init_2_1 : cJ3_init_2.data.toList.drop 23 = dktJ3_init_2_1 := dk_seg dksJ3_init_2_0 23 rfl rfl
theorem dksJ3_init_2_2 : cJ3_init_2.data.toList.drop 47 = dktJ3_init_2_2 := dk_seg dksJ3_init_2_1 24 rfl rfl
theorem dJ3_init_2_0 : decode cJ3_init_2 0 = .ok (.aload_n 0, 1) := dk_42 (dk_at dksJ3_init_2_0 0 rfl rfl)
theorem dJ3_init_2_1 : decode cJ3_init_2 1 = .ok (.invokespecial 1, 3) := dk_183 0 1 (dk_at dksJ3_init_2_0 1 rfl rfl)
theorem dJ3_init_2_4 : decode cJ3_init_2 4 = .ok (.aload_n 0, 1) := dk_42 (dk_at dksJ3_init_2_0 4 rfl rfl)
theorem dJ3_init_2_5 : decode cJ3_init_2 5 = .ok (.aload_n 0, 1) := dk_42 (dk_at dksJ3_init_2_0 5 rfl rfl)
theorem dJ3_init_2_6 : decode cJ3_init_2 6 = .ok (.putfield 7, 3) := dk_181 0 7 (dk_at dksJ3_init_2_0 6 rfl rfl)
theorem dJ3_init_2_9 : decode cJ3_init_2 9 = .ok (.aload_n 0, 1) := dk_42 (dk_at dksJ3_init_2_0 9 rfl rfl)
theorem dJ3_init_2_10 : decode cJ3_init_2 10 = .ok (.getstatic 13, 3) := dk_178 0 13 (dk_at dksJ3_init_2_0 10 rfl rfl)
theorem dJ3_init_2_13 : decode cJ3_init_2 13 = .ok (.putfield 17, 3) := dk_181 0 17 (dk_at dksJ3_init_2_0 13 rfl rfl)
theorem dJ3_init_2_16 : decode cJ3_init_2 16 = .ok (.aload_n 0, 1) := dk_42 (dk_at dksJ3_init_2_0 16 rfl rfl)
theorem dJ3_init_2_17 : decode cJ3_init_2 17 = .ok (.getstatic 20, 3) := dk_178 0 20 (dk_at dksJ3_init_2_0 17 rfl rfl)
theorem dJ3_init_2_20 : decode cJ3_init_2 20 = .ok (.putfield 24, 3) := dk_181 0 24 (dk_at dksJ3_init_2_0 20 rfl rfl)
theorem dJ3_init_2_23 : decode cJ3_init_2 23 = .ok (.iload 4, 2) := dk_21 4 (dk_at dksJ3_init_2_1 0 rfl rfl)
theorem dJ3_init_2_25 : decode cJ3_init_2 25 = .ok (.ifCond .eq 11, 3) := dk_153 0 11 (dk_at dksJ3_init_2_1 2 rfl rfl)
theorem dJ3_init_2_28 : decode cJ3_init_2 28 = .ok (.aload_n 0, 1) := dk_42 (dk_at dksJ3_init_2_1 5 rfl rfl)
theorem dJ3_init_2_29 : decode cJ3_init_2 29 = .ok (.invokevirtual 27, 3) := dk_182 0 27 (dk_at dksJ3_init_2_1 6 rfl rfl)
theorem dJ3_init_2_32 : decode cJ3_init_2 32 = .ok (.pop, 1) := dk_87 (dk_at dksJ3_init_2_1 9 rfl rfl)
theorem dJ3_init_2_33 : decode cJ3_init_2 33 = .ok (.goto 8, 3) := dk_167 0 8 (dk_at dksJ3_init_2_1 10 rfl rfl)
theorem dJ3_init_2_36 : decode cJ3_init_2 36 = .ok (.aload_n 0, 1) := dk_42 (dk_at dksJ3_init_2_1 13 rfl rfl)
theorem dJ3_init_2_37 : decode cJ3_init_2 37 = .ok (.aconst_null, 1) := dk_1 (dk_at dksJ3_init_2_1 14 rfl rfl)
theorem dJ3_init_2_38 : decode cJ3_init_2 38 = .ok (.putfield 17, 3) := dk_181 0 17 (dk_at dksJ3_init_2_1 15 rfl rfl)
theorem dJ3_init_2_41 : decode cJ3_init_2 41 = .ok (.aload_n 0, 1) := dk_42 (dk_at dksJ3_init_2_1 18 rfl rfl)
theorem dJ3_init_2_42 : decode cJ3_init_2 42 = .ok (.aload_n 1, 1) := dk_43 (dk_at dksJ3_init_2_1 19 rfl rfl)
theorem dJ3_init_2_43 : decode cJ3_init_2 43 = .ok (.putfield 31, 3) := dk_181 0 31 (dk_at dksJ3_init_2_1 20 rfl rfl)
theorem dJ3_init_2_46 : decode cJ3_init_2 46 = .ok (.aload_n 0, 1) := dk_42 (dk_at dksJ3_init_2_1 23 rfl rfl)
theorem dJ3_init_2_47 : decode cJ3_init_2 47 = .ok (.aload_n 2, 1) := dk_44 (dk_at dksJ3_init_2_2 0 rfl rfl)
theorem dJ3_init_2_48 : decode cJ3_init_2 48 = .ok (.putfield 7, 3) := dk_181 0 7 (dk_at dksJ3_init_2_2 1 rfl rfl)
theorem dJ3_init_2_51 : decode cJ3_init_2 51 = .ok (.iload_n 3, 1) := dk_29 (dk_at dksJ3_init_2_2 4 rfl rfl)
theorem dJ3_init_2_52 : decode cJ3_init_2 52 = .ok (.ifCond .ne 8, 3) := dk_154 0 8 (dk_at dksJ3_init_2_2 5 rfl rfl)
theorem dJ3_init_2_55 : decode cJ3_init_2 55 = .ok (.aload_n 0, 1) := dk_42 (dk_at dksJ3_init_2_2 8 rfl rfl)
theorem dJ3_init_2_56 : decode cJ3_init_2 56 = .ok (.aconst_null, 1) := dk_1 (dk_at dksJ3_init_2_2 9 rfl rfl)
theorem dJ3_init_2_57 : decode cJ3_init_2 57 = .ok (.putfield 24, 3) := dk_181 0 24 (dk_at dksJ3_init_2_2 10 rfl rfl)
theorem dJ3_init_2_60 : decode cJ3_init_2 60 = .ok (.return_, 1) := dk_177 (dk_at dksJ3_init_2_2 13 rfl rfl)
theorem q128 : (Jvm.Cond.initialized "java/lang/Throwable") ∈ lw_all := lw_g (lw_at lw_m1 8 rfl) rfl
theorem q291 : (Jvm.Cond.declares ({ cls := "java/lang/Throwable", name := "<init>", desc := "()V" } : Jvm.MethodName)) ∈ lw_tbl := lw_at lw_m1 171 rfl
theorem q292 : (Jvm.Cond.declares ({ cls := "java/lang/Throwable", name := "<init>", desc := "(Ljava/lang/String;)V" } : Jvm.MethodName)) ∈ lw_tbl := lw_at lw_m1 172 rfl
theorem q296 : (Jvm.Cond.lays "java/lang/Throwable" "java/lang/Throwable" "cause" "Ljava/lang/Throwable;") ∈ lw_all := lw_g (lw_at lw_m1 176 rfl) rfl
theorem q298 : (Jvm.Cond.lays "java/lang/Throwable" "java/lang/Throwable" "stackTrace" "[Ljava/lang/StackTraceElement;") ∈ lw_all := lw_g (lw_at lw_m1 178 rfl) rfl
theorem q300 : (Jvm.Cond.lays "java/lang/Throwable" "java/lang/Throwable" "suppressedExceptions" "Ljava/util/List;") ∈ lw_all := lw_g (lw_at lw_m1 180 rfl) rfl
theorem q302 : (Jvm.Cond.lays "java/lang/Throwable" "java/lang/Throwable" "detailMessage" "Ljava/lang/String;") ∈ lw_all := lw_g (lw_at lw_m1 182 rfl) rfl
theorem q304 : (Jvm.Cond.lays "java/lang/Throwable" "java/lang/Throwable" "backtrace" "Ljava/lang/Object;") ∈ lw_all := lw_g (lw_at lw_m1 184 rfl) rfl
theorem q305 : (Jvm.Cond.fieldLink "java/lang/Throwable" (198 : Nat) "java/lang/Throwable" "backtrace" "Ljava/lang/Object;") ∈ lw_all := lw_g (lw_at lw_m1 185 rfl) rfl
theorem q306 : (Jvm.Cond.superclass "java/lang/Throwable" "java/lang/Object") ∈ lw_all := lw_g (lw_at lw_m1 186 rfl) rfl
theorem q307 : (Jvm.Cond.instanceMethod ({ cls := "java/lang/Throwable", name := "<init>", desc := "()V" } : Jvm.MethodName)) ∈ lw_all := lw_g (lw_at lw_m1 187 rfl) rfl
theorem q308 : (Jvm.Cond.code ({ cls := "java/lang/Throwable", name := "<init>", desc := "()V" } : Jvm.MethodName) prog_35_method_1_code (1 : Nat) (Option.none : Option Jvm.ClassFile.FieldType)) ∈ lw_all := lw_g (lw_at lw_m1 188 rfl) rfl
theorem q309 : (Jvm.Cond.methodLink "java/lang/Throwable" (1 : Nat) ({ cls := "java/lang/Object", name := "<init>", desc := "()V" } : Jvm.MethodName)) ∈ lw_all := lw_g (lw_at lw_m1 189 rfl) rfl
theorem q310 : (Jvm.Cond.fieldLink "java/lang/Throwable" (13 : Nat) "java/lang/Throwable" "UNASSIGNED_STACK" "[Ljava/lang/StackTraceElement;") ∈ lw_all := lw_g (lw_at lw_m1 190 rfl) rfl
theorem q311 : (Jvm.Cond.laysStatic "java/lang/Throwable" "UNASSIGNED_STACK" "[Ljava/lang/StackTraceElement;") ∈ lw_tbl := lw_at lw_m1 191 rfl
theorem q312 : (Jvm.Cond.fieldLink "java/lang/Throwable" (20 : Nat) "java/lang/Throwable" "SUPPRESSED_SENTINEL" "Ljava/util/List;") ∈ lw_all := lw_g (lw_at lw_m1 192 rfl) rfl
theorem q313 : (Jvm.Cond.laysStatic "java/lang/Throwable" "SUPPRESSED_SENTINEL" "Ljava/util/List;") ∈ lw_tbl := lw_at lw_m1 193 rfl
theorem q314 : (Jvm.Cond.methodLink "java/lang/Throwable" (27 : Nat) ({ cls := "java/lang/Throwable", name := "fillInStackTrace", desc := "()Ljava/lang/Throwable;" } : Jvm.MethodName)) ∈ lw_all := lw_g (lw_at lw_m1 194 rfl) rfl
theorem q315 : (Jvm.Cond.instanceMethod ({ cls := "java/lang/Throwable", name := "fillInStackTrace", desc := "()Ljava/lang/Throwable;" } : Jvm.MethodName)) ∈ lw_all := lw_g (lw_at lw_m1 195 rfl) rfl
theorem q316 : (Jvm.Cond.sameMethod "java/lang/Throwable" "java/lang/Throwable" "fillInStackTrace" "()Ljava/lang/Throwable;") ∈ lw_all := lw_g (lw_at lw_m1 196 rfl) rfl
theorem q318 : (Jvm.Cond.codeSync ({ cls := "java/lang/Throwable", name := "fillInStackTrace", desc := "()Ljava/lang/Throwable;" } : Jvm.MethodName) prog_35_method_18_code (1 : Nat) (Option.some (Jvm.ClassFile.FieldType.object "java/lang/Throwable"))) ∈ lw_all := lw_g (lw_at lw_m1 198 rfl) rfl
theorem q319 : (Jvm.Cond.methodLink "java/lang/Throwable" (202 : Nat) ({ cls := "java/lang/Throwable", name := "fillInStackTrace", desc := "(I)Ljava/lang/Throwable;" } : Jvm.MethodName)) ∈ lw_all := lw_g (lw_at lw_m1 199 rfl) rfl
theorem q320 : (Jvm.Cond.privateMethod ({ cls := "java/lang/Throwable", name := "fillInStackTrace", desc := "(I)Ljava/lang/Throwable;" } : Jvm.MethodName)) ∈ lw_tbl := lw_at lw_m1 200 rfl
theorem q321 : (Jvm.Cond.instanceMethod ({ cls := "java/lang/Throwable", name := "fillInStackTrace", desc := "(I)Ljava/lang/Throwable;" } : Jvm.MethodName)) ∈ lw_all := lw_g (lw_at lw_m1 201 rfl) rfl
theorem q322 : (Jvm.Cond.instantiable "java/lang/Throwable" (6 : Nat)) ∈ lw_all := lw_g (lw_at lw_m1 202 rfl) rfl
theorem q323 : (Jvm.Cond.native ({ cls := "java/lang/Throwable", name := "fillInStackTrace", desc := "(I)Ljava/lang/Throwable;" } : Jvm.MethodName)) ∈ lw_all := lw_g (lw_at lw_m1 203 rfl) rfl
theorem q331 : (Jvm.Cond.instanceMethod ({ cls := "java/lang/Throwable", name := "<init>", desc := "(Ljava/lang/String;Ljava/lang/Throwable;ZZ)V" } : Jvm.MethodName)) ∈ lw_all := lw_g (lw_at lw_m1 211 rfl) rfl
theorem q332 : (Jvm.Cond.code ({ cls := "java/lang/Throwable", name := "<init>", desc := "(Ljava/lang/String;Ljava/lang/Throwable;ZZ)V" } : Jvm.MethodName) prog_35_method_5_code (5 : Nat) (Option.none : Option Jvm.ClassFile.FieldType)) ∈ lw_all := lw_g (lw_at lw_m1 212 rfl) rfl
theorem q333 : (Jvm.Cond.fieldLink "java/lang/Throwable" (198 : Nat) "java/lang/Throwable" "backtrace" "Ljava/lang/Object;") ∈ lw_all := lw_g (lw_at lw_m1 213 rfl) rfl
theorem q334 : (Jvm.Cond.fieldLink "java/lang/Throwable" (31 : Nat) "java/lang/Throwable" "detailMessage" "Ljava/lang/String;") ∈ lw_all := lw_g (lw_at lw_m1 214 rfl) rfl
theorem q335 : (Jvm.Cond.fieldLink "java/lang/Throwable" (7 : Nat) "java/lang/Throwable" "cause" "Ljava/lang/Throwable;") ∈ lw_all := lw_g (lw_at lw_m1 215 rfl) rfl
theorem q336 : (Jvm.Cond.fieldLink "java/lang/Throwable" (17 : Nat) "java/lang/Throwable" "stackTrace" "[Ljava/lang/StackTraceElement;") ∈ lw_all := lw_g (lw_at lw_m1 216 rfl) rfl
theorem q337 : (Jvm.Cond.fieldLink "java/lang/Throwable" (24 : Nat) "java/lang/Throwable" "suppressedExceptions" "Ljava/util/List;") ∈ lw_all := lw_g (lw_at lw_m1 217 rfl) rfl
theorem q338 : (Jvm.Cond.soleField "java/lang/Throwable" "backtrace") ∈ lw_all := lw_g (lw_at lw_m1 218 rfl) rfl
theorem q339 : (Jvm.Cond.soleField "java/lang/Throwable" "detailMessage") ∈ lw_all := lw_g (lw_at lw_m1 219 rfl) rfl
theorem q340 : (Jvm.Cond.soleField "java/lang/Throwable" "cause") ∈ lw_all := lw_g (lw_at lw_m1 220 rfl) rfl
theorem q341 : (Jvm.Cond.soleField "java/lang/Throwable" "stackTrace") ∈ lw_all := lw_g (lw_at lw_m1 221 rfl) rfl
theorem q343 : (Jvm.Cond.soleField "java/lang/Throwable" "depth") ∈ lw_all := lw_g (lw_at lw_m1 223 rfl) rfl
theorem q344 : (Jvm.Cond.soleField "java/lang/Throwable" "suppressedExceptions") ∈ lw_all := lw_g (lw_at lw_m1 224 rfl) rfl
theorem q2275 : (Jvm.Cond.sameMethod "java/lang/Throwable" "java/lang/Throwable" "fillInStackTrace" "(I)Ljava/lang/Throwable;") ∈ lw_all := lw_g (lw_at lw_m9 235 rfl) rfl
theorem q2308 : (Jvm.Cond.castable "java/lang/Throwable" "java/lang/Object") ∈ lw_tbl := lw_at lw_m10 28 rfl
theorem in_J3 : ∀ w ∈ wsJ30, w ∈ lw_all := lw_in wsJ30 [296, 298, 300, 302, 304] (by decide +kernel) (by decide +kernel)
/-! java/lang/Exception -/
set_option maxRecDepth 100000
def RJ4 : String := "java/lang/Exception"
abbrev cJ4_init : ByteArray := prog_27_method_5_code
def yJ4_init : MethodName := ⟨RJ4, "<init>", "(Ljava/lang/String;Ljava/lang/Throwable;ZZ)V"⟩
def dkwJ4_init_0 : List UInt8 := [42, 43, 44, 29, 21, 4, 183, 0, 16, 177]
abbrev dktJ4_init_0 : List UInt8 := dkwJ4_init_0 ++ []
theorem dksJ4_init_0 : cJ4_init.data.toList.drop 0 = dktJ4_init_0 := by decide +kernel
theorem dJ4_init_0 : decode cJ4_init 0 = .ok (.aload_n 0, 1) := dk_42 (dk_at dksJ4_init_0 0 rfl rfl)
theorem dJ4_init_1 : decode cJ4_init 1 = .ok (.aload_n 1, 1) := dk_43 (dk_at dksJ4_init_0 1 rfl rfl)
theorem dJ4_init_2 : decode cJ4_init 2 = .ok (.aload_n 2, 1) := dk_44 (dk_at dksJ4_init_0 2 rfl rfl)
theorem dJ4_init_3 : decode cJ4_init 3 = .ok (.iload_n 3, 1) := dk_29 (dk_at dksJ4_init_0 3 rfl rfl)
theorem dJ4_init_4 : decode cJ4_init 4 = .ok (.iload 4, 2) := dk_21 4 (dk_at dksJ4_init_0 4 rfl rfl)
theorem dJ4_init_6 : decode cJ4_init 6 = .ok (.invokespecial 16, 3) := dk_183 0 16 (dk_at dksJ4_init_0 6 rfl rfl)
theorem dJ4_init_9 : decode cJ4_init 9 = .ok (.return_, 1) := dk_177 (dk_at dksJ4_init_0 9 rfl rfl)
theorem q129 : (Jvm.Cond.initialized "java/lang/Exception") ∈ lw_all := lw_g (lw_at lw_m1 9 rfl) rfl
theorem q289 : (Jvm.Cond.declares ({ cls := "java/lang/Exception", name := "<init>", desc := "()V" } : Jvm.MethodName)) ∈ lw_tbl := lw_at lw_m1 169 rfl
theorem q290 : (Jvm.Cond.declares ({ cls := "java/lang/Exception", name := "<init>", desc := "(Ljava/lang/String;)V" } : Jvm.MethodName)) ∈ lw_tbl := lw_at lw_m1 170 rfl
theorem q328 : (Jvm.Cond.instanceMethod ({ cls := "java/lang/Exception", name := "<init>", desc := "(Ljava/lang/String;Ljava/lang/Throwable;ZZ)V" } : Jvm.MethodName)) ∈ lw_all := lw_g (lw_at lw_m1 208 rfl) rfl
theorem q329 : (Jvm.Cond.code ({ cls := "java/lang/Exception", name := "<init>", desc := "(Ljava/lang/String;Ljava/lang/Throwable;ZZ)V" } : Jvm.MethodName) prog_27_method_5_code (5 : Nat) (Option.none : Option Jvm.ClassFile.FieldType)) ∈ lw_all := lw_g (lw_at lw_m1 209 rfl) rfl
theorem q330 : (Jvm.Cond.methodLink "java/lang/Exception" (16 : Nat) ({ cls := "java/lang/Throwable", name := "<init>", desc := "(Ljava/lang/String;Ljava/lang/Throwable;ZZ)V" } : Jvm.MethodName)) ∈ lw_all := lw_g (lw_at lw_m1 210 rfl) rfl
/-! java/lang/Integer -/
set_option maxRecDepth 100000
def RJ5 : String := "java/lang/Integer"
abbrev cJ5_bitCount : ByteArray := prog_28_method_49_code
def yJ5_bitCount : MethodName := ⟨RJ5, "bitCount", "(I)I"⟩
def dkwJ5_bitCount_2 : List UInt8 := [26, 16, 63, 126, 172]
abbrev dktJ5_bitCount_2 : List UInt8 := dkwJ5_bitCount_2 ++ []
def dkwJ5_bitCount_1 : List UInt8 := [26, 26, 7, 124, 96, 19, 1, 11, 126, 59, 26, 26, 16, 8, 124, 96, 59, 26, 26, 16, 16, 124, 96, 59]
abbrev dktJ5_bitCount_1 : List UInt8 := dkwJ5_bitCount_1 ++ dktJ5_bitCount_2
def dkwJ5_bitCount_0 : List UInt8 := [26, 26, 4, 124, 19, 1, 9, 126, 100, 59, 26, 19, 1, 10, 126, 26, 5, 124, 19, 1, 10, 126, 96, 59]
abbrev dktJ5_bitCount_0 : List UInt8 := dkwJ5_bitCount_0 ++ dktJ5_bitCount_1
theorem dksJ5_bitCount_0 : cJ5_bitCount.data.toList.drop 0 = dktJ5_bitCount_0 := by decide +kernel
theorem dksJ5_bitCount_1 : cJ5_bitCount.data.toList.drop 24 = dktJ5_bitCount_1 := dk_seg dksJ5_bitCount_0 24 rfl rfl
theorem dksJ5_bitCount_2 : cJ5_bitCount.data.toList.drop 48 = dktJ5_bitCount_2 := dk_seg dksJ5_bitCount_1 24 rfl rfl
theorem dJ5_bitCount_0 : decode cJ5_bitCount 0 = .ok (.iload_n 0, 1) := dk_26 (dk_at dksJ5_bitCount_0 0 rfl rfl)
theorem dJ5_bitCount_1 : decode cJ5_bitCount 1 = .ok (.iload_n 0, 1) := dk_26 (dk_at dksJ5_bitCount_0 1 rfl rfl)
theorem dJ5_bitCount_2 : decode cJ5_bitCount 2 = .ok (.iconst 1, 1) := dk_4 (dk_at dksJ5_bitCount_0 2 rfl rfl)
theorem dJ5_bitCount_3 : decode cJ5_bitCount 3 = .ok (.iushr, 1) := dk_124 (dk_at dksJ5_bitCount_0 3 rfl rfl)
theorem dJ5_bitCount_4 : decode cJ5_bitCount 4 = .ok (.ldc_w 265, 3) := dk_19 1 9 (dk_at dksJ5_bitCount_0 4 rfl rfl)
theorem dJ5_bitCount_7 : decode cJ5_bitCount 7 = .ok (.iand, 1) := dk_126 (dk_at dksJ5_bitCount_0 7 rfl rfl)
theorem dJ5_bitCount_8 : decode cJ5_bitCount 8 = .ok (.isub, 1) := dk_100 (dk_at dksJ5_bitCount_0 8 rfl rfl)
theorem dJ5_bitCount_9 : decode cJ5_bitCount 9 = .ok (.istore_n 0, 1) := dk_59 (dk_at dksJ5_bitCount_0 9 rfl rfl)
theorem dJ5_bitCount_10 : decode cJ5_bitCount 10 = .ok (.iload_n 0, 1) := dk_26 (dk_at dksJ5_bitCount_0 10 rfl rfl)
theorem dJ5_bitCount_11 : decode cJ5_bitCount 11 = .ok (.ldc_w 266, 3) := dk_19 1 10 (dk_at dksJ5_bitCount_0 11 rfl rfl)
theorem dJ5_bitCount_14 : decode cJ5_bitCount 14 = .ok (.iand, 1) := dk_126 (dk_at dksJ5_bitCount_0 14 rfl rfl)
theorem dJ5_bitCount_15 : decode cJ5_bitCount 15 = .ok (.iload_n 0, 1) := dk_26 (dk_at dksJ5_bitCount_0 15 rfl rfl)
theorem dJ5_bitCount_16 : decode cJ5_bitCount 16 = .ok (.iconst 2, 1) := dk_5 (dk_at dksJ5_bitCount_0 16 rfl rfl)
theorem dJ5_bitCount_17 : decode cJ5_bitCount 17 = .ok (.iushr, 1) := dk_124 (dk_at dksJ5_bitCount_0 17 rfl rfl)
theorem dJ5_bitCount_18 : decode cJ5_bitCount 18 = .ok (.ldc_w 266, 3) := dk_19 1 10 (dk_at dksJ5_bitCount_0 18 rfl rfl)
theorem dJ5_bitCount_21 : decode cJ5_bitCount 21 = .ok (.iand, 1) := dk_126 (dk_at dksJ5_bitCount_0 21 rfl rfl)
theorem dJ5_bitCount_22 : decode cJ5_bitCount 22 = .ok (.iadd, 1) := dk_96 (dk_at dksJ5_bitCount_0 22 rfl rfl)
theorem dJ5_bitCount_23 : decode cJ5_bitCount 23 = .ok (.istore_n 0, 1) := dk_59 (dk_at dksJ5_bitCount_0 23 rfl rfl)
theorem dJ5_bitCount_24 : decode cJ5_bitCount 24 = .ok (.iload_n 0, 1) := dk_26 (dk_at dksJ5_bitCount_1 0 rfl rfl)
theorem dJ5_bitCount_25 : decode cJ5_bitCount 25 = .ok (.iload_n 0, 1) := dk_26 (dk_at dksJ5_bitCount_1 1 rfl rfl)
theorem dJ5_bitCount_26 : decode cJ5_bitCount 26 = .ok (.iconst 4, 1) := dk_7 (dk_at dksJ5_bitCount_1 2 rfl rfl)
theorem dJ5_bitCount_27 : decode cJ5_bitCount 27 = .ok (.iushr, 1) := dk_124 (dk_at dksJ5_bitCount_1 3 rfl rfl)
theorem dJ5_bitCount_28 : decode cJ5_bitCount 28 = .ok (.iadd, 1) := dk_96 (dk_at dksJ5_bitCount_1 4 rfl rfl)
theorem dJ5_bitCount_29 : decode cJ5_bitCount 29 = .ok (.ldc_w 267, 3) := dk_19 1 11 (dk_at dksJ5_bitCount_1 5 rfl rfl)
theorem dJ5_bitCount_32 : decode cJ5_bitCount 32 = .ok (.iand, 1) := dk_126 (dk_at dksJ5_bitCount_1 8 rfl rfl)
theorem dJ5_bitCount_33 : decode cJ5_bitCount 33 = .ok (.istore_n 0, 1) := dk_59 (dk_at dksJ5_bitCount_1 9 rfl rfl)
theorem dJ5_bitCount_34 : decode cJ5_bitCount 34 = .ok (.iload_n 0, 1) := dk_26 (dk_at dksJ5_bitCount_1 10 rfl rfl)
theorem dJ5_bitCount_35 : decode cJ5_bitCount 35 = .ok (.iload_n 0, 1) := dk_26 (dk_at dksJ5_bitCount_1 11 rfl rfl)
theorem dJ5_bitCount_36 : decode cJ5_bitCount 36 = .ok (.bipush 8, 2) := dk_16 8 (dk_at dksJ5_bitCount_1 12 rfl rfl)
theorem dJ5_bitCount_38 : decode cJ5_bitCount 38 = .ok (.iushr, 1) := dk_124 (dk_at dksJ5_bitCount_1 14 rfl rfl)
theorem dJ5_bitCount_39 : decode cJ5_bitCount 39 = .ok (.iadd, 1) := dk_96 (dk_at dksJ5_bitCount_1 15 rfl rfl)
theorem dJ5_bitCount_40 : decode cJ5_bitCount 40 = .ok (.istore_n 0, 1) := dk_59 (dk_at dksJ5_bitCount_1 16 rfl rfl)
theorem dJ5_bitCount_41 : decode cJ5_bitCount 41 = .ok (.iload_n 0, 1) := dk_26 (dk_at dksJ5_bitCount_1 17 rfl rfl)
theorem dJ5_bitCount_42 : decode cJ5_bitCount 42 = .ok (.iload_n 0, 1) := dk_26 (dk_at dksJ5_bitCount_1 18 rfl rfl)
theorem dJ5_bitCount_43 : decode cJ5_bitCount 43 = .ok (.bipush 16, 2) := dk_16 16 (dk_at dksJ5_bitCount_1 19 rfl rfl)
theorem dJ5_bitCount_45 : decode cJ5_bitCount 45 = .ok (.iushr, 1) := dk_124 (dk_at dksJ5_bitCount_1 21 rfl rfl)
theorem dJ5_bitCount_46 : decode cJ5_bitCount 46 = .ok (.iadd, 1) := dk_96 (dk_at dksJ5_bitCount_1 22 rfl rfl)
theorem dJ5_bitCount_47 : decode cJ5_bitCount 47 = .ok (.istore_n 0, 1) := dk_59 (dk_at dksJ5_bitCount_1 23 rfl rfl)
theorem dJ5_bitCount_48 : decode cJ5_bitCount 48 = .ok (.iload_n 0, 1) := dk_26 (dk_at dksJ5_bitCount_2 0 rfl rfl)
theorem dJ5_bitCount_49 : decode cJ5_bitCount 49 = .ok (.bipush 63, 2) := dk_16 63 (dk_at dksJ5_bitCount_2 1 rfl rfl)
theorem dJ5_bitCount_51 : decode cJ5_bitCount 51 = .ok (.iand, 1) := dk_126 (dk_at dksJ5_bitCount_2 3 rfl rfl)
theorem dJ5_bitCount_52 : decode cJ5_bitCount 52 = .ok (.ireturn, 1) := dk_172 (dk_at dksJ5_bitCount_2 4 rfl rfl)
theorem q132 : (Jvm.Cond.initialized "java/lang/Integer") ∈ lw_all := lw_g (lw_at lw_m1 12 rfl) rfl
theorem q603 : (Jvm.Cond.static ({ cls := "java/lang/Integer", name := "bitCount", desc := "(I)I" } : Jvm.MethodName)) ∈ lw_all := lw_g (lw_at lw_m3 3 rfl) rfl
theorem q604 : (Jvm.Cond.code ({ cls := "java/lang/Integer", name := "bitCount", desc := "(I)I" } : Jvm.MethodName) prog_28_method_49_code (1 : Nat) (Option.some Jvm.ClassFile.FieldType.int)) ∈ lw_all := lw_g (lw_at lw_m3 4 rfl) rfl
theorem q605 : (Jvm.Cond.constant "java/lang/Integer" (265 : Nat) (1431655765 : Int32)) ∈ lw_all := lw_g (lw_at lw_m3 5 rfl) rfl
theorem q606 : (Jvm.Cond.constant "java/lang/Integer" (266 : Nat) (858993459 : Int32)) ∈ lw_all := lw_g (lw_at lw_m3 6 rfl) rfl
theorem q607 : (Jvm.Cond.constant "java/lang/Integer" (267 : Nat) (252645135 : Int32)) ∈ lw_all := lw_g (lw_at lw_m3 7 rfl) rfl
/-! java/util/Objects -/
set_option maxRecDepth 100000
def RJ6 : String := "java/util/Objects"
abbrev cJ6_checkIndex : ByteArray := prog_44_method_17_code
def yJ6_checkIndex : MethodName := ⟨RJ6, "checkIndex", "(II)I"⟩
def dkwJ6_checkIndex_0 : List UInt8 := [26, 27, 1, 184, 0, 105, 172]
abbrev dktJ6_checkIndex_0 : List UInt8 := dkwJ6_checkIndex_0 ++ []
theorem dksJ6_checkIndex_0 : cJ6_checkIndex.data.toList.drop 0 = dktJ6_checkIndex_0 := by decide +kernel
theorem dJ6_checkIndex_0 : decode cJ6_checkIndex 0 = .ok (.iload_n 0, 1) := dk_26 (dk_at dksJ6_checkIndex_0 0 rfl rfl)
theorem dJ6_checkIndex_1 : decode cJ6_checkIndex 1 = .ok (.iload_n 1, 1) := dk_27 (dk_at dksJ6_checkIndex_0 1 rfl rfl)
theorem dJ6_checkIndex_2 : decode cJ6_checkIndex 2 = .ok (.aconst_null, 1) := dk_1 (dk_at dksJ6_checkIndex_0 2 rfl rfl)
theorem dJ6_checkIndex_3 : decode cJ6_checkIndex 3 = .ok (.invokestatic 105, 3) := dk_184 0 105 (dk_at dksJ6_checkIndex_0 3 rfl rfl)
theorem dJ6_checkIndex_6 : decode cJ6_checkIndex 6 = .ok (.ireturn, 1) := dk_172 (dk_at dksJ6_checkIndex_0 6 rfl rfl)
theorem q133 : (Jvm.Cond.initialized "java/util/Objects") ∈ lw_all := lw_g (lw_at lw_m1 13 rfl) rfl
theorem q632 : (Jvm.Cond.static ({ cls := "java/util/Objects", name := "checkIndex", desc := "(II)I" } : Jvm.MethodName)) ∈ lw_all := lw_g (lw_at lw_m3 32 rfl) rfl
theorem q633 : (Jvm.Cond.code ({ cls := "java/util/Objects", name := "checkIndex", desc := "(II)I" } : Jvm.MethodName) prog_44_method_17_code (2 : Nat) (Option.some Jvm.ClassFile.FieldType.int)) ∈ lw_all := lw_g (lw_at lw_m3 33 rfl) rfl
theorem q634 : (Jvm.Cond.methodLink "java/util/Objects" (105 : Nat) ({ cls := "jdk/internal/util/Preconditions", name := "checkIndex", desc := "(IILjava/util/function/BiFunction;)I" } : Jvm.MethodName)) ∈ lw_all := lw_g (lw_at lw_m3 34 rfl) rfl
/-! jdk/internal/util/Preconditions -/
set_option maxRecDepth 100000
def RJ7 : String := "jdk/internal/util/Preconditions"
abbrev cJ7_checkIndex : ByteArray := prog_48_method_11_code
def yJ7_checkIndex : MethodName := ⟨RJ7, "checkIndex", "(IILjava/util/function/BiFunction;)I"⟩
def dkwJ7_checkIndex_0 : List UInt8 := [26, 155, 0, 8, 26, 27, 161, 0, 10, 44, 26, 27, 184, 0, 95, 191, 26, 172]
abbrev dktJ7_checkIndex_0 : List UInt8 := dkwJ7_checkIndex_0 ++ []
theorem dksJ7_checkIndex_0 : cJ7_checkIndex.data.toList.drop 0 = dktJ7_checkIndex_0 := by decide +kernel
theorem dJ7_checkIndex_0 : decode cJ7_checkIndex 0 = .ok (.iload_n 0, 1) := dk_26 (dk_at dksJ7_checkIndex_0 0 rfl rfl)
theorem dJ7_checkIndex_1 : decode cJ7_checkIndex 1 = .ok (.ifCond .lt 8, 3) := dk_155 0 8 (dk_at dksJ7_checkIndex_0 1 rfl rfl)
theorem dJ7_checkIndex_4 : decode cJ7_checkIndex 4 = .ok (.iload_n 0, 1) := dk_26 (dk_at dksJ7_checkIndex_0 4 rfl rfl)
theorem dJ7_checkIndex_5 : decode cJ7_checkIndex 5 = .ok (.iload_n 1, 1) := dk_27 (dk_at dksJ7_checkIndex_0 5 rfl rfl)
theorem dJ7_checkIndex_6 : decode cJ7_checkIndex 6 = .ok (.if_icmp .lt 10, 3) := dk_161 0 10 (dk_at dksJ7_checkIndex_0 6 rfl rfl)
theorem dJ7_checkIndex_9 : decode cJ7_checkIndex 9 = .ok (.aload_n 2, 1) := dk_44 (dk_at dksJ7_checkIndex_0 9 rfl rfl)
theorem dJ7_checkIndex_10 : decode cJ7_checkIndex 10 = .ok (.iload_n 0, 1) := dk_26 (dk_at dksJ7_checkIndex_0 10 rfl rfl)
theorem dJ7_checkIndex_11 : decode cJ7_checkIndex 11 = .ok (.iload_n 1, 1) := dk_27 (dk_at dksJ7_checkIndex_0 11 rfl rfl)
theorem dJ7_checkIndex_12 : decode cJ7_checkIndex 12 = .ok (.invokestatic 95, 3) := dk_184 0 95 (dk_at dksJ7_checkIndex_0 12 rfl rfl)
theorem dJ7_checkIndex_15 : decode cJ7_checkIndex 15 = .ok (.athrow, 1) := dk_191 (dk_at dksJ7_checkIndex_0 15 rfl rfl)
theorem dJ7_checkIndex_16 : decode cJ7_checkIndex 16 = .ok (.iload_n 0, 1) := dk_26 (dk_at dksJ7_checkIndex_0 16 rfl rfl)
theorem dJ7_checkIndex_17 : decode cJ7_checkIndex 17 = .ok (.ireturn, 1) := dk_172 (dk_at dksJ7_checkIndex_0 17 rfl rfl)
theorem q134 : (Jvm.Cond.initialized "jdk/internal/util/Preconditions") ∈ lw_all := lw_g (lw_at lw_m1 14 rfl) rfl
theorem q635 : (Jvm.Cond.static ({ cls := "jdk/internal/util/Preconditions", name := "checkIndex", desc := "(IILjava/util/function/BiFunction;)I" } : Jvm.MethodName)) ∈ lw_all := lw_g (lw_at lw_m3 35 rfl) rfl
theorem q636 : (Jvm.Cond.code ({ cls := "jdk/internal/util/Preconditions", name := "checkIndex", desc := "(IILjava/util/function/BiFunction;)I" } : Jvm.MethodName) prog_48_method_11_code (3 : Nat) (Option.some Jvm.ClassFile.FieldType.int)) ∈ lw_all := lw_g (lw_at lw_m3 36 rfl) rfl
theorem q876 : (Jvm.Cond.laysStatic "jdk/internal/util/Preconditions" "SIOOBE_FORMATTER" "Ljava/util/function/BiFunction;") ∈ lw_tbl := lw_at lw_m4 36 rfl
/-! java/lang/Math -/
set_option maxRecDepth 100000
def RJ8 : String := "java/lang/Math"
abbrev cJ8_min : ByteArray := prog_30_method_69_code
def yJ8_min : MethodName := ⟨RJ8, "min", "(II)I"⟩
def dkwJ8_min_0 : List UInt8 := [26, 27, 163, 0, 7, 26, 167, 0, 4, 27, 172]
abbrev dktJ8_min_0 : List UInt8 := dkwJ8_min_0 ++ []
theorem dksJ8_min_0 : cJ8_min.data.toList.drop 0 = dktJ8_min_0 := by decide +kernel
theorem dJ8_min_0 : decode cJ8_min 0 = .ok (.iload_n 0, 1) := dk_26 (dk_at dksJ8_min_0 0 rfl rfl)
theorem dJ8_min_1 : decode cJ8_min 1 = .ok (.iload_n 1, 1) := dk_27 (dk_at dksJ8_min_0 1 rfl rfl)
theorem dJ8_min_2 : decode cJ8_min 2 = .ok (.if_icmp .gt 7, 3) := dk_163 0 7 (dk_at dksJ8_min_0 2 rfl rfl)
theorem dJ8_min_5 : decode cJ8_min 5 = .ok (.iload_n 0, 1) := dk_26 (dk_at dksJ8_min_0 5 rfl rfl)
theorem dJ8_min_6 : decode cJ8_min 6 = .ok (.goto 4, 3) := dk_167 0 4 (dk_at dksJ8_min_0 6 rfl rfl)
theorem dJ8_min_9 : decode cJ8_min 9 = .ok (.iload_n 1, 1) := dk_27 (dk_at dksJ8_min_0 9 rfl rfl)
theorem dJ8_min_10 : decode cJ8_min 10 = .ok (.ireturn, 1) := dk_172 (dk_at dksJ8_min_0 10 rfl rfl)
abbrev cJ8_max : ByteArray := prog_30_method_65_code
def yJ8_max : MethodName := ⟨RJ8, "max", "(II)I"⟩
def dkwJ8_max_0 : List UInt8 := [26, 27, 161, 0, 7, 26, 167, 0, 4, 27, 172]
abbrev dktJ8_max_0 : List UInt8 := dkwJ8_max_0 ++ []
theorem dksJ8_max_0 : cJ8_max.data.toList.drop 0 = dktJ8_max_0 := by decide +kernel
theorem dJ8_max_0 : decode cJ8_max 0 = .ok (.iload_n 0, 1) := dk_26 (dk_at dksJ8_max_0 0 rfl rfl)
theorem dJ8_max_1 : decode cJ8_max 1 = .ok (.iload_n 1, 1) := dk_27 (dk_at dksJ8_max_0 1 rfl rfl)
theorem dJ8_max_2 : decode cJ8_max 2 = .ok (.if_icmp .lt 7, 3) := dk_161 0 7 (dk_at dksJ8_max_0 2 rfl rfl)
theorem dJ8_max_5 : decode cJ8_max 5 = .ok (.iload_n 0, 1) := dk_26 (dk_at dksJ8_max_0 5 rfl rfl)
theorem dJ8_max_6 : decode cJ8_max 6 = .ok (.goto 4, 3) := dk_167 0 4 (dk_at dksJ8_max_0 6 rfl rfl)
theorem dJ8_max_9 : decode cJ8_max 9 = .ok (.iload_n 1, 1) := dk_27 (dk_at dksJ8_max_0 9 rfl rfl)
theorem dJ8_max_10 : decode cJ8_max 10 = .ok (.ireturn, 1) := dk_172 (dk_at dksJ8_max_0 10 rfl rfl)
abbrev cJ8_min_2 : ByteArray := prog_30_method_70_code
def yJ8_min_2 : MethodName := ⟨RJ8, "min", "(JJ)J"⟩
def dkwJ8_min_2_0 : List UInt8 := [30, 32, 148, 157, 0, 7, 30, 167, 0, 4, 32, 173]
abbrev dktJ8_min_2_0 : List UInt8 := dkwJ8_min_2_0 ++ []
theorem dksJ8_min_2_0 : cJ8_min_2.data.toList.drop 0 = dktJ8_min_2_0 := by decide +kernel
theorem dJ8_min_2_0 : decode cJ8_min_2 0 = .ok (.lload_n 0, 1) := dk_30 (dk_at dksJ8_min_2_0 0 rfl rfl)
theorem dJ8_min_2_1 : decode cJ8_min_2 1 = .ok (.lload_n 2, 1) := dk_32 (dk_at dksJ8_min_2_0 1 rfl rfl)
theorem dJ8_min_2_2 : decode cJ8_min_2 2 = .ok (.lcmp, 1) := dk_148 (dk_at dksJ8_min_2_0 2 rfl rfl)
theorem dJ8_min_2_3 : decode cJ8_min_2 3 = .ok (.ifCond .gt 7, 3) := dk_157 0 7 (dk_at dksJ8_min_2_0 3 rfl rfl)
theorem dJ8_min_2_6 : decode cJ8_min_2 6 = .ok (.lload_n 0, 1) := dk_30 (dk_at dksJ8_min_2_0 6 rfl rfl)
theorem dJ8_min_2_7 : decode cJ8_min_2 7 = .ok (.goto 4, 3) := dk_167 0 4 (dk_at dksJ8_min_2_0 7 rfl rfl)
theorem dJ8_min_2_10 : decode cJ8_min_2 10 = .ok (.lload_n 2, 1) := dk_32 (dk_at dksJ8_min_2_0 10 rfl rfl)
theorem dJ8_min_2_11 : decode cJ8_min_2 11 = .ok (.lreturn, 1) := dk_173 (dk_at dksJ8_min_2_0 11 rfl rfl)
abbrev cJ8_max_2 : ByteArray := prog_30_method_66_code
def yJ8_max_2 : MethodName := ⟨RJ8, "max", "(JJ)J"⟩
def dkwJ8_max_2_0 : List UInt8 := [30, 32, 148, 155, 0, 7, 30, 167, 0, 4, 32, 173]
abbrev dktJ8_max_2_0 : List UInt8 := dkwJ8_max_2_0 ++ []
theorem dksJ8_max_2_0 : cJ8_max_2.data.toList.drop 0 = dktJ8_max_2_0 := by decide +kernel
theorem dJ8_max_2_0 : decode cJ8_max_2 0 = .ok (.lload_n 0, 1) := dk_30 (dk_at dksJ8_max_2_0 0 rfl rfl)
theorem dJ8_max_2_1 : decode cJ8_max_2 1 = .ok (.lload_n 2, 1) := dk_32 (dk_at dksJ8_max_2_0 1 rfl rfl)
theorem dJ8_max_2_2 : decode cJ8_max_2 2 = .ok (.lcmp, 1) := dk_148 (dk_at dksJ8_max_2_0 2 rfl rfl)
theorem dJ8_max_2_3 : decode cJ8_max_2 3 = .ok (.ifCond .lt 7, 3) := dk_155 0 7 (dk_at dksJ8_max_2_0 3 rfl rfl)
theorem dJ8_max_2_6 : decode cJ8_max_2 6 = .ok (.lload_n 0, 1) := dk_30 (dk_at dksJ8_max_2_0 6 rfl rfl)
theorem dJ8_max_2_7 : decode cJ8_max_2 7 = .ok (.goto 4, 3) := dk_167 0 4 (dk_at dksJ8_max_2_0 7 rfl rfl)
theorem dJ8_max_2_10 : decode cJ8_max_2 10 = .ok (.lload_n 2, 1) := dk_32 (dk_at dksJ8_max_2_0 10 rfl rfl)
theorem dJ8_max_2_11 : decode cJ8_max_2 11 = .ok (.lreturn, 1) := dk_173 (dk_at dksJ8_max_2_0 11 rfl rfl)
abbrev cJ8_abs : ByteArray := prog_30_method_59_code
def yJ8_abs : MethodName := ⟨RJ8, "abs", "(I)I"⟩
def dkwJ8_abs_0 : List UInt8 := [26, 156, 0, 8, 26, 116, 167, 0, 4, 26, 172]
abbrev dktJ8_abs_0 : List UInt8 := dkwJ8_abs_0 ++ []
theorem dksJ8_abs_0 : cJ8_abs.data.toList.drop 0 = dktJ8_abs_0 := by decide +kernel
theorem dJ8_abs_0 : decode cJ8_abs 0 = .ok (.iload_n 0, 1) := dk_26 (dk_at dksJ8_abs_0 0 rfl rfl)
theorem dJ8_abs_1 : decode cJ8_abs 1 = .ok (.ifCond .ge 8, 3) := dk_156 0 8 (dk_at dksJ8_abs_0 1 rfl rfl)
theorem dJ8_abs_4 : decode cJ8_abs 4 = .ok (.iload_n 0, 1) := dk_26 (dk_at dksJ8_abs_0 4 rfl rfl)
theorem dJ8_abs_5 : decode cJ8_abs 5 = .ok (.ineg, 1) := dk_116 (dk_at dksJ8_abs_0 5 rfl rfl)
theorem dJ8_abs_6 : decode cJ8_abs 6 = .ok (.goto 4, 3) := dk_167 0 4 (dk_at dksJ8_abs_0 6 rfl rfl)
theorem dJ8_abs_9 : decode cJ8_abs 9 = .ok (.iload_n 0, 1) := dk_26 (dk_at dksJ8_abs_0 9 rfl rfl)
theorem dJ8_abs_10 : decode cJ8_abs 10 = .ok (.ireturn, 1) := dk_172 (dk_at dksJ8_abs_0 10 rfl rfl)
theorem q135 : (Jvm.Cond.initialized "java/lang/Math") ∈ lw_all := lw_g (lw_at lw_m1 15 rfl) rfl
theorem q537 : (Jvm.Cond.static ({ cls := "java/lang/Math", name := "min", desc := "(II)I" } : Jvm.MethodName)) ∈ lw_all := lw_g (lw_at lw_m2 177 rfl) rfl
theorem q538 : (Jvm.Cond.code ({ cls := "java/lang/Math", name := "min", desc := "(II)I" } : Jvm.MethodName) prog_30_method_69_code (2 : Nat) (Option.some Jvm.ClassFile.FieldType.int)) ∈ lw_all := lw_g (lw_at lw_m2 178 rfl) rfl
theorem q550 : (Jvm.Cond.static ({ cls := "java/lang/Math", name := "max", desc := "(II)I" } : Jvm.MethodName)) ∈ lw_all := lw_g (lw_at lw_m2 190 rfl) rfl
theorem q551 : (Jvm.Cond.code ({ cls := "java/lang/Math", name := "max", desc := "(II)I" } : Jvm.MethodName) prog_30_method_65_code (2 : Nat) (Option.some Jvm.ClassFile.FieldType.int)) ∈ lw_all := lw_g (lw_at lw_m2 191 rfl) rfl
theorem q699 : (Jvm.Cond.static ({ cls := "java/lang/Math", name := "min", desc := "(JJ)J" } : Jvm.MethodName)) ∈ lw_all := lw_g (lw_at lw_m3 99 rfl) rfl
theorem q700 : (Jvm.Cond.code ({ cls := "java/lang/Math", name := "min", desc := "(JJ)J" } : Jvm.MethodName) prog_30_method_70_code (4 : Nat) (Option.some Jvm.ClassFile.FieldType.long)) ∈ lw_all := lw_g (lw_at lw_m3 100 rfl) rfl
theorem q702 : (Jvm.Cond.static ({ cls := "java/lang/Math", name := "max", desc := "(JJ)J" } : Jvm.MethodName)) ∈ lw_all := lw_g (lw_at lw_m3 102 rfl) rfl
theorem q703 : (Jvm.Cond.code ({ cls := "java/lang/Math", name := "max", desc := "(JJ)J" } : Jvm.MethodName) prog_30_method_66_code (4 : Nat) (Option.some Jvm.ClassFile.FieldType.long)) ∈ lw_all := lw_g (lw_at lw_m3 103 rfl) rfl
theorem q1366 : (Jvm.Cond.static ({ cls := "java/lang/Math", name := "abs", desc := "(I)I" } : Jvm.MethodName)) ∈ lw_all := lw_g (lw_at lw_m6 46 rfl) rfl
theorem q1367 : (Jvm.Cond.code ({ cls := "java/lang/Math", name := "abs", desc := "(I)I" } : Jvm.MethodName) prog_30_method_59_code (1 : Nat) (Option.some Jvm.ClassFile.FieldType.int)) ∈ lw_all := lw_g (lw_at lw_m6 47 rfl) rfl
/-! java/lang/String -/
set_option maxRecDepth 100000
def RJ9 : String := "java/lang/String"
abbrev cJ9_length : ByteArray := prog_31_method_54_code
def yJ9_length : MethodName := ⟨RJ9, "length", "()I"⟩
def dkwJ9_length_0 : List UInt8 := [42, 180, 0, 9, 190, 42, 182, 1, 79, 122, 172]
abbrev dktJ9_length_0 : List UInt8 := dkwJ9_length_0 ++ []
theorem dksJ9_length_0 : cJ9_length.data.toList.drop 0 = dktJ9_length_0 := by decide +kernel
theorem dJ9_length_0 : decode cJ9_length 0 = .ok (.aload_n 0, 1) := dk_42 (dk_at dksJ9_length_0 0 rfl rfl)
theorem dJ9_length_1 : decode cJ9_length 1 = .ok (.getfield 9, 3) := dk_180 0 9 (dk_at dksJ9_length_0 1 rfl rfl)
theorem dJ9_length_4 : decode cJ9_length 4 = .ok (.arraylength, 1) := dk_190 (dk_at dksJ9_length_0 4 rfl rfl)
theorem dJ9_length_5 : decode cJ9_length 5 = .ok (.aload_n 0, 1) := dk_42 (dk_at dksJ9_length_0 5 rfl rfl)
theorem dJ9_length_6 : decode cJ9_length 6 = .ok (.invokevirtual 335, 3) := dk_182 1 79 (dk_at dksJ9_length_0 6 rfl rfl)
theorem dJ9_length_9 : decode cJ9_length 9 = .ok (.ishr, 1) := dk_122 (dk_at dksJ9_length_0 9 rfl rfl)
theorem dJ9_length_10 : decode cJ9_length 10 = .ok (.ireturn, 1) := dk_172 (dk_at dksJ9_length_0 10 rfl rfl)
abbrev cJ9_coder : ByteArray := prog_31_method_152_code
def yJ9_coder : MethodName := ⟨RJ9, "coder", "()B"⟩
def dkwJ9_coder_0 : List UInt8 := [178, 0, 38, 153, 0, 10, 42, 180, 0, 15, 167, 0, 4, 4, 172]
abbrev dktJ9_coder_0 : List UInt8 := dkwJ9_coder_0 ++ []
theorem dksJ9_coder_0 : cJ9_coder.data.toList.drop 0 = dktJ9_coder_0 := by decide +kernel
theorem dJ9_coder_0 : decode cJ9_coder 0 = .ok (.getstatic 38, 3) := dk_178 0 38 (dk_at dksJ9_coder_0 0 rfl rfl)
theorem dJ9_coder_3 : decode cJ9_coder 3 = .ok (.ifCond .eq 10, 3) := dk_153 0 10 (dk_at dksJ9_coder_0 3 rfl rfl)
theorem dJ9_coder_6 : decode cJ9_coder 6 = .ok (.aload_n 0, 1) := dk_42 (dk_at dksJ9_coder_0 6 rfl rfl)
theorem dJ9_coder_7 : decode cJ9_coder 7 = .ok (.getfield 15, 3) := dk_180 0 15 (dk_at dksJ9_coder_0 7 rfl rfl)
theorem dJ9_coder_10 : decode cJ9_coder 10 = .ok (.goto 4, 3) := dk_167 0 4 (dk_at dksJ9_coder_0 10 rfl rfl)
theorem dJ9_coder_13 : decode cJ9_coder 13 = .ok (.iconst 1, 1) := dk_4 (dk_at dksJ9_coder_0 13 rfl rfl)
theorem dJ9_coder_14 : decode cJ9_coder 14 = .ok (.ireturn, 1) := dk_172 (dk_at dksJ9_coder_0 14 rfl rfl)
abbrev cJ9_charAt : ByteArray := prog_31_method_56_code
def yJ9_charAt : MethodName := ⟨RJ9, "charAt", "(I)C"⟩
def dkwJ9_charAt_1 : List UInt8 := [172]
abbrev dktJ9_charAt_1 : List UInt8 := dkwJ9_charAt_1 ++ []
def dkwJ9_charAt_0 : List UInt8 := [42, 182, 1, 236, 153, 0, 12, 42, 180, 0, 9, 27, 184, 1, 239, 172, 42, 180, 0, 9, 27, 184, 1, 242]
abbrev dktJ9_charAt_0 : List UInt8 := dkwJ9_charAt_0 ++ dktJ9_charAt_1
theorem dksJ9_charAt_0 : cJ9_charAt.data.toList.drop 0 = dktJ9_charAt_0 := by decide +kernel
theorem dksJ9_charAt_1 : cJ9_charAt.data.toList.drop 24 = dktJ9_charAt_1 := dk_seg dksJ9_charAt_0 24 rfl rfl
theorem dJ9_charAt_0 : decode cJ9_charAt 0 = .ok (.aload_n 0, 1) := dk_42 (dk_at dksJ9_charAt_0 0 rfl rfl)
theorem dJ9_charAt_1 : decode cJ9_charAt 1 = .ok (.invokevirtual 492, 3) := dk_182 1 236 (dk_at dksJ9_charAt_0 1 rfl rfl)
theorem dJ9_charAt_4 : decode cJ9_charAt 4 = .ok (.ifCond .eq 12, 3) := dk_153 0 12 (dk_at dksJ9_charAt_0 4 rfl rfl)
theorem dJ9_charAt_7 : decode cJ9_charAt 7 = .ok (.aload_n 0, 1) := dk_42 (dk_at dksJ9_charAt_0 7 rfl rfl)
theorem dJ9_charAt_8 : decode cJ9_charAt 8 = .ok (.getfield 9, 3) := dk_180 0 9 (dk_at dksJ9_charAt_0 8 rfl rfl)
theorem dJ9_charAt_11 : decode cJ9_charAt 11 = .ok (.iload_n 1, 1) := dk_27 (dk_at dksJ9_charAt_0 11 rfl rfl)
theorem dJ9_charAt_12 : decode cJ9_charAt 12 = .ok (.invokestatic 495, 3) := dk_184 1 239 (dk_at dksJ9_charAt_0 12 rfl rfl)
theorem dJ9_charAt_15 : decode cJ9_charAt 15 = .ok (.ireturn, 1) := dk_172 (dk_at dksJ9_charAt_0 15 rfl rfl)
theorem dJ9_charAt_16 : decode cJ9_charAt 16 = .ok (.aload_n 0, 1) := dk_42 (dk_at dksJ9_charAt_0 16 rfl rfl)
theorem dJ9_charAt_17 : decode cJ9_charAt 17 = .ok (.getfield 9, 3) := dk_180 0 9 (dk_at dksJ9_charAt_0 17 rfl rfl)
theorem dJ9_charAt_20 : decode cJ9_charAt 20 = .ok (.iload_n 1, 1) := dk_27 (dk_at dksJ9_charAt_0 20 rfl rfl)
theorem dJ9_charAt_21 : decode cJ9_charAt 21 = .ok (.invokestatic 498, 3) := dk_184 1 242 (dk_at dksJ9_charAt_0 21 rfl rfl)
theorem dJ9_charAt_24 : decode cJ9_charAt 24 = .ok (.ireturn, 1) := dk_172 (dk_at dksJ9_charAt_1 0 rfl rfl)
abbrev cJ9_isLatin1 : ByteArray := prog_31_method_154_code
def yJ9_isLatin1 : MethodName := ⟨RJ9, "isLatin1", "()Z"⟩
def dkwJ9_isLatin1_0 : List UInt8 := [178, 0, 38, 153, 0, 14, 42, 180, 0, 15, 154, 0, 7, 4, 167, 0, 4, 3, 172]
abbrev dktJ9_isLatin1_0 : List UInt8 := dkwJ9_isLatin1_0 ++ []
theorem dksJ9_isLatin1_0 : cJ9_isLatin1.data.toList.drop 0 = dktJ9_isLatin1_0 := by decide +kernel
theorem dJ9_isLatin1_0 : decode cJ9_isLatin1 0 = .ok (.getstatic 38, 3) := dk_178 0 38 (dk_at dksJ9_isLatin1_0 0 rfl rfl)
theorem dJ9_isLatin1_3 : decode cJ9_isLatin1 3 = .ok (.ifCond .eq 14, 3) := dk_153 0 14 (dk_at dksJ9_isLatin1_0 3 rfl rfl)
theorem dJ9_isLatin1_6 : decode cJ9_isLatin1 6 = .ok (.aload_n 0, 1) := dk_42 (dk_at dksJ9_isLatin1_0 6 rfl rfl)
theorem dJ9_isLatin1_7 : decode cJ9_isLatin1 7 = .ok (.getfield 15, 3) := dk_180 0 15 (dk_at dksJ9_isLatin1_0 7 rfl rfl)
theorem dJ9_isLatin1_10 : decode cJ9_isLatin1 10 = .ok (.ifCond .ne 7, 3) := dk_154 0 7 (dk_at dksJ9_isLatin1_0 10 rfl rfl)
theorem dJ9_isLatin1_13 : decode cJ9_isLatin1 13 = .ok (.iconst 1, 1) := dk_4 (dk_at dksJ9_isLatin1_0 13 rfl rfl)
theorem dJ9_isLatin1_14 : decode cJ9_isLatin1 14 = .ok (.goto 4, 3) := dk_167 0 4 (dk_at dksJ9_isLatin1_0 14 rfl rfl)
theorem dJ9_isLatin1_17 : decode cJ9_isLatin1 17 = .ok (.iconst 0, 1) := dk_3 (dk_at dksJ9_isLatin1_0 17 rfl rfl)
theorem dJ9_isLatin1_18 : decode cJ9_isLatin1 18 = .ok (.ireturn, 1) := dk_172 (dk_at dksJ9_isLatin1_0 18 rfl rfl)
abbrev cJ9_checkIndex : ByteArray := prog_31_method_155_code
def yJ9_checkIndex : MethodName := ⟨RJ9, "checkIndex", "(II)V"⟩
def dkwJ9_checkIndex_0 : List UInt8 := [26, 27, 178, 4, 29, 184, 4, 35, 87, 177]
abbrev dktJ9_checkIndex_0 : List UInt8 := dkwJ9_checkIndex_0 ++ []
theorem dksJ9_checkIndex_0 : cJ9_checkIndex.data.toList.drop 0 = dktJ9_checkIndex_0 := by decide +kernel
theorem dJ9_checkIndex_0 : decode cJ9_checkIndex 0 = .ok (.iload_n 0, 1) := dk_26 (dk_at dksJ9_checkIndex_0 0 rfl rfl)
theorem dJ9_checkIndex_1 : decode cJ9_checkIndex 1 = .ok (.iload_n 1, 1) := dk_27 (dk_at dksJ9_checkIndex_0 1 rfl rfl)
theorem dJ9_checkIndex_2 : decode cJ9_checkIndex 2 = .ok (.getstatic 1053, 3) := dk_178 4 29 (dk_at dksJ9_checkIndex_0 2 rfl rfl)
theorem dJ9_checkIndex_5 : decode cJ9_checkIndex 5 = .ok (.invokestatic 1059, 3) := dk_184 4 35 (dk_at dksJ9_checkIndex_0 5 rfl rfl)
theorem dJ9_checkIndex_8 : decode cJ9_checkIndex 8 = .ok (.pop, 1) := dk_87 (dk_at dksJ9_checkIndex_0 8 rfl rfl)
theorem dJ9_checkIndex_9 : decode cJ9_checkIndex 9 = .ok (.return_, 1) := dk_177 (dk_at dksJ9_checkIndex_0 9 rfl rfl)
theorem q138 : (Jvm.Cond.initialized "java/lang/String") ∈ lw_all := lw_g (lw_at lw_m1 18 rfl) rfl
theorem q852 : (Jvm.Cond.instanceMethod ({ cls := "java/lang/String", name := "length", desc := "()I" } : Jvm.MethodName)) ∈ lw_all := lw_g (lw_at lw_m4 12 rfl) rfl
theorem q853 : (Jvm.Cond.selects "java/lang/String" ({ cls := "java/lang/String", name := "length", desc := "()I" } : Jvm.MethodName) ({ cls := "java/lang/String", name := "length", desc := "()I" } : Jvm.MethodName)) ∈ lw_all := lw_g (lw_at lw_m4 13 rfl) rfl
theorem q854 : (Jvm.Cond.code ({ cls := "java/lang/String", name := "length", desc := "()I" } : Jvm.MethodName) prog_31_method_54_code (1 : Nat) (Option.some Jvm.ClassFile.FieldType.int)) ∈ lw_all := lw_g (lw_at lw_m4 14 rfl) rfl
theorem q855 : (Jvm.Cond.methodLink "java/lang/String" (335 : Nat) ({ cls := "java/lang/String", name := "coder", desc := "()B" } : Jvm.MethodName)) ∈ lw_all := lw_g (lw_at lw_m4 15 rfl) rfl
theorem q856 : (Jvm.Cond.instanceMethod ({ cls := "java/lang/String", name := "coder", desc := "()B" } : Jvm.MethodName)) ∈ lw_all := lw_g (lw_at lw_m4 16 rfl) rfl
theorem q857 : (Jvm.Cond.selects "java/lang/String" ({ cls := "java/lang/String", name := "coder", desc := "()B" } : Jvm.MethodName) ({ cls := "java/lang/String", name := "coder", desc := "()B" } : Jvm.MethodName)) ∈ lw_all := lw_g (lw_at lw_m4 17 rfl) rfl
theorem q858 : (Jvm.Cond.code ({ cls := "java/lang/String", name := "coder", desc := "()B" } : Jvm.MethodName) prog_31_method_152_code (1 : Nat) (Option.some Jvm.ClassFile.FieldType.byte)) ∈ lw_all := lw_g (lw_at lw_m4 18 rfl) rfl
theorem q859 : (Jvm.Cond.fieldLink "java/lang/String" (38 : Nat) "java/lang/String" "COMPACT_STRINGS" "Z") ∈ lw_all := lw_g (lw_at lw_m4 19 rfl) rfl
theorem q860 : (Jvm.Cond.laysStatic "java/lang/String" "COMPACT_STRINGS" "Z") ∈ lw_tbl := lw_at lw_m4 20 rfl
theorem q862 : (Jvm.Cond.instanceMethod ({ cls := "java/lang/String", name := "charAt", desc := "(I)C" } : Jvm.MethodName)) ∈ lw_all := lw_g (lw_at lw_m4 22 rfl) rfl
theorem q863 : (Jvm.Cond.selects "java/lang/String" ({ cls := "java/lang/String", name := "charAt", desc := "(I)C" } : Jvm.MethodName) ({ cls := "java/lang/String", name := "charAt", desc := "(I)C" } : Jvm.MethodName)) ∈ lw_all := lw_g (lw_at lw_m4 23 rfl) rfl
theorem q864 : (Jvm.Cond.code ({ cls := "java/lang/String", name := "charAt", desc := "(I)C" } : Jvm.MethodName) prog_31_method_56_code (2 : Nat) (Option.some Jvm.ClassFile.FieldType.char)) ∈ lw_all := lw_g (lw_at lw_m4 24 rfl) rfl
theorem q865 : (Jvm.Cond.methodLink "java/lang/String" (492 : Nat) ({ cls := "java/lang/String", name := "isLatin1", desc := "()Z" } : Jvm.MethodName)) ∈ lw_all := lw_g (lw_at lw_m4 25 rfl) rfl
theorem q866 : (Jvm.Cond.instanceMethod ({ cls := "java/lang/String", name := "isLatin1", desc := "()Z" } : Jvm.MethodName)) ∈ lw_all := lw_g (lw_at lw_m4 26 rfl) rfl
theorem q867 : (Jvm.Cond.selects "java/lang/String" ({ cls := "java/lang/String", name := "isLatin1", desc := "()Z" } : Jvm.MethodName) ({ cls := "java/lang/String", name := "isLatin1", desc := "()Z" } : Jvm.MethodName)) ∈ lw_all := lw_g (lw_at lw_m4 27 rfl) rfl
theorem q868 : (Jvm.Cond.code ({ cls := "java/lang/String", name := "isLatin1", desc := "()Z" } : Jvm.MethodName) prog_31_method_154_code (1 : Nat) (Option.some Jvm.ClassFile.FieldType.boolean)) ∈ lw_all := lw_g (lw_at lw_m4 28 rfl) rfl
theorem q869 : (Jvm.Cond.methodLink "java/lang/String" (495 : Nat) ({ cls := "java/lang/StringLatin1", name := "charAt", desc := "([BI)C" } : Jvm.MethodName)) ∈ lw_all := lw_g (lw_at lw_m4 29 rfl) rfl
theorem q873 : (Jvm.Cond.static ({ cls := "java/lang/String", name := "checkIndex", desc := "(II)V" } : Jvm.MethodName)) ∈ lw_all := lw_g (lw_at lw_m4 33 rfl) rfl
theorem q874 : (Jvm.Cond.code ({ cls := "java/lang/String", name := "checkIndex", desc := "(II)V" } : Jvm.MethodName) prog_31_method_155_code (2 : Nat) (Option.none : Option Jvm.ClassFile.FieldType)) ∈ lw_all := lw_g (lw_at lw_m4 34 rfl) rfl
theorem q875 : (Jvm.Cond.fieldLink "java/lang/String" (1053 : Nat) "jdk/internal/util/Preconditions" "SIOOBE_FORMATTER" "Ljava/util/function/BiFunction;") ∈ lw_all := lw_g (lw_at lw_m4 35 rfl) rfl
theorem q877 : (Jvm.Cond.methodLink "java/lang/String" (1059 : Nat) ({ cls := "jdk/internal/util/Preconditions", name := "checkIndex", desc := "(IILjava/util/function/BiFunction;)I" } : Jvm.MethodName)) ∈ lw_all := lw_g (lw_at lw_m4 37 rfl) rfl
theorem q878 : (Jvm.Cond.methodLink "java/lang/String" (498 : Nat) ({ cls := "java/lang/StringUTF16", name := "charAt", desc := "([BI)C" } : Jvm.MethodName)) ∈ lw_all := lw_g (lw_at lw_m4 38 rfl) rfl
theorem q2309 : (Jvm.Cond.castable "java/lang/String" "java/lang/Object") ∈ lw_tbl := lw_at lw_m10 29 rfl
theorem q2320 : (Jvm.Cond.fieldLink "java/lang/String" (9 : Nat) "java/lang/String" "value" "[B") ∈ lw_all := lw_g (lw_at lw_m10 40 rfl) rfl
theorem q2321 : (Jvm.Cond.fieldLink "java/lang/String" (15 : Nat) "java/lang/String" "coder" "B") ∈ lw_all := lw_g (lw_at lw_m10 41 rfl) rfl
/-! java/lang/StringLatin1 -/
set_option maxRecDepth 100000
def RJ10 : String := "java/lang/StringLatin1"
abbrev cJ10_charAt : ByteArray := prog_32_method_2_code
def yJ10_charAt : MethodName := ⟨RJ10, "charAt", "([BI)C"⟩
def dkwJ10_charAt_0 : List UInt8 := [27, 42, 190, 184, 0, 9, 42, 27, 51, 17, 0, 255, 126, 146, 172]
abbrev dktJ10_charAt_0 : List UInt8 := dkwJ10_charAt_0 ++ []
theorem dksJ10_charAt_0 : cJ10_charAt.data.toList.drop 0 = dktJ10_charAt_0 := by decide +kernel
theorem dJ10_charAt_0 : decode cJ10_charAt 0 = .ok (.iload_n 1, 1) := dk_27 (dk_at dksJ10_charAt_0 0 rfl rfl)
theorem dJ10_charAt_1 : decode cJ10_charAt 1 = .ok (.aload_n 0, 1) := dk_42 (dk_at dksJ10_charAt_0 1 rfl rfl)
theorem dJ10_charAt_2 : decode cJ10_charAt 2 = .ok (.arraylength, 1) := dk_190 (dk_at dksJ10_charAt_0 2 rfl rfl)
theorem dJ10_charAt_3 : decode cJ10_charAt 3 = .ok (.invokestatic 9, 3) := dk_184 0 9 (dk_at dksJ10_charAt_0 3 rfl rfl)
theorem dJ10_charAt_6 : decode cJ10_charAt 6 = .ok (.aload_n 0, 1) := dk_42 (dk_at dksJ10_charAt_0 6 rfl rfl)
theorem dJ10_charAt_7 : decode cJ10_charAt 7 = .ok (.iload_n 1, 1) := dk_27 (dk_at dksJ10_charAt_0 7 rfl rfl)
theorem dJ10_charAt_8 : decode cJ10_charAt 8 = .ok (.baload, 1) := dk_51 (dk_at dksJ10_charAt_0 8 rfl rfl)
theorem dJ10_charAt_9 : decode cJ10_charAt 9 = .ok (.sipush 255, 3) := dk_17 0 255 (dk_at dksJ10_charAt_0 9 rfl rfl)
theorem dJ10_charAt_12 : decode cJ10_charAt 12 = .ok (.iand, 1) := dk_126 (dk_at dksJ10_charAt_0 12 rfl rfl)
theorem dJ10_charAt_13 : decode cJ10_charAt 13 = .ok (.i2c, 1) := dk_146 (dk_at dksJ10_charAt_0 13 rfl rfl)
theorem dJ10_charAt_14 : decode cJ10_charAt 14 = .ok (.ireturn, 1) := dk_172 (dk_at dksJ10_charAt_0 14 rfl rfl)
theorem q139 : (Jvm.Cond.initialized "java/lang/StringLatin1") ∈ lw_all := lw_g (lw_at lw_m1 19 rfl) rfl
theorem q870 : (Jvm.Cond.static ({ cls := "java/lang/StringLatin1", name := "charAt", desc := "([BI)C" } : Jvm.MethodName)) ∈ lw_all := lw_g (lw_at lw_m4 30 rfl) rfl
theorem q871 : (Jvm.Cond.code ({ cls := "java/lang/StringLatin1", name := "charAt", desc := "([BI)C" } : Jvm.MethodName) prog_32_method_2_code (2 : Nat) (Option.some Jvm.ClassFile.FieldType.char)) ∈ lw_all := lw_g (lw_at lw_m4 31 rfl) rfl
theorem q872 : (Jvm.Cond.methodLink "java/lang/StringLatin1" (9 : Nat) ({ cls := "java/lang/String", name := "checkIndex", desc := "(II)V" } : Jvm.MethodName)) ∈ lw_all := lw_g (lw_at lw_m4 32 rfl) rfl
/-! java/lang/StringUTF16 -/
set_option maxRecDepth 100000
def RJ11 : String := "java/lang/StringUTF16"
abbrev cJ11_charAt : ByteArray := prog_33_method_83_code
def yJ11_charAt : MethodName := ⟨RJ11, "charAt", "([BI)C"⟩
def dkwJ11_charAt_0 : List UInt8 := [27, 42, 184, 0, 67, 42, 27, 184, 0, 71, 172]
abbrev dktJ11_charAt_0 : List UInt8 := dkwJ11_charAt_0 ++ []
theorem dksJ11_charAt_0 : cJ11_charAt.data.toList.drop 0 = dktJ11_charAt_0 := by decide +kernel
theorem dJ11_charAt_0 : decode cJ11_charAt 0 = .ok (.iload_n 1, 1) := dk_27 (dk_at dksJ11_charAt_0 0 rfl rfl)
theorem dJ11_charAt_1 : decode cJ11_charAt 1 = .ok (.aload_n 0, 1) := dk_42 (dk_at dksJ11_charAt_0 1 rfl rfl)
theorem dJ11_charAt_2 : decode cJ11_charAt 2 = .ok (.invokestatic 67, 3) := dk_184 0 67 (dk_at dksJ11_charAt_0 2 rfl rfl)
theorem dJ11_charAt_5 : decode cJ11_charAt 5 = .ok (.aload_n 0, 1) := dk_42 (dk_at dksJ11_charAt_0 5 rfl rfl)
theorem dJ11_charAt_6 : decode cJ11_charAt 6 = .ok (.iload_n 1, 1) := dk_27 (dk_at dksJ11_charAt_0 6 rfl rfl)
theorem dJ11_charAt_7 : decode cJ11_charAt 7 = .ok (.invokestatic 71, 3) := dk_184 0 71 (dk_at dksJ11_charAt_0 7 rfl rfl)
theorem dJ11_charAt_10 : decode cJ11_charAt 10 = .ok (.ireturn, 1) := dk_172 (dk_at dksJ11_charAt_0 10 rfl rfl)
abbrev cJ11_checkIndex : ByteArray := prog_33_method_91_code
def yJ11_checkIndex : MethodName := ⟨RJ11, "checkIndex", "(I[B)V"⟩
def dkwJ11_checkIndex_0 : List UInt8 := [26, 43, 184, 0, 48, 184, 1, 158, 177]
abbrev dktJ11_checkIndex_0 : List UInt8 := dkwJ11_checkIndex_0 ++ []
theorem dksJ11_checkIndex_0 : cJ11_checkIndex.data.toList.drop 0 = dktJ11_checkIndex_0 := by decide +kernel
theorem dJ11_checkIndex_0 : decode cJ11_checkIndex 0 = .ok (.iload_n 0, 1) := dk_26 (dk_at dksJ11_checkIndex_0 0 rfl rfl)
theorem dJ11_checkIndex_1 : decode cJ11_checkIndex 1 = .ok (.aload_n 1, 1) := dk_43 (dk_at dksJ11_checkIndex_0 1 rfl rfl)
theorem dJ11_checkIndex_2 : decode cJ11_checkIndex 2 = .ok (.invokestatic 48, 3) := dk_184 0 48 (dk_at dksJ11_checkIndex_0 2 rfl rfl)
theorem dJ11_checkIndex_5 : decode cJ11_checkIndex 5 = .ok (.invokestatic 414, 3) := dk_184 1 158 (dk_at dksJ11_checkIndex_0 5 rfl rfl)
theorem dJ11_checkIndex_8 : decode cJ11_checkIndex 8 = .ok (.return_, 1) := dk_177 (dk_at dksJ11_checkIndex_0 8 rfl rfl)
abbrev cJ11_length : ByteArray := prog_33_method_6_code
def yJ11_length : MethodName := ⟨RJ11, "length", "([B)I"⟩
def dkwJ11_length_0 : List UInt8 := [42, 190, 4, 122, 172]
abbrev dktJ11_length_0 : List UInt8 := dkwJ11_length_0 ++ []
theorem dksJ11_length_0 : cJ11_length.data.toList.drop 0 = dktJ11_length_0 := by decide +kernel
theorem dJ11_length_0 : decode cJ11_length 0 = .ok (.aload_n 0, 1) := dk_42 (dk_at dksJ11_length_0 0 rfl rfl)
theorem dJ11_length_1 : decode cJ11_length 1 = .ok (.arraylength, 1) := dk_190 (dk_at dksJ11_length_0 1 rfl rfl)
theorem dJ11_length_2 : decode cJ11_length 2 = .ok (.iconst 1, 1) := dk_4 (dk_at dksJ11_length_0 2 rfl rfl)
theorem dJ11_length_3 : decode cJ11_length 3 = .ok (.ishr, 1) := dk_122 (dk_at dksJ11_length_0 3 rfl rfl)
theorem dJ11_length_4 : decode cJ11_length 4 = .ok (.ireturn, 1) := dk_172 (dk_at dksJ11_length_0 4 rfl rfl)
abbrev cJ11_getChar : ByteArray := prog_33_method_5_code
def yJ11_getChar : MethodName := ⟨RJ11, "getChar", "([BI)C"⟩
def dkwJ11_getChar_2 : List UInt8 := [51, 17, 0, 255, 126, 178, 0, 63, 120, 128, 146, 172]
abbrev dktJ11_getChar_2 : List UInt8 := dkwJ11_getChar_2 ++ []
def dkwJ11_getChar_1 : List UInt8 := [183, 0, 56, 191, 27, 4, 120, 60, 42, 27, 132, 1, 1, 51, 17, 0, 255, 126, 178, 0, 59, 120, 42, 27]
abbrev dktJ11_getChar_1 : List UInt8 := dkwJ11_getChar_1 ++ dktJ11_getChar_2
def dkwJ11_getChar_0 : List UInt8 := [178, 0, 44, 154, 0, 25, 27, 155, 0, 11, 27, 42, 184, 0, 48, 161, 0, 13, 187, 0, 52, 89, 18, 54]
abbrev dktJ11_getChar_0 : List UInt8 := dkwJ11_getChar_0 ++ dktJ11_getChar_1
theorem dksJ11_getChar_0 : cJ11_getChar.data.toList.drop 0 = dktJ11_getChar_0 := by decide +kernel
theorem dksJ11_getChar_1 : cJ11_getChar.data.toList.drop 24 = dktJ11_getChar_1 := dk_seg dksJ11_getChar_0 24 rfl rfl
theorem dksJ11_getChar_2 : cJ11_getChar.data.toList.drop 48 = dktJ11_getChar_2 := dk_seg dksJ11_getChar_1 24 rfl rfl
theorem dJ11_getChar_0 : decode cJ11_getChar 0 = .ok (.getstatic 44, 3) := dk_178 0 44 (dk_at dksJ11_getChar_0 0 rfl rfl)
theorem dJ11_getChar_3 : decode cJ11_getChar 3 = .ok (.ifCond .ne 25, 3) := dk_154 0 25 (dk_at dksJ11_getChar_0 3 rfl rfl)
theorem dJ11_getChar_6 : decode cJ11_getChar 6 = .ok (.iload_n 1, 1) := dk_27 (dk_at dksJ11_getChar_0 6 rfl rfl)
theorem dJ11_getChar_7 : decode cJ11_getChar 7 = .ok (.ifCond .lt 11, 3) := dk_155 0 11 (dk_at dksJ11_getChar_0 7 rfl rfl)
theorem dJ11_getChar_10 : decode cJ11_getChar 10 = .ok (.iload_n 1, 1) := dk_27 (dk_at dksJ11_getChar_0 10 rfl rfl)
theorem dJ11_getChar_11 : decode cJ11_getChar 11 = .ok (.aload_n 0, 1) := dk_42 (dk_at dksJ11_getChar_0 11 rfl rfl)
theorem dJ11_getChar_12 : decode cJ11_getChar 12 = .ok (.invokestatic 48, 3) := dk_184 0 48 (dk_at dksJ11_getChar_0 12 rfl rfl)
theorem dJ11_getChar_15 : decode cJ11_getChar 15 = .ok (.if_icmp .lt 13, 3) := dk_161 0 13 (dk_at dksJ11_getChar_0 15 rfl rfl)
theorem dJ11_getChar_18 : decode cJ11_getChar 18 = .ok (.new 52, 3) := dk_187 0 52 (dk_at dksJ11_getChar_0 18 rfl rfl)
theorem dJ11_getChar_21 : decode cJ11_getChar 21 = .ok (.dup, 1) := dk_89 (dk_at dksJ11_getChar_0 21 rfl rfl)
theorem dJ11_getChar_22 : decode cJ11_getChar 22 = .ok (.ldc 54, 2) := dk_18 54 (dk_at dksJ11_getChar_0 22 rfl rfl)
theorem dJ11_getChar_24 : decode cJ11_getChar 24 = .ok (.invokespecial 56, 3) := dk_183 0 56 (dk_at dksJ11_getChar_1 0 rfl rfl)
theorem dJ11_getChar_27 : decode cJ11_getChar 27 = .ok (.athrow, 1) := dk_191 (dk_at dksJ11_getChar_1 3 rfl rfl)
theorem dJ11_getChar_28 : decode cJ11_getChar 28 = .ok (.iload_n 1, 1) := dk_27 (dk_at dksJ11_getChar_1 4 rfl rfl)
theorem dJ11_getChar_29 : decode cJ11_getChar 29 = .ok (.iconst 1, 1) := dk_4 (dk_at dksJ11_getChar_1 5 rfl rfl)
theorem dJ11_getChar_30 : decode cJ11_getChar 30 = .ok (.ishl, 1) := dk_120 (dk_at dksJ11_getChar_1 6 rfl rfl)
theorem dJ11_getChar_31 : decode cJ11_getChar 31 = .ok (.istore_n 1, 1) := dk_60 (dk_at dksJ11_getChar_1 7 rfl rfl)
theorem dJ11_getChar_32 : decode cJ11_getChar 32 = .ok (.aload_n 0, 1) := dk_42 (dk_at dksJ11_getChar_1 8 rfl rfl)
theorem dJ11_getChar_33 : decode cJ11_getChar 33 = .ok (.iload_n 1, 1) := dk_27 (dk_at dksJ11_getChar_1 9 rfl rfl)
theorem dJ11_getChar_34 : decode cJ11_getChar 34 = .ok (.iinc 1 1, 3) := dk_132 1 1 (dk_at dksJ11_getChar_1 10 rfl rfl)
theorem dJ11_getChar_37 : decode cJ11_getChar 37 = .ok (.baload, 1) := dk_51 (dk_at dksJ11_getChar_1 13 rfl rfl)
theorem dJ11_getChar_38 : decode cJ11_getChar 38 = .ok (.sipush 255, 3) := dk_17 0 255 (dk_at dksJ11_getChar_1 14 rfl rfl)
theorem dJ11_getChar_41 : decode cJ11_getChar 41 = .ok (.iand, 1) := dk_126 (dk_at dksJ11_getChar_1 17 rfl rfl)
theorem dJ11_getChar_42 : decode cJ11_getChar 42 = .ok (.getstatic 59, 3) := dk_178 0 59 (dk_at dksJ11_getChar_1 18 rfl rfl)
theorem dJ11_getChar_45 : decode cJ11_getChar 45 = .ok (.ishl, 1) := dk_120 (dk_at dksJ11_getChar_1 21 rfl rfl)
theorem dJ11_getChar_46 : decode cJ11_getChar 46 = .ok (.aload_n 0, 1) := dk_42 (dk_at dksJ11_getChar_1 22 rfl rfl)
theorem dJ11_getChar_47 : decode cJ11_getChar 47 = .ok (.iload_n 1, 1) := dk_27 (dk_at dksJ11_getChar_1 23 rfl rfl)
theorem dJ11_getChar_48 : decode cJ11_getChar 48 = .ok (.baload, 1) := dk_51 (dk_at dksJ11_getChar_2 0 rfl rfl)
theorem dJ11_getChar_49 : decode cJ11_getChar 49 = .ok (.sipush 255, 3) := dk_17 0 255 (dk_at dksJ11_getChar_2 1 rfl rfl)
theorem dJ11_getChar_52 : decode cJ11_getChar 52 = .ok (.iand, 1) := dk_126 (dk_at dksJ11_getChar_2 4 rfl rfl)
theorem dJ11_getChar_53 : decode cJ11_getChar 53 = .ok (.getstatic 63, 3) := dk_178 0 63 (dk_at dksJ11_getChar_2 5 rfl rfl)
theorem dJ11_getChar_56 : decode cJ11_getChar 56 = .ok (.ishl, 1) := dk_120 (dk_at dksJ11_getChar_2 8 rfl rfl)
theorem dJ11_getChar_57 : decode cJ11_getChar 57 = .ok (.ior, 1) := dk_128 (dk_at dksJ11_getChar_2 9 rfl rfl)
theorem dJ11_getChar_58 : decode cJ11_getChar 58 = .ok (.i2c, 1) := dk_146 (dk_at dksJ11_getChar_2 10 rfl rfl)
theorem dJ11_getChar_59 : decode cJ11_getChar 59 = .ok (.ireturn, 1) := dk_172 (dk_at dksJ11_getChar_2 11 rfl rfl)
theorem q140 : (Jvm.Cond.initialized "java/lang/StringUTF16") ∈ lw_all := lw_g (lw_at lw_m1 20 rfl) rfl
theorem q879 : (Jvm.Cond.static ({ cls := "java/lang/StringUTF16", name := "charAt", desc := "([BI)C" } : Jvm.MethodName)) ∈ lw_all := lw_g (lw_at lw_m4 39 rfl) rfl
theorem q880 : (Jvm.Cond.code ({ cls := "java/lang/StringUTF16", name := "charAt", desc := "([BI)C" } : Jvm.MethodName) prog_33_method_83_code (2 : Nat) (Option.some Jvm.ClassFile.FieldType.char)) ∈ lw_all := lw_g (lw_at lw_m4 40 rfl) rfl
theorem q881 : (Jvm.Cond.methodLink "java/lang/StringUTF16" (67 : Nat) ({ cls := "java/lang/StringUTF16", name := "checkIndex", desc := "(I[B)V" } : Jvm.MethodName)) ∈ lw_all := lw_g (lw_at lw_m4 41 rfl) rfl
theorem q882 : (Jvm.Cond.static ({ cls := "java/lang/StringUTF16", name := "checkIndex", desc := "(I[B)V" } : Jvm.MethodName)) ∈ lw_all := lw_g (lw_at lw_m4 42 rfl) rfl
theorem q883 : (Jvm.Cond.code ({ cls := "java/lang/StringUTF16", name := "checkIndex", desc := "(I[B)V" } : Jvm.MethodName) prog_33_method_91_code (2 : Nat) (Option.none : Option Jvm.ClassFile.FieldType)) ∈ lw_all := lw_g (lw_at lw_m4 43 rfl) rfl
theorem q884 : (Jvm.Cond.methodLink "java/lang/StringUTF16" (48 : Nat) ({ cls := "java/lang/StringUTF16", name := "length", desc := "([B)I" } : Jvm.MethodName)) ∈ lw_all := lw_g (lw_at lw_m4 44 rfl) rfl
theorem q885 : (Jvm.Cond.static ({ cls := "java/lang/StringUTF16", name := "length", desc := "([B)I" } : Jvm.MethodName)) ∈ lw_all := lw_g (lw_at lw_m4 45 rfl) rfl
theorem q886 : (Jvm.Cond.code ({ cls := "java/lang/StringUTF16", name := "length", desc := "([B)I" } : Jvm.MethodName) prog_33_method_6_code (1 : Nat) (Option.some Jvm.ClassFile.FieldType.int)) ∈ lw_all := lw_g (lw_at lw_m4 46 rfl) rfl
theorem q887 : (Jvm.Cond.methodLink "java/lang/StringUTF16" (414 : Nat) ({ cls := "java/lang/String", name := "checkIndex", desc := "(II)V" } : Jvm.MethodName)) ∈ lw_all := lw_g (lw_at lw_m4 47 rfl) rfl
theorem q888 : (Jvm.Cond.methodLink "java/lang/StringUTF16" (71 : Nat) ({ cls := "java/lang/StringUTF16", name := "getChar", desc := "([BI)C" } : Jvm.MethodName)) ∈ lw_all := lw_g (lw_at lw_m4 48 rfl) rfl
theorem q889 : (Jvm.Cond.static ({ cls := "java/lang/StringUTF16", name := "getChar", desc := "([BI)C" } : Jvm.MethodName)) ∈ lw_all := lw_g (lw_at lw_m4 49 rfl) rfl
theorem q890 : (Jvm.Cond.code ({ cls := "java/lang/StringUTF16", name := "getChar", desc := "([BI)C" } : Jvm.MethodName) prog_33_method_5_code (2 : Nat) (Option.some Jvm.ClassFile.FieldType.char)) ∈ lw_all := lw_g (lw_at lw_m4 50 rfl) rfl
theorem q891 : (Jvm.Cond.fieldLink "java/lang/StringUTF16" (44 : Nat) "java/lang/StringUTF16" "$assertionsDisabled" "Z") ∈ lw_all := lw_g (lw_at lw_m4 51 rfl) rfl
theorem q892 : (Jvm.Cond.laysStatic "java/lang/StringUTF16" "$assertionsDisabled" "Z") ∈ lw_tbl := lw_at lw_m4 52 rfl
theorem q893 : (Jvm.Cond.fieldLink "java/lang/StringUTF16" (59 : Nat) "java/lang/StringUTF16" "HI_BYTE_SHIFT" "I") ∈ lw_all := lw_g (lw_at lw_m4 53 rfl) rfl
theorem q894 : (Jvm.Cond.laysStatic "java/lang/StringUTF16" "HI_BYTE_SHIFT" "I") ∈ lw_tbl := lw_at lw_m4 54 rfl
theorem q895 : (Jvm.Cond.fieldLink "java/lang/StringUTF16" (63 : Nat) "java/lang/StringUTF16" "LO_BYTE_SHIFT" "I") ∈ lw_all := lw_g (lw_at lw_m4 55 rfl) rfl
theorem q896 : (Jvm.Cond.laysStatic "java/lang/StringUTF16" "LO_BYTE_SHIFT" "I") ∈ lw_tbl := lw_at lw_m4 56 rfl
/-! jdk/internal/util/ArraysSupport -/
set_option maxRecDepth 100000
def RJ12 : String := "jdk/internal/util/ArraysSupport"
abbrev cJ12_newLength : ByteArray := prog_47_method_27_code
def yJ12_newLength : MethodName := ⟨RJ12, "newLength", "(III)I"⟩
def dkwJ12_newLength_1 : List UInt8 := [184, 0, 201, 172]
abbrev dktJ12_newLength_1 : List UInt8 := dkwJ12_newLength_1 ++ []
def dkwJ12_newLength_0 : List UInt8 := [26, 27, 28, 184, 0, 194, 96, 62, 3, 29, 162, 0, 11, 29, 18, 200, 163, 0, 5, 29, 172, 26, 27]
abbrev dktJ12_newLength_0 : List UInt8 := dkwJ12_newLength_0 ++ dktJ12_newLength_1
theorem dksJ12_newLength_0 : cJ12_newLength.data.toList.drop 0 = dktJ12_newLength_0 := by decide +kernel
theorem dksJ12_newLength_1 : cJ12_newLength.data.toList.drop 23 = dktJ12_newLength_1 := dk_seg dksJ12_newLength_0 23 rfl rfl
theorem dJ12_newLength_0 : decode cJ12_newLength 0 = .ok (.iload_n 0, 1) := dk_26 (dk_at dksJ12_newLength_0 0 rfl rfl)
theorem dJ12_newLength_1 : decode cJ12_newLength 1 = .ok (.iload_n 1, 1) := dk_27 (dk_at dksJ12_newLength_0 1 rfl rfl)
theorem dJ12_newLength_2 : decode cJ12_newLength 2 = .ok (.iload_n 2, 1) := dk_28 (dk_at dksJ12_newLength_0 2 rfl rfl)
theorem dJ12_newLength_3 : decode cJ12_newLength 3 = .ok (.invokestatic 194, 3) := dk_184 0 194 (dk_at dksJ12_newLength_0 3 rfl rfl)
theorem dJ12_newLength_6 : decode cJ12_newLength 6 = .ok (.iadd, 1) := dk_96 (dk_at dksJ12_newLength_0 6 rfl rfl)
theorem dJ12_newLength_7 : decode cJ12_newLength 7 = .ok (.istore_n 3, 1) := dk_62 (dk_at dksJ12_newLength_0 7 rfl rfl)
theorem dJ12_newLength_8 : decode cJ12_newLength 8 = .ok (.iconst 0, 1) := dk_3 (dk_at dksJ12_newLength_0 8 rfl rfl)
theorem dJ12_newLength_9 : decode cJ12_newLength 9 = .ok (.iload_n 3, 1) := dk_29 (dk_at dksJ12_newLength_0 9 rfl rfl)
theorem dJ12_newLength_10 : decode cJ12_newLength 10 = .ok (.if_icmp .ge 11, 3) := dk_162 0 11 (dk_at dksJ12_newLength_0 10 rfl rfl)
theorem dJ12_newLength_13 : decode cJ12_newLength 13 = .ok (.iload_n 3, 1) := dk_29 (dk_at dksJ12_newLength_0 13 rfl rfl)
theorem dJ12_newLength_14 : decode cJ12_newLength 14 = .ok (.ldc 200, 2) := dk_18 200 (dk_at dksJ12_newLength_0 14 rfl rfl)
theorem dJ12_newLength_16 : decode cJ12_newLength 16 = .ok (.if_icmp .gt 5, 3) := dk_163 0 5 (dk_at dksJ12_newLength_0 16 rfl rfl)
theorem dJ12_newLength_19 : decode cJ12_newLength 19 = .ok (.iload_n 3, 1) := dk_29 (dk_at dksJ12_newLength_0 19 rfl rfl)
theorem dJ12_newLength_20 : decode cJ12_newLength 20 = .ok (.ireturn, 1) := dk_172 (dk_at dksJ12_newLength_0 20 rfl rfl)
theorem dJ12_newLength_21 : decode cJ12_newLength 21 = .ok (.iload_n 0, 1) := dk_26 (dk_at dksJ12_newLength_0 21 rfl rfl)
theorem dJ12_newLength_22 : decode cJ12_newLength 22 = .ok (.iload_n 1, 1) := dk_27 (dk_at dksJ12_newLength_0 22 rfl rfl)
theorem dJ12_newLength_23 : decode cJ12_newLength 23 = .ok (.invokestatic 201, 3) := dk_184 0 201 (dk_at dksJ12_newLength_1 0 rfl rfl)
theorem dJ12_newLength_26 : decode cJ12_newLength 26 = .ok (.ireturn, 1) := dk_172 (dk_at dksJ12_newLength_1 3 rfl rfl)
abbrev cJ12_hugeLength : ByteArray := prog_47_method_28_code
def yJ12_hugeLength : MethodName := ⟨RJ12, "hugeLength", "(II)I"⟩
def dkwJ12_hugeLength_2 : List UInt8 := [191, 28, 18, 200, 163, 0, 6, 18, 200, 172, 28, 172]
abbrev dktJ12_hugeLength_2 : List UInt8 := dkwJ12_hugeLength_2 ++ []
def dkwJ12_hugeLength_1 : List UInt8 := [26, 182, 0, 98, 18, 208, 182, 0, 94, 27, 182, 0, 98, 18, 210, 182, 0, 94, 182, 0, 101, 183, 0, 212]
abbrev dktJ12_hugeLength_1 : List UInt8 := dkwJ12_hugeLength_1 ++ dktJ12_hugeLength_2
def dkwJ12_hugeLength_0 : List UInt8 := [26, 27, 96, 61, 28, 156, 0, 44, 187, 0, 204, 89, 187, 0, 89, 89, 183, 0, 91, 18, 206, 182, 0, 94]
abbrev dktJ12_hugeLength_0 : List UInt8 := dkwJ12_hugeLength_0 ++ dktJ12_hugeLength_1
theorem dksJ12_hugeLength_0 : cJ12_hugeLength.data.toList.drop 0 = dktJ12_hugeLength_0 := by decide +kernel
theorem dksJ12_hugeLength_1 : cJ12_hugeLength.data.toList.drop 24 = dktJ12_hugeLength_1 := dk_seg dksJ12_hugeLength_0 24 rfl rfl
theorem dksJ12_hugeLength_2 : cJ12_hugeLength.data.toList.drop 48 = dktJ12_hugeLength_2 := dk_seg dksJ12_hugeLength_1 24 rfl rfl
theorem dJ12_hugeLength_0 : decode cJ12_hugeLength 0 = .ok (.iload_n 0, 1) := dk_26 (dk_at dksJ12_hugeLength_0 0 rfl rfl)
theorem dJ12_hugeLength_1 : decode cJ12_hugeLength 1 = .ok (.iload_n 1, 1) := dk_27 (dk_at dksJ12_hugeLength_0 1 rfl rfl)
theorem dJ12_hugeLength_2 : decode cJ12_hugeLength 2 = .ok (.iadd, 1) := dk_96 (dk_at dksJ12_hugeLength_0 2 rfl rfl)
theorem dJ12_hugeLength_3 : decode cJ12_hugeLength 3 = .ok (.istore_n 2, 1) := dk_61 (dk_at dksJ12_hugeLength_0 3 rfl rfl)
theorem dJ12_hugeLength_4 : decode cJ12_hugeLength 4 = .ok (.iload_n 2, 1) := dk_28 (dk_at dksJ12_hugeLength_0 4 rfl rfl)
theorem dJ12_hugeLength_5 : decode cJ12_hugeLength 5 = .ok (.ifCond .ge 44, 3) := dk_156 0 44 (dk_at dksJ12_hugeLength_0 5 rfl rfl)
theorem dJ12_hugeLength_8 : decode cJ12_hugeLength 8 = .ok (.new 204, 3) := dk_187 0 204 (dk_at dksJ12_hugeLength_0 8 rfl rfl)
theorem dJ12_hugeLength_11 : decode cJ12_hugeLength 11 = .ok (.dup, 1) := dk_89 (dk_at dksJ12_hugeLength_0 11 rfl rfl)
theorem dJ12_hugeLength_12 : decode cJ12_hugeLength 12 = .ok (.new 89, 3) := dk_187 0 89 (dk_at dksJ12_hugeLength_0 12 rfl rfl)
theorem dJ12_hugeLength_15 : decode cJ12_hugeLength 15 = .ok (.dup, 1) := dk_89 (dk_at dksJ12_hugeLength_0 15 rfl rfl)
theorem dJ12_hugeLength_16 : decode cJ12_hugeLength 16 = .ok (.invokespecial 91, 3) := dk_183 0 91 (dk_at dksJ12_hugeLength_0 16 rfl rfl)
theorem dJ12_hugeLength_19 : decode cJ12_hugeLength 19 = .ok (.ldc 206, 2) := dk_18 206 (dk_at dksJ12_hugeLength_0 19 rfl rfl)
theorem dJ12_hugeLength_21 : decode cJ12_hugeLength 21 = .ok (.invokevirtual 94, 3) := dk_182 0 94 (dk_at dksJ12_hugeLength_0 21 rfl rfl)
theorem dJ12_hugeLength_24 : decode cJ12_hugeLength 24 = .ok (.iload_n 0, 1) := dk_26 (dk_at dksJ12_hugeLength_1 0 rfl rfl)
theorem dJ12_hugeLength_25 : decode cJ12_hugeLength 25 = .ok (.invokevirtual 98, 3) := dk_182 0 98 (dk_at dksJ12_hugeLength_1 1 rfl rfl)
theorem dJ12_hugeLength_28 : decode cJ12_hugeLength 28 = .ok (.ldc 208, 2) := dk_18 208 (dk_at dksJ12_hugeLength_1 4 rfl rfl)
theorem dJ12_hugeLength_30 : decode cJ12_hugeLength 30 = .ok (.invokevirtual 94, 3) := dk_182 0 94 (dk_at dksJ12_hugeLength_1 6 rfl rfl)
theorem dJ12_hugeLength_33 : decode cJ12_hugeLength 33 = .ok (.iload_n 1, 1) := dk_27 (dk_at dksJ12_hugeLength_1 9 rfl rfl)
theorem dJ12_hugeLength_34 : decode cJ12_hugeLength 34 = .ok (.invokevirtual 98, 3) := dk_182 0 98 (dk_at dksJ12_hugeLength_1 10 rfl rfl)
theorem dJ12_hugeLength_37 : decode cJ12_hugeLength 37 = .ok (.ldc 210, 2) := dk_18 210 (dk_at dksJ12_hugeLength_1 13 rfl rfl)
theorem dJ12_hugeLength_39 : decode cJ12_hugeLength 39 = .ok (.invokevirtual 94, 3) := dk_182 0 94 (dk_at dksJ12_hugeLength_1 15 rfl rfl)
theorem dJ12_hugeLength_42 : decode cJ12_hugeLength 42 = .ok (.invokevirtual 101, 3) := dk_182 0 101 (dk_at dksJ12_hugeLength_1 18 rfl rfl)
theorem dJ12_hugeLength_45 : decode cJ12_hugeLength 45 = .ok (.invokespecial 212, 3) := dk_183 0 212 (dk_at dksJ12_hugeLength_1 21 rfl rfl)
theorem dJ12_hugeLength_48 : decode cJ12_hugeLength 48 = .ok (.athrow, 1) := dk_191 (dk_at dksJ12_hugeLength_2 0 rfl rfl)
theorem dJ12_hugeLength_49 : decode cJ12_hugeLength 49 = .ok (.iload_n 2, 1) := dk_28 (dk_at dksJ12_hugeLength_2 1 rfl rfl)
theorem dJ12_hugeLength_50 : decode cJ12_hugeLength 50 = .ok (.ldc 200, 2) := dk_18 200 (dk_at dksJ12_hugeLength_2 2 rfl rfl)
theorem dJ12_hugeLength_52 : decode cJ12_hugeLength 52 = .ok (.if_icmp .gt 6, 3) := dk_163 0 6 (dk_at dksJ12_hugeLength_2 4 rfl rfl)
theorem dJ12_hugeLength_55 : decode cJ12_hugeLength 55 = .ok (.ldc 200, 2) := dk_18 200 (dk_at dksJ12_hugeLength_2 7 rfl rfl)
theorem dJ12_hugeLength_57 : decode cJ12_hugeLength 57 = .ok (.ireturn, 1) := dk_172 (dk_at dksJ12_hugeLength_2 9 rfl rfl)
theorem dJ12_hugeLength_58 : decode cJ12_hugeLength 58 = .ok (.iload_n 2, 1) := dk_28 (dk_at dksJ12_hugeLength_2 10 rfl rfl)
theorem dJ12_hugeLength_59 : decode cJ12_hugeLength 59 = .ok (.ireturn, 1) := dk_172 (dk_at dksJ12_hugeLength_2 11 rfl rfl)
theorem q151 : (Jvm.Cond.initialized "jdk/internal/util/ArraysSupport") ∈ lw_all := lw_g (lw_at lw_m1 31 rfl) rfl
theorem q547 : (Jvm.Cond.static ({ cls := "jdk/internal/util/ArraysSupport", name := "newLength", desc := "(III)I" } : Jvm.MethodName)) ∈ lw_all := lw_g (lw_at lw_m2 187 rfl) rfl
theorem q548 : (Jvm.Cond.code ({ cls := "jdk/internal/util/ArraysSupport", name := "newLength", desc := "(III)I" } : Jvm.MethodName) prog_47_method_27_code (4 : Nat) (Option.some Jvm.ClassFile.FieldType.int)) ∈ lw_all := lw_g (lw_at lw_m2 188 rfl) rfl
theorem q549 : (Jvm.Cond.methodLink "jdk/internal/util/ArraysSupport" (194 : Nat) ({ cls := "java/lang/Math", name := "max", desc := "(II)I" } : Jvm.MethodName)) ∈ lw_all := lw_g (lw_at lw_m2 189 rfl) rfl
theorem q552 : (Jvm.Cond.constant "jdk/internal/util/ArraysSupport" (200 : Nat) (2147483639 : Int32)) ∈ lw_all := lw_g (lw_at lw_m2 192 rfl) rfl
theorem q553 : (Jvm.Cond.methodLink "jdk/internal/util/ArraysSupport" (201 : Nat) ({ cls := "jdk/internal/util/ArraysSupport", name := "hugeLength", desc := "(II)I" } : Jvm.MethodName)) ∈ lw_all := lw_g (lw_at lw_m2 193 rfl) rfl
theorem q554 : (Jvm.Cond.static ({ cls := "jdk/internal/util/ArraysSupport", name := "hugeLength", desc := "(II)I" } : Jvm.MethodName)) ∈ lw_all := lw_g (lw_at lw_m2 194 rfl) rfl
theorem q555 : (Jvm.Cond.code ({ cls := "jdk/internal/util/ArraysSupport", name := "hugeLength", desc := "(II)I" } : Jvm.MethodName) prog_47_method_28_code (3 : Nat) (Option.some Jvm.ClassFile.FieldType.int)) ∈ lw_all := lw_g (lw_at lw_m2 195 rfl) rfl
/-! java/util/Arrays -/
set_option maxRecDepth 100000
def RJ13 : String := "java/util/Arrays"
abbrev cJ13_copyOf : ByteArray := prog_41_method_119_code
def yJ13_copyOf : MethodName := ⟨RJ13, "copyOf", "([Ljava/lang/Object;I)[Ljava/lang/Object;"⟩
def dkwJ13_copyOf_0 : List UInt8 := [42, 27, 42, 182, 0, 86, 184, 1, 44, 176]
abbrev dktJ13_copyOf_0 : List UInt8 := dkwJ13_copyOf_0 ++ []
theorem dksJ13_copyOf_0 : cJ13_copyOf.data.toList.drop 0 = dktJ13_copyOf_0 := by decide +kernel
theorem dJ13_copyOf_0 : decode cJ13_copyOf 0 = .ok (.aload_n 0, 1) := dk_42 (dk_at dksJ13_copyOf_0 0 rfl rfl)
theorem dJ13_copyOf_1 : decode cJ13_copyOf 1 = .ok (.iload_n 1, 1) := dk_27 (dk_at dksJ13_copyOf_0 1 rfl rfl)
theorem dJ13_copyOf_2 : decode cJ13_copyOf 2 = .ok (.aload_n 0, 1) := dk_42 (dk_at dksJ13_copyOf_0 2 rfl rfl)
theorem dJ13_copyOf_3 : decode cJ13_copyOf 3 = .ok (.invokevirtual 86, 3) := dk_182 0 86 (dk_at dksJ13_copyOf_0 3 rfl rfl)
theorem dJ13_copyOf_6 : decode cJ13_copyOf 6 = .ok (.invokestatic 300, 3) := dk_184 1 44 (dk_at dksJ13_copyOf_0 6 rfl rfl)
theorem dJ13_copyOf_9 : decode cJ13_copyOf 9 = .ok (.areturn, 1) := dk_176 (dk_at dksJ13_copyOf_0 9 rfl rfl)
abbrev cJ13_copyOf_2 : ByteArray := prog_41_method_120_code
def yJ13_copyOf_2 : MethodName := ⟨RJ13, "copyOf", "([Ljava/lang/Object;ILjava/lang/Class;)[Ljava/lang/Object;"⟩
def dkwJ13_copyOf_2_1 : List UInt8 := [78, 42, 3, 45, 3, 42, 190, 27, 184, 1, 48, 184, 0, 150, 45, 176]
abbrev dktJ13_copyOf_2_1 : List UInt8 := dkwJ13_copyOf_2_1 ++ []
def dkwJ13_copyOf_2_0 : List UInt8 := [44, 18, 110, 166, 0, 10, 27, 189, 0, 2, 167, 0, 14, 44, 182, 0, 90, 27, 184, 0, 95, 192, 0, 110]
abbrev dktJ13_copyOf_2_0 : List UInt8 := dkwJ13_copyOf_2_0 ++ dktJ13_copyOf_2_1
theorem dksJ13_copyOf_2_0 : cJ13_copyOf_2.data.toList.drop 0 = dktJ13_copyOf_2_0 := by decide +kernel
theorem dksJ13_copyOf_2_1 : cJ13_copyOf_2.data.toList.drop 24 = dktJ13_copyOf_2_1 := dk_seg dksJ13_copyOf_2_0 24 rfl rfl
theorem dJ13_copyOf_2_0 : decode cJ13_copyOf_2 0 = .ok (.aload_n 2, 1) := dk_44 (dk_at dksJ13_copyOf_2_0 0 rfl rfl)
theorem dJ13_copyOf_2_1 : decode cJ13_copyOf_2 1 = .ok (.ldc 110, 2) := dk_18 110 (dk_at dksJ13_copyOf_2_0 1 rfl rfl)
theorem dJ13_copyOf_2_3 : decode cJ13_copyOf_2 3 = .ok (.if_acmp .ne 10, 3) := dk_166 0 10 (dk_at dksJ13_copyOf_2_0 3 rfl rfl)
theorem dJ13_copyOf_2_6 : decode cJ13_copyOf_2 6 = .ok (.iload_n 1, 1) := dk_27 (dk_at dksJ13_copyOf_2_0 6 rfl rfl)
theorem dJ13_copyOf_2_7 : decode cJ13_copyOf_2 7 = .ok (.anewarray 2, 3) := dk_189 0 2 (dk_at dksJ13_copyOf_2_0 7 rfl rfl)
theorem dJ13_copyOf_2_10 : decode cJ13_copyOf_2 10 = .ok (.goto 14, 3) := dk_167 0 14 (dk_at dksJ13_copyOf_2_0 10 rfl rfl)
theorem dJ13_copyOf_2_13 : decode cJ13_copyOf_2 13 = .ok (.aload_n 2, 1) := dk_44 (dk_at dksJ13_copyOf_2_0 13 rfl rfl)
theorem dJ13_copyOf_2_14 : decode cJ13_copyOf_2 14 = .ok (.invokevirtual 90, 3) := dk_182 0 90 (dk_at dksJ13_copyOf_2_0 14 rfl rfl)
theorem dJ13_copyOf_2_17 : decode cJ13_copyOf_2 17 = .ok (.iload_n 1, 1) := dk_27 (dk_at dksJ13_copyOf_2_0 17 rfl rfl)
theorem dJ13_copyOf_2_18 : decode cJ13_copyOf_2 18 = .ok (.invokestatic 95, 3) := dk_184 0 95 (dk_at dksJ13_copyOf_2_0 18 rfl rfl)
theorem dJ13_copyOf_2_21 : decode cJ13_copyOf_2 21 = .ok (.checkcast 110, 3) := dk_192 0 110 (dk_at dksJ13_copyOf_2_0 21 rfl rfl)
theorem dJ13_copyOf_2_24 : decode cJ13_copyOf_2 24 = .ok (.astore_n 3, 1) := dk_78 (dk_at dksJ13_copyOf_2_1 0 rfl rfl)
theorem dJ13_copyOf_2_25 : decode cJ13_copyOf_2 25 = .ok (.aload_n 0, 1) := dk_42 (dk_at dksJ13_copyOf_2_1 1 rfl rfl)
theorem dJ13_copyOf_2_26 : decode cJ13_copyOf_2 26 = .ok (.iconst 0, 1) := dk_3 (dk_at dksJ13_copyOf_2_1 2 rfl rfl)
theorem dJ13_copyOf_2_27 : decode cJ13_copyOf_2 27 = .ok (.aload_n 3, 1) := dk_45 (dk_at dksJ13_copyOf_2_1 3 rfl rfl)
theorem dJ13_copyOf_2_28 : decode cJ13_copyOf_2 28 = .ok (.iconst 0, 1) := dk_3 (dk_at dksJ13_copyOf_2_1 4 rfl rfl)
theorem dJ13_copyOf_2_29 : decode cJ13_copyOf_2 29 = .ok (.aload_n 0, 1) := dk_42 (dk_at dksJ13_copyOf_2_1 5 rfl rfl)
theorem dJ13_copyOf_2_30 : decode cJ13_copyOf_2 30 = .ok (.arraylength, 1) := dk_190 (dk_at dksJ13_copyOf_2_1 6 rfl rfl)
theorem dJ13_copyOf_2_31 : decode cJ13_copyOf_2 31 = .ok (.iload_n 1, 1) := dk_27 (dk_at dksJ13_copyOf_2_1 7 rfl rfl)
theorem dJ13_copyOf_2_32 : decode cJ13_copyOf_2 32 = .ok (.invokestatic 304, 3) := dk_184 1 48 (dk_at dksJ13_copyOf_2_1 8 rfl rfl)
theorem dJ13_copyOf_2_35 : decode cJ13_copyOf_2 35 = .ok (.invokestatic 150, 3) := dk_184 0 150 (dk_at dksJ13_copyOf_2_1 11 rfl rfl)
theorem dJ13_copyOf_2_38 : decode cJ13_copyOf_2 38 = .ok (.aload_n 3, 1) := dk_45 (dk_at dksJ13_copyOf_2_1 14 rfl rfl)
theorem dJ13_copyOf_2_39 : decode cJ13_copyOf_2 39 = .ok (.areturn, 1) := dk_176 (dk_at dksJ13_copyOf_2_1 15 rfl rfl)
theorem q152 : (Jvm.Cond.initialized "java/util/Arrays") ∈ lw_all := lw_g (lw_at lw_m1 32 rfl) rfl
theorem q506 : (Jvm.Cond.static ({ cls := "java/util/Arrays", name := "copyOf", desc := "([Ljava/lang/Object;I)[Ljava/lang/Object;" } : Jvm.MethodName)) ∈ lw_all := lw_g (lw_at lw_m2 146 rfl) rfl
theorem q507 : (Jvm.Cond.code ({ cls := "java/util/Arrays", name := "copyOf", desc := "([Ljava/lang/Object;I)[Ljava/lang/Object;" } : Jvm.MethodName) prog_41_method_119_code (2 : Nat) (Option.some (Jvm.ClassFile.FieldType.array (Jvm.ClassFile.FieldType.object "java/lang/Object")))) ∈ lw_all := lw_g (lw_at lw_m2 147 rfl) rfl
theorem q508 : (Jvm.Cond.methodLink "java/util/Arrays" (86 : Nat) ({ cls := "java/lang/Object", name := "getClass", desc := "()Ljava/lang/Class;" } : Jvm.MethodName)) ∈ lw_all := lw_g (lw_at lw_m2 148 rfl) rfl
theorem q531 : (Jvm.Cond.methodLink "java/util/Arrays" (300 : Nat) ({ cls := "java/util/Arrays", name := "copyOf", desc := "([Ljava/lang/Object;ILjava/lang/Class;)[Ljava/lang/Object;" } : Jvm.MethodName)) ∈ lw_all := lw_g (lw_at lw_m2 171 rfl) rfl
theorem q532 : (Jvm.Cond.static ({ cls := "java/util/Arrays", name := "copyOf", desc := "([Ljava/lang/Object;ILjava/lang/Class;)[Ljava/lang/Object;" } : Jvm.MethodName)) ∈ lw_all := lw_g (lw_at lw_m2 172 rfl) rfl
theorem q533 : (Jvm.Cond.code ({ cls := "java/util/Arrays", name := "copyOf", desc := "([Ljava/lang/Object;ILjava/lang/Class;)[Ljava/lang/Object;" } : Jvm.MethodName) prog_41_method_120_code (4 : Nat) (Option.some (Jvm.ClassFile.FieldType.array (Jvm.ClassFile.FieldType.object "java/lang/Object")))) ∈ lw_all := lw_g (lw_at lw_m2 173 rfl) rfl
theorem q534 : (Jvm.Cond.classLink "java/util/Arrays" (110 : Nat) "[Ljava/lang/Object;") ∈ lw_all := lw_g (lw_at lw_m2 174 rfl) rfl
theorem q535 : (Jvm.Cond.classLink "java/util/Arrays" (2 : Nat) "java/lang/Object") ∈ lw_all := lw_g (lw_at lw_m2 175 rfl) rfl
theorem q536 : (Jvm.Cond.methodLink "java/util/Arrays" (304 : Nat) ({ cls := "java/lang/Math", name := "min", desc := "(II)I" } : Jvm.MethodName)) ∈ lw_all := lw_g (lw_at lw_m2 176 rfl) rfl
theorem q539 : (Jvm.Cond.methodLink "java/util/Arrays" (150 : Nat) ({ cls := "java/lang/System", name := "arraycopy", desc := "(Ljava/lang/Object;ILjava/lang/Object;II)V" } : Jvm.MethodName)) ∈ lw_all := lw_g (lw_at lw_m2 179 rfl) rfl
/-! java/lang/Object -/
set_option maxRecDepth 100000
def RJ14 : String := "java/lang/Object"
abbrev cJ14_init : ByteArray := object_method_1_code
def yJ14_init : MethodName := ⟨RJ14, "<init>", "()V"⟩
theorem dJ14_init_0 : decode cJ14_init 0 = .ok (.return_, 1) := by decide +kernel
theorem q163 : (Jvm.Cond.instanceMethod ({ cls := "java/lang/Object", name := "<init>", desc := "()V" } : Jvm.MethodName)) ∈ lw_all := lw_g (lw_at lw_m1 43 rfl) rfl
theorem q164 : (Jvm.Cond.code ({ cls := "java/lang/Object", name := "<init>", desc := "()V" } : Jvm.MethodName) object_method_1_code (1 : Nat) (Option.none : Option Jvm.ClassFile.FieldType)) ∈ lw_all := lw_g (lw_at lw_m1 44 rfl) rfl
theorem q509 : (Jvm.Cond.instanceMethod ({ cls := "java/lang/Object", name := "getClass", desc := "()Ljava/lang/Class;" } : Jvm.MethodName)) ∈ lw_all := lw_g (lw_at lw_m2 149 rfl) rfl
theorem q510 : (Jvm.Cond.sameMethod "java/lang/Object" "java/lang/Object" "getClass" "()Ljava/lang/Class;") ∈ lw_all := lw_g (lw_at lw_m2 150 rfl) rfl
theorem q530 : (Jvm.Cond.native ({ cls := "java/lang/Object", name := "getClass", desc := "()Ljava/lang/Class;" } : Jvm.MethodName)) ∈ lw_all := lw_g (lw_at lw_m2 170 rfl) rfl
theorem q2285 : (Jvm.Cond.initialized "java/lang/Object") ∈ lw_all := lw_g (lw_at lw_m10 5 rfl) rfl
theorem q2312 : (Jvm.Cond.declares ({ cls := "java/lang/Object", name := "getClass", desc := "()Ljava/lang/Class;" } : Jvm.MethodName)) ∈ lw_tbl := lw_at lw_m10 32 rfl
theorem q120 : (Jvm.Cond.initialized "DowryBoxesLaw") ∈ lw_all := lw_g (lw_at lw_m1 0 rfl) rfl
set_option maxRecDepth 100000
theorem q157 : (Jvm.Cond.classLink "DowryBoxesLaw" (7 : Nat) "DowryBoxes") ∈ lw_all := lw_g (lw_at lw_m1 37 rfl) rfl
theorem q159 : (Jvm.Cond.methodLink "DowryBoxesLaw" (9 : Nat) ({ cls := "DowryBoxes", name := "<init>", desc := "()V" } : Jvm.MethodName)) ∈ lw_all := lw_g (lw_at lw_m1 39 rfl) rfl
theorem q461 : (Jvm.Cond.methodLink "DowryBoxesLaw" (172 : Nat) ({ cls := "DowryBoxes", name := "image", desc := "(I)I" } : Jvm.MethodName)) ∈ lw_all := lw_g (lw_at lw_m2 101 rfl) rfl
theorem q562 : (Jvm.Cond.methodLink "DowryBoxesLaw" (176 : Nat) ({ cls := "DowryBoxes", name := "back", desc := "(I)I" } : Jvm.MethodName)) ∈ lw_all := lw_g (lw_at lw_m2 202 rfl) rfl
theorem q570 : (Jvm.Cond.methodLink "DowryBoxesLaw" (13 : Nat) ({ cls := "DowryBoxes", name := "box", desc := "(I)I" } : Jvm.MethodName)) ∈ lw_all := lw_g (lw_at lw_m2 210 rfl) rfl
theorem q578 : (Jvm.Cond.methodLink "DowryBoxesLaw" (18 : Nat) ({ cls := "DowryBoxes", name := "of", desc := "(II)I" } : Jvm.MethodName)) ∈ lw_all := lw_g (lw_at lw_m2 218 rfl) rfl
theorem q708 : (Jvm.Cond.methodLink "DowryBoxesLaw" (23 : Nat) ({ cls := "DowryBoxes", name := "pins", desc := "(III)I" } : Jvm.MethodName)) ∈ lw_all := lw_g (lw_at lw_m3 108 rfl) rfl
theorem q718 : (Jvm.Cond.methodLink "DowryBoxesLaw" (28 : Nat) ({ cls := "DowryBoxes", name := "suitor", desc := "(II)I" } : Jvm.MethodName)) ∈ lw_all := lw_g (lw_at lw_m3 118 rfl) rfl
theorem q725 : (Jvm.Cond.methodLink "DowryBoxesLaw" (32 : Nat) ({ cls := "DowryBoxes", name := "at", desc := "(II)I" } : Jvm.MethodName)) ∈ lw_all := lw_g (lw_at lw_m3 125 rfl) rfl
theorem q737 : (Jvm.Cond.methodLink "DowryBoxesLaw" (36 : Nat) ({ cls := "DowryBoxes", name := "asks", desc := "(III)I" } : Jvm.MethodName)) ∈ lw_all := lw_g (lw_at lw_m3 137 rfl) rfl
theorem q749 : (Jvm.Cond.methodLink "DowryBoxesLaw" (40 : Nat) ({ cls := "DowryBoxes", name := "terms", desc := "(II)I" } : Jvm.MethodName)) ∈ lw_all := lw_g (lw_at lw_m3 149 rfl) rfl
theorem q753 : (Jvm.Cond.methodLink "DowryBoxesLaw" (44 : Nat) ({ cls := "DowryBoxes", name := "feed", desc := "(IIIII)I" } : Jvm.MethodName)) ∈ lw_all := lw_g (lw_at lw_m3 153 rfl) rfl
theorem q761 : (Jvm.Cond.methodLink "DowryBoxesLaw" (49 : Nat) ({ cls := "DowryBoxes", name := "end", desc := "(I)I" } : Jvm.MethodName)) ∈ lw_all := lw_g (lw_at lw_m3 161 rfl) rfl
theorem q765 : (Jvm.Cond.methodLink "DowryBoxesLaw" (53 : Nat) ({ cls := "DowryBoxes", name := "row", desc := "()I" } : Jvm.MethodName)) ∈ lw_all := lw_g (lw_at lw_m3 165 rfl) rfl
theorem q769 : (Jvm.Cond.methodLink "DowryBoxesLaw" (58 : Nat) ({ cls := "DowryBoxes", name := "rust", desc := "()I" } : Jvm.MethodName)) ∈ lw_all := lw_g (lw_at lw_m3 169 rfl) rfl
theorem q773 : (Jvm.Cond.methodLink "DowryBoxesLaw" (62 : Nat) ({ cls := "DowryBoxes", name := "law", desc := "()I" } : Jvm.MethodName)) ∈ lw_all := lw_g (lw_at lw_m3 173 rfl) rfl
theorem q1257 : (Jvm.Cond.methodLink "DowryBoxesLaw" (70 : Nat) ({ cls := "DowryBoxes", name := "fault", desc := "()I" } : Jvm.MethodName)) ∈ lw_all := lw_g (lw_at lw_m5 177 rfl) rfl
theorem q1261 : (Jvm.Cond.methodLink "DowryBoxesLaw" (74 : Nat) ({ cls := "DowryBoxes", name := "stopped", desc := "()I" } : Jvm.MethodName)) ∈ lw_all := lw_g (lw_at lw_m5 181 rfl) rfl
theorem q1265 : (Jvm.Cond.methodLink "DowryBoxesLaw" (78 : Nat) ({ cls := "DowryBoxes", name := "force", desc := "(I)I" } : Jvm.MethodName)) ∈ lw_all := lw_g (lw_at lw_m5 185 rfl) rfl
theorem q1273 : (Jvm.Cond.methodLink "DowryBoxesLaw" (82 : Nat) ({ cls := "DowryBoxes", name := "pull", desc := "(III)I" } : Jvm.MethodName)) ∈ lw_all := lw_g (lw_at lw_m5 193 rfl) rfl
theorem q1290 : (Jvm.Cond.methodLink "DowryBoxesLaw" (86 : Nat) ({ cls := "DowryBoxes", name := "snap", desc := "(II)I" } : Jvm.MethodName)) ∈ lw_all := lw_g (lw_at lw_m5 210 rfl) rfl
theorem q1298 : (Jvm.Cond.methodLink "DowryBoxesLaw" (90 : Nat) ({ cls := "DowryBoxes", name := "wed", desc := "(II)I" } : Jvm.MethodName)) ∈ lw_all := lw_g (lw_at lw_m5 218 rfl) rfl
theorem q1314 : (Jvm.Cond.methodLink "DowryBoxesLaw" (94 : Nat) ({ cls := "DowryBoxes", name := "pass", desc := "()I" } : Jvm.MethodName)) ∈ lw_all := lw_g (lw_at lw_m5 234 rfl) rfl
theorem q1327 : (Jvm.Cond.methodLink "DowryBoxesLaw" (98 : Nat) ({ cls := "DowryBoxes", name := "undo", desc := "()I" } : Jvm.MethodName)) ∈ lw_all := lw_g (lw_at lw_m6 7 rfl) rfl
theorem q1331 : (Jvm.Cond.methodLink "DowryBoxesLaw" (102 : Nat) ({ cls := "DowryBoxes", name := "hear", desc := "(III)I" } : Jvm.MethodName)) ∈ lw_all := lw_g (lw_at lw_m6 11 rfl) rfl
theorem q1335 : (Jvm.Cond.methodLink "DowryBoxesLaw" (106 : Nat) ({ cls := "DowryBoxes", name := "forget", desc := "()I" } : Jvm.MethodName)) ∈ lw_all := lw_g (lw_at lw_m6 15 rfl) rfl
theorem q1339 : (Jvm.Cond.methodLink "DowryBoxesLaw" (110 : Nat) ({ cls := "DowryBoxes", name := "which", desc := "()I" } : Jvm.MethodName)) ∈ lw_all := lw_g (lw_at lw_m6 19 rfl) rfl
theorem q1347 : (Jvm.Cond.methodLink "DowryBoxesLaw" (114 : Nat) ({ cls := "DowryBoxes", name := "listen", desc := "(I)I" } : Jvm.MethodName)) ∈ lw_all := lw_g (lw_at lw_m6 27 rfl) rfl
theorem q1353 : (Jvm.Cond.methodLink "DowryBoxesLaw" (118 : Nat) ({ cls := "DowryBoxes", name := "steady", desc := "(I)I" } : Jvm.MethodName)) ∈ lw_all := lw_g (lw_at lw_m6 33 rfl) rfl
theorem q1376 : (Jvm.Cond.methodLink "DowryBoxesLaw" (122 : Nat) ({ cls := "DowryBoxes", name := "about", desc := "(II)I" } : Jvm.MethodName)) ∈ lw_all := lw_g (lw_at lw_m6 56 rfl) rfl
theorem q1396 : (Jvm.Cond.methodLink "DowryBoxesLaw" (126 : Nat) ({ cls := "DowryBoxes", name := "keep", desc := "(III)I" } : Jvm.MethodName)) ∈ lw_all := lw_g (lw_at lw_m6 76 rfl) rfl
theorem q1409 : (Jvm.Cond.methodLink "DowryBoxesLaw" (130 : Nat) ({ cls := "DowryBoxes", name := "clash", desc := "(III)I" } : Jvm.MethodName)) ∈ lw_all := lw_g (lw_at lw_m6 89 rfl) rfl
theorem q1424 : (Jvm.Cond.methodLink "DowryBoxesLaw" (134 : Nat) ({ cls := "DowryBoxes", name := "best", desc := "(III)I" } : Jvm.MethodName)) ∈ lw_all := lw_g (lw_at lw_m6 104 rfl) rfl
theorem q1428 : (Jvm.Cond.methodLink "DowryBoxesLaw" (138 : Nat) ({ cls := "DowryBoxes", name := "filed", desc := "(IIII)I" } : Jvm.MethodName)) ∈ lw_all := lw_g (lw_at lw_m6 108 rfl) rfl
theorem q1436 : (Jvm.Cond.methodLink "DowryBoxesLaw" (143 : Nat) ({ cls := "DowryBoxes", name := "shares", desc := "(II)I" } : Jvm.MethodName)) ∈ lw_all := lw_g (lw_at lw_m6 116 rfl) rfl
theorem q1445 : (Jvm.Cond.methodLink "DowryBoxesLaw" (147 : Nat) ({ cls := "DowryBoxes", name := "again", desc := "(II)I" } : Jvm.MethodName)) ∈ lw_all := lw_g (lw_at lw_m6 125 rfl) rfl
theorem q1449 : (Jvm.Cond.methodLink "DowryBoxesLaw" (151 : Nat) ({ cls := "DowryBoxes", name := "ends", desc := "(I)I" } : Jvm.MethodName)) ∈ lw_all := lw_g (lw_at lw_m6 129 rfl) rfl
theorem q1453 : (Jvm.Cond.methodLink "DowryBoxesLaw" (155 : Nat) ({ cls := "DowryBoxes", name := "stands", desc := "(II)J" } : Jvm.MethodName)) ∈ lw_all := lw_g (lw_at lw_m6 133 rfl) rfl
theorem q1459 : (Jvm.Cond.methodLink "DowryBoxesLaw" (160 : Nat) ({ cls := "DowryBoxes", name := "compare", desc := "(I)I" } : Jvm.MethodName)) ∈ lw_all := lw_g (lw_at lw_m6 139 rfl) rfl
theorem q1463 : (Jvm.Cond.methodLink "DowryBoxesLaw" (66 : Nat) ({ cls := "DowryBoxes", name := "orders", desc := "()I" } : Jvm.MethodName)) ∈ lw_all := lw_g (lw_at lw_m6 143 rfl) rfl
theorem q1515 : (Jvm.Cond.methodLink "DowryBoxesLaw" (164 : Nat) ({ cls := "DowryBoxes", name := "generations", desc := "(II)I" } : Jvm.MethodName)) ∈ lw_all := lw_g (lw_at lw_m6 195 rfl) rfl
theorem q1526 : (Jvm.Cond.methodLink "DowryBoxesLaw" (168 : Nat) ({ cls := "DowryBoxes", name := "drawn", desc := "(II)I" } : Jvm.MethodName)) ∈ lw_all := lw_g (lw_at lw_m6 206 rfl) rfl
theorem q1530 : (Jvm.Cond.methodLink "DowryBoxesLaw" (180 : Nat) ({ cls := "DowryBoxes", name := "count", desc := "(I)I" } : Jvm.MethodName)) ∈ lw_all := lw_g (lw_at lw_m6 210 rfl) rfl
theorem q1534 : (Jvm.Cond.methodLink "DowryBoxesLaw" (184 : Nat) ({ cls := "DowryBoxes", name := "status", desc := "()I" } : Jvm.MethodName)) ∈ lw_all := lw_g (lw_at lw_m6 214 rfl) rfl
theorem q1538 : (Jvm.Cond.classLink "DowryBoxesLaw" (10 : Nat) "DowryBoxesModel") ∈ lw_all := lw_g (lw_at lw_m6 218 rfl) rfl
theorem q1540 : (Jvm.Cond.methodLink "DowryBoxesLaw" (12 : Nat) ({ cls := "DowryBoxesModel", name := "<init>", desc := "()V" } : Jvm.MethodName)) ∈ lw_all := lw_g (lw_at lw_m6 220 rfl) rfl
theorem q1756 : (Jvm.Cond.methodLink "DowryBoxesLaw" (101 : Nat) ({ cls := "DowryBoxesModel", name := "undo", desc := "()I" } : Jvm.MethodName)) ∈ lw_all := lw_g (lw_at lw_m7 196 rfl) rfl
theorem q1768 : (Jvm.Cond.methodLink "DowryBoxesLaw" (175 : Nat) ({ cls := "DowryBoxesModel", name := "image", desc := "(I)I" } : Jvm.MethodName)) ∈ lw_all := lw_g (lw_at lw_m7 208 rfl) rfl
theorem q1775 : (Jvm.Cond.methodLink "DowryBoxesLaw" (179 : Nat) ({ cls := "DowryBoxesModel", name := "back", desc := "(I)I" } : Jvm.MethodName)) ∈ lw_all := lw_g (lw_at lw_m7 215 rfl) rfl
theorem q1783 : (Jvm.Cond.methodLink "DowryBoxesLaw" (17 : Nat) ({ cls := "DowryBoxesModel", name := "box", desc := "(I)I" } : Jvm.MethodName)) ∈ lw_all := lw_g (lw_at lw_m7 223 rfl) rfl
theorem q1788 : (Jvm.Cond.methodLink "DowryBoxesLaw" (22 : Nat) ({ cls := "DowryBoxesModel", name := "of", desc := "(II)I" } : Jvm.MethodName)) ∈ lw_all := lw_g (lw_at lw_m7 228 rfl) rfl
theorem q1842 : (Jvm.Cond.methodLink "DowryBoxesLaw" (27 : Nat) ({ cls := "DowryBoxesModel", name := "pins", desc := "(III)I" } : Jvm.MethodName)) ∈ lw_all := lw_g (lw_at lw_m8 42 rfl) rfl
theorem q1855 : (Jvm.Cond.methodLink "DowryBoxesLaw" (31 : Nat) ({ cls := "DowryBoxesModel", name := "suitor", desc := "(II)I" } : Jvm.MethodName)) ∈ lw_all := lw_g (lw_at lw_m8 55 rfl) rfl
theorem q1863 : (Jvm.Cond.methodLink "DowryBoxesLaw" (35 : Nat) ({ cls := "DowryBoxesModel", name := "at", desc := "(II)I" } : Jvm.MethodName)) ∈ lw_all := lw_g (lw_at lw_m8 63 rfl) rfl
theorem q1875 : (Jvm.Cond.methodLink "DowryBoxesLaw" (39 : Nat) ({ cls := "DowryBoxesModel", name := "asks", desc := "(III)I" } : Jvm.MethodName)) ∈ lw_all := lw_g (lw_at lw_m8 75 rfl) rfl
theorem q1887 : (Jvm.Cond.methodLink "DowryBoxesLaw" (43 : Nat) ({ cls := "DowryBoxesModel", name := "terms", desc := "(II)I" } : Jvm.MethodName)) ∈ lw_all := lw_g (lw_at lw_m8 87 rfl) rfl
theorem q1894 : (Jvm.Cond.methodLink "DowryBoxesLaw" (57 : Nat) ({ cls := "DowryBoxesModel", name := "row", desc := "()I" } : Jvm.MethodName)) ∈ lw_all := lw_g (lw_at lw_m8 94 rfl) rfl
theorem q1898 : (Jvm.Cond.methodLink "DowryBoxesLaw" (61 : Nat) ({ cls := "DowryBoxesModel", name := "rust", desc := "()I" } : Jvm.MethodName)) ∈ lw_all := lw_g (lw_at lw_m8 98 rfl) rfl
theorem q1902 : (Jvm.Cond.methodLink "DowryBoxesLaw" (48 : Nat) ({ cls := "DowryBoxesModel", name := "feed", desc := "(IIIII)I" } : Jvm.MethodName)) ∈ lw_all := lw_g (lw_at lw_m8 102 rfl) rfl
theorem q1910 : (Jvm.Cond.methodLink "DowryBoxesLaw" (52 : Nat) ({ cls := "DowryBoxesModel", name := "end", desc := "(I)I" } : Jvm.MethodName)) ∈ lw_all := lw_g (lw_at lw_m8 110 rfl) rfl
theorem q1914 : (Jvm.Cond.methodLink "DowryBoxesLaw" (73 : Nat) ({ cls := "DowryBoxesModel", name := "fault", desc := "()I" } : Jvm.MethodName)) ∈ lw_all := lw_g (lw_at lw_m8 114 rfl) rfl
theorem q1918 : (Jvm.Cond.methodLink "DowryBoxesLaw" (65 : Nat) ({ cls := "DowryBoxesModel", name := "law", desc := "()I" } : Jvm.MethodName)) ∈ lw_all := lw_g (lw_at lw_m8 118 rfl) rfl
theorem q2036 : (Jvm.Cond.methodLink "DowryBoxesLaw" (81 : Nat) ({ cls := "DowryBoxesModel", name := "force", desc := "(I)I" } : Jvm.MethodName)) ∈ lw_all := lw_g (lw_at lw_m8 236 rfl) rfl
theorem q2044 : (Jvm.Cond.methodLink "DowryBoxesLaw" (85 : Nat) ({ cls := "DowryBoxesModel", name := "pull", desc := "(III)I" } : Jvm.MethodName)) ∈ lw_all := lw_g (lw_at lw_m9 4 rfl) rfl
theorem q2067 : (Jvm.Cond.methodLink "DowryBoxesLaw" (89 : Nat) ({ cls := "DowryBoxesModel", name := "snap", desc := "(II)I" } : Jvm.MethodName)) ∈ lw_all := lw_g (lw_at lw_m9 27 rfl) rfl
theorem q2075 : (Jvm.Cond.methodLink "DowryBoxesLaw" (93 : Nat) ({ cls := "DowryBoxesModel", name := "wed", desc := "(II)I" } : Jvm.MethodName)) ∈ lw_all := lw_g (lw_at lw_m9 35 rfl) rfl
theorem q2083 : (Jvm.Cond.methodLink "DowryBoxesLaw" (97 : Nat) ({ cls := "DowryBoxesModel", name := "pass", desc := "()I" } : Jvm.MethodName)) ∈ lw_all := lw_g (lw_at lw_m9 43 rfl) rfl
theorem q2095 : (Jvm.Cond.methodLink "DowryBoxesLaw" (105 : Nat) ({ cls := "DowryBoxesModel", name := "hear", desc := "(III)I" } : Jvm.MethodName)) ∈ lw_all := lw_g (lw_at lw_m9 55 rfl) rfl
theorem q2099 : (Jvm.Cond.methodLink "DowryBoxesLaw" (109 : Nat) ({ cls := "DowryBoxesModel", name := "forget", desc := "()I" } : Jvm.MethodName)) ∈ lw_all := lw_g (lw_at lw_m9 59 rfl) rfl
theorem q2103 : (Jvm.Cond.methodLink "DowryBoxesLaw" (113 : Nat) ({ cls := "DowryBoxesModel", name := "which", desc := "()I" } : Jvm.MethodName)) ∈ lw_all := lw_g (lw_at lw_m9 63 rfl) rfl
theorem q2111 : (Jvm.Cond.methodLink "DowryBoxesLaw" (117 : Nat) ({ cls := "DowryBoxesModel", name := "listen", desc := "(I)I" } : Jvm.MethodName)) ∈ lw_all := lw_g (lw_at lw_m9 71 rfl) rfl
theorem q2116 : (Jvm.Cond.methodLink "DowryBoxesLaw" (121 : Nat) ({ cls := "DowryBoxesModel", name := "steady", desc := "(I)I" } : Jvm.MethodName)) ∈ lw_all := lw_g (lw_at lw_m9 76 rfl) rfl
theorem q2136 : (Jvm.Cond.methodLink "DowryBoxesLaw" (125 : Nat) ({ cls := "DowryBoxesModel", name := "about", desc := "(II)I" } : Jvm.MethodName)) ∈ lw_all := lw_g (lw_at lw_m9 96 rfl) rfl
theorem q2149 : (Jvm.Cond.methodLink "DowryBoxesLaw" (129 : Nat) ({ cls := "DowryBoxesModel", name := "keep", desc := "(III)I" } : Jvm.MethodName)) ∈ lw_all := lw_g (lw_at lw_m9 109 rfl) rfl
theorem q2162 : (Jvm.Cond.methodLink "DowryBoxesLaw" (133 : Nat) ({ cls := "DowryBoxesModel", name := "clash", desc := "(III)I" } : Jvm.MethodName)) ∈ lw_all := lw_g (lw_at lw_m9 122 rfl) rfl
theorem q2174 : (Jvm.Cond.methodLink "DowryBoxesLaw" (137 : Nat) ({ cls := "DowryBoxesModel", name := "best", desc := "(III)I" } : Jvm.MethodName)) ∈ lw_all := lw_g (lw_at lw_m9 134 rfl) rfl
theorem q2178 : (Jvm.Cond.methodLink "DowryBoxesLaw" (142 : Nat) ({ cls := "DowryBoxesModel", name := "filed", desc := "(IIII)I" } : Jvm.MethodName)) ∈ lw_all := lw_g (lw_at lw_m9 138 rfl) rfl
theorem q2183 : (Jvm.Cond.methodLink "DowryBoxesLaw" (146 : Nat) ({ cls := "DowryBoxesModel", name := "shares", desc := "(II)I" } : Jvm.MethodName)) ∈ lw_all := lw_g (lw_at lw_m9 143 rfl) rfl
theorem q2192 : (Jvm.Cond.methodLink "DowryBoxesLaw" (150 : Nat) ({ cls := "DowryBoxesModel", name := "again", desc := "(II)I" } : Jvm.MethodName)) ∈ lw_all := lw_g (lw_at lw_m9 152 rfl) rfl
theorem q2196 : (Jvm.Cond.methodLink "DowryBoxesLaw" (154 : Nat) ({ cls := "DowryBoxesModel", name := "ends", desc := "(I)I" } : Jvm.MethodName)) ∈ lw_all := lw_g (lw_at lw_m9 156 rfl) rfl
theorem q2200 : (Jvm.Cond.methodLink "DowryBoxesLaw" (159 : Nat) ({ cls := "DowryBoxesModel", name := "stands", desc := "(II)J" } : Jvm.MethodName)) ∈ lw_all := lw_g (lw_at lw_m9 160 rfl) rfl
theorem q2205 : (Jvm.Cond.methodLink "DowryBoxesLaw" (163 : Nat) ({ cls := "DowryBoxesModel", name := "compare", desc := "(I)I" } : Jvm.MethodName)) ∈ lw_all := lw_g (lw_at lw_m9 165 rfl) rfl
theorem q2209 : (Jvm.Cond.methodLink "DowryBoxesLaw" (69 : Nat) ({ cls := "DowryBoxesModel", name := "orders", desc := "()I" } : Jvm.MethodName)) ∈ lw_all := lw_g (lw_at lw_m9 169 rfl) rfl
theorem q2246 : (Jvm.Cond.methodLink "DowryBoxesLaw" (77 : Nat) ({ cls := "DowryBoxesModel", name := "stopped", desc := "()I" } : Jvm.MethodName)) ∈ lw_all := lw_g (lw_at lw_m9 206 rfl) rfl
theorem q2250 : (Jvm.Cond.methodLink "DowryBoxesLaw" (167 : Nat) ({ cls := "DowryBoxesModel", name := "generations", desc := "(II)I" } : Jvm.MethodName)) ∈ lw_all := lw_g (lw_at lw_m9 210 rfl) rfl
theorem q2261 : (Jvm.Cond.methodLink "DowryBoxesLaw" (171 : Nat) ({ cls := "DowryBoxesModel", name := "drawn", desc := "(II)I" } : Jvm.MethodName)) ∈ lw_all := lw_g (lw_at lw_m9 221 rfl) rfl
theorem q2265 : (Jvm.Cond.methodLink "DowryBoxesLaw" (183 : Nat) ({ cls := "DowryBoxesModel", name := "count", desc := "(I)I" } : Jvm.MethodName)) ∈ lw_all := lw_g (lw_at lw_m9 225 rfl) rfl
theorem q2271 : (Jvm.Cond.methodLink "DowryBoxesLaw" (187 : Nat) ({ cls := "DowryBoxesModel", name := "status", desc := "()I" } : Jvm.MethodName)) ∈ lw_all := lw_g (lw_at lw_m9 231 rfl) rfl
theorem q2317 : (Jvm.Cond.castable "[B" "java/lang/Object") ∈ lw_tbl := lw_at lw_m10 37 rfl
set_option maxRecDepth 100000
theorem q2313 : (Jvm.Cond.castable "[I" "java/lang/Object") ∈ lw_tbl := lw_at lw_m10 33 rfl
set_option maxRecDepth 100000
theorem q2318 : (Jvm.Cond.castable "[J" "java/lang/Object") ∈ lw_tbl := lw_at lw_m10 38 rfl
set_option maxRecDepth 100000
theorem q2315 : (Jvm.Cond.castable "[LDowryBoxes$State;" "java/lang/Object") ∈ lw_tbl := lw_at lw_m10 35 rfl
set_option maxRecDepth 100000
theorem q2316 : (Jvm.Cond.castable "[LDowryBoxes$Table;" "java/lang/Object") ∈ lw_tbl := lw_at lw_m10 36 rfl
set_option maxRecDepth 100000
theorem q2310 : (Jvm.Cond.sameMethod "[Ljava/lang/Object;" "java/lang/Object" "getClass" "()Ljava/lang/Class;") ∈ lw_all := lw_g (lw_at lw_m10 30 rfl) rfl
set_option maxRecDepth 100000
theorem q2311 : (Jvm.Cond.selects "[Ljava/lang/Object;" ({ cls := "java/lang/Object", name := "getClass", desc := "()Ljava/lang/Class;" } : Jvm.MethodName) ({ cls := "java/lang/Object", name := "getClass", desc := "()Ljava/lang/Class;" } : Jvm.MethodName)) ∈ lw_all := lw_g (lw_at lw_m10 31 rfl) rfl
theorem q2314 : (Jvm.Cond.castable "[Ljava/lang/Object;" "java/lang/Object") ∈ lw_tbl := lw_at lw_m10 34 rfl
theorem q2319 : (Jvm.Cond.castable "[Z" "java/lang/Object") ∈ lw_tbl := lw_at lw_m10 39 rfl
set_option maxRecDepth 100000
theorem q153 : (Jvm.Cond.initialized "java/lang/System") ∈ lw_all := lw_g (lw_at lw_m1 33 rfl) rfl
set_option maxRecDepth 100000
theorem q484 : (Jvm.Cond.static ({ cls := "java/lang/System", name := "arraycopy", desc := "(Ljava/lang/Object;ILjava/lang/Object;II)V" } : Jvm.MethodName)) ∈ lw_all := lw_g (lw_at lw_m2 124 rfl) rfl
theorem q485 : (Jvm.Cond.native ({ cls := "java/lang/System", name := "arraycopy", desc := "(Ljava/lang/Object;ILjava/lang/Object;II)V" } : Jvm.MethodName)) ∈ lw_all := lw_g (lw_at lw_m2 125 rfl) rfl
theorem q497 : (Jvm.Cond.interfaceMethod "java/util/Collection" "java/util/Collection" "toArray" "()[Ljava/lang/Object;") ∈ lw_tbl := lw_at lw_m2 137 rfl
set_option maxRecDepth 100000
theorem q498 : (Jvm.Cond.declares ({ cls := "java/util/Collection", name := "toArray", desc := "()[Ljava/lang/Object;" } : Jvm.MethodName)) ∈ lw_tbl := lw_at lw_m2 138 rfl
theorem q202 : (Jvm.Cond.arrayClass Jvm.ClassFile.FieldType.int) ∈ lw_all := lw_g (lw_at lw_m1 82 rfl) rfl
set_option maxRecDepth 100000
theorem q216 : (Jvm.Cond.arrayOver (Jvm.ClassFile.FieldType.object "java/lang/Object")) ∈ lw_tbl := lw_at lw_m1 96 rfl
theorem q276 : (Jvm.Cond.arrayOver (Jvm.ClassFile.FieldType.object "DowryBoxes$State")) ∈ lw_tbl := lw_at lw_m1 156 rfl
theorem q278 : (Jvm.Cond.arrayOver (Jvm.ClassFile.FieldType.object "DowryBoxes$Table")) ∈ lw_tbl := lw_at lw_m1 158 rfl
theorem q346 : (Jvm.Cond.arrayClass Jvm.ClassFile.FieldType.byte) ∈ lw_all := lw_g (lw_at lw_m1 226 rfl) rfl
theorem q357 : (Jvm.Cond.arrayClass Jvm.ClassFile.FieldType.long) ∈ lw_all := lw_g (lw_at lw_m1 237 rfl) rfl
theorem q1755 : (Jvm.Cond.arrayClass Jvm.ClassFile.FieldType.boolean) ∈ lw_all := lw_g (lw_at lw_m7 195 rfl) rfl
