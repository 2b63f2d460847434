/-! CLASSES by number; the words of nest mates; Strings and statics that nobody writes -/
abbrev clA : List vw_C := [(RX5, TX5, 62), (RX0, TX0, 34), (RX1, TX1, 11), (RX2, TX2, 6), (RX3, TX3, 2), (RX4, TX4, 6), (RX8, TX8, 7), (RX9, TX9, 3), (RX11, TX11, 1), (RX12, TX12, 1), (RX13, TX13, 3), (RX15, TX15, 3), (RX16, TX16, 1), (RX17, TX17, 2), (RX19, TX19, 1), (RX18, TX18, 6), (RX7, TX7, 8), (RX20, TX20, 8), (RJ2, TJ2, 3)]
def nfA : Nat → Nat := fun c => match c with
  | 0 => 62
  | 1 => 34
  | 2 => 11
  | 3 => 6
  | 4 => 2
  | 5 => 6
  | 6 => 7
  | 7 => 3
  | 8 => 1
  | 9 => 1
  | 10 => 3
  | 11 => 3
  | 12 => 1
  | 13 => 2
  | 14 => 1
  | 15 => 6
  | 16 => 8
  | 17 => 8
  | 18 => 3
  | _ => 0
def tyA : Nat → Nat → FieldType := fun c => match c with
  | 0 => tyX5
  | 1 => tyX0
  | 2 => tyX1
  | 3 => tyX2
  | 4 => tyX3
  | 5 => tyX4
  | 6 => tyX8
  | 7 => tyX9
  | 8 => tyX11
  | 9 => tyX12
  | 10 => tyX13
  | 11 => tyX15
  | 12 => tyX16
  | 13 => tyX17
  | 14 => tyX19
  | 15 => tyX18
  | 16 => tyX7
  | 17 => tyX20
  | 18 => tyJ2
  | _ => fun _ => .int
def nstW : Cond → Bool
  | .fieldLinkNest .. => true
  | .methodLinkNest .. => true
  | .castable .. => true
  | .declares .. => true
  | _ => false
def lw_nst : List Cond := lw_tbl.filter nstW
theorem lw_n {w : Cond} (h : w ∈ lw_tbl) (g : nstW w = true) : w ∈ lw_nst := List.mem_filter.mpr ⟨h, g⟩
theorem nst_warm {w : Cond} (hw : w ∈ lw_nst) {s U : State} (hW : s.WarmedH U.vm) (h : va_Nw w s) : va_Nw w U := by
  have g := (List.mem_filter.mp hw).2
  cases w with
  | fieldLinkNest a i b n d h9 => exact va_Nw.warmF hW h
  | methodLinkNest a i y h9 => exact va_Nw.warmM hW h
  | castable a b => exact va_Nw.warmC hW h
  | declares y => exact va_Nw.warmD hW h
  | _ => cases g
theorem nst_tab {w : Cond} (hw : w ∈ lw_nst) : w.onTables = true := by
  have g := (List.mem_filter.mp hw).2
  cases w with
  | fieldLinkNest a i b n d h9 => rfl
  | methodLinkNest a i y h9 => rfl
  | castable a b => rfl
  | declares y => rfl
  | _ => cases g
/-- the String constants: class, entry, text, its bytes -/
def strT : List (String × Nat × String × List Int) := [("DowryBoxes$Reader", 152, "[", [91]), ("DowryBoxes$Reader", 154, "]", [93]), ("DowryBoxes$Reader", 143, "*", [42]), ("DowryBoxes$Reader", 145, "/", [47]), ("DowryBoxes$Reader", 147, "%", [37]), ("DowryBoxes$Reader", 133, "+", [43]), ("DowryBoxes$Reader", 135, "-", [45]), ("DowryBoxes$Reader", 91, "not", [110, 111, 116]), ("DowryBoxes$Reader", 101, "(", [40]), ("DowryBoxes$Reader", 109, ")", [41]), ("DowryBoxes$Reader", 119, "<", [60]), ("DowryBoxes$Reader", 121, ">", [62]), ("DowryBoxes$Reader", 123, "=", [61]), ("DowryBoxes$Reader", 86, "and", [97, 110, 100]), ("DowryBoxes$Reader", 66, "or", [111, 114]), ("DowryBoxes$Reader", 57, ";", [59]), ("DowryBoxes$LawReader", 20, "lasts", [108, 97, 115, 116, 115]), ("DowryBoxes$LawReader", 26, "likes", [108, 105, 107, 101, 115]), ("DowryBoxes$LawReader", 28, "loses", [108, 111, 115, 101, 115]), ("DowryBoxes$LawReader", 30, "bars", [98, 97, 114, 115]), ("DowryBoxes$LawReader", 67, "box", [98, 111, 120]), ("DowryBoxes$LawReader", 72, "spring", [115, 112, 114, 105, 110, 103]), ("DowryBoxes$LawReader", 74, "notes", [110, 111, 116, 101, 115]), ("DowryBoxes$LawReader", 76, "broken", [98, 114, 111, 107, 101, 110]), ("DowryBoxes$LawReader", 78, "suitor", [115, 117, 105, 116, 111, 114]), ("DowryBoxes$LawReader", 80, "ear", [101, 97, 114]), ("DowryBoxes$LawReader", 82, "wants", [119, 97, 110, 116, 115]), ("DowryBoxes$LawReader", 84, "year", [121, 101, 97, 114]), ("DowryBoxes$LawReader", 86, "mood", [109, 111, 111, 100]), ("DowryBoxes$LawReader", 50, "if", [105, 102]), ("DowryBoxes$OrderReader", 93, "year", [121, 101, 97, 114]), ("DowryBoxes$OrderReader", 98, "done", [100, 111, 110, 101]), ("DowryBoxes$OrderReader", 100, "latest", [108, 97, 116, 101, 115, 116]), ("DowryBoxes$OrderReader", 102, "couples", [99, 111, 117, 112, 108, 101, 115]), ("DowryBoxes$OrderReader", 104, "left", [108, 101, 102, 116]), ("DowryBoxes$OrderReader", 106, "notes", [110, 111, 116, 101, 115]), ("DowryBoxes$OrderReader", 20, "pull", [112, 117, 108, 108]), ("DowryBoxes$OrderReader", 26, "snap", [115, 110, 97, 112]), ("DowryBoxes$OrderReader", 28, "wed", [119, 101, 100]), ("DowryBoxes$OrderReader", 30, "pass", [112, 97, 115, 115]), ("DowryBoxes$OrderReader", 51, "at", [97, 116]), ("DowryBoxes$OrderReader", 53, "of", [111, 102]), ("DowryBoxes$OrderReader", 55, "to", [116, 111]), ("DowryBoxes$OrderReader", 67, "times", [116, 105, 109, 101, 115]), ("DowryBoxes$OrderReader", 79, "if", [105, 102])]
def strA (i : Nat) : String × Nat × String × List Int := strT.getD i ("", 0, "", [])
abbrev yToA : MethodName := ⟨"java/util/Collection", "toArray", "()[Ljava/lang/Object;"⟩
abbrev yToB : MethodName := ⟨"java/util/ArrayList", "toArray", "()[Ljava/lang/Object;"⟩
def ST1 (G : va_G × (Nat → ClassId) × (Nat → Nat) × (Nat → Nat)) (A : Nat → Prop) (U : State) (H : Heap) (i : Nat) : Prop := vk_R (strA i).1 (strA i).2.1 (strA i).2.2.1 (G.2.2.1 (900 + i)) U ∧ va_O "java/lang/String" (G.2.2.1 (900 + i)) A U H ∧ va_OF "java/lang/String" "coder" "B" (.int 0) (G.2.2.1 (900 + i)) A U H ∧ va_OF "java/lang/String" "value" "[B" (.ref (G.2.2.1 (800 + i))) (G.2.2.1 (900 + i)) A U H ∧ va_T .byte (G.2.2.1 (800 + i)) (strA i).2.2.2.length (fun j => .int (Int32.ofInt ((strA i).2.2.2.getD j 0))) A U H
def ST (G : va_G × (Nat → ClassId) × (Nat → Nat) × (Nat → Nat)) (A : Nat → Prop) (U : State) (H : Heap) : Prop := (∀ w ∈ lw_nst, va_Nw w U) ∧ (va_AO "java/lang/Object" U ∧ va_AO "DowryBoxes$State" U ∧ va_AO "DowryBoxes$Table" U) ∧ va_Fw "java/util/ArrayList" yToA yToB U ∧ (va_Mi "[Ljava/lang/Object;" (G.2.2.1 960) U ∧ va_Dc U) ∧ va_Z "java/lang/String" "COMPACT_STRINGS" "Z" (.int 1) A U H ∧ (va_Zq Bundle.tN "UNASSIGNED_STACK" Bundle.steD A U H ∧ va_Zq Bundle.tN "SUPPRESSED_SENTINEL" Bundle.listD A U H ∧ va_Zq "jdk/internal/util/Preconditions" "SIOOBE_FORMATTER" "Ljava/util/function/BiFunction;" A U H) ∧ ∀ i, i < 45 → ST1 G A U H i
variable {G : va_G × (Nat → ClassId) × (Nat → Nat) × (Nat → Nat)} {A B : Nat → Prop} {u U s : State} {H H1 : Heap}
theorem ST.nst (h : ST G A U H) : ∀ w ∈ lw_nst, va_Nw w U := h.1
theorem ST.warm (hW : s.WarmedH U.vm) (h : ST G A s H) : ST G A U H :=
  ⟨fun w hw => nst_warm hw hW (h.1 w hw), ⟨h.2.1.1.moved hW.alike, h.2.1.2.1.moved hW.alike, h.2.1.2.2.moved hW.alike⟩, va_Fw.moved ⟨by decide, by decide⟩ hW.alike h.2.2.1, ⟨h.2.2.2.1.1.moved hW.alike, h.2.2.2.1.2.moved hW.alike⟩, h.2.2.2.2.1.moved hW.alike, ⟨h.2.2.2.2.2.1.1.moved hW.alike, h.2.2.2.2.2.1.2.1.moved hW.alike, h.2.2.2.2.2.1.2.2.moved hW.alike⟩, fun i hi => ⟨(h.2.2.2.2.2.2 i hi).1.warm hW, (h.2.2.2.2.2.2 i hi).2.1.moved hW.alike, (h.2.2.2.2.2.2 i hi).2.2.1.moved hW.alike, (h.2.2.2.2.2.2 i hi).2.2.2.1.moved hW.alike, (h.2.2.2.2.2.2 i hi).2.2.2.2.moved hW.alike⟩⟩
theorem ST.same (hv : U.vm = u.vm) (h : ST G A u H) : ST G A U H := by
  have hA : u.vm.Alike U.vm := by rw [hv]; exact Vm.Alike.refl _
  exact ⟨fun w hw => va_Nw.same (nst_tab hw) hv.symm (h.1 w hw), ⟨h.2.1.1.moved hA, h.2.1.2.1.moved hA, h.2.1.2.2.moved hA⟩, va_Fw.moved ⟨by decide, by decide⟩ hA h.2.2.1, ⟨h.2.2.2.1.1.moved hA, h.2.2.2.1.2.moved hA⟩, h.2.2.2.2.1.moved hA, ⟨h.2.2.2.2.2.1.1.moved hA, h.2.2.2.2.2.1.2.1.moved hA, h.2.2.2.2.2.1.2.2.moved hA⟩, fun i hi => ⟨(h.2.2.2.2.2.2 i hi).1.same hv, (h.2.2.2.2.2.2 i hi).2.1.moved hA, (h.2.2.2.2.2.2 i hi).2.2.1.moved hA, (h.2.2.2.2.2.2 i hi).2.2.2.1.moved hA, (h.2.2.2.2.2.2 i hi).2.2.2.2.moved hA⟩⟩
theorem ST.kept (h : ST G A U H) (hq : ∀ a : Nat, a < H.size → ¬ A a → H1[a]? = H[a]?) : ST G A U H1 :=
  ⟨h.1, h.2.1, h.2.2.1, h.2.2.2.1, h.2.2.2.2.1.kept hq, ⟨h.2.2.2.2.2.1.1.kept hq, h.2.2.2.2.2.1.2.1.kept hq, h.2.2.2.2.2.1.2.2.kept hq⟩, fun i hi => ⟨(h.2.2.2.2.2.2 i hi).1, (h.2.2.2.2.2.2 i hi).2.1.kept hq, (h.2.2.2.2.2.2 i hi).2.2.1.kept hq, (h.2.2.2.2.2.2 i hi).2.2.2.1.kept hq, (h.2.2.2.2.2.2 i hi).2.2.2.2.kept hq⟩⟩
theorem ST.narrow (h : ST G A U H) (hq : ∀ a, B a → A a) : ST G B U H :=
  ⟨h.1, h.2.1, h.2.2.1, h.2.2.2.1, h.2.2.2.2.1.narrow hq, ⟨h.2.2.2.2.2.1.1.narrow hq, h.2.2.2.2.2.1.2.1.narrow hq, h.2.2.2.2.2.1.2.2.narrow hq⟩, fun i hi => ⟨(h.2.2.2.2.2.2 i hi).1, (h.2.2.2.2.2.2 i hi).2.1.narrow hq, (h.2.2.2.2.2.2 i hi).2.2.1.narrow hq, (h.2.2.2.2.2.2 i hi).2.2.2.1.narrow hq, (h.2.2.2.2.2.2 i hi).2.2.2.2.narrow hq⟩⟩
