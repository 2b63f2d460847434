/-! ROWS of the law: the script's cell lies outside of the world, by the key 999 -/
def scV (k n : Nat) (sc : Nat → Int) (i : Int) (K : Int → Prop) : Prop := k = 999 ∧ (0 ≤ i ∧ i < n) ∧ K (sc i.toNat)
def scN (k n : Nat) (K : Int → Prop) : Prop := k = 999 ∧ K n
def SCR (x : Cx) (n : Nat) (sc : Nat → Int) : Prop := va_X (adG (xG x) 999) n (fun j => Int32.ofInt (sc j)) (xs x) (xs x).heap ∧ adG (xG x) 999 < (xs x).heap.size ∧ ¬ xA x (adG (xG x) 999) ∧ n ≤ 384
def LEND (x : Cx) (Z : State → Prop) : Prop := ∀ (w : Wd) (bc bs pc : Nat) (L : List (Nat × Value)), decode cL_law pc = .ok (.ireturn, 1) → J x Z w bc bs pc L [vI 1]
section LROWS
variable {x : Cx} {own : String} {cc : ByteArray} {d : Nat} {Q : State → Prop} {w : Wd} {bc bs pc : Nat} {L : List (Nat × Value)} {st : List Value} {k n : Nat} {sc : Nat → Int}
theorem j_scV (O : OK x own cc d) (hsc : SCR x n sc) {i : Int} {KK : Int → Prop} (hd : decode cc pc = .ok (.iaload, 1)) (h : scV k n sc i KK) (K : ∀ v, KK v → J x Q w bc bs (pc + 1) L (vI v :: st)) : J x Q w bc bs pc L (vI i :: .ref (adG (xG x) k) :: st) := by
  intro H locs cells slots ls hP hS hl h1 h2
  obtain ⟨rfl, hi, h⟩ := h
  have hn : n < 2147483648 := Nat.lt_of_le_of_lt hsc.2.2.2 (by decide)
  obtain ⟨e1, e2⟩ := i32_in (i := i) (n := n) ⟨hi.1, hi.2, hn⟩
  refine va_sld O.1.1 O.1.2.1 hsc.1 hsc.2.1 hsc.2.2.1 hS e1 hd ?_
  have e3 : (Int32.ofInt i).toNatClampNeg = i.toNat := by omega
  rw [e3]
  exact K _ h H locs cells slots ls hP hS hl h1 h2
theorem j_scN (O : OK x own cc d) (hsc : SCR x n sc) {KK : Int → Prop} (hd : decode cc pc = .ok (.arraylength, 1)) (h : scN k n KK) (K : ∀ v, KK v → J x Q w bc bs (pc + 1) L (vI v :: st)) : J x Q w bc bs pc L (.ref (adG (xG x) k) :: st) := by
  intro H locs cells slots ls hP hS hl h1 h2
  obtain ⟨rfl, h⟩ := h
  exact va_slen O.1.1 O.1.2.1 hsc.1 hsc.2.1 hsc.2.2.1 hS hd (K _ h H locs cells slots ls hP hS hl h1 h2)
end LROWS
