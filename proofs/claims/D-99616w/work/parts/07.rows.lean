/-! ROWS: the judgement J (at a place of a method's code, with a world, the room left, the locals that are known and the stack, the run comes to Q), and a row an instruction -/
abbrev Cx : Type := Program × Launch × Env × Room × State × MethodId × Array Value × List Frame × Method × Code × GW × (Nat → Prop) × Nat × Nat × Nat
abbrev xp (x : Cx) : Program := x.1
abbrev xl (x : Cx) : Launch := x.2.1
abbrev xe (x : Cx) : Env := x.2.2.1
abbrev xR (x : Cx) : Room := x.2.2.2.1
abbrev xs (x : Cx) : State := x.2.2.2.2.1
abbrev xm (x : Cx) : MethodId := x.2.2.2.2.2.1
abbrev xa (x : Cx) : Array Value := x.2.2.2.2.2.2.1
abbrev xb (x : Cx) : List Frame := x.2.2.2.2.2.2.2.1
abbrev xM (x : Cx) : Method := x.2.2.2.2.2.2.2.2.1
abbrev xc (x : Cx) : Code := x.2.2.2.2.2.2.2.2.2.1
abbrev xG (x : Cx) : GW := x.2.2.2.2.2.2.2.2.2.2.1
abbrev xA (x : Cx) : Nat → Prop := x.2.2.2.2.2.2.2.2.2.2.2.1
abbrev xn (x : Cx) : Nat := x.2.2.2.2.2.2.2.2.2.2.2.2.1
abbrev xmc (x : Cx) : Nat := x.2.2.2.2.2.2.2.2.2.2.2.2.2.1
abbrev xms (x : Cx) : Nat := x.2.2.2.2.2.2.2.2.2.2.2.2.2.2
/-- the room of a method that has d frames below it -/
def rmN (d mc ms : Nat) : Room := { frames := d, cells := mc, slots := ms, locals := 60 * d }
def J (x : Cx) (Q : State → Prop) (w : Wd) (bc bs pc : Nat) (L : List (Nat × Value)) (st : List Value) : Prop := ∀ (H : Heap) (locs : List Loc) (cells slots : Nat) (ls : Array Slot), HP (xG x) (xA x) w H → va_S (xA x) (xs x).heap H locs → lv_has ls (xn x) L → cells + bc = xmc x → slots + bs = xms x → W (xp x) (xl x) (xe x) (xR x) (xs x) (xm x) (xa x) (xb x) (xM x) (xc x) H locs cells slots Q (F0 (xm x) pc ls st)
/-- what holds all through a method's run -/
def OK (x : Cx) (own : String) (cc : ByteArray) (d : Nat) : Prop := CallFix (xp x) (xm x) (xc x) cc (xn x) (xs x) (xa x) lw_all own ∧ va_K (xG x).1 clA (tysG (xG x)) (xs x) ∧ ST (xG x) (xA x) (xs x) (xs x).heap ∧ (∀ q, (xs x).heap.size ≤ q → xA x q) ∧ (xM x).locks = false ∧ (d ≤ (xR x).frames ∧ 60 * d ≤ (xR x).locals ∧ (xR x).cells = xmc x ∧ (xR x).slots = xms x) ∧ ∀ k, 1000 ≤ k → adG (xG x) k = k - 1000
def dO (o : Option Nat) (K : Nat → Prop) : Prop := ∃ k, o = some k ∧ K k
def gfI (w : Wd) (k ci j : Nat) (K : Int → Prop) : Prop := gK w k = some (.inl ci) ∧ K (gV w k j)
def gfR (w : Wd) (k ci j : Nat) (K : Option Nat → Prop) : Prop := gK w k = some (.inl ci) ∧ K (gR w k j)
def pfI (w : Wd) (k ci j : Nat) (x : Int) (K : Wd → Prop) : Prop := gK w k = some (.inl ci) ∧ K (sV w k j x)
def pfZ (w : Wd) (k ci j : Nat) (x : Int) (K : Wd → Prop) : Prop := gK w k = some (.inl ci) ∧ (x = 0 ∨ x = 1) ∧ K (sV w k j x)
def pfC (w : Wd) (k ci j : Nat) (x : Int) (K : Wd → Prop) : Prop := gK w k = some (.inl ci) ∧ (0 ≤ x ∧ x < 65536) ∧ K (sV w k j x)
def pfR (w : Wd) (k ci j : Nat) (r : Option Nat) (K : Wd → Prop) : Prop := gK w k = some (.inl ci) ∧ K (sR w k j r)
def alI (w : Wd) (k t : Nat) (i : Int) (K : Int → Prop) : Prop := ∃ n : Nat, gK w k = some (.inr (t, n)) ∧ (0 ≤ i ∧ i < n ∧ n < 2147483648) ∧ K (gV w k i)
def alR (w : Wd) (k t : Nat) (i : Int) (K : Option Nat → Prop) : Prop := ∃ n : Nat, gK w k = some (.inr (t, n)) ∧ (0 ≤ i ∧ i < n ∧ n < 2147483648) ∧ K (gR w k i)
def nB (x : Int) : Int := (Int32.ofInt x).toInt8.toInt
def nZ (x : Int) : Int := (Int32.ofInt x &&& 1).toInt
def asI (w : Wd) (k t : Nat) (i x : Int) (K : Wd → Prop) : Prop := ∃ n : Nat, gK w k = some (.inr (t, n)) ∧ (0 ≤ i ∧ i < n ∧ n < 2147483648) ∧ K (sV w k i x)
def asR (w : Wd) (k t : Nat) (i : Int) (r : Option Nat) (K : Wd → Prop) : Prop := ∃ n : Nat, gK w k = some (.inr (t, n)) ∧ (0 ≤ i ∧ i < n ∧ n < 2147483648) ∧ K (sR w k i r)
def aln (w : Wd) (k : Nat) (K : Int → Prop) : Prop := ∃ t n : Nat, gK w k = some (.inr (t, n)) ∧ t < 7 ∧ K n
abbrev inI (a : Int) : Prop := -2147483648 ≤ a ∧ a ≤ 2147483647
abbrev inL (a : Int) : Prop := -9223372036854775808 ≤ a ∧ a ≤ 9223372036854775807
def ckI (a : Int) (K : Prop) : Prop := inI a ∧ K
def ckL (a : Int) (K : Prop) : Prop := inL a ∧ K
def ckN (a : Int) (K : Prop) : Prop := a ≠ 0 ∧ K
def br (c A B : Prop) : Prop := (c → A) ∧ (¬ c → B)
def ian (a b : Int) : Int := (Int32.ofInt a &&& Int32.ofInt b).toInt
def ior (a b : Int) : Int := (Int32.ofInt a ||| Int32.ofInt b).toInt
def ixo (a b : Int) : Int := (Int32.ofInt a ^^^ Int32.ofInt b).toInt
def isl (a b : Int) : Int := (Int32.ofInt a <<< (Int32.ofInt b &&& 31)).toInt
def isr (a b : Int) : Int := (Int32.ofInt a >>> (Int32.ofInt b &&& 31)).toInt
def nC (a : Int) : Int := ((Int32.ofInt a).toUInt32 % 65536).toInt32.toInt
theorem i32_toInt {a : Int} (h : inI a) : (Int32.ofInt a).toInt = a := Int32.toInt_ofInt_of_le h.1 (by have := h.2; omega)
theorem i64_toInt {a : Int} (h : inL a) : (Int64.ofInt a).toInt = a := Int64.toInt_ofInt_of_le h.1 (by have := h.2; omega)
theorem i32_le {a b : Int} (ha : inI a) (hb : inI b) : Int32.ofInt a ≤ Int32.ofInt b ↔ a ≤ b := by rw [Int32.le_iff_toInt_le, i32_toInt ha, i32_toInt hb]
theorem i32_lt {a b : Int} (ha : inI a) (hb : inI b) : Int32.ofInt a < Int32.ofInt b ↔ a < b := by rw [Int32.lt_iff_toInt_lt, i32_toInt ha, i32_toInt hb]
theorem i32_eq {a b : Int} (ha : inI a) (hb : inI b) : Int32.ofInt a = Int32.ofInt b ↔ a = b := by rw [← Int32.toInt_inj, i32_toInt ha, i32_toInt hb]
theorem i64_le {a b : Int} (ha : inL a) (hb : inL b) : Int64.ofInt a ≤ Int64.ofInt b ↔ a ≤ b := by rw [Int64.le_iff_toInt_le, i64_toInt ha, i64_toInt hb]
theorem i64_lt {a b : Int} (ha : inL a) (hb : inL b) : Int64.ofInt a < Int64.ofInt b ↔ a < b := by rw [Int64.lt_iff_toInt_lt, i64_toInt ha, i64_toInt hb]
theorem i64_eq {a b : Int} (ha : inL a) (hb : inL b) : Int64.ofInt a = Int64.ofInt b ↔ a = b := by rw [← Int64.toInt_inj, i64_toInt ha, i64_toInt hb]
theorem i32_in {i : Int} {n : Nat} (h : 0 ≤ i ∧ i < n ∧ n < 2147483648) : vp_in (Int32.ofInt i) n ∧ ((Int32.ofInt i).toNatClampNeg : Int) = i := by
  have e : (Int32.ofInt i).toInt = i := i32_toInt ⟨by omega, by omega⟩
  refine ⟨vp_in_iff.mpr ⟨by rw [e]; exact h.1, by rw [e]; exact h.2.1⟩, ?_⟩
  rw [Int32.toNatClampNeg, e]
  omega
theorem inI0 : inI 0 := by decide
theorem i32_n0 {b : Int} (hb : inI b) (h : b ≠ 0) : ¬ Int32.ofInt b = 0 := fun e => h ((i32_eq hb inI0).mp e)
theorem i64_n0 {b : Int} (hb : inL b) (h : b ≠ 0) : ¬ Int64.ofInt b = 0 := fun e => h ((i64_eq hb (by decide)).mp e)
theorem i32_div {a b : Int} (ha : inI a) (hb : inI b) : Int32.ofInt (Int.tdiv a b) = Int32.ofInt a / Int32.ofInt b := Int32.ofInt_tdiv ha.1 ha.2 hb.1 hb.2
theorem i64_div {a b : Int} (ha : inL a) (hb : inL b) : Int64.ofInt (Int.tdiv a b) = Int64.ofInt a / Int64.ofInt b := Int64.ofInt_tdiv ha.1 ha.2 hb.1 hb.2
theorem i32_rem {a b : Int} (ha : inI a) (hb : inI b) : Int32.ofInt (Int.tmod a b) = Int32.ofInt a - Int32.ofInt a / Int32.ofInt b * Int32.ofInt b := by
  rw [← i32_div ha hb, ← Int32.ofInt_mul, ← Int32.ofInt_sub, Int.tmod_def, Int.mul_comm]
theorem i64_rem {a b : Int} (ha : inL a) (hb : inL b) : Int64.ofInt (Int.tmod a b) = Int64.ofInt a - Int64.ofInt a / Int64.ofInt b * Int64.ofInt b := by
  rw [← i64_div ha hb, ← Int64.ofInt_mul, ← Int64.ofInt_sub, Int.tmod_def, Int.mul_comm]
theorem i32_i64 {a : Int} (ha : inI a) : (Int32.ofInt a).toInt64 = Int64.ofInt a := by
  have hL : inL a := ⟨by have := ha.1; omega, by have := ha.2; omega⟩
  rw [← Int64.toInt_inj, Int32.toInt_toInt64, i32_toInt ha, i64_toInt hL]
theorem i64_i32 (a : Int) : (Int64.ofInt a).toInt32 = Int32.ofInt a := Int64.toInt32_ofInt
theorem nB_32 (a : Int) : Int32.ofInt (nB a) = (Int32.ofInt a).toInt8.toInt32 := by
  unfold nB
  rw [← Int32.toInt_inj, Int8.toInt_toInt32, i32_toInt]
  have h := Int8.toInt_lt (Int32.ofInt a).toInt8
  have h2 := Int8.le_toInt (Int32.ofInt a).toInt8
  exact ⟨by omega, by omega⟩
section ROWS
variable {x : Cx} {own : String} {cc : ByteArray} {d : Nat} {Q : State → Prop} {w : Wd} {bc bs pc : Nat} {L L' : List (Nat × Value)} {st : List Value}
theorem J.sub (is : List Nat) (hL : lv_pick L is = L') (K : J x Q w bc bs pc L' st) : J x Q w bc bs pc L st := fun H locs cells slots ls hP hS hl h1 h2 => K H locs cells slots ls hP hS (lv_sub hl is hL) h1 h2
theorem J.eq {pc' : Nat} {st' : List Value} (hp : pc' = pc) (hs : st' = st) (K : J x Q w bc bs pc' L st') : J x Q w bc bs pc L st := hp ▸ hs ▸ K
theorem J.less {bc' bs' : Nat} (h1 : bc' ≤ bc) (h2 : bs' ≤ bs) (K : J x Q w bc' bs' pc L st) : J x Q w bc bs pc L st := fun H locs cells slots ls hP hS hl e1 e2 => W.widen (k := cells + (bc - bc')) (n := slots + (bs - bs')) (by omega) (by omega) (K H locs _ _ ls hP hS hl (by omega) (by omega))
theorem j_iconst (O : OK x own cc d) {n : Int} (hd : decode cc pc = .ok (.iconst n, 1)) (K : J x Q w bc bs (pc + 1) L (vI n :: st)) : J x Q w bc bs pc L (st) := fun H locs cells slots ls hP hS hl h1 h2 => lv_iconst O.1.1 O.1.2.1 hd rfl (K H locs cells slots ls hP hS hl h1 h2)
theorem j_bipush (O : OK x own cc d) {n m : Int} (hd : decode cc pc = .ok (.bipush n, 2)) (hm : (Int8.ofInt n).toInt32 = Int32.ofInt m) (K : J x Q w bc bs (pc + 2) L (vI m :: st)) : J x Q w bc bs pc L (st) := fun H locs cells slots ls hP hS hl h1 h2 => lv_bipush O.1.1 O.1.2.1 hd hm (K H locs cells slots ls hP hS hl h1 h2)
theorem j_sipush (O : OK x own cc d) {n m : Int} (hd : decode cc pc = .ok (.sipush n, 3)) (hm : (Int16.ofInt n).toInt32 = Int32.ofInt m) (K : J x Q w bc bs (pc + 3) L (vI m :: st)) : J x Q w bc bs pc L (st) := fun H locs cells slots ls hP hS hl h1 h2 => lv_sipush O.1.1 O.1.2.1 hd hm (K H locs cells slots ls hP hS hl h1 h2)
theorem j_lconst (O : OK x own cc d) {n : Fin 2} {m : Int} (hd : decode cc pc = .ok (.lconst n, 1)) (hm : Int64.ofNat (n : Nat) = Int64.ofInt m) (K : J x Q w bc bs (pc + 1) L (vL m :: st)) : J x Q w bc bs pc L (st) := fun H locs cells slots ls hP hS hl h1 h2 => lv_lconst O.1.1 O.1.2.1 hd hm (K H locs cells slots ls hP hS hl h1 h2)
theorem j_ldc (O : OK x own cc d) {index : Nat} {v : Int32} {m : Int} (hd : decode cc pc = .ok (.ldc index, 2)) (q : Cond.constant own index v ∈ lw_all) (hm : v = Int32.ofInt m) (K : J x Q w bc bs (pc + 2) L (vI m :: st)) : J x Q w bc bs pc L st := by
  subst hm
  exact fun H locs cells slots ls hP hS hl h1 h2 => lv_ldc O.1.1 O.1.2.1 O.1.2.2.2.1 (O.1.2.2.2.2 _ q) hd (K H locs cells slots ls hP hS hl h1 h2)
theorem j_ldcw (O : OK x own cc d) {index : Nat} {v : Int32} {m : Int} (hd : decode cc pc = .ok (.ldc_w index, 3)) (q : Cond.constant own index v ∈ lw_all) (hm : v = Int32.ofInt m) (K : J x Q w bc bs (pc + 3) L (vI m :: st)) : J x Q w bc bs pc L st := by
  subst hm
  exact fun H locs cells slots ls hP hS hl h1 h2 => lv_ldcw O.1.1 O.1.2.1 O.1.2.2.2.1 (O.1.2.2.2.2 _ q) hd (K H locs cells slots ls hP hS hl h1 h2)
theorem j_ldc2 (O : OK x own cc d) {index : Nat} {v : Int64} {m : Int} (hd : decode cc pc = .ok (.ldc2_w index, 3)) (q : Cond.constantLong own index v ∈ lw_all) (hm : v = Int64.ofInt m) (K : J x Q w bc bs (pc + 3) L (vL m :: st)) : J x Q w bc bs pc L st := by
  subst hm
  exact fun H locs cells slots ls hP hS hl h1 h2 => lv_ldc2 O.1.1 O.1.2.1 O.1.2.2.2.1 (O.1.2.2.2.2 _ q) hd (K H locs cells slots ls hP hS hl h1 h2)
theorem j_iload_n (O : OK x own cc d) {k : Fin 4} {v : Int32} (j i : Nat) (hd : decode cc pc = .ok (.iload_n k, 1)) (hi : (k : Nat) = i) (hL : L[j]? = some (i, .int v)) (K : J x Q w bc bs (pc + 1) L (.int v :: st)) : J x Q w bc bs pc L st := fun H locs cells slots ls hP hS hl h1 h2 => lv_iload_n O.1.1 O.1.2.1 hd hi (lv_at hl j hL) (K H locs cells slots ls hP hS hl h1 h2)
theorem j_iload (O : OK x own cc d) {i : Nat} {v : Int32} (j : Nat) (hd : decode cc pc = .ok (.iload i, 2)) (hL : L[j]? = some (i, .int v)) (K : J x Q w bc bs (pc + 2) L (.int v :: st)) : J x Q w bc bs pc L st := fun H locs cells slots ls hP hS hl h1 h2 => lv_iload O.1.1 O.1.2.1 hd (lv_at hl j hL) (K H locs cells slots ls hP hS hl h1 h2)
theorem j_lload_n (O : OK x own cc d) {k : Fin 4} {v : Int64} (j i : Nat) (hd : decode cc pc = .ok (.lload_n k, 1)) (hi : (k : Nat) = i) (hL : L[j]? = some (i, .long v)) (K : J x Q w bc bs (pc + 1) L (.long v :: st)) : J x Q w bc bs pc L st := fun H locs cells slots ls hP hS hl h1 h2 => lv_lload_n O.1.1 O.1.2.1 hd hi (lv_at hl j hL) (K H locs cells slots ls hP hS hl h1 h2)
theorem j_lload (O : OK x own cc d) {i : Nat} {v : Int64} (j : Nat) (hd : decode cc pc = .ok (.lload i, 2)) (hL : L[j]? = some (i, .long v)) (K : J x Q w bc bs (pc + 2) L (.long v :: st)) : J x Q w bc bs pc L st := fun H locs cells slots ls hP hS hl h1 h2 => lv_lload O.1.1 O.1.2.1 hd (lv_at hl j hL) (K H locs cells slots ls hP hS hl h1 h2)
theorem j_aload_n (O : OK x own cc d) {k : Fin 4} {v : Nat} (j i : Nat) (hd : decode cc pc = .ok (.aload_n k, 1)) (hi : (k : Nat) = i) (hL : L[j]? = some (i, .ref v)) (K : J x Q w bc bs (pc + 1) L (.ref v :: st)) : J x Q w bc bs pc L st := fun H locs cells slots ls hP hS hl h1 h2 => lv_aload_n O.1.1 O.1.2.1 hd hi (lv_at hl j hL) (K H locs cells slots ls hP hS hl h1 h2)
theorem j_aload (O : OK x own cc d) {i : Nat} {v : Nat} (j : Nat) (hd : decode cc pc = .ok (.aload i, 2)) (hL : L[j]? = some (i, .ref v)) (K : J x Q w bc bs (pc + 2) L (.ref v :: st)) : J x Q w bc bs pc L st := fun H locs cells slots ls hP hS hl h1 h2 => lv_aload O.1.1 O.1.2.1 hd (lv_at hl j hL) (K H locs cells slots ls hP hS hl h1 h2)
theorem j_aloadq_n (O : OK x own cc d) {k : Fin 4} {v : Option Nat} (j i : Nat) (hd : decode cc pc = .ok (.aload_n k, 1)) (hi : (k : Nat) = i) (hL : L[j]? = some (i, vR (xG x) v)) (K : J x Q w bc bs (pc + 1) L (vR (xG x) v :: st)) : J x Q w bc bs pc L st := by
  cases v with
  | none => exact fun H locs cells slots ls hP hS hl h1 h2 => lv_aload_nN O.1.1 O.1.2.1 hd hi (lv_at hl j hL) (K H locs cells slots ls hP hS hl h1 h2)
  | some v => exact fun H locs cells slots ls hP hS hl h1 h2 => lv_aload_n O.1.1 O.1.2.1 hd hi (lv_at hl j hL) (K H locs cells slots ls hP hS hl h1 h2)
theorem j_aloadq (O : OK x own cc d) {i : Nat} {v : Option Nat} (j : Nat) (hd : decode cc pc = .ok (.aload i, 2)) (hL : L[j]? = some (i, vR (xG x) v)) (K : J x Q w bc bs (pc + 2) L (vR (xG x) v :: st)) : J x Q w bc bs pc L st := by
  cases v with
  | none => exact fun H locs cells slots ls hP hS hl h1 h2 => lv_aloadN O.1.1 O.1.2.1 hd (lv_at hl j hL) (K H locs cells slots ls hP hS hl h1 h2)
  | some v => exact fun H locs cells slots ls hP hS hl h1 h2 => lv_aload O.1.1 O.1.2.1 hd (lv_at hl j hL) (K H locs cells slots ls hP hS hl h1 h2)
theorem j_istore_n (O : OK x own cc d) {k : Fin 4} {v : Int32} (i : Nat) (hd : decode cc pc = .ok (.istore_n k, 1)) (hi : (k : Nat) = i) (hn : i < xn x) (hL : (i, Value.int v) :: L.filter (fun q => !(q.1 == i) && !(q.1 + 1 == i && q.2.category == 2)) = L') (K : J x Q w bc bs (pc + 1) L' st) : J x Q w bc bs pc L (.int v :: st) := fun H locs cells slots ls hP hS hl h1 h2 => lv_istore_n O.1.1 O.1.2.1 hd hi hl hn hL (fun ls' hl' => K H locs cells slots ls' hP hS hl' h1 h2)
theorem j_istore (O : OK x own cc d) {i : Nat} {v : Int32} (hd : decode cc pc = .ok (.istore i, 2)) (hn : i < xn x) (hL : (i, Value.int v) :: L.filter (fun q => !(q.1 == i) && !(q.1 + 1 == i && q.2.category == 2)) = L') (K : J x Q w bc bs (pc + 2) L' st) : J x Q w bc bs pc L (.int v :: st) := fun H locs cells slots ls hP hS hl h1 h2 => lv_istore O.1.1 O.1.2.1 hd hl hn hL (fun ls' hl' => K H locs cells slots ls' hP hS hl' h1 h2)
theorem j_lstore_n (O : OK x own cc d) {k : Fin 4} {v : Int64} (i : Nat) (hd : decode cc pc = .ok (.lstore_n k, 1)) (hi : (k : Nat) = i) (hn : i + 1 < xn x) (hL : (i, Value.long v) :: L.filter (fun q => !(q.1 == i) && (!(q.1 == i + 1) && !(q.1 + 1 == i && q.2.category == 2))) = L') (K : J x Q w bc bs (pc + 1) L' st) : J x Q w bc bs pc L (.long v :: st) := fun H locs cells slots ls hP hS hl h1 h2 => lv_lstore_n O.1.1 O.1.2.1 hd hi hl hn hL (fun ls' hl' => K H locs cells slots ls' hP hS hl' h1 h2)
theorem j_lstore (O : OK x own cc d) {i : Nat} {v : Int64} (hd : decode cc pc = .ok (.lstore i, 2)) (hn : i + 1 < xn x) (hL : (i, Value.long v) :: L.filter (fun q => !(q.1 == i) && (!(q.1 == i + 1) && !(q.1 + 1 == i && q.2.category == 2))) = L') (K : J x Q w bc bs (pc + 2) L' st) : J x Q w bc bs pc L (.long v :: st) := fun H locs cells slots ls hP hS hl h1 h2 => lv_lstore O.1.1 O.1.2.1 hd hl hn hL (fun ls' hl' => K H locs cells slots ls' hP hS hl' h1 h2)
theorem j_astore_n (O : OK x own cc d) {k : Fin 4} {v : Nat} (i : Nat) (hd : decode cc pc = .ok (.astore_n k, 1)) (hi : (k : Nat) = i) (hn : i < xn x) (hL : (i, Value.ref v) :: L.filter (fun q => !(q.1 == i) && !(q.1 + 1 == i && q.2.category == 2)) = L') (K : J x Q w bc bs (pc + 1) L' st) : J x Q w bc bs pc L (.ref v :: st) := fun H locs cells slots ls hP hS hl h1 h2 => lv_astore_n O.1.1 O.1.2.1 hd hi hl hn hL (fun ls' hl' => K H locs cells slots ls' hP hS hl' h1 h2)
theorem j_astore (O : OK x own cc d) {i : Nat} {v : Nat} (hd : decode cc pc = .ok (.astore i, 2)) (hn : i < xn x) (hL : (i, Value.ref v) :: L.filter (fun q => !(q.1 == i) && !(q.1 + 1 == i && q.2.category == 2)) = L') (K : J x Q w bc bs (pc + 2) L' st) : J x Q w bc bs pc L (.ref v :: st) := fun H locs cells slots ls hP hS hl h1 h2 => lv_astore O.1.1 O.1.2.1 hd hl hn hL (fun ls' hl' => K H locs cells slots ls' hP hS hl' h1 h2)
theorem j_astoreq_n (O : OK x own cc d) {k : Fin 4} {v : Option Nat} (i : Nat) (hd : decode cc pc = .ok (.astore_n k, 1)) (hi : (k : Nat) = i) (hn : i < xn x) (hL : (i, vR (xG x) v) :: L.filter (fun q => !(q.1 == i) && !(q.1 + 1 == i && q.2.category == 2)) = L') (K : J x Q w bc bs (pc + 1) L' st) : J x Q w bc bs pc L (vR (xG x) v :: st) := by
  cases v with
  | none => exact fun H locs cells slots ls hP hS hl h1 h2 => lv_astore_nN O.1.1 O.1.2.1 hd hi hl hn hL (fun ls' hl' => K H locs cells slots ls' hP hS hl' h1 h2)
  | some v => exact fun H locs cells slots ls hP hS hl h1 h2 => lv_astore_n O.1.1 O.1.2.1 hd hi hl hn hL (fun ls' hl' => K H locs cells slots ls' hP hS hl' h1 h2)
theorem j_astoreq (O : OK x own cc d) {i : Nat} {v : Option Nat} (hd : decode cc pc = .ok (.astore i, 2)) (hn : i < xn x) (hL : (i, vR (xG x) v) :: L.filter (fun q => !(q.1 == i) && !(q.1 + 1 == i && q.2.category == 2)) = L') (K : J x Q w bc bs (pc + 2) L' st) : J x Q w bc bs pc L (vR (xG x) v :: st) := by
  cases v with
  | none => exact fun H locs cells slots ls hP hS hl h1 h2 => lv_astoreN O.1.1 O.1.2.1 hd hl hn hL (fun ls' hl' => K H locs cells slots ls' hP hS hl' h1 h2)
  | some v => exact fun H locs cells slots ls hP hS hl h1 h2 => lv_astore O.1.1 O.1.2.1 hd hl hn hL (fun ls' hl' => K H locs cells slots ls' hP hS hl' h1 h2)
theorem j_iinc (O : OK x own cc d) {i : Nat} {n a : Int} (j : Nat) (hd : decode cc pc = .ok (.iinc i n, 3)) (hk : L[j]? = some (i, vI a)) (hn : i < xn x) (hL : (i, vI (a + n)) :: L.filter (fun q => !(q.1 == i) && !(q.1 + 1 == i && q.2.category == 2)) = L') (K : J x Q w bc bs (pc + 3) L' st) : J x Q w bc bs pc L st := fun H locs cells slots ls hP hS hl h1 h2 => lv_iinc (v := Int32.ofInt (a + n)) O.1.1 O.1.2.1 hd hl hk (Int32.ofInt_add a n).symm hn hL (fun ls' hl' => K H locs cells slots ls' hP hS hl' h1 h2)
theorem j_iadd (O : OK x own cc d) {a b : Int} (hd : decode cc pc = .ok (.iadd, 1)) (K : J x Q w bc bs (pc + 1) L (vI (a + b) :: st)) : J x Q w bc bs pc L (vI b :: vI a :: st) := fun H locs cells slots ls hP hS hl h1 h2 => lv_iadd O.1.1 O.1.2.1 hd (by rw [← Int32.ofInt_add]; exact K H locs cells slots ls hP hS hl h1 h2)
theorem j_isub (O : OK x own cc d) {a b : Int} (hd : decode cc pc = .ok (.isub, 1)) (K : J x Q w bc bs (pc + 1) L (vI (a - b) :: st)) : J x Q w bc bs pc L (vI b :: vI a :: st) := fun H locs cells slots ls hP hS hl h1 h2 => lv_isub O.1.1 O.1.2.1 hd (by rw [← Int32.ofInt_sub]; exact K H locs cells slots ls hP hS hl h1 h2)
theorem j_imul (O : OK x own cc d) {a b : Int} (hd : decode cc pc = .ok (.imul, 1)) (K : J x Q w bc bs (pc + 1) L (vI (a * b) :: st)) : J x Q w bc bs pc L (vI b :: vI a :: st) := fun H locs cells slots ls hP hS hl h1 h2 => lv_imul O.1.1 O.1.2.1 hd (by rw [← Int32.ofInt_mul]; exact K H locs cells slots ls hP hS hl h1 h2)
theorem j_ladd (O : OK x own cc d) {a b : Int} (hd : decode cc pc = .ok (.ladd, 1)) (K : J x Q w bc bs (pc + 1) L (vL (a + b) :: st)) : J x Q w bc bs pc L (vL b :: vL a :: st) := fun H locs cells slots ls hP hS hl h1 h2 => lv_ladd O.1.1 O.1.2.1 hd (by rw [← Int64.ofInt_add]; exact K H locs cells slots ls hP hS hl h1 h2)
theorem j_lsub (O : OK x own cc d) {a b : Int} (hd : decode cc pc = .ok (.lsub, 1)) (K : J x Q w bc bs (pc + 1) L (vL (a - b) :: st)) : J x Q w bc bs pc L (vL b :: vL a :: st) := fun H locs cells slots ls hP hS hl h1 h2 => lv_lsub O.1.1 O.1.2.1 hd (by rw [← Int64.ofInt_sub]; exact K H locs cells slots ls hP hS hl h1 h2)
theorem j_lmul (O : OK x own cc d) {a b : Int} (hd : decode cc pc = .ok (.lmul, 1)) (K : J x Q w bc bs (pc + 1) L (vL (a * b) :: st)) : J x Q w bc bs pc L (vL b :: vL a :: st) := fun H locs cells slots ls hP hS hl h1 h2 => lv_lmul O.1.1 O.1.2.1 hd (by rw [← Int64.ofInt_mul]; exact K H locs cells slots ls hP hS hl h1 h2)
theorem j_iand (O : OK x own cc d) {a b : Int} (hd : decode cc pc = .ok (.iand, 1)) (K : J x Q w bc bs (pc + 1) L (vI (ian a b) :: st)) : J x Q w bc bs pc L (vI b :: vI a :: st) := fun H locs cells slots ls hP hS hl h1 h2 => lv_iand O.1.1 O.1.2.1 hd (by rw [show Int32.ofInt a &&& Int32.ofInt b = Int32.ofInt (ian a b) from (Int32.ofInt_toInt _).symm]; exact K H locs cells slots ls hP hS hl h1 h2)
theorem j_ior (O : OK x own cc d) {a b : Int} (hd : decode cc pc = .ok (.ior, 1)) (K : J x Q w bc bs (pc + 1) L (vI (ior a b) :: st)) : J x Q w bc bs pc L (vI b :: vI a :: st) := fun H locs cells slots ls hP hS hl h1 h2 => lv_ior O.1.1 O.1.2.1 hd (by rw [show Int32.ofInt a ||| Int32.ofInt b = Int32.ofInt (ior a b) from (Int32.ofInt_toInt _).symm]; exact K H locs cells slots ls hP hS hl h1 h2)
theorem j_ixor (O : OK x own cc d) {a b : Int} (hd : decode cc pc = .ok (.ixor, 1)) (K : J x Q w bc bs (pc + 1) L (vI (ixo a b) :: st)) : J x Q w bc bs pc L (vI b :: vI a :: st) := fun H locs cells slots ls hP hS hl h1 h2 => lv_ixor O.1.1 O.1.2.1 hd (by rw [show Int32.ofInt a ^^^ Int32.ofInt b = Int32.ofInt (ixo a b) from (Int32.ofInt_toInt _).symm]; exact K H locs cells slots ls hP hS hl h1 h2)
theorem j_ishl (O : OK x own cc d) {a b : Int} (hd : decode cc pc = .ok (.ishl, 1)) (K : J x Q w bc bs (pc + 1) L (vI (isl a b) :: st)) : J x Q w bc bs pc L (vI b :: vI a :: st) := fun H locs cells slots ls hP hS hl h1 h2 => lv_ishl O.1.1 O.1.2.1 hd (by rw [show Int32.ofInt a <<< (Int32.ofInt b &&& 31) = Int32.ofInt (isl a b) from (Int32.ofInt_toInt _).symm]; exact K H locs cells slots ls hP hS hl h1 h2)
theorem j_ishr (O : OK x own cc d) {a b : Int} (hd : decode cc pc = .ok (.ishr, 1)) (K : J x Q w bc bs (pc + 1) L (vI (isr a b) :: st)) : J x Q w bc bs pc L (vI b :: vI a :: st) := fun H locs cells slots ls hP hS hl h1 h2 => lv_ishr O.1.1 O.1.2.1 hd (by rw [show Int32.ofInt a >>> (Int32.ofInt b &&& 31) = Int32.ofInt (isr a b) from (Int32.ofInt_toInt _).symm]; exact K H locs cells slots ls hP hS hl h1 h2)
theorem j_ineg (O : OK x own cc d) {a : Int} (hd : decode cc pc = .ok (.ineg, 1)) (K : J x Q w bc bs (pc + 1) L (vI (-a) :: st)) : J x Q w bc bs pc L (vI a :: st) := fun H locs cells slots ls hP hS hl h1 h2 => lv_ineg O.1.1 O.1.2.1 hd (by rw [← Int32.ofInt_neg]; exact K H locs cells slots ls hP hS hl h1 h2)
theorem j_idiv (O : OK x own cc d) {a b : Int} {KK : Prop} (hd : decode cc pc = .ok (.idiv, 1)) (h : ckI a (ckI b (ckN b KK))) (K : KK → J x Q w bc bs (pc + 1) L (vI (Int.tdiv a b) :: st)) : J x Q w bc bs pc L (vI b :: vI a :: st) := fun H locs cells slots ls hP hS hl h1 h2 => lv_idiv O.1.1 O.1.2.1 hd (i32_n0 h.2.1 h.2.2.1) (by rw [← i32_div h.1 h.2.1]; exact K h.2.2.2 H locs cells slots ls hP hS hl h1 h2)
theorem j_irem (O : OK x own cc d) {a b : Int} {KK : Prop} (hd : decode cc pc = .ok (.irem, 1)) (h : ckI a (ckI b (ckN b KK))) (K : KK → J x Q w bc bs (pc + 1) L (vI (Int.tmod a b) :: st)) : J x Q w bc bs pc L (vI b :: vI a :: st) := fun H locs cells slots ls hP hS hl h1 h2 => lv_irem O.1.1 O.1.2.1 hd (i32_n0 h.2.1 h.2.2.1) (by rw [← i32_rem h.1 h.2.1]; exact K h.2.2.2 H locs cells slots ls hP hS hl h1 h2)
theorem j_ldiv (O : OK x own cc d) {a b : Int} {KK : Prop} (hd : decode cc pc = .ok (.ldiv, 1)) (h : ckL a (ckL b (ckN b KK))) (K : KK → J x Q w bc bs (pc + 1) L (vL (Int.tdiv a b) :: st)) : J x Q w bc bs pc L (vL b :: vL a :: st) := fun H locs cells slots ls hP hS hl h1 h2 => lv_ldiv O.1.1 O.1.2.1 hd (i64_n0 h.2.1 h.2.2.1) (by rw [← i64_div h.1 h.2.1]; exact K h.2.2.2 H locs cells slots ls hP hS hl h1 h2)
theorem j_lrem (O : OK x own cc d) {a b : Int} {KK : Prop} (hd : decode cc pc = .ok (.lrem, 1)) (h : ckL a (ckL b (ckN b KK))) (K : KK → J x Q w bc bs (pc + 1) L (vL (Int.tmod a b) :: st)) : J x Q w bc bs pc L (vL b :: vL a :: st) := fun H locs cells slots ls hP hS hl h1 h2 => lv_lrem O.1.1 O.1.2.1 hd (i64_n0 h.2.1 h.2.2.1) (by rw [← i64_rem h.1 h.2.1]; exact K h.2.2.2 H locs cells slots ls hP hS hl h1 h2)
theorem j_i2l (O : OK x own cc d) {a : Int} {KK : Prop} (hd : decode cc pc = .ok (.i2l, 1)) (h : ckI a KK) (K : KK → J x Q w bc bs (pc + 1) L (vL a :: st)) : J x Q w bc bs pc L (vI a :: st) := fun H locs cells slots ls hP hS hl h1 h2 => lv_i2l O.1.1 O.1.2.1 hd (i32_i64 h.1) (K h.2 H locs cells slots ls hP hS hl h1 h2)
theorem j_l2i (O : OK x own cc d) {a : Int} (hd : decode cc pc = .ok (.l2i, 1)) (K : J x Q w bc bs (pc + 1) L (vI a :: st)) : J x Q w bc bs pc L (vL a :: st) := fun H locs cells slots ls hP hS hl h1 h2 => lv_l2i O.1.1 O.1.2.1 hd (i64_i32 a) (K H locs cells slots ls hP hS hl h1 h2)
theorem j_i2b (O : OK x own cc d) {a : Int} (hd : decode cc pc = .ok (.i2b, 1)) (K : J x Q w bc bs (pc + 1) L (vI (nB a) :: st)) : J x Q w bc bs pc L (vI a :: st) := fun H locs cells slots ls hP hS hl h1 h2 => lv_i2b O.1.1 O.1.2.1 hd (nB_32 a).symm (K H locs cells slots ls hP hS hl h1 h2)
theorem j_i2c (O : OK x own cc d) {a : Int} (hd : decode cc pc = .ok (.i2c, 1)) (K : J x Q w bc bs (pc + 1) L (vI (nC a) :: st)) : J x Q w bc bs pc L (vI a :: st) := fun H locs cells slots ls hP hS hl h1 h2 => lv_i2c O.1.1 O.1.2.1 hd (Int32.ofInt_toInt _).symm (K H locs cells slots ls hP hS hl h1 h2)
theorem j_dup (O : OK x own cc d) {v : Value} (hd : decode cc pc = .ok (.dup, 1)) (hv : v.category = 1) (K : J x Q w bc bs (pc + 1) L (v :: v :: st)) : J x Q w bc bs pc L (v :: st) := fun H locs cells slots ls hP hS hl h1 h2 => lv_dup O.1.1 O.1.2.1 hd hv (K H locs cells slots ls hP hS hl h1 h2)
theorem j_pop (O : OK x own cc d) {v : Value} (hd : decode cc pc = .ok (.pop, 1)) (hv : v.category = 1) (K : J x Q w bc bs (pc + 1) L (st)) : J x Q w bc bs pc L (v :: st) := fun H locs cells slots ls hP hS hl h1 h2 => lv_pop O.1.1 O.1.2.1 hd hv (K H locs cells slots ls hP hS hl h1 h2)
theorem j_dup_x1 (O : OK x own cc d) {v u : Value} (hd : decode cc pc = .ok (.dup_x1, 1)) (hv : v.category = 1) (hu : u.category = 1) (K : J x Q w bc bs (pc + 1) L (v :: u :: v :: st)) : J x Q w bc bs pc L (v :: u :: st) := fun H locs cells slots ls hP hS hl h1 h2 => lv_dup_x1 O.1.1 O.1.2.1 hd hv hu (K H locs cells slots ls hP hS hl h1 h2)
theorem j_dup2_11 (O : OK x own cc d) {v u : Value} (hd : decode cc pc = .ok (.dup2, 1)) (hv : v.category = 1) (hu : u.category = 1) (K : J x Q w bc bs (pc + 1) L (v :: u :: v :: u :: st)) : J x Q w bc bs pc L (v :: u :: st) := fun H locs cells slots ls hP hS hl h1 h2 => lv_dup2_11 O.1.1 O.1.2.1 hd hv hu (K H locs cells slots ls hP hS hl h1 h2)
theorem j_dup2_2 (O : OK x own cc d) {v : Value} (hd : decode cc pc = .ok (.dup2, 1)) (hv : v.category = 2) (K : J x Q w bc bs (pc + 1) L (v :: v :: st)) : J x Q w bc bs pc L (v :: st) := fun H locs cells slots ls hP hS hl h1 h2 => lv_dup2_2 O.1.1 O.1.2.1 hd hv (K H locs cells slots ls hP hS hl h1 h2)
theorem j_null (O : OK x own cc d) (hd : decode cc pc = .ok (.aconst_null, 1)) (K : J x Q w bc bs (pc + 1) L (vR (xG x) none :: st)) : J x Q w bc bs pc L (st) := fun H locs cells slots ls hP hS hl h1 h2 => lv_null O.1.1 O.1.2.1 hd (K H locs cells slots ls hP hS hl h1 h2)
theorem j_goto (O : OK x own cc d) {off : Int} {tgt : Nat} (hd : decode cc pc = .ok (.goto off, 3)) (ht : (pc : Int) + off = (tgt : Int)) (K : J x Q w bc bs tgt L st) : J x Q w bc bs pc L st := fun H locs cells slots ls hP hS hl h1 h2 => lv_goto O.1.1 O.1.2.1 hd ht (K H locs cells slots ls hP hS hl h1 h2)
theorem j_icmp_eq (O : OK x own cc d) {a b : Int} {A B : Prop} {off : Int} {tgt : Nat} (hd : decode cc pc = .ok (.if_icmp .eq off, 3)) (ht : (pc : Int) + off = (tgt : Int)) (ha : inI a) (hb : inI b) (h : br (a = b) A B) (K1 : A → J x Q w bc bs tgt L st) (K2 : B → J x Q w bc bs (pc + 3) L st) : J x Q w bc bs pc L (vI b :: vI a :: st) := by
  exact fun H locs cells slots ls hP hS hl h1 h2 => lv_icmp_eq O.1.1 O.1.2.1 hd ht (fun z => K1 (h.1 ((i32_eq ha hb).mp z)) H locs cells slots ls hP hS hl h1 h2) (fun z => K2 (h.2 (fun e => z ((i32_eq ha hb).mpr e))) H locs cells slots ls hP hS hl h1 h2)
theorem j_if_eq (O : OK x own cc d) {a : Int} {A B : Prop} {off : Int} {tgt : Nat} (hd : decode cc pc = .ok (.ifCond .eq off, 3)) (ht : (pc : Int) + off = (tgt : Int)) (ha : inI a) (h : br (a = 0) A B) (K1 : A → J x Q w bc bs tgt L st) (K2 : B → J x Q w bc bs (pc + 3) L st) : J x Q w bc bs pc L (vI a :: st) := by
  have hb : inI 0 := by decide
  exact fun H locs cells slots ls hP hS hl h1 h2 => lv_if_eq O.1.1 O.1.2.1 hd ht (fun z => K1 (h.1 ((i32_eq ha hb).mp z)) H locs cells slots ls hP hS hl h1 h2) (fun z => K2 (h.2 (fun e => z ((i32_eq ha hb).mpr e))) H locs cells slots ls hP hS hl h1 h2)
theorem j_icmp_ne (O : OK x own cc d) {a b : Int} {A B : Prop} {off : Int} {tgt : Nat} (hd : decode cc pc = .ok (.if_icmp .ne off, 3)) (ht : (pc : Int) + off = (tgt : Int)) (ha : inI a) (hb : inI b) (h : br (¬ a = b) A B) (K1 : A → J x Q w bc bs tgt L st) (K2 : B → J x Q w bc bs (pc + 3) L st) : J x Q w bc bs pc L (vI b :: vI a :: st) := by
  exact fun H locs cells slots ls hP hS hl h1 h2 => lv_icmp_ne O.1.1 O.1.2.1 hd ht (fun z => K1 (h.1 (fun e => z ((i32_eq ha hb).mpr e))) H locs cells slots ls hP hS hl h1 h2) (fun z => K2 (h.2 (fun e => e ((i32_eq ha hb).mp z))) H locs cells slots ls hP hS hl h1 h2)
theorem j_if_ne (O : OK x own cc d) {a : Int} {A B : Prop} {off : Int} {tgt : Nat} (hd : decode cc pc = .ok (.ifCond .ne off, 3)) (ht : (pc : Int) + off = (tgt : Int)) (ha : inI a) (h : br (¬ a = 0) A B) (K1 : A → J x Q w bc bs tgt L st) (K2 : B → J x Q w bc bs (pc + 3) L st) : J x Q w bc bs pc L (vI a :: st) := by
  have hb : inI 0 := by decide
  exact fun H locs cells slots ls hP hS hl h1 h2 => lv_if_ne O.1.1 O.1.2.1 hd ht (fun z => K1 (h.1 (fun e => z ((i32_eq ha hb).mpr e))) H locs cells slots ls hP hS hl h1 h2) (fun z => K2 (h.2 (fun e => e ((i32_eq ha hb).mp z))) H locs cells slots ls hP hS hl h1 h2)
theorem j_icmp_lt (O : OK x own cc d) {a b : Int} {A B : Prop} {off : Int} {tgt : Nat} (hd : decode cc pc = .ok (.if_icmp .lt off, 3)) (ht : (pc : Int) + off = (tgt : Int)) (ha : inI a) (hb : inI b) (h : br (a < b) A B) (K1 : A → J x Q w bc bs tgt L st) (K2 : B → J x Q w bc bs (pc + 3) L st) : J x Q w bc bs pc L (vI b :: vI a :: st) := by
  exact fun H locs cells slots ls hP hS hl h1 h2 => lv_icmp_lt O.1.1 O.1.2.1 hd ht (fun z => K1 (h.1 ((i32_lt ha hb).mp z)) H locs cells slots ls hP hS hl h1 h2) (fun z => K2 (h.2 (fun e => z ((i32_lt ha hb).mpr e))) H locs cells slots ls hP hS hl h1 h2)
theorem j_if_lt (O : OK x own cc d) {a : Int} {A B : Prop} {off : Int} {tgt : Nat} (hd : decode cc pc = .ok (.ifCond .lt off, 3)) (ht : (pc : Int) + off = (tgt : Int)) (ha : inI a) (h : br (a < 0) A B) (K1 : A → J x Q w bc bs tgt L st) (K2 : B → J x Q w bc bs (pc + 3) L st) : J x Q w bc bs pc L (vI a :: st) := by
  have hb : inI 0 := by decide
  exact fun H locs cells slots ls hP hS hl h1 h2 => lv_if_lt O.1.1 O.1.2.1 hd ht (fun z => K1 (h.1 ((i32_lt ha hb).mp z)) H locs cells slots ls hP hS hl h1 h2) (fun z => K2 (h.2 (fun e => z ((i32_lt ha hb).mpr e))) H locs cells slots ls hP hS hl h1 h2)
theorem j_icmp_ge (O : OK x own cc d) {a b : Int} {A B : Prop} {off : Int} {tgt : Nat} (hd : decode cc pc = .ok (.if_icmp .ge off, 3)) (ht : (pc : Int) + off = (tgt : Int)) (ha : inI a) (hb : inI b) (h : br (b ≤ a) A B) (K1 : A → J x Q w bc bs tgt L st) (K2 : B → J x Q w bc bs (pc + 3) L st) : J x Q w bc bs pc L (vI b :: vI a :: st) := by
  exact fun H locs cells slots ls hP hS hl h1 h2 => lv_icmp_ge O.1.1 O.1.2.1 hd ht (fun z => K1 (h.1 ((i32_le hb ha).mp z)) H locs cells slots ls hP hS hl h1 h2) (fun z => K2 (h.2 (fun e => z ((i32_le hb ha).mpr e))) H locs cells slots ls hP hS hl h1 h2)
theorem j_if_ge (O : OK x own cc d) {a : Int} {A B : Prop} {off : Int} {tgt : Nat} (hd : decode cc pc = .ok (.ifCond .ge off, 3)) (ht : (pc : Int) + off = (tgt : Int)) (ha : inI a) (h : br (0 ≤ a) A B) (K1 : A → J x Q w bc bs tgt L st) (K2 : B → J x Q w bc bs (pc + 3) L st) : J x Q w bc bs pc L (vI a :: st) := by
  have hb : inI 0 := by decide
  exact fun H locs cells slots ls hP hS hl h1 h2 => lv_if_ge O.1.1 O.1.2.1 hd ht (fun z => K1 (h.1 ((i32_le hb ha).mp z)) H locs cells slots ls hP hS hl h1 h2) (fun z => K2 (h.2 (fun e => z ((i32_le hb ha).mpr e))) H locs cells slots ls hP hS hl h1 h2)
theorem j_icmp_gt (O : OK x own cc d) {a b : Int} {A B : Prop} {off : Int} {tgt : Nat} (hd : decode cc pc = .ok (.if_icmp .gt off, 3)) (ht : (pc : Int) + off = (tgt : Int)) (ha : inI a) (hb : inI b) (h : br (b < a) A B) (K1 : A → J x Q w bc bs tgt L st) (K2 : B → J x Q w bc bs (pc + 3) L st) : J x Q w bc bs pc L (vI b :: vI a :: st) := by
  exact fun H locs cells slots ls hP hS hl h1 h2 => lv_icmp_gt O.1.1 O.1.2.1 hd ht (fun z => K1 (h.1 ((i32_lt hb ha).mp z)) H locs cells slots ls hP hS hl h1 h2) (fun z => K2 (h.2 (fun e => z ((i32_lt hb ha).mpr e))) H locs cells slots ls hP hS hl h1 h2)
theorem j_if_gt (O : OK x own cc d) {a : Int} {A B : Prop} {off : Int} {tgt : Nat} (hd : decode cc pc = .ok (.ifCond .gt off, 3)) (ht : (pc : Int) + off = (tgt : Int)) (ha : inI a) (h : br (0 < a) A B) (K1 : A → J x Q w bc bs tgt L st) (K2 : B → J x Q w bc bs (pc + 3) L st) : J x Q w bc bs pc L (vI a :: st) := by
  have hb : inI 0 := by decide
  exact fun H locs cells slots ls hP hS hl h1 h2 => lv_if_gt O.1.1 O.1.2.1 hd ht (fun z => K1 (h.1 ((i32_lt hb ha).mp z)) H locs cells slots ls hP hS hl h1 h2) (fun z => K2 (h.2 (fun e => z ((i32_lt hb ha).mpr e))) H locs cells slots ls hP hS hl h1 h2)
theorem j_icmp_le (O : OK x own cc d) {a b : Int} {A B : Prop} {off : Int} {tgt : Nat} (hd : decode cc pc = .ok (.if_icmp .le off, 3)) (ht : (pc : Int) + off = (tgt : Int)) (ha : inI a) (hb : inI b) (h : br (a ≤ b) A B) (K1 : A → J x Q w bc bs tgt L st) (K2 : B → J x Q w bc bs (pc + 3) L st) : J x Q w bc bs pc L (vI b :: vI a :: st) := by
  exact fun H locs cells slots ls hP hS hl h1 h2 => lv_icmp_le O.1.1 O.1.2.1 hd ht (fun z => K1 (h.1 ((i32_le ha hb).mp z)) H locs cells slots ls hP hS hl h1 h2) (fun z => K2 (h.2 (fun e => z ((i32_le ha hb).mpr e))) H locs cells slots ls hP hS hl h1 h2)
theorem j_if_le (O : OK x own cc d) {a : Int} {A B : Prop} {off : Int} {tgt : Nat} (hd : decode cc pc = .ok (.ifCond .le off, 3)) (ht : (pc : Int) + off = (tgt : Int)) (ha : inI a) (h : br (a ≤ 0) A B) (K1 : A → J x Q w bc bs tgt L st) (K2 : B → J x Q w bc bs (pc + 3) L st) : J x Q w bc bs pc L (vI a :: st) := by
  have hb : inI 0 := by decide
  exact fun H locs cells slots ls hP hS hl h1 h2 => lv_if_le O.1.1 O.1.2.1 hd ht (fun z => K1 (h.1 ((i32_le ha hb).mp z)) H locs cells slots ls hP hS hl h1 h2) (fun z => K2 (h.2 (fun e => z ((i32_le ha hb).mpr e))) H locs cells slots ls hP hS hl h1 h2)
def lcp (a b : Int) : Int := if a < b then -1 else if a = b then 0 else 1
theorem j_acmp_ne (O : OK x own cc d) {a b : Option Nat} {A B : Prop} {off : Int} {tgt : Nat} (hd : decode cc pc = .ok (.if_acmp .ne off, 3)) (ht : (pc : Int) + off = (tgt : Int)) (hab : a.map (adG (xG x)) = b.map (adG (xG x)) ↔ a = b) (h : br (¬ a = b) A B) (K1 : A → J x Q w bc bs tgt L st) (K2 : B → J x Q w bc bs (pc + 3) L st) : J x Q w bc bs pc L (vR (xG x) b :: vR (xG x) a :: st) := fun H locs cells slots ls hP hS hl h1 h2 => lv_acmp_ne O.1.1 O.1.2.1 hd ht (fun z => K1 (h.1 (fun e => z (hab.mpr e))) H locs cells slots ls hP hS hl h1 h2) (fun z => K2 (h.2 (fun e => e (hab.mp z))) H locs cells slots ls hP hS hl h1 h2)
theorem j_ifnull (O : OK x own cc d) {a : Option Nat} {A B : Prop} {off : Int} {tgt : Nat} (hd : decode cc pc = .ok (.ifnull off, 3)) (ht : (pc : Int) + off = (tgt : Int)) (h : br (a = none) A B) (K1 : A → J x Q w bc bs tgt L st) (K2 : B → J x Q w bc bs (pc + 3) L st) : J x Q w bc bs pc L (vR (xG x) a :: st) := by
  cases a with
  | none => exact fun H locs cells slots ls hP hS hl h1 h2 => lv_ifnullN O.1.1 O.1.2.1 hd ht (K1 (h.1 rfl) H locs cells slots ls hP hS hl h1 h2)
  | some a => exact fun H locs cells slots ls hP hS hl h1 h2 => lv_ifnull O.1.1 O.1.2.1 hd (K2 (h.2 (fun e => by cases e)) H locs cells slots ls hP hS hl h1 h2)
theorem j_ifnonnull (O : OK x own cc d) {a : Option Nat} {A B : Prop} {off : Int} {tgt : Nat} (hd : decode cc pc = .ok (.ifnonnull off, 3)) (ht : (pc : Int) + off = (tgt : Int)) (h : br (¬ a = none) A B) (K1 : A → J x Q w bc bs tgt L st) (K2 : B → J x Q w bc bs (pc + 3) L st) : J x Q w bc bs pc L (vR (xG x) a :: st) := by
  cases a with
  | none => exact fun H locs cells slots ls hP hS hl h1 h2 => lv_ifnonnullN O.1.1 O.1.2.1 hd (K2 (h.2 (fun e => e rfl)) H locs cells slots ls hP hS hl h1 h2)
  | some a => exact fun H locs cells slots ls hP hS hl h1 h2 => lv_ifnonnull O.1.1 O.1.2.1 hd ht (K1 (h.1 (fun e => by cases e)) H locs cells slots ls hP hS hl h1 h2)
theorem j_tableIn (O : OK x own cc d) {dflt lo hi : Int} {offs : Array Int} {len : Nat} {a off : Int} {tgt : Nat} (hd : decode cc pc = .ok (.tableswitch dflt lo hi offs, len)) (ha : inI a) (h1_ : ¬ a < lo) (h2_ : ¬ hi < a) (ho : offs[(a - lo).toNat]? = some off) (ht : (pc : Int) + off = (tgt : Int)) (K : J x Q w bc bs tgt L st) : J x Q w bc bs pc L (vI a :: st) := fun H locs cells slots ls hP hS hl h1 h2 => lv_tableIn O.1.1 O.1.2.1 hd (by rw [i32_toInt ha]; exact h1_) (by rw [i32_toInt ha]; exact h2_) (by rw [i32_toInt ha]; exact ho) ht (K H locs cells slots ls hP hS hl h1 h2)
theorem j_tableOut (O : OK x own cc d) {dflt lo hi : Int} {offs : Array Int} {len : Nat} {a : Int} {tgt : Nat} (hd : decode cc pc = .ok (.tableswitch dflt lo hi offs, len)) (ha : inI a) (h0 : a < lo ∨ hi < a) (ht : (pc : Int) + dflt = (tgt : Int)) (K : J x Q w bc bs tgt L st) : J x Q w bc bs pc L (vI a :: st) := fun H locs cells slots ls hP hS hl h1 h2 => lv_tableOut O.1.1 O.1.2.1 hd (by rw [i32_toInt ha]; exact h0) ht (K H locs cells slots ls hP hS hl h1 h2)
end ROWS
