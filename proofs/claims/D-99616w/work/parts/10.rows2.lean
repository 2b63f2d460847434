/-! COMPACT ROWS: a row takes what the wp says and leaves the rest of it -/
/-- a class by its number: its name, its fields, what the tables say of them -/
def CF (ci : Nat) (C : String) (T : u_T) : Prop := clA[ci]? = some (C, T, nfA ci) ∧ (∀ z ∈ u_ws C T (nfA ci), z ∈ lw_all) ∧ (∀ a, a < nfA ci → ∀ b, b < nfA ci → a ≠ b → (T a).2.1 ≠ (T b).2.1) ∧ ∀ i, i < nfA ci → parseFieldDescriptor (T i).2.2.1 = some (tyA ci i)
theorem cfX5 : CF 0 RX5 TX5 := ⟨rfl, in_X5, nmX5, tyX5_ok⟩
theorem cfX0 : CF 1 RX0 TX0 := ⟨rfl, in_X0, nmX0, tyX0_ok⟩
theorem cfX1 : CF 2 RX1 TX1 := ⟨rfl, in_X1, nmX1, tyX1_ok⟩
theorem cfX2 : CF 3 RX2 TX2 := ⟨rfl, in_X2, nmX2, tyX2_ok⟩
theorem cfX3 : CF 4 RX3 TX3 := ⟨rfl, in_X3, nmX3, tyX3_ok⟩
theorem cfX4 : CF 5 RX4 TX4 := ⟨rfl, in_X4, nmX4, tyX4_ok⟩
theorem cfX8 : CF 6 RX8 TX8 := ⟨rfl, in_X8, nmX8, tyX8_ok⟩
theorem cfX9 : CF 7 RX9 TX9 := ⟨rfl, in_X9, nmX9, tyX9_ok⟩
theorem cfX11 : CF 8 RX11 TX11 := ⟨rfl, in_X11, nmX11, tyX11_ok⟩
theorem cfX12 : CF 9 RX12 TX12 := ⟨rfl, in_X12, nmX12, tyX12_ok⟩
theorem cfX13 : CF 10 RX13 TX13 := ⟨rfl, in_X13, nmX13, tyX13_ok⟩
theorem cfX15 : CF 11 RX15 TX15 := ⟨rfl, in_X15, nmX15, tyX15_ok⟩
theorem cfX16 : CF 12 RX16 TX16 := ⟨rfl, in_X16, nmX16, tyX16_ok⟩
theorem cfX17 : CF 13 RX17 TX17 := ⟨rfl, in_X17, nmX17, tyX17_ok⟩
theorem cfX19 : CF 14 RX19 TX19 := ⟨rfl, in_X19, nmX19, tyX19_ok⟩
theorem cfX18 : CF 15 RX18 TX18 := ⟨rfl, in_X18, nmX18, tyX18_ok⟩
theorem cfX7 : CF 16 RX7 TX7 := ⟨rfl, in_X7, nmX7, tyX7_ok⟩
theorem cfX20 : CF 17 RX20 TX20 := ⟨rfl, in_X20, nmX20, tyX20_ok⟩
theorem cfJ2 : CF 18 RJ2 TJ2 := ⟨rfl, in_J2, nmJ2, tyJ2_ok⟩
def gfA (w : Wd) (k ci j : Nat) (K : Nat → Prop) : Prop := gK w k = some (.inl ci) ∧ ∃ a, gR w k j = some a ∧ K a
def cO (w : Wd) (k ci : Nat) (K : Prop) : Prop := gK w k = some (.inl ci) ∧ K
def wnO (w : Wd) (ci bc bs : Nat) (K : Nat → Wd → Prop) : Prop := (1 ≤ bc ∧ nfA ci ≤ bs) ∧ ∀ k, 1000 ≤ k → gK w k = none → K k (nK w k (.inl ci))
def wnA (w : Wd) (t bc bs : Nat) (n : Int) (K : Nat → Wd → Prop) : Prop := (0 ≤ n ∧ n ≤ 65536 ∧ 1 ≤ bc ∧ n.toNat ≤ bs) ∧ ∀ k, 1000 ≤ k → gK w k = none → K k (nK w k (.inr (t, n.toNat)))
def zr (v : Int) (K : Prop) : Prop := (v = 0 ∨ v = 1) ∧ K
def FU : Nat := 100000
theorem fresh_of {G : GW} {A : Nat → Prop} {w : Wd} {ks : List Nat} {q k : Nat} {e : va_E} (g1 : ∀ k, gK w k ≠ none ↔ k ∈ ks) (hD : va_D A (wsG G w ks ++ [(q, e)])) (hk : adG G k = q) : gK w k = none := by
  cases e9 : gK w k with
  | none => rfl
  | some dd =>
    obtain ⟨i, hi⟩ := List.getElem?_of_mem ((g1 k).mp (by rw [e9]; exact fun z => by cases z))
    have hl : i < (wsG G w ks).length := by rw [List.length_map]; exact (List.getElem?_eq_some_iff.mp hi).1
    have hij := hD.1 i (wsG G w ks).length (q, cE G w k) (q, e) (by rw [List.getElem?_append_left hl, List.getElem?_map, hi]; show some (adG G k, _) = _; rw [hk]) (by rw [List.getElem?_append_right (Nat.le_refl _), Nat.sub_self]; rfl) rfl
    omega
section ROWS2
variable {x : Cx} {own : String} {cc : ByteArray} {d : Nat} {Q : State → Prop} {w : Wd} {bc bs pc : Nat} {L L' : List (Nat × Value)} {st : List Value} {ci : Nat} {C : String} {T : u_T} {index k : Nat}
theorem j_getI (O : OK x own cc d) (c : CF ci C T) {KK : Int → Prop} (j : Nat) (hj : j < nfA ci) (ht : tyA ci j = .int ∨ tyA ci j = .boolean ∨ tyA ci j = .byte ∨ tyA ci j = .char) (q : Cond.fieldLink own index (T j).1 (T j).2.1 (T j).2.2.1 ∈ lw_all) (hd : decode cc pc = .ok (.getfield index, 3)) (h : gfI w k ci j KK) (K : ∀ v, KK v → J x Q w bc bs (pc + 3) L (vI v :: st)) : J x Q w bc bs pc L (.ref (adG (xG x) k) :: st) := by
  refine j_getf O c.1 c.2.1 hj h.1 q rfl hd ?_
  rcases ht with e | e | e | e <;> rw [e] <;> exact K _ h.2
theorem j_getL (O : OK x own cc d) (c : CF ci C T) {KK : Int → Prop} (j : Nat) (hj : j < nfA ci) (ht : tyA ci j = .long) (q : Cond.fieldLink own index (T j).1 (T j).2.1 (T j).2.2.1 ∈ lw_all) (hd : decode cc pc = .ok (.getfield index, 3)) (h : gfI w k ci j KK) (K : ∀ v, KK v → J x Q w bc bs (pc + 3) L (vL v :: st)) : J x Q w bc bs pc L (.ref (adG (xG x) k) :: st) := by
  refine j_getf O c.1 c.2.1 hj h.1 q rfl hd ?_
  rw [ht]
  exact K _ h.2
theorem j_getR (O : OK x own cc d) (c : CF ci C T) {KK : Option Nat → Prop} (j : Nat) (hj : j < nfA ci) (ht : ∃ E, tyA ci j = .object E) (q : Cond.fieldLink own index (T j).1 (T j).2.1 (T j).2.2.1 ∈ lw_all) (hd : decode cc pc = .ok (.getfield index, 3)) (h : gfR w k ci j KK) (K : ∀ v, KK v → J x Q w bc bs (pc + 3) L (vR (xG x) v :: st)) : J x Q w bc bs pc L (.ref (adG (xG x) k) :: st) := by
  refine j_getf O c.1 c.2.1 hj h.1 q rfl hd ?_
  obtain ⟨E, e⟩ := ht
  rw [e]
  exact K _ h.2
theorem j_getA (O : OK x own cc d) (c : CF ci C T) {KK : Nat → Prop} (j : Nat) (hj : j < nfA ci) (ht : ∃ E, tyA ci j = .array E) (q : Cond.fieldLink own index (T j).1 (T j).2.1 (T j).2.2.1 ∈ lw_all) (hd : decode cc pc = .ok (.getfield index, 3)) (h : gfA w k ci j KK) (K : ∀ v, KK v → J x Q w bc bs (pc + 3) L (.ref (adG (xG x) v) :: st)) : J x Q w bc bs pc L (.ref (adG (xG x) k) :: st) := by
  refine j_getf O c.1 c.2.1 hj h.1 q rfl hd ?_
  obtain ⟨E, e⟩ := ht
  obtain ⟨h0, a, ha, h⟩ := h
  rw [e, fvl_A, ha]
  exact K _ h
theorem j_putI (O : OK x own cc d) (c : CF ci C T) {v : Int} {KK : Wd → Prop} (j : Nat) (hj : j < nfA ci) (ht : tyA ci j = .int) (q : Cond.fieldLink own index (T j).1 (T j).2.1 (T j).2.2.1 ∈ lw_all) (hfin : (T j).2.2.2 = false) (hd : decode cc pc = .ok (.putfield index, 3)) (h : pfI w k ci j v KK) (K : ∀ w', KK w' → J x Q w' bc bs (pc + 3) L st) : J x Q w bc bs pc L (vI v :: .ref (adG (xG x) k) :: st) :=
  j_putf (w' := sV w k j v) O c.1 c.2.1 c.2.2.1 c.2.2.2 hj h.1 q rfl hfin (by rw [ht]; exact fOKI_nf trivial) (fun _ => rfl) (fun k' hk' => cE_sV hk') (by rw [ht]; show vI (gV (sV w k j v) k j) = _; rw [gV_same]) (fun i hi => fvl_sV hi) hd (K _ h.2)
theorem j_putZ (O : OK x own cc d) (c : CF ci C T) {v : Int} {KK : Wd → Prop} (j : Nat) (hj : j < nfA ci) (ht : tyA ci j = .boolean) (q : Cond.fieldLink own index (T j).1 (T j).2.1 (T j).2.2.1 ∈ lw_all) (hfin : (T j).2.2.2 = false) (hd : decode cc pc = .ok (.putfield index, 3)) (h : pfZ w k ci j v KK) (K : ∀ w', KK w' → J x Q w' bc bs (pc + 3) L st) : J x Q w bc bs pc L (vI v :: .ref (adG (xG x) k) :: st) :=
  j_putf (w' := sV w k j v) O c.1 c.2.1 c.2.2.1 c.2.2.2 hj h.1 q rfl hfin (by rw [ht]; exact fOKI_nf (ty := .boolean) h.2.1) (fun _ => rfl) (fun k' hk' => cE_sV hk') (by rw [ht]; show vI (gV (sV w k j v) k j) = _; rw [gV_same]) (fun i hi => fvl_sV hi) hd (K _ h.2.2)
theorem j_putC (O : OK x own cc d) (c : CF ci C T) {v : Int} {KK : Wd → Prop} (j : Nat) (hj : j < nfA ci) (ht : tyA ci j = .char) (q : Cond.fieldLink own index (T j).1 (T j).2.1 (T j).2.2.1 ∈ lw_all) (hfin : (T j).2.2.2 = false) (hd : decode cc pc = .ok (.putfield index, 3)) (h : pfC w k ci j v KK) (K : ∀ w', KK w' → J x Q w' bc bs (pc + 3) L st) : J x Q w bc bs pc L (vI v :: .ref (adG (xG x) k) :: st) :=
  j_putf (w' := sV w k j v) O c.1 c.2.1 c.2.2.1 c.2.2.2 hj h.1 q rfl hfin (by rw [ht]; exact fOKI_nf (ty := .char) h.2.1) (fun _ => rfl) (fun k' hk' => cE_sV hk') (by rw [ht]; show vI (gV (sV w k j v) k j) = _; rw [gV_same]) (fun i hi => fvl_sV hi) hd (K _ h.2.2)
theorem j_putL (O : OK x own cc d) (c : CF ci C T) {v : Int} {KK : Wd → Prop} (j : Nat) (hj : j < nfA ci) (ht : tyA ci j = .long) (q : Cond.fieldLink own index (T j).1 (T j).2.1 (T j).2.2.1 ∈ lw_all) (hfin : (T j).2.2.2 = false) (hd : decode cc pc = .ok (.putfield index, 3)) (h : pfI w k ci j v KK) (K : ∀ w', KK w' → J x Q w' bc bs (pc + 3) L st) : J x Q w bc bs pc L (vL v :: .ref (adG (xG x) k) :: st) :=
  j_putf (w' := sV w k j v) O c.1 c.2.1 c.2.2.1 c.2.2.2 hj h.1 q rfl hfin (by rw [ht]; exact ⟨rfl, rfl⟩) (fun _ => rfl) (fun k' hk' => cE_sV hk') (by rw [ht]; show vL (gV (sV w k j v) k j) = _; rw [gV_same]) (fun i hi => fvl_sV hi) hd (K _ h.2)
theorem j_putR (O : OK x own cc d) (c : CF ci C T) {v : Option Nat} {KK : Wd → Prop} (j : Nat) (hj : j < nfA ci) (ht : (∃ E, tyA ci j = .object E) ∨ ∃ E, tyA ci j = .array E) (q : Cond.fieldLink own index (T j).1 (T j).2.1 (T j).2.2.1 ∈ lw_all) (hfin : (T j).2.2.2 = false) (hd : decode cc pc = .ok (.putfield index, 3)) (h : pfR w k ci j v KK) (K : ∀ w', KK w' → J x Q w' bc bs (pc + 3) L st) : J x Q w bc bs pc L (vR (xG x) v :: .ref (adG (xG x) k) :: st) :=
  j_putf (w' := sR w k j v) O c.1 c.2.1 c.2.2.1 c.2.2.2 hj h.1 q rfl hfin (fRef_nf ht) (fun _ => rfl) (fun k' hk' => cE_sR hk') (by rcases ht with ⟨E, e⟩ | ⟨E, e⟩ <;> rw [e] <;> show vR _ (gR (sR w k j v) k j) = _ <;> rw [gR_same]) (fun i hi => fvl_sR hi) hd (K _ h.2)
theorem j_putFI (O : OK x own cc d) (c : CF ci C T) {v : Int} {KK : Wd → Prop} (j : Nat) (hj : j < nfA ci) (ht : tyA ci j = .int) (q : Cond.fieldLink own index (T j).1 (T j).2.1 (T j).2.2.1 ∈ lw_all) (hfin : (T j).2.2.2 = true) (hin2 : (xM x).name = "<init>") (hdecl : (T j).1 = own) (hd : decode cc pc = .ok (.putfield index, 3)) (h : pfI w k ci j v KK) (K : ∀ w', KK w' → J x Q w' bc bs (pc + 3) L st) : J x Q w bc bs pc L (vI v :: .ref (adG (xG x) k) :: st) :=
  j_putfF (w' := sV w k j v) O c.1 c.2.1 c.2.2.1 c.2.2.2 hj h.1 q rfl hfin hin2 hdecl (by rw [ht]; exact fOKI_nf trivial) (fun _ => rfl) (fun k' hk' => cE_sV hk') (by rw [ht]; show vI (gV (sV w k j v) k j) = _; rw [gV_same]) (fun i hi => fvl_sV hi) hd (K _ h.2)
theorem j_putFZ (O : OK x own cc d) (c : CF ci C T) {v : Int} {KK : Wd → Prop} (j : Nat) (hj : j < nfA ci) (ht : tyA ci j = .boolean) (q : Cond.fieldLink own index (T j).1 (T j).2.1 (T j).2.2.1 ∈ lw_all) (hfin : (T j).2.2.2 = true) (hin2 : (xM x).name = "<init>") (hdecl : (T j).1 = own) (hd : decode cc pc = .ok (.putfield index, 3)) (h : pfZ w k ci j v KK) (K : ∀ w', KK w' → J x Q w' bc bs (pc + 3) L st) : J x Q w bc bs pc L (vI v :: .ref (adG (xG x) k) :: st) :=
  j_putfF (w' := sV w k j v) O c.1 c.2.1 c.2.2.1 c.2.2.2 hj h.1 q rfl hfin hin2 hdecl (by rw [ht]; exact fOKI_nf (ty := .boolean) h.2.1) (fun _ => rfl) (fun k' hk' => cE_sV hk') (by rw [ht]; show vI (gV (sV w k j v) k j) = _; rw [gV_same]) (fun i hi => fvl_sV hi) hd (K _ h.2.2)
theorem j_putFC (O : OK x own cc d) (c : CF ci C T) {v : Int} {KK : Wd → Prop} (j : Nat) (hj : j < nfA ci) (ht : tyA ci j = .char) (q : Cond.fieldLink own index (T j).1 (T j).2.1 (T j).2.2.1 ∈ lw_all) (hfin : (T j).2.2.2 = true) (hin2 : (xM x).name = "<init>") (hdecl : (T j).1 = own) (hd : decode cc pc = .ok (.putfield index, 3)) (h : pfC w k ci j v KK) (K : ∀ w', KK w' → J x Q w' bc bs (pc + 3) L st) : J x Q w bc bs pc L (vI v :: .ref (adG (xG x) k) :: st) :=
  j_putfF (w' := sV w k j v) O c.1 c.2.1 c.2.2.1 c.2.2.2 hj h.1 q rfl hfin hin2 hdecl (by rw [ht]; exact fOKI_nf (ty := .char) h.2.1) (fun _ => rfl) (fun k' hk' => cE_sV hk') (by rw [ht]; show vI (gV (sV w k j v) k j) = _; rw [gV_same]) (fun i hi => fvl_sV hi) hd (K _ h.2.2)
theorem j_putFL (O : OK x own cc d) (c : CF ci C T) {v : Int} {KK : Wd → Prop} (j : Nat) (hj : j < nfA ci) (ht : tyA ci j = .long) (q : Cond.fieldLink own index (T j).1 (T j).2.1 (T j).2.2.1 ∈ lw_all) (hfin : (T j).2.2.2 = true) (hin2 : (xM x).name = "<init>") (hdecl : (T j).1 = own) (hd : decode cc pc = .ok (.putfield index, 3)) (h : pfI w k ci j v KK) (K : ∀ w', KK w' → J x Q w' bc bs (pc + 3) L st) : J x Q w bc bs pc L (vL v :: .ref (adG (xG x) k) :: st) :=
  j_putfF (w' := sV w k j v) O c.1 c.2.1 c.2.2.1 c.2.2.2 hj h.1 q rfl hfin hin2 hdecl (by rw [ht]; exact ⟨rfl, rfl⟩) (fun _ => rfl) (fun k' hk' => cE_sV hk') (by rw [ht]; show vL (gV (sV w k j v) k j) = _; rw [gV_same]) (fun i hi => fvl_sV hi) hd (K _ h.2)
theorem j_putFR (O : OK x own cc d) (c : CF ci C T) {v : Option Nat} {KK : Wd → Prop} (j : Nat) (hj : j < nfA ci) (ht : (∃ E, tyA ci j = .object E) ∨ ∃ E, tyA ci j = .array E) (q : Cond.fieldLink own index (T j).1 (T j).2.1 (T j).2.2.1 ∈ lw_all) (hfin : (T j).2.2.2 = true) (hin2 : (xM x).name = "<init>") (hdecl : (T j).1 = own) (hd : decode cc pc = .ok (.putfield index, 3)) (h : pfR w k ci j v KK) (K : ∀ w', KK w' → J x Q w' bc bs (pc + 3) L st) : J x Q w bc bs pc L (vR (xG x) v :: .ref (adG (xG x) k) :: st) :=
  j_putfF (w' := sR w k j v) O c.1 c.2.1 c.2.2.1 c.2.2.2 hj h.1 q rfl hfin hin2 hdecl (fRef_nf ht) (fun _ => rfl) (fun k' hk' => cE_sR hk') (by rcases ht with ⟨E, e⟩ | ⟨E, e⟩ <;> rw [e] <;> show vR _ (gR (sR w k j v) k j) = _ <;> rw [gR_same]) (fun i hi => fvl_sR hi) hd (K _ h.2)
theorem j_getIN (O : OK x own cc d) (c : CF ci C T) {host : String} {KK : Int → Prop} (j : Nat) (hj : j < nfA ci) (ht : tyA ci j = .int ∨ tyA ci j = .boolean ∨ tyA ci j = .byte ∨ tyA ci j = .char) (q : Cond.fieldLinkNest own index (T j).1 (T j).2.1 (T j).2.2.1 host ∈ lw_nst) (hd : decode cc pc = .ok (.getfield index, 3)) (h : gfI w k ci j KK) (K : ∀ v, KK v → J x Q w bc bs (pc + 3) L (vI v :: st)) : J x Q w bc bs pc L (.ref (adG (xG x) k) :: st) := by
  refine j_getfN O c.1 c.2.1 hj h.1 q rfl hd ?_
  rcases ht with e | e | e | e <;> rw [e] <;> exact K _ h.2
theorem j_getLN (O : OK x own cc d) (c : CF ci C T) {host : String} {KK : Int → Prop} (j : Nat) (hj : j < nfA ci) (ht : tyA ci j = .long) (q : Cond.fieldLinkNest own index (T j).1 (T j).2.1 (T j).2.2.1 host ∈ lw_nst) (hd : decode cc pc = .ok (.getfield index, 3)) (h : gfI w k ci j KK) (K : ∀ v, KK v → J x Q w bc bs (pc + 3) L (vL v :: st)) : J x Q w bc bs pc L (.ref (adG (xG x) k) :: st) := by
  refine j_getfN O c.1 c.2.1 hj h.1 q rfl hd ?_
  rw [ht]
  exact K _ h.2
theorem j_getRN (O : OK x own cc d) (c : CF ci C T) {host : String} {KK : Option Nat → Prop} (j : Nat) (hj : j < nfA ci) (ht : ∃ E, tyA ci j = .object E) (q : Cond.fieldLinkNest own index (T j).1 (T j).2.1 (T j).2.2.1 host ∈ lw_nst) (hd : decode cc pc = .ok (.getfield index, 3)) (h : gfR w k ci j KK) (K : ∀ v, KK v → J x Q w bc bs (pc + 3) L (vR (xG x) v :: st)) : J x Q w bc bs pc L (.ref (adG (xG x) k) :: st) := by
  refine j_getfN O c.1 c.2.1 hj h.1 q rfl hd ?_
  obtain ⟨E, e⟩ := ht
  rw [e]
  exact K _ h.2
theorem j_getAN (O : OK x own cc d) (c : CF ci C T) {host : String} {KK : Nat → Prop} (j : Nat) (hj : j < nfA ci) (ht : ∃ E, tyA ci j = .array E) (q : Cond.fieldLinkNest own index (T j).1 (T j).2.1 (T j).2.2.1 host ∈ lw_nst) (hd : decode cc pc = .ok (.getfield index, 3)) (h : gfA w k ci j KK) (K : ∀ v, KK v → J x Q w bc bs (pc + 3) L (.ref (adG (xG x) v) :: st)) : J x Q w bc bs pc L (.ref (adG (xG x) k) :: st) := by
  refine j_getfN O c.1 c.2.1 hj h.1 q rfl hd ?_
  obtain ⟨E, e⟩ := ht
  obtain ⟨h0, a, ha, h⟩ := h
  rw [e, fvl_A, ha]
  exact K _ h
theorem j_putIN (O : OK x own cc d) (c : CF ci C T) {host : String} {v : Int} {KK : Wd → Prop} (j : Nat) (hj : j < nfA ci) (ht : tyA ci j = .int) (q : Cond.fieldLinkNest own index (T j).1 (T j).2.1 (T j).2.2.1 host ∈ lw_nst) (hfin : (T j).2.2.2 = false) (hd : decode cc pc = .ok (.putfield index, 3)) (h : pfI w k ci j v KK) (K : ∀ w', KK w' → J x Q w' bc bs (pc + 3) L st) : J x Q w bc bs pc L (vI v :: .ref (adG (xG x) k) :: st) :=
  j_putfN (w' := sV w k j v) O c.1 c.2.1 c.2.2.1 c.2.2.2 hj h.1 q rfl hfin (by rw [ht]; exact fOKI_nf trivial) (fun _ => rfl) (fun k' hk' => cE_sV hk') (by rw [ht]; show vI (gV (sV w k j v) k j) = _; rw [gV_same]) (fun i hi => fvl_sV hi) hd (K _ h.2)
theorem j_putZN (O : OK x own cc d) (c : CF ci C T) {host : String} {v : Int} {KK : Wd → Prop} (j : Nat) (hj : j < nfA ci) (ht : tyA ci j = .boolean) (q : Cond.fieldLinkNest own index (T j).1 (T j).2.1 (T j).2.2.1 host ∈ lw_nst) (hfin : (T j).2.2.2 = false) (hd : decode cc pc = .ok (.putfield index, 3)) (h : pfZ w k ci j v KK) (K : ∀ w', KK w' → J x Q w' bc bs (pc + 3) L st) : J x Q w bc bs pc L (vI v :: .ref (adG (xG x) k) :: st) :=
  j_putfN (w' := sV w k j v) O c.1 c.2.1 c.2.2.1 c.2.2.2 hj h.1 q rfl hfin (by rw [ht]; exact fOKI_nf (ty := .boolean) h.2.1) (fun _ => rfl) (fun k' hk' => cE_sV hk') (by rw [ht]; show vI (gV (sV w k j v) k j) = _; rw [gV_same]) (fun i hi => fvl_sV hi) hd (K _ h.2.2)
theorem j_putCN (O : OK x own cc d) (c : CF ci C T) {host : String} {v : Int} {KK : Wd → Prop} (j : Nat) (hj : j < nfA ci) (ht : tyA ci j = .char) (q : Cond.fieldLinkNest own index (T j).1 (T j).2.1 (T j).2.2.1 host ∈ lw_nst) (hfin : (T j).2.2.2 = false) (hd : decode cc pc = .ok (.putfield index, 3)) (h : pfC w k ci j v KK) (K : ∀ w', KK w' → J x Q w' bc bs (pc + 3) L st) : J x Q w bc bs pc L (vI v :: .ref (adG (xG x) k) :: st) :=
  j_putfN (w' := sV w k j v) O c.1 c.2.1 c.2.2.1 c.2.2.2 hj h.1 q rfl hfin (by rw [ht]; exact fOKI_nf (ty := .char) h.2.1) (fun _ => rfl) (fun k' hk' => cE_sV hk') (by rw [ht]; show vI (gV (sV w k j v) k j) = _; rw [gV_same]) (fun i hi => fvl_sV hi) hd (K _ h.2.2)
theorem j_putLN (O : OK x own cc d) (c : CF ci C T) {host : String} {v : Int} {KK : Wd → Prop} (j : Nat) (hj : j < nfA ci) (ht : tyA ci j = .long) (q : Cond.fieldLinkNest own index (T j).1 (T j).2.1 (T j).2.2.1 host ∈ lw_nst) (hfin : (T j).2.2.2 = false) (hd : decode cc pc = .ok (.putfield index, 3)) (h : pfI w k ci j v KK) (K : ∀ w', KK w' → J x Q w' bc bs (pc + 3) L st) : J x Q w bc bs pc L (vL v :: .ref (adG (xG x) k) :: st) :=
  j_putfN (w' := sV w k j v) O c.1 c.2.1 c.2.2.1 c.2.2.2 hj h.1 q rfl hfin (by rw [ht]; exact ⟨rfl, rfl⟩) (fun _ => rfl) (fun k' hk' => cE_sV hk') (by rw [ht]; show vL (gV (sV w k j v) k j) = _; rw [gV_same]) (fun i hi => fvl_sV hi) hd (K _ h.2)
theorem j_putRN (O : OK x own cc d) (c : CF ci C T) {host : String} {v : Option Nat} {KK : Wd → Prop} (j : Nat) (hj : j < nfA ci) (ht : (∃ E, tyA ci j = .object E) ∨ ∃ E, tyA ci j = .array E) (q : Cond.fieldLinkNest own index (T j).1 (T j).2.1 (T j).2.2.1 host ∈ lw_nst) (hfin : (T j).2.2.2 = false) (hd : decode cc pc = .ok (.putfield index, 3)) (h : pfR w k ci j v KK) (K : ∀ w', KK w' → J x Q w' bc bs (pc + 3) L st) : J x Q w bc bs pc L (vR (xG x) v :: .ref (adG (xG x) k) :: st) :=
  j_putfN (w' := sR w k j v) O c.1 c.2.1 c.2.2.1 c.2.2.2 hj h.1 q rfl hfin (fRef_nf ht) (fun _ => rfl) (fun k' hk' => cE_sR hk') (by rcases ht with ⟨E, e⟩ | ⟨E, e⟩ <;> rw [e] <;> show vR _ (gR (sR w k j v) k j) = _ <;> rw [gR_same]) (fun i hi => fvl_sR hi) hd (K _ h.2)
theorem j_lcif_eq (O : OK x own cc d) {a b : Int} {A B : Prop} {off : Int} {pc1 tgt : Nat} (hd : decode cc pc = .ok (.lcmp, 1)) (hp : pc + 1 = pc1) (hd2 : decode cc pc1 = .ok (.ifCond .eq off, 3)) (ht : (pc1 : Int) + off = (tgt : Int)) (ha : inL a) (hb : inL b) (h : br (a = b) A B) (K1 : A → J x Q w bc bs tgt L st) (K2 : B → J x Q w bc bs (pc1 + 3) L st) : J x Q w bc bs pc L (vL b :: vL a :: st) := by
  subst hp
  have e : (Int32.ofInt (lcp a b)) = lg_cmp (Int64.ofInt a) (Int64.ofInt b) := by
    unfold lcp lg_cmp
    simp only [GT.gt, i64_lt hb ha, i64_eq ha hb]
    split <;> split <;> first | rfl | omega | (split <;> first | rfl | omega)
  have hl0 : inI (lcp a b) := by
    unfold lcp
    split
    · decide
    · split <;> decide
  have hh : br (lcp a b = 0) A B := by
    refine ⟨fun z => h.1 ?_, fun z => h.2 ?_⟩
    · unfold lcp at z
      split at z <;> (try split at z) <;> omega
    · unfold lcp at z
      split at z <;> (try split at z) <;> omega
  have K := j_if_eq O hd2 ht hl0 hh K1 K2
  exact fun H locs cells slots ls hP hS hl h1 h2 => W.lcmp O.1.1 O.1.2.1 hd (by rw [← e]; exact K H locs cells slots ls hP hS hl h1 h2)
theorem j_lcif_ne (O : OK x own cc d) {a b : Int} {A B : Prop} {off : Int} {pc1 tgt : Nat} (hd : decode cc pc = .ok (.lcmp, 1)) (hp : pc + 1 = pc1) (hd2 : decode cc pc1 = .ok (.ifCond .ne off, 3)) (ht : (pc1 : Int) + off = (tgt : Int)) (ha : inL a) (hb : inL b) (h : br (¬ a = b) A B) (K1 : A → J x Q w bc bs tgt L st) (K2 : B → J x Q w bc bs (pc1 + 3) L st) : J x Q w bc bs pc L (vL b :: vL a :: st) := by
  subst hp
  have e : (Int32.ofInt (lcp a b)) = lg_cmp (Int64.ofInt a) (Int64.ofInt b) := by
    unfold lcp lg_cmp
    simp only [GT.gt, i64_lt hb ha, i64_eq ha hb]
    split <;> split <;> first | rfl | omega | (split <;> first | rfl | omega)
  have hl0 : inI (lcp a b) := by
    unfold lcp
    split
    · decide
    · split <;> decide
  have hh : br (¬ lcp a b = 0) A B := by
    refine ⟨fun z => h.1 ?_, fun z => h.2 ?_⟩
    · unfold lcp at z
      split at z <;> (try split at z) <;> omega
    · unfold lcp at z
      split at z <;> (try split at z) <;> omega
  have K := j_if_ne O hd2 ht hl0 hh K1 K2
  exact fun H locs cells slots ls hP hS hl h1 h2 => W.lcmp O.1.1 O.1.2.1 hd (by rw [← e]; exact K H locs cells slots ls hP hS hl h1 h2)
theorem j_lcif_lt (O : OK x own cc d) {a b : Int} {A B : Prop} {off : Int} {pc1 tgt : Nat} (hd : decode cc pc = .ok (.lcmp, 1)) (hp : pc + 1 = pc1) (hd2 : decode cc pc1 = .ok (.ifCond .lt off, 3)) (ht : (pc1 : Int) + off = (tgt : Int)) (ha : inL a) (hb : inL b) (h : br (a < b) A B) (K1 : A → J x Q w bc bs tgt L st) (K2 : B → J x Q w bc bs (pc1 + 3) L st) : J x Q w bc bs pc L (vL b :: vL a :: st) := by
  subst hp
  have e : (Int32.ofInt (lcp a b)) = lg_cmp (Int64.ofInt a) (Int64.ofInt b) := by
    unfold lcp lg_cmp
    simp only [GT.gt, i64_lt hb ha, i64_eq ha hb]
    split <;> split <;> first | rfl | omega | (split <;> first | rfl | omega)
  have hl0 : inI (lcp a b) := by
    unfold lcp
    split
    · decide
    · split <;> decide
  have hh : br (lcp a b < 0) A B := by
    refine ⟨fun z => h.1 ?_, fun z => h.2 ?_⟩
    · unfold lcp at z
      split at z <;> (try split at z) <;> omega
    · unfold lcp at z
      split at z <;> (try split at z) <;> omega
  have K := j_if_lt O hd2 ht hl0 hh K1 K2
  exact fun H locs cells slots ls hP hS hl h1 h2 => W.lcmp O.1.1 O.1.2.1 hd (by rw [← e]; exact K H locs cells slots ls hP hS hl h1 h2)
theorem j_lcif_ge (O : OK x own cc d) {a b : Int} {A B : Prop} {off : Int} {pc1 tgt : Nat} (hd : decode cc pc = .ok (.lcmp, 1)) (hp : pc + 1 = pc1) (hd2 : decode cc pc1 = .ok (.ifCond .ge off, 3)) (ht : (pc1 : Int) + off = (tgt : Int)) (ha : inL a) (hb : inL b) (h : br (b ≤ a) A B) (K1 : A → J x Q w bc bs tgt L st) (K2 : B → J x Q w bc bs (pc1 + 3) L st) : J x Q w bc bs pc L (vL b :: vL a :: st) := by
  subst hp
  have e : (Int32.ofInt (lcp a b)) = lg_cmp (Int64.ofInt a) (Int64.ofInt b) := by
    unfold lcp lg_cmp
    simp only [GT.gt, i64_lt hb ha, i64_eq ha hb]
    split <;> split <;> first | rfl | omega | (split <;> first | rfl | omega)
  have hl0 : inI (lcp a b) := by
    unfold lcp
    split
    · decide
    · split <;> decide
  have hh : br (0 ≤ lcp a b) A B := by
    refine ⟨fun z => h.1 ?_, fun z => h.2 ?_⟩
    · unfold lcp at z
      split at z <;> (try split at z) <;> omega
    · unfold lcp at z
      split at z <;> (try split at z) <;> omega
  have K := j_if_ge O hd2 ht hl0 hh K1 K2
  exact fun H locs cells slots ls hP hS hl h1 h2 => W.lcmp O.1.1 O.1.2.1 hd (by rw [← e]; exact K H locs cells slots ls hP hS hl h1 h2)
theorem j_lcif_gt (O : OK x own cc d) {a b : Int} {A B : Prop} {off : Int} {pc1 tgt : Nat} (hd : decode cc pc = .ok (.lcmp, 1)) (hp : pc + 1 = pc1) (hd2 : decode cc pc1 = .ok (.ifCond .gt off, 3)) (ht : (pc1 : Int) + off = (tgt : Int)) (ha : inL a) (hb : inL b) (h : br (b < a) A B) (K1 : A → J x Q w bc bs tgt L st) (K2 : B → J x Q w bc bs (pc1 + 3) L st) : J x Q w bc bs pc L (vL b :: vL a :: st) := by
  subst hp
  have e : (Int32.ofInt (lcp a b)) = lg_cmp (Int64.ofInt a) (Int64.ofInt b) := by
    unfold lcp lg_cmp
    simp only [GT.gt, i64_lt hb ha, i64_eq ha hb]
    split <;> split <;> first | rfl | omega | (split <;> first | rfl | omega)
  have hl0 : inI (lcp a b) := by
    unfold lcp
    split
    · decide
    · split <;> decide
  have hh : br (0 < lcp a b) A B := by
    refine ⟨fun z => h.1 ?_, fun z => h.2 ?_⟩
    · unfold lcp at z
      split at z <;> (try split at z) <;> omega
    · unfold lcp at z
      split at z <;> (try split at z) <;> omega
  have K := j_if_gt O hd2 ht hl0 hh K1 K2
  exact fun H locs cells slots ls hP hS hl h1 h2 => W.lcmp O.1.1 O.1.2.1 hd (by rw [← e]; exact K H locs cells slots ls hP hS hl h1 h2)
theorem j_lcif_le (O : OK x own cc d) {a b : Int} {A B : Prop} {off : Int} {pc1 tgt : Nat} (hd : decode cc pc = .ok (.lcmp, 1)) (hp : pc + 1 = pc1) (hd2 : decode cc pc1 = .ok (.ifCond .le off, 3)) (ht : (pc1 : Int) + off = (tgt : Int)) (ha : inL a) (hb : inL b) (h : br (a ≤ b) A B) (K1 : A → J x Q w bc bs tgt L st) (K2 : B → J x Q w bc bs (pc1 + 3) L st) : J x Q w bc bs pc L (vL b :: vL a :: st) := by
  subst hp
  have e : (Int32.ofInt (lcp a b)) = lg_cmp (Int64.ofInt a) (Int64.ofInt b) := by
    unfold lcp lg_cmp
    simp only [GT.gt, i64_lt hb ha, i64_eq ha hb]
    split <;> split <;> first | rfl | omega | (split <;> first | rfl | omega)
  have hl0 : inI (lcp a b) := by
    unfold lcp
    split
    · decide
    · split <;> decide
  have hh : br (lcp a b ≤ 0) A B := by
    refine ⟨fun z => h.1 ?_, fun z => h.2 ?_⟩
    · unfold lcp at z
      split at z <;> (try split at z) <;> omega
    · unfold lcp at z
      split at z <;> (try split at z) <;> omega
  have K := j_if_le O hd2 ht hl0 hh K1 K2
  exact fun H locs cells slots ls hP hS hl h1 h2 => W.lcmp O.1.1 O.1.2.1 hd (by rw [← e]; exact K H locs cells slots ls hP hS hl h1 h2)
theorem j_newO (O : OK x own cc d) (c : CF ci C T) {KK : Nat → Wd → Prop} (q1 : Cond.classLink own index C ∈ lw_all) (q2 : Cond.instantiable C (nfA ci) ∈ lw_all) (q3 : Cond.initialized C ∈ lw_all) (hd : decode cc pc = .ok (.new index, 3)) (h : wnO w ci bc bs KK) (K : ∀ k w', KK k w' → J x Q w' (bc - 1) (bs - nfA ci) (pc + 3) L (.ref (adG (xG x) k) :: st)) : J x Q w bc bs pc L st := by
  intro H locs cells slots ls hP hS hl h1 h2
  obtain ⟨⟨hb1, hb2⟩, h⟩ := h
  have hP0 := hP
  obtain ⟨ks, g1, g2, g3⟩ := hP
  refine va_new (cl := clA) (ci := ci) (fs := (List.range (nfA ci)).map (fun j => defaultValue (tyA ci j))) (C := C) (T := T) (N := nfA ci) O.1.1 O.1.2.1 O.1.2.2.2.2 c.2.1 (tyA ci) c.2.2.2 O.1.2.2.2.1 (O.1.2.2.2.2 _ q1) (O.1.2.2.2.2 _ q2) (O.1.2.2.2.2 _ q3) O.2.1 g2 g3 hS O.2.2.2.1 c.1 (fun j hj => ?_) ?_ ?_ hd (fun q H1 a1 a2 a3 => ?_)
  · simp only [vp_V, List.getD_eq_getElem?_getD, fs_at hj, Option.getD_some]
  · rw [O.2.2.2.2.2.1.2.2.1]; omega
  · rw [O.2.2.2.2.2.1.2.2.2]; omega
  · have ead : adG (xG x) (q + 1000) = q := by rw [O.2.2.2.2.2.2 _ (by omega)]; omega
    have hk : gK w (q + 1000) = none := fresh_of g1 a2 ead
    have hcE : (q, (Sum.inr (ci, (List.range (nfA ci)).map (fun j => defaultValue (tyA ci j))) : va_E)) = (adG (xG x) (q + 1000), cE (xG x) (nK w (q + 1000) (.inl ci)) (q + 1000)) := by
      rw [ead, cE_obj (ci := ci) (by rw [gK_nK, if_pos rfl])]
      congr 3
      apply List.map_congr_left
      intro j hj
      unfold fvl
      rw [gV_nK, if_pos rfl, gR_nK, if_pos rfl]
      cases tyA ci j <;> rfl
    rw [hcE] at a1 a2
    obtain ⟨ks', b1, b2, b3⟩ := hP0.new (w' := nK w (q + 1000) (.inl ci)) (d := .inl ci) hk (fun k' => gK_nK _ _ _ _) (fun k' hk' => cE_nK hk')
    have hP' : HP (xG x) (xA x) (nK w (q + 1000) (.inl ci)) H1 := by
      refine ⟨ks ++ [q + 1000], fun k' => ?_, ?_, ?_⟩
      · rw [gK_nK, List.mem_append, List.mem_singleton]
        by_cases hkk : k' = q + 1000
        · simp [hkk]
        · simp [hkk, g1 k']
      · rw [wsG, List.map_append]
        have em : ks.map (fun k => (adG (xG x) k, cE (xG x) (nK w (q + 1000) (.inl ci)) k)) = wsG (xG x) w ks := by
          apply List.map_congr_left
          intro b hb
          rw [cE_nK (fun e => by rw [e] at hb; exact (g1 _).mpr hb hk)]
        rw [em]; exact a1
      · rw [wsG, List.map_append]
        have em : ks.map (fun k => (adG (xG x) k, cE (xG x) (nK w (q + 1000) (.inl ci)) k)) = wsG (xG x) w ks := by
          apply List.map_congr_left
          intro b hb
          rw [cE_nK (fun e => by rw [e] at hb; exact (g1 _).mpr hb hk)]
        rw [em]; exact a2
    have K' := K (q + 1000) _ (h (q + 1000) (by omega) hk) H1 locs (cells + 1) (slots + nfA ci) ls hP' a3 hl (by omega) (by omega)
    rw [ead] at K'
    exact K'
theorem j_newA (O : OK x own cc d) {n : Int} {KK : Nat → Wd → Prop} {atype : ArrayType} (t : Nat) (ht : t < 4) (hty : newarray.typeOf atype = aty t) (q : Cond.arrayClass (aty t) ∈ lw_all) (hd : decode cc pc = .ok (.newarray atype, 2)) (h : wnA w t bc bs n KK) (K : ∀ k w', KK k w' → J x Q w' (bc - 1) (bs - n.toNat) (pc + 2) L (.ref (adG (xG x) k) :: st)) : J x Q w bc bs pc L (vI n :: st) := by
  intro H locs cells slots ls hP hS hl h1 h2
  obtain ⟨⟨n0, n1, hb1, hb2⟩, h⟩ := h
  have hP0 := hP
  obtain ⟨ks, g1, g2, g3⟩ := hP
  have en : (Int32.ofInt n).toInt = n := i32_toInt ⟨by omega, by omega⟩
  refine va_newa (cl := clA) (a0 := (n.toNat, arE (xG x) (nK w 0 (.inr (t, n.toNat))) 0 t)) (N' := n.toNat) O.1.1 O.1.2.1 (by rw [hty]; exact O.1.2.2.2.2 _ q) hty O.2.1 g2 g3 hS O.2.2.2.1 (fun cA => ?_) (fun e => ?_) ?_ ?_ ?_ ?_ hd (fun q cA H1 aK a1 a2 a3 => ?_)
  · match t, ht with
    | 0, _ => rfl
    | 1, _ => rfl
    | 2, _ => rfl
    | 3, _ => rfl
  · rw [Int32.lt_iff_toInt_lt, en, Int32.toInt_zero] at e; omega
  · rw [Int32.toNatClampNeg, en]
  · have hcb : componentBytes (aty t) ≤ 8 := by
      match t, ht with
      | 0, _ => decide
      | 1, _ => decide
      | 2, _ => decide
      | 3, _ => decide
    have h9 := Nat.mul_le_mul_left n.toNat hcb
    omega
  · rw [O.2.2.2.2.2.1.2.2.1]; omega
  · rw [O.2.2.2.2.2.1.2.2.2]; omega
  · have eA : cA = (xG x).2.1 t := by
      have z1 := (aK.2 7 (cA, aty t) rfl).2
      have z2 := (O.2.1.2 t ((xG x).2.1 t, aty t) (tysG_at (xG x) (by omega))).2
      match t, ht, z1, z2 with
      | 0, _, z1, z2 => exact Option.some.inj (z1.symm.trans z2)
      | 1, _, z1, z2 => exact Option.some.inj (z1.symm.trans z2)
      | 2, _, z1, z2 => exact Option.some.inj (z1.symm.trans z2)
      | 3, _, z1, z2 => exact Option.some.inj (z1.symm.trans z2)
    subst eA
    have ead : adG (xG x) (q + 1000) = q := by rw [O.2.2.2.2.2.2 _ (by omega)]; omega
    have hk : gK w (q + 1000) = none := fresh_of g1 a2 ead
    have hcE : (q, (Sum.inl ((xG x).2.1 t, n.toNat, arE (xG x) (nK w 0 (.inr (t, n.toNat))) 0 t) : va_E)) = (adG (xG x) (q + 1000), cE (xG x) (nK w (q + 1000) (.inr (t, n.toNat))) (q + 1000)) := by
      rw [ead, cE_arr (t := t) (n := n.toNat) (by rw [gK_nK, if_pos rfl])]
      have ee : arE (xG x) (nK w 0 (.inr (t, n.toNat))) 0 t = arE (xG x) (nK w (q + 1000) (.inr (t, n.toNat))) (q + 1000) t := by
        unfold arE
        simp only [gV_nK, gR_nK, if_true]
      rw [ee]
    rw [hcE] at a1 a2
    have em : ks.map (fun k => (adG (xG x) k, cE (xG x) (nK w (q + 1000) (.inr (t, n.toNat))) k)) = wsG (xG x) w ks := by
      apply List.map_congr_left
      intro b hb
      rw [cE_nK (fun e => by rw [e] at hb; exact (g1 _).mpr hb hk)]
    have hP' : HP (xG x) (xA x) (nK w (q + 1000) (.inr (t, n.toNat))) H1 := by
      refine ⟨ks ++ [q + 1000], fun k' => ?_, ?_, ?_⟩
      · rw [gK_nK, List.mem_append, List.mem_singleton]
        by_cases hkk : k' = q + 1000
        · simp [hkk]
        · simp [hkk, g1 k']
      · rw [wsG, List.map_append, em]; exact a1
      · rw [wsG, List.map_append, em]; exact a2
    have K' := K (q + 1000) _ (h (q + 1000) (by omega) hk) H1 locs (cells + 1) (slots + n.toNat) ls hP' a3 hl (by omega) (by omega)
    rw [ead] at K'
    exact K'
/-- contracts out of the walk, by the kind of answer -/
theorem met_I {l : Launch} {G : GW} {y : MethodName} {cc : ByteArray} {n : Nat} {ret : FieldType} {d mc ms : Nat} (av : GW → List Value) {w : Wd} {Q : Int → Wd → Prop} (hy : plainName y.cls = true) (hn : ∀ G, (lg_sl (av G)).length ≤ n) (body : ∀ x : Cx, OK x y.cls cc d → xl x = l → xn x = n → (xM x).sig.returnType = some ret → J x (TI x Q) w mc ms 0 (lv_args 0 (av (xG x))) []) : MI l G y cc n ret d mc ms (av G) w Q := by
  refine met_of hy (hn G) (fun x O e1 e2 e3 e4 e5 e6 e7 e8 => ?_)
  have h := body x O e1 e3 e4
  rw [← e2, show QI (xG x) w Q (xs x).heap.size = va_Qi (fun (r : Int32) (u : Int × Wd) => r = Int32.ofInt u.1 ∧ Q u.1 u.2) (fun u t => HP (xG x) (xA x) u.2 t.heap) (xA x) by rw [e6, e2]]
  exact h
theorem met_L {l : Launch} {G : GW} {y : MethodName} {cc : ByteArray} {n : Nat} {d mc ms : Nat} (av : GW → List Value) {w : Wd} {Q : Int → Wd → Prop} (hy : plainName y.cls = true) (hn : ∀ G, (lg_sl (av G)).length ≤ n) (body : ∀ x : Cx, OK x y.cls cc d → xl x = l → xn x = n → (xM x).sig.returnType = some .long → J x (TL x Q) w mc ms 0 (lv_args 0 (av (xG x))) []) : ML l G y cc n d mc ms (av G) w Q := by
  refine met_of hy (hn G) (fun x O e1 e2 e3 e4 e5 e6 e7 e8 => ?_)
  have h := body x O e1 e3 e4
  rw [← e2, show QL (xG x) w Q (xs x).heap.size = va_Ql (fun (r : Int64) (u : Int × Wd) => r = Int64.ofInt u.1 ∧ Q u.1 u.2) (fun u t => HP (xG x) (xA x) u.2 t.heap) (xA x) by rw [e6, e2]]
  exact h
theorem met_V {l : Launch} {G : GW} {y : MethodName} {cc : ByteArray} {n : Nat} {d mc ms : Nat} (av : GW → List Value) {w : Wd} {Q : Wd → Prop} (hy : plainName y.cls = true) (hn : ∀ G, (lg_sl (av G)).length ≤ n) (body : ∀ x : Cx, OK x y.cls cc d → xl x = l → xn x = n → (xM x).sig.returnType = none → (xM x).name = y.name → J x (TV x Q) w mc ms 0 (lv_args 0 (av (xG x))) []) : MV l G y cc n d mc ms (av G) w Q := by
  refine met_of hy (hn G) (fun x O e1 e2 e3 e4 e5 e6 e7 e8 => ?_)
  have h := body x O e1 e3 e4 e5
  rw [← e2, show QV (xG x) w Q (xs x).heap.size = va_Qv (fun (u : Wd) => Q u) (fun u t => HP (xG x) (xA x) u t.heap) (xA x) by rw [e6, e2]]
  exact h
theorem met_R {l : Launch} {G : GW} {y : MethodName} {cc : ByteArray} {n : Nat} {ret : FieldType} {d mc ms : Nat} (av : GW → List Value) {w : Wd} {Q : Option Nat → Wd → Prop} (hy : plainName y.cls = true) (hn : ∀ G, (lg_sl (av G)).length ≤ n) (body : ∀ x : Cx, OK x y.cls cc d → xl x = l → xn x = n → (xM x).sig.returnType = some ret → J x (TR x Q) w mc ms 0 (lv_args 0 (av (xG x))) []) : MR l G y cc n ret d mc ms (av G) w Q := by
  refine met_of hy (hn G) (fun x O e1 e2 e3 e4 e5 e6 e7 e8 => ?_)
  have h := body x O e1 e3 e4
  rw [← e2, show QR (xG x) w Q (xs x).heap.size = va_Qq (fun (r : Option Nat) (u : Option Nat × Wd) => r = u.1.map (adG (xG x)) ∧ Q u.1 u.2) (fun u t => HP (xG x) (xA x) u.2 t.heap) (xA x) by rw [e6, e2]]
  exact h
end ROWS2
