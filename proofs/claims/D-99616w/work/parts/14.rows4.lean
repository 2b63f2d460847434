/-! ROWS: receivers of one of two classes, Strings' own methods, char and byte answers, throws -/
def ius (a b : Int) : Int := ((Int32.ofInt a).toUInt32 >>> ((Int32.ofInt b).toUInt32 &&& Int32.toUInt32 31)).toInt32.toInt
def eqK (a b : Nat) (K : Prop) : Prop := a = b ∧ K
def gcA (w : Wd) (k : Nat) (K : Prop) : Prop := (∃ n, gK w k = some (.inr (4, n))) ∧ K
def cr (v : Int) (K : Prop) : Prop := (0 ≤ v ∧ v < 65536) ∧ K
def thr (w : Wd) (k : Nat) (X : Nat → Wd → Prop) : Prop := (∃ ci, ci < 19 ∧ gK w k = some (.inl ci)) ∧ X k w
def iMx (a b : Int) : Int := if a < b then b else a
def iMxL (a b : Int) : Int := if b < a then a else b
def iMn (a b : Int) : Int := if b < a then b else a
def iAb (a : Int) : Int := if 0 ≤ a then a else 0 - a
def xB (bc bs : Nat) (K : Nat → Nat → Prop) : Prop := ∃ mc ms, (mc ≤ bc ∧ ms ≤ bs) ∧ K mc ms
def sO (k : Nat) (K : Prop) : Prop := (∃ i, i < 45 ∧ k = 900 + i) ∧ K
def gfI2 (w : Wd) (k c1 c2 j : Nat) (K : Int → Prop) : Prop := gf2 w k c1 c2 (K (gV w k j))
def gfA2 (w : Wd) (k c1 c2 j : Nat) (K : Nat → Prop) : Prop := gf2 w k c1 c2 (∃ a, gR w k j = some a ∧ K a)
def pfI2 (w : Wd) (k c1 c2 j : Nat) (x : Int) (K : Wd → Prop) : Prop := gf2 w k c1 c2 (K (sV w k j x))
def pfR2 (w : Wd) (k c1 c2 j : Nat) (r : Option Nat) (K : Wd → Prop) : Prop := gf2 w k c1 c2 (K (sR w k j r))
theorem vR_cat (G : GW) (o : Option Nat) : (vR G o).category = 1 := by cases o <;> rfl
section ROWS4
variable {x : Cx} {own : String} {cc : ByteArray} {d : Nat} {Q : State → Prop} {w : Wd} {bc bs pc : Nat} {L L' : List (Nat × Value)} {st : List Value} {ci : Nat} {C : String} {T : u_T} {index k : Nat} {Qx : Array Value → State → Outcome → State → Prop} {X : Nat → Wd → Prop}
theorem j_iushr' (O : OK x own cc d) {a b : Int} (hd : decode cc pc = .ok (.iushr, 1)) (K : J x Q w bc bs (pc + 1) L (vI (ius a b) :: st)) : J x Q w bc bs pc L (vI b :: vI a :: st) := j_iushr O hd K
theorem j_cret (O : OK x own cc d) {v : Int} {Qr : Int → Wd → Prop} (hr : (xM x).sig.returnType = some .char) (hd : decode cc pc = .ok (.ireturn, 1)) (h : (0 ≤ v ∧ v < 65536) ∧ Qr v w) : J x (TI x Qr) w bc bs pc L [vI v] := by
  intro H locs cells slots ls hP hS hl h1 h2
  refine W.widen (k := xmc x) (n := xms x) (by omega) (by omega) ?_
  exact W.zret (v := Int32.ofInt v) O.1.1 O.1.2.1 hr (fOKI_nf (ty := .char) h.1).1 (fun t ht hW => ⟨⟨_, (v, w), rfl, ⟨rfl, h.2⟩, by show HP _ _ _ t.heap; rw [ht]; exact hP⟩, hS.F ht⟩) hS.2.2 hd O.2.2.2.2.1
theorem j_bret (O : OK x own cc d) {v : Int} {Qr : Int → Wd → Prop} (hr : (xM x).sig.returnType = some .byte) (hd : decode cc pc = .ok (.ireturn, 1)) (h : (v = 0 ∨ v = 1) ∧ Qr v w) : J x (TI x Qr) w bc bs pc L [vI v] := by
  intro H locs cells slots ls hP hS hl h1 h2
  refine W.widen (k := xmc x) (n := xms x) (by omega) (by omega) ?_
  exact W.zret (v := Int32.ofInt v) O.1.1 O.1.2.1 hr (by rcases h.1 with e | e <;> subst e <;> rfl) (fun t ht hW => ⟨⟨_, (v, w), rfl, ⟨rfl, h.2⟩, by show HP _ _ _ t.heap; rw [ht]; exact hP⟩, hS.F ht⟩) hS.2.2 hd O.2.2.2.2.1
theorem jx_throw (O : OK x own cc d) (hne : ∀ z ∈ (xc x).exceptionTable.toList, False) (hd : decode cc pc = .ok (.athrow, 1)) (h : thr w k X) : J x (TX x Qx X) w bc bs pc L (.ref (adG (xG x) k) :: st) := by
  obtain ⟨⟨ci, hci, hk⟩, h⟩ := h
  exact jx_athrow O hd (jx_out O hne hk hci h)
theorem j_acmp_eqK (O : OK x own cc d) {off : Int} (hd : decode cc pc = .ok (.if_acmp .ne off, 3)) {tgt : Nat} (ht : (pc : Int) + off = (tgt : Int)) (K : J x Q w bc bs (pc + 3) L st) : J x Q w bc bs pc L (.ref (adG (xG x) k) :: .ref (adG (xG x) k) :: st) :=
  j_acmp_ne (a := some k) (b := some k) (A := False) (B := True) O hd ht (Iff.intro (fun _ => rfl) (fun _ => rfl)) ⟨fun h => (h rfl).elim, fun _ => trivial⟩ (fun h => h.elim) (fun _ => K)
theorem lw_U {own : String} {idx : Nat} {C owner : String} {x0 y : MethodName} {b : ByteArray} {L : Nat} {r : Option FieldType} (h1 : Cond.methodLink own idx x0 ∈ lw_all) (h2 : Cond.sameMethod x0.cls owner x0.name x0.desc ∈ lw_all) (h3 : Cond.selects C x0 y ∈ lw_all) (h4 : Cond.instanceMethod y ∈ lw_all) (h5 : Cond.initialized y.cls ∈ lw_all) (h6 : Cond.code y b L r ∈ lw_all) : GoodIn lw_all (va_wsU own idx C owner x0 y (ws_ y b L r)) := by
  refine lw_app ?_ (lw_meth h6)
  intro w hw
  simp only [List.mem_cons, List.not_mem_nil, or_false] at hw
  rcases hw with e | e | e | e | e
  · rw [e]; exact h1
  · rw [e]; exact h2
  · rw [e]; exact h3
  · rw [e]; exact h4
  · rw [e]; exact h5
theorem run_VS (O : OK x own cc d) {y : MethodName} {b : ByteArray} {maxL index n d' mc' ms' : Nat} {ret : Option FieldType} {As : List Value} {Qc : Nat → Array Value → State → Outcome → State → Prop} (hM : MX (xl x) (xG x) y b maxL ret d' mc' ms' (.ref (adG (xG x) k) :: As) w Qc) (hk : ∃ i, i < 45 ∧ k = 900 + i) (q1 : Cond.methodLink own index y ∈ lw_all) (q2 : Cond.instanceMethod y ∈ lw_all) (q3 : Cond.selects "java/lang/String" y y ∈ lw_all) (q4 : Cond.initialized "java/lang/String" ∈ lw_all) (q5 : Cond.code y b maxL ret ∈ lw_all)
    (hy : y.cls = "java/lang/String" ∧ y.cls ≠ "java/lang/invoke/MethodHandle" ∧ y.cls ≠ "java/lang/invoke/VarHandle" ∧ (parseMethodDescriptor y.desc).map (fun d => d.parameters.length) = some n) (hR : d' + 1 ≤ d) (hL : maxL ≤ 41) (hb : mc' ≤ bc ∧ ms' ≤ bs) (hn : As.length = n) (hroom : (st.map fun v => v.category).sum ≤ 8) (hd : decode cc pc = .ok (.invokevirtual index, 3)) : RunX x w bc bs pc L (As.reverse ++ .ref (adG (xG x) k) :: st) st mc' ms' (.ref (adG (xG x) k) :: As) Qc := by
  intro H locs cells slots ls hP hS hl h1 h2
  obtain ⟨i, hi, rfl⟩ := hk
  obtain ⟨cell, c1, c2, c3, -⟩ := ((O.2.2.1.kept hS.2.1).2.2.2.2.2.2 i hi).2.1
  exact va_runV (As := As) (rest := st) O.1 (hM H.size) (cwV n O.1.2.2.2.2 (lw_V q1 q2 q3 q4 q5) rfl rfl rfl hy (rm_in O hR hL)) ⟨PreW.blind, ⟨cell, c1, c2, c3⟩, pre_of O hP hS _⟩ rfl hn hl.1 rfl (lv_room hroom) hd (rc_in O h1 h2 hb)
theorem j_getI2 (O : OK x own cc d) {C2 : String} {T2 : u_T} {c2 : Nat} (c : CF ci C T) (e : CF c2 C2 T2) {KK : Int → Prop} (j : Nat) (hj : j < nfA ci ∧ j < nfA c2) (ht : tyA ci j = .int ∧ tyA c2 j = .int) (q : Cond.fieldLink own index (T j).1 (T j).2.1 (T j).2.2.1 ∈ lw_all) (q2 : Cond.fieldLink own index (T2 j).1 (T2 j).2.1 (T2 j).2.2.1 ∈ lw_all) (hd : decode cc pc = .ok (.getfield index, 3)) (h : gfI2 w k ci c2 j KK) (K : ∀ v, KK v → J x Q w bc bs (pc + 3) L (vI v :: st)) : J x Q w bc bs pc L (.ref (adG (xG x) k) :: st) := by
  obtain ⟨g | g, h⟩ := h
  · exact j_getI O c j hj.1 (.inl ht.1) q hd ⟨g, h⟩ K
  · exact j_getI O e j hj.2 (.inl ht.2) q2 hd ⟨g, h⟩ K
theorem j_getA2 (O : OK x own cc d) {C2 : String} {T2 : u_T} {c2 : Nat} (c : CF ci C T) (e : CF c2 C2 T2) {KK : Nat → Prop} (j : Nat) (hj : j < nfA ci ∧ j < nfA c2) (ht : (∃ E, tyA ci j = .array E) ∧ ∃ E, tyA c2 j = .array E) (q : Cond.fieldLink own index (T j).1 (T j).2.1 (T j).2.2.1 ∈ lw_all) (q2 : Cond.fieldLink own index (T2 j).1 (T2 j).2.1 (T2 j).2.2.1 ∈ lw_all) (hd : decode cc pc = .ok (.getfield index, 3)) (h : gfA2 w k ci c2 j KK) (K : ∀ v, KK v → J x Q w bc bs (pc + 3) L (.ref (adG (xG x) v) :: st)) : J x Q w bc bs pc L (.ref (adG (xG x) k) :: st) := by
  obtain ⟨g | g, h⟩ := h
  · exact j_getA O c j hj.1 ht.1 q hd ⟨g, h⟩ K
  · exact j_getA O e j hj.2 ht.2 q2 hd ⟨g, h⟩ K
theorem j_putI2 (O : OK x own cc d) {C2 : String} {T2 : u_T} {c2 : Nat} (c : CF ci C T) (e : CF c2 C2 T2) {v : Int} {KK : Wd → Prop} (j : Nat) (hj : j < nfA ci ∧ j < nfA c2) (ht : tyA ci j = .int ∧ tyA c2 j = .int) (q : Cond.fieldLink own index (T j).1 (T j).2.1 (T j).2.2.1 ∈ lw_all) (q2 : Cond.fieldLink own index (T2 j).1 (T2 j).2.1 (T2 j).2.2.1 ∈ lw_all) (hfin : (T j).2.2.2 = false ∧ (T2 j).2.2.2 = false) (hd : decode cc pc = .ok (.putfield index, 3)) (h : pfI2 w k ci c2 j v KK) (K : ∀ w', KK w' → J x Q w' bc bs (pc + 3) L st) : J x Q w bc bs pc L (vI v :: .ref (adG (xG x) k) :: st) := by
  obtain ⟨g | g, h⟩ := h
  · exact j_putI O c j hj.1 ht.1 q hfin.1 hd ⟨g, h⟩ K
  · exact j_putI O e j hj.2 ht.2 q2 hfin.2 hd ⟨g, h⟩ K
theorem j_putR2 (O : OK x own cc d) {C2 : String} {T2 : u_T} {c2 : Nat} (c : CF ci C T) (e : CF c2 C2 T2) {v : Option Nat} {KK : Wd → Prop} (j : Nat) (hj : j < nfA ci ∧ j < nfA c2) (ht : ((∃ E, tyA ci j = .object E) ∨ ∃ E, tyA ci j = .array E) ∧ ((∃ E, tyA c2 j = .object E) ∨ ∃ E, tyA c2 j = .array E)) (q : Cond.fieldLink own index (T j).1 (T j).2.1 (T j).2.2.1 ∈ lw_all) (q2 : Cond.fieldLink own index (T2 j).1 (T2 j).2.1 (T2 j).2.2.1 ∈ lw_all) (hfin : (T j).2.2.2 = false ∧ (T2 j).2.2.2 = false) (hd : decode cc pc = .ok (.putfield index, 3)) (h : pfR2 w k ci c2 j v KK) (K : ∀ w', KK w' → J x Q w' bc bs (pc + 3) L st) : J x Q w bc bs pc L (vR (xG x) v :: .ref (adG (xG x) k) :: st) := by
  obtain ⟨g | g, h⟩ := h
  · exact j_putR O c j hj.1 ht.1 q hfin.1 hd ⟨g, h⟩ K
  · exact j_putR O e j hj.2 ht.2 q2 hfin.2 hd ⟨g, h⟩ K
theorem j_putFI2 (O : OK x own cc d) {C2 : String} {T2 : u_T} {c2 : Nat} (c : CF ci C T) (e : CF c2 C2 T2) {v : Int} {KK : Wd → Prop} (j : Nat) (hj : j < nfA ci ∧ j < nfA c2) (ht : tyA ci j = .int ∧ tyA c2 j = .int) (q : Cond.fieldLink own index (T j).1 (T j).2.1 (T j).2.2.1 ∈ lw_all) (q2 : Cond.fieldLink own index (T2 j).1 (T2 j).2.1 (T2 j).2.2.1 ∈ lw_all) (hfin : (T j).2.2.2 = true ∧ (T2 j).2.2.2 = true) (hin2 : (xM x).name = "<init>") (hdecl : (T j).1 = own ∧ (T2 j).1 = own) (hd : decode cc pc = .ok (.putfield index, 3)) (h : pfI2 w k ci c2 j v KK) (K : ∀ w', KK w' → J x Q w' bc bs (pc + 3) L st) : J x Q w bc bs pc L (vI v :: .ref (adG (xG x) k) :: st) := by
  obtain ⟨g | g, h⟩ := h
  · exact j_putFI O c j hj.1 ht.1 q hfin.1 hin2 hdecl.1 hd ⟨g, h⟩ K
  · exact j_putFI O e j hj.2 ht.2 q2 hfin.2 hin2 hdecl.2 hd ⟨g, h⟩ K
theorem j_putFR2 (O : OK x own cc d) {C2 : String} {T2 : u_T} {c2 : Nat} (c : CF ci C T) (e : CF c2 C2 T2) {v : Option Nat} {KK : Wd → Prop} (j : Nat) (hj : j < nfA ci ∧ j < nfA c2) (ht : ((∃ E, tyA ci j = .object E) ∨ ∃ E, tyA ci j = .array E) ∧ ((∃ E, tyA c2 j = .object E) ∨ ∃ E, tyA c2 j = .array E)) (q : Cond.fieldLink own index (T j).1 (T j).2.1 (T j).2.2.1 ∈ lw_all) (q2 : Cond.fieldLink own index (T2 j).1 (T2 j).2.1 (T2 j).2.2.1 ∈ lw_all) (hfin : (T j).2.2.2 = true ∧ (T2 j).2.2.2 = true) (hin2 : (xM x).name = "<init>") (hdecl : (T j).1 = own ∧ (T2 j).1 = own) (hd : decode cc pc = .ok (.putfield index, 3)) (h : pfR2 w k ci c2 j v KK) (K : ∀ w', KK w' → J x Q w' bc bs (pc + 3) L st) : J x Q w bc bs pc L (vR (xG x) v :: .ref (adG (xG x) k) :: st) := by
  obtain ⟨g | g, h⟩ := h
  · exact j_putFR O c j hj.1 ht.1 q hfin.1 hin2 hdecl.1 hd ⟨g, h⟩ K
  · exact j_putFR O e j hj.2 ht.2 q2 hfin.2 hin2 hdecl.2 hd ⟨g, h⟩ K
/-- a field that is named by a class behind its own (ArrayList.modCount) -/
theorem j_getIs (O : OK x own cc d) (c : CF ci C T) {KK : Int → Prop} {ref : String} (j : Nat) (hj : j < nfA ci) (ht : tyA ci j = .int) (q : Cond.fieldLink own index ref (T j).2.1 (T j).2.2.1 ∈ lw_all) (qs : Cond.sameField ref (T j).1 (T j).2.1 (T j).2.2.1 ∈ lw_all) (hd : decode cc pc = .ok (.getfield index, 3)) (h : gfI w k ci j KK) (K : ∀ v, KK v → J x Q w bc bs (pc + 3) L (vI v :: st)) : J x Q w bc bs pc L (.ref (adG (xG x) k) :: st) := by
  intro H locs cells slots ls hP hS hl h1 h2
  have hc := hP.at (gKs h.1)
  rw [cE_obj h.1] at hc
  have KK2 := K _ h.2 H locs cells slots ls hP hS hl h1 h2
  refine va_get (cl := clA) (C := C) (T := T) (N := nfA ci) O.1.1 O.1.2.1 O.1.2.2.2.2 c.2.1 O.1.2.2.2.1 O.2.1 hc 0 rfl c.1 j hj (O.1.2.2.2.2 _ q) (u_same (O.1.2.2.2.2 _ qs)) (fs_at hj) hd ?_
  rw [ht]
  exact KK2
theorem j_putfs (O : OK x own cc d) {C ref : String} {T : u_T} {index k ci j : Nat} {w' : Wd} {v : Value} (cls : clA[ci]? = some (C, T, nfA ci)) (hin : ∀ z ∈ u_ws C T (nfA ci), z ∈ lw_all) (hnm : ∀ a, a < nfA ci → ∀ b, b < nfA ci → a ≠ b → (T a).2.1 ≠ (T b).2.1) (hty : ∀ i, i < nfA ci → parseFieldDescriptor (T i).2.2.1 = some (tyA ci i)) (hj : j < nfA ci) (hk : gK w k = some (.inl ci)) (q : Cond.fieldLink own index ref (T j).2.1 (T j).2.2.1 ∈ lw_all) (qs : Cond.sameField ref (T j).1 (T j).2.1 (T j).2.2.1 ∈ lw_all) (hfin : (T j).2.2.2 = false) (hnf : narrow (tyA ci j) v = v ∧ fits (tyA ci j) v = true) (hg : ∀ k', gK w' k' = gK w k') (hw : ∀ k', k' ≠ k → cE (xG x) w' k' = cE (xG x) w k') (hv : fvl (xG x) w' k (tyA ci j) j = v) (ho : ∀ i, i ≠ j → fvl (xG x) w' k (tyA ci i) i = fvl (xG x) w k (tyA ci i) i) (hd : decode cc pc = .ok (.putfield index, 3)) (K : J x Q w' bc bs (pc + 3) L st) : J x Q w bc bs pc L (v :: .ref (adG (xG x) k) :: st) := by
  intro H locs cells slots ls hP hS hl h1 h2
  obtain ⟨ks, p0, g1, g2, g3, g4⟩ := hP.put (w' := w') (gKs hk) hg hw
  rw [cE_obj hk] at g3
  rw [cE_obj (show gK w' k = some (.inl ci) by rw [hg]; exact hk), ← fs_set (f := fun i => fvl (xG x) w k (tyA ci i) i) (g := fun i => fvl (xG x) w' k (tyA ci i) i) hj hv ho] at g4
  refine va_put (cl := clA) (C := C) (T := T) (N := nfA ci) O.1.1 O.1.2.1 O.1.2.2.2.2 hin (tyA ci) hty hnm O.1.2.2.2.1 O.2.1 g1 g2 hS p0 g3 cls j hj (O.1.2.2.2.2 _ q) (u_same (O.1.2.2.2.2 _ qs)) hfin (hty j hj) hnf.1 hnf.2 (by rw [fs_len]; exact hj) hd (fun H1 locs1 a1 a2 a3 => K H1 locs1 cells slots ls (g4 H1 a1 a2) a3 hl h1 h2)
theorem j_putIs (O : OK x own cc d) (c : CF ci C T) {v : Int} {KK : Wd → Prop} {ref : String} (j : Nat) (hj : j < nfA ci) (ht : tyA ci j = .int) (q : Cond.fieldLink own index ref (T j).2.1 (T j).2.2.1 ∈ lw_all) (qs : Cond.sameField ref (T j).1 (T j).2.1 (T j).2.2.1 ∈ lw_all) (hfin : (T j).2.2.2 = false) (hd : decode cc pc = .ok (.putfield index, 3)) (h : pfI w k ci j v KK) (K : ∀ w', KK w' → J x Q w' bc bs (pc + 3) L st) : J x Q w bc bs pc L (vI v :: .ref (adG (xG x) k) :: st) :=
  j_putfs (w' := sV w k j v) O c.1 c.2.1 c.2.2.1 c.2.2.2 hj h.1 q qs hfin (by rw [ht]; exact fOKI_nf trivial) (fun _ => rfl) (fun k' hk' => cE_sV hk') (by rw [ht]; show vI (gV (sV w k j v) k j) = _; rw [gV_same]) (fun i hi => fvl_sV hi) hd (K _ h.2)
theorem run_U2 (O : OK x own cc d) {x0 y : MethodName} {owner C2 : String} {T2 : u_T} {b : ByteArray} {maxL index n d' mc' ms' N N2 c2 : Nat} {ret : Option FieldType} {As : List Value} {Qc : Nat → Array Value → State → Outcome → State → Prop} (hM : MX (xl x) (xG x) y b maxL ret d' mc' ms' (.ref (adG (xG x) k) :: As) w Qc) (hk : gK w k = some (.inl ci) ∨ gK w k = some (.inl c2)) (c : clA[ci]? = some (C, T, N)) (c' : clA[c2]? = some (C2, T2, N2)) (hG : GoodIn lw_all (va_wsU own index C owner x0 y (ws_ y b maxL ret))) (hG2 : GoodIn lw_all (va_wsU own index C2 owner x0 y (ws_ y b maxL ret))) (hyx : y = ⟨owner, x0.name, x0.desc⟩)
    (hy : owner ≠ "java/lang/invoke/MethodHandle" ∧ owner ≠ "java/lang/invoke/VarHandle" ∧ (parseMethodDescriptor x0.desc).map (fun d => d.parameters.length) = some n) (hR : d' + 1 ≤ d) (hL : maxL ≤ 41) (hb : mc' ≤ bc ∧ ms' ≤ bs) (hn : As.length = n) (hroom : (st.map fun v => v.category).sum ≤ 8) (hd : decode cc pc = .ok (.invokevirtual index, 3)) : RunX x w bc bs pc L (As.reverse ++ .ref (adG (xG x) k) :: st) st mc' ms' (.ref (adG (xG x) k) :: As) Qc := by
  rcases hk with hk | hk
  · exact run_U O hM hk c hG hyx hy hR hL hb hn hroom hd
  · exact run_U O hM hk c' hG2 hyx hy hR hL hb hn hroom hd
theorem runX_U2 (O : OK x own cc d) {x0 y : MethodName} {owner C2 : String} {T2 : u_T} {b : ByteArray} {maxL index n d' mc' ms' N N2 c2 : Nat} {ret : Option FieldType} {As : List Value} {Qc : Nat → Array Value → State → Outcome → State → Prop} (hM : MXX (xl x) (xG x) y b maxL ret d' mc' ms' (.ref (adG (xG x) k) :: As) w Qc X) (hk : gK w k = some (.inl ci) ∨ gK w k = some (.inl c2)) (c : clA[ci]? = some (C, T, N)) (c' : clA[c2]? = some (C2, T2, N2)) (hG : GoodIn lw_all (va_wsU own index C owner x0 y (ws_ y b maxL ret))) (hG2 : GoodIn lw_all (va_wsU own index C2 owner x0 y (ws_ y b maxL ret))) (hyx : y = ⟨owner, x0.name, x0.desc⟩)
    (hy : owner ≠ "java/lang/invoke/MethodHandle" ∧ owner ≠ "java/lang/invoke/VarHandle" ∧ (parseMethodDescriptor x0.desc).map (fun d => d.parameters.length) = some n) (hR : d' + 1 ≤ d) (hL : maxL ≤ 41) (hb : mc' ≤ bc ∧ ms' ≤ bs) (hn : As.length = n) (hroom : (st.map fun v => v.category).sum ≤ 8) (hd : decode cc pc = .ok (.invokevirtual index, 3)) : RunXX x w bc bs pc L (As.reverse ++ .ref (adG (xG x) k) :: st) st mc' ms' (.ref (adG (xG x) k) :: As) Qc X := by
  rcases hk with hk | hk
  · exact runX_U O hM hk c hG hyx hy hR hL hb hn hroom hd
  · exact runX_U O hM hk c' hG2 hyx hy hR hL hb hn hroom hd
theorem j_acmp_eqK2 (O : OK x own cc d) {k1 k2 : Nat} (e : k1 = k2) {off : Int} (hd : decode cc pc = .ok (.if_acmp .ne off, 3)) {tgt : Nat} (ht : (pc : Int) + off = (tgt : Int)) (K : J x Q w bc bs (pc + 3) L st) : J x Q w bc bs pc L (.ref (adG (xG x) k2) :: .ref (adG (xG x) k1) :: st) := by
  subst e
  exact j_acmp_eqK O hd ht K
theorem jx_catchP (O : OK x own cc d) {hh : List (Nat × Nat × Nat × Nat)} {hpc : Nat} (htab : (xc x).exceptionTable.toList = tableOf hh) (pre : List ExceptionTableEntry) (z : ExceptionTableEntry) (suf : List ExceptionTableEntry) (hsplit : tableOf hh = pre ++ z :: suf) (hpass : ∀ y ∈ pre, covers y pc = false) (hx : covers z pc = true) (hp : z.handlerPc = hpc) (h0 : z.catchType ≠ 0) (hci : ci < 19) (q : Cond.classLink own z.catchType (nmC ci) ∈ lw_all) (hcast : Cond.castable (nmC ci) (nmC ci) ∈ lw_nst) (hk : gK w k = some (.inl ci)) (K : J x Q w bc bs hpc L [.ref (adG (xG x) k)]) : JX x Q w bc bs pc L st k := by
  subst hp
  exact jx_catch O htab pre z suf hsplit hpass hx h0 hci q hcast hk K
theorem j_mmax (O : OK x own cc d) {a b : Int} (q1 : Cond.methodLink own index Lib.Math.max.name ∈ lw_all) (q2 : Cond.static Lib.Math.max.name ∈ lw_all) (q3 : Cond.initialized "java/lang/Math" ∈ lw_all) (q4 : Cond.code Lib.Math.max.name Lib.Math.max.code 2 (some .int) ∈ lw_all) (h1 : 1 ≤ d) (hroom : (st.map fun v => v.category).sum ≤ 8) (hd : decode cc pc = .ok (.invokestatic index, 3)) (ha : inI a) (hb : inI b) (K : J x Q w bc bs (pc + 3) L (vI (iMx a b) :: st)) : J x Q w bc bs pc L (vI b :: vI a :: st) := by
  intro H locs cells slots ls hP hS hl e1 e2
  have hrl := O.2.2.2.2.2.1
  refine va_mmax O.1.1 O.1.2.1 (by rw [O.1.2.2.1]; exact hl.1.symm) O.1.2.2.2.1 (O.1.2.2.2.2 _ q1) (O.1.2.2.2.2 _ q2) (O.1.2.2.2.2 _ q3) (O.1.2.2.2.2 _ q4) (by omega) (by omega) (by omega) (by omega) hd ?_
  have e : (if Int32.ofInt a < Int32.ofInt b then Int32.ofInt b else Int32.ofInt a) = Int32.ofInt (iMx a b) := by
    unfold iMx
    by_cases g : a < b
    · rw [if_pos ((i32_lt ha hb).mpr g), if_pos g]
    · rw [if_neg (fun z => g ((i32_lt ha hb).mp z)), if_neg g]
  rw [e]
  exact K H locs cells slots ls hP hS hl e1 e2
theorem j_mmin (O : OK x own cc d) {a b : Int} (q1 : Cond.methodLink own index Lib.Math.min.name ∈ lw_all) (q2 : Cond.static Lib.Math.min.name ∈ lw_all) (q3 : Cond.initialized "java/lang/Math" ∈ lw_all) (q4 : Cond.code Lib.Math.min.name Lib.Math.min.code 2 (some .int) ∈ lw_all) (h1 : 1 ≤ d) (hroom : (st.map fun v => v.category).sum ≤ 8) (hd : decode cc pc = .ok (.invokestatic index, 3)) (ha : inI a) (hb : inI b) (K : J x Q w bc bs (pc + 3) L (vI (iMn a b) :: st)) : J x Q w bc bs pc L (vI b :: vI a :: st) := by
  intro H locs cells slots ls hP hS hl e1 e2
  have hrl := O.2.2.2.2.2.1
  refine va_mmin O.1.1 O.1.2.1 (by rw [O.1.2.2.1]; exact hl.1.symm) O.1.2.2.2.1 (O.1.2.2.2.2 _ q1) (O.1.2.2.2.2 _ q2) (O.1.2.2.2.2 _ q3) (O.1.2.2.2.2 _ q4) (by omega) (by omega) (by omega) (by omega) hd ?_
  have e : (if Int32.ofInt b < Int32.ofInt a then Int32.ofInt b else Int32.ofInt a) = Int32.ofInt (iMn a b) := by
    unfold iMn
    by_cases g : b < a
    · rw [if_pos ((i32_lt hb ha).mpr g), if_pos g]
    · rw [if_neg (fun z => g ((i32_lt hb ha).mp z)), if_neg g]
  rw [e]
  exact K H locs cells slots ls hP hS hl e1 e2
theorem j_mmaxL (O : OK x own cc d) {a b : Int} (q1 : Cond.methodLink own index Lib.MathLoose.max_long.x ∈ lw_all) (q2 : Cond.static Lib.MathLoose.max_long.x ∈ lw_all) (q3 : Cond.initialized "java/lang/Math" ∈ lw_all) (q4 : Cond.code Lib.MathLoose.max_long.x Lib.MathLoose.max_long.code 4 (some .long) ∈ lw_all) (h1 : 1 ≤ d) (hroom : (st.map fun v => v.category).sum ≤ 8) (hd : decode cc pc = .ok (.invokestatic index, 3)) (ha : inL a) (hb : inL b) (K : J x Q w bc bs (pc + 3) L (vL (iMxL a b) :: st)) : J x Q w bc bs pc L (vL b :: vL a :: st) := by
  intro H locs cells slots ls hP hS hl e1 e2
  have hrl := O.2.2.2.2.2.1
  refine va_mmax_long O.1.1 O.1.2.1 (by rw [O.1.2.2.1]; exact hl.1.symm) O.1.2.2.2.1 (O.1.2.2.2.2 _ q1) (O.1.2.2.2.2 _ q2) (O.1.2.2.2.2 _ q3) (O.1.2.2.2.2 _ q4) (by omega) (by omega) (by omega) (by omega) hd ?_
  have e : (if Int64.ofInt b < Int64.ofInt a then Int64.ofInt a else Int64.ofInt b) = Int64.ofInt (iMxL a b) := by
    unfold iMxL
    by_cases g : b < a
    · rw [if_pos ((i64_lt hb ha).mpr g), if_pos g]
    · rw [if_neg (fun z => g ((i64_lt hb ha).mp z)), if_neg g]
  rw [e]
  exact K H locs cells slots ls hP hS hl e1 e2
theorem j_mminL (O : OK x own cc d) {a b : Int} (q1 : Cond.methodLink own index Lib.MathLoose.min_long.x ∈ lw_all) (q2 : Cond.static Lib.MathLoose.min_long.x ∈ lw_all) (q3 : Cond.initialized "java/lang/Math" ∈ lw_all) (q4 : Cond.code Lib.MathLoose.min_long.x Lib.MathLoose.min_long.code 4 (some .long) ∈ lw_all) (h1 : 1 ≤ d) (hroom : (st.map fun v => v.category).sum ≤ 8) (hd : decode cc pc = .ok (.invokestatic index, 3)) (ha : inL a) (hb : inL b) (K : J x Q w bc bs (pc + 3) L (vL (iMn a b) :: st)) : J x Q w bc bs pc L (vL b :: vL a :: st) := by
  intro H locs cells slots ls hP hS hl e1 e2
  have hrl := O.2.2.2.2.2.1
  refine va_mmin_long O.1.1 O.1.2.1 (by rw [O.1.2.2.1]; exact hl.1.symm) O.1.2.2.2.1 (O.1.2.2.2.2 _ q1) (O.1.2.2.2.2 _ q2) (O.1.2.2.2.2 _ q3) (O.1.2.2.2.2 _ q4) (by omega) (by omega) (by omega) (by omega) hd ?_
  have e : (if Int64.ofInt b < Int64.ofInt a then Int64.ofInt b else Int64.ofInt a) = Int64.ofInt (iMn a b) := by
    unfold iMn
    by_cases g : b < a
    · rw [if_pos ((i64_lt hb ha).mpr g), if_pos g]
    · rw [if_neg (fun z => g ((i64_lt hb ha).mp z)), if_neg g]
  rw [e]
  exact K H locs cells slots ls hP hS hl e1 e2
theorem j_mabs (O : OK x own cc d) {a : Int} (q1 : Cond.methodLink own index Lib.Math.abs.name ∈ lw_all) (q2 : Cond.static Lib.Math.abs.name ∈ lw_all) (q3 : Cond.initialized "java/lang/Math" ∈ lw_all) (q4 : Cond.code Lib.Math.abs.name Lib.Math.abs.code 1 (some .int) ∈ lw_all) (h1 : 1 ≤ d) (hroom : (st.map fun v => v.category).sum ≤ 8) (hd : decode cc pc = .ok (.invokestatic index, 3)) (ha : inI a) (K : J x Q w bc bs (pc + 3) L (vI (iAb a) :: st)) : J x Q w bc bs pc L (vI a :: st) := by
  intro H locs cells slots ls hP hS hl e1 e2
  have hrl := O.2.2.2.2.2.1
  refine va_mabs O.1.1 O.1.2.1 (by rw [O.1.2.2.1]; exact hl.1.symm) O.1.2.2.2.1 (O.1.2.2.2.2 _ q1) (O.1.2.2.2.2 _ q2) (O.1.2.2.2.2 _ q3) (O.1.2.2.2.2 _ q4) (by omega) (by omega) (by omega) (by omega) hd ?_
  have e : (if 0 ≤ Int32.ofInt a then Int32.ofInt a else 0 - Int32.ofInt a) = Int32.ofInt (iAb a) := by
    unfold iAb
    rw [show (0 : Int32) = Int32.ofInt 0 from rfl]
    by_cases g : 0 ≤ a
    · rw [if_pos ((i32_le (a := 0) inI0 ha).mpr g), if_pos g]
    · rw [if_neg (fun z => g ((i32_le (a := 0) inI0 ha).mp z)), if_neg g, Int32.ofInt_sub]
  rw [e]
  exact K H locs cells slots ls hP hS hl e1 e2
end ROWS4
