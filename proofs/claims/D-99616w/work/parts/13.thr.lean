/-! CONTRACTS that throw: the thrown object by its key -/
abbrev BXw (G : GW) (A : Nat → Prop) : Addr → String → (Nat × Wd) → State → Prop := fun q E u t => HP G A u.2 t.heap ∧ adG G u.1 = q ∧ ∃ ci, ci < 19 ∧ gK u.2 u.1 = some (.inl ci) ∧ E = nmC ci
abbrev XW (G : GW) (A : Nat → Prop) (X : Nat → Wd → Prop) : Addr → String → State → State → Prop := vy_X (fun u : Nat × Wd => X u.1 u.2) (BXw G A) A
abbrev MXX (l : Launch) (G : GW) (y : MethodName) (b : ByteArray) (n : Nat) (ret : Option FieldType) (d mc ms : Nat) (av : List Value) (w : Wd) (Qc : Nat → Array Value → State → Outcome → State → Prop) (X : Nat → Wd → Prop) : Prop := ∀ sz, vy_Met l y (ws_ y b n ret) (rmN d mc ms) (va_Pc av (PreW G w sz)) (Qc sz) (XW G (Aw G w sz) X) mc ms (Aw G w sz)
abbrev MXW (l : Launch) (G : GW) (y : MethodName) (b : ByteArray) (n : Nat) (ret : Option FieldType) (hh : List (Nat × Nat × Nat × Nat)) (d mc ms : Nat) (av : List Value) (w : Wd) (Qc : Nat → Array Value → State → Outcome → State → Prop) : Prop := ∀ sz, Met l y (wsW_ y b n ret hh) (rmN d mc ms) (va_Pc av (PreW G w sz)) (Qc sz) mc ms (Aw G w sz)
abbrev XI (l : Launch) (G : GW) (y : MethodName) (b : ByteArray) (n : Nat) (ret : FieldType) (d mc ms : Nat) (av : List Value) (w : Wd) (Q : Int → Wd → Prop) (X : Nat → Wd → Prop) : Prop := MXX l G y b n (some ret) d mc ms av w (QI G w Q) X
abbrev XL (l : Launch) (G : GW) (y : MethodName) (b : ByteArray) (n : Nat) (d mc ms : Nat) (av : List Value) (w : Wd) (Q : Int → Wd → Prop) (X : Nat → Wd → Prop) : Prop := MXX l G y b n (some .long) d mc ms av w (QL G w Q) X
abbrev XV (l : Launch) (G : GW) (y : MethodName) (b : ByteArray) (n : Nat) (d mc ms : Nat) (av : List Value) (w : Wd) (Q : Wd → Prop) (X : Nat → Wd → Prop) : Prop := MXX l G y b n none d mc ms av w (QV G w Q) X
abbrev XR (l : Launch) (G : GW) (y : MethodName) (b : ByteArray) (n : Nat) (ret : FieldType) (d mc ms : Nat) (av : List Value) (w : Wd) (Q : Option Nat → Wd → Prop) (X : Nat → Wd → Prop) : Prop := MXX l G y b n (some ret) d mc ms av w (QR G w Q) X
abbrev TX (x : Cx) (Qx : Array Value → State → Outcome → State → Prop) (X : Nat → Wd → Prop) : State → Prop := vy_MQ (xb x) Qx (XW (xG x) (xA x) X) (xa x) (xs x) (xmc x) (xms x) (xA x)
abbrev TXI (x : Cx) (Q : Int → Wd → Prop) (X : Nat → Wd → Prop) : State → Prop := TX x (va_Qi (fun (r : Int32) (u : Int × Wd) => r = Int32.ofInt u.1 ∧ Q u.1 u.2) (fun u t => HP (xG x) (xA x) u.2 t.heap) (xA x)) X
abbrev TXL (x : Cx) (Q : Int → Wd → Prop) (X : Nat → Wd → Prop) : State → Prop := TX x (va_Ql (fun (r : Int64) (u : Int × Wd) => r = Int64.ofInt u.1 ∧ Q u.1 u.2) (fun u t => HP (xG x) (xA x) u.2 t.heap) (xA x)) X
abbrev TXV (x : Cx) (Q : Wd → Prop) (X : Nat → Wd → Prop) : State → Prop := TX x (va_Qv (fun (u : Wd) => Q u) (fun u t => HP (xG x) (xA x) u t.heap) (xA x)) X
abbrev TXR (x : Cx) (Q : Option Nat → Wd → Prop) (X : Nat → Wd → Prop) : State → Prop := TX x (va_Qq (fun (r : Option Nat) (u : Option Nat × Wd) => r = u.1.map (adG (xG x)) ∧ Q u.1 u.2) (fun u t => HP (xG x) (xA x) u.2 t.heap) (xA x)) X
def JX (x : Cx) (Q : State → Prop) (w : Wd) (bc bs pc : Nat) (L : List (Nat × Value)) (st : List Value) (k : Nat) : Prop := ∀ (H : Heap) (locs : List Loc) (cells slots : Nat) (ls : Array Slot), HP (xG x) (xA x) w H → va_S (xA x) (xs x).heap H locs → lv_has ls (xn x) L → cells + bc = xmc x → slots + bs = xms x → vy_W (xp x) (xl x) (xe x) (xR x) (xs x) (xm x) (xa x) (xb x) (xM x) (xc x) H locs cells slots Q (F0 (xm x) pc ls st) (adG (xG x) k)
/-- a method with handlers, of which none is thrown -/
theorem met_ofWH {l : Launch} {y : MethodName} {ws ws' : List Cond} {rm : Room} {Pc : Array Value → State → Prop} {Qc : Array Value → State → Outcome → State → Prop} {mc ms : Nat} {free : Addr → Prop} {cc : ByteArray} {maxL : Nat} {ret : Option FieldType} {hh : List (Nat × Nat × Nat × Nat)}
    (hy : plainName y.cls = true) (hw : ws = Cond.codeWith y cc maxL ret hh :: ws')
    (body : ∀ p e s m args below meth c s₁, BodyLoose p l y (headSpec ws rm) cc maxL ret e s m args below meth c s₁ → c.maxLocals = maxL → Pc args s →
      W p l e (headSpec ws rm).room s m args below meth c s.heap [] 0 0 (MQ below Qc args s mc ms free) (entryFrame m args maxL)) : Met l y ws rm Pc Qc mc ms free := by
  refine MetFree.of_bodyS (code := cc) (maxLocals := maxL) (ret := ret) hy ?_ ?_
  · intro args s m h hn
    obtain ⟨m9, meth, c, hn9, h1, h2, h3, h4, -, h5, h6, -⟩ := Cond.codeWith_spec (atoms_spec (ws := ws) h _ (by rw [hw]; exact List.mem_cons_self))
    cases hn.symm.trans hn9
    exact ⟨meth, c, h1, h2, h3, h4, h5, h6⟩
  · intro p e s m args below meth c s₁ B hml hP _
    have hh0 : s₁.heap = s.heap := by rw [B.state]; rfl
    obtain ⟨t, a1, o, b1, b2, b3⟩ := body p e s m args below meth c s₁ B hml hP s₁ hh0 (Stand.of_body B)
    exact ⟨t, o, a1, b1, b2, ⟨b3.1, b3.2⟩⟩
/-- contracts out of the walk, for a code without handlers that may throw -/
theorem metX_of {l : Launch} {G : GW} {y : MethodName} {cc : ByteArray} {n : Nat} {ret : Option FieldType} {d mc ms : Nat} {av : List Value} {w : Wd} {Qc : Nat → Array Value → State → Outcome → State → Prop} {X : Nat → Wd → Prop} (hy : plainName y.cls = true) (hn : (lg_sl av).length ≤ n)
    (body : ∀ x : Cx, OK x y.cls cc d → xl x = l → xG x = G → xn x = n → (xM x).sig.returnType = ret → (∀ z ∈ (xc x).exceptionTable.toList, False) → xA x = Aw G w (xs x).heap.size → J x (TX x (Qc (xs x).heap.size) X) w mc ms 0 (lv_args 0 av) []) : MXX l G y cc n ret d mc ms av w Qc X := by
  intro sz
  refine vy_ofW (cc := cc) (maxL := n) (ret := ret) hy rfl ?_
  intro p e s m args below meth c s₁ B hml hne hv
  obtain ⟨rfl, hsz, hP, hK, hST, hG⟩ := hv
  subst hsz
  have hts := atoms_spec (ws := ws_ y cc n ret) B.pre
  have hts : ∀ w ∈ lw_all, w.before _ s = true := fun w h => hts w (List.mem_cons_of_mem _ h)
  have hown : s.vm.findClass y.cls = some m.cls := findClass_of_methodNamed B.named
  have hl := lv_entry av (n := n) hn
  rw [lg_entry_eq]
  generalize (lg_sl av ++ List.replicate (n - (lg_sl av).length) Slot.unset).toArray = ls at hl ⊢
  exact body (p, l, e, rmN d mc ms, s, m, av.toArray, below, meth, c, G, Aw G w s.heap.size, n, mc, ms) ⟨⟨B.exec, B.bytes, hml, hown, hts⟩, hK, hST, fun q h => Or.inr h, B.notSynchronized, ⟨Nat.le_refl _, Nat.le_refl _, rfl, rfl⟩, hG⟩ rfl rfl rfl B.returns hne rfl s.heap [] 0 0 ls hP.self va_S.rf hl (Nat.zero_add _) (Nat.zero_add _)
theorem metW_of {l : Launch} {G : GW} {y : MethodName} {cc : ByteArray} {n : Nat} {ret : Option FieldType} {hh : List (Nat × Nat × Nat × Nat)} {d mc ms : Nat} {av : List Value} {w : Wd} {Qc : Nat → Array Value → State → Outcome → State → Prop} (hy : plainName y.cls = true) (hn : (lg_sl av).length ≤ n)
    (body : ∀ x : Cx, OK x y.cls cc d → xl x = l → xG x = G → xn x = n → (xM x).sig.returnType = ret → (xc x).exceptionTable.toList = tableOf hh → xA x = Aw G w (xs x).heap.size → J x (TE x (Qc (xs x).heap.size)) w mc ms 0 (lv_args 0 av) []) : MXW l G y cc n ret hh d mc ms av w Qc := by
  intro sz
  refine met_ofWH (cc := cc) (maxL := n) (ret := ret) (hh := hh) hy rfl ?_
  intro p e s m args below meth c s₁ B hml hv
  obtain ⟨rfl, hsz, hP, hK, hST, hG⟩ := hv
  subst hsz
  have hts0 := atoms_spec (ws := wsW_ y cc n ret hh) B.pre
  have htab : c.exceptionTable.toList = tableOf hh := vy_table (x := y) B (hts0 _ List.mem_cons_self)
  have hts : ∀ w ∈ lw_all, w.before _ s = true := fun w h => hts0 w (List.mem_cons_of_mem _ h)
  have hown : s.vm.findClass y.cls = some m.cls := findClass_of_methodNamed B.named
  have hl := lv_entry av (n := n) hn
  rw [lg_entry_eq]
  generalize (lg_sl av ++ List.replicate (n - (lg_sl av).length) Slot.unset).toArray = ls at hl ⊢
  exact body (p, l, e, rmN d mc ms, s, m, av.toArray, below, meth, c, G, Aw G w s.heap.size, n, mc, ms) ⟨⟨B.exec, B.bytes, hml, hown, hts⟩, hK, hST, fun q h => Or.inr h, B.notSynchronized, ⟨Nat.le_refl _, Nat.le_refl _, rfl, rfl⟩, hG⟩ rfl rfl rfl B.returns htab rfl s.heap [] 0 0 ls hP.self va_S.rf hl (Nat.zero_add _) (Nat.zero_add _)
theorem metX_I {l : Launch} {G : GW} {y : MethodName} {cc : ByteArray} {n : Nat} {ret : FieldType} {d mc ms : Nat} (av : GW → List Value) {w : Wd} {Q : Int → Wd → Prop} {X : Nat → Wd → Prop} (hy : plainName y.cls = true) (hn : ∀ G, (lg_sl (av G)).length ≤ n) (body : ∀ x : Cx, OK x y.cls cc d → xl x = l → xn x = n → (xM x).sig.returnType = some ret → (∀ z ∈ (xc x).exceptionTable.toList, False) → J x (TXI x Q X) w mc ms 0 (lv_args 0 (av (xG x))) []) : XI l G y cc n ret d mc ms (av G) w Q X := by
  refine metX_of hy (hn G) (fun x O e1 e2 e3 e4 e5 e6 => ?_)
  have h := body x O e1 e3 e4 e5
  rw [← e2, show QI (xG x) w Q (xs x).heap.size = va_Qi (fun (r : Int32) (u : Int × Wd) => r = Int32.ofInt u.1 ∧ Q u.1 u.2) (fun u t => HP (xG x) (xA x) u.2 t.heap) (xA x) by rw [e6, e2]]
  exact h
theorem metX_L {l : Launch} {G : GW} {y : MethodName} {cc : ByteArray} {n : Nat} {d mc ms : Nat} (av : GW → List Value) {w : Wd} {Q : Int → Wd → Prop} {X : Nat → Wd → Prop} (hy : plainName y.cls = true) (hn : ∀ G, (lg_sl (av G)).length ≤ n) (body : ∀ x : Cx, OK x y.cls cc d → xl x = l → xn x = n → (xM x).sig.returnType = some .long → (∀ z ∈ (xc x).exceptionTable.toList, False) → J x (TXL x Q X) w mc ms 0 (lv_args 0 (av (xG x))) []) : XL l G y cc n d mc ms (av G) w Q X := by
  refine metX_of hy (hn G) (fun x O e1 e2 e3 e4 e5 e6 => ?_)
  have h := body x O e1 e3 e4 e5
  rw [← e2, show QL (xG x) w Q (xs x).heap.size = va_Ql (fun (r : Int64) (u : Int × Wd) => r = Int64.ofInt u.1 ∧ Q u.1 u.2) (fun u t => HP (xG x) (xA x) u.2 t.heap) (xA x) by rw [e6, e2]]
  exact h
theorem metX_V {l : Launch} {G : GW} {y : MethodName} {cc : ByteArray} {n : Nat} {d mc ms : Nat} (av : GW → List Value) {w : Wd} {Q : Wd → Prop} {X : Nat → Wd → Prop} (hy : plainName y.cls = true) (hn : ∀ G, (lg_sl (av G)).length ≤ n) (body : ∀ x : Cx, OK x y.cls cc d → xl x = l → xn x = n → (xM x).sig.returnType = none → (∀ z ∈ (xc x).exceptionTable.toList, False) → J x (TXV x Q X) w mc ms 0 (lv_args 0 (av (xG x))) []) : XV l G y cc n d mc ms (av G) w Q X := by
  refine metX_of hy (hn G) (fun x O e1 e2 e3 e4 e5 e6 => ?_)
  have h := body x O e1 e3 e4 e5
  rw [← e2, show QV (xG x) w Q (xs x).heap.size = va_Qv (fun (u : Wd) => Q u) (fun u t => HP (xG x) (xA x) u t.heap) (xA x) by rw [e6, e2]]
  exact h
theorem metX_R {l : Launch} {G : GW} {y : MethodName} {cc : ByteArray} {n : Nat} {ret : FieldType} {d mc ms : Nat} (av : GW → List Value) {w : Wd} {Q : Option Nat → Wd → Prop} {X : Nat → Wd → Prop} (hy : plainName y.cls = true) (hn : ∀ G, (lg_sl (av G)).length ≤ n) (body : ∀ x : Cx, OK x y.cls cc d → xl x = l → xn x = n → (xM x).sig.returnType = some ret → (∀ z ∈ (xc x).exceptionTable.toList, False) → J x (TXR x Q X) w mc ms 0 (lv_args 0 (av (xG x))) []) : XR l G y cc n ret d mc ms (av G) w Q X := by
  refine metX_of hy (hn G) (fun x O e1 e2 e3 e4 e5 e6 => ?_)
  have h := body x O e1 e3 e4 e5
  rw [← e2, show QR (xG x) w Q (xs x).heap.size = va_Qq (fun (r : Option Nat) (u : Option Nat × Wd) => r = u.1.map (adG (xG x)) ∧ Q u.1 u.2) (fun u t => HP (xG x) (xA x) u.2 t.heap) (xA x) by rw [e6, e2]]
  exact h
theorem metW_I {l : Launch} {G : GW} {y : MethodName} {cc : ByteArray} {n : Nat} {ret : FieldType} {hh : List (Nat × Nat × Nat × Nat)} {d mc ms : Nat} (av : GW → List Value) {w : Wd} {Q : Int → Wd → Prop} (hy : plainName y.cls = true) (hn : ∀ G, (lg_sl (av G)).length ≤ n) (body : ∀ x : Cx, OK x y.cls cc d → xl x = l → xn x = n → (xM x).sig.returnType = some ret → (xc x).exceptionTable.toList = tableOf hh → J x (TI x Q) w mc ms 0 (lv_args 0 (av (xG x))) []) : MXW l G y cc n (some ret) hh d mc ms (av G) w (QI G w Q) := by
  refine metW_of hy (hn G) (fun x O e1 e2 e3 e4 e5 e6 => ?_)
  have h := body x O e1 e3 e4 e5
  rw [← e2, show QI (xG x) w Q (xs x).heap.size = va_Qi (fun (r : Int32) (u : Int × Wd) => r = Int32.ofInt u.1 ∧ Q u.1 u.2) (fun u t => HP (xG x) (xA x) u.2 t.heap) (xA x) by rw [e6, e2]]
  exact h
theorem metW_L {l : Launch} {G : GW} {y : MethodName} {cc : ByteArray} {n : Nat} {hh : List (Nat × Nat × Nat × Nat)} {d mc ms : Nat} (av : GW → List Value) {w : Wd} {Q : Int → Wd → Prop} (hy : plainName y.cls = true) (hn : ∀ G, (lg_sl (av G)).length ≤ n) (body : ∀ x : Cx, OK x y.cls cc d → xl x = l → xn x = n → (xM x).sig.returnType = some .long → (xc x).exceptionTable.toList = tableOf hh → J x (TL x Q) w mc ms 0 (lv_args 0 (av (xG x))) []) : MXW l G y cc n (some .long) hh d mc ms (av G) w (QL G w Q) := by
  refine metW_of hy (hn G) (fun x O e1 e2 e3 e4 e5 e6 => ?_)
  have h := body x O e1 e3 e4 e5
  rw [← e2, show QL (xG x) w Q (xs x).heap.size = va_Ql (fun (r : Int64) (u : Int × Wd) => r = Int64.ofInt u.1 ∧ Q u.1 u.2) (fun u t => HP (xG x) (xA x) u.2 t.heap) (xA x) by rw [e6, e2]]
  exact h
section THR
variable {x : Cx} {own : String} {cc : ByteArray} {d : Nat} {Q : State → Prop} {w : Wd} {bc bs pc : Nat} {L L' : List (Nat × Value)} {st : List Value} {ci : Nat} {C : String} {T : u_T} {index k : Nat} {Qx : Array Value → State → Outcome → State → Prop} {X : Nat → Wd → Prop}
/-- a return, in a method that may throw -/
theorem J.toX (K : J x (TE x Qx) w bc bs pc L st) : J x (TX x Qx X) w bc bs pc L st := fun H locs cells slots ls hP hS hl h1 h2 => vy_ret (K H locs cells slots ls hP hS hl h1 h2)
theorem jx_athrow (O : OK x own cc d) (hd : decode cc pc = .ok (.athrow, 1)) (K : JX x Q w bc bs pc L st k) : J x Q w bc bs pc L (.ref (adG (xG x) k) :: st) := fun H locs cells slots ls hP hS hl h1 h2 => vy_athrow O.1.1 O.1.2.1 hd (K H locs cells slots ls hP hS hl h1 h2)
theorem jx_cell (O : OK x own cc d) {H : Heap} (hP : HP (xG x) (xA x) w H) (hk : gK w k = some (.inl ci)) (hci : ci < 19) : ∃ ce : Cell, H[adG (xG x) k]? = some ce ∧ ce.vm = .none ∧ (xs x).vm.findClass (nmC ci) = some ce.cls := by
  obtain ⟨T, hT⟩ := clA_nm hci
  have hc := hP.at (gKs hk)
  rw [cE_obj hk] at hc
  obtain ⟨r, h1, cell, q1, q2, q3, q4⟩ := hc 0 _ rfl
  have hr : r = (nmC ci, T, nfA ci) := Option.some.inj (h1.symm.trans hT)
  subst hr
  exact ⟨cell, q1, q3, by rw [q2]; exact (O.2.1.1 ci _ hT).2.1⟩
theorem jx_out (O : OK x own cc d) (hne : ∀ z ∈ (xc x).exceptionTable.toList, False) (hk : gK w k = some (.inl ci)) (hci : ci < 19) (h : X k w) : JX x (TX x Qx X) w bc bs pc L st k := by
  intro H locs cells slots ls hP hS hl h1 h2
  obtain ⟨ce, c1, c2, c3⟩ := jx_cell O hP hk hci
  exact vy_out (E := nmC ci) (ce := ce) (fun z hz => (hne z hz).elim) O.2.2.2.2.1 c1 c2 c3 (fun t ht _ => ⟨(k, w), h, ⟨by show HP _ _ _ t.heap; rw [ht]; exact hP, rfl, ci, hci, hk, rfl⟩, hS.F ht⟩) hS.2.2 (by omega) (by omega)
theorem jx_catch (O : OK x own cc d) {hh : List (Nat × Nat × Nat × Nat)} (htab : (xc x).exceptionTable.toList = tableOf hh) (pre : List ExceptionTableEntry) (z : ExceptionTableEntry) (suf : List ExceptionTableEntry) (hsplit : tableOf hh = pre ++ z :: suf) (hpass : ∀ y ∈ pre, covers y pc = false) (hx : covers z pc = true) (h0 : z.catchType ≠ 0) (hci : ci < 19) (q : Cond.classLink own z.catchType (nmC ci) ∈ lw_all) (hcast : Cond.castable (nmC ci) (nmC ci) ∈ lw_nst) (hk : gK w k = some (.inl ci)) (K : J x Q w bc bs z.handlerPc L [.ref (adG (xG x) k)]) : JX x Q w bc bs pc L st k := by
  intro H locs cells slots ls hP hS hl h1 h2
  obtain ⟨ce, c1, c2, c3⟩ := jx_cell O hP hk hci
  exact vy_catch (E := nmC ci) (name := nmC ci) (ce := ce) O.1.2.2.2.1 pre z suf (htab.trans hsplit) (fun y hy => Or.inl (hpass y hy)) hx h0 (O.1.2.2.2.2 _ q) (va_Nw.use rfl (O.2.2.1.nst _ hcast)) c1 c2 c3 (K H locs cells slots ls hP hS hl h1 h2)
abbrev RunXX (x : Cx) (w : Wd) (bc bs pc : Nat) (L : List (Nat × Value)) (st0 st : List Value) (mc' ms' : Nat) (av : List Value) (Qc : Nat → Array Value → State → Outcome → State → Prop) (X : Nat → Wd → Prop) : Prop := ∀ (H : Heap) (locs : List Loc) (cells slots : Nat) (ls : Array Slot), HP (xG x) (xA x) w H → va_S (xA x) (xs x).heap H locs → lv_has ls (xn x) L → cells + bc = xmc x → slots + bs = xms x → vy_Run (xp x) (xl x) (xe x) (xR x) (xs x) (xm x) (xa x) (xb x) (xM x) (xc x) H locs cells slots mc' ms' (F0 (xm x) pc ls st0) st (Qc H.size av.toArray) (XW (xG x) (Aw (xG x) w H.size) X) (Aw (xG x) w H.size)
theorem runX_U (O : OK x own cc d) {x0 y : MethodName} {owner : String} {b : ByteArray} {maxL index n d' mc' ms' N : Nat} {ret : Option FieldType} {As : List Value} {Qc : Nat → Array Value → State → Outcome → State → Prop} (hM : MXX (xl x) (xG x) y b maxL ret d' mc' ms' (.ref (adG (xG x) k) :: As) w Qc X) (hk : gK w k = some (.inl ci)) (c : clA[ci]? = some (C, T, N)) (hG : GoodIn lw_all (va_wsU own index C owner x0 y (ws_ y b maxL ret))) (hyx : y = ⟨owner, x0.name, x0.desc⟩)
    (hy : owner ≠ "java/lang/invoke/MethodHandle" ∧ owner ≠ "java/lang/invoke/VarHandle" ∧ (parseMethodDescriptor x0.desc).map (fun d => d.parameters.length) = some n) (hR : d' + 1 ≤ d) (hL : maxL ≤ 41) (hb : mc' ≤ bc ∧ ms' ≤ bs) (hn : As.length = n) (hroom : (st.map fun v => v.category).sum ≤ 8) (hd : decode cc pc = .ok (.invokevirtual index, 3)) : RunXX x w bc bs pc L (As.reverse ++ .ref (adG (xG x) k) :: st) st mc' ms' (.ref (adG (xG x) k) :: As) Qc X := by
  intro H locs cells slots ls hP hS hl h1 h2
  exact vy_runU (As := As) (rest := st) O.1 (hM H.size) (va_cwU n O.1.2.2.2.2 hG rfl rfl rfl hyx hy (rm_in O hR hL)) ⟨PreW.blind, rcv_of O hP hk c, pre_of O hP hS _⟩ rfl hn hl.1 rfl (lv_room hroom) hd (rc_in O h1 h2 hb)
theorem runX_A (O : OK x own cc d) {x0 y : MethodName} {owner : String} {b : ByteArray} {maxL index n d' mc' ms' N : Nat} {ret : Option FieldType} {As : List Value} {Qc : Nat → Array Value → State → Outcome → State → Prop} (hM : MXX (xl x) (xG x) y b maxL ret d' mc' ms' (.ref (adG (xG x) k) :: As) w Qc X) (hk : gK w k = some (.inl ci)) (c : clA[ci]? = some (C, T, N)) (hG : GoodIn lw_all (va_wsU own index C owner x0 y (ws_ y b maxL ret))) (hz : Cond.declares ⟨owner, x0.name, x0.desc⟩ ∈ lw_nst)
    (hy : owner ≠ "java/lang/invoke/MethodHandle" ∧ owner ≠ "java/lang/invoke/VarHandle" ∧ (parseMethodDescriptor x0.desc).map (fun d => d.parameters.length) = some n) (hR : d' + 1 ≤ d) (hL : maxL ≤ 41) (hb : mc' ≤ bc ∧ ms' ≤ bs) (hn : As.length = n) (hroom : (st.map fun v => v.category).sum ≤ 8) (hd : decode cc pc = .ok (.invokevirtual index, 3)) : RunXX x w bc bs pc L (As.reverse ++ .ref (adG (xG x) k) :: st) st mc' ms' (.ref (adG (xG x) k) :: As) Qc X := by
  intro H locs cells slots ls hP hS hl h1 h2
  exact vy_runU (As := As) (rest := st) O.1 (hM H.size) (va_cwA n O.1.2.2.2.2 hG rfl rfl rfl (O.2.2.1.nst _ hz) hy (rm_in O hR hL)) ⟨PreW.blind, rcv_of O hP hk c, pre_of O hP hS _⟩ rfl hn hl.1 rfl (lv_room hroom) hd (rc_in O h1 h2 hb)
theorem run_VW (O : OK x own cc d) {y : MethodName} {b : ByteArray} {maxL index n N d' mc' ms' : Nat} {ret : Option FieldType} {hh : List (Nat × Nat × Nat × Nat)} {As : List Value} {Qc : Nat → Array Value → State → Outcome → State → Prop} (hM : MXW (xl x) (xG x) y b maxL ret hh d' mc' ms' (.ref (adG (xG x) k) :: As) w Qc) (hk : gK w k = some (.inl ci)) (cls : clA[ci]? = some (C, T, N)) (q1 : Cond.methodLink own index y ∈ lw_all) (q2 : Cond.instanceMethod y ∈ lw_all) (q3 : Cond.selects C y y ∈ lw_all) (q4 : Cond.initialized C ∈ lw_all) (q5 : Cond.codeWith y b maxL ret hh ∈ lw_all)
    (hy : y.cls = C ∧ y.cls ≠ "java/lang/invoke/MethodHandle" ∧ y.cls ≠ "java/lang/invoke/VarHandle" ∧ (parseMethodDescriptor y.desc).map (fun d => d.parameters.length) = some n) (hR : d' + 1 ≤ d) (hL : maxL ≤ 41) (hb : mc' ≤ bc ∧ ms' ≤ bs) (hn : As.length = n) (hroom : (st.map fun v => v.category).sum ≤ 8) (hd : decode cc pc = .ok (.invokevirtual index, 3)) : RunX x w bc bs pc L (As.reverse ++ .ref (adG (xG x) k) :: st) st mc' ms' (.ref (adG (xG x) k) :: As) Qc := by
  intro H locs cells slots ls hP hS hl h1 h2
  exact vy_runVW (As := As) (rest := st) O.1 (hM H.size) (vy_cwVW n O.1.2.2.2.2 (lw_VW q1 q2 q3 q4 q5) rfl rfl rfl hy (rm_in O hR hL)) ⟨PreW.blind, rcv_of O hP hk cls, pre_of O hP hS _⟩ rfl hn hl.1 rfl (lv_room hroom) hd (rc_in O h1 h2 hb)
theorem run_SW (O : OK x own cc d) {y : MethodName} {b : ByteArray} {maxL index n d' mc' ms' : Nat} {ret : Option FieldType} {hh : List (Nat × Nat × Nat × Nat)} {As : List Value} {Qc : Nat → Array Value → State → Outcome → State → Prop} (hM : MXW (xl x) (xG x) y b maxL ret hh d' mc' ms' As w Qc) (q1 : Cond.methodLink own index y ∈ lw_all) (q2 : Cond.static y ∈ lw_all) (q3 : Cond.initialized y.cls ∈ lw_all) (q4 : Cond.codeWith y b maxL ret hh ∈ lw_all)
    (hy : y.cls ≠ "java/lang/invoke/MethodHandle" ∧ y.cls ≠ "java/lang/invoke/VarHandle" ∧ (parseMethodDescriptor y.desc).map (fun d => d.parameters.length) = some n) (hR : d' + 1 ≤ d) (hL : maxL ≤ 41) (hb : mc' ≤ bc ∧ ms' ≤ bs) (hn : As.length = n) (hroom : (st.map fun v => v.category).sum ≤ 8) (hd : decode cc pc = .ok (.invokestatic index, 3)) : RunX x w bc bs pc L (As.reverse ++ st) st mc' ms' As Qc := by
  intro H locs cells slots ls hP hS hl h1 h2
  exact vy_runSW (As := As) (rest := st) O.1 (hM H.size) (vy_cwSW n O.1.2.2.2.2 (lw_SW q1 q2 q3 q4) rfl rfl rfl hy (rm_in O hR hL)) ⟨PreW.blind, pre_of O hP hS _⟩ rfl hn hl.1 rfl (lv_room hroom) hd (rc_in O h1 h2 hb)
variable {st0 : List Value} {mc' ms' : Nat} {av : List Value}
theorem finX_I (O : OK x own cc d) {Qc : Int → Wd → Prop} (hb : mc' ≤ bc ∧ ms' ≤ bs) (hr : RunXX x w bc bs pc L st0 st mc' ms' av (QI (xG x) w Qc) X) (K : ∀ r w', Qc r w' → J x Q w' (bc - mc') (bs - ms') (pc + 3) L (vI r :: st)) (KX : ∀ k w' ci, X k w' → gK w' k = some (.inl ci) → ci < 19 → JX x Q w' (bc - mc') (bs - ms') pc L st k) : J x Q w bc bs pc L st0 := by
  intro H locs cells slots ls hP hS hl h1 h2
  refine vy_calli (hr H locs cells slots ls hP hS hl h1 h2) hS (fun q _ h => aw_in O hP hS q h) (aw_in O hP hS) (fun q _ h => aw_in O hP hS q h) (fun E ce q9 u t H1 locs1 ht hvm hp hB hz hk1 hS1 hce hcv hcl => ?_) (fun r u t H1 locs1 ht hvm hq hB hz hk1 hS1 => ?_)
  · obtain ⟨hB, rfl, ci, hci, hk, rfl⟩ := hB
    rw [ht] at hB
    exact KX _ _ ci hp hk hci H1 locs1 _ _ ls (hB.weaken (fun k _ h => aw_in O hP hS _ h)) hS1 hl (by omega) (by omega)
  · obtain ⟨rfl, hq⟩ := hq
    rw [ht] at hB
    exact K _ _ hq H1 locs1 _ _ ls (hB.weaken (fun k _ h => aw_in O hP hS _ h)) hS1 hl (by omega) (by omega)
theorem finX_L (O : OK x own cc d) {Qc : Int → Wd → Prop} (hb : mc' ≤ bc ∧ ms' ≤ bs) (hr : RunXX x w bc bs pc L st0 st mc' ms' av (QL (xG x) w Qc) X) (K : ∀ r w', Qc r w' → J x Q w' (bc - mc') (bs - ms') (pc + 3) L (vL r :: st)) (KX : ∀ k w' ci, X k w' → gK w' k = some (.inl ci) → ci < 19 → JX x Q w' (bc - mc') (bs - ms') pc L st k) : J x Q w bc bs pc L st0 := by
  intro H locs cells slots ls hP hS hl h1 h2
  refine vy_calll (hr H locs cells slots ls hP hS hl h1 h2) hS (fun q _ h => aw_in O hP hS q h) (aw_in O hP hS) (fun q _ h => aw_in O hP hS q h) (fun E ce q9 u t H1 locs1 ht hvm hp hB hz hk1 hS1 hce hcv hcl => ?_) (fun r u t H1 locs1 ht hvm hq hB hz hk1 hS1 => ?_)
  · obtain ⟨hB, rfl, ci, hci, hk, rfl⟩ := hB
    rw [ht] at hB
    exact KX _ _ ci hp hk hci H1 locs1 _ _ ls (hB.weaken (fun k _ h => aw_in O hP hS _ h)) hS1 hl (by omega) (by omega)
  · obtain ⟨rfl, hq⟩ := hq
    rw [ht] at hB
    exact K _ _ hq H1 locs1 _ _ ls (hB.weaken (fun k _ h => aw_in O hP hS _ h)) hS1 hl (by omega) (by omega)
theorem finX_V (O : OK x own cc d) {Qc : Wd → Prop} (hb : mc' ≤ bc ∧ ms' ≤ bs) (hr : RunXX x w bc bs pc L st0 st mc' ms' av (QV (xG x) w Qc) X) (K : ∀ w', Qc w' → J x Q w' (bc - mc') (bs - ms') (pc + 3) L st) (KX : ∀ k w' ci, X k w' → gK w' k = some (.inl ci) → ci < 19 → JX x Q w' (bc - mc') (bs - ms') pc L st k) : J x Q w bc bs pc L st0 := by
  intro H locs cells slots ls hP hS hl h1 h2
  refine vy_callv (hr H locs cells slots ls hP hS hl h1 h2) hS (fun q _ h => aw_in O hP hS q h) (aw_in O hP hS) (fun q _ h => aw_in O hP hS q h) (fun E ce q9 u t H1 locs1 ht hvm hp hB hz hk1 hS1 hce hcv hcl => ?_) (fun u t H1 locs1 ht hvm hq hB hz hk1 hS1 => ?_)
  · obtain ⟨hB, rfl, ci, hci, hk, rfl⟩ := hB
    rw [ht] at hB
    exact KX _ _ ci hp hk hci H1 locs1 _ _ ls (hB.weaken (fun k _ h => aw_in O hP hS _ h)) hS1 hl (by omega) (by omega)
  · rw [ht] at hB
    exact K _ hq H1 locs1 _ _ ls (hB.weaken (fun k _ h => aw_in O hP hS _ h)) hS1 hl (by omega) (by omega)
theorem finX_R (O : OK x own cc d) {Qc : Option Nat → Wd → Prop} (hb : mc' ≤ bc ∧ ms' ≤ bs) (hr : RunXX x w bc bs pc L st0 st mc' ms' av (QR (xG x) w Qc) X) (K : ∀ r w', Qc r w' → J x Q w' (bc - mc') (bs - ms') (pc + 3) L (vR (xG x) r :: st)) (KX : ∀ k w' ci, X k w' → gK w' k = some (.inl ci) → ci < 19 → JX x Q w' (bc - mc') (bs - ms') pc L st k) : J x Q w bc bs pc L st0 := by
  intro H locs cells slots ls hP hS hl h1 h2
  refine vy_callq (hr H locs cells slots ls hP hS hl h1 h2) hS (fun q _ h => aw_in O hP hS q h) (aw_in O hP hS) (fun q _ h => aw_in O hP hS q h) (fun E ce q9 u t H1 locs1 ht hvm hp hB hz hk1 hS1 hce hcv hcl => ?_) (fun r u t H1 locs1 ht hvm hq hB hz hk1 hS1 => ?_)
  · obtain ⟨hB, rfl, ci, hci, hk, rfl⟩ := hB
    rw [ht] at hB
    exact KX _ _ ci hp hk hci H1 locs1 _ _ ls (hB.weaken (fun k _ h => aw_in O hP hS _ h)) hS1 hl (by omega) (by omega)
  · obtain ⟨rfl, hq⟩ := hq
    rw [ht] at hB
    exact K _ _ hq H1 locs1 _ _ ls (hB.weaken (fun k _ h => aw_in O hP hS _ h)) hS1 hl (by omega) (by omega)
end THR
