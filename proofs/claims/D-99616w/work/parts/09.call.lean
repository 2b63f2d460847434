/-! CONTRACTS by wp, returns, calls -/
def PreW (G : GW) (w : Wd) (sz : Nat) (U : State) : Prop := U.heap.size = sz ∧ HP G (fun _ => True) w U.heap ∧ va_K G.1 clA (tysG G) U ∧ ST G (Aw G w sz) U U.heap ∧ ∀ k, 1000 ≤ k → adG G k = k - 1000
theorem PreW.blind {G : GW} {w : Wd} {sz : Nat} {av : List Value} : FrameBlind (va_Pc av (PreW G w sz)) := by
  intro a U g mk q
  obtain ⟨q0, q1, qP, qK, qS, qG⟩ := q
  exact ⟨q0, q1, qP, va_K.moved (u := U) (U := U.calling g mk a) (Vm.Alike.refl U.vm) qK, ST.same (u := U) rfl qS, qG⟩
abbrev QI (G : GW) (w : Wd) (Q : Int → Wd → Prop) (sz : Nat) : Array Value → State → Outcome → State → Prop := va_Qi (fun (r : Int32) (u : Int × Wd) => r = Int32.ofInt u.1 ∧ Q u.1 u.2) (fun u t => HP G (Aw G w sz) u.2 t.heap) (Aw G w sz)
abbrev QL (G : GW) (w : Wd) (Q : Int → Wd → Prop) (sz : Nat) : Array Value → State → Outcome → State → Prop := va_Ql (fun (r : Int64) (u : Int × Wd) => r = Int64.ofInt u.1 ∧ Q u.1 u.2) (fun u t => HP G (Aw G w sz) u.2 t.heap) (Aw G w sz)
abbrev QV (G : GW) (w : Wd) (Q : Wd → Prop) (sz : Nat) : Array Value → State → Outcome → State → Prop := va_Qv (fun (u : Wd) => Q u) (fun u t => HP G (Aw G w sz) u t.heap) (Aw G w sz)
abbrev QR (G : GW) (w : Wd) (Q : Option Nat → Wd → Prop) (sz : Nat) : Array Value → State → Outcome → State → Prop := va_Qq (fun (r : Option Nat) (u : Option Nat × Wd) => r = u.1.map (adG G) ∧ Q u.1 u.2) (fun u t => HP G (Aw G w sz) u.2 t.heap) (Aw G w sz)
/-- a contract with the room d, mc, ms: method y with code b, n locals, answer ret, from the arguments av and the world w -/
abbrev MX (l : Launch) (G : GW) (y : MethodName) (b : ByteArray) (n : Nat) (ret : Option FieldType) (d mc ms : Nat) (av : List Value) (w : Wd) (Qc : Nat → Array Value → State → Outcome → State → Prop) : Prop := ∀ sz, Met l y (ws_ y b n ret) (rmN d mc ms) (va_Pc av (PreW G w sz)) (Qc sz) mc ms (Aw G w sz)
abbrev MI (l : Launch) (G : GW) (y : MethodName) (b : ByteArray) (n : Nat) (ret : FieldType) (d mc ms : Nat) (av : List Value) (w : Wd) (Q : Int → Wd → Prop) : Prop := MX l G y b n (some ret) d mc ms av w (QI G w Q)
abbrev ML (l : Launch) (G : GW) (y : MethodName) (b : ByteArray) (n : Nat) (d mc ms : Nat) (av : List Value) (w : Wd) (Q : Int → Wd → Prop) : Prop := MX l G y b n (some .long) d mc ms av w (QL G w Q)
abbrev MV (l : Launch) (G : GW) (y : MethodName) (b : ByteArray) (n : Nat) (d mc ms : Nat) (av : List Value) (w : Wd) (Q : Wd → Prop) : Prop := MX l G y b n none d mc ms av w (QV G w Q)
abbrev MR (l : Launch) (G : GW) (y : MethodName) (b : ByteArray) (n : Nat) (ret : FieldType) (d mc ms : Nat) (av : List Value) (w : Wd) (Q : Option Nat → Wd → Prop) : Prop := MX l G y b n (some ret) d mc ms av w (QR G w Q)
/-- the end of a run, by its contract -/
abbrev TE (x : Cx) (Qx : Array Value → State → Outcome → State → Prop) : State → Prop := MQ (xb x) Qx (xa x) (xs x) (xmc x) (xms x) (xA x)
abbrev TI (x : Cx) (Q : Int → Wd → Prop) : State → Prop := TE x (va_Qi (fun (r : Int32) (u : Int × Wd) => r = Int32.ofInt u.1 ∧ Q u.1 u.2) (fun u t => HP (xG x) (xA x) u.2 t.heap) (xA x))
abbrev TL (x : Cx) (Q : Int → Wd → Prop) : State → Prop := TE x (va_Ql (fun (r : Int64) (u : Int × Wd) => r = Int64.ofInt u.1 ∧ Q u.1 u.2) (fun u t => HP (xG x) (xA x) u.2 t.heap) (xA x))
abbrev TV (x : Cx) (Q : Wd → Prop) : State → Prop := TE x (va_Qv (fun (u : Wd) => Q u) (fun u t => HP (xG x) (xA x) u t.heap) (xA x))
abbrev TR (x : Cx) (Q : Option Nat → Wd → Prop) : State → Prop := TE x (va_Qq (fun (r : Option Nat) (u : Option Nat × Wd) => r = u.1.map (adG (xG x)) ∧ Q u.1 u.2) (fun u t => HP (xG x) (xA x) u.2 t.heap) (xA x))
/-- a contract out of the walk of its code -/
theorem met_of {l : Launch} {G : GW} {y : MethodName} {cc : ByteArray} {n : Nat} {ret : Option FieldType} {d mc ms : Nat} {av : List Value} {w : Wd} {Qc : Nat → Array Value → State → Outcome → State → Prop} (hy : plainName y.cls = true) (hn : (lg_sl av).length ≤ n)
    (body : ∀ x : Cx, OK x y.cls cc d → xl x = l → xG x = G → xn x = n → (xM x).sig.returnType = ret → (xM x).name = y.name → xA x = Aw G w (xs x).heap.size → xmc x = mc → xms x = ms → J x (TE x (Qc (xs x).heap.size)) w mc ms 0 (lv_args 0 av) []) : MX l G y cc n ret d mc ms av w Qc := by
  intro sz
  refine Met.ofW (cc := cc) (maxL := n) (ret := ret) hy rfl ?_
  intro p e s m args below meth c s₁ B hml hv
  obtain ⟨rfl, hsz, hP, hK, hST, hG⟩ := hv
  subst hsz
  have hts := atoms_spec (ws := ws_ y cc n ret) B.pre
  have hts : ∀ w ∈ lw_all, w.before _ s = true := fun w h => hts w (List.mem_cons_of_mem _ h)
  have hown : s.vm.findClass y.cls = some m.cls := findClass_of_methodNamed B.named
  have hl := lv_entry av (n := n) hn
  rw [lg_entry_eq]
  generalize (lg_sl av ++ List.replicate (n - (lg_sl av).length) Slot.unset).toArray = ls at hl ⊢
  exact body (p, l, e, rmN d mc ms, s, m, av.toArray, below, meth, c, G, Aw G w s.heap.size, n, mc, ms) ⟨⟨B.exec, B.bytes, hml, hown, hts⟩, hK, hST, fun q h => Or.inr h, B.notSynchronized, ⟨Nat.le_refl _, Nat.le_refl _, rfl, rfl⟩, hG⟩ rfl rfl rfl B.returns (name_of_methodNamed B.named B.method).1 rfl rfl rfl s.heap [] 0 0 ls hP.self va_S.rf hl (Nat.zero_add _) (Nat.zero_add _)
section CALL
variable {x : Cx} {own : String} {cc : ByteArray} {d : Nat} {Q : State → Prop} {w : Wd} {bc bs pc : Nat} {L L' : List (Nat × Value)} {st : List Value}
theorem j_iret (O : OK x own cc d) {v : Int} {Qr : Int → Wd → Prop} (hr : (xM x).sig.returnType = some .int) (hd : decode cc pc = .ok (.ireturn, 1)) (h : Qr v w) : J x (TI x Qr) w bc bs pc L [vI v] := by
  intro H locs cells slots ls hP hS hl h1 h2
  refine W.widen (k := xmc x) (n := xms x) (by omega) (by omega) ?_
  exact W.iret (v := Int32.ofInt v) O.1.1 O.1.2.1 hr (fun t ht hW => ⟨⟨_, (v, w), rfl, ⟨rfl, h⟩, by show HP _ _ _ t.heap; rw [ht]; exact hP⟩, hS.F ht⟩) hS.2.2 hd O.2.2.2.2.1
theorem j_zret (O : OK x own cc d) {v : Int} {Qr : Int → Wd → Prop} (hr : (xM x).sig.returnType = some .boolean) (hd : decode cc pc = .ok (.ireturn, 1)) (h : (v = 0 ∨ v = 1) ∧ Qr v w) : J x (TI x Qr) w bc bs pc L [vI v] := by
  intro H locs cells slots ls hP hS hl h1 h2
  refine W.widen (k := xmc x) (n := xms x) (by omega) (by omega) ?_
  exact W.zret (v := Int32.ofInt v) O.1.1 O.1.2.1 hr (by rcases h.1 with e | e <;> subst e <;> rfl) (fun t ht hW => ⟨⟨_, (v, w), rfl, ⟨rfl, h.2⟩, by show HP _ _ _ t.heap; rw [ht]; exact hP⟩, hS.F ht⟩) hS.2.2 hd O.2.2.2.2.1
theorem j_lret (O : OK x own cc d) {v : Int} {Qr : Int → Wd → Prop} (hr : (xM x).sig.returnType = some .long) (hd : decode cc pc = .ok (.lreturn, 1)) (h : Qr v w) : J x (TL x Qr) w bc bs pc L [vL v] := by
  intro H locs cells slots ls hP hS hl h1 h2
  refine W.widen (k := xmc x) (n := xms x) (by omega) (by omega) ?_
  exact W.lret (v := Int64.ofInt v) O.1.1 O.1.2.1 hr (fun t ht hW => ⟨⟨_, (v, w), rfl, ⟨rfl, h⟩, by show HP _ _ _ t.heap; rw [ht]; exact hP⟩, hS.F ht⟩) hS.2.2 hd O.2.2.2.2.1
theorem j_vret (O : OK x own cc d) {Qr : Wd → Prop} (hr : (xM x).sig.returnType = none) (hd : decode cc pc = .ok (.return_, 1)) (h : Qr w) : J x (TV x Qr) w bc bs pc L [] := by
  intro H locs cells slots ls hP hS hl h1 h2
  refine W.widen (k := xmc x) (n := xms x) (by omega) (by omega) ?_
  exact W.vret O.1.1 O.1.2.1 hr (fun t ht hW => ⟨⟨w, rfl, h, by show HP _ _ _ t.heap; rw [ht]; exact hP⟩, hS.F ht⟩) hS.2.2 hd O.2.2.2.2.1
theorem j_aret (O : OK x own cc d) {v : Option Nat} {rt : FieldType} {Qr : Option Nat → Wd → Prop} (hr : (xM x).sig.returnType = some rt) (hrt : (∃ n, rt = .object n) ∨ ∃ t, rt = .array t) (hd : decode cc pc = .ok (.areturn, 1)) (h : Qr v w) : J x (TR x Qr) w bc bs pc L [vR (xG x) v] := by
  intro H locs cells slots ls hP hS hl h1 h2
  refine W.widen (k := xmc x) (n := xms x) (by omega) (by omega) ?_
  exact W.aret (v := vR (xG x) v) O.1.1 O.1.2.1 hr hrt (va_rf_or _) (fun t ht hW => ⟨⟨v.map (adG (xG x)), (v, w), rfl, ⟨rfl, h⟩, by show HP _ _ _ t.heap; rw [ht]; exact hP⟩, hS.F ht⟩) hS.2.2 hd O.2.2.2.2.1
theorem aw_in (O : OK x own cc d) {H : Heap} {locs : List Loc} (hP : HP (xG x) (xA x) w H) (hS : va_S (xA x) (xs x).heap H locs) : ∀ q, Aw (xG x) w H.size q → xA x q := by
  intro q h
  rcases h with ⟨k, hk, rfl⟩ | h
  · exact hP.in hk
  · exact O.2.2.2.1 q (Nat.le_trans hS.1 h)
theorem pre_of (O : OK x own cc d) {H : Heap} {locs : List Loc} (hP : HP (xG x) (xA x) w H) (hS : va_S (xA x) (xs x).heap H locs) (av : List Value) : ∀ U : State, U.heap = H → (xs x).WarmedH U.vm → va_Pc av (PreW (xG x) w H.size) av.toArray U := by
  intro U hU hW
  refine ⟨rfl, by rw [hU], by rw [hU]; exact hP.top, va_K.moved hW.alike O.2.1, ?_, O.2.2.2.2.2.2⟩
  rw [hU]
  exact ((O.2.2.1.kept hS.2.1).narrow (aw_in O hP hS)).warm hW
/-- what a call leaves to the goal behind it -/
abbrev RunX (x : Cx) (w : Wd) (bc bs pc : Nat) (L : List (Nat × Value)) (st0 st : List Value) (mc' ms' : Nat) (av : List Value) (Qc : Nat → Array Value → State → Outcome → State → Prop) : Prop := ∀ (H : Heap) (locs : List Loc) (cells slots : Nat) (ls : Array Slot), HP (xG x) (xA x) w H → va_S (xA x) (xs x).heap H locs → lv_has ls (xn x) L → cells + bc = xmc x → slots + bs = xms x → va_Run (xp x) (xl x) (xe x) (xR x) (xs x) (xm x) (xa x) (xb x) (xM x) (xc x) H locs cells slots mc' ms' (F0 (xm x) pc ls st0) st (Qc H.size av.toArray) (Aw (xG x) w H.size)
theorem rm_in (O : OK x own cc d) {d' mc' ms' maxL : Nat} (h : d' + 1 ≤ d) (hm : maxL ≤ 41) : (rmN d' mc' ms').frames + 1 ≤ (xR x).frames ∧ 8 + (maxL + 11) + (rmN d' mc' ms').locals ≤ (xR x).locals := by
  obtain ⟨r1, r2, -, -⟩ := O.2.2.2.2.2.1
  refine ⟨Nat.le_trans h r1, Nat.le_trans ?_ r2⟩
  show 8 + (maxL + 11) + 60 * d' ≤ 60 * d
  omega
theorem rc_in (O : OK x own cc d) {cells slots mc' ms' : Nat} (h1 : cells + bc = xmc x) (h2 : slots + bs = xms x) (hb : mc' ≤ bc ∧ ms' ≤ bs) : cells + mc' ≤ (xR x).cells ∧ slots + ms' ≤ (xR x).slots := by
  rw [O.2.2.2.2.2.1.2.2.1, O.2.2.2.2.2.1.2.2.2]
  show cells + mc' ≤ xmc x ∧ slots + ms' ≤ xms x
  omega
theorem run_V (O : OK x own cc d) {y : MethodName} {b : ByteArray} {maxL index n k ci N d' mc' ms' : Nat} {ret : Option FieldType} {C : String} {T : u_T} {As : List Value} {Qc : Nat → Array Value → State → Outcome → State → Prop} (hM : MX (xl x) (xG x) y b maxL ret d' mc' ms' (.ref (adG (xG x) k) :: As) w Qc) (hk : gK w k = some (.inl ci)) (cls : clA[ci]? = some (C, T, N)) (q1 : Cond.methodLink own index y ∈ lw_all) (q2 : Cond.instanceMethod y ∈ lw_all) (q3 : Cond.selects C y y ∈ lw_all) (q4 : Cond.initialized C ∈ lw_all) (q5 : Cond.code y b maxL ret ∈ lw_all)
    (hy : y.cls = C ∧ y.cls ≠ "java/lang/invoke/MethodHandle" ∧ y.cls ≠ "java/lang/invoke/VarHandle" ∧ (parseMethodDescriptor y.desc).map (fun d => d.parameters.length) = some n) (hR : d' + 1 ≤ d) (hL : maxL ≤ 41) (hb : mc' ≤ bc ∧ ms' ≤ bs) (hn : As.length = n) (hroom : (st.map fun v => v.category).sum ≤ 8) (hd : decode cc pc = .ok (.invokevirtual index, 3)) : RunX x w bc bs pc L (As.reverse ++ .ref (adG (xG x) k) :: st) st mc' ms' (.ref (adG (xG x) k) :: As) Qc := by
  intro H locs cells slots ls hP hS hl h1 h2
  have hc := hP.at (gKs hk)
  rw [cE_obj hk] at hc
  exact va_runV (As := As) (rest := st) O.1 (hM H.size) (cwV n O.1.2.2.2.2 (lw_V q1 q2 q3 q4 q5) rfl rfl rfl hy (rm_in O hR hL)) ⟨PreW.blind, va_recv O.2.1 hc cls (q0 := 0) rfl, pre_of O hP hS _⟩ rfl hn hl.1 rfl (lv_room hroom) hd (rc_in O h1 h2 hb)
theorem run_S (O : OK x own cc d) {y : MethodName} {b : ByteArray} {maxL index n d' mc' ms' : Nat} {ret : Option FieldType} {As : List Value} {Qc : Nat → Array Value → State → Outcome → State → Prop} (hM : MX (xl x) (xG x) y b maxL ret d' mc' ms' As w Qc) (q1 : Cond.methodLink own index y ∈ lw_all) (q2 : Cond.static y ∈ lw_all) (q3 : Cond.initialized y.cls ∈ lw_all) (q4 : Cond.code y b maxL ret ∈ lw_all)
    (hy : y.cls ≠ "java/lang/invoke/MethodHandle" ∧ y.cls ≠ "java/lang/invoke/VarHandle" ∧ (parseMethodDescriptor y.desc).map (fun d => d.parameters.length) = some n) (hR : d' + 1 ≤ d) (hL : maxL ≤ 41) (hb : mc' ≤ bc ∧ ms' ≤ bs) (hn : As.length = n) (hroom : (st.map fun v => v.category).sum ≤ 8) (hd : decode cc pc = .ok (.invokestatic index, 3)) : RunX x w bc bs pc L (As.reverse ++ st) st mc' ms' As Qc := by
  intro H locs cells slots ls hP hS hl h1 h2
  exact va_runS (As := As) (rest := st) O.1 (hM H.size) (va_cwS n O.1.2.2.2.2 (lw_S q1 q2 q3 q4) rfl rfl rfl hy (rm_in O hR hL)) ⟨PreW.blind, pre_of O hP hS _⟩ rfl hn hl.1 rfl (lv_room hroom) hd (rc_in O h1 h2 hb)
theorem run_I (O : OK x own cc d) {y : MethodName} {b : ByteArray} {maxL index n k d' mc' ms' : Nat} {As : List Value} {Qc : Nat → Array Value → State → Outcome → State → Prop} (hM : MX (xl x) (xG x) y b maxL none d' mc' ms' (.ref (adG (xG x) k) :: As) w Qc) (q1 : Cond.methodLink own index y ∈ lw_all) (q2 : Cond.instanceMethod y ∈ lw_all) (q3 : Cond.initialized y.cls ∈ lw_all) (q4 : Cond.code y b maxL none ∈ lw_all) (hi : y.name = "<init>")
    (hy : y.cls ≠ "java/lang/invoke/MethodHandle" ∧ y.cls ≠ "java/lang/invoke/VarHandle" ∧ (parseMethodDescriptor y.desc).map (fun d => d.parameters.length) = some n) (hR : d' + 1 ≤ d) (hL : maxL ≤ 41) (hb : mc' ≤ bc ∧ ms' ≤ bs) (hn : As.length = n) (hroom : (st.map fun v => v.category).sum ≤ 8) (hd : decode cc pc = .ok (.invokespecial index, 3)) : RunX x w bc bs pc L (As.reverse ++ .ref (adG (xG x) k) :: st) st mc' ms' (.ref (adG (xG x) k) :: As) Qc := by
  intro H locs cells slots ls hP hS hl h1 h2
  exact va_runI (As := As) (rest := st) O.1 (hM H.size) (cwI n O.1.2.2.2.2 (lw_meth q4) rfl rfl rfl (O.1.2.2.2.2 _ q3) (O.1.2.2.2.2 _ q1) (O.1.2.2.2.2 _ q2) hi hy (rm_in O hR hL)) ⟨PreW.blind, pre_of O hP hS _⟩ rfl hn hl.1 rfl (lv_room hroom) hd (rc_in O h1 h2 hb)
variable {st0 : List Value} {mc' ms' : Nat} {av : List Value}
theorem fin_I (O : OK x own cc d) {Qc : Int → Wd → Prop} (hb : mc' ≤ bc ∧ ms' ≤ bs) (hr : RunX x w bc bs pc L st0 st mc' ms' av (QI (xG x) w Qc)) (K : ∀ r w', Qc r w' → J x Q w' (bc - mc') (bs - ms') (pc + 3) L (vI r :: st)) : J x Q w bc bs pc L st0 := by
  intro H locs cells slots ls hP hS hl h1 h2
  refine va_calli (hr H locs cells slots ls hP hS hl h1 h2) hS (fun q _ h => aw_in O hP hS q h) (aw_in O hP hS) (fun r u t H1 locs1 ht hvm hq hB hz hk1 hS1 => ?_)
  obtain ⟨rfl, hq⟩ := hq
  rw [ht] at hB
  exact K _ _ hq H1 locs1 _ _ ls (hB.weaken (fun k _ h => aw_in O hP hS _ h)) hS1 hl (by omega) (by omega)
theorem fin_L (O : OK x own cc d) {Qc : Int → Wd → Prop} (hb : mc' ≤ bc ∧ ms' ≤ bs) (hr : RunX x w bc bs pc L st0 st mc' ms' av (QL (xG x) w Qc)) (K : ∀ r w', Qc r w' → J x Q w' (bc - mc') (bs - ms') (pc + 3) L (vL r :: st)) : J x Q w bc bs pc L st0 := by
  intro H locs cells slots ls hP hS hl h1 h2
  refine va_calll (hr H locs cells slots ls hP hS hl h1 h2) hS (fun q _ h => aw_in O hP hS q h) (aw_in O hP hS) (fun r u t H1 locs1 ht hvm hq hB hz hk1 hS1 => ?_)
  obtain ⟨rfl, hq⟩ := hq
  rw [ht] at hB
  exact K _ _ hq H1 locs1 _ _ ls (hB.weaken (fun k _ h => aw_in O hP hS _ h)) hS1 hl (by omega) (by omega)
theorem fin_V (O : OK x own cc d) {Qc : Wd → Prop} (hb : mc' ≤ bc ∧ ms' ≤ bs) (hr : RunX x w bc bs pc L st0 st mc' ms' av (QV (xG x) w Qc)) (K : ∀ w', Qc w' → J x Q w' (bc - mc') (bs - ms') (pc + 3) L st) : J x Q w bc bs pc L st0 := by
  intro H locs cells slots ls hP hS hl h1 h2
  refine va_callv (hr H locs cells slots ls hP hS hl h1 h2) hS (fun q _ h => aw_in O hP hS q h) (aw_in O hP hS) (fun u t H1 locs1 ht hvm hq hB hz hk1 hS1 => ?_)
  rw [ht] at hB
  exact K _ hq H1 locs1 _ _ ls (hB.weaken (fun k _ h => aw_in O hP hS _ h)) hS1 hl (by omega) (by omega)
theorem fin_R (O : OK x own cc d) {Qc : Option Nat → Wd → Prop} (hb : mc' ≤ bc ∧ ms' ≤ bs) (hr : RunX x w bc bs pc L st0 st mc' ms' av (QR (xG x) w Qc)) (K : ∀ r w', Qc r w' → J x Q w' (bc - mc') (bs - ms') (pc + 3) L (vR (xG x) r :: st)) : J x Q w bc bs pc L st0 := by
  intro H locs cells slots ls hP hS hl h1 h2
  refine va_callq (hr H locs cells slots ls hP hS hl h1 h2) hS (fun q _ h => aw_in O hP hS q h) (aw_in O hP hS) (fun r u t H1 locs1 ht hvm hq hB hz hk1 hS1 => ?_)
  obtain ⟨rfl, hq⟩ := hq
  rw [ht] at hB
  exact K _ _ hq H1 locs1 _ _ ls (hB.weaken (fun k _ h => aw_in O hP hS _ h)) hS1 hl (by omega) (by omega)
theorem j_objInit (O : OK x own cc d) {index k : Nat} (q1 : Cond.methodLink own index Lib.objectInit ∈ lw_all) (q2 : Cond.instanceMethod Lib.objectInit ∈ lw_all) (q3 : Cond.code Lib.objectInit ⟨#[0xb1]⟩ 1 none ∈ lw_all) (h1 : 1 ≤ d) (hroom : (st.map fun v => v.category).sum ≤ 8) (hd : decode cc pc = .ok (.invokespecial index, 3)) (K : J x Q w bc bs (pc + 3) L st) : J x Q w bc bs pc L (.ref (adG (xG x) k) :: st) := by
  intro H locs cells slots ls hP hS hl e1 e2
  refine W.objInit O.1.1 O.1.2.1 O.1.2.2.2.1 (O.1.2.2.2.2 _ q1) (O.1.2.2.2.2 _ q2) (O.1.2.2.2.2 _ q3) rfl (by rw [O.1.2.2.1]; exact hl.1) rfl hd ?_ ?_ ?_
  · exact Nat.le_trans h1 O.2.2.2.2.2.1.1
  · refine Nat.le_trans ?_ O.2.2.2.2.2.1.2.1
    have := lv_room (m := xm x) (pc := pc) (ls := ls) (rest := ([] : List Value)) hroom
    show _ ≤ 60 * d
    have h9 : 2 * (F0 (xm x) pc ls (.ref (adG (xG x) k) :: st)).monitorRoom + (st.map fun v => v.category).sum ≤ 8 := lv_room hroom
    omega
  · exact K H locs cells slots ls hP hS hl e1 e2
end CALL
