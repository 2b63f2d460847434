/-! the walks of the component, by program -/
set_option maxRecDepth 100000
theorem hy_X0_passesKept : (yX0_passesKept.cls = "DowryBoxes" ∧ yX0_passesKept.cls ≠ "java/lang/invoke/MethodHandle" ∧ yX0_passesKept.cls ≠ "java/lang/invoke/VarHandle" ∧ (parseMethodDescriptor yX0_passesKept.desc).map (fun d => d.parameters.length) = some 0) := by decide +kernel
theorem mt_X0_passesKept (l : Launch) (G : GW) (this : Nat) (w : Wd) (Q : Int → Wd → Prop) (h : wp_X0_passesKept this w Q) : MI l G yX0_passesKept cX0_passesKept 1 (.int) 110 0 0 [.ref (adG G (this))] w Q := by
  refine met_I (fun G => [.ref (adG G (this))]) (by decide) (fun G => Nat.le_of_ble_eq_true rfl) (fun x O hl hm hr => ?_)
  subst hl
  have O : OK x "DowryBoxes" cX0_passesKept 110 := O
  have h : wp_X0_passesKept this w Q := h
  unfold wp_X0_passesKept at h
  show J x (TI x Q) w 0 0 0 [(0, .ref (adG (xG x) (this)))] []
  refine j_aload_n O 0 0 dX0_passesKept_0 rfl rfl ?_
  obtain ⟨e3, h⟩ := h
  refine fin_R O ⟨Nat.zero_le _, Nat.zero_le _⟩ (run_V (As := []) (st := []) O (mt_X0_table (xl x) (xG x) _ _ _ h) e3 cfX0.1 q574 q576 qs5 q121 q577 hy_X0_table (Nat.le_of_ble_eq_true rfl) (Nat.le_of_ble_eq_true rfl) ⟨Nat.zero_le _, Nat.zero_le _⟩ rfl (Nat.le_of_ble_eq_true rfl) dX0_passesKept_1) (fun o1 w2 h => ?_)
  obtain ⟨k4, e_k4, g_k4⟩ := h
  subst e_k4
  have h := g_k4
  refine j_getIN O cfX2 5 (Nat.le_of_ble_eq_true rfl) (.inl rfl) (lw_n q188 rfl) dX0_passesKept_4 h (fun v5 h => ?_)
  refine j_sipush (m := 999) O dX0_passesKept_7 si_999 ?_
  obtain ⟨c6, h⟩ := h
  refine j_icmp_ne O (tgt := 16) dX0_passesKept_10 (by decide) c6 (by decide) h (fun h => ?_) (fun h => ?_)
  · refine j_aload_n O 0 0 dX0_passesKept_16 rfl rfl ?_
    refine j_iconst O dX0_passesKept_17 ?_
    obtain ⟨e8, h⟩ := h
    refine fin_V O ⟨Nat.zero_le _, Nat.zero_le _⟩ (run_V (As := [vI (3)]) (st := []) O (mt_X0_keeps (xl x) (xG x) _ _ _ _ h) e8 cfX0.1 q1281 q1283 qs21 q121 q1284 hy_X0_keeps (Nat.le_of_ble_eq_true rfl) (Nat.le_of_ble_eq_true rfl) ⟨Nat.zero_le _, Nat.zero_le _⟩ rfl (Nat.le_of_ble_eq_true rfl) dX0_passesKept_18) (fun w7 h => ?_)
    refine j_aload_n O 0 0 dX0_passesKept_21 rfl rfl ?_
    refine j_aload_n O 0 0 dX0_passesKept_22 rfl rfl ?_
    obtain ⟨e11, h⟩ := h
    refine fin_R O ⟨Nat.zero_le _, Nat.zero_le _⟩ (run_V (As := []) (st := [.ref (adG (xG x) (this))]) O (mt_X0_table (xl x) (xG x) _ _ _ h) e11 cfX0.1 q574 q576 qs5 q121 q577 hy_X0_table (Nat.le_of_ble_eq_true rfl) (Nat.le_of_ble_eq_true rfl) ⟨Nat.zero_le _, Nat.zero_le _⟩ rfl (Nat.le_of_ble_eq_true rfl) dX0_passesKept_23) (fun o9 w10 h => ?_)
    obtain ⟨e14, h⟩ := h
    refine fin_I O ⟨Nat.zero_le _, Nat.zero_le _⟩ (run_V (As := [vR (xG x) (o9)]) (st := []) O (mt_X0_passes (xl x) (xG x) _ _ _ _ h) e14 cfX0.1 q1322 q1324 qs27 q121 q1325 hy_X0_passes (Nat.le_of_ble_eq_true rfl) (Nat.le_of_ble_eq_true rfl) ⟨Nat.zero_le _, Nat.zero_le _⟩ rfl (Nat.le_of_ble_eq_true rfl) dX0_passesKept_26) (fun r12 w13 h => ?_)
    refine j_pop O dX0_passesKept_29 rfl ?_
    refine j_aload_n O 0 0 dX0_passesKept_30 rfl rfl ?_
    obtain ⟨e17, h⟩ := h
    refine fin_R O ⟨Nat.zero_le _, Nat.zero_le _⟩ (run_V (As := []) (st := []) O (mt_X0_table (xl x) (xG x) _ _ _ h) e17 cfX0.1 q574 q576 qs5 q121 q577 hy_X0_table (Nat.le_of_ble_eq_true rfl) (Nat.le_of_ble_eq_true rfl) ⟨Nat.zero_le _, Nat.zero_le _⟩ rfl (Nat.le_of_ble_eq_true rfl) dX0_passesKept_31) (fun o15 w16 h => ?_)
    obtain ⟨k18, e_k18, g_k18⟩ := h
    subst e_k18
    have h := g_k18
    refine j_getIN O cfX2 5 (Nat.le_of_ble_eq_true rfl) (.inl rfl) (lw_n q188 rfl) dX0_passesKept_34 h (fun v19 h => ?_)
    exact j_iret O hr dX0_passesKept_37 h
  · refine j_bipush (m := (-3)) O dX0_passesKept_13 bi_m3 ?_
    exact j_iret O hr dX0_passesKept_15 h
theorem hy_X18_told : (yX18_told.cls = "DowryBoxes$Order" ∧ yX18_told.cls ≠ "java/lang/invoke/MethodHandle" ∧ yX18_told.cls ≠ "java/lang/invoke/VarHandle" ∧ (parseMethodDescriptor yX18_told.desc).map (fun d => d.parameters.length) = some 2) := by decide +kernel
theorem rn_X18_told_2 {x : Cx} (O : OK x "DowryBoxes$Order" cX18_told 63) {o : Nat} {a0 : Option Nat} {w : Wd} {Qc : Int → Wd → Prop} {XE : Nat → Wd → Prop} {bc bs : Nat} {L : List (Nat × Value)} {st : List Value} (hb : 0 ≤ bc ∧ 0 ≤ bs) (hroom : (st.map fun v => v.category).sum ≤ 8) (h : wp_dSum (wpR_X13_of 60) o a0 w Qc XE) : RunXX x w bc bs 2 L ([vR (xG x) (a0)].reverse ++ .ref (adG (xG x) o) :: st) st 0 0 (.ref (adG (xG x) o) :: [vR (xG x) (a0)]) (QL (xG x) w Qc) XE := by
  rcases h with ⟨hk, h⟩ | ⟨hk, h⟩ | ⟨hk, h⟩
  · exact runX_A (As := [vR (xG x) (a0)]) (st := st) (x0 := ⟨"DowryBoxes$Sum", "of", "(LDowryBoxes$Setting;)J"⟩) (owner := "DowryBoxes$Sum") O (mt_X11_of (xl x) (xG x) _ _ _ _ _ h) hk cfX11.1 (lw_U q1509 q666 q667 q668 q144 q669) (lw_n q665 rfl) hyd_Sum (Nat.le_of_ble_eq_true rfl) (Nat.le_of_ble_eq_true rfl) hb rfl hroom dX18_told_2
  · exact runX_A (As := [vR (xG x) (a0)]) (st := st) (x0 := ⟨"DowryBoxes$Sum", "of", "(LDowryBoxes$Setting;)J"⟩) (owner := "DowryBoxes$Sum") O (mt_X12_of (xl x) (xG x) _ _ _ _ _ h) hk cfX12.1 (lw_U q1509 q666 q678 q674 q145 q675) (lw_n q665 rfl) hyd_Sum (Nat.le_of_ble_eq_true rfl) (Nat.le_of_ble_eq_true rfl) hb rfl hroom dX18_told_2
  · exact runX_A (As := [vR (xG x) (a0)]) (st := st) (x0 := ⟨"DowryBoxes$Sum", "of", "(LDowryBoxes$Setting;)J"⟩) (owner := "DowryBoxes$Sum") O (mtR_X13_of 60 (xl x) (xG x) _ _ _ _ _ h) hk cfX13.1 (lw_U q1509 q666 q670 q671 q146 q672) (lw_n q665 rfl) hyd_Sum (Nat.le_of_ble_eq_true rfl) (Nat.le_of_ble_eq_true rfl) hb rfl hroom dX18_told_2
theorem wk_X18_told_20 {x : Cx} (O : OK x "DowryBoxes$Order" cX18_told 63) (hr : (xM x).sig.returnType = some .int) (hm : xn x = 4) (htab : (xc x).exceptionTable.toList = tableOf [(0, 26, 27, 28)]) {Q : Int → Wd → Prop} (w : Wd) (h : wp_X18_told_20 Q w) : J x (TI x Q) w 0 0 20 [] [] := by
  unfold wp_X18_told_20 at h
  refine j_iconst O dX18_told_20 ?_
  refine j_goto O (tgt := 26) dX18_told_21 (by decide) ?_
  exact j_iret O hr dX18_told_26 h
theorem mt_X18_told (l : Launch) (G : GW) (p1 : Option Nat) (p2 : Option Nat) (w : Wd) (Q : Int → Wd → Prop) (h : wp_X18_told p1 p2 w Q) : MXW l G yX18_told cX18_told 4 (some .int) [(0, 26, 27, 28)] 63 0 0 [vR G (p1), vR G (p2)] w (QI G w Q) := by
  refine metW_I (fun G => [vR G (p1), vR G (p2)]) (by decide) (fun G => by cases p1 <;> cases p2 <;> exact Nat.le_of_ble_eq_true rfl) (fun x O hl hm hr htab => ?_)
  subst hl
  have O : OK x "DowryBoxes$Order" cX18_told 63 := O
  have h : wp_X18_told p1 p2 w Q := h
  unfold wp_X18_told at h
  rw [show lv_args 0 [vR (xG x) (p1), vR (xG x) (p2)] = [(0, vR (xG x) (p1)), (1, vR (xG x) (p2))] from by cases p1 <;> cases p2 <;> rfl]
  show J x (TI x Q) w 0 0 0 [(0, vR (xG x) (p1)), (1, vR (xG x) (p2))] []
  refine j_aloadq_n O 0 0 dX18_told_0 rfl rfl ?_
  refine j_aloadq_n O 1 1 dX18_told_1 rfl rfl ?_
  obtain ⟨k1, e_k1, g_k1⟩ := h
  subst e_k1
  have h := g_k1
  refine finX_L O ⟨Nat.zero_le _, Nat.zero_le _⟩ (rn_X18_told_2 (st := []) O ⟨Nat.zero_le _, Nat.zero_le _⟩ (Nat.le_of_ble_eq_true rfl) h) ?_ (fun k4 w5 ci9 h hk hci => ?_)
  rotate_left 1
  · obtain ⟨e6, h⟩ := h
    refine jx_catchP (ci := 5) (hpc := 27) O htab [] ⟨0, 26, 27, 28⟩ [] rfl (by decide) rfl rfl (by decide) (by decide) q1500 (lw_n q288 rfl) e6 ?_
    refine j_astore_n (L' := [(2, .ref (adG (xG x) (k4))), (0, vR (xG x) (some k1)), (1, vR (xG x) (p2))]) O 2 dX18_told_27 rfl (by rw [hm]; decide) (by cases p2 <;> rfl) ?_
    refine j_iconst O dX18_told_28 ?_
    exact j_iret O hr dX18_told_29 h
  intro r2 w3 h
  refine j_lstore_n (L' := [(2, vL (r2)), (0, vR (xG x) (some k1)), (1, vR (xG x) (p2))]) O 2 dX18_told_5 rfl (by rw [hm]; decide) (by cases p2 <;> rfl) ?_
  refine j_lload_n O 0 2 dX18_told_6 rfl rfl ?_
  refine j_lconst (m := 0) O dX18_told_7 lc_0 ?_
  obtain ⟨c7, h⟩ := h
  refine j_lcif_lt O (tgt := 20) dX18_told_8 rfl dX18_told_9 (by decide) c7 (by decide) h (fun h => ?_) (fun h => ?_)
  · exact (J.sub [] rfl <| wk_X18_told_20 O hr hm htab    _ h)
  · refine j_lload_n O 0 2 dX18_told_12 rfl rfl ?_
    refine j_ldc2 (m := 1000000) O dX18_told_13 q1510 l2_1000000 ?_
    obtain ⟨c8, h⟩ := h
    refine j_lcif_lt O (tgt := 24) dX18_told_16 rfl dX18_told_17 (by decide) c8 (by decide) h (fun h => ?_) (fun h => ?_)
    · refine j_lload_n O 0 2 dX18_told_24 rfl rfl ?_
      refine j_l2i O dX18_told_25 ?_
      exact j_iret O hr dX18_told_26 h
    · exact (J.sub [] rfl <| wk_X18_told_20 O hr hm htab    _ h)
theorem hy_X0_isTooth : (yX0_isTooth.cls = "DowryBoxes" ∧ yX0_isTooth.cls ≠ "java/lang/invoke/MethodHandle" ∧ yX0_isTooth.cls ≠ "java/lang/invoke/VarHandle" ∧ (parseMethodDescriptor yX0_isTooth.desc).map (fun d => d.parameters.length) = some 1) := by decide +kernel
theorem mt_X0_isTooth (l : Launch) (G : GW) (p1 : Int) (w : Wd) (Q : Int → Wd → Prop) (h : wp_X0_isTooth p1 w Q) : MI l G yX0_isTooth cX0_isTooth 1 (.boolean) 2 0 0 [vI (p1)] w Q := by
  refine met_I (fun G => [vI (p1)]) (by decide) (fun G => Nat.le_of_ble_eq_true rfl) (fun x O hl hm hr => ?_)
  subst hl
  have O : OK x "DowryBoxes" cX0_isTooth 2 := O
  have h : wp_X0_isTooth p1 w Q := h
  unfold wp_X0_isTooth at h
  show J x (TI x Q) w 0 0 0 [(0, vI (p1))] []
  refine j_iload_n O 0 0 dX0_isTooth_0 rfl rfl ?_
  refine j_iconst O dX0_isTooth_1 ?_
  refine j_bipush (m := 7) O dX0_isTooth_2 bi_7 ?_
  refine fin_I O ⟨Nat.zero_le _, Nat.zero_le _⟩ (run_S (As := [vI (p1), vI (0), vI (7)]) (st := []) O (mt_X0_in (xl x) (xG x) _ _ _ _ _ h) q465 q466 q121 q467 hy_X0_in.2 (Nat.le_of_ble_eq_true rfl) (Nat.le_of_ble_eq_true rfl) ⟨Nat.zero_le _, Nat.zero_le _⟩ rfl (Nat.le_of_ble_eq_true rfl) dX0_isTooth_4) (fun r1 w2 h => ?_)
  exact j_zret O hr dX0_isTooth_7 h
theorem hy_X0_isBar : (yX0_isBar.cls = "DowryBoxes" ∧ yX0_isBar.cls ≠ "java/lang/invoke/MethodHandle" ∧ yX0_isBar.cls ≠ "java/lang/invoke/VarHandle" ∧ (parseMethodDescriptor yX0_isBar.desc).map (fun d => d.parameters.length) = some 1) := by decide +kernel
theorem mt_X0_isBar (l : Launch) (G : GW) (p1 : Int) (w : Wd) (Q : Int → Wd → Prop) (h : wp_X0_isBar p1 w Q) : MI l G yX0_isBar cX0_isBar 1 (.boolean) 2 0 0 [vI (p1)] w Q := by
  refine met_I (fun G => [vI (p1)]) (by decide) (fun G => Nat.le_of_ble_eq_true rfl) (fun x O hl hm hr => ?_)
  subst hl
  have O : OK x "DowryBoxes" cX0_isBar 2 := O
  have h : wp_X0_isBar p1 w Q := h
  unfold wp_X0_isBar at h
  show J x (TI x Q) w 0 0 0 [(0, vI (p1))] []
  refine j_iload_n O 0 0 dX0_isBar_0 rfl rfl ?_
  refine j_iconst O dX0_isBar_1 ?_
  refine j_bipush (m := 7) O dX0_isBar_2 bi_7 ?_
  refine fin_I O ⟨Nat.zero_le _, Nat.zero_le _⟩ (run_S (As := [vI (p1), vI (0), vI (7)]) (st := []) O (mt_X0_in (xl x) (xG x) _ _ _ _ _ h) q465 q466 q121 q467 hy_X0_in.2 (Nat.le_of_ble_eq_true rfl) (Nat.le_of_ble_eq_true rfl) ⟨Nat.zero_le _, Nat.zero_le _⟩ rfl (Nat.le_of_ble_eq_true rfl) dX0_isBar_4) (fun r1 w2 h => ?_)
  exact j_zret O hr dX0_isBar_7 h
theorem hy_X0_isBox : (yX0_isBox.cls = "DowryBoxes" ∧ yX0_isBox.cls ≠ "java/lang/invoke/MethodHandle" ∧ yX0_isBox.cls ≠ "java/lang/invoke/VarHandle" ∧ (parseMethodDescriptor yX0_isBox.desc).map (fun d => d.parameters.length) = some 1) := by decide +kernel
theorem mt_X0_isBox (l : Launch) (G : GW) (this : Nat) (p1 : Int) (w : Wd) (Q : Int → Wd → Prop) (h : wp_X0_isBox this p1 w Q) : MI l G yX0_isBox cX0_isBox 2 (.boolean) 2 0 0 [.ref (adG G (this)), vI (p1)] w Q := by
  refine met_I (fun G => [.ref (adG G (this)), vI (p1)]) (by decide) (fun G => Nat.le_of_ble_eq_true rfl) (fun x O hl hm hr => ?_)
  subst hl
  have O : OK x "DowryBoxes" cX0_isBox 2 := O
  have h : wp_X0_isBox this p1 w Q := h
  unfold wp_X0_isBox at h
  show J x (TI x Q) w 0 0 0 [(0, .ref (adG (xG x) (this))), (1, vI (p1))] []
  refine j_iload_n O 1 1 dX0_isBox_0 rfl rfl ?_
  refine j_iconst O dX0_isBox_1 ?_
  refine j_aload_n O 0 0 dX0_isBox_2 rfl rfl ?_
  refine j_getR O cfX0 2 (Nat.le_of_ble_eq_true rfl) ⟨_, rfl⟩ q360 dX0_isBox_3 h (fun o1 h => ?_)
  obtain ⟨k2, e_k2, g_k2⟩ := h
  subst e_k2
  have h := g_k2
  refine j_getIN O cfX1 5 (Nat.le_of_ble_eq_true rfl) (.inl rfl) (lw_n q242 rfl) dX0_isBox_6 h (fun v3 h => ?_)
  refine j_iconst O dX0_isBox_9 ?_
  refine j_isub O dX0_isBox_10 ?_
  refine fin_I O ⟨Nat.zero_le _, Nat.zero_le _⟩ (run_S (As := [vI (p1), vI (0), vI ((v3 - 1))]) (st := []) O (mt_X0_in (xl x) (xG x) _ _ _ _ _ h) q465 q466 q121 q467 hy_X0_in.2 (Nat.le_of_ble_eq_true rfl) (Nat.le_of_ble_eq_true rfl) ⟨Nat.zero_le _, Nat.zero_le _⟩ rfl (Nat.le_of_ble_eq_true rfl) dX0_isBox_11) (fun r4 w5 h => ?_)
  exact j_zret O hr dX0_isBox_14 h
theorem hy_X0_pullsKept : (yX0_pullsKept.cls = "DowryBoxes" ∧ yX0_pullsKept.cls ≠ "java/lang/invoke/MethodHandle" ∧ yX0_pullsKept.cls ≠ "java/lang/invoke/VarHandle" ∧ (parseMethodDescriptor yX0_pullsKept.desc).map (fun d => d.parameters.length) = some 3) := by decide +kernel
theorem mt_X0_pullsKept (l : Launch) (G : GW) (this : Nat) (p1 : Int) (p2 : Int) (p3 : Int) (w : Wd) (Q : Int → Wd → Prop) (h : wp_X0_pullsKept this p1 p2 p3 w Q) : MI l G yX0_pullsKept cX0_pullsKept 4 (.int) 4 0 0 [.ref (adG G (this)), vI (p1), vI (p2), vI (p3)] w Q := by
  refine met_I (fun G => [.ref (adG G (this)), vI (p1), vI (p2), vI (p3)]) (by decide) (fun G => Nat.le_of_ble_eq_true rfl) (fun x O hl hm hr => ?_)
  subst hl
  have O : OK x "DowryBoxes" cX0_pullsKept 4 := O
  have h : wp_X0_pullsKept this p1 p2 p3 w Q := h
  unfold wp_X0_pullsKept at h
  show J x (TI x Q) w 0 0 0 [(0, .ref (adG (xG x) (this))), (1, vI (p1)), (2, vI (p2)), (3, vI (p3))] []
  refine j_iload_n O 1 1 dX0_pullsKept_0 rfl rfl ?_
  refine fin_I O ⟨Nat.zero_le _, Nat.zero_le _⟩ (run_S (As := [vI (p1)]) (st := []) O (mt_X0_isTooth (xl x) (xG x) _ _ _ h) q722 q723 q121 q724 hy_X0_isTooth.2 (Nat.le_of_ble_eq_true rfl) (Nat.le_of_ble_eq_true rfl) ⟨Nat.zero_le _, Nat.zero_le _⟩ rfl (Nat.le_of_ble_eq_true rfl) dX0_pullsKept_1) (fun r1 w2 h => ?_)
  obtain ⟨c3, h⟩ := h
  refine j_if_eq O (tgt := 14) dX0_pullsKept_4 (by decide) c3 h (fun h => ?_) (fun h => ?_)
  · refine j_iconst O dX0_pullsKept_14 ?_
    exact j_iret O hr dX0_pullsKept_15 h
  · refine j_iload_n O 2 2 dX0_pullsKept_7 rfl rfl ?_
    refine fin_I O ⟨Nat.zero_le _, Nat.zero_le _⟩ (run_S (As := [vI (p2)]) (st := []) O (mt_X0_isBar (xl x) (xG x) _ _ _ h) q712 q713 q121 q714 hy_X0_isBar.2 (Nat.le_of_ble_eq_true rfl) (Nat.le_of_ble_eq_true rfl) ⟨Nat.zero_le _, Nat.zero_le _⟩ rfl (Nat.le_of_ble_eq_true rfl) dX0_pullsKept_8) (fun r4 w5 h => ?_)
    obtain ⟨c6, h⟩ := h
    refine j_if_ne O (tgt := 16) dX0_pullsKept_11 (by decide) c6 h (fun h => ?_) (fun h => ?_)
    · refine j_aload_n O 0 0 dX0_pullsKept_16 rfl rfl ?_
      refine j_iload_n O 3 3 dX0_pullsKept_17 rfl rfl ?_
      obtain ⟨e9, h⟩ := h
      refine fin_I O ⟨Nat.zero_le _, Nat.zero_le _⟩ (run_V (As := [vI (p3)]) (st := []) O (mt_X0_isBox (xl x) (xG x) _ _ _ _ h) e9 cfX0.1 q582 q584 qs6 q121 q585 hy_X0_isBox (Nat.le_of_ble_eq_true rfl) (Nat.le_of_ble_eq_true rfl) ⟨Nat.zero_le _, Nat.zero_le _⟩ rfl (Nat.le_of_ble_eq_true rfl) dX0_pullsKept_18) (fun r7 w8 h => ?_)
      obtain ⟨c10, h⟩ := h
      refine j_if_ne O (tgt := 27) dX0_pullsKept_21 (by decide) c10 h (fun h => ?_) (fun h => ?_)
      · refine j_aload_n O 0 0 dX0_pullsKept_27 rfl rfl ?_
        obtain ⟨e13, h⟩ := h
        refine fin_R O ⟨Nat.zero_le _, Nat.zero_le _⟩ (run_V (As := []) (st := []) O (mt_X0_table (xl x) (xG x) _ _ _ h) e13 cfX0.1 q574 q576 qs5 q121 q577 hy_X0_table (Nat.le_of_ble_eq_true rfl) (Nat.le_of_ble_eq_true rfl) ⟨Nat.zero_le _, Nat.zero_le _⟩ rfl (Nat.le_of_ble_eq_true rfl) dX0_pullsKept_28) (fun o11 w12 h => ?_)
        refine j_iload_n O 3 3 dX0_pullsKept_31 rfl rfl ?_
        refine j_iload_n O 2 2 dX0_pullsKept_32 rfl rfl ?_
        obtain ⟨k14, e_k14, g_k14⟩ := h
        subst e_k14
        have h := g_k14
        obtain ⟨e17, h⟩ := h
        refine fin_I O ⟨Nat.zero_le _, Nat.zero_le _⟩ (run_V (As := [vI (p3), vI (p2)]) (st := []) O (mt_X2_pinsAt (xl x) (xG x) _ _ _ _ _ h) e17 cfX2.1 q586 q587 q588 q123 q589 hy_X2_pinsAt (Nat.le_of_ble_eq_true rfl) (Nat.le_of_ble_eq_true rfl) ⟨Nat.zero_le _, Nat.zero_le _⟩ rfl (Nat.le_of_ble_eq_true rfl) dX0_pullsKept_33) (fun r15 w16 h => ?_)
        refine j_iload_n O 1 1 dX0_pullsKept_36 rfl rfl ?_
        refine fin_I O ⟨Nat.zero_le _, Nat.zero_le _⟩ (run_S (As := [vI (r15), vI (p1)]) (st := []) O (mt_X0_isOf (xl x) (xG x) _ _ _ _ h) q624 q625 q121 q626 hy_X0_isOf.2 (Nat.le_of_ble_eq_true rfl) (Nat.le_of_ble_eq_true rfl) ⟨Nat.zero_le _, Nat.zero_le _⟩ rfl (Nat.le_of_ble_eq_true rfl) dX0_pullsKept_37) (fun r18 w19 h => ?_)
        obtain ⟨c20, h⟩ := h
        refine j_if_ne O (tgt := 46) dX0_pullsKept_40 (by decide) c20 h (fun h => ?_) (fun h => ?_)
        · refine j_aload_n O 0 0 dX0_pullsKept_46 rfl rfl ?_
          refine j_iconst O dX0_pullsKept_47 ?_
          obtain ⟨e22, h⟩ := h
          refine fin_V O ⟨Nat.zero_le _, Nat.zero_le _⟩ (run_V (As := [vI (0)]) (st := []) O (mt_X0_keeps (xl x) (xG x) _ _ _ _ h) e22 cfX0.1 q1281 q1283 qs21 q121 q1284 hy_X0_keeps (Nat.le_of_ble_eq_true rfl) (Nat.le_of_ble_eq_true rfl) ⟨Nat.zero_le _, Nat.zero_le _⟩ rfl (Nat.le_of_ble_eq_true rfl) dX0_pullsKept_48) (fun w21 h => ?_)
          refine j_aload_n O 0 0 dX0_pullsKept_51 rfl rfl ?_
          obtain ⟨e25, h⟩ := h
          refine fin_R O ⟨Nat.zero_le _, Nat.zero_le _⟩ (run_V (As := []) (st := []) O (mt_X0_table (xl x) (xG x) _ _ _ h) e25 cfX0.1 q574 q576 qs5 q121 q577 hy_X0_table (Nat.le_of_ble_eq_true rfl) (Nat.le_of_ble_eq_true rfl) ⟨Nat.zero_le _, Nat.zero_le _⟩ rfl (Nat.le_of_ble_eq_true rfl) dX0_pullsKept_52) (fun o23 w24 h => ?_)
          obtain ⟨k26, e_k26, g_k26⟩ := h
          subst e_k26
          have h := g_k26
          refine j_getAN O cfX2 0 (Nat.le_of_ble_eq_true rfl) ⟨_, rfl⟩ (lw_n q178 rfl) dX0_pullsKept_55 h (fun k27 h => ?_)
          refine j_bipush (m := 8) O dX0_pullsKept_58 bi_8 ?_
          refine j_iload_n O 3 3 dX0_pullsKept_60 rfl rfl ?_
          refine j_imul O dX0_pullsKept_61 ?_
          refine j_iload_n O 2 2 dX0_pullsKept_62 rfl rfl ?_
          refine j_iadd O dX0_pullsKept_63 ?_
          refine j_dup2_11 O dX0_pullsKept_64 rfl rfl ?_
          refine j_iald O dX0_pullsKept_65 h (fun v28 h => ?_)
          refine j_iconst O dX0_pullsKept_66 ?_
          refine j_iload_n O 1 1 dX0_pullsKept_67 rfl rfl ?_
          refine j_ishl O dX0_pullsKept_68 ?_
          refine j_iconst O dX0_pullsKept_69 ?_
          refine j_ixor O dX0_pullsKept_70 ?_
          refine j_iand O dX0_pullsKept_71 ?_
          refine j_iast O dX0_pullsKept_72 h (fun w29 h => ?_)
          refine j_aload_n O 0 0 dX0_pullsKept_73 rfl rfl ?_
          obtain ⟨e32, h⟩ := h
          refine fin_R O ⟨Nat.zero_le _, Nat.zero_le _⟩ (run_V (As := []) (st := []) O (mt_X0_table (xl x) (xG x) _ _ _ h) e32 cfX0.1 q574 q576 qs5 q121 q577 hy_X0_table (Nat.le_of_ble_eq_true rfl) (Nat.le_of_ble_eq_true rfl) ⟨Nat.zero_le _, Nat.zero_le _⟩ rfl (Nat.le_of_ble_eq_true rfl) dX0_pullsKept_74) (fun o30 w31 h => ?_)
          refine j_iload_n O 3 3 dX0_pullsKept_77 rfl rfl ?_
          obtain ⟨k33, e_k33, g_k33⟩ := h
          subst e_k33
          have h := g_k33
          obtain ⟨e36, h⟩ := h
          refine fin_I O ⟨Nat.zero_le _, Nat.zero_le _⟩ (run_V (As := [vI (p3)]) (st := []) O (mt_X2_notes (xl x) (xG x) _ _ _ _ h) e36 cfX2.1 q590 q591 q592 q123 q593 hy_X2_notes (Nat.le_of_ble_eq_true rfl) (Nat.le_of_ble_eq_true rfl) ⟨Nat.zero_le _, Nat.zero_le _⟩ rfl (Nat.le_of_ble_eq_true rfl) dX0_pullsKept_78) (fun r34 w35 h => ?_)
          exact j_iret O hr dX0_pullsKept_81 h
        · refine j_bipush (m := (-3)) O dX0_pullsKept_43 bi_m3 ?_
          exact j_iret O hr dX0_pullsKept_45 h
      · refine j_bipush (m := (-2)) O dX0_pullsKept_24 bi_m2 ?_
        exact j_iret O hr dX0_pullsKept_26 h
    · refine j_iconst O dX0_pullsKept_14 ?_
      exact j_iret O hr dX0_pullsKept_15 h
theorem hy_X0_snapsKept : (yX0_snapsKept.cls = "DowryBoxes" ∧ yX0_snapsKept.cls ≠ "java/lang/invoke/MethodHandle" ∧ yX0_snapsKept.cls ≠ "java/lang/invoke/VarHandle" ∧ (parseMethodDescriptor yX0_snapsKept.desc).map (fun d => d.parameters.length) = some 2) := by decide +kernel
theorem mt_X0_snapsKept (l : Launch) (G : GW) (this : Nat) (p1 : Int) (p2 : Int) (w : Wd) (Q : Int → Wd → Prop) (h : wp_X0_snapsKept this p1 p2 w Q) : MI l G yX0_snapsKept cX0_snapsKept 3 (.int) 4 0 0 [.ref (adG G (this)), vI (p1), vI (p2)] w Q := by
  refine met_I (fun G => [.ref (adG G (this)), vI (p1), vI (p2)]) (by decide) (fun G => Nat.le_of_ble_eq_true rfl) (fun x O hl hm hr => ?_)
  subst hl
  have O : OK x "DowryBoxes" cX0_snapsKept 4 := O
  have h : wp_X0_snapsKept this p1 p2 w Q := h
  unfold wp_X0_snapsKept at h
  show J x (TI x Q) w 0 0 0 [(0, .ref (adG (xG x) (this))), (1, vI (p1)), (2, vI (p2))] []
  refine j_iload_n O 1 1 dX0_snapsKept_0 rfl rfl ?_
  refine fin_I O ⟨Nat.zero_le _, Nat.zero_le _⟩ (run_S (As := [vI (p1)]) (st := []) O (mt_X0_isTooth (xl x) (xG x) _ _ _ h) q722 q723 q121 q724 hy_X0_isTooth.2 (Nat.le_of_ble_eq_true rfl) (Nat.le_of_ble_eq_true rfl) ⟨Nat.zero_le _, Nat.zero_le _⟩ rfl (Nat.le_of_ble_eq_true rfl) dX0_snapsKept_1) (fun r1 w2 h => ?_)
  obtain ⟨c3, h⟩ := h
  refine j_if_ne O (tgt := 9) dX0_snapsKept_4 (by decide) c3 h (fun h => ?_) (fun h => ?_)
  · refine j_aload_n O 0 0 dX0_snapsKept_9 rfl rfl ?_
    refine j_iload_n O 2 2 dX0_snapsKept_10 rfl rfl ?_
    obtain ⟨e6, h⟩ := h
    refine fin_I O ⟨Nat.zero_le _, Nat.zero_le _⟩ (run_V (As := [vI (p2)]) (st := []) O (mt_X0_isBox (xl x) (xG x) _ _ _ _ h) e6 cfX0.1 q582 q584 qs6 q121 q585 hy_X0_isBox (Nat.le_of_ble_eq_true rfl) (Nat.le_of_ble_eq_true rfl) ⟨Nat.zero_le _, Nat.zero_le _⟩ rfl (Nat.le_of_ble_eq_true rfl) dX0_snapsKept_11) (fun r4 w5 h => ?_)
    obtain ⟨c7, h⟩ := h
    refine j_if_ne O (tgt := 20) dX0_snapsKept_14 (by decide) c7 h (fun h => ?_) (fun h => ?_)
    · refine j_aload_n O 0 0 dX0_snapsKept_20 rfl rfl ?_
      obtain ⟨e10, h⟩ := h
      refine fin_R O ⟨Nat.zero_le _, Nat.zero_le _⟩ (run_V (As := []) (st := []) O (mt_X0_table (xl x) (xG x) _ _ _ h) e10 cfX0.1 q574 q576 qs5 q121 q577 hy_X0_table (Nat.le_of_ble_eq_true rfl) (Nat.le_of_ble_eq_true rfl) ⟨Nat.zero_le _, Nat.zero_le _⟩ rfl (Nat.le_of_ble_eq_true rfl) dX0_snapsKept_21) (fun o8 w9 h => ?_)
      obtain ⟨k11, e_k11, g_k11⟩ := h
      subst e_k11
      have h := g_k11
      refine j_getAN O cfX2 1 (Nat.le_of_ble_eq_true rfl) ⟨_, rfl⟩ (lw_n q180 rfl) dX0_snapsKept_24 h (fun k12 h => ?_)
      refine j_iload_n O 2 2 dX0_snapsKept_27 rfl rfl ?_
      refine j_iald O dX0_snapsKept_28 h (fun v13 h => ?_)
      refine j_iload_n O 1 1 dX0_snapsKept_29 rfl rfl ?_
      refine fin_I O ⟨Nat.zero_le _, Nat.zero_le _⟩ (run_S (As := [vI (v13), vI (p1)]) (st := []) O (mt_X0_isOf (xl x) (xG x) _ _ _ _ h) q624 q625 q121 q626 hy_X0_isOf.2 (Nat.le_of_ble_eq_true rfl) (Nat.le_of_ble_eq_true rfl) ⟨Nat.zero_le _, Nat.zero_le _⟩ rfl (Nat.le_of_ble_eq_true rfl) dX0_snapsKept_30) (fun r14 w15 h => ?_)
      obtain ⟨c16, h⟩ := h
      refine j_if_eq O (tgt := 39) dX0_snapsKept_33 (by decide) c16 h (fun h => ?_) (fun h => ?_)
      · refine j_aload_n O 0 0 dX0_snapsKept_39 rfl rfl ?_
        refine j_iconst O dX0_snapsKept_40 ?_
        obtain ⟨e18, h⟩ := h
        refine fin_V O ⟨Nat.zero_le _, Nat.zero_le _⟩ (run_V (As := [vI (1)]) (st := []) O (mt_X0_keeps (xl x) (xG x) _ _ _ _ h) e18 cfX0.1 q1281 q1283 qs21 q121 q1284 hy_X0_keeps (Nat.le_of_ble_eq_true rfl) (Nat.le_of_ble_eq_true rfl) ⟨Nat.zero_le _, Nat.zero_le _⟩ rfl (Nat.le_of_ble_eq_true rfl) dX0_snapsKept_41) (fun w17 h => ?_)
        refine j_aload_n O 0 0 dX0_snapsKept_44 rfl rfl ?_
        obtain ⟨e21, h⟩ := h
        refine fin_R O ⟨Nat.zero_le _, Nat.zero_le _⟩ (run_V (As := []) (st := []) O (mt_X0_table (xl x) (xG x) _ _ _ h) e21 cfX0.1 q574 q576 qs5 q121 q577 hy_X0_table (Nat.le_of_ble_eq_true rfl) (Nat.le_of_ble_eq_true rfl) ⟨Nat.zero_le _, Nat.zero_le _⟩ rfl (Nat.le_of_ble_eq_true rfl) dX0_snapsKept_45) (fun o19 w20 h => ?_)
        obtain ⟨k22, e_k22, g_k22⟩ := h
        subst e_k22
        have h := g_k22
        refine j_getAN O cfX2 1 (Nat.le_of_ble_eq_true rfl) ⟨_, rfl⟩ (lw_n q180 rfl) dX0_snapsKept_48 h (fun k23 h => ?_)
        refine j_iload_n O 2 2 dX0_snapsKept_51 rfl rfl ?_
        refine j_dup2_11 O dX0_snapsKept_52 rfl rfl ?_
        refine j_iald O dX0_snapsKept_53 h (fun v24 h => ?_)
        refine j_iconst O dX0_snapsKept_54 ?_
        refine j_iload_n O 1 1 dX0_snapsKept_55 rfl rfl ?_
        refine j_ishl O dX0_snapsKept_56 ?_
        refine j_ior O dX0_snapsKept_57 ?_
        refine j_iast O dX0_snapsKept_58 h (fun w25 h => ?_)
        refine j_aload_n O 0 0 dX0_snapsKept_59 rfl rfl ?_
        obtain ⟨e28, h⟩ := h
        refine fin_R O ⟨Nat.zero_le _, Nat.zero_le _⟩ (run_V (As := []) (st := []) O (mt_X0_table (xl x) (xG x) _ _ _ h) e28 cfX0.1 q574 q576 qs5 q121 q577 hy_X0_table (Nat.le_of_ble_eq_true rfl) (Nat.le_of_ble_eq_true rfl) ⟨Nat.zero_le _, Nat.zero_le _⟩ rfl (Nat.le_of_ble_eq_true rfl) dX0_snapsKept_60) (fun o26 w27 h => ?_)
        refine j_iload_n O 2 2 dX0_snapsKept_63 rfl rfl ?_
        obtain ⟨k29, e_k29, g_k29⟩ := h
        subst e_k29
        have h := g_k29
        obtain ⟨e32, h⟩ := h
        refine fin_I O ⟨Nat.zero_le _, Nat.zero_le _⟩ (run_V (As := [vI (p2)]) (st := []) O (mt_X2_notes (xl x) (xG x) _ _ _ _ h) e32 cfX2.1 q590 q591 q592 q123 q593 hy_X2_notes (Nat.le_of_ble_eq_true rfl) (Nat.le_of_ble_eq_true rfl) ⟨Nat.zero_le _, Nat.zero_le _⟩ rfl (Nat.le_of_ble_eq_true rfl) dX0_snapsKept_64) (fun r30 w31 h => ?_)
        exact j_iret O hr dX0_snapsKept_67 h
      · refine j_bipush (m := (-3)) O dX0_snapsKept_36 bi_m3 ?_
        exact j_iret O hr dX0_snapsKept_38 h
    · refine j_bipush (m := (-2)) O dX0_snapsKept_17 bi_m2 ?_
      exact j_iret O hr dX0_snapsKept_19 h
  · refine j_iconst O dX0_snapsKept_7 ?_
    exact j_iret O hr dX0_snapsKept_8 h
theorem hy_X0_isSuitor : (yX0_isSuitor.cls = "DowryBoxes" ∧ yX0_isSuitor.cls ≠ "java/lang/invoke/MethodHandle" ∧ yX0_isSuitor.cls ≠ "java/lang/invoke/VarHandle" ∧ (parseMethodDescriptor yX0_isSuitor.desc).map (fun d => d.parameters.length) = some 1) := by decide +kernel
theorem mt_X0_isSuitor (l : Launch) (G : GW) (this : Nat) (p1 : Int) (w : Wd) (Q : Int → Wd → Prop) (h : wp_X0_isSuitor this p1 w Q) : MI l G yX0_isSuitor cX0_isSuitor 2 (.boolean) 2 0 0 [.ref (adG G (this)), vI (p1)] w Q := by
  refine met_I (fun G => [.ref (adG G (this)), vI (p1)]) (by decide) (fun G => Nat.le_of_ble_eq_true rfl) (fun x O hl hm hr => ?_)
  subst hl
  have O : OK x "DowryBoxes" cX0_isSuitor 2 := O
  have h : wp_X0_isSuitor this p1 w Q := h
  unfold wp_X0_isSuitor at h
  show J x (TI x Q) w 0 0 0 [(0, .ref (adG (xG x) (this))), (1, vI (p1))] []
  refine j_iload_n O 1 1 dX0_isSuitor_0 rfl rfl ?_
  refine j_iconst O dX0_isSuitor_1 ?_
  refine j_aload_n O 0 0 dX0_isSuitor_2 rfl rfl ?_
  refine j_getR O cfX0 2 (Nat.le_of_ble_eq_true rfl) ⟨_, rfl⟩ q360 dX0_isSuitor_3 h (fun o1 h => ?_)
  obtain ⟨k2, e_k2, g_k2⟩ := h
  subst e_k2
  have h := g_k2
  refine j_getIN O cfX1 6 (Nat.le_of_ble_eq_true rfl) (.inl rfl) (lw_n q244 rfl) dX0_isSuitor_6 h (fun v3 h => ?_)
  refine j_iconst O dX0_isSuitor_9 ?_
  refine j_isub O dX0_isSuitor_10 ?_
  refine fin_I O ⟨Nat.zero_le _, Nat.zero_le _⟩ (run_S (As := [vI (p1), vI (0), vI ((v3 - 1))]) (st := []) O (mt_X0_in (xl x) (xG x) _ _ _ _ _ h) q465 q466 q121 q467 hy_X0_in.2 (Nat.le_of_ble_eq_true rfl) (Nat.le_of_ble_eq_true rfl) ⟨Nat.zero_le _, Nat.zero_le _⟩ rfl (Nat.le_of_ble_eq_true rfl) dX0_isSuitor_11) (fun r4 w5 h => ?_)
  exact j_zret O hr dX0_isSuitor_14 h
theorem hy_X0_lasts : (yX0_lasts.cls = "DowryBoxes" ∧ yX0_lasts.cls ≠ "java/lang/invoke/MethodHandle" ∧ yX0_lasts.cls ≠ "java/lang/invoke/VarHandle" ∧ (parseMethodDescriptor yX0_lasts.desc).map (fun d => d.parameters.length) = some 3) := by decide +kernel
theorem mt_X0_lasts (l : Launch) (G : GW) (this : Nat) (p1 : Int) (p2 : Option Nat) (p3 : Int) (w : Wd) (Q : Int → Wd → Prop) (h : wp_X0_lasts this p1 p2 p3 w Q) : MI l G yX0_lasts cX0_lasts 4 (.int) 108 0 0 [.ref (adG G (this)), vI (p1), vR G (p2), vI (p3)] w Q := by
  refine met_I (fun G => [.ref (adG G (this)), vI (p1), vR G (p2), vI (p3)]) (by decide) (fun G => by cases p2 <;> exact Nat.le_of_ble_eq_true rfl) (fun x O hl hm hr => ?_)
  subst hl
  have O : OK x "DowryBoxes" cX0_lasts 108 := O
  have h : wp_X0_lasts this p1 p2 p3 w Q := h
  unfold wp_X0_lasts at h
  rw [show lv_args 0 [.ref (adG (xG x) (this)), vI (p1), vR (xG x) (p2), vI (p3)] = [(0, .ref (adG (xG x) (this))), (1, vI (p1)), (2, vR (xG x) (p2)), (3, vI (p3))] from by cases p2 <;> rfl]
  show J x (TI x Q) w 0 0 0 [(0, .ref (adG (xG x) (this))), (1, vI (p1)), (2, vR (xG x) (p2)), (3, vI (p3))] []
  refine j_aload_n O 0 0 dX0_lasts_0 rfl rfl ?_
  refine j_iload_n O 1 1 dX0_lasts_1 rfl rfl ?_
  refine j_iconst O dX0_lasts_2 ?_
  refine j_aloadq_n O 2 2 dX0_lasts_3 rfl rfl ?_
  refine j_iload_n O 3 3 dX0_lasts_4 rfl rfl ?_
  refine j_iconst O dX0_lasts_5 ?_
  obtain ⟨e3, h⟩ := h
  refine fin_L O ⟨Nat.zero_le _, Nat.zero_le _⟩ (run_V (As := [vI (p1), vI (0), vR (xG x) (p2), vI (p3), vI (((-1)))]) (st := []) O (mt_X0_says (xl x) (xG x) _ _ _ _ _ _ _ _ h) e3 cfX0.1 q612 q614 qs8 q121 q615 hy_X0_says (Nat.le_of_ble_eq_true rfl) (Nat.le_of_ble_eq_true rfl) ⟨Nat.zero_le _, Nat.zero_le _⟩ rfl (Nat.le_of_ble_eq_true rfl) dX0_lasts_6) (fun r1 w2 h => ?_)
  refine j_bipush (m := 60) O dX0_lasts_9 bi_60 ?_
  refine j_aloadq_n O 2 2 dX0_lasts_11 rfl rfl ?_
  obtain ⟨k4, e_k4, g_k4⟩ := h
  subst e_k4
  have h := g_k4
  refine j_getAN O cfX2 2 (Nat.le_of_ble_eq_true rfl) ⟨_, rfl⟩ (lw_n q182 rfl) dX0_lasts_12 h (fun k5 h => ?_)
  refine j_iload_n O 3 3 dX0_lasts_15 rfl rfl ?_
  refine j_iald O dX0_lasts_16 h (fun v6 h => ?_)
  refine j_aloadq_n O 2 2 dX0_lasts_17 rfl rfl ?_
  refine j_iload_n O 3 3 dX0_lasts_18 rfl rfl ?_
  obtain ⟨e9, h⟩ := h
  refine fin_I O ⟨Nat.zero_le _, Nat.zero_le _⟩ (run_V (As := [vI (p3)]) (st := [vI (v6), vI (60), vL (r1)]) O (mt_X2_notes (xl x) (xG x) _ _ _ _ h) e9 cfX2.1 q590 q591 q592 q123 q593 hy_X2_notes (Nat.le_of_ble_eq_true rfl) (Nat.le_of_ble_eq_true rfl) ⟨Nat.zero_le _, Nat.zero_le _⟩ rfl (Nat.le_of_ble_eq_true rfl) dX0_lasts_19) (fun r7 w8 h => ?_)
  refine j_iconst O dX0_lasts_22 ?_
  refine j_idiv O dX0_lasts_23 h (fun h => ?_)
  refine j_iadd O dX0_lasts_24 ?_
  refine fin_I O ⟨Nat.zero_le _, Nat.zero_le _⟩ (run_S (As := [vL (r1), vI (60), vI ((v6 + (Int.tdiv r7 4)))]) (st := []) O (mt_X0_or (xl x) (xG x) _ _ _ _ _ h) q692 q693 q121 q694 hy_X0_or.2 (Nat.le_of_ble_eq_true rfl) (Nat.le_of_ble_eq_true rfl) ⟨Nat.zero_le _, Nat.zero_le _⟩ rfl (Nat.le_of_ble_eq_true rfl) dX0_lasts_25) (fun r10 w11 h => ?_)
  exact j_iret O hr dX0_lasts_28 h
theorem hy_X0_boxOf : (yX0_boxOf.cls = "DowryBoxes" ∧ yX0_boxOf.cls ≠ "java/lang/invoke/MethodHandle" ∧ yX0_boxOf.cls ≠ "java/lang/invoke/VarHandle" ∧ (parseMethodDescriptor yX0_boxOf.desc).map (fun d => d.parameters.length) = some 2) := by decide +kernel
theorem wk_X0_boxOf_2 {x : Cx} (O : OK x "DowryBoxes" cX0_boxOf 1) (hr : (xM x).sig.returnType = some .int) (hm : xn x = 4) {Q : Int → Wd → Prop} (this : Nat) (x1 : Option Nat) (x2 : Int) : ∀ (n : Nat) (x3 : Int) (w : Wd), wp_X0_boxOf_2 Q this x1 x2 n x3 w → J x (TI x Q) w 0 0 2 [(0, .ref (adG (xG x) (this))), (1, vR (xG x) (x1)), (2, vI (x2)), (3, vI (x3))] [] := by
  intro n
  induction n with
  | zero => intro x3 w h; exact False.elim h
  | succ n ih =>
    intro x3 w h
    rw [wp_X0_boxOf_2] at h
    refine j_iload_n O 3 3 dX0_boxOf_2 rfl rfl ?_
    refine j_aload_n O 0 0 dX0_boxOf_3 rfl rfl ?_
    refine j_getR O cfX0 2 (Nat.le_of_ble_eq_true rfl) ⟨_, rfl⟩ q360 dX0_boxOf_4 h (fun o1 h => ?_)
    obtain ⟨k2, e_k2, g_k2⟩ := h
    subst e_k2
    have h := g_k2
    refine j_getIN O cfX1 5 (Nat.le_of_ble_eq_true rfl) (.inl rfl) (lw_n q242 rfl) dX0_boxOf_7 h (fun v3 h => ?_)
    obtain ⟨c4, h⟩ := h
    obtain ⟨c5, h⟩ := h
    refine j_icmp_ge O (tgt := 31) dX0_boxOf_10 (by decide) c4 c5 h (fun h => ?_) (fun h => ?_)
    · refine j_iconst O dX0_boxOf_31 ?_
      exact j_iret O hr dX0_boxOf_32 h
    · refine j_aloadq_n O 1 1 dX0_boxOf_13 rfl rfl ?_
      obtain ⟨k6, e_k6, g_k6⟩ := h
      subst e_k6
      have h := g_k6
      refine j_getAN O cfX2 3 (Nat.le_of_ble_eq_true rfl) ⟨_, rfl⟩ (lw_n q184 rfl) dX0_boxOf_14 h (fun k7 h => ?_)
      refine j_iload_n O 3 3 dX0_boxOf_17 rfl rfl ?_
      refine j_iald O dX0_boxOf_18 h (fun v8 h => ?_)
      refine j_iload_n O 2 2 dX0_boxOf_19 rfl rfl ?_
      obtain ⟨c9, h⟩ := h
      obtain ⟨c10, h⟩ := h
      refine j_icmp_ne O (tgt := 25) dX0_boxOf_20 (by decide) c9 c10 h (fun h => ?_) (fun h => ?_)
      · refine j_iinc (L' := [(3, vI (x3 + 1)), (0, .ref (adG (xG x) (this))), (1, vR (xG x) (some k6)), (2, vI (x2))]) O 3 dX0_boxOf_25 rfl (by rw [hm]; decide) rfl ?_
        refine j_goto O (tgt := 2) dX0_boxOf_28 (by decide) ?_
        exact (J.sub [1, 2, 3, 0] rfl <| ih _ _ h)
      · refine j_iload_n O 3 3 dX0_boxOf_23 rfl rfl ?_
        exact j_iret O hr dX0_boxOf_24 h
theorem mt_X0_boxOf (l : Launch) (G : GW) (this : Nat) (p1 : Option Nat) (p2 : Int) (w : Wd) (Q : Int → Wd → Prop) (h : wp_X0_boxOf this p1 p2 w Q) : MI l G yX0_boxOf cX0_boxOf 4 (.int) 1 0 0 [.ref (adG G (this)), vR G (p1), vI (p2)] w Q := by
  refine met_I (fun G => [.ref (adG G (this)), vR G (p1), vI (p2)]) (by decide) (fun G => by cases p1 <;> exact Nat.le_of_ble_eq_true rfl) (fun x O hl hm hr => ?_)
  subst hl
  have O : OK x "DowryBoxes" cX0_boxOf 1 := O
  have h : wp_X0_boxOf this p1 p2 w Q := h
  unfold wp_X0_boxOf at h
  rw [show lv_args 0 [.ref (adG (xG x) (this)), vR (xG x) (p1), vI (p2)] = [(0, .ref (adG (xG x) (this))), (1, vR (xG x) (p1)), (2, vI (p2))] from by cases p1 <;> rfl]
  show J x (TI x Q) w 0 0 0 [(0, .ref (adG (xG x) (this))), (1, vR (xG x) (p1)), (2, vI (p2))] []
  refine j_iconst O dX0_boxOf_0 ?_
  refine j_istore_n (L' := [(3, vI (0)), (0, .ref (adG (xG x) (this))), (1, vR (xG x) (p1)), (2, vI (p2))]) O 3 dX0_boxOf_1 rfl (by rw [hm]; decide) rfl ?_
  exact (J.sub [1, 2, 3, 0] rfl <| wk_X0_boxOf_2 O hr hm  _ _ _  FU _ _ h)
theorem hy_X0_isBarred : (yX0_isBarred.cls = "DowryBoxes" ∧ yX0_isBarred.cls ≠ "java/lang/invoke/MethodHandle" ∧ yX0_isBarred.cls ≠ "java/lang/invoke/VarHandle" ∧ (parseMethodDescriptor yX0_isBarred.desc).map (fun d => d.parameters.length) = some 3) := by decide +kernel
theorem mt_X0_isBarred (l : Launch) (G : GW) (this : Nat) (p1 : Option Nat) (p2 : Int) (p3 : Int) (w : Wd) (Q : Int → Wd → Prop) (h : wp_X0_isBarred this p1 p2 p3 w Q) : MI l G yX0_isBarred cX0_isBarred 4 (.boolean) 108 0 0 [.ref (adG G (this)), vR G (p1), vI (p2), vI (p3)] w Q := by
  refine met_I (fun G => [.ref (adG G (this)), vR G (p1), vI (p2), vI (p3)]) (by decide) (fun G => by cases p1 <;> exact Nat.le_of_ble_eq_true rfl) (fun x O hl hm hr => ?_)
  subst hl
  have O : OK x "DowryBoxes" cX0_isBarred 108 := O
  have h : wp_X0_isBarred this p1 p2 p3 w Q := h
  unfold wp_X0_isBarred at h
  rw [show lv_args 0 [.ref (adG (xG x) (this)), vR (xG x) (p1), vI (p2), vI (p3)] = [(0, .ref (adG (xG x) (this))), (1, vR (xG x) (p1)), (2, vI (p2)), (3, vI (p3))] from by cases p1 <;> rfl]
  show J x (TI x Q) w 0 0 0 [(0, .ref (adG (xG x) (this))), (1, vR (xG x) (p1)), (2, vI (p2)), (3, vI (p3))] []
  refine j_aload_n O 0 0 dX0_isBarred_0 rfl rfl ?_
  refine j_aload_n O 0 0 dX0_isBarred_1 rfl rfl ?_
  refine j_getR O cfX0 2 (Nat.le_of_ble_eq_true rfl) ⟨_, rfl⟩ q360 dX0_isBarred_2 h (fun o1 h => ?_)
  obtain ⟨k2, e_k2, g_k2⟩ := h
  subst e_k2
  have h := g_k2
  refine j_getIN O cfX1 10 (Nat.le_of_ble_eq_true rfl) (.inl rfl) (lw_n q252 rfl) dX0_isBarred_5 h (fun v3 h => ?_)
  refine j_iconst O dX0_isBarred_8 ?_
  refine j_aloadq_n O 1 1 dX0_isBarred_9 rfl rfl ?_
  refine j_iload_n O 2 2 dX0_isBarred_10 rfl rfl ?_
  refine j_iload_n O 3 3 dX0_isBarred_11 rfl rfl ?_
  obtain ⟨e6, h⟩ := h
  refine fin_L O ⟨Nat.zero_le _, Nat.zero_le _⟩ (run_V (As := [vI (v3), vI (3), vR (xG x) (p1), vI (p2), vI (p3)]) (st := []) O (mt_X0_says (xl x) (xG x) _ _ _ _ _ _ _ _ h) e6 cfX0.1 q612 q614 qs8 q121 q615 hy_X0_says (Nat.le_of_ble_eq_true rfl) (Nat.le_of_ble_eq_true rfl) ⟨Nat.zero_le _, Nat.zero_le _⟩ rfl (Nat.le_of_ble_eq_true rfl) dX0_isBarred_12) (fun r4 w5 h => ?_)
  refine j_ldc2 (m := (-4000000000)) O dX0_isBarred_15 q616 l2_m4000000000 ?_
  obtain ⟨c7, h⟩ := h
  refine j_lcif_eq O (tgt := 26) dX0_isBarred_18 rfl dX0_isBarred_19 (by decide) c7 (by decide) h (fun h => ?_) (fun h => ?_)
  · refine j_iconst O dX0_isBarred_26 ?_
    exact j_zret O hr dX0_isBarred_27 h
  · refine j_iconst O dX0_isBarred_22 ?_
    refine j_goto O (tgt := 27) dX0_isBarred_23 (by decide) ?_
    exact j_zret O hr dX0_isBarred_27 h
theorem hy_X0_canWed : (yX0_canWed.cls = "DowryBoxes" ∧ yX0_canWed.cls ≠ "java/lang/invoke/MethodHandle" ∧ yX0_canWed.cls ≠ "java/lang/invoke/VarHandle" ∧ (parseMethodDescriptor yX0_canWed.desc).map (fun d => d.parameters.length) = some 3) := by decide +kernel
theorem mt_X0_canWed (l : Launch) (G : GW) (this : Nat) (p1 : Option Nat) (p2 : Int) (p3 : Int) (w : Wd) (Q : Int → Wd → Prop) (h : wp_X0_canWed this p1 p2 p3 w Q) : MI l G yX0_canWed cX0_canWed 4 (.boolean) 109 0 0 [.ref (adG G (this)), vR G (p1), vI (p2), vI (p3)] w Q := by
  refine met_I (fun G => [.ref (adG G (this)), vR G (p1), vI (p2), vI (p3)]) (by decide) (fun G => by cases p1 <;> exact Nat.le_of_ble_eq_true rfl) (fun x O hl hm hr => ?_)
  subst hl
  have O : OK x "DowryBoxes" cX0_canWed 109 := O
  have h : wp_X0_canWed this p1 p2 p3 w Q := h
  unfold wp_X0_canWed at h
  rw [show lv_args 0 [.ref (adG (xG x) (this)), vR (xG x) (p1), vI (p2), vI (p3)] = [(0, .ref (adG (xG x) (this))), (1, vR (xG x) (p1)), (2, vI (p2)), (3, vI (p3))] from by cases p1 <;> rfl]
  show J x (TI x Q) w 0 0 0 [(0, .ref (adG (xG x) (this))), (1, vR (xG x) (p1)), (2, vI (p2)), (3, vI (p3))] []
  refine j_aloadq_n O 1 1 dX0_canWed_0 rfl rfl ?_
  refine j_iload_n O 2 2 dX0_canWed_1 rfl rfl ?_
  obtain ⟨k1, e_k1, g_k1⟩ := h
  subst e_k1
  have h := g_k1
  obtain ⟨e4, h⟩ := h
  refine fin_I O ⟨Nat.zero_le _, Nat.zero_le _⟩ (run_V (As := [vI (p2)]) (st := []) O (mt_X2_isWed (xl x) (xG x) _ _ _ _ h) e4 cfX2.1 q1310 q1311 q1312 q123 q1313 hy_X2_isWed (Nat.le_of_ble_eq_true rfl) (Nat.le_of_ble_eq_true rfl) ⟨Nat.zero_le _, Nat.zero_le _⟩ rfl (Nat.le_of_ble_eq_true rfl) dX0_canWed_2) (fun r2 w3 h => ?_)
  obtain ⟨c5, h⟩ := h
  refine j_if_ne O (tgt := 32) dX0_canWed_5 (by decide) c5 h (fun h => ?_) (fun h => ?_)
  · refine j_iconst O dX0_canWed_32 ?_
    exact j_zret O hr dX0_canWed_33 h
  · refine j_aload_n O 0 0 dX0_canWed_8 rfl rfl ?_
    refine j_aloadq_n O 1 1 dX0_canWed_9 rfl rfl ?_
    refine j_iload_n O 3 3 dX0_canWed_10 rfl rfl ?_
    obtain ⟨e8, h⟩ := h
    refine fin_I O ⟨Nat.zero_le _, Nat.zero_le _⟩ (run_V (As := [vR (xG x) ((some k1)), vI (p3)]) (st := []) O (mt_X0_boxOf (xl x) (xG x) _ _ _ _ _ h) e8 cfX0.1 q733 q735 qs12 q121 q736 hy_X0_boxOf (Nat.le_of_ble_eq_true rfl) (Nat.le_of_ble_eq_true rfl) ⟨Nat.zero_le _, Nat.zero_le _⟩ rfl (Nat.le_of_ble_eq_true rfl) dX0_canWed_11) (fun r6 w7 h => ?_)
    refine j_iconst O dX0_canWed_14 ?_
    obtain ⟨c9, h⟩ := h
    refine j_icmp_ne O (tgt := 32) dX0_canWed_15 (by decide) c9 (by decide) h (fun h => ?_) (fun h => ?_)
    · refine j_iconst O dX0_canWed_32 ?_
      exact j_zret O hr dX0_canWed_33 h
    · refine j_aload_n O 0 0 dX0_canWed_18 rfl rfl ?_
      refine j_aloadq_n O 1 1 dX0_canWed_19 rfl rfl ?_
      refine j_iload_n O 2 2 dX0_canWed_20 rfl rfl ?_
      refine j_iload_n O 3 3 dX0_canWed_21 rfl rfl ?_
      obtain ⟨e12, h⟩ := h
      refine fin_I O ⟨Nat.zero_le _, Nat.zero_le _⟩ (run_V (As := [vR (xG x) ((some k1)), vI (p2), vI (p3)]) (st := []) O (mt_X0_isBarred (xl x) (xG x) _ _ _ _ _ _ h) e12 cfX0.1 q745 q747 qs14 q121 q748 hy_X0_isBarred (Nat.le_of_ble_eq_true rfl) (Nat.le_of_ble_eq_true rfl) ⟨Nat.zero_le _, Nat.zero_le _⟩ rfl (Nat.le_of_ble_eq_true rfl) dX0_canWed_22) (fun r10 w11 h => ?_)
      obtain ⟨c13, h⟩ := h
      refine j_if_ne O (tgt := 32) dX0_canWed_25 (by decide) c13 h (fun h => ?_) (fun h => ?_)
      · refine j_iconst O dX0_canWed_32 ?_
        exact j_zret O hr dX0_canWed_33 h
      · refine j_iconst O dX0_canWed_28 ?_
        refine j_goto O (tgt := 33) dX0_canWed_29 (by decide) ?_
        exact j_zret O hr dX0_canWed_33 h
theorem hy_X0_wedsKept : (yX0_wedsKept.cls = "DowryBoxes" ∧ yX0_wedsKept.cls ≠ "java/lang/invoke/MethodHandle" ∧ yX0_wedsKept.cls ≠ "java/lang/invoke/VarHandle" ∧ (parseMethodDescriptor yX0_wedsKept.desc).map (fun d => d.parameters.length) = some 2) := by decide +kernel
theorem mt_X0_wedsKept (l : Launch) (G : GW) (this : Nat) (p1 : Int) (p2 : Int) (w : Wd) (Q : Int → Wd → Prop) (h : wp_X0_wedsKept this p1 p2 w Q) : MI l G yX0_wedsKept cX0_wedsKept 4 (.int) 110 0 0 [.ref (adG G (this)), vI (p1), vI (p2)] w Q := by
  refine met_I (fun G => [.ref (adG G (this)), vI (p1), vI (p2)]) (by decide) (fun G => Nat.le_of_ble_eq_true rfl) (fun x O hl hm hr => ?_)
  subst hl
  have O : OK x "DowryBoxes" cX0_wedsKept 110 := O
  have h : wp_X0_wedsKept this p1 p2 w Q := h
  unfold wp_X0_wedsKept at h
  show J x (TI x Q) w 0 0 0 [(0, .ref (adG (xG x) (this))), (1, vI (p1)), (2, vI (p2))] []
  refine j_aload_n O 0 0 dX0_wedsKept_0 rfl rfl ?_
  refine j_iload_n O 1 1 dX0_wedsKept_1 rfl rfl ?_
  obtain ⟨e3, h⟩ := h
  refine fin_I O ⟨Nat.zero_le _, Nat.zero_le _⟩ (run_V (As := [vI (p1)]) (st := []) O (mt_X0_isBox (xl x) (xG x) _ _ _ _ h) e3 cfX0.1 q582 q584 qs6 q121 q585 hy_X0_isBox (Nat.le_of_ble_eq_true rfl) (Nat.le_of_ble_eq_true rfl) ⟨Nat.zero_le _, Nat.zero_le _⟩ rfl (Nat.le_of_ble_eq_true rfl) dX0_wedsKept_2) (fun r1 w2 h => ?_)
  obtain ⟨c4, h⟩ := h
  refine j_if_eq O (tgt := 16) dX0_wedsKept_5 (by decide) c4 h (fun h => ?_) (fun h => ?_)
  · refine j_bipush (m := (-2)) O dX0_wedsKept_16 bi_m2 ?_
    exact j_iret O hr dX0_wedsKept_18 h
  · refine j_aload_n O 0 0 dX0_wedsKept_8 rfl rfl ?_
    refine j_iload_n O 2 2 dX0_wedsKept_9 rfl rfl ?_
    obtain ⟨e7, h⟩ := h
    refine fin_I O ⟨Nat.zero_le _, Nat.zero_le _⟩ (run_V (As := [vI (p2)]) (st := []) O (mt_X0_isSuitor (xl x) (xG x) _ _ _ _ h) e7 cfX0.1 q729 q731 qs11 q121 q732 hy_X0_isSuitor (Nat.le_of_ble_eq_true rfl) (Nat.le_of_ble_eq_true rfl) ⟨Nat.zero_le _, Nat.zero_le _⟩ rfl (Nat.le_of_ble_eq_true rfl) dX0_wedsKept_10) (fun r5 w6 h => ?_)
    obtain ⟨c8, h⟩ := h
    refine j_if_ne O (tgt := 19) dX0_wedsKept_13 (by decide) c8 h (fun h => ?_) (fun h => ?_)
    · refine j_aload_n O 0 0 dX0_wedsKept_19 rfl rfl ?_
      refine j_aload_n O 0 0 dX0_wedsKept_20 rfl rfl ?_
      refine j_getR O cfX0 2 (Nat.le_of_ble_eq_true rfl) ⟨_, rfl⟩ q360 dX0_wedsKept_21 h (fun o9 h => ?_)
      obtain ⟨k10, e_k10, g_k10⟩ := h
      subst e_k10
      have h := g_k10
      refine j_getIN O cfX1 10 (Nat.le_of_ble_eq_true rfl) (.inl rfl) (lw_n q252 rfl) dX0_wedsKept_24 h (fun v11 h => ?_)
      refine j_aload_n O 0 0 dX0_wedsKept_27 rfl rfl ?_
      obtain ⟨e14, h⟩ := h
      refine fin_R O ⟨Nat.zero_le _, Nat.zero_le _⟩ (run_V (As := []) (st := [vI (v11), .ref (adG (xG x) (this))]) O (mt_X0_table (xl x) (xG x) _ _ _ h) e14 cfX0.1 q574 q576 qs5 q121 q577 hy_X0_table (Nat.le_of_ble_eq_true rfl) (Nat.le_of_ble_eq_true rfl) ⟨Nat.zero_le _, Nat.zero_le _⟩ rfl (Nat.le_of_ble_eq_true rfl) dX0_wedsKept_28) (fun o12 w13 h => ?_)
      refine j_iload_n O 1 1 dX0_wedsKept_31 rfl rfl ?_
      obtain ⟨e17, h⟩ := h
      refine fin_I O ⟨Nat.zero_le _, Nat.zero_le _⟩ (run_V (As := [vI (v11), vR (xG x) (o12), vI (p1)]) (st := []) O (mt_X0_lasts (xl x) (xG x) _ _ _ _ _ _ h) e17 cfX0.1 q608 q610 qs7 q121 q611 hy_X0_lasts (Nat.le_of_ble_eq_true rfl) (Nat.le_of_ble_eq_true rfl) ⟨Nat.zero_le _, Nat.zero_le _⟩ rfl (Nat.le_of_ble_eq_true rfl) dX0_wedsKept_32) (fun r15 w16 h => ?_)
      refine j_istore_n (L' := [(3, vI (r15)), (0, .ref (adG (xG x) (this))), (1, vI (p1)), (2, vI (p2))]) O 3 dX0_wedsKept_35 rfl (by rw [hm]; decide) rfl ?_
      refine j_aload_n O 1 0 dX0_wedsKept_36 rfl rfl ?_
      refine j_aload_n O 1 0 dX0_wedsKept_37 rfl rfl ?_
      obtain ⟨e20, h⟩ := h
      refine fin_R O ⟨Nat.zero_le _, Nat.zero_le _⟩ (run_V (As := []) (st := [.ref (adG (xG x) (this))]) O (mt_X0_table (xl x) (xG x) _ _ _ h) e20 cfX0.1 q574 q576 qs5 q121 q577 hy_X0_table (Nat.le_of_ble_eq_true rfl) (Nat.le_of_ble_eq_true rfl) ⟨Nat.zero_le _, Nat.zero_le _⟩ rfl (Nat.le_of_ble_eq_true rfl) dX0_wedsKept_38) (fun o18 w19 h => ?_)
      refine j_iload_n O 2 1 dX0_wedsKept_41 rfl rfl ?_
      refine j_iload_n O 3 2 dX0_wedsKept_42 rfl rfl ?_
      obtain ⟨e23, h⟩ := h
      refine fin_I O ⟨Nat.zero_le _, Nat.zero_le _⟩ (run_V (As := [vR (xG x) (o18), vI (p1), vI (p2)]) (st := []) O (mt_X0_canWed (xl x) (xG x) _ _ _ _ _ _ h) e23 cfX0.1 q1306 q1308 qs25 q121 q1309 hy_X0_canWed (Nat.le_of_ble_eq_true rfl) (Nat.le_of_ble_eq_true rfl) ⟨Nat.zero_le _, Nat.zero_le _⟩ rfl (Nat.le_of_ble_eq_true rfl) dX0_wedsKept_43) (fun r21 w22 h => ?_)
      obtain ⟨c24, h⟩ := h
      refine j_if_eq O (tgt := 53) dX0_wedsKept_46 (by decide) c24 h (fun h => ?_) (fun h => ?_)
      · refine j_bipush (m := (-3)) O dX0_wedsKept_53 bi_m3 ?_
        exact j_iret O hr dX0_wedsKept_55 h
      · refine j_iload_n O 0 3 dX0_wedsKept_49 rfl rfl ?_
        obtain ⟨c25, h⟩ := h
        refine j_if_ne O (tgt := 56) dX0_wedsKept_50 (by decide) c25 h (fun h => ?_) (fun h => ?_)
        · refine j_aload_n O 1 0 dX0_wedsKept_56 rfl rfl ?_
          refine j_iconst O dX0_wedsKept_57 ?_
          obtain ⟨e27, h⟩ := h
          refine fin_V O ⟨Nat.zero_le _, Nat.zero_le _⟩ (run_V (As := [vI (2)]) (st := []) O (mt_X0_keeps (xl x) (xG x) _ _ _ _ h) e27 cfX0.1 q1281 q1283 qs21 q121 q1284 hy_X0_keeps (Nat.le_of_ble_eq_true rfl) (Nat.le_of_ble_eq_true rfl) ⟨Nat.zero_le _, Nat.zero_le _⟩ rfl (Nat.le_of_ble_eq_true rfl) dX0_wedsKept_58) (fun w26 h => ?_)
          refine j_aload_n O 1 0 dX0_wedsKept_61 rfl rfl ?_
          obtain ⟨e30, h⟩ := h
          refine fin_R O ⟨Nat.zero_le _, Nat.zero_le _⟩ (run_V (As := []) (st := []) O (mt_X0_table (xl x) (xG x) _ _ _ h) e30 cfX0.1 q574 q576 qs5 q121 q577 hy_X0_table (Nat.le_of_ble_eq_true rfl) (Nat.le_of_ble_eq_true rfl) ⟨Nat.zero_le _, Nat.zero_le _⟩ rfl (Nat.le_of_ble_eq_true rfl) dX0_wedsKept_62) (fun o28 w29 h => ?_)
          obtain ⟨k31, e_k31, g_k31⟩ := h
          subst e_k31
          have h := g_k31
          refine j_getAN O cfX2 3 (Nat.le_of_ble_eq_true rfl) ⟨_, rfl⟩ (lw_n q184 rfl) dX0_wedsKept_65 h (fun k32 h => ?_)
          refine j_iload_n O 2 1 dX0_wedsKept_68 rfl rfl ?_
          refine j_iload_n O 3 2 dX0_wedsKept_69 rfl rfl ?_
          refine j_iast O dX0_wedsKept_70 h (fun w33 h => ?_)
          refine j_aload_n O 1 0 dX0_wedsKept_71 rfl rfl ?_
          obtain ⟨e36, h⟩ := h
          refine fin_R O ⟨Nat.zero_le _, Nat.zero_le _⟩ (run_V (As := []) (st := []) O (mt_X0_table (xl x) (xG x) _ _ _ h) e36 cfX0.1 q574 q576 qs5 q121 q577 hy_X0_table (Nat.le_of_ble_eq_true rfl) (Nat.le_of_ble_eq_true rfl) ⟨Nat.zero_le _, Nat.zero_le _⟩ rfl (Nat.le_of_ble_eq_true rfl) dX0_wedsKept_72) (fun o34 w35 h => ?_)
          obtain ⟨k37, e_k37, g_k37⟩ := h
          subst e_k37
          have h := g_k37
          refine j_getAN O cfX2 4 (Nat.le_of_ble_eq_true rfl) ⟨_, rfl⟩ (lw_n q186 rfl) dX0_wedsKept_75 h (fun k38 h => ?_)
          refine j_iload_n O 2 1 dX0_wedsKept_78 rfl rfl ?_
          refine j_iload_n O 0 3 dX0_wedsKept_79 rfl rfl ?_
          refine j_iast O dX0_wedsKept_80 h (fun w39 h => ?_)
          refine j_iload_n O 0 3 dX0_wedsKept_81 rfl rfl ?_
          exact j_iret O hr dX0_wedsKept_82 h
        · refine j_bipush (m := (-3)) O dX0_wedsKept_53 bi_m3 ?_
          exact j_iret O hr dX0_wedsKept_55 h
    · refine j_bipush (m := (-2)) O dX0_wedsKept_16 bi_m2 ?_
      exact j_iret O hr dX0_wedsKept_18 h
theorem hy_X0_runs : (yX0_runs.cls = "DowryBoxes" ∧ yX0_runs.cls ≠ "java/lang/invoke/MethodHandle" ∧ yX0_runs.cls ≠ "java/lang/invoke/VarHandle" ∧ (parseMethodDescriptor yX0_runs.desc).map (fun d => d.parameters.length) = some 1) := by decide +kernel
theorem mt_X0_runs (l : Launch) (G : GW) (this : Nat) (p1 : Option Nat) (w : Wd) (Q : Int → Wd → Prop) (h : wp_X0_runs this p1 w Q) : MI l G yX0_runs cX0_runs 4 (.int) 111 0 0 [.ref (adG G (this)), vR G (p1)] w Q := by
  refine met_I (fun G => [.ref (adG G (this)), vR G (p1)]) (by decide) (fun G => by cases p1 <;> exact Nat.le_of_ble_eq_true rfl) (fun x O hl hm hr => ?_)
  subst hl
  have O : OK x "DowryBoxes" cX0_runs 111 := O
  have h : wp_X0_runs this p1 w Q := h
  unfold wp_X0_runs at h
  rw [show lv_args 0 [.ref (adG (xG x) (this)), vR (xG x) (p1)] = [(0, .ref (adG (xG x) (this))), (1, vR (xG x) (p1))] from by cases p1 <;> rfl]
  show J x (TI x Q) w 0 0 0 [(0, .ref (adG (xG x) (this))), (1, vR (xG x) (p1))] []
  refine j_aloadq_n O 1 1 dX0_runs_0 rfl rfl ?_
  obtain ⟨k1, e_k1, g_k1⟩ := h
  subst e_k1
  have h := g_k1
  refine j_getIN O cfX18 0 (Nat.le_of_ble_eq_true rfl) (.inl rfl) (lw_n q1200 rfl) dX0_runs_1 h (fun v2 h => ?_)
  refine j_iconst O dX0_runs_4 ?_
  obtain ⟨c3, h⟩ := h
  refine j_icmp_ne O (tgt := 13) dX0_runs_5 (by decide) c3 (by decide) h (fun h => ?_) (fun h => ?_)
  · refine j_aloadq_n O 1 1 dX0_runs_13 rfl rfl ?_
    refine j_getRN O cfX18 1 (Nat.le_of_ble_eq_true rfl) ⟨_, rfl⟩ (lw_n q1202 rfl) dX0_runs_14 h (fun o4 h => ?_)
    refine j_aload_n O 0 0 dX0_runs_17 rfl rfl ?_
    refine j_getR O cfX0 16 (Nat.le_of_ble_eq_true rfl) ⟨_, rfl⟩ q374 dX0_runs_18 h (fun o5 h => ?_)
    refine fin_I O ⟨Nat.zero_le _, Nat.zero_le _⟩ (run_SW (As := [vR (xG x) (o4), vR (xG x) (o5)]) (st := []) O (mt_X18_told (xl x) (xG x) _ _ _ _ h) q1506 q1507 q154 q1508 hy_X18_told.2 (Nat.le_of_ble_eq_true rfl) (Nat.le_of_ble_eq_true rfl) ⟨Nat.zero_le _, Nat.zero_le _⟩ rfl (Nat.le_of_ble_eq_true rfl) dX0_runs_21) (fun r6 w7 h => ?_)
    refine j_istore_n (L' := [(2, vI (r6)), (0, .ref (adG (xG x) (this))), (1, vR (xG x) (some k1))]) O 2 dX0_runs_24 rfl (by rw [hm]; decide) rfl ?_
    refine j_aloadq_n O 2 1 dX0_runs_25 rfl rfl ?_
    refine j_getRN O cfX18 2 (Nat.le_of_ble_eq_true rfl) ⟨_, rfl⟩ (lw_n q1204 rfl) dX0_runs_26 h (fun o8 h => ?_)
    refine j_aload_n O 1 0 dX0_runs_29 rfl rfl ?_
    refine j_getR O cfX0 16 (Nat.le_of_ble_eq_true rfl) ⟨_, rfl⟩ q374 dX0_runs_30 h (fun o9 h => ?_)
    refine fin_I O ⟨Nat.zero_le _, Nat.zero_le _⟩ (run_SW (As := [vR (xG x) (o8), vR (xG x) (o9)]) (st := []) O (mt_X18_told (xl x) (xG x) _ _ _ _ h) q1506 q1507 q154 q1508 hy_X18_told.2 (Nat.le_of_ble_eq_true rfl) (Nat.le_of_ble_eq_true rfl) ⟨Nat.zero_le _, Nat.zero_le _⟩ rfl (Nat.le_of_ble_eq_true rfl) dX0_runs_33) (fun r10 w11 h => ?_)
    refine j_istore_n (L' := [(3, vI (r10)), (2, vI (r6)), (0, .ref (adG (xG x) (this))), (1, vR (xG x) (some k1))]) O 3 dX0_runs_36 rfl (by rw [hm]; decide) rfl ?_
    refine j_aloadq_n O 3 1 dX0_runs_37 rfl rfl ?_
    refine j_getIN O cfX18 0 (Nat.le_of_ble_eq_true rfl) (.inl rfl) (lw_n q1200 rfl) dX0_runs_38 h (fun v12 h => ?_)
    obtain ⟨c13, h⟩ := h
    refine j_if_ne O (tgt := 62) dX0_runs_41 (by decide) c13 h (fun h => ?_) (fun h => ?_)
    · refine j_aloadq_n O 3 1 dX0_runs_62 rfl rfl ?_
      refine j_getIN O cfX18 0 (Nat.le_of_ble_eq_true rfl) (.inl rfl) (lw_n q1200 rfl) dX0_runs_63 h (fun v14 h => ?_)
      refine j_iconst O dX0_runs_66 ?_
      obtain ⟨c15, h⟩ := h
      refine j_icmp_ne O (tgt := 79) dX0_runs_67 (by decide) c15 (by decide) h (fun h => ?_) (fun h => ?_)
      · refine j_aload_n O 2 0 dX0_runs_79 rfl rfl ?_
        refine j_iload_n O 1 2 dX0_runs_80 rfl rfl ?_
        refine j_iload_n O 0 3 dX0_runs_81 rfl rfl ?_
        obtain ⟨e18, h⟩ := h
        refine fin_I O ⟨Nat.zero_le _, Nat.zero_le _⟩ (run_V (As := [vI (r6), vI (r10)]) (st := []) O (mt_X0_wedsKept (xl x) (xG x) _ _ _ _ _ h) e18 cfX0.1 q1302 q1304 qs24 q121 q1305 hy_X0_wedsKept (Nat.le_of_ble_eq_true rfl) (Nat.le_of_ble_eq_true rfl) ⟨Nat.zero_le _, Nat.zero_le _⟩ rfl (Nat.le_of_ble_eq_true rfl) dX0_runs_82) (fun r16 w17 h => ?_)
        exact j_iret O hr dX0_runs_85 h
      · refine j_aload_n O 2 0 dX0_runs_70 rfl rfl ?_
        refine j_iload_n O 1 2 dX0_runs_71 rfl rfl ?_
        refine j_iload_n O 0 3 dX0_runs_72 rfl rfl ?_
        obtain ⟨e21, h⟩ := h
        refine fin_I O ⟨Nat.zero_le _, Nat.zero_le _⟩ (run_V (As := [vI (r6), vI (r10)]) (st := []) O (mt_X0_snapsKept (xl x) (xG x) _ _ _ _ _ h) e21 cfX0.1 q1294 q1296 qs23 q121 q1297 hy_X0_snapsKept (Nat.le_of_ble_eq_true rfl) (Nat.le_of_ble_eq_true rfl) ⟨Nat.zero_le _, Nat.zero_le _⟩ rfl (Nat.le_of_ble_eq_true rfl) dX0_runs_73) (fun r19 w20 h => ?_)
        refine j_goto O (tgt := 85) dX0_runs_76 (by decide) ?_
        exact j_iret O hr dX0_runs_85 h
    · refine j_aload_n O 2 0 dX0_runs_44 rfl rfl ?_
      refine j_iload_n O 1 2 dX0_runs_45 rfl rfl ?_
      refine j_iload_n O 0 3 dX0_runs_46 rfl rfl ?_
      refine j_aloadq_n O 3 1 dX0_runs_47 rfl rfl ?_
      refine j_getRN O cfX18 3 (Nat.le_of_ble_eq_true rfl) ⟨_, rfl⟩ (lw_n q1206 rfl) dX0_runs_48 h (fun o22 h => ?_)
      refine j_aload_n O 2 0 dX0_runs_51 rfl rfl ?_
      refine j_getR O cfX0 16 (Nat.le_of_ble_eq_true rfl) ⟨_, rfl⟩ q374 dX0_runs_52 h (fun o23 h => ?_)
      refine fin_I O ⟨Nat.zero_le _, Nat.zero_le _⟩ (run_SW (As := [vR (xG x) (o22), vR (xG x) (o23)]) (st := [vI (r10), vI (r6), .ref (adG (xG x) (this))]) O (mt_X18_told (xl x) (xG x) _ _ _ _ h) q1506 q1507 q154 q1508 hy_X18_told.2 (Nat.le_of_ble_eq_true rfl) (Nat.le_of_ble_eq_true rfl) ⟨Nat.zero_le _, Nat.zero_le _⟩ rfl (Nat.le_of_ble_eq_true rfl) dX0_runs_55) (fun r24 w25 h => ?_)
      obtain ⟨e28, h⟩ := h
      refine fin_I O ⟨Nat.zero_le _, Nat.zero_le _⟩ (run_V (As := [vI (r6), vI (r10), vI (r24)]) (st := []) O (mt_X0_pullsKept (xl x) (xG x) _ _ _ _ _ _ h) e28 cfX0.1 q1277 q1279 qs20 q121 q1280 hy_X0_pullsKept (Nat.le_of_ble_eq_true rfl) (Nat.le_of_ble_eq_true rfl) ⟨Nat.zero_le _, Nat.zero_le _⟩ rfl (Nat.le_of_ble_eq_true rfl) dX0_runs_58) (fun r26 w27 h => ?_)
      exact j_iret O hr dX0_runs_61 h
  · refine j_aload_n O 0 0 dX0_runs_8 rfl rfl ?_
    obtain ⟨e31, h⟩ := h
    refine fin_I O ⟨Nat.zero_le _, Nat.zero_le _⟩ (run_V (As := []) (st := []) O (mt_X0_passesKept (xl x) (xG x) _ _ _ h) e31 cfX0.1 q1318 q1320 qs26 q121 q1321 hy_X0_passesKept (Nat.le_of_ble_eq_true rfl) (Nat.le_of_ble_eq_true rfl) ⟨Nat.zero_le _, Nat.zero_le _⟩ rfl (Nat.le_of_ble_eq_true rfl) dX0_runs_9) (fun r29 w30 h => ?_)
    exact j_iret O hr dX0_runs_12 h
theorem hy_X0_tellsOrder : (yX0_tellsOrder.cls = "DowryBoxes" ∧ yX0_tellsOrder.cls ≠ "java/lang/invoke/MethodHandle" ∧ yX0_tellsOrder.cls ≠ "java/lang/invoke/VarHandle" ∧ (parseMethodDescriptor yX0_tellsOrder.desc).map (fun d => d.parameters.length) = some 2) := by decide +kernel
theorem wk_X0_tellsOrder_114 {x : Cx} (O : OK x "DowryBoxes" cX0_tellsOrder 4) (hr : (xM x).sig.returnType = none) (hm : xn x = 6) {Q : Wd → Prop} (K48 : Int → Wd → Prop) (this : Nat) (x3 : Option Nat) (x4 : Nat) (x5 : Int) (s0 : Int) (s1 : Int) (s2 : Nat) (hK48 : ∀ (y5 : Int) (w : Wd), K48 y5 w → J x (TV x Q) w 0 0 48 [(0, .ref (adG (xG x) (this))), (3, vR (xG x) (x3)), (4, .ref (adG (xG x) (x4))), (5, vI (y5))] []) (w : Wd) (h : wp_X0_tellsOrder_114 Q K48 this x3 x4 x5 s0 s1 s2 w) : J x (TV x Q) w 0 0 114 [(0, .ref (adG (xG x) (this))), (3, vR (xG x) (x3)), (4, .ref (adG (xG x) (x4))), (5, vI (x5))] [vL (s0), vI (s1), .ref (adG (xG x) (s2))] := by
  unfold wp_X0_tellsOrder_114 at h
  refine j_last O dX0_tellsOrder_114 h (fun w1 h => ?_)
  refine j_iinc (L' := [(5, vI (x5 + 1)), (0, .ref (adG (xG x) (this))), (3, vR (xG x) (x3)), (4, .ref (adG (xG x) (x4)))]) O 3 dX0_tellsOrder_115 rfl (by rw [hm]; decide) rfl ?_
  refine j_goto O (tgt := 48) dX0_tellsOrder_118 (by decide) ?_
  exact (J.sub [1, 2, 3, 0] rfl <| hK48 _ _ h)
theorem wk_X0_tellsOrder_84 {x : Cx} (O : OK x "DowryBoxes" cX0_tellsOrder 4) (hr : (xM x).sig.returnType = none) (hm : xn x = 6) {Q : Wd → Prop} (K48 : Int → Wd → Prop) (this : Nat) (x3 : Option Nat) (x4 : Nat) (x5 : Int) (s0 : Int) (s1 : Int) (s2 : Nat) (hK48 : ∀ (y5 : Int) (w : Wd), K48 y5 w → J x (TV x Q) w 0 0 48 [(0, .ref (adG (xG x) (this))), (3, vR (xG x) (x3)), (4, .ref (adG (xG x) (x4))), (5, vI (y5))] []) (w : Wd) (h : wp_X0_tellsOrder_84 Q K48 this x3 x4 x5 s0 s1 s2 w) : J x (TV x Q) w 0 0 84 [(0, .ref (adG (xG x) (this))), (3, vR (xG x) (x3)), (4, .ref (adG (xG x) (x4))), (5, vI (x5))] [vL (s0), vI (s1), .ref (adG (xG x) (s2))] := by
  unfold wp_X0_tellsOrder_84 at h
  refine j_last O dX0_tellsOrder_84 h (fun w1 h => ?_)
  refine j_aload O 2 dX0_tellsOrder_85 rfl ?_
  refine j_bipush (m := 10) O dX0_tellsOrder_87 bi_10 ?_
  refine j_iload O 3 dX0_tellsOrder_89 rfl ?_
  refine j_iadd O dX0_tellsOrder_91 ?_
  refine j_aload_n O 0 0 dX0_tellsOrder_92 rfl rfl ?_
  refine j_iload O 3 dX0_tellsOrder_93 rfl ?_
  obtain ⟨e4, h⟩ := h
  refine fin_I O ⟨Nat.zero_le _, Nat.zero_le _⟩ (run_V (As := [vI (x5)]) (st := [vI (10 + x5), .ref (adG (xG x) (x4))]) O (mt_X0_isBox (xl x) (xG x) _ _ _ _ h) e4 cfX0.1 q582 q584 qs6 q121 q585 hy_X0_isBox (Nat.le_of_ble_eq_true rfl) (Nat.le_of_ble_eq_true rfl) ⟨Nat.zero_le _, Nat.zero_le _⟩ rfl (Nat.le_of_ble_eq_true rfl) dX0_tellsOrder_95) (fun r2 w3 h => ?_)
  obtain ⟨c5, h⟩ := h
  refine j_if_eq O (tgt := 111) dX0_tellsOrder_98 (by decide) c5 h (fun h => ?_) (fun h => ?_)
  · refine j_ldc2 (m := (-1)) O dX0_tellsOrder_111 q618 l2_m1 ?_
    exact (J.sub [0, 1, 2, 3] rfl <| wk_X0_tellsOrder_114 O hr hm _ _ _ _ _ _ _ _ hK48 _ h)
  · refine j_aloadq_n O 1 3 dX0_tellsOrder_101 rfl rfl ?_
    refine j_iload O 3 dX0_tellsOrder_102 rfl ?_
    obtain ⟨k6, e_k6, g_k6⟩ := h
    subst e_k6
    have h := g_k6
    obtain ⟨e9, h⟩ := h
    refine fin_I O ⟨Nat.zero_le _, Nat.zero_le _⟩ (run_V (As := [vI (x5)]) (st := [vI (10 + x5), .ref (adG (xG x) (x4))]) O (mt_X2_notes (xl x) (xG x) _ _ _ _ h) e9 cfX2.1 q590 q591 q592 q123 q593 hy_X2_notes (Nat.le_of_ble_eq_true rfl) (Nat.le_of_ble_eq_true rfl) ⟨Nat.zero_le _, Nat.zero_le _⟩ rfl (Nat.le_of_ble_eq_true rfl) dX0_tellsOrder_104) (fun r7 w8 h => ?_)
    refine j_i2l O dX0_tellsOrder_107 h (fun h => ?_)
    refine j_goto O (tgt := 114) dX0_tellsOrder_108 (by decide) ?_
    exact (J.sub [0, 1, 2, 3] rfl <| wk_X0_tellsOrder_114 O hr hm _ _ _ _ _ _ _ _ hK48 _ h)
theorem wk_X0_tellsOrder_48 {x : Cx} (O : OK x "DowryBoxes" cX0_tellsOrder 4) (hr : (xM x).sig.returnType = none) (hm : xn x = 6) {Q : Wd → Prop} (this : Nat) (x3 : Option Nat) (x4 : Nat) : ∀ (n : Nat) (x5 : Int) (w : Wd), wp_X0_tellsOrder_48 Q this x3 x4 n x5 w → J x (TV x Q) w 0 0 48 [(0, .ref (adG (xG x) (this))), (3, vR (xG x) (x3)), (4, .ref (adG (xG x) (x4))), (5, vI (x5))] [] := by
  intro n
  induction n with
  | zero => intro x5 w h; exact False.elim h
  | succ n ih =>
    intro x5 w h
    rw [wp_X0_tellsOrder_48] at h
    refine j_iload O 3 dX0_tellsOrder_48 rfl ?_
    refine j_bipush (m := 6) O dX0_tellsOrder_50 bi_6 ?_
    obtain ⟨c1, h⟩ := h
    refine j_icmp_ge O (tgt := 121) dX0_tellsOrder_52 (by decide) c1 (by decide) h (fun h => ?_) (fun h => ?_)
    · exact j_vret O hr dX0_tellsOrder_121 h
    · refine j_aload O 2 dX0_tellsOrder_55 rfl ?_
      refine j_iconst O dX0_tellsOrder_57 ?_
      refine j_iload O 3 dX0_tellsOrder_58 rfl ?_
      refine j_iadd O dX0_tellsOrder_60 ?_
      refine j_aload_n O 0 0 dX0_tellsOrder_61 rfl rfl ?_
      refine j_iload O 3 dX0_tellsOrder_62 rfl ?_
      obtain ⟨e4, h⟩ := h
      refine fin_I O ⟨Nat.zero_le _, Nat.zero_le _⟩ (run_V (As := [vI (x5)]) (st := [vI (4 + x5), .ref (adG (xG x) (x4))]) O (mt_X0_isBox (xl x) (xG x) _ _ _ _ h) e4 cfX0.1 q582 q584 qs6 q121 q585 hy_X0_isBox (Nat.le_of_ble_eq_true rfl) (Nat.le_of_ble_eq_true rfl) ⟨Nat.zero_le _, Nat.zero_le _⟩ rfl (Nat.le_of_ble_eq_true rfl) dX0_tellsOrder_64) (fun r2 w3 h => ?_)
      obtain ⟨c5, h⟩ := h
      refine j_if_eq O (tgt := 81) dX0_tellsOrder_67 (by decide) c5 h (fun h => ?_) (fun h => ?_)
      · refine j_ldc2 (m := (-1)) O dX0_tellsOrder_81 q618 l2_m1 ?_
        exact (J.sub [0, 1, 2, 3] rfl <| wk_X0_tellsOrder_84 O hr hm _ _ _ _ _ _ _ _ ih _ h)
      · refine j_aloadq_n O 1 3 dX0_tellsOrder_70 rfl rfl ?_
        obtain ⟨k6, e_k6, g_k6⟩ := h
        subst e_k6
        have h := g_k6
        refine j_getAN O cfX2 4 (Nat.le_of_ble_eq_true rfl) ⟨_, rfl⟩ (lw_n q186 rfl) dX0_tellsOrder_71 h (fun k7 h => ?_)
        refine j_iload O 3 dX0_tellsOrder_74 rfl ?_
        refine j_iald O dX0_tellsOrder_76 h (fun v8 h => ?_)
        refine j_i2l O dX0_tellsOrder_77 h (fun h => ?_)
        refine j_goto O (tgt := 84) dX0_tellsOrder_78 (by decide) ?_
        exact (J.sub [0, 1, 2, 3] rfl <| wk_X0_tellsOrder_84 O hr hm _ _ _ _ _ _ _ _ ih _ h)
theorem mt_X0_tellsOrder (l : Launch) (G : GW) (this : Nat) (p1 : Int) (p2 : Int) (w : Wd) (Q : Wd → Prop) (h : wp_X0_tellsOrder this p1 p2 w Q) : MV l G yX0_tellsOrder cX0_tellsOrder 6 4 0 0 [.ref (adG G (this)), vI (p1), vI (p2)] w Q := by
  refine met_V (fun G => [.ref (adG G (this)), vI (p1), vI (p2)]) (by decide) (fun G => Nat.le_of_ble_eq_true rfl) (fun x O hl hm hr _ => ?_)
  subst hl
  have O : OK x "DowryBoxes" cX0_tellsOrder 4 := O
  have h : wp_X0_tellsOrder this p1 p2 w Q := h
  unfold wp_X0_tellsOrder at h
  show J x (TV x Q) w 0 0 0 [(0, .ref (adG (xG x) (this))), (1, vI (p1)), (2, vI (p2))] []
  refine j_aload_n O 0 0 dX0_tellsOrder_0 rfl rfl ?_
  obtain ⟨e3, h⟩ := h
  refine fin_R O ⟨Nat.zero_le _, Nat.zero_le _⟩ (run_V (As := []) (st := []) O (mt_X0_table (xl x) (xG x) _ _ _ h) e3 cfX0.1 q574 q576 qs5 q121 q577 hy_X0_table (Nat.le_of_ble_eq_true rfl) (Nat.le_of_ble_eq_true rfl) ⟨Nat.zero_le _, Nat.zero_le _⟩ rfl (Nat.le_of_ble_eq_true rfl) dX0_tellsOrder_1) (fun o1 w2 h => ?_)
  refine j_astoreq_n (L' := [(3, vR (xG x) (o1)), (0, .ref (adG (xG x) (this))), (1, vI (p1)), (2, vI (p2))]) O 3 dX0_tellsOrder_4 rfl (by rw [hm]; decide) rfl ?_
  refine j_aload_n O 1 0 dX0_tellsOrder_5 rfl rfl ?_
  refine j_getR O cfX0 16 (Nat.le_of_ble_eq_true rfl) ⟨_, rfl⟩ q374 dX0_tellsOrder_6 h (fun o4 h => ?_)
  obtain ⟨k5, e_k5, g_k5⟩ := h
  subst e_k5
  have h := g_k5
  refine j_getAN O cfX3 1 (Nat.le_of_ble_eq_true rfl) ⟨_, rfl⟩ (lw_n q351 rfl) dX0_tellsOrder_9 h (fun k6 h => ?_)
  refine j_astore (L' := [(4, .ref (adG (xG x) (k6))), (3, vR (xG x) (o1)), (0, .ref (adG (xG x) (this))), (1, vI (p1)), (2, vI (p2))]) O dX0_tellsOrder_12 (by rw [hm]; decide) (by cases o1 <;> rfl) ?_
  refine j_aload O 0 dX0_tellsOrder_14 rfl ?_
  refine j_iconst O dX0_tellsOrder_16 ?_
  refine j_aloadq_n O 1 3 dX0_tellsOrder_17 rfl rfl ?_
  obtain ⟨k7, e_k7, g_k7⟩ := h
  subst e_k7
  have h := g_k7
  refine j_getIN O cfX2 5 (Nat.le_of_ble_eq_true rfl) (.inl rfl) (lw_n q188 rfl) dX0_tellsOrder_18 h (fun v8 h => ?_)
  refine j_i2l O dX0_tellsOrder_21 h (fun h => ?_)
  refine j_last O dX0_tellsOrder_22 h (fun w9 h => ?_)
  refine j_aload O 0 dX0_tellsOrder_23 rfl ?_
  refine j_iconst O dX0_tellsOrder_25 ?_
  refine j_iload_n O 3 1 dX0_tellsOrder_26 rfl rfl ?_
  refine j_i2l O dX0_tellsOrder_27 h (fun h => ?_)
  refine j_last O dX0_tellsOrder_28 h (fun w10 h => ?_)
  refine j_aload O 0 dX0_tellsOrder_29 rfl ?_
  refine j_iconst O dX0_tellsOrder_31 ?_
  refine j_iload_n O 4 2 dX0_tellsOrder_32 rfl rfl ?_
  refine j_i2l O dX0_tellsOrder_33 h (fun h => ?_)
  refine j_last O dX0_tellsOrder_34 h (fun w11 h => ?_)
  refine j_aload O 0 dX0_tellsOrder_35 rfl ?_
  refine j_iconst O dX0_tellsOrder_37 ?_
  refine j_aload_n O 2 0 dX0_tellsOrder_38 rfl rfl ?_
  refine j_aloadq_n O 1 3 dX0_tellsOrder_39 rfl rfl ?_
  obtain ⟨e14, h⟩ := h
  refine fin_I O ⟨Nat.zero_le _, Nat.zero_le _⟩ (run_V (As := [vR (xG x) ((some k7))]) (st := [vI (3), .ref (adG (xG x) (k6))]) O (mt_X0_couples (xl x) (xG x) _ _ _ _ h) e14 cfX0.1 q1492 q1494 qs44 q121 q1495 hy_X0_couples (Nat.le_of_ble_eq_true rfl) (Nat.le_of_ble_eq_true rfl) ⟨Nat.zero_le _, Nat.zero_le _⟩ rfl (Nat.le_of_ble_eq_true rfl) dX0_tellsOrder_40) (fun r12 w13 h => ?_)
  refine j_i2l O dX0_tellsOrder_43 h (fun h => ?_)
  refine j_last O dX0_tellsOrder_44 h (fun w15 h => ?_)
  refine j_iconst O dX0_tellsOrder_45 ?_
  refine j_istore (L' := [(5, vI (0)), (4, .ref (adG (xG x) (k6))), (3, vR (xG x) (some k7)), (0, .ref (adG (xG x) (this))), (1, vI (p1)), (2, vI (p2))]) O dX0_tellsOrder_46 (by rw [hm]; decide) rfl ?_
  exact (J.sub [3, 2, 1, 0] rfl <| wk_X0_tellsOrder_48 O hr hm  _ _ _  FU _ _ h)
theorem hy_X6_init : (yX6_init.cls = "DowryBoxes$Reader" ∧ yX6_init.cls ≠ "java/lang/invoke/MethodHandle" ∧ yX6_init.cls ≠ "java/lang/invoke/VarHandle" ∧ (parseMethodDescriptor yX6_init.desc).map (fun d => d.parameters.length) = some 2) := by decide +kernel
theorem mt_X6_init (l : Launch) (G : GW) (this : Nat) (p1 : Option Nat) (p2 : Int) (w : Wd) (Q : Wd → Prop) (h : wp_X6_init this p1 p2 w Q) : MV l G yX6_init cX6_init 3 1 0 0 [.ref (adG G (this)), vR G (p1), vI (p2)] w Q := by
  refine met_V (fun G => [.ref (adG G (this)), vR G (p1), vI (p2)]) (by decide) (fun G => by cases p1 <;> exact Nat.le_of_ble_eq_true rfl) (fun x O hl hm hr hn => ?_)
  subst hl
  have O : OK x "DowryBoxes$Reader" cX6_init 1 := O
  have h : wp_X6_init this p1 p2 w Q := h
  unfold wp_X6_init at h
  rw [show lv_args 0 [.ref (adG (xG x) (this)), vR (xG x) (p1), vI (p2)] = [(0, .ref (adG (xG x) (this))), (1, vR (xG x) (p1)), (2, vI (p2))] from by cases p1 <;> rfl]
  show J x (TV x Q) w 0 0 0 [(0, .ref (adG (xG x) (this))), (1, vR (xG x) (p1)), (2, vI (p2))] []
  refine j_aload_n O 0 0 dX6_init_0 rfl rfl ?_
  refine j_objInit O q786 q163 q164 (Nat.le_of_ble_eq_true rfl) (Nat.le_of_ble_eq_true rfl) dX6_init_1 ?_
  refine j_aload_n O 0 0 dX6_init_4 rfl rfl ?_
  refine j_aloadq_n O 1 1 dX6_init_5 rfl rfl ?_
  refine j_putFR2 (v := p1) O cfX7 cfX20 0 ⟨Nat.le_of_ble_eq_true rfl, Nat.le_of_ble_eq_true rfl⟩ ⟨(.inr ⟨_, rfl⟩), (.inr ⟨_, rfl⟩)⟩ q791 q791 ⟨rfl, rfl⟩ hn ⟨rfl, rfl⟩ dX6_init_6 h (fun w1 h => ?_)
  refine j_aload_n O 0 0 dX6_init_9 rfl rfl ?_
  refine j_iload_n O 2 2 dX6_init_10 rfl rfl ?_
  refine j_putFI2 (v := p2) O cfX7 cfX20 1 ⟨Nat.le_of_ble_eq_true rfl, Nat.le_of_ble_eq_true rfl⟩ ⟨rfl, rfl⟩ q792 q792 ⟨rfl, rfl⟩ hn ⟨rfl, rfl⟩ dX6_init_11 h (fun w2 h => ?_)
  exact j_vret O hr dX6_init_14 h
theorem hy_J0_init : (yJ0_init.cls = "java/util/AbstractCollection" ∧ yJ0_init.cls ≠ "java/lang/invoke/MethodHandle" ∧ yJ0_init.cls ≠ "java/lang/invoke/VarHandle" ∧ (parseMethodDescriptor yJ0_init.desc).map (fun d => d.parameters.length) = some 0) := by decide +kernel
theorem mt_J0_init (l : Launch) (G : GW) (this : Nat) (w : Wd) (Q : Wd → Prop) (h : wp_J0_init this w Q) : MV l G yJ0_init cJ0_init 1 1 0 0 [.ref (adG G (this))] w Q := by
  refine met_V (fun G => [.ref (adG G (this))]) (by decide) (fun G => Nat.le_of_ble_eq_true rfl) (fun x O hl hm hr hn => ?_)
  subst hl
  have O : OK x "java/util/AbstractCollection" cJ0_init 1 := O
  have h : wp_J0_init this w Q := h
  unfold wp_J0_init at h
  show J x (TV x Q) w 0 0 0 [(0, .ref (adG (xG x) (this)))] []
  refine j_aload_n O 0 0 dJ0_init_0 rfl rfl ?_
  refine j_objInit O q214 q163 q164 (Nat.le_of_ble_eq_true rfl) (Nat.le_of_ble_eq_true rfl) dJ0_init_1 ?_
  exact j_vret O hr dJ0_init_4 h
theorem hy_J1_init : (yJ1_init.cls = "java/util/AbstractList" ∧ yJ1_init.cls ≠ "java/lang/invoke/MethodHandle" ∧ yJ1_init.cls ≠ "java/lang/invoke/VarHandle" ∧ (parseMethodDescriptor yJ1_init.desc).map (fun d => d.parameters.length) = some 0) := by decide +kernel
theorem mt_J1_init (l : Launch) (G : GW) (this : Nat) (w : Wd) (Q : Wd → Prop) (h : wp_J1_init this w Q) : MV l G yJ1_init cJ1_init 1 2 0 0 [.ref (adG G (this))] w Q := by
  refine met_V (fun G => [.ref (adG G (this))]) (by decide) (fun G => Nat.le_of_ble_eq_true rfl) (fun x O hl hm hr hn => ?_)
  subst hl
  have O : OK x "java/util/AbstractList" cJ1_init 2 := O
  have h : wp_J1_init this w Q := h
  unfold wp_J1_init at h
  show J x (TV x Q) w 0 0 0 [(0, .ref (adG (xG x) (this)))] []
  refine j_aload_n O 0 0 dJ1_init_0 rfl rfl ?_
  refine fin_V O ⟨Nat.zero_le _, Nat.zero_le _⟩ (run_I (As := []) (st := []) O (mt_J0_init (xl x) (xG x) _ _ _ h) q211 q212 q124 q213 rfl hy_J0_init.2 (Nat.le_of_ble_eq_true rfl) (Nat.le_of_ble_eq_true rfl) ⟨Nat.zero_le _, Nat.zero_le _⟩ rfl (Nat.le_of_ble_eq_true rfl) dJ1_init_1) (fun w1 h => ?_)
  refine j_aload_n O 0 0 dJ1_init_4 rfl rfl ?_
  refine j_iconst O dJ1_init_5 ?_
  refine j_putI O cfJ2 0 (Nat.le_of_ble_eq_true rfl) rfl q221 rfl dJ1_init_6 h (fun w2 h => ?_)
  exact j_vret O hr dJ1_init_9 h
theorem hy_J2_init : (yJ2_init.cls = "java/util/ArrayList" ∧ yJ2_init.cls ≠ "java/lang/invoke/MethodHandle" ∧ yJ2_init.cls ≠ "java/lang/invoke/VarHandle" ∧ (parseMethodDescriptor yJ2_init.desc).map (fun d => d.parameters.length) = some 1) := by decide +kernel
theorem mt_J2_init (l : Launch) (G : GW) (this : Nat) (p1 : Int) (bc bs : Nat) (w : Wd) (Q : Wd → Prop) (h : wp_J2_init this p1 bc bs w Q) : MV l G yJ2_init cJ2_init 2 3 bc bs [.ref (adG G (this)), vI (p1)] w Q := by
  refine met_V (fun G => [.ref (adG G (this)), vI (p1)]) (by decide) (fun G => Nat.le_of_ble_eq_true rfl) (fun x O hl hm hr hn => ?_)
  subst hl
  have O : OK x "java/util/ArrayList" cJ2_init 3 := O
  have h : wp_J2_init this p1 bc bs w Q := h
  unfold wp_J2_init at h
  show J x (TV x Q) w bc bs 0 [(0, .ref (adG (xG x) (this))), (1, vI (p1))] []
  refine j_aload_n O 0 0 dJ2_init_0 rfl rfl ?_
  refine fin_V O ⟨Nat.zero_le _, Nat.zero_le _⟩ (run_I (As := []) (st := []) O (mt_J1_init (xl x) (xG x) _ _ _ h) q208 q209 q125 q210 rfl hy_J1_init.2 (Nat.le_of_ble_eq_true rfl) (Nat.le_of_ble_eq_true rfl) ⟨Nat.zero_le _, Nat.zero_le _⟩ rfl (Nat.le_of_ble_eq_true rfl) dJ2_init_1) (fun w1 h => ?_)
  refine j_iload_n O 1 1 dJ2_init_4 rfl rfl ?_
  obtain ⟨c2, h⟩ := h
  refine j_if_le O (tgt := 19) dJ2_init_5 (by decide) c2 h (fun h => ?_) (fun h => ?_)
  · refine j_iload_n O 1 1 dJ2_init_19 rfl rfl ?_
    obtain ⟨c3, h⟩ := h
    refine j_if_ne O (tgt := 33) dJ2_init_20 (by decide) c3 h (fun h => ?_) (fun h => ?_)
    · exact False.elim h
    · refine j_aload_n O 0 0 dJ2_init_23 rfl rfl ?_
      exact False.elim h
  · refine j_aload_n O 0 0 dJ2_init_8 rfl rfl ?_
    refine j_iload_n O 1 1 dJ2_init_9 rfl rfl ?_
    refine j_newQ O 4 (by decide) q215 dJ2_init_10 h (fun k4 w5 h => ?_)
    refine j_putR (v := (some k4)) O cfJ2 1 (Nat.le_of_ble_eq_true rfl) (.inr ⟨_, rfl⟩) q219 rfl dJ2_init_13 h (fun w6 h => ?_)
    refine j_goto O (tgt := 60) dJ2_init_16 (by decide) ?_
    exact j_vret O hr dJ2_init_60 h
theorem hy_X20_init : (yX20_init.cls = "DowryBoxes$OrderReader" ∧ yX20_init.cls ≠ "java/lang/invoke/MethodHandle" ∧ yX20_init.cls ≠ "java/lang/invoke/VarHandle" ∧ (parseMethodDescriptor yX20_init.desc).map (fun d => d.parameters.length) = some 2) := by decide +kernel
theorem mt_X20_init (l : Launch) (G : GW) (this : Nat) (p1 : Option Nat) (p2 : Int) (bc bs : Nat) (w : Wd) (Q : Wd → Prop) (h : wp_X20_init this p1 p2 bc bs w Q) : MV l G yX20_init cX20_init 3 4 bc bs [.ref (adG G (this)), vR G (p1), vI (p2)] w Q := by
  refine met_V (fun G => [.ref (adG G (this)), vR G (p1), vI (p2)]) (by decide) (fun G => by cases p1 <;> exact Nat.le_of_ble_eq_true rfl) (fun x O hl hm hr hn => ?_)
  subst hl
  have O : OK x "DowryBoxes$OrderReader" cX20_init 4 := O
  have h : wp_X20_init this p1 p2 bc bs w Q := h
  unfold wp_X20_init at h
  rw [show lv_args 0 [.ref (adG (xG x) (this)), vR (xG x) (p1), vI (p2)] = [(0, .ref (adG (xG x) (this))), (1, vR (xG x) (p1)), (2, vI (p2))] from by cases p1 <;> rfl]
  show J x (TV x Q) w bc bs 0 [(0, .ref (adG (xG x) (this))), (1, vR (xG x) (p1)), (2, vI (p2))] []
  refine j_aload_n O 0 0 dX20_init_0 rfl rfl ?_
  refine j_aloadq_n O 1 1 dX20_init_1 rfl rfl ?_
  refine j_iload_n O 2 2 dX20_init_2 rfl rfl ?_
  refine fin_V O ⟨Nat.zero_le _, Nat.zero_le _⟩ (run_I (As := [vR (xG x) (p1), vI (p2)]) (st := []) O (mt_X6_init (xl x) (xG x) _ _ _ _ _ h) q1472 q784 q136 q785 rfl hy_X6_init.2 (Nat.le_of_ble_eq_true rfl) (Nat.le_of_ble_eq_true rfl) ⟨Nat.zero_le _, Nat.zero_le _⟩ rfl (Nat.le_of_ble_eq_true rfl) dX20_init_3) (fun w1 h => ?_)
  refine j_aload_n O 0 0 dX20_init_6 rfl rfl ?_
  refine j_newO O cfJ2 q1473 q204 q126 dX20_init_7 h (fun k2 w3 h => ?_)
  refine j_dup O dX20_init_10 rfl ?_
  refine j_iconst O dX20_init_11 ?_
  obtain ⟨mc5, ms6, hb7, h⟩ := h
  refine fin_V O hb7 (run_I (As := [vI (2)]) (st := [.ref (adG (xG x) (k2)), .ref (adG (xG x) (this))]) O (mt_J2_init (xl x) (xG x) _ _ _ _ _ _ h) q1474 q206 q126 q207 rfl hy_J2_init.2 (Nat.le_of_ble_eq_true rfl) (Nat.le_of_ble_eq_true rfl) hb7 rfl (Nat.le_of_ble_eq_true rfl) dX20_init_12) (fun w4 h => ?_)
  refine j_putFR (v := (some k2)) O cfX20 7 (Nat.le_of_ble_eq_true rfl) (.inl ⟨_, rfl⟩) q1475 rfl hn rfl dX20_init_15 h (fun w8 h => ?_)
  exact j_vret O hr dX20_init_18 h
theorem hy_X6_isIn : (yX6_isIn.cls = "DowryBoxes$Reader" ∧ yX6_isIn.cls ≠ "java/lang/invoke/MethodHandle" ∧ yX6_isIn.cls ≠ "java/lang/invoke/VarHandle" ∧ (parseMethodDescriptor yX6_isIn.desc).map (fun d => d.parameters.length) = some 3) := by decide +kernel
theorem mt_X6_isIn (l : Launch) (G : GW) (this : Nat) (p1 : Int) (p2 : Int) (p3 : Int) (w : Wd) (Q : Int → Wd → Prop) (h : wp_X6_isIn this p1 p2 p3 w Q) : MI l G yX6_isIn cX6_isIn 4 (.boolean) 1 0 0 [.ref (adG G (this)), vI (p1), vI (p2), vI (p3)] w Q := by
  refine met_I (fun G => [.ref (adG G (this)), vI (p1), vI (p2), vI (p3)]) (by decide) (fun G => Nat.le_of_ble_eq_true rfl) (fun x O hl hm hr => ?_)
  subst hl
  have O : OK x "DowryBoxes$Reader" cX6_isIn 1 := O
  have h : wp_X6_isIn this p1 p2 p3 w Q := h
  unfold wp_X6_isIn at h
  show J x (TI x Q) w 0 0 0 [(0, .ref (adG (xG x) (this))), (1, vI (p1)), (2, vI (p2)), (3, vI (p3))] []
  refine j_iload_n O 1 1 dX6_isIn_0 rfl rfl ?_
  refine j_aload_n O 0 0 dX6_isIn_1 rfl rfl ?_
  refine j_getI2 O cfX7 cfX20 1 ⟨Nat.le_of_ble_eq_true rfl, Nat.le_of_ble_eq_true rfl⟩ ⟨rfl, rfl⟩ q792 q792 dX6_isIn_2 h (fun v1 h => ?_)
  obtain ⟨c2, h⟩ := h
  obtain ⟨c3, h⟩ := h
  refine j_icmp_ge O (tgt := 32) dX6_isIn_5 (by decide) c2 c3 h (fun h => ?_) (fun h => ?_)
  · refine j_iconst O dX6_isIn_32 ?_
    exact j_zret O hr dX6_isIn_33 h
  · refine j_aload_n O 0 0 dX6_isIn_8 rfl rfl ?_
    refine j_getA2 O cfX7 cfX20 0 ⟨Nat.le_of_ble_eq_true rfl, Nat.le_of_ble_eq_true rfl⟩ ⟨⟨_, rfl⟩, ⟨_, rfl⟩⟩ q791 q791 dX6_isIn_9 h (fun k4 h => ?_)
    refine j_iload_n O 1 1 dX6_isIn_12 rfl rfl ?_
    refine j_bald O dX6_isIn_13 h (fun v5 h => ?_)
    refine j_iload_n O 2 2 dX6_isIn_14 rfl rfl ?_
    obtain ⟨c6, h⟩ := h
    obtain ⟨c7, h⟩ := h
    refine j_icmp_lt O (tgt := 32) dX6_isIn_15 (by decide) c6 c7 h (fun h => ?_) (fun h => ?_)
    · refine j_iconst O dX6_isIn_32 ?_
      exact j_zret O hr dX6_isIn_33 h
    · refine j_aload_n O 0 0 dX6_isIn_18 rfl rfl ?_
      refine j_getA2 O cfX7 cfX20 0 ⟨Nat.le_of_ble_eq_true rfl, Nat.le_of_ble_eq_true rfl⟩ ⟨⟨_, rfl⟩, ⟨_, rfl⟩⟩ q791 q791 dX6_isIn_19 h (fun k8 h => ?_)
      refine j_iload_n O 1 1 dX6_isIn_22 rfl rfl ?_
      refine j_bald O dX6_isIn_23 h (fun v9 h => ?_)
      refine j_iload_n O 3 3 dX6_isIn_24 rfl rfl ?_
      obtain ⟨c10, h⟩ := h
      obtain ⟨c11, h⟩ := h
      refine j_icmp_gt O (tgt := 32) dX6_isIn_25 (by decide) c10 c11 h (fun h => ?_) (fun h => ?_)
      · refine j_iconst O dX6_isIn_32 ?_
        exact j_zret O hr dX6_isIn_33 h
      · refine j_iconst O dX6_isIn_28 ?_
        refine j_goto O (tgt := 33) dX6_isIn_29 (by decide) ?_
        exact j_zret O hr dX6_isIn_33 h
theorem hy_X6_next : (yX6_next.cls = "DowryBoxes$Reader" ∧ yX6_next.cls ≠ "java/lang/invoke/MethodHandle" ∧ yX6_next.cls ≠ "java/lang/invoke/VarHandle" ∧ (parseMethodDescriptor yX6_next.desc).map (fun d => d.parameters.length) = some 0) := by decide +kernel
theorem wk_X6_next_8 {x : Cx} (O : OK x "DowryBoxes$Reader" cX6_next 2) (hr : (xM x).sig.returnType = none) (hm : xn x = 1) {Q : Wd → Prop} (X8 : Wd → Prop) (this : Nat) (hX8 : ∀  (w : Wd), X8  w → J x (TV x Q) w 0 0 36 [(0, .ref (adG (xG x) (this)))] []) : ∀ (n : Nat) (w : Wd), wp_X6_next_8 Q X8 this n w → J x (TV x Q) w 0 0 8 [(0, .ref (adG (xG x) (this)))] [] := by
  intro n
  induction n with
  | zero => intro w h; exact False.elim h
  | succ n ih =>
    intro w h
    rw [wp_X6_next_8] at h
    refine j_aload_n O 0 0 dX6_next_8 rfl rfl ?_
    refine j_aload_n O 0 0 dX6_next_9 rfl rfl ?_
    refine j_getI2 O cfX7 cfX20 3 ⟨Nat.le_of_ble_eq_true rfl, Nat.le_of_ble_eq_true rfl⟩ ⟨rfl, rfl⟩ q794 q794 dX6_next_10 h (fun v1 h => ?_)
    refine j_bipush (m := 32) O dX6_next_13 bi_32 ?_
    refine j_bipush (m := 32) O dX6_next_15 bi_32 ?_
    obtain ⟨e4, h⟩ := h
    refine fin_I O ⟨Nat.zero_le _, Nat.zero_le _⟩ (run_U2 (As := [vI (v1), vI (32), vI (32)]) (st := []) (x0 := ⟨"DowryBoxes$Reader", "isIn", "(III)Z"⟩) (owner := "DowryBoxes$Reader") O (mt_X6_isIn (xl x) (xG x) _ _ _ _ _ _ h) e4 cfX7.1 cfX20.1 (lw_U q832 q834 q835 q833 q136 q837) (lw_U q832 q834 q836 q833 q136 q837) rfl hy_X6_isIn.2 (Nat.le_of_ble_eq_true rfl) (Nat.le_of_ble_eq_true rfl) ⟨Nat.zero_le _, Nat.zero_le _⟩ rfl (Nat.le_of_ble_eq_true rfl) dX6_next_17) (fun r2 w3 h => ?_)
    obtain ⟨c5, h⟩ := h
    refine j_if_eq O (tgt := 36) dX6_next_20 (by decide) c5 h (fun h => ?_) (fun h => ?_)
    · exact (J.sub [0] rfl <| hX8  _ h)
    · refine j_aload_n O 0 0 dX6_next_23 rfl rfl ?_
      refine j_dup O dX6_next_24 rfl ?_
      refine j_getI2 O cfX7 cfX20 3 ⟨Nat.le_of_ble_eq_true rfl, Nat.le_of_ble_eq_true rfl⟩ ⟨rfl, rfl⟩ q794 q794 dX6_next_25 h (fun v6 h => ?_)
      refine j_iconst O dX6_next_28 ?_
      refine j_iadd O dX6_next_29 ?_
      refine j_putI2 (v := (v6 + 1)) O cfX7 cfX20 3 ⟨Nat.le_of_ble_eq_true rfl, Nat.le_of_ble_eq_true rfl⟩ ⟨rfl, rfl⟩ q794 q794 ⟨rfl, rfl⟩ dX6_next_30 h (fun w7 h => ?_)
      refine j_goto O (tgt := 8) dX6_next_33 (by decide) ?_
      exact (J.sub [0] rfl <| ih  _ h)
theorem wk_X6_next_59 {x : Cx} (O : OK x "DowryBoxes$Reader" cX6_next 2) (hr : (xM x).sig.returnType = none) (hm : xn x = 1) {Q : Wd → Prop} (this : Nat) : ∀ (n : Nat) (w : Wd), wp_X6_next_59 Q this n w → J x (TV x Q) w 0 0 59 [(0, .ref (adG (xG x) (this)))] [] := by
  intro n
  induction n with
  | zero => intro w h; exact False.elim h
  | succ n ih =>
    intro w h
    rw [wp_X6_next_59] at h
    refine j_aload_n O 0 0 dX6_next_59 rfl rfl ?_
    refine j_aload_n O 0 0 dX6_next_60 rfl rfl ?_
    refine j_getI2 O cfX7 cfX20 4 ⟨Nat.le_of_ble_eq_true rfl, Nat.le_of_ble_eq_true rfl⟩ ⟨rfl, rfl⟩ q795 q795 dX6_next_61 h (fun v1 h => ?_)
    refine j_bipush (m := 97) O dX6_next_64 bi_97 ?_
    refine j_bipush (m := 122) O dX6_next_66 bi_122 ?_
    obtain ⟨e4, h⟩ := h
    refine fin_I O ⟨Nat.zero_le _, Nat.zero_le _⟩ (run_U2 (As := [vI (v1), vI (97), vI (122)]) (st := []) (x0 := ⟨"DowryBoxes$Reader", "isIn", "(III)Z"⟩) (owner := "DowryBoxes$Reader") O (mt_X6_isIn (xl x) (xG x) _ _ _ _ _ _ h) e4 cfX7.1 cfX20.1 (lw_U q832 q834 q835 q833 q136 q837) (lw_U q832 q834 q836 q833 q136 q837) rfl hy_X6_isIn.2 (Nat.le_of_ble_eq_true rfl) (Nat.le_of_ble_eq_true rfl) ⟨Nat.zero_le _, Nat.zero_le _⟩ rfl (Nat.le_of_ble_eq_true rfl) dX6_next_68) (fun r2 w3 h => ?_)
    obtain ⟨c5, h⟩ := h
    refine j_if_eq O (tgt := 151) dX6_next_71 (by decide) c5 h (fun h => ?_) (fun h => ?_)
    · exact j_vret O hr dX6_next_151 h
    · refine j_aload_n O 0 0 dX6_next_74 rfl rfl ?_
      refine j_dup O dX6_next_75 rfl ?_
      refine j_getI2 O cfX7 cfX20 4 ⟨Nat.le_of_ble_eq_true rfl, Nat.le_of_ble_eq_true rfl⟩ ⟨rfl, rfl⟩ q795 q795 dX6_next_76 h (fun v6 h => ?_)
      refine j_iconst O dX6_next_79 ?_
      refine j_iadd O dX6_next_80 ?_
      refine j_putI2 (v := (v6 + 1)) O cfX7 cfX20 4 ⟨Nat.le_of_ble_eq_true rfl, Nat.le_of_ble_eq_true rfl⟩ ⟨rfl, rfl⟩ q795 q795 ⟨rfl, rfl⟩ dX6_next_81 h (fun w7 h => ?_)
      refine j_goto O (tgt := 59) dX6_next_84 (by decide) ?_
      exact (J.sub [0] rfl <| ih  _ h)
theorem wk_X6_next_102 {x : Cx} (O : OK x "DowryBoxes$Reader" cX6_next 2) (hr : (xM x).sig.returnType = none) (hm : xn x = 1) {Q : Wd → Prop} (this : Nat) : ∀ (n : Nat) (w : Wd), wp_X6_next_102 Q this n w → J x (TV x Q) w 0 0 102 [(0, .ref (adG (xG x) (this)))] [] := by
  intro n
  induction n with
  | zero => intro w h; exact False.elim h
  | succ n ih =>
    intro w h
    rw [wp_X6_next_102] at h
    refine j_aload_n O 0 0 dX6_next_102 rfl rfl ?_
    refine j_aload_n O 0 0 dX6_next_103 rfl rfl ?_
    refine j_getI2 O cfX7 cfX20 4 ⟨Nat.le_of_ble_eq_true rfl, Nat.le_of_ble_eq_true rfl⟩ ⟨rfl, rfl⟩ q795 q795 dX6_next_104 h (fun v1 h => ?_)
    refine j_bipush (m := 48) O dX6_next_107 bi_48 ?_
    refine j_bipush (m := 57) O dX6_next_109 bi_57 ?_
    obtain ⟨e4, h⟩ := h
    refine fin_I O ⟨Nat.zero_le _, Nat.zero_le _⟩ (run_U2 (As := [vI (v1), vI (48), vI (57)]) (st := []) (x0 := ⟨"DowryBoxes$Reader", "isIn", "(III)Z"⟩) (owner := "DowryBoxes$Reader") O (mt_X6_isIn (xl x) (xG x) _ _ _ _ _ _ h) e4 cfX7.1 cfX20.1 (lw_U q832 q834 q835 q833 q136 q837) (lw_U q832 q834 q836 q833 q136 q837) rfl hy_X6_isIn.2 (Nat.le_of_ble_eq_true rfl) (Nat.le_of_ble_eq_true rfl) ⟨Nat.zero_le _, Nat.zero_le _⟩ rfl (Nat.le_of_ble_eq_true rfl) dX6_next_111) (fun r2 w3 h => ?_)
    obtain ⟨c5, h⟩ := h
    refine j_if_eq O (tgt := 151) dX6_next_114 (by decide) c5 h (fun h => ?_) (fun h => ?_)
    · exact j_vret O hr dX6_next_151 h
    · refine j_aload_n O 0 0 dX6_next_117 rfl rfl ?_
      refine j_dup O dX6_next_118 rfl ?_
      refine j_getI2 O cfX7 cfX20 4 ⟨Nat.le_of_ble_eq_true rfl, Nat.le_of_ble_eq_true rfl⟩ ⟨rfl, rfl⟩ q795 q795 dX6_next_119 h (fun v6 h => ?_)
      refine j_iconst O dX6_next_122 ?_
      refine j_iadd O dX6_next_123 ?_
      refine j_putI2 (v := (v6 + 1)) O cfX7 cfX20 4 ⟨Nat.le_of_ble_eq_true rfl, Nat.le_of_ble_eq_true rfl⟩ ⟨rfl, rfl⟩ q795 q795 ⟨rfl, rfl⟩ dX6_next_124 h (fun w7 h => ?_)
      refine j_goto O (tgt := 102) dX6_next_127 (by decide) ?_
      exact (J.sub [0] rfl <| ih  _ h)
theorem mt_X6_next (l : Launch) (G : GW) (this : Nat) (w : Wd) (Q : Wd → Prop) (h : wp_X6_next this w Q) : MV l G yX6_next cX6_next 1 2 0 0 [.ref (adG G (this))] w Q := by
  refine met_V (fun G => [.ref (adG G (this))]) (by decide) (fun G => Nat.le_of_ble_eq_true rfl) (fun x O hl hm hr _ => ?_)
  subst hl
  have O : OK x "DowryBoxes$Reader" cX6_next 2 := O
  have h : wp_X6_next this w Q := h
  unfold wp_X6_next at h
  show J x (TV x Q) w 0 0 0 [(0, .ref (adG (xG x) (this)))] []
  refine j_aload_n O 0 0 dX6_next_0 rfl rfl ?_
  refine j_aload_n O 0 0 dX6_next_1 rfl rfl ?_
  refine j_getI2 O cfX7 cfX20 4 ⟨Nat.le_of_ble_eq_true rfl, Nat.le_of_ble_eq_true rfl⟩ ⟨rfl, rfl⟩ q795 q795 dX6_next_2 h (fun v1 h => ?_)
  refine j_putI2 (v := v1) O cfX7 cfX20 3 ⟨Nat.le_of_ble_eq_true rfl, Nat.le_of_ble_eq_true rfl⟩ ⟨rfl, rfl⟩ q794 q794 ⟨rfl, rfl⟩ dX6_next_5 h (fun w2 h => ?_)
  refine (J.sub [0] rfl <| wk_X6_next_8 O hr hm _ _ (fun w3 h => ?_) FU  _ h)
  refine j_aload_n O 0 0 dX6_next_36 rfl rfl ?_
  refine j_aload_n O 0 0 dX6_next_37 rfl rfl ?_
  refine j_getI2 O cfX7 cfX20 3 ⟨Nat.le_of_ble_eq_true rfl, Nat.le_of_ble_eq_true rfl⟩ ⟨rfl, rfl⟩ q794 q794 dX6_next_38 h (fun v4 h => ?_)
  refine j_putI2 (v := v4) O cfX7 cfX20 4 ⟨Nat.le_of_ble_eq_true rfl, Nat.le_of_ble_eq_true rfl⟩ ⟨rfl, rfl⟩ q795 q795 ⟨rfl, rfl⟩ dX6_next_41 h (fun w5 h => ?_)
  refine j_aload_n O 0 0 dX6_next_44 rfl rfl ?_
  refine j_aload_n O 0 0 dX6_next_45 rfl rfl ?_
  refine j_getI2 O cfX7 cfX20 3 ⟨Nat.le_of_ble_eq_true rfl, Nat.le_of_ble_eq_true rfl⟩ ⟨rfl, rfl⟩ q794 q794 dX6_next_46 h (fun v6 h => ?_)
  refine j_bipush (m := 97) O dX6_next_49 bi_97 ?_
  refine j_bipush (m := 122) O dX6_next_51 bi_122 ?_
  obtain ⟨e9, h⟩ := h
  refine fin_I O ⟨Nat.zero_le _, Nat.zero_le _⟩ (run_U2 (As := [vI (v6), vI (97), vI (122)]) (st := []) (x0 := ⟨"DowryBoxes$Reader", "isIn", "(III)Z"⟩) (owner := "DowryBoxes$Reader") O (mt_X6_isIn (xl x) (xG x) _ _ _ _ _ _ h) e9 cfX7.1 cfX20.1 (lw_U q832 q834 q835 q833 q136 q837) (lw_U q832 q834 q836 q833 q136 q837) rfl hy_X6_isIn.2 (Nat.le_of_ble_eq_true rfl) (Nat.le_of_ble_eq_true rfl) ⟨Nat.zero_le _, Nat.zero_le _⟩ rfl (Nat.le_of_ble_eq_true rfl) dX6_next_53) (fun r7 w8 h => ?_)
  obtain ⟨c10, h⟩ := h
  refine j_if_eq O (tgt := 87) dX6_next_56 (by decide) c10 h (fun h => ?_) (fun h => ?_)
  · refine j_aload_n O 0 0 dX6_next_87 rfl rfl ?_
    refine j_aload_n O 0 0 dX6_next_88 rfl rfl ?_
    refine j_getI2 O cfX7 cfX20 3 ⟨Nat.le_of_ble_eq_true rfl, Nat.le_of_ble_eq_true rfl⟩ ⟨rfl, rfl⟩ q794 q794 dX6_next_89 h (fun v11 h => ?_)
    refine j_bipush (m := 48) O dX6_next_92 bi_48 ?_
    refine j_bipush (m := 57) O dX6_next_94 bi_57 ?_
    obtain ⟨e14, h⟩ := h
    refine fin_I O ⟨Nat.zero_le _, Nat.zero_le _⟩ (run_U2 (As := [vI (v11), vI (48), vI (57)]) (st := []) (x0 := ⟨"DowryBoxes$Reader", "isIn", "(III)Z"⟩) (owner := "DowryBoxes$Reader") O (mt_X6_isIn (xl x) (xG x) _ _ _ _ _ _ h) e14 cfX7.1 cfX20.1 (lw_U q832 q834 q835 q833 q136 q837) (lw_U q832 q834 q836 q833 q136 q837) rfl hy_X6_isIn.2 (Nat.le_of_ble_eq_true rfl) (Nat.le_of_ble_eq_true rfl) ⟨Nat.zero_le _, Nat.zero_le _⟩ rfl (Nat.le_of_ble_eq_true rfl) dX6_next_96) (fun r12 w13 h => ?_)
    obtain ⟨c15, h⟩ := h
    refine j_if_eq O (tgt := 130) dX6_next_99 (by decide) c15 h (fun h => ?_) (fun h => ?_)
    · refine j_aload_n O 0 0 dX6_next_130 rfl rfl ?_
      refine j_getI2 O cfX7 cfX20 3 ⟨Nat.le_of_ble_eq_true rfl, Nat.le_of_ble_eq_true rfl⟩ ⟨rfl, rfl⟩ q794 q794 dX6_next_131 h (fun v16 h => ?_)
      refine j_aload_n O 0 0 dX6_next_134 rfl rfl ?_
      refine j_getI2 O cfX7 cfX20 1 ⟨Nat.le_of_ble_eq_true rfl, Nat.le_of_ble_eq_true rfl⟩ ⟨rfl, rfl⟩ q792 q792 dX6_next_135 h (fun v17 h => ?_)
      obtain ⟨c18, h⟩ := h
      obtain ⟨c19, h⟩ := h
      refine j_icmp_ge O (tgt := 151) dX6_next_138 (by decide) c18 c19 h (fun h => ?_) (fun h => ?_)
      · exact j_vret O hr dX6_next_151 h
      · refine j_aload_n O 0 0 dX6_next_141 rfl rfl ?_
        refine j_dup O dX6_next_142 rfl ?_
        refine j_getI2 O cfX7 cfX20 4 ⟨Nat.le_of_ble_eq_true rfl, Nat.le_of_ble_eq_true rfl⟩ ⟨rfl, rfl⟩ q795 q795 dX6_next_143 h (fun v20 h => ?_)
        refine j_iconst O dX6_next_146 ?_
        refine j_iadd O dX6_next_147 ?_
        refine j_putI2 (v := (v20 + 1)) O cfX7 cfX20 4 ⟨Nat.le_of_ble_eq_true rfl, Nat.le_of_ble_eq_true rfl⟩ ⟨rfl, rfl⟩ q795 q795 ⟨rfl, rfl⟩ dX6_next_148 h (fun w21 h => ?_)
        exact j_vret O hr dX6_next_151 h
    · exact (J.sub [0] rfl <| wk_X6_next_102 O hr hm  _  FU  _ h)
  · exact (J.sub [0] rfl <| wk_X6_next_59 O hr hm  _  FU  _ h)
theorem hy_J9_coder : (yJ9_coder.cls = "java/lang/String" ∧ yJ9_coder.cls ≠ "java/lang/invoke/MethodHandle" ∧ yJ9_coder.cls ≠ "java/lang/invoke/VarHandle" ∧ (parseMethodDescriptor yJ9_coder.desc).map (fun d => d.parameters.length) = some 0) := by decide +kernel
theorem mt_J9_coder (l : Launch) (G : GW) (this : Nat) (w : Wd) (Q : Int → Wd → Prop) (h : wp_J9_coder this w Q) : MI l G yJ9_coder cJ9_coder 1 (.byte) 1 0 0 [.ref (adG G (this))] w Q := by
  refine met_I (fun G => [.ref (adG G (this))]) (by decide) (fun G => Nat.le_of_ble_eq_true rfl) (fun x O hl hm hr => ?_)
  subst hl
  have O : OK x "java/lang/String" cJ9_coder 1 := O
  have h : wp_J9_coder this w Q := h
  unfold wp_J9_coder at h
  show J x (TI x Q) w 0 0 0 [(0, .ref (adG (xG x) (this)))] []
  refine j_getsC O q859 dJ9_coder_0 ?_
  refine j_if_eq O (tgt := 13) dJ9_coder_3 (by decide) (by decide) h (fun h => ?_) (fun h => ?_)
  · refine j_iconst O dJ9_coder_13 ?_
    exact j_bret O hr dJ9_coder_14 h
  · refine j_aload_n O 0 0 dJ9_coder_6 rfl rfl ?_
    refine j_getSc O q2321 dJ9_coder_7 h (fun v1 h => ?_)
    refine j_goto O (tgt := 14) dJ9_coder_10 (by decide) ?_
    exact j_bret O hr dJ9_coder_14 h
theorem hy_J9_length : (yJ9_length.cls = "java/lang/String" ∧ yJ9_length.cls ≠ "java/lang/invoke/MethodHandle" ∧ yJ9_length.cls ≠ "java/lang/invoke/VarHandle" ∧ (parseMethodDescriptor yJ9_length.desc).map (fun d => d.parameters.length) = some 0) := by decide +kernel
theorem mt_J9_length (l : Launch) (G : GW) (this : Nat) (w : Wd) (Q : Int → Wd → Prop) (h : wp_J9_length this w Q) : MI l G yJ9_length cJ9_length 1 (.int) 2 0 0 [.ref (adG G (this))] w Q := by
  refine met_I (fun G => [.ref (adG G (this))]) (by decide) (fun G => Nat.le_of_ble_eq_true rfl) (fun x O hl hm hr => ?_)
  subst hl
  have O : OK x "java/lang/String" cJ9_length 2 := O
  have h : wp_J9_length this w Q := h
  unfold wp_J9_length at h
  show J x (TI x Q) w 0 0 0 [(0, .ref (adG (xG x) (this)))] []
  refine j_aload_n O 0 0 dJ9_length_0 rfl rfl ?_
  refine j_getSv O q2320 dJ9_length_1 h (fun k1 h => ?_)
  refine j_alSn O dJ9_length_4 h (fun v2 h => ?_)
  refine j_aload_n O 0 0 dJ9_length_5 rfl rfl ?_
  obtain ⟨e5, h⟩ := h
  refine fin_I O ⟨Nat.zero_le _, Nat.zero_le _⟩ (run_VS (As := []) (st := [vI (v2)]) O (mt_J9_coder (xl x) (xG x) _ _ _ h) e5 q855 q856 q857 q138 q858 hy_J9_coder (Nat.le_of_ble_eq_true rfl) (Nat.le_of_ble_eq_true rfl) ⟨Nat.zero_le _, Nat.zero_le _⟩ rfl (Nat.le_of_ble_eq_true rfl) dJ9_length_6) (fun r3 w4 h => ?_)
  refine j_ishr O dJ9_length_9 ?_
  exact j_iret O hr dJ9_length_10 h
theorem hy_J9_isLatin1 : (yJ9_isLatin1.cls = "java/lang/String" ∧ yJ9_isLatin1.cls ≠ "java/lang/invoke/MethodHandle" ∧ yJ9_isLatin1.cls ≠ "java/lang/invoke/VarHandle" ∧ (parseMethodDescriptor yJ9_isLatin1.desc).map (fun d => d.parameters.length) = some 0) := by decide +kernel
theorem mt_J9_isLatin1 (l : Launch) (G : GW) (this : Nat) (w : Wd) (Q : Int → Wd → Prop) (h : wp_J9_isLatin1 this w Q) : MI l G yJ9_isLatin1 cJ9_isLatin1 1 (.boolean) 1 0 0 [.ref (adG G (this))] w Q := by
  refine met_I (fun G => [.ref (adG G (this))]) (by decide) (fun G => Nat.le_of_ble_eq_true rfl) (fun x O hl hm hr => ?_)
  subst hl
  have O : OK x "java/lang/String" cJ9_isLatin1 1 := O
  have h : wp_J9_isLatin1 this w Q := h
  unfold wp_J9_isLatin1 at h
  show J x (TI x Q) w 0 0 0 [(0, .ref (adG (xG x) (this)))] []
  refine j_getsC O q859 dJ9_isLatin1_0 ?_
  refine j_if_eq O (tgt := 17) dJ9_isLatin1_3 (by decide) (by decide) h (fun h => ?_) (fun h => ?_)
  · refine j_iconst O dJ9_isLatin1_17 ?_
    exact j_zret O hr dJ9_isLatin1_18 h
  · refine j_aload_n O 0 0 dJ9_isLatin1_6 rfl rfl ?_
    refine j_getSc O q2321 dJ9_isLatin1_7 h (fun v1 h => ?_)
    obtain ⟨c2, h⟩ := h
    refine j_if_ne O (tgt := 17) dJ9_isLatin1_10 (by decide) c2 h (fun h => ?_) (fun h => ?_)
    · refine j_iconst O dJ9_isLatin1_17 ?_
      exact j_zret O hr dJ9_isLatin1_18 h
    · refine j_iconst O dJ9_isLatin1_13 ?_
      refine j_goto O (tgt := 18) dJ9_isLatin1_14 (by decide) ?_
      exact j_zret O hr dJ9_isLatin1_18 h
theorem hy_J9_checkIndex : (yJ9_checkIndex.cls = "java/lang/String" ∧ yJ9_checkIndex.cls ≠ "java/lang/invoke/MethodHandle" ∧ yJ9_checkIndex.cls ≠ "java/lang/invoke/VarHandle" ∧ (parseMethodDescriptor yJ9_checkIndex.desc).map (fun d => d.parameters.length) = some 2) := by decide +kernel
theorem mt_J9_checkIndex (l : Launch) (G : GW) (p1 : Int) (p2 : Int) (w : Wd) (Q : Wd → Prop) (h : wp_J9_checkIndex p1 p2 w Q) : MV l G yJ9_checkIndex cJ9_checkIndex 2 2 0 0 [vI (p1), vI (p2)] w Q := by
  refine met_V (fun G => [vI (p1), vI (p2)]) (by decide) (fun G => Nat.le_of_ble_eq_true rfl) (fun x O hl hm hr _ => ?_)
  subst hl
  have O : OK x "java/lang/String" cJ9_checkIndex 2 := O
  have h : wp_J9_checkIndex p1 p2 w Q := h
  unfold wp_J9_checkIndex at h
  show J x (TV x Q) w 0 0 0 [(0, vI (p1)), (1, vI (p2))] []
  refine j_iload_n O 0 0 dJ9_checkIndex_0 rfl rfl ?_
  refine j_iload_n O 1 1 dJ9_checkIndex_1 rfl rfl ?_
  refine j_gets O O.2.2.1.2.2.2.2.2.1.2.2 q875 dJ9_checkIndex_2 h (fun o1 h => ?_)
  refine fin_I O ⟨Nat.zero_le _, Nat.zero_le _⟩ (run_S (As := [vI (p1), vI (p2), vR (xG x) (o1)]) (st := []) O (mt_J7_checkIndex (xl x) (xG x) _ _ _ _ _ h) q877 q635 q134 q636 hy_J7_checkIndex.2 (Nat.le_of_ble_eq_true rfl) (Nat.le_of_ble_eq_true rfl) ⟨Nat.zero_le _, Nat.zero_le _⟩ rfl (Nat.le_of_ble_eq_true rfl) dJ9_checkIndex_5) (fun r2 w3 h => ?_)
  refine j_pop O dJ9_checkIndex_8 rfl ?_
  exact j_vret O hr dJ9_checkIndex_9 h
theorem hy_J10_charAt : (yJ10_charAt.cls = "java/lang/StringLatin1" ∧ yJ10_charAt.cls ≠ "java/lang/invoke/MethodHandle" ∧ yJ10_charAt.cls ≠ "java/lang/invoke/VarHandle" ∧ (parseMethodDescriptor yJ10_charAt.desc).map (fun d => d.parameters.length) = some 2) := by decide +kernel
theorem mt_J10_charAt (l : Launch) (G : GW) (p1 : Option Nat) (p2 : Int) (w : Wd) (Q : Int → Wd → Prop) (h : wp_J10_charAt p1 p2 w Q) : MI l G yJ10_charAt cJ10_charAt 2 (.char) 3 0 0 [vR G (p1), vI (p2)] w Q := by
  refine met_I (fun G => [vR G (p1), vI (p2)]) (by decide) (fun G => by cases p1 <;> exact Nat.le_of_ble_eq_true rfl) (fun x O hl hm hr => ?_)
  subst hl
  have O : OK x "java/lang/StringLatin1" cJ10_charAt 3 := O
  have h : wp_J10_charAt p1 p2 w Q := h
  unfold wp_J10_charAt at h
  rw [show lv_args 0 [vR (xG x) (p1), vI (p2)] = [(0, vR (xG x) (p1)), (1, vI (p2))] from by cases p1 <;> rfl]
  show J x (TI x Q) w 0 0 0 [(0, vR (xG x) (p1)), (1, vI (p2))] []
  refine j_iload_n O 1 1 dJ10_charAt_0 rfl rfl ?_
  refine j_aloadq_n O 0 0 dJ10_charAt_1 rfl rfl ?_
  obtain ⟨k1, e_k1, g_k1⟩ := h
  subst e_k1
  have h := g_k1
  refine j_alSn O dJ10_charAt_2 h (fun v2 h => ?_)
  refine fin_V O ⟨Nat.zero_le _, Nat.zero_le _⟩ (run_S (As := [vI (p2), vI (v2)]) (st := []) O (mt_J9_checkIndex (xl x) (xG x) _ _ _ _ h) q872 q873 q138 q874 hy_J9_checkIndex.2 (Nat.le_of_ble_eq_true rfl) (Nat.le_of_ble_eq_true rfl) ⟨Nat.zero_le _, Nat.zero_le _⟩ rfl (Nat.le_of_ble_eq_true rfl) dJ10_charAt_3) (fun w3 h => ?_)
  refine j_aloadq_n O 0 0 dJ10_charAt_6 rfl rfl ?_
  refine j_iload_n O 1 1 dJ10_charAt_7 rfl rfl ?_
  refine j_alSb O dJ10_charAt_8 h (fun v4 h => ?_)
  refine j_sipush (m := 255) O dJ10_charAt_9 si_255 ?_
  refine j_iand O dJ10_charAt_12 ?_
  refine j_i2c O dJ10_charAt_13 ?_
  exact j_cret O hr dJ10_charAt_14 h
theorem hy_J9_charAt : (yJ9_charAt.cls = "java/lang/String" ∧ yJ9_charAt.cls ≠ "java/lang/invoke/MethodHandle" ∧ yJ9_charAt.cls ≠ "java/lang/invoke/VarHandle" ∧ (parseMethodDescriptor yJ9_charAt.desc).map (fun d => d.parameters.length) = some 1) := by decide +kernel
theorem mt_J9_charAt (l : Launch) (G : GW) (this : Nat) (p1 : Int) (w : Wd) (Q : Int → Wd → Prop) (h : wp_J9_charAt this p1 w Q) : MI l G yJ9_charAt cJ9_charAt 2 (.char) 4 0 0 [.ref (adG G (this)), vI (p1)] w Q := by
  refine met_I (fun G => [.ref (adG G (this)), vI (p1)]) (by decide) (fun G => Nat.le_of_ble_eq_true rfl) (fun x O hl hm hr => ?_)
  subst hl
  have O : OK x "java/lang/String" cJ9_charAt 4 := O
  have h : wp_J9_charAt this p1 w Q := h
  unfold wp_J9_charAt at h
  show J x (TI x Q) w 0 0 0 [(0, .ref (adG (xG x) (this))), (1, vI (p1))] []
  refine j_aload_n O 0 0 dJ9_charAt_0 rfl rfl ?_
  obtain ⟨e3, h⟩ := h
  refine fin_I O ⟨Nat.zero_le _, Nat.zero_le _⟩ (run_VS (As := []) (st := []) O (mt_J9_isLatin1 (xl x) (xG x) _ _ _ h) e3 q865 q866 q867 q138 q868 hy_J9_isLatin1 (Nat.le_of_ble_eq_true rfl) (Nat.le_of_ble_eq_true rfl) ⟨Nat.zero_le _, Nat.zero_le _⟩ rfl (Nat.le_of_ble_eq_true rfl) dJ9_charAt_1) (fun r1 w2 h => ?_)
  obtain ⟨c4, h⟩ := h
  refine j_if_eq O (tgt := 16) dJ9_charAt_4 (by decide) c4 h (fun h => ?_) (fun h => ?_)
  · refine j_aload_n O 0 0 dJ9_charAt_16 rfl rfl ?_
    refine j_getSv O q2320 dJ9_charAt_17 h (fun k5 h => ?_)
    refine j_iload_n O 1 1 dJ9_charAt_20 rfl rfl ?_
    exact False.elim h
  · refine j_aload_n O 0 0 dJ9_charAt_7 rfl rfl ?_
    refine j_getSv O q2320 dJ9_charAt_8 h (fun k6 h => ?_)
    refine j_iload_n O 1 1 dJ9_charAt_11 rfl rfl ?_
    refine fin_I O ⟨Nat.zero_le _, Nat.zero_le _⟩ (run_S (As := [vR (xG x) ((some k6)), vI (p1)]) (st := []) O (mt_J10_charAt (xl x) (xG x) _ _ _ _ h) q869 q870 q139 q871 hy_J10_charAt.2 (Nat.le_of_ble_eq_true rfl) (Nat.le_of_ble_eq_true rfl) ⟨Nat.zero_le _, Nat.zero_le _⟩ rfl (Nat.le_of_ble_eq_true rfl) dJ9_charAt_12) (fun r7 w8 h => ?_)
    exact j_cret O hr dJ9_charAt_15 h
theorem hy_X6_is : (yX6_is.cls = "DowryBoxes$Reader" ∧ yX6_is.cls ≠ "java/lang/invoke/MethodHandle" ∧ yX6_is.cls ≠ "java/lang/invoke/VarHandle" ∧ (parseMethodDescriptor yX6_is.desc).map (fun d => d.parameters.length) = some 1) := by decide +kernel
theorem wk_X6_is_20 {x : Cx} (O : OK x "DowryBoxes$Reader" cX6_is 5) (hr : (xM x).sig.returnType = some .boolean) (hm : xn x = 3) {Q : Int → Wd → Prop} (this : Nat) (x1 : Option Nat) : ∀ (n : Nat) (x2 : Int) (w : Wd), wp_X6_is_20 Q this x1 n x2 w → J x (TI x Q) w 0 0 20 [(0, .ref (adG (xG x) (this))), (1, vR (xG x) (x1)), (2, vI (x2))] [] := by
  intro n
  induction n with
  | zero => intro x2 w h; exact False.elim h
  | succ n ih =>
    intro x2 w h
    rw [wp_X6_is_20] at h
    refine j_iload_n O 2 2 dX6_is_20 rfl rfl ?_
    refine j_aloadq_n O 1 1 dX6_is_21 rfl rfl ?_
    obtain ⟨k1, e_k1, g_k1⟩ := h
    subst e_k1
    have h := g_k1
    obtain ⟨e4, h⟩ := h
    refine fin_I O ⟨Nat.zero_le _, Nat.zero_le _⟩ (run_VS (As := []) (st := [vI (x2)]) O (mt_J9_length (xl x) (xG x) _ _ _ h) e4 q851 q852 q853 q138 q854 hy_J9_length (Nat.le_of_ble_eq_true rfl) (Nat.le_of_ble_eq_true rfl) ⟨Nat.zero_le _, Nat.zero_le _⟩ rfl (Nat.le_of_ble_eq_true rfl) dX6_is_22) (fun r2 w3 h => ?_)
    obtain ⟨c5, h⟩ := h
    obtain ⟨c6, h⟩ := h
    refine j_icmp_ge O (tgt := 55) dX6_is_25 (by decide) c5 c6 h (fun h => ?_) (fun h => ?_)
    · refine j_iconst O dX6_is_55 ?_
      exact j_zret O hr dX6_is_56 h
    · refine j_aload_n O 0 0 dX6_is_28 rfl rfl ?_
      refine j_getA2 O cfX7 cfX20 0 ⟨Nat.le_of_ble_eq_true rfl, Nat.le_of_ble_eq_true rfl⟩ ⟨⟨_, rfl⟩, ⟨_, rfl⟩⟩ q791 q791 dX6_is_29 h (fun k7 h => ?_)
      refine j_aload_n O 0 0 dX6_is_32 rfl rfl ?_
      refine j_getI2 O cfX7 cfX20 3 ⟨Nat.le_of_ble_eq_true rfl, Nat.le_of_ble_eq_true rfl⟩ ⟨rfl, rfl⟩ q794 q794 dX6_is_33 h (fun v8 h => ?_)
      refine j_iload_n O 2 2 dX6_is_36 rfl rfl ?_
      refine j_iadd O dX6_is_37 ?_
      refine j_bald O dX6_is_38 h (fun v9 h => ?_)
      refine j_aloadq_n O 1 1 dX6_is_39 rfl rfl ?_
      refine j_iload_n O 2 2 dX6_is_40 rfl rfl ?_
      obtain ⟨e12, h⟩ := h
      refine fin_I O ⟨Nat.zero_le _, Nat.zero_le _⟩ (run_VS (As := [vI (x2)]) (st := [vI (v9)]) O (mt_J9_charAt (xl x) (xG x) _ _ _ _ h) e12 q861 q862 q863 q138 q864 hy_J9_charAt (Nat.le_of_ble_eq_true rfl) (Nat.le_of_ble_eq_true rfl) ⟨Nat.zero_le _, Nat.zero_le _⟩ rfl (Nat.le_of_ble_eq_true rfl) dX6_is_41) (fun r10 w11 h => ?_)
      obtain ⟨c13, h⟩ := h
      obtain ⟨c14, h⟩ := h
      refine j_icmp_eq O (tgt := 49) dX6_is_44 (by decide) c13 c14 h (fun h => ?_) (fun h => ?_)
      · refine j_iinc (L' := [(2, vI (x2 + 1)), (0, .ref (adG (xG x) (this))), (1, vR (xG x) (some k1))]) O 2 dX6_is_49 rfl (by rw [hm]; decide) rfl ?_
        refine j_goto O (tgt := 20) dX6_is_52 (by decide) ?_
        exact (J.sub [1, 2, 0] rfl <| ih _ _ h)
      · refine j_iconst O dX6_is_47 ?_
        exact j_zret O hr dX6_is_48 h
theorem mt_X6_is (l : Launch) (G : GW) (this : Nat) (p1 : Option Nat) (w : Wd) (Q : Int → Wd → Prop) (h : wp_X6_is this p1 w Q) : MI l G yX6_is cX6_is 3 (.boolean) 5 0 0 [.ref (adG G (this)), vR G (p1)] w Q := by
  refine met_I (fun G => [.ref (adG G (this)), vR G (p1)]) (by decide) (fun G => by cases p1 <;> exact Nat.le_of_ble_eq_true rfl) (fun x O hl hm hr => ?_)
  subst hl
  have O : OK x "DowryBoxes$Reader" cX6_is 5 := O
  have h : wp_X6_is this p1 w Q := h
  unfold wp_X6_is at h
  rw [show lv_args 0 [.ref (adG (xG x) (this)), vR (xG x) (p1)] = [(0, .ref (adG (xG x) (this))), (1, vR (xG x) (p1))] from by cases p1 <;> rfl]
  show J x (TI x Q) w 0 0 0 [(0, .ref (adG (xG x) (this))), (1, vR (xG x) (p1))] []
  refine j_aload_n O 0 0 dX6_is_0 rfl rfl ?_
  refine j_getI2 O cfX7 cfX20 4 ⟨Nat.le_of_ble_eq_true rfl, Nat.le_of_ble_eq_true rfl⟩ ⟨rfl, rfl⟩ q795 q795 dX6_is_1 h (fun v1 h => ?_)
  refine j_aload_n O 0 0 dX6_is_4 rfl rfl ?_
  refine j_getI2 O cfX7 cfX20 3 ⟨Nat.le_of_ble_eq_true rfl, Nat.le_of_ble_eq_true rfl⟩ ⟨rfl, rfl⟩ q794 q794 dX6_is_5 h (fun v2 h => ?_)
  refine j_isub O dX6_is_8 ?_
  refine j_aloadq_n O 1 1 dX6_is_9 rfl rfl ?_
  obtain ⟨k3, e_k3, g_k3⟩ := h
  subst e_k3
  have h := g_k3
  obtain ⟨e6, h⟩ := h
  refine fin_I O ⟨Nat.zero_le _, Nat.zero_le _⟩ (run_VS (As := []) (st := [vI (v1 - v2)]) O (mt_J9_length (xl x) (xG x) _ _ _ h) e6 q851 q852 q853 q138 q854 hy_J9_length (Nat.le_of_ble_eq_true rfl) (Nat.le_of_ble_eq_true rfl) ⟨Nat.zero_le _, Nat.zero_le _⟩ rfl (Nat.le_of_ble_eq_true rfl) dX6_is_10) (fun r4 w5 h => ?_)
  obtain ⟨c7, h⟩ := h
  obtain ⟨c8, h⟩ := h
  refine j_icmp_eq O (tgt := 18) dX6_is_13 (by decide) c7 c8 h (fun h => ?_) (fun h => ?_)
  · refine j_iconst O dX6_is_18 ?_
    refine j_istore_n (L' := [(2, vI (0)), (0, .ref (adG (xG x) (this))), (1, vR (xG x) (some k3))]) O 2 dX6_is_19 rfl (by rw [hm]; decide) rfl ?_
    exact (J.sub [1, 2, 0] rfl <| wk_X6_is_20 O hr hm  _ _  FU _ _ h)
  · refine j_iconst O dX6_is_16 ?_
    exact j_zret O hr dX6_is_17 h
theorem hy_J3_init_2 : (yJ3_init_2.cls = "java/lang/Throwable" ∧ yJ3_init_2.cls ≠ "java/lang/invoke/MethodHandle" ∧ yJ3_init_2.cls ≠ "java/lang/invoke/VarHandle" ∧ (parseMethodDescriptor yJ3_init_2.desc).map (fun d => d.parameters.length) = some 4) := by decide +kernel
theorem mt_J3_init_2 (l : Launch) (G : GW) (this : Nat) (p1 : Option Nat) (p2 : Option Nat) (p3 : Int) (p4 : Int) (w : Wd) (Q : Wd → Prop) (h : wp_J3_init_2 this p1 p2 p3 p4 w Q) : MV l G yJ3_init_2 cJ3_init_2 5 1 0 0 [.ref (adG G (this)), vR G (p1), vR G (p2), vI (p3), vI (p4)] w Q := by
  refine met_V (fun G => [.ref (adG G (this)), vR G (p1), vR G (p2), vI (p3), vI (p4)]) (by decide) (fun G => by cases p1 <;> cases p2 <;> exact Nat.le_of_ble_eq_true rfl) (fun x O hl hm hr hn => ?_)
  subst hl
  have O : OK x "java/lang/Throwable" cJ3_init_2 1 := O
  have h : wp_J3_init_2 this p1 p2 p3 p4 w Q := h
  unfold wp_J3_init_2 at h
  rw [show lv_args 0 [.ref (adG (xG x) (this)), vR (xG x) (p1), vR (xG x) (p2), vI (p3), vI (p4)] = [(0, .ref (adG (xG x) (this))), (1, vR (xG x) (p1)), (2, vR (xG x) (p2)), (3, vI (p3)), (4, vI (p4))] from by cases p1 <;> cases p2 <;> rfl]
  show J x (TV x Q) w 0 0 0 [(0, .ref (adG (xG x) (this))), (1, vR (xG x) (p1)), (2, vR (xG x) (p2)), (3, vI (p3)), (4, vI (p4))] []
  refine j_aload_n O 0 0 dJ3_init_2_0 rfl rfl ?_
  refine j_objInit O q309 q163 q164 (Nat.le_of_ble_eq_true rfl) (Nat.le_of_ble_eq_true rfl) dJ3_init_2_1 ?_
  refine j_aload_n O 0 0 dJ3_init_2_4 rfl rfl ?_
  refine j_aload_n O 0 0 dJ3_init_2_5 rfl rfl ?_
  refine j_putR2 (v := (some this)) O cfX4 cfX8 0 ⟨Nat.le_of_ble_eq_true rfl, Nat.le_of_ble_eq_true rfl⟩ ⟨(.inl ⟨_, rfl⟩), (.inl ⟨_, rfl⟩)⟩ q335 q335 ⟨rfl, rfl⟩ dJ3_init_2_6 h (fun w1 h => ?_)
  refine j_aload_n O 0 0 dJ3_init_2_9 rfl rfl ?_
  refine j_gets O O.2.2.1.2.2.2.2.2.1.1 q310 dJ3_init_2_10 h (fun o2 h => ?_)
  refine j_putR2 (v := o2) O cfX4 cfX8 1 ⟨Nat.le_of_ble_eq_true rfl, Nat.le_of_ble_eq_true rfl⟩ ⟨(.inr ⟨_, rfl⟩), (.inr ⟨_, rfl⟩)⟩ q336 q336 ⟨rfl, rfl⟩ dJ3_init_2_13 h (fun w3 h => ?_)
  refine j_aload_n O 0 0 dJ3_init_2_16 rfl rfl ?_
  refine j_gets O O.2.2.1.2.2.2.2.2.1.2.1 q312 dJ3_init_2_17 h (fun o4 h => ?_)
  refine j_putR2 (v := o4) O cfX4 cfX8 2 ⟨Nat.le_of_ble_eq_true rfl, Nat.le_of_ble_eq_true rfl⟩ ⟨(.inl ⟨_, rfl⟩), (.inl ⟨_, rfl⟩)⟩ q337 q337 ⟨rfl, rfl⟩ dJ3_init_2_20 h (fun w5 h => ?_)
  refine j_iload O 4 dJ3_init_2_23 rfl ?_
  obtain ⟨c6, h⟩ := h
  refine j_if_eq O (tgt := 36) dJ3_init_2_25 (by decide) c6 h (fun h => ?_) (fun h => ?_)
  · refine j_aload_n O 0 0 dJ3_init_2_36 rfl rfl ?_
    refine j_null O dJ3_init_2_37 ?_
    refine j_putR2 (v := none) O cfX4 cfX8 1 ⟨Nat.le_of_ble_eq_true rfl, Nat.le_of_ble_eq_true rfl⟩ ⟨(.inr ⟨_, rfl⟩), (.inr ⟨_, rfl⟩)⟩ q336 q336 ⟨rfl, rfl⟩ dJ3_init_2_38 h (fun w7 h => ?_)
    refine j_aload_n O 0 0 dJ3_init_2_41 rfl rfl ?_
    refine j_aloadq_n O 1 1 dJ3_init_2_42 rfl rfl ?_
    refine j_putR2 (v := p1) O cfX4 cfX8 3 ⟨Nat.le_of_ble_eq_true rfl, Nat.le_of_ble_eq_true rfl⟩ ⟨(.inl ⟨_, rfl⟩), (.inl ⟨_, rfl⟩)⟩ q334 q334 ⟨rfl, rfl⟩ dJ3_init_2_43 h (fun w8 h => ?_)
    refine j_aload_n O 0 0 dJ3_init_2_46 rfl rfl ?_
    refine j_aloadq_n O 2 2 dJ3_init_2_47 rfl rfl ?_
    refine j_putR2 (v := p2) O cfX4 cfX8 0 ⟨Nat.le_of_ble_eq_true rfl, Nat.le_of_ble_eq_true rfl⟩ ⟨(.inl ⟨_, rfl⟩), (.inl ⟨_, rfl⟩)⟩ q335 q335 ⟨rfl, rfl⟩ dJ3_init_2_48 h (fun w9 h => ?_)
    refine j_iload_n O 3 3 dJ3_init_2_51 rfl rfl ?_
    obtain ⟨c10, h⟩ := h
    refine j_if_ne O (tgt := 60) dJ3_init_2_52 (by decide) c10 h (fun h => ?_) (fun h => ?_)
    · exact j_vret O hr dJ3_init_2_60 h
    · refine j_aload_n O 0 0 dJ3_init_2_55 rfl rfl ?_
      refine j_null O dJ3_init_2_56 ?_
      refine j_putR2 (v := none) O cfX4 cfX8 2 ⟨Nat.le_of_ble_eq_true rfl, Nat.le_of_ble_eq_true rfl⟩ ⟨(.inl ⟨_, rfl⟩), (.inl ⟨_, rfl⟩)⟩ q337 q337 ⟨rfl, rfl⟩ dJ3_init_2_57 h (fun w11 h => ?_)
      exact j_vret O hr dJ3_init_2_60 h
  · refine j_aload_n O 0 0 dJ3_init_2_28 rfl rfl ?_
    exact False.elim h
theorem hy_J4_init : (yJ4_init.cls = "java/lang/Exception" ∧ yJ4_init.cls ≠ "java/lang/invoke/MethodHandle" ∧ yJ4_init.cls ≠ "java/lang/invoke/VarHandle" ∧ (parseMethodDescriptor yJ4_init.desc).map (fun d => d.parameters.length) = some 4) := by decide +kernel
theorem mt_J4_init (l : Launch) (G : GW) (this : Nat) (p1 : Option Nat) (p2 : Option Nat) (p3 : Int) (p4 : Int) (w : Wd) (Q : Wd → Prop) (h : wp_J4_init this p1 p2 p3 p4 w Q) : MV l G yJ4_init cJ4_init 5 2 0 0 [.ref (adG G (this)), vR G (p1), vR G (p2), vI (p3), vI (p4)] w Q := by
  refine met_V (fun G => [.ref (adG G (this)), vR G (p1), vR G (p2), vI (p3), vI (p4)]) (by decide) (fun G => by cases p1 <;> cases p2 <;> exact Nat.le_of_ble_eq_true rfl) (fun x O hl hm hr hn => ?_)
  subst hl
  have O : OK x "java/lang/Exception" cJ4_init 2 := O
  have h : wp_J4_init this p1 p2 p3 p4 w Q := h
  unfold wp_J4_init at h
  rw [show lv_args 0 [.ref (adG (xG x) (this)), vR (xG x) (p1), vR (xG x) (p2), vI (p3), vI (p4)] = [(0, .ref (adG (xG x) (this))), (1, vR (xG x) (p1)), (2, vR (xG x) (p2)), (3, vI (p3)), (4, vI (p4))] from by cases p1 <;> cases p2 <;> rfl]
  show J x (TV x Q) w 0 0 0 [(0, .ref (adG (xG x) (this))), (1, vR (xG x) (p1)), (2, vR (xG x) (p2)), (3, vI (p3)), (4, vI (p4))] []
  refine j_aload_n O 0 0 dJ4_init_0 rfl rfl ?_
  refine j_aloadq_n O 1 1 dJ4_init_1 rfl rfl ?_
  refine j_aloadq_n O 2 2 dJ4_init_2 rfl rfl ?_
  refine j_iload_n O 3 3 dJ4_init_3 rfl rfl ?_
  refine j_iload O 4 dJ4_init_4 rfl ?_
  refine fin_V O ⟨Nat.zero_le _, Nat.zero_le _⟩ (run_I (As := [vR (xG x) (p1), vR (xG x) (p2), vI (p3), vI (p4)]) (st := []) O (mt_J3_init_2 (xl x) (xG x) _ _ _ _ _ _ _ h) q330 q331 q128 q332 rfl hy_J3_init_2.2 (Nat.le_of_ble_eq_true rfl) (Nat.le_of_ble_eq_true rfl) ⟨Nat.zero_le _, Nat.zero_le _⟩ rfl (Nat.le_of_ble_eq_true rfl) dJ4_init_6) (fun w1 h => ?_)
  exact j_vret O hr dJ4_init_9 h
theorem hy_X8_init : (yX8_init.cls = "DowryBoxes$Fault" ∧ yX8_init.cls ≠ "java/lang/invoke/MethodHandle" ∧ yX8_init.cls ≠ "java/lang/invoke/VarHandle" ∧ (parseMethodDescriptor yX8_init.desc).map (fun d => d.parameters.length) = some 1) := by decide +kernel
theorem mt_X8_init (l : Launch) (G : GW) (this : Nat) (p1 : Int) (w : Wd) (Q : Wd → Prop) (h : wp_X8_init this p1 w Q) : MV l G yX8_init cX8_init 2 3 0 0 [.ref (adG G (this)), vI (p1)] w Q := by
  refine met_V (fun G => [.ref (adG G (this)), vI (p1)]) (by decide) (fun G => Nat.le_of_ble_eq_true rfl) (fun x O hl hm hr hn => ?_)
  subst hl
  have O : OK x "DowryBoxes$Fault" cX8_init 3 := O
  have h : wp_X8_init this p1 w Q := h
  unfold wp_X8_init at h
  show J x (TV x Q) w 0 0 0 [(0, .ref (adG (xG x) (this))), (1, vI (p1))] []
  refine j_aload_n O 0 0 dX8_init_0 rfl rfl ?_
  refine j_null O dX8_init_1 ?_
  refine j_null O dX8_init_2 ?_
  refine j_iconst O dX8_init_3 ?_
  refine j_iconst O dX8_init_4 ?_
  refine fin_V O ⟨Nat.zero_le _, Nat.zero_le _⟩ (run_I (As := [vR (xG x) (none), vR (xG x) (none), vI (0), vI (0)]) (st := []) O (mt_J4_init (xl x) (xG x) _ _ _ _ _ _ _ h) q918 q328 q129 q329 rfl hy_J4_init.2 (Nat.le_of_ble_eq_true rfl) (Nat.le_of_ble_eq_true rfl) ⟨Nat.zero_le _, Nat.zero_le _⟩ rfl (Nat.le_of_ble_eq_true rfl) dX8_init_5) (fun w1 h => ?_)
  refine j_aload_n O 0 0 dX8_init_8 rfl rfl ?_
  refine j_iload_n O 1 1 dX8_init_9 rfl rfl ?_
  refine j_putFI O cfX8 6 (Nat.le_of_ble_eq_true rfl) rfl q919 rfl hn rfl dX8_init_10 h (fun w2 h => ?_)
  exact j_vret O hr dX8_init_13 h
theorem hy_X6_begins : (yX6_begins.cls = "DowryBoxes$Reader" ∧ yX6_begins.cls ≠ "java/lang/invoke/MethodHandle" ∧ yX6_begins.cls ≠ "java/lang/invoke/VarHandle" ∧ (parseMethodDescriptor yX6_begins.desc).map (fun d => d.parameters.length) = some 1) := by decide +kernel
theorem wk_X6_begins_13 {x : Cx} (O : OK x "DowryBoxes$Reader" cX6_begins 4) (hr : (xM x).sig.returnType = none) (hm : xn x = 2) (hne : ∀ z ∈ (xc x).exceptionTable.toList, False) {Q : Wd → Prop} {XE : Nat → Wd → Prop} (this : Nat) (bc bs : Nat) (w : Wd) (h : wp_X6_begins_13 Q XE this bc bs w) : J x (TXV x Q XE) w bc bs 13 [(0, .ref (adG (xG x) (this)))] [] := by
  unfold wp_X6_begins_13 at h
  refine j_newO O cfX8 q906 q907 q141 dX6_begins_13 h (fun k1 w2 h => ?_)
  refine j_dup O dX6_begins_16 rfl ?_
  refine j_aload_n O 0 0 dX6_begins_17 rfl rfl ?_
  refine j_getI2 O cfX7 cfX20 3 ⟨Nat.le_of_ble_eq_true rfl, Nat.le_of_ble_eq_true rfl⟩ ⟨rfl, rfl⟩ q794 q794 dX6_begins_18 h (fun v3 h => ?_)
  refine fin_V O ⟨Nat.zero_le _, Nat.zero_le _⟩ (run_I (As := [vI (v3)]) (st := [.ref (adG (xG x) (k1))]) O (mt_X8_init (xl x) (xG x) _ _ _ _ h) q915 q916 q141 q917 rfl hy_X8_init.2 (Nat.le_of_ble_eq_true rfl) (Nat.le_of_ble_eq_true rfl) ⟨Nat.zero_le _, Nat.zero_le _⟩ rfl (Nat.le_of_ble_eq_true rfl) dX6_begins_21) (fun w4 h => ?_)
  exact jx_throw O hne dX6_begins_24 h
theorem mt_X6_begins (l : Launch) (G : GW) (this : Nat) (p1 : Int) (bc bs : Nat) (w : Wd) (Q : Wd → Prop) (XE : Nat → Wd → Prop) (h : wp_X6_begins this p1 bc bs w Q XE) : XV l G yX6_begins cX6_begins 2 4 bc bs [.ref (adG G (this)), vI (p1)] w Q XE := by
  refine metX_V (fun G => [.ref (adG G (this)), vI (p1)]) (by decide) (fun G => Nat.le_of_ble_eq_true rfl) (fun x O hl hm hr hne => ?_)
  subst hl
  have O : OK x "DowryBoxes$Reader" cX6_begins 4 := O
  have h : wp_X6_begins this p1 bc bs w Q XE := h
  unfold wp_X6_begins at h
  show J x (TXV x Q XE) w bc bs 0 [(0, .ref (adG (xG x) (this))), (1, vI (p1))] []
  refine j_aload_n O 0 0 dX6_begins_0 rfl rfl ?_
  refine j_getI2 O cfX7 cfX20 2 ⟨Nat.le_of_ble_eq_true rfl, Nat.le_of_ble_eq_true rfl⟩ ⟨rfl, rfl⟩ q793 q793 dX6_begins_1 h (fun v1 h => ?_)
  refine j_bipush (m := 12) O dX6_begins_4 bi_12 ?_
  obtain ⟨c2, h⟩ := h
  refine j_icmp_eq O (tgt := 13) dX6_begins_6 (by decide) c2 (by decide) h (fun h => ?_) (fun h => ?_)
  · exact (J.sub [0] rfl <| wk_X6_begins_13 O hr hm hne  _  _ _ _ h)
  · refine j_iload_n O 1 1 dX6_begins_9 rfl rfl ?_
    obtain ⟨c3, h⟩ := h
    refine j_if_ne O (tgt := 25) dX6_begins_10 (by decide) c3 h (fun h => ?_) (fun h => ?_)
    · refine j_aload_n O 0 0 dX6_begins_25 rfl rfl ?_
      refine j_dup O dX6_begins_26 rfl ?_
      refine j_getI2 O cfX7 cfX20 2 ⟨Nat.le_of_ble_eq_true rfl, Nat.le_of_ble_eq_true rfl⟩ ⟨rfl, rfl⟩ q793 q793 dX6_begins_27 h (fun v4 h => ?_)
      refine j_iconst O dX6_begins_30 ?_
      refine j_iadd O dX6_begins_31 ?_
      refine j_putI2 (v := (v4 + 1)) O cfX7 cfX20 2 ⟨Nat.le_of_ble_eq_true rfl, Nat.le_of_ble_eq_true rfl⟩ ⟨rfl, rfl⟩ q793 q793 ⟨rfl, rfl⟩ dX6_begins_32 h (fun w5 h => ?_)
      exact J.toX (j_vret O hr dX6_begins_35 h)
    · exact (J.sub [0] rfl <| wk_X6_begins_13 O hr hm hne  _  _ _ _ h)
theorem hy_X9_init : (yX9_init.cls = "DowryBoxes$Clause" ∧ yX9_init.cls ≠ "java/lang/invoke/MethodHandle" ∧ yX9_init.cls ≠ "java/lang/invoke/VarHandle" ∧ (parseMethodDescriptor yX9_init.desc).map (fun d => d.parameters.length) = some 1) := by decide +kernel
theorem mt_X9_init (l : Launch) (G : GW) (this : Nat) (p1 : Int) (w : Wd) (Q : Wd → Prop) (h : wp_X9_init this p1 w Q) : MV l G yX9_init cX9_init 2 1 0 0 [.ref (adG G (this)), vI (p1)] w Q := by
  refine met_V (fun G => [.ref (adG G (this)), vI (p1)]) (by decide) (fun G => Nat.le_of_ble_eq_true rfl) (fun x O hl hm hr hn => ?_)
  subst hl
  have O : OK x "DowryBoxes$Clause" cX9_init 1 := O
  have h : wp_X9_init this p1 w Q := h
  unfold wp_X9_init at h
  show J x (TV x Q) w 0 0 0 [(0, .ref (adG (xG x) (this))), (1, vI (p1))] []
  refine j_aload_n O 0 0 dX9_init_0 rfl rfl ?_
  refine j_objInit O q934 q163 q164 (Nat.le_of_ble_eq_true rfl) (Nat.le_of_ble_eq_true rfl) dX9_init_1 ?_
  refine j_aload_n O 0 0 dX9_init_4 rfl rfl ?_
  refine j_iload_n O 1 1 dX9_init_5 rfl rfl ?_
  refine j_putFI O cfX9 0 (Nat.le_of_ble_eq_true rfl) rfl q935 rfl hn rfl dX9_init_6 h (fun w1 h => ?_)
  exact j_vret O hr dX9_init_9 h
theorem hy_X6_opens : (yX6_opens.cls = "DowryBoxes$Reader" ∧ yX6_opens.cls ≠ "java/lang/invoke/MethodHandle" ∧ yX6_opens.cls ≠ "java/lang/invoke/VarHandle" ∧ (parseMethodDescriptor yX6_opens.desc).map (fun d => d.parameters.length) = some 0) := by decide +kernel
theorem mt_X6_opens (l : Launch) (G : GW) (this : Nat) (bc bs : Nat) (w : Wd) (Q : Wd → Prop) (XE : Nat → Wd → Prop) (h : wp_X6_opens this bc bs w Q XE) : XV l G yX6_opens cX6_opens 1 4 bc bs [.ref (adG G (this))] w Q XE := by
  refine metX_V (fun G => [.ref (adG G (this))]) (by decide) (fun G => Nat.le_of_ble_eq_true rfl) (fun x O hl hm hr hne => ?_)
  subst hl
  have O : OK x "DowryBoxes$Reader" cX6_opens 4 := O
  have h : wp_X6_opens this bc bs w Q XE := h
  unfold wp_X6_opens at h
  show J x (TXV x Q XE) w bc bs 0 [(0, .ref (adG (xG x) (this)))] []
  refine j_aload_n O 0 0 dX6_opens_0 rfl rfl ?_
  refine j_getI2 O cfX7 cfX20 6 ⟨Nat.le_of_ble_eq_true rfl, Nat.le_of_ble_eq_true rfl⟩ ⟨rfl, rfl⟩ q797 q797 dX6_opens_1 h (fun v1 h => ?_)
  refine j_bipush (m := 8) O dX6_opens_4 bi_8 ?_
  obtain ⟨c2, h⟩ := h
  refine j_icmp_ne O (tgt := 21) dX6_opens_6 (by decide) c2 (by decide) h (fun h => ?_) (fun h => ?_)
  · refine j_aload_n O 0 0 dX6_opens_21 rfl rfl ?_
    refine j_dup O dX6_opens_22 rfl ?_
    refine j_getI2 O cfX7 cfX20 6 ⟨Nat.le_of_ble_eq_true rfl, Nat.le_of_ble_eq_true rfl⟩ ⟨rfl, rfl⟩ q797 q797 dX6_opens_23 h (fun v3 h => ?_)
    refine j_iconst O dX6_opens_26 ?_
    refine j_iadd O dX6_opens_27 ?_
    refine j_putI2 (v := (v3 + 1)) O cfX7 cfX20 6 ⟨Nat.le_of_ble_eq_true rfl, Nat.le_of_ble_eq_true rfl⟩ ⟨rfl, rfl⟩ q797 q797 ⟨rfl, rfl⟩ dX6_opens_28 h (fun w4 h => ?_)
    refine j_aload_n O 0 0 dX6_opens_31 rfl rfl ?_
    obtain ⟨e6, h⟩ := h
    refine fin_V O ⟨Nat.zero_le _, Nat.zero_le _⟩ (run_U2 (As := []) (st := []) (x0 := ⟨"DowryBoxes$Reader", "next", "()V"⟩) (owner := "DowryBoxes$Reader") O (mt_X6_next (xl x) (xG x) _ _ _ h) e6 cfX7.1 cfX20.1 (lw_U q826 q828 q829 q827 q136 q831) (lw_U q826 q828 q830 q827 q136 q831) rfl hy_X6_next.2 (Nat.le_of_ble_eq_true rfl) (Nat.le_of_ble_eq_true rfl) ⟨Nat.zero_le _, Nat.zero_le _⟩ rfl (Nat.le_of_ble_eq_true rfl) dX6_opens_32) (fun w5 h => ?_)
    exact J.toX (j_vret O hr dX6_opens_35 h)
  · refine j_newO O cfX8 q906 q907 q141 dX6_opens_9 h (fun k7 w8 h => ?_)
    refine j_dup O dX6_opens_12 rfl ?_
    refine j_aload_n O 0 0 dX6_opens_13 rfl rfl ?_
    refine j_getI2 O cfX7 cfX20 3 ⟨Nat.le_of_ble_eq_true rfl, Nat.le_of_ble_eq_true rfl⟩ ⟨rfl, rfl⟩ q794 q794 dX6_opens_14 h (fun v9 h => ?_)
    refine fin_V O ⟨Nat.zero_le _, Nat.zero_le _⟩ (run_I (As := [vI (v9)]) (st := [.ref (adG (xG x) (k7))]) O (mt_X8_init (xl x) (xG x) _ _ _ _ h) q915 q916 q141 q917 rfl hy_X8_init.2 (Nat.le_of_ble_eq_true rfl) (Nat.le_of_ble_eq_true rfl) ⟨Nat.zero_le _, Nat.zero_le _⟩ rfl (Nat.le_of_ble_eq_true rfl) dX6_opens_17) (fun w10 h => ?_)
    exact jx_throw O hne dX6_opens_20 h
theorem hy_X6_takes : (yX6_takes.cls = "DowryBoxes$Reader" ∧ yX6_takes.cls ≠ "java/lang/invoke/MethodHandle" ∧ yX6_takes.cls ≠ "java/lang/invoke/VarHandle" ∧ (parseMethodDescriptor yX6_takes.desc).map (fun d => d.parameters.length) = some 1) := by decide +kernel
theorem mt_X6_takes (l : Launch) (G : GW) (this : Nat) (p1 : Option Nat) (w : Wd) (Q : Int → Wd → Prop) (h : wp_X6_takes this p1 w Q) : MI l G yX6_takes cX6_takes 3 (.boolean) 6 0 0 [.ref (adG G (this)), vR G (p1)] w Q := by
  refine met_I (fun G => [.ref (adG G (this)), vR G (p1)]) (by decide) (fun G => by cases p1 <;> exact Nat.le_of_ble_eq_true rfl) (fun x O hl hm hr => ?_)
  subst hl
  have O : OK x "DowryBoxes$Reader" cX6_takes 6 := O
  have h : wp_X6_takes this p1 w Q := h
  unfold wp_X6_takes at h
  rw [show lv_args 0 [.ref (adG (xG x) (this)), vR (xG x) (p1)] = [(0, .ref (adG (xG x) (this))), (1, vR (xG x) (p1))] from by cases p1 <;> rfl]
  show J x (TI x Q) w 0 0 0 [(0, .ref (adG (xG x) (this))), (1, vR (xG x) (p1))] []
  refine j_aload_n O 0 0 dX6_takes_0 rfl rfl ?_
  refine j_aloadq_n O 1 1 dX6_takes_1 rfl rfl ?_
  obtain ⟨e3, h⟩ := h
  refine fin_I O ⟨Nat.zero_le _, Nat.zero_le _⟩ (run_U2 (As := [vR (xG x) (p1)]) (st := []) (x0 := ⟨"DowryBoxes$Reader", "is", "(Ljava/lang/String;)Z"⟩) (owner := "DowryBoxes$Reader") O (mt_X6_is (xl x) (xG x) _ _ _ _ h) e3 cfX7.1 cfX20.1 (lw_U q967 q2276 q2277 q849 q136 q850) (lw_U q967 q2276 q2278 q849 q136 q850) rfl hy_X6_is.2 (Nat.le_of_ble_eq_true rfl) (Nat.le_of_ble_eq_true rfl) ⟨Nat.zero_le _, Nat.zero_le _⟩ rfl (Nat.le_of_ble_eq_true rfl) dX6_takes_2) (fun r1 w2 h => ?_)
  refine j_istore_n (L' := [(2, vI (r1)), (0, .ref (adG (xG x) (this))), (1, vR (xG x) (p1))]) O 2 dX6_takes_5 rfl (by rw [hm]; decide) (by cases p1 <;> rfl) ?_
  refine j_iload_n O 0 2 dX6_takes_6 rfl rfl ?_
  obtain ⟨c4, h⟩ := h
  refine j_if_eq O (tgt := 14) dX6_takes_7 (by decide) c4 h (fun h => ?_) (fun h => ?_)
  · refine j_iload_n O 0 2 dX6_takes_14 rfl rfl ?_
    exact j_zret O hr dX6_takes_15 h
  · refine j_aload_n O 1 0 dX6_takes_10 rfl rfl ?_
    obtain ⟨e6, h⟩ := h
    refine fin_V O ⟨Nat.zero_le _, Nat.zero_le _⟩ (run_U2 (As := []) (st := []) (x0 := ⟨"DowryBoxes$Reader", "next", "()V"⟩) (owner := "DowryBoxes$Reader") O (mt_X6_next (xl x) (xG x) _ _ _ h) e6 cfX7.1 cfX20.1 (lw_U q826 q828 q829 q827 q136 q831) (lw_U q826 q828 q830 q827 q136 q831) rfl hy_X6_next.2 (Nat.le_of_ble_eq_true rfl) (Nat.le_of_ble_eq_true rfl) ⟨Nat.zero_le _, Nat.zero_le _⟩ rfl (Nat.le_of_ble_eq_true rfl) dX6_takes_11) (fun w5 h => ?_)
    refine j_iload_n O 0 2 dX6_takes_14 rfl rfl ?_
    exact j_zret O hr dX6_takes_15 h
theorem hy_X6_need : (yX6_need.cls = "DowryBoxes$Reader" ∧ yX6_need.cls ≠ "java/lang/invoke/MethodHandle" ∧ yX6_need.cls ≠ "java/lang/invoke/VarHandle" ∧ (parseMethodDescriptor yX6_need.desc).map (fun d => d.parameters.length) = some 1) := by decide +kernel
theorem mt_X6_need (l : Launch) (G : GW) (this : Nat) (p1 : Option Nat) (bc bs : Nat) (w : Wd) (Q : Wd → Prop) (XE : Nat → Wd → Prop) (h : wp_X6_need this p1 bc bs w Q XE) : XV l G yX6_need cX6_need 2 7 bc bs [.ref (adG G (this)), vR G (p1)] w Q XE := by
  refine metX_V (fun G => [.ref (adG G (this)), vR G (p1)]) (by decide) (fun G => by cases p1 <;> exact Nat.le_of_ble_eq_true rfl) (fun x O hl hm hr hne => ?_)
  subst hl
  have O : OK x "DowryBoxes$Reader" cX6_need 7 := O
  have h : wp_X6_need this p1 bc bs w Q XE := h
  unfold wp_X6_need at h
  rw [show lv_args 0 [.ref (adG (xG x) (this)), vR (xG x) (p1)] = [(0, .ref (adG (xG x) (this))), (1, vR (xG x) (p1))] from by cases p1 <;> rfl]
  show J x (TXV x Q XE) w bc bs 0 [(0, .ref (adG (xG x) (this))), (1, vR (xG x) (p1))] []
  refine j_aload_n O 0 0 dX6_need_0 rfl rfl ?_
  refine j_aloadq_n O 1 1 dX6_need_1 rfl rfl ?_
  obtain ⟨e3, h⟩ := h
  refine fin_I O ⟨Nat.zero_le _, Nat.zero_le _⟩ (run_U2 (As := [vR (xG x) (p1)]) (st := []) (x0 := ⟨"DowryBoxes$Reader", "takes", "(Ljava/lang/String;)Z"⟩) (owner := "DowryBoxes$Reader") O (mt_X6_takes (xl x) (xG x) _ _ _ _ h) e3 cfX7.1 cfX20.1 (lw_U q982 q984 q985 q983 q136 q987) (lw_U q982 q984 q986 q983 q136 q987) rfl hy_X6_takes.2 (Nat.le_of_ble_eq_true rfl) (Nat.le_of_ble_eq_true rfl) ⟨Nat.zero_le _, Nat.zero_le _⟩ rfl (Nat.le_of_ble_eq_true rfl) dX6_need_2) (fun r1 w2 h => ?_)
  obtain ⟨c4, h⟩ := h
  refine j_if_ne O (tgt := 20) dX6_need_5 (by decide) c4 h (fun h => ?_) (fun h => ?_)
  · exact J.toX (j_vret O hr dX6_need_20 h)
  · refine j_newO O cfX8 q906 q907 q141 dX6_need_8 h (fun k5 w6 h => ?_)
    refine j_dup O dX6_need_11 rfl ?_
    refine j_aload_n O 0 0 dX6_need_12 rfl rfl ?_
    refine j_getI2 O cfX7 cfX20 3 ⟨Nat.le_of_ble_eq_true rfl, Nat.le_of_ble_eq_true rfl⟩ ⟨rfl, rfl⟩ q794 q794 dX6_need_13 h (fun v7 h => ?_)
    refine fin_V O ⟨Nat.zero_le _, Nat.zero_le _⟩ (run_I (As := [vI (v7)]) (st := [.ref (adG (xG x) (k5))]) O (mt_X8_init (xl x) (xG x) _ _ _ _ h) q915 q916 q141 q917 rfl hy_X8_init.2 (Nat.le_of_ble_eq_true rfl) (Nat.le_of_ble_eq_true rfl) ⟨Nat.zero_le _, Nat.zero_le _⟩ rfl (Nat.le_of_ble_eq_true rfl) dX6_need_16) (fun w8 h => ?_)
    exact jx_throw O hne dX6_need_19 h
theorem hy_X6_leaf : (yX6_leaf.cls = "DowryBoxes$Reader" ∧ yX6_leaf.cls ≠ "java/lang/invoke/MethodHandle" ∧ yX6_leaf.cls ≠ "java/lang/invoke/VarHandle" ∧ (parseMethodDescriptor yX6_leaf.desc).map (fun d => d.parameters.length) = some 0) := by decide +kernel
theorem mt_X6_leaf (l : Launch) (G : GW) (this : Nat) (bc bs : Nat) (w : Wd) (Q : Wd → Prop) (XE : Nat → Wd → Prop) (h : wp_X6_leaf this bc bs w Q XE) : XV l G yX6_leaf cX6_leaf 1 4 bc bs [.ref (adG G (this))] w Q XE := by
  refine metX_V (fun G => [.ref (adG G (this))]) (by decide) (fun G => Nat.le_of_ble_eq_true rfl) (fun x O hl hm hr hne => ?_)
  subst hl
  have O : OK x "DowryBoxes$Reader" cX6_leaf 4 := O
  have h : wp_X6_leaf this bc bs w Q XE := h
  unfold wp_X6_leaf at h
  show J x (TXV x Q XE) w bc bs 0 [(0, .ref (adG (xG x) (this)))] []
  refine j_aload_n O 0 0 dX6_leaf_0 rfl rfl ?_
  refine j_getI2 O cfX7 cfX20 5 ⟨Nat.le_of_ble_eq_true rfl, Nat.le_of_ble_eq_true rfl⟩ ⟨rfl, rfl⟩ q796 q796 dX6_leaf_1 h (fun v1 h => ?_)
  refine j_bipush (m := 50) O dX6_leaf_4 bi_50 ?_
  obtain ⟨c2, h⟩ := h
  refine j_icmp_ne O (tgt := 21) dX6_leaf_6 (by decide) c2 (by decide) h (fun h => ?_) (fun h => ?_)
  · refine j_aload_n O 0 0 dX6_leaf_21 rfl rfl ?_
    refine j_dup O dX6_leaf_22 rfl ?_
    refine j_getI2 O cfX7 cfX20 5 ⟨Nat.le_of_ble_eq_true rfl, Nat.le_of_ble_eq_true rfl⟩ ⟨rfl, rfl⟩ q796 q796 dX6_leaf_23 h (fun v3 h => ?_)
    refine j_iconst O dX6_leaf_26 ?_
    refine j_iadd O dX6_leaf_27 ?_
    refine j_putI2 (v := (v3 + 1)) O cfX7 cfX20 5 ⟨Nat.le_of_ble_eq_true rfl, Nat.le_of_ble_eq_true rfl⟩ ⟨rfl, rfl⟩ q796 q796 ⟨rfl, rfl⟩ dX6_leaf_28 h (fun w4 h => ?_)
    exact J.toX (j_vret O hr dX6_leaf_31 h)
  · refine j_newO O cfX8 q906 q907 q141 dX6_leaf_9 h (fun k5 w6 h => ?_)
    refine j_dup O dX6_leaf_12 rfl ?_
    refine j_aload_n O 0 0 dX6_leaf_13 rfl rfl ?_
    refine j_getI2 O cfX7 cfX20 3 ⟨Nat.le_of_ble_eq_true rfl, Nat.le_of_ble_eq_true rfl⟩ ⟨rfl, rfl⟩ q794 q794 dX6_leaf_14 h (fun v7 h => ?_)
    refine fin_V O ⟨Nat.zero_le _, Nat.zero_le _⟩ (run_I (As := [vI (v7)]) (st := [.ref (adG (xG x) (k5))]) O (mt_X8_init (xl x) (xG x) _ _ _ _ h) q915 q916 q141 q917 rfl hy_X8_init.2 (Nat.le_of_ble_eq_true rfl) (Nat.le_of_ble_eq_true rfl) ⟨Nat.zero_le _, Nat.zero_le _⟩ rfl (Nat.le_of_ble_eq_true rfl) dX6_leaf_17) (fun w8 h => ?_)
    exact jx_throw O hne dX6_leaf_20 h
theorem hy_X6_number : (yX6_number.cls = "DowryBoxes$Reader" ∧ yX6_number.cls ≠ "java/lang/invoke/MethodHandle" ∧ yX6_number.cls ≠ "java/lang/invoke/VarHandle" ∧ (parseMethodDescriptor yX6_number.desc).map (fun d => d.parameters.length) = some 2) := by decide +kernel
theorem wk_X6_number_35 {x : Cx} (O : OK x "DowryBoxes$Reader" cX6_number 4) (hr : (xM x).sig.returnType = some .int) (hm : xn x = 5) (hne : ∀ z ∈ (xc x).exceptionTable.toList, False) {Q : Int → Wd → Prop} {XE : Nat → Wd → Prop} (X35 : Int → Nat → Nat → Wd → Prop) (this : Nat) (x1 : Int) (x2 : Int) (hX35 : ∀ (y3 : Int) (bc bs : Nat) (w : Wd), X35 y3 bc bs w → J x (TXI x Q XE) w bc bs 71 [(0, .ref (adG (xG x) (this))), (1, vI (x1)), (2, vI (x2)), (3, vI (y3))] []) : ∀ (n : Nat) (x3 : Int) (x4 : Int) (bc bs : Nat) (w : Wd), wp_X6_number_35 Q XE X35 this x1 x2 n x3 x4 bc bs w → J x (TXI x Q XE) w bc bs 35 [(0, .ref (adG (xG x) (this))), (1, vI (x1)), (2, vI (x2)), (3, vI (x3)), (4, vI (x4))] [] := by
  intro n
  induction n with
  | zero => intro x3 x4 bc bs w h; exact False.elim h
  | succ n ih =>
    intro x3 x4 bc bs w h
    rw [wp_X6_number_35] at h
    refine j_iload O 4 dX6_number_35 rfl ?_
    refine j_aload_n O 0 0 dX6_number_37 rfl rfl ?_
    refine j_getI2 O cfX7 cfX20 4 ⟨Nat.le_of_ble_eq_true rfl, Nat.le_of_ble_eq_true rfl⟩ ⟨rfl, rfl⟩ q795 q795 dX6_number_38 h (fun v1 h => ?_)
    obtain ⟨c2, h⟩ := h
    obtain ⟨c3, h⟩ := h
    refine j_icmp_ge O (tgt := 71) dX6_number_41 (by decide) c2 c3 h (fun h => ?_) (fun h => ?_)
    · exact (J.sub [0, 1, 2, 3] rfl <| hX35 _ _ _ _ h)
    · refine j_iload_n O 3 3 dX6_number_44 rfl rfl ?_
      refine j_iload_n O 2 2 dX6_number_45 rfl rfl ?_
      obtain ⟨c4, h⟩ := h
      obtain ⟨c5, h⟩ := h
      refine j_icmp_gt O (tgt := 71) dX6_number_46 (by decide) c4 c5 h (fun h => ?_) (fun h => ?_)
      · exact (J.sub [0, 1, 2, 3] rfl <| hX35 _ _ _ _ h)
      · refine j_bipush (m := 10) O dX6_number_49 bi_10 ?_
        refine j_iload_n O 3 3 dX6_number_51 rfl rfl ?_
        refine j_imul O dX6_number_52 ?_
        refine j_aload_n O 0 0 dX6_number_53 rfl rfl ?_
        refine j_getA2 O cfX7 cfX20 0 ⟨Nat.le_of_ble_eq_true rfl, Nat.le_of_ble_eq_true rfl⟩ ⟨⟨_, rfl⟩, ⟨_, rfl⟩⟩ q791 q791 dX6_number_54 h (fun k6 h => ?_)
        refine j_iload O 4 dX6_number_57 rfl ?_
        refine j_bald O dX6_number_59 h (fun v7 h => ?_)
        refine j_iadd O dX6_number_60 ?_
        refine j_bipush (m := 48) O dX6_number_61 bi_48 ?_
        refine j_isub O dX6_number_63 ?_
        refine j_istore_n (L' := [(3, vI (((10 * x3) + v7) - 48)), (0, .ref (adG (xG x) (this))), (1, vI (x1)), (2, vI (x2)), (4, vI (x4))]) O 3 dX6_number_64 rfl (by rw [hm]; decide) rfl ?_
        refine j_iinc (L' := [(4, vI (x4 + 1)), (3, vI (((10 * x3) + v7) - 48)), (0, .ref (adG (xG x) (this))), (1, vI (x1)), (2, vI (x2))]) O 4 dX6_number_65 rfl (by rw [hm]; decide) rfl ?_
        refine j_goto O (tgt := 35) dX6_number_68 (by decide) ?_
        exact (J.sub [2, 3, 4, 1, 0] rfl <| ih _ _ _ _ _ h)
theorem wk_X6_number_81 {x : Cx} (O : OK x "DowryBoxes$Reader" cX6_number 4) (hr : (xM x).sig.returnType = some .int) (hm : xn x = 5) (hne : ∀ z ∈ (xc x).exceptionTable.toList, False) {Q : Int → Wd → Prop} {XE : Nat → Wd → Prop} (this : Nat) (bc bs : Nat) (w : Wd) (h : wp_X6_number_81 Q XE this bc bs w) : J x (TXI x Q XE) w bc bs 81 [(0, .ref (adG (xG x) (this)))] [] := by
  unfold wp_X6_number_81 at h
  refine j_newO O cfX8 q906 q907 q141 dX6_number_81 h (fun k1 w2 h => ?_)
  refine j_dup O dX6_number_84 rfl ?_
  refine j_aload_n O 0 0 dX6_number_85 rfl rfl ?_
  refine j_getI2 O cfX7 cfX20 3 ⟨Nat.le_of_ble_eq_true rfl, Nat.le_of_ble_eq_true rfl⟩ ⟨rfl, rfl⟩ q794 q794 dX6_number_86 h (fun v3 h => ?_)
  refine fin_V O ⟨Nat.zero_le _, Nat.zero_le _⟩ (run_I (As := [vI (v3)]) (st := [.ref (adG (xG x) (k1))]) O (mt_X8_init (xl x) (xG x) _ _ _ _ h) q915 q916 q141 q917 rfl hy_X8_init.2 (Nat.le_of_ble_eq_true rfl) (Nat.le_of_ble_eq_true rfl) ⟨Nat.zero_le _, Nat.zero_le _⟩ rfl (Nat.le_of_ble_eq_true rfl) dX6_number_89) (fun w4 h => ?_)
  exact jx_throw O hne dX6_number_92 h
theorem wk_X6_number_71 {x : Cx} (O : OK x "DowryBoxes$Reader" cX6_number 4) (hr : (xM x).sig.returnType = some .int) (hm : xn x = 5) (hne : ∀ z ∈ (xc x).exceptionTable.toList, False) {Q : Int → Wd → Prop} {XE : Nat → Wd → Prop} (this : Nat) (x1 : Int) (x2 : Int) (x3 : Int) (bc bs : Nat) (w : Wd) (h : wp_X6_number_71 Q XE this x1 x2 x3 bc bs w) : J x (TXI x Q XE) w bc bs 71 [(0, .ref (adG (xG x) (this))), (1, vI (x1)), (2, vI (x2)), (3, vI (x3))] [] := by
  unfold wp_X6_number_71 at h
  refine j_iload_n O 3 3 dX6_number_71 rfl rfl ?_
  refine j_iload_n O 1 1 dX6_number_72 rfl rfl ?_
  obtain ⟨c1, h⟩ := h
  obtain ⟨c2, h⟩ := h
  refine j_icmp_lt O (tgt := 81) dX6_number_73 (by decide) c1 c2 h (fun h => ?_) (fun h => ?_)
  · exact (J.sub [0] rfl <| wk_X6_number_81 O hr hm hne  _  _ _ _ h)
  · refine j_iload_n O 3 3 dX6_number_76 rfl rfl ?_
    refine j_iload_n O 2 2 dX6_number_77 rfl rfl ?_
    obtain ⟨c3, h⟩ := h
    obtain ⟨c4, h⟩ := h
    refine j_icmp_le O (tgt := 93) dX6_number_78 (by decide) c3 c4 h (fun h => ?_) (fun h => ?_)
    · refine j_aload_n O 0 0 dX6_number_93 rfl rfl ?_
      obtain ⟨e6, h⟩ := h
      refine fin_V O ⟨Nat.zero_le _, Nat.zero_le _⟩ (run_U2 (As := []) (st := []) (x0 := ⟨"DowryBoxes$Reader", "next", "()V"⟩) (owner := "DowryBoxes$Reader") O (mt_X6_next (xl x) (xG x) _ _ _ h) e6 cfX7.1 cfX20.1 (lw_U q826 q828 q829 q827 q136 q831) (lw_U q826 q828 q830 q827 q136 q831) rfl hy_X6_next.2 (Nat.le_of_ble_eq_true rfl) (Nat.le_of_ble_eq_true rfl) ⟨Nat.zero_le _, Nat.zero_le _⟩ rfl (Nat.le_of_ble_eq_true rfl) dX6_number_94) (fun w5 h => ?_)
      refine j_iload_n O 3 3 dX6_number_97 rfl rfl ?_
      exact J.toX (j_iret O hr dX6_number_98 h)
    · exact (J.sub [0] rfl <| wk_X6_number_81 O hr hm hne  _  _ _ _ h)
theorem mt_X6_number (l : Launch) (G : GW) (this : Nat) (p1 : Int) (p2 : Int) (bc bs : Nat) (w : Wd) (Q : Int → Wd → Prop) (XE : Nat → Wd → Prop) (h : wp_X6_number this p1 p2 bc bs w Q XE) : XI l G yX6_number cX6_number 5 (.int) 4 bc bs [.ref (adG G (this)), vI (p1), vI (p2)] w Q XE := by
  refine metX_I (fun G => [.ref (adG G (this)), vI (p1), vI (p2)]) (by decide) (fun G => Nat.le_of_ble_eq_true rfl) (fun x O hl hm hr hne => ?_)
  subst hl
  have O : OK x "DowryBoxes$Reader" cX6_number 4 := O
  have h : wp_X6_number this p1 p2 bc bs w Q XE := h
  unfold wp_X6_number at h
  show J x (TXI x Q XE) w bc bs 0 [(0, .ref (adG (xG x) (this))), (1, vI (p1)), (2, vI (p2))] []
  refine j_aload_n O 0 0 dX6_number_0 rfl rfl ?_
  refine j_aload_n O 0 0 dX6_number_1 rfl rfl ?_
  refine j_getI2 O cfX7 cfX20 3 ⟨Nat.le_of_ble_eq_true rfl, Nat.le_of_ble_eq_true rfl⟩ ⟨rfl, rfl⟩ q794 q794 dX6_number_2 h (fun v1 h => ?_)
  refine j_bipush (m := 48) O dX6_number_5 bi_48 ?_
  refine j_bipush (m := 57) O dX6_number_7 bi_57 ?_
  obtain ⟨e4, h⟩ := h
  refine fin_I O ⟨Nat.zero_le _, Nat.zero_le _⟩ (run_U2 (As := [vI (v1), vI (48), vI (57)]) (st := []) (x0 := ⟨"DowryBoxes$Reader", "isIn", "(III)Z"⟩) (owner := "DowryBoxes$Reader") O (mt_X6_isIn (xl x) (xG x) _ _ _ _ _ _ h) e4 cfX7.1 cfX20.1 (lw_U q832 q834 q835 q833 q136 q837) (lw_U q832 q834 q836 q833 q136 q837) rfl hy_X6_isIn.2 (Nat.le_of_ble_eq_true rfl) (Nat.le_of_ble_eq_true rfl) ⟨Nat.zero_le _, Nat.zero_le _⟩ rfl (Nat.le_of_ble_eq_true rfl) dX6_number_9) (fun r2 w3 h => ?_)
  obtain ⟨c5, h⟩ := h
  refine j_if_ne O (tgt := 27) dX6_number_12 (by decide) c5 h (fun h => ?_) (fun h => ?_)
  · refine j_iconst O dX6_number_27 ?_
    refine j_istore_n (L' := [(3, vI (0)), (0, .ref (adG (xG x) (this))), (1, vI (p1)), (2, vI (p2))]) O 3 dX6_number_28 rfl (by rw [hm]; decide) rfl ?_
    refine j_aload_n O 1 0 dX6_number_29 rfl rfl ?_
    refine j_getI2 O cfX7 cfX20 3 ⟨Nat.le_of_ble_eq_true rfl, Nat.le_of_ble_eq_true rfl⟩ ⟨rfl, rfl⟩ q794 q794 dX6_number_30 h (fun v6 h => ?_)
    refine j_istore (L' := [(4, vI (v6)), (3, vI (0)), (0, .ref (adG (xG x) (this))), (1, vI (p1)), (2, vI (p2))]) O dX6_number_33 (by rw [hm]; decide) rfl ?_
    refine (J.sub [2, 3, 4, 1, 0] rfl <| wk_X6_number_35 O hr hm hne _ _ _ _ (fun z7 bc9 bs10 w8 h => ?_) FU _ _ _ _ _ h)
    exact (J.sub [0, 1, 2, 3] rfl <| wk_X6_number_71 O hr hm hne  _ _ _ _  _ _ _ h)
  · refine j_newO O cfX8 q906 q907 q141 dX6_number_15 h (fun k11 w12 h => ?_)
    refine j_dup O dX6_number_18 rfl ?_
    refine j_aload_n O 0 0 dX6_number_19 rfl rfl ?_
    refine j_getI2 O cfX7 cfX20 3 ⟨Nat.le_of_ble_eq_true rfl, Nat.le_of_ble_eq_true rfl⟩ ⟨rfl, rfl⟩ q794 q794 dX6_number_20 h (fun v13 h => ?_)
    refine fin_V O ⟨Nat.zero_le _, Nat.zero_le _⟩ (run_I (As := [vI (v13)]) (st := [.ref (adG (xG x) (k11))]) O (mt_X8_init (xl x) (xG x) _ _ _ _ h) q915 q916 q141 q917 rfl hy_X8_init.2 (Nat.le_of_ble_eq_true rfl) (Nat.le_of_ble_eq_true rfl) ⟨Nat.zero_le _, Nat.zero_le _⟩ rfl (Nat.le_of_ble_eq_true rfl) dX6_number_23) (fun w14 h => ?_)
    exact jx_throw O hne dX6_number_26 h
theorem hy_X10_init : (yX10_init.cls = "DowryBoxes$Sum" ∧ yX10_init.cls ≠ "java/lang/invoke/MethodHandle" ∧ yX10_init.cls ≠ "java/lang/invoke/VarHandle" ∧ (parseMethodDescriptor yX10_init.desc).map (fun d => d.parameters.length) = some 0) := by decide +kernel
theorem mt_X10_init (l : Launch) (G : GW) (this : Nat) (w : Wd) (Q : Wd → Prop) (h : wp_X10_init this w Q) : MV l G yX10_init cX10_init 1 1 0 0 [.ref (adG G (this))] w Q := by
  refine met_V (fun G => [.ref (adG G (this))]) (by decide) (fun G => Nat.le_of_ble_eq_true rfl) (fun x O hl hm hr hn => ?_)
  subst hl
  have O : OK x "DowryBoxes$Sum" cX10_init 1 := O
  have h : wp_X10_init this w Q := h
  unfold wp_X10_init at h
  show J x (TV x Q) w 0 0 0 [(0, .ref (adG (xG x) (this)))] []
  refine j_aload_n O 0 0 dX10_init_0 rfl rfl ?_
  refine j_objInit O q1008 q163 q164 (Nat.le_of_ble_eq_true rfl) (Nat.le_of_ble_eq_true rfl) dX10_init_1 ?_
  exact j_vret O hr dX10_init_4 h
theorem hy_X11_init : (yX11_init.cls = "DowryBoxes$Number" ∧ yX11_init.cls ≠ "java/lang/invoke/MethodHandle" ∧ yX11_init.cls ≠ "java/lang/invoke/VarHandle" ∧ (parseMethodDescriptor yX11_init.desc).map (fun d => d.parameters.length) = some 1) := by decide +kernel
theorem mt_X11_init (l : Launch) (G : GW) (this : Nat) (p1 : Int) (w : Wd) (Q : Wd → Prop) (h : wp_X11_init this p1 w Q) : MV l G yX11_init cX11_init 2 2 0 0 [.ref (adG G (this)), vI (p1)] w Q := by
  refine met_V (fun G => [.ref (adG G (this)), vI (p1)]) (by decide) (fun G => Nat.le_of_ble_eq_true rfl) (fun x O hl hm hr hn => ?_)
  subst hl
  have O : OK x "DowryBoxes$Number" cX11_init 2 := O
  have h : wp_X11_init this p1 w Q := h
  unfold wp_X11_init at h
  show J x (TV x Q) w 0 0 0 [(0, .ref (adG (xG x) (this))), (1, vI (p1))] []
  refine j_aload_n O 0 0 dX11_init_0 rfl rfl ?_
  refine fin_V O ⟨Nat.zero_le _, Nat.zero_le _⟩ (run_IN (As := []) (st := []) O (mt_X10_init (xl x) (xG x) _ _ _ h) (lw_n q1005 rfl) q1006 q143 q1007 rfl hy_X10_init.2 (Nat.le_of_ble_eq_true rfl) (Nat.le_of_ble_eq_true rfl) ⟨Nat.zero_le _, Nat.zero_le _⟩ rfl (Nat.le_of_ble_eq_true rfl) dX11_init_1) (fun w1 h => ?_)
  refine j_aload_n O 0 0 dX11_init_4 rfl rfl ?_
  refine j_iload_n O 1 1 dX11_init_5 rfl rfl ?_
  refine j_putFI O cfX11 0 (Nat.le_of_ble_eq_true rfl) rfl q1009 rfl hn rfl dX11_init_6 h (fun w2 h => ?_)
  exact j_vret O hr dX11_init_9 h
theorem hy_X6_isValue : (yX6_isValue.cls = "DowryBoxes$Reader" ∧ yX6_isValue.cls ≠ "java/lang/invoke/MethodHandle" ∧ yX6_isValue.cls ≠ "java/lang/invoke/VarHandle" ∧ (parseMethodDescriptor yX6_isValue.desc).map (fun d => d.parameters.length) = some 1) := by decide +kernel
theorem mt_X6_isValue (l : Launch) (G : GW) (this : Nat) (p1 : Option Nat) (bc bs : Nat) (w : Wd) (Q : Int → Wd → Prop) (XE : Nat → Wd → Prop) (h : wp_X6_isValue this p1 bc bs w Q XE) : XI l G yX6_isValue cX6_isValue 2 (.boolean) 6 bc bs [.ref (adG G (this)), vR G (p1)] w Q XE := by
  refine metX_I (fun G => [.ref (adG G (this)), vR G (p1)]) (by decide) (fun G => by cases p1 <;> exact Nat.le_of_ble_eq_true rfl) (fun x O hl hm hr hne => ?_)
  subst hl
  have O : OK x "DowryBoxes$Reader" cX6_isValue 6 := O
  have h : wp_X6_isValue this p1 bc bs w Q XE := h
  unfold wp_X6_isValue at h
  rw [show lv_args 0 [.ref (adG (xG x) (this)), vR (xG x) (p1)] = [(0, .ref (adG (xG x) (this))), (1, vR (xG x) (p1))] from by cases p1 <;> rfl]
  show J x (TXI x Q XE) w bc bs 0 [(0, .ref (adG (xG x) (this))), (1, vR (xG x) (p1))] []
  refine j_aload_n O 0 0 dX6_isValue_0 rfl rfl ?_
  refine j_aloadq_n O 1 1 dX6_isValue_1 rfl rfl ?_
  obtain ⟨e3, h⟩ := h
  refine fin_I O ⟨Nat.zero_le _, Nat.zero_le _⟩ (run_U2 (As := [vR (xG x) (p1)]) (st := []) (x0 := ⟨"DowryBoxes$Reader", "is", "(Ljava/lang/String;)Z"⟩) (owner := "DowryBoxes$Reader") O (mt_X6_is (xl x) (xG x) _ _ _ _ h) e3 cfX7.1 cfX20.1 (lw_U q967 q2276 q2277 q849 q136 q850) (lw_U q967 q2276 q2278 q849 q136 q850) rfl hy_X6_is.2 (Nat.le_of_ble_eq_true rfl) (Nat.le_of_ble_eq_true rfl) ⟨Nat.zero_le _, Nat.zero_le _⟩ rfl (Nat.le_of_ble_eq_true rfl) dX6_isValue_2) (fun r1 w2 h => ?_)
  obtain ⟨c4, h⟩ := h
  refine j_if_ne O (tgt := 10) dX6_isValue_5 (by decide) c4 h (fun h => ?_) (fun h => ?_)
  · refine j_aload_n O 0 0 dX6_isValue_10 rfl rfl ?_
    obtain ⟨e8, h⟩ := h
    obtain ⟨mc6, ms7, hb9, h⟩ := h
    refine finX_V O hb9 (runX_U2 (As := []) (st := []) (x0 := ⟨"DowryBoxes$Reader", "leaf", "()V"⟩) (owner := "DowryBoxes$Reader") O (mt_X6_leaf (xl x) (xG x) _ _ _ _ _ _ h) e8 cfX7.1 cfX20.1 (lw_U q988 q990 q991 q989 q136 q993) (lw_U q988 q990 q992 q989 q136 q993) rfl hy_X6_leaf.2 (Nat.le_of_ble_eq_true rfl) (Nat.le_of_ble_eq_true rfl) hb9 rfl (Nat.le_of_ble_eq_true rfl) dX6_isValue_11) (fun w5 h => ?_) (fun k9 w9 ci9 h hk hci => jx_out O hne hk hci h)
    refine j_aload_n O 0 0 dX6_isValue_14 rfl rfl ?_
    obtain ⟨e11, h⟩ := h
    refine fin_V O ⟨Nat.zero_le _, Nat.zero_le _⟩ (run_U2 (As := []) (st := []) (x0 := ⟨"DowryBoxes$Reader", "next", "()V"⟩) (owner := "DowryBoxes$Reader") O (mt_X6_next (xl x) (xG x) _ _ _ h) e11 cfX7.1 cfX20.1 (lw_U q826 q828 q829 q827 q136 q831) (lw_U q826 q828 q830 q827 q136 q831) rfl hy_X6_next.2 (Nat.le_of_ble_eq_true rfl) (Nat.le_of_ble_eq_true rfl) ⟨Nat.zero_le _, Nat.zero_le _⟩ rfl (Nat.le_of_ble_eq_true rfl) dX6_isValue_15) (fun w10 h => ?_)
    refine j_iconst O dX6_isValue_18 ?_
    exact J.toX (j_zret O hr dX6_isValue_19 h)
  · refine j_iconst O dX6_isValue_8 ?_
    exact J.toX (j_zret O hr dX6_isValue_9 h)
theorem hy_X7_value : (yX7_value.cls = "DowryBoxes$LawReader" ∧ yX7_value.cls ≠ "java/lang/invoke/MethodHandle" ∧ yX7_value.cls ≠ "java/lang/invoke/VarHandle" ∧ (parseMethodDescriptor yX7_value.desc).map (fun d => d.parameters.length) = some 0) := by decide +kernel
theorem mt_X7_value (l : Launch) (G : GW) (this : Nat) (bc bs : Nat) (w : Wd) (Q : Int → Wd → Prop) (XE : Nat → Wd → Prop) (h : wp_X7_value this bc bs w Q XE) : XI l G yX7_value cX7_value 1 (.int) 7 bc bs [.ref (adG G (this))] w Q XE := by
  refine metX_I (fun G => [.ref (adG G (this))]) (by decide) (fun G => Nat.le_of_ble_eq_true rfl) (fun x O hl hm hr hne => ?_)
  subst hl
  have O : OK x "DowryBoxes$LawReader" cX7_value 7 := O
  have h : wp_X7_value this bc bs w Q XE := h
  unfold wp_X7_value at h
  show J x (TXI x Q XE) w bc bs 0 [(0, .ref (adG (xG x) (this)))] []
  refine j_aload_n O 0 0 dX7_value_0 rfl rfl ?_
  refine j_ldcS O 20 (by decide) rfl rfl dX7_value_1 ?_
  obtain ⟨e5, h⟩ := h
  obtain ⟨mc3, ms4, hb6, h⟩ := h
  refine finX_I O hb6 (runX_U (As := [vR (xG x) ((some (900 + 20)))]) (st := []) (x0 := ⟨"DowryBoxes$LawReader", "isValue", "(Ljava/lang/String;)Z"⟩) (owner := "DowryBoxes$Reader") O (mt_X6_isValue (xl x) (xG x) _ _ _ _ _ _ _ h) e5 cfX7.1 (lw_U q1020 q1021 q1023 q1024 q136 q1025) rfl hy_X6_isValue.2 (Nat.le_of_ble_eq_true rfl) (Nat.le_of_ble_eq_true rfl) hb6 rfl (Nat.le_of_ble_eq_true rfl) dX7_value_3) (fun r1 w2 h => ?_) (fun k9 w9 ci9 h hk hci => jx_out O hne hk hci h)
  obtain ⟨c7, h⟩ := h
  refine j_if_eq O (tgt := 11) dX7_value_6 (by decide) c7 h (fun h => ?_) (fun h => ?_)
  · refine j_aload_n O 0 0 dX7_value_11 rfl rfl ?_
    refine j_ldcS O 21 (by decide) rfl rfl dX7_value_12 ?_
    obtain ⟨e12, h⟩ := h
    obtain ⟨mc10, ms11, hb13, h⟩ := h
    refine finX_I O hb13 (runX_U (As := [vR (xG x) ((some (900 + 21)))]) (st := []) (x0 := ⟨"DowryBoxes$LawReader", "isValue", "(Ljava/lang/String;)Z"⟩) (owner := "DowryBoxes$Reader") O (mt_X6_isValue (xl x) (xG x) _ _ _ _ _ _ _ h) e12 cfX7.1 (lw_U q1020 q1021 q1023 q1024 q136 q1025) rfl hy_X6_isValue.2 (Nat.le_of_ble_eq_true rfl) (Nat.le_of_ble_eq_true rfl) hb13 rfl (Nat.le_of_ble_eq_true rfl) dX7_value_14) (fun r8 w9 h => ?_) (fun k9 w9 ci9 h hk hci => jx_out O hne hk hci h)
    obtain ⟨c14, h⟩ := h
    refine j_if_eq O (tgt := 22) dX7_value_17 (by decide) c14 h (fun h => ?_) (fun h => ?_)
    · refine j_aload_n O 0 0 dX7_value_22 rfl rfl ?_
      refine j_ldcS O 22 (by decide) rfl rfl dX7_value_23 ?_
      obtain ⟨e19, h⟩ := h
      obtain ⟨mc17, ms18, hb20, h⟩ := h
      refine finX_I O hb20 (runX_U (As := [vR (xG x) ((some (900 + 22)))]) (st := []) (x0 := ⟨"DowryBoxes$LawReader", "isValue", "(Ljava/lang/String;)Z"⟩) (owner := "DowryBoxes$Reader") O (mt_X6_isValue (xl x) (xG x) _ _ _ _ _ _ _ h) e19 cfX7.1 (lw_U q1020 q1021 q1023 q1024 q136 q1025) rfl hy_X6_isValue.2 (Nat.le_of_ble_eq_true rfl) (Nat.le_of_ble_eq_true rfl) hb20 rfl (Nat.le_of_ble_eq_true rfl) dX7_value_25) (fun r15 w16 h => ?_) (fun k9 w9 ci9 h hk hci => jx_out O hne hk hci h)
      obtain ⟨c21, h⟩ := h
      refine j_if_eq O (tgt := 33) dX7_value_28 (by decide) c21 h (fun h => ?_) (fun h => ?_)
      · refine j_aload_n O 0 0 dX7_value_33 rfl rfl ?_
        refine j_ldcS O 23 (by decide) rfl rfl dX7_value_34 ?_
        obtain ⟨e26, h⟩ := h
        obtain ⟨mc24, ms25, hb27, h⟩ := h
        refine finX_I O hb27 (runX_U (As := [vR (xG x) ((some (900 + 23)))]) (st := []) (x0 := ⟨"DowryBoxes$LawReader", "isValue", "(Ljava/lang/String;)Z"⟩) (owner := "DowryBoxes$Reader") O (mt_X6_isValue (xl x) (xG x) _ _ _ _ _ _ _ h) e26 cfX7.1 (lw_U q1020 q1021 q1023 q1024 q136 q1025) rfl hy_X6_isValue.2 (Nat.le_of_ble_eq_true rfl) (Nat.le_of_ble_eq_true rfl) hb27 rfl (Nat.le_of_ble_eq_true rfl) dX7_value_36) (fun r22 w23 h => ?_) (fun k9 w9 ci9 h hk hci => jx_out O hne hk hci h)
        obtain ⟨c28, h⟩ := h
        refine j_if_eq O (tgt := 44) dX7_value_39 (by decide) c28 h (fun h => ?_) (fun h => ?_)
        · refine j_aload_n O 0 0 dX7_value_44 rfl rfl ?_
          refine j_ldcS O 24 (by decide) rfl rfl dX7_value_45 ?_
          obtain ⟨e33, h⟩ := h
          obtain ⟨mc31, ms32, hb34, h⟩ := h
          refine finX_I O hb34 (runX_U (As := [vR (xG x) ((some (900 + 24)))]) (st := []) (x0 := ⟨"DowryBoxes$LawReader", "isValue", "(Ljava/lang/String;)Z"⟩) (owner := "DowryBoxes$Reader") O (mt_X6_isValue (xl x) (xG x) _ _ _ _ _ _ _ h) e33 cfX7.1 (lw_U q1020 q1021 q1023 q1024 q136 q1025) rfl hy_X6_isValue.2 (Nat.le_of_ble_eq_true rfl) (Nat.le_of_ble_eq_true rfl) hb34 rfl (Nat.le_of_ble_eq_true rfl) dX7_value_47) (fun r29 w30 h => ?_) (fun k9 w9 ci9 h hk hci => jx_out O hne hk hci h)
          obtain ⟨c35, h⟩ := h
          refine j_if_eq O (tgt := 55) dX7_value_50 (by decide) c35 h (fun h => ?_) (fun h => ?_)
          · refine j_aload_n O 0 0 dX7_value_55 rfl rfl ?_
            refine j_ldcS O 25 (by decide) rfl rfl dX7_value_56 ?_
            obtain ⟨e40, h⟩ := h
            obtain ⟨mc38, ms39, hb41, h⟩ := h
            refine finX_I O hb41 (runX_U (As := [vR (xG x) ((some (900 + 25)))]) (st := []) (x0 := ⟨"DowryBoxes$LawReader", "isValue", "(Ljava/lang/String;)Z"⟩) (owner := "DowryBoxes$Reader") O (mt_X6_isValue (xl x) (xG x) _ _ _ _ _ _ _ h) e40 cfX7.1 (lw_U q1020 q1021 q1023 q1024 q136 q1025) rfl hy_X6_isValue.2 (Nat.le_of_ble_eq_true rfl) (Nat.le_of_ble_eq_true rfl) hb41 rfl (Nat.le_of_ble_eq_true rfl) dX7_value_58) (fun r36 w37 h => ?_) (fun k9 w9 ci9 h hk hci => jx_out O hne hk hci h)
            obtain ⟨c42, h⟩ := h
            refine j_if_eq O (tgt := 66) dX7_value_61 (by decide) c42 h (fun h => ?_) (fun h => ?_)
            · refine j_aload_n O 0 0 dX7_value_66 rfl rfl ?_
              refine j_ldcS O 26 (by decide) rfl rfl dX7_value_67 ?_
              obtain ⟨e47, h⟩ := h
              obtain ⟨mc45, ms46, hb48, h⟩ := h
              refine finX_I O hb48 (runX_U (As := [vR (xG x) ((some (900 + 26)))]) (st := []) (x0 := ⟨"DowryBoxes$LawReader", "isValue", "(Ljava/lang/String;)Z"⟩) (owner := "DowryBoxes$Reader") O (mt_X6_isValue (xl x) (xG x) _ _ _ _ _ _ _ h) e47 cfX7.1 (lw_U q1020 q1021 q1023 q1024 q136 q1025) rfl hy_X6_isValue.2 (Nat.le_of_ble_eq_true rfl) (Nat.le_of_ble_eq_true rfl) hb48 rfl (Nat.le_of_ble_eq_true rfl) dX7_value_69) (fun r43 w44 h => ?_) (fun k9 w9 ci9 h hk hci => jx_out O hne hk hci h)
              obtain ⟨c49, h⟩ := h
              refine j_if_eq O (tgt := 78) dX7_value_72 (by decide) c49 h (fun h => ?_) (fun h => ?_)
              · refine j_aload_n O 0 0 dX7_value_78 rfl rfl ?_
                refine j_ldcS O 27 (by decide) rfl rfl dX7_value_79 ?_
                obtain ⟨e54, h⟩ := h
                obtain ⟨mc52, ms53, hb55, h⟩ := h
                refine finX_I O hb55 (runX_U (As := [vR (xG x) ((some (900 + 27)))]) (st := []) (x0 := ⟨"DowryBoxes$LawReader", "isValue", "(Ljava/lang/String;)Z"⟩) (owner := "DowryBoxes$Reader") O (mt_X6_isValue (xl x) (xG x) _ _ _ _ _ _ _ h) e54 cfX7.1 (lw_U q1020 q1021 q1023 q1024 q136 q1025) rfl hy_X6_isValue.2 (Nat.le_of_ble_eq_true rfl) (Nat.le_of_ble_eq_true rfl) hb55 rfl (Nat.le_of_ble_eq_true rfl) dX7_value_81) (fun r50 w51 h => ?_) (fun k9 w9 ci9 h hk hci => jx_out O hne hk hci h)
                obtain ⟨c56, h⟩ := h
                refine j_if_eq O (tgt := 90) dX7_value_84 (by decide) c56 h (fun h => ?_) (fun h => ?_)
                · refine j_aload_n O 0 0 dX7_value_90 rfl rfl ?_
                  refine j_ldcS O 28 (by decide) rfl rfl dX7_value_91 ?_
                  obtain ⟨e61, h⟩ := h
                  obtain ⟨mc59, ms60, hb62, h⟩ := h
                  refine finX_I O hb62 (runX_U (As := [vR (xG x) ((some (900 + 28)))]) (st := []) (x0 := ⟨"DowryBoxes$LawReader", "isValue", "(Ljava/lang/String;)Z"⟩) (owner := "DowryBoxes$Reader") O (mt_X6_isValue (xl x) (xG x) _ _ _ _ _ _ _ h) e61 cfX7.1 (lw_U q1020 q1021 q1023 q1024 q136 q1025) rfl hy_X6_isValue.2 (Nat.le_of_ble_eq_true rfl) (Nat.le_of_ble_eq_true rfl) hb62 rfl (Nat.le_of_ble_eq_true rfl) dX7_value_93) (fun r57 w58 h => ?_) (fun k9 w9 ci9 h hk hci => jx_out O hne hk hci h)
                  obtain ⟨c63, h⟩ := h
                  refine j_if_eq O (tgt := 104) dX7_value_96 (by decide) c63 h (fun h => ?_) (fun h => ?_)
                  · refine j_iconst O dX7_value_104 ?_
                    exact J.toX (j_iret O hr dX7_value_105 h)
                  · refine j_bipush (m := 8) O dX7_value_99 bi_8 ?_
                    refine j_goto O (tgt := 105) dX7_value_101 (by decide) ?_
                    exact J.toX (j_iret O hr dX7_value_105 h)
                · refine j_bipush (m := 7) O dX7_value_87 bi_7 ?_
                  exact J.toX (j_iret O hr dX7_value_89 h)
              · refine j_bipush (m := 6) O dX7_value_75 bi_6 ?_
                exact J.toX (j_iret O hr dX7_value_77 h)
            · refine j_iconst O dX7_value_64 ?_
              exact J.toX (j_iret O hr dX7_value_65 h)
          · refine j_iconst O dX7_value_53 ?_
            exact J.toX (j_iret O hr dX7_value_54 h)
        · refine j_iconst O dX7_value_42 ?_
          exact J.toX (j_iret O hr dX7_value_43 h)
      · refine j_iconst O dX7_value_31 ?_
        exact J.toX (j_iret O hr dX7_value_32 h)
    · refine j_iconst O dX7_value_20 ?_
      exact J.toX (j_iret O hr dX7_value_21 h)
  · refine j_iconst O dX7_value_9 ?_
    exact J.toX (j_iret O hr dX7_value_10 h)
theorem hy_X20_value : (yX20_value.cls = "DowryBoxes$OrderReader" ∧ yX20_value.cls ≠ "java/lang/invoke/MethodHandle" ∧ yX20_value.cls ≠ "java/lang/invoke/VarHandle" ∧ (parseMethodDescriptor yX20_value.desc).map (fun d => d.parameters.length) = some 0) := by decide +kernel
theorem mt_X20_value (l : Launch) (G : GW) (this : Nat) (bc bs : Nat) (w : Wd) (Q : Int → Wd → Prop) (XE : Nat → Wd → Prop) (h : wp_X20_value this bc bs w Q XE) : XI l G yX20_value cX20_value 1 (.int) 7 bc bs [.ref (adG G (this))] w Q XE := by
  refine metX_I (fun G => [.ref (adG G (this))]) (by decide) (fun G => Nat.le_of_ble_eq_true rfl) (fun x O hl hm hr hne => ?_)
  subst hl
  have O : OK x "DowryBoxes$OrderReader" cX20_value 7 := O
  have h : wp_X20_value this bc bs w Q XE := h
  unfold wp_X20_value at h
  show J x (TXI x Q XE) w bc bs 0 [(0, .ref (adG (xG x) (this)))] []
  refine j_aload_n O 0 0 dX20_value_0 rfl rfl ?_
  refine j_ldcS O 30 (by decide) rfl rfl dX20_value_1 ?_
  obtain ⟨e5, h⟩ := h
  obtain ⟨mc3, ms4, hb6, h⟩ := h
  refine finX_I O hb6 (runX_U (As := [vR (xG x) ((some (900 + 30)))]) (st := []) (x0 := ⟨"DowryBoxes$OrderReader", "isValue", "(Ljava/lang/String;)Z"⟩) (owner := "DowryBoxes$Reader") O (mt_X6_isValue (xl x) (xG x) _ _ _ _ _ _ _ h) e5 cfX20.1 (lw_U q1038 q1039 q1040 q1024 q136 q1025) rfl hy_X6_isValue.2 (Nat.le_of_ble_eq_true rfl) (Nat.le_of_ble_eq_true rfl) hb6 rfl (Nat.le_of_ble_eq_true rfl) dX20_value_3) (fun r1 w2 h => ?_) (fun k9 w9 ci9 h hk hci => jx_out O hne hk hci h)
  obtain ⟨c7, h⟩ := h
  refine j_if_eq O (tgt := 11) dX20_value_6 (by decide) c7 h (fun h => ?_) (fun h => ?_)
  · refine j_aload_n O 0 0 dX20_value_11 rfl rfl ?_
    refine j_ldcS O 31 (by decide) rfl rfl dX20_value_12 ?_
    obtain ⟨e12, h⟩ := h
    obtain ⟨mc10, ms11, hb13, h⟩ := h
    refine finX_I O hb13 (runX_U (As := [vR (xG x) ((some (900 + 31)))]) (st := []) (x0 := ⟨"DowryBoxes$OrderReader", "isValue", "(Ljava/lang/String;)Z"⟩) (owner := "DowryBoxes$Reader") O (mt_X6_isValue (xl x) (xG x) _ _ _ _ _ _ _ h) e12 cfX20.1 (lw_U q1038 q1039 q1040 q1024 q136 q1025) rfl hy_X6_isValue.2 (Nat.le_of_ble_eq_true rfl) (Nat.le_of_ble_eq_true rfl) hb13 rfl (Nat.le_of_ble_eq_true rfl) dX20_value_14) (fun r8 w9 h => ?_) (fun k9 w9 ci9 h hk hci => jx_out O hne hk hci h)
    obtain ⟨c14, h⟩ := h
    refine j_if_eq O (tgt := 22) dX20_value_17 (by decide) c14 h (fun h => ?_) (fun h => ?_)
    · refine j_aload_n O 0 0 dX20_value_22 rfl rfl ?_
      refine j_ldcS O 32 (by decide) rfl rfl dX20_value_23 ?_
      obtain ⟨e19, h⟩ := h
      obtain ⟨mc17, ms18, hb20, h⟩ := h
      refine finX_I O hb20 (runX_U (As := [vR (xG x) ((some (900 + 32)))]) (st := []) (x0 := ⟨"DowryBoxes$OrderReader", "isValue", "(Ljava/lang/String;)Z"⟩) (owner := "DowryBoxes$Reader") O (mt_X6_isValue (xl x) (xG x) _ _ _ _ _ _ _ h) e19 cfX20.1 (lw_U q1038 q1039 q1040 q1024 q136 q1025) rfl hy_X6_isValue.2 (Nat.le_of_ble_eq_true rfl) (Nat.le_of_ble_eq_true rfl) hb20 rfl (Nat.le_of_ble_eq_true rfl) dX20_value_25) (fun r15 w16 h => ?_) (fun k9 w9 ci9 h hk hci => jx_out O hne hk hci h)
      obtain ⟨c21, h⟩ := h
      refine j_if_eq O (tgt := 33) dX20_value_28 (by decide) c21 h (fun h => ?_) (fun h => ?_)
      · refine j_aload_n O 0 0 dX20_value_33 rfl rfl ?_
        refine j_ldcS O 33 (by decide) rfl rfl dX20_value_34 ?_
        obtain ⟨e26, h⟩ := h
        obtain ⟨mc24, ms25, hb27, h⟩ := h
        refine finX_I O hb27 (runX_U (As := [vR (xG x) ((some (900 + 33)))]) (st := []) (x0 := ⟨"DowryBoxes$OrderReader", "isValue", "(Ljava/lang/String;)Z"⟩) (owner := "DowryBoxes$Reader") O (mt_X6_isValue (xl x) (xG x) _ _ _ _ _ _ _ h) e26 cfX20.1 (lw_U q1038 q1039 q1040 q1024 q136 q1025) rfl hy_X6_isValue.2 (Nat.le_of_ble_eq_true rfl) (Nat.le_of_ble_eq_true rfl) hb27 rfl (Nat.le_of_ble_eq_true rfl) dX20_value_36) (fun r22 w23 h => ?_) (fun k9 w9 ci9 h hk hci => jx_out O hne hk hci h)
        obtain ⟨c28, h⟩ := h
        refine j_if_eq O (tgt := 44) dX20_value_39 (by decide) c28 h (fun h => ?_) (fun h => ?_)
        · refine j_aload_n O 0 0 dX20_value_44 rfl rfl ?_
          refine j_ldcS O 34 (by decide) rfl rfl dX20_value_45 ?_
          obtain ⟨e33, h⟩ := h
          obtain ⟨mc31, ms32, hb34, h⟩ := h
          refine finX_I O hb34 (runX_U (As := [vR (xG x) ((some (900 + 34)))]) (st := []) (x0 := ⟨"DowryBoxes$OrderReader", "isValue", "(Ljava/lang/String;)Z"⟩) (owner := "DowryBoxes$Reader") O (mt_X6_isValue (xl x) (xG x) _ _ _ _ _ _ _ h) e33 cfX20.1 (lw_U q1038 q1039 q1040 q1024 q136 q1025) rfl hy_X6_isValue.2 (Nat.le_of_ble_eq_true rfl) (Nat.le_of_ble_eq_true rfl) hb34 rfl (Nat.le_of_ble_eq_true rfl) dX20_value_47) (fun r29 w30 h => ?_) (fun k9 w9 ci9 h hk hci => jx_out O hne hk hci h)
          obtain ⟨c35, h⟩ := h
          refine j_if_eq O (tgt := 62) dX20_value_50 (by decide) c35 h (fun h => ?_) (fun h => ?_)
          · refine j_aload_n O 0 0 dX20_value_62 rfl rfl ?_
            refine j_ldcS O 35 (by decide) rfl rfl dX20_value_63 ?_
            obtain ⟨e40, h⟩ := h
            obtain ⟨mc38, ms39, hb41, h⟩ := h
            refine finX_I O hb41 (runX_U (As := [vR (xG x) ((some (900 + 35)))]) (st := []) (x0 := ⟨"DowryBoxes$OrderReader", "isValue", "(Ljava/lang/String;)Z"⟩) (owner := "DowryBoxes$Reader") O (mt_X6_isValue (xl x) (xG x) _ _ _ _ _ _ _ h) e40 cfX20.1 (lw_U q1038 q1039 q1040 q1024 q136 q1025) rfl hy_X6_isValue.2 (Nat.le_of_ble_eq_true rfl) (Nat.le_of_ble_eq_true rfl) hb41 rfl (Nat.le_of_ble_eq_true rfl) dX20_value_65) (fun r36 w37 h => ?_) (fun k9 w9 ci9 h hk hci => jx_out O hne hk hci h)
            obtain ⟨c42, h⟩ := h
            refine j_if_eq O (tgt := 83) dX20_value_68 (by decide) c42 h (fun h => ?_) (fun h => ?_)
            · refine j_iconst O dX20_value_83 ?_
              exact J.toX (j_iret O hr dX20_value_84 h)
            · refine j_bipush (m := 10) O dX20_value_71 bi_10 ?_
              refine j_aload_n O 0 0 dX20_value_73 rfl rfl ?_
              refine j_iconst O dX20_value_74 ?_
              refine j_iconst O dX20_value_75 ?_
              obtain ⟨e47, h⟩ := h
              obtain ⟨mc45, ms46, hb48, h⟩ := h
              refine finX_I O hb48 (runX_U (As := [vI (0), vI (5)]) (st := [vI (10)]) (x0 := ⟨"DowryBoxes$OrderReader", "number", "(II)I"⟩) (owner := "DowryBoxes$Reader") O (mt_X6_number (xl x) (xG x) _ _ _ _ _ _ _ _ h) e47 cfX20.1 (lw_U q1045 q1046 q1048 q997 q136 q1001) rfl hy_X6_number.2 (Nat.le_of_ble_eq_true rfl) (Nat.le_of_ble_eq_true rfl) hb48 rfl (Nat.le_of_ble_eq_true rfl) dX20_value_76) (fun r43 w44 h => ?_) (fun k9 w9 ci9 h hk hci => jx_out O hne hk hci h)
              refine j_iadd O dX20_value_79 ?_
              refine j_goto O (tgt := 84) dX20_value_80 (by decide) ?_
              exact J.toX (j_iret O hr dX20_value_84 h)
          · refine j_iconst O dX20_value_53 ?_
            refine j_aload_n O 0 0 dX20_value_54 rfl rfl ?_
            refine j_iconst O dX20_value_55 ?_
            refine j_iconst O dX20_value_56 ?_
            obtain ⟨e53, h⟩ := h
            obtain ⟨mc51, ms52, hb54, h⟩ := h
            refine finX_I O hb54 (runX_U (As := [vI (0), vI (5)]) (st := [vI (4)]) (x0 := ⟨"DowryBoxes$OrderReader", "number", "(II)I"⟩) (owner := "DowryBoxes$Reader") O (mt_X6_number (xl x) (xG x) _ _ _ _ _ _ _ _ h) e53 cfX20.1 (lw_U q1045 q1046 q1048 q997 q136 q1001) rfl hy_X6_number.2 (Nat.le_of_ble_eq_true rfl) (Nat.le_of_ble_eq_true rfl) hb54 rfl (Nat.le_of_ble_eq_true rfl) dX20_value_57) (fun r49 w50 h => ?_) (fun k9 w9 ci9 h hk hci => jx_out O hne hk hci h)
            refine j_iadd O dX20_value_60 ?_
            exact J.toX (j_iret O hr dX20_value_61 h)
        · refine j_iconst O dX20_value_42 ?_
          exact J.toX (j_iret O hr dX20_value_43 h)
      · refine j_iconst O dX20_value_31 ?_
        exact J.toX (j_iret O hr dX20_value_32 h)
    · refine j_iconst O dX20_value_20 ?_
      exact J.toX (j_iret O hr dX20_value_21 h)
  · refine j_iconst O dX20_value_9 ?_
    exact J.toX (j_iret O hr dX20_value_10 h)
theorem hy_X12_init : (yX12_init.cls = "DowryBoxes$Value" ∧ yX12_init.cls ≠ "java/lang/invoke/MethodHandle" ∧ yX12_init.cls ≠ "java/lang/invoke/VarHandle" ∧ (parseMethodDescriptor yX12_init.desc).map (fun d => d.parameters.length) = some 1) := by decide +kernel
theorem mt_X12_init (l : Launch) (G : GW) (this : Nat) (p1 : Int) (w : Wd) (Q : Wd → Prop) (h : wp_X12_init this p1 w Q) : MV l G yX12_init cX12_init 2 2 0 0 [.ref (adG G (this)), vI (p1)] w Q := by
  refine met_V (fun G => [.ref (adG G (this)), vI (p1)]) (by decide) (fun G => Nat.le_of_ble_eq_true rfl) (fun x O hl hm hr hn => ?_)
  subst hl
  have O : OK x "DowryBoxes$Value" cX12_init 2 := O
  have h : wp_X12_init this p1 w Q := h
  unfold wp_X12_init at h
  show J x (TV x Q) w 0 0 0 [(0, .ref (adG (xG x) (this))), (1, vI (p1))] []
  refine j_aload_n O 0 0 dX12_init_0 rfl rfl ?_
  refine fin_V O ⟨Nat.zero_le _, Nat.zero_le _⟩ (run_IN (As := []) (st := []) O (mt_X10_init (xl x) (xG x) _ _ _ h) (lw_n q1055 rfl) q1006 q143 q1007 rfl hy_X10_init.2 (Nat.le_of_ble_eq_true rfl) (Nat.le_of_ble_eq_true rfl) ⟨Nat.zero_le _, Nat.zero_le _⟩ rfl (Nat.le_of_ble_eq_true rfl) dX12_init_1) (fun w1 h => ?_)
  refine j_aload_n O 0 0 dX12_init_4 rfl rfl ?_
  refine j_iload_n O 1 1 dX12_init_5 rfl rfl ?_
  refine j_putFI O cfX12 0 (Nat.le_of_ble_eq_true rfl) rfl q1056 rfl hn rfl dX12_init_6 h (fun w2 h => ?_)
  exact j_vret O hr dX12_init_9 h
theorem hy_X13_init : (yX13_init.cls = "DowryBoxes$Two" ∧ yX13_init.cls ≠ "java/lang/invoke/MethodHandle" ∧ yX13_init.cls ≠ "java/lang/invoke/VarHandle" ∧ (parseMethodDescriptor yX13_init.desc).map (fun d => d.parameters.length) = some 3) := by decide +kernel
theorem mt_X13_init (l : Launch) (G : GW) (this : Nat) (p1 : Int) (p2 : Option Nat) (p3 : Option Nat) (w : Wd) (Q : Wd → Prop) (h : wp_X13_init this p1 p2 p3 w Q) : MV l G yX13_init cX13_init 4 2 0 0 [.ref (adG G (this)), vI (p1), vR G (p2), vR G (p3)] w Q := by
  refine met_V (fun G => [.ref (adG G (this)), vI (p1), vR G (p2), vR G (p3)]) (by decide) (fun G => by cases p2 <;> cases p3 <;> exact Nat.le_of_ble_eq_true rfl) (fun x O hl hm hr hn => ?_)
  subst hl
  have O : OK x "DowryBoxes$Two" cX13_init 2 := O
  have h : wp_X13_init this p1 p2 p3 w Q := h
  unfold wp_X13_init at h
  rw [show lv_args 0 [.ref (adG (xG x) (this)), vI (p1), vR (xG x) (p2), vR (xG x) (p3)] = [(0, .ref (adG (xG x) (this))), (1, vI (p1)), (2, vR (xG x) (p2)), (3, vR (xG x) (p3))] from by cases p2 <;> cases p3 <;> rfl]
  show J x (TV x Q) w 0 0 0 [(0, .ref (adG (xG x) (this))), (1, vI (p1)), (2, vR (xG x) (p2)), (3, vR (xG x) (p3))] []
  refine j_aload_n O 0 0 dX13_init_0 rfl rfl ?_
  refine fin_V O ⟨Nat.zero_le _, Nat.zero_le _⟩ (run_IN (As := []) (st := []) O (mt_X10_init (xl x) (xG x) _ _ _ h) (lw_n q1068 rfl) q1006 q143 q1007 rfl hy_X10_init.2 (Nat.le_of_ble_eq_true rfl) (Nat.le_of_ble_eq_true rfl) ⟨Nat.zero_le _, Nat.zero_le _⟩ rfl (Nat.le_of_ble_eq_true rfl) dX13_init_1) (fun w1 h => ?_)
  refine j_aload_n O 0 0 dX13_init_4 rfl rfl ?_
  refine j_iload_n O 1 1 dX13_init_5 rfl rfl ?_
  refine j_putFC O cfX13 0 (Nat.le_of_ble_eq_true rfl) rfl q1069 rfl hn rfl dX13_init_6 h (fun w2 h => ?_)
  refine j_aload_n O 0 0 dX13_init_9 rfl rfl ?_
  refine j_aloadq_n O 2 2 dX13_init_10 rfl rfl ?_
  refine j_putFR O cfX13 1 (Nat.le_of_ble_eq_true rfl) (.inl ⟨_, rfl⟩) q1070 rfl hn rfl dX13_init_11 h (fun w3 h => ?_)
  refine j_aload_n O 0 0 dX13_init_14 rfl rfl ?_
  refine j_aloadq_n O 3 3 dX13_init_15 rfl rfl ?_
  refine j_putFR O cfX13 2 (Nat.le_of_ble_eq_true rfl) (.inl ⟨_, rfl⟩) q1071 rfl hn rfl dX13_init_16 h (fun w4 h => ?_)
  exact j_vret O hr dX13_init_19 h
theorem hy_X6_sum : (yX6_sum.cls = "DowryBoxes$Reader" ∧ yX6_sum.cls ≠ "java/lang/invoke/MethodHandle" ∧ yX6_sum.cls ≠ "java/lang/invoke/VarHandle" ∧ (parseMethodDescriptor yX6_sum.desc).map (fun d => d.parameters.length) = some 0) := by decide +kernel
theorem hyd_Value : ("DowryBoxes$Reader" ≠ "java/lang/invoke/MethodHandle" ∧ "DowryBoxes$Reader" ≠ "java/lang/invoke/VarHandle" ∧ (parseMethodDescriptor "()I").map (fun d => d.parameters.length) = some 0) := by decide +kernel
theorem hy_X6_part : (yX6_part.cls = "DowryBoxes$Reader" ∧ yX6_part.cls ≠ "java/lang/invoke/MethodHandle" ∧ yX6_part.cls ≠ "java/lang/invoke/VarHandle" ∧ (parseMethodDescriptor yX6_part.desc).map (fun d => d.parameters.length) = some 0) := by decide +kernel
theorem rn_X6_part_72 {x : Cx}  (S_X6_sum : Nat → Nat → Nat → Wd → (Option Nat → Wd → Prop) → (Nat → Wd → Prop) → Prop) (D : Nat) (hB : 8 ≤ D) (hS_X6_sum : ∀ (l : Launch) (G : GW) (this : Nat) (bc bs : Nat) (w : Wd) (Q : Option Nat → Wd → Prop) (XE : Nat → Wd → Prop), S_X6_sum this bc bs w Q XE → XR l G yX6_sum cX6_sum 3 (.object "DowryBoxes$Sum") D bc bs [.ref (adG G (this))] w Q XE) (O : OK x "DowryBoxes$Reader" cX6_part (D + 1)) {o : Nat} {w : Wd} {Qc : Int → Wd → Prop} {XE : Nat → Wd → Prop} {bc bs mc ms : Nat} {L : List (Nat × Value)} {st : List Value} (hb : mc ≤ bc ∧ ms ≤ bs) (hroom : (st.map fun v => v.category).sum ≤ 8) (h : wp_dValue o mc ms w Qc XE) : RunXX x w bc bs 72 L ([].reverse ++ .ref (adG (xG x) o) :: st) st mc ms (.ref (adG (xG x) o) :: []) (QI (xG x) w Qc) XE := by
  rcases h with ⟨hk, h⟩ | ⟨hk, h⟩
  · exact runX_A (As := []) (st := st) (x0 := ⟨"DowryBoxes$Reader", "value", "()I"⟩) (owner := "DowryBoxes$Reader") O (mt_X7_value (xl x) (xG x) _ _ _ _ _ _ h) hk cfX7.1 (lw_U q1013 q1015 q1016 q1017 q137 q1018) (lw_n q1014 rfl) hyd_Value (by omega) (Nat.le_of_ble_eq_true rfl) hb rfl hroom dX6_part_72
  · exact runX_A (As := []) (st := st) (x0 := ⟨"DowryBoxes$Reader", "value", "()I"⟩) (owner := "DowryBoxes$Reader") O (mt_X20_value (xl x) (xG x) _ _ _ _ _ _ h) hk cfX20.1 (lw_U q1013 q1015 q1034 q1035 q156 q1036) (lw_n q1014 rfl) hyd_Value (by omega) (Nat.le_of_ble_eq_true rfl) hb rfl hroom dX6_part_72
theorem mt_X6_part  (S_X6_sum : Nat → Nat → Nat → Wd → (Option Nat → Wd → Prop) → (Nat → Wd → Prop) → Prop) (D : Nat) (hB : 8 ≤ D) (hS_X6_sum : ∀ (l : Launch) (G : GW) (this : Nat) (bc bs : Nat) (w : Wd) (Q : Option Nat → Wd → Prop) (XE : Nat → Wd → Prop), S_X6_sum this bc bs w Q XE → XR l G yX6_sum cX6_sum 3 (.object "DowryBoxes$Sum") D bc bs [.ref (adG G (this))] w Q XE) (l : Launch) (G : GW) (this : Nat) (bc bs : Nat) (w : Wd) (Q : Option Nat → Wd → Prop) (XE : Nat → Wd → Prop) (h : wp_X6_part S_X6_sum this bc bs w Q XE) : XR l G yX6_part cX6_part 2 (.object "DowryBoxes$Sum") (D + 1) bc bs [.ref (adG G (this))] w Q XE := by
  refine metX_R (fun G => [.ref (adG G (this))]) (by decide) (fun G => Nat.le_of_ble_eq_true rfl) (fun x O hl hm hr hne => ?_)
  subst hl
  have O : OK x "DowryBoxes$Reader" cX6_part (D + 1) := O
  have h : wp_X6_part S_X6_sum this bc bs w Q XE := h
  unfold wp_X6_part at h
  show J x (TXR x Q XE) w bc bs 0 [(0, .ref (adG (xG x) (this)))] []
  refine j_aload_n O 0 0 dX6_part_0 rfl rfl ?_
  refine j_ldcS O 0 (by decide) rfl rfl dX6_part_1 ?_
  obtain ⟨e3, h⟩ := h
  refine fin_I O ⟨Nat.zero_le _, Nat.zero_le _⟩ (run_U2 (As := [vR (xG x) ((some (900 + 0)))]) (st := []) (x0 := ⟨"DowryBoxes$Reader", "is", "(Ljava/lang/String;)Z"⟩) (owner := "DowryBoxes$Reader") O (mt_X6_is (xl x) (xG x) _ _ _ _ h) e3 cfX7.1 cfX20.1 (lw_U q967 q2276 q2277 q849 q136 q850) (lw_U q967 q2276 q2278 q849 q136 q850) rfl hy_X6_is.2 (by omega) (Nat.le_of_ble_eq_true rfl) ⟨Nat.zero_le _, Nat.zero_le _⟩ rfl (Nat.le_of_ble_eq_true rfl) dX6_part_3) (fun r1 w2 h => ?_)
  obtain ⟨c4, h⟩ := h
  refine j_if_eq O (tgt := 36) dX6_part_6 (by decide) c4 h (fun h => ?_) (fun h => ?_)
  · refine j_aload_n O 0 0 dX6_part_36 rfl rfl ?_
    refine j_aload_n O 0 0 dX6_part_37 rfl rfl ?_
    refine j_getI2 O cfX7 cfX20 3 ⟨Nat.le_of_ble_eq_true rfl, Nat.le_of_ble_eq_true rfl⟩ ⟨rfl, rfl⟩ q794 q794 dX6_part_38 h (fun v5 h => ?_)
    refine j_bipush (m := 48) O dX6_part_41 bi_48 ?_
    refine j_bipush (m := 57) O dX6_part_43 bi_57 ?_
    obtain ⟨e8, h⟩ := h
    refine fin_I O ⟨Nat.zero_le _, Nat.zero_le _⟩ (run_U2 (As := [vI (v5), vI (48), vI (57)]) (st := []) (x0 := ⟨"DowryBoxes$Reader", "isIn", "(III)Z"⟩) (owner := "DowryBoxes$Reader") O (mt_X6_isIn (xl x) (xG x) _ _ _ _ _ _ h) e8 cfX7.1 cfX20.1 (lw_U q832 q834 q835 q833 q136 q837) (lw_U q832 q834 q836 q833 q136 q837) rfl hy_X6_isIn.2 (by omega) (Nat.le_of_ble_eq_true rfl) ⟨Nat.zero_le _, Nat.zero_le _⟩ rfl (Nat.le_of_ble_eq_true rfl) dX6_part_45) (fun r6 w7 h => ?_)
    obtain ⟨c9, h⟩ := h
    refine j_if_eq O (tgt := 71) dX6_part_48 (by decide) c9 h (fun h => ?_) (fun h => ?_)
    · refine j_aload_n O 0 0 dX6_part_71 rfl rfl ?_
      obtain ⟨mc12, ms13, hb14, h⟩ := h
      refine finX_I O hb14 (rn_X6_part_72 (st := [])  S_X6_sum D hB hS_X6_sum O hb14 (Nat.le_of_ble_eq_true rfl) h) (fun r10 w11 h => ?_) (fun k9 w9 ci9 h hk hci => jx_out O hne hk hci h)
      refine j_istore_n (L' := [(1, vI (r10)), (0, .ref (adG (xG x) (this)))]) O 1 dX6_part_75 rfl (by rw [hm]; decide) rfl ?_
      refine j_iload_n O 0 1 dX6_part_76 rfl rfl ?_
      refine j_iconst O dX6_part_77 ?_
      obtain ⟨c15, h⟩ := h
      refine j_icmp_ne O (tgt := 93) dX6_part_78 (by decide) c15 (by decide) h (fun h => ?_) (fun h => ?_)
      · refine j_newO O cfX12 q1050 q1051 q145 dX6_part_93 h (fun k16 w17 h => ?_)
        refine j_dup O dX6_part_96 rfl ?_
        refine j_iload_n O 0 1 dX6_part_97 rfl rfl ?_
        refine fin_V O ⟨Nat.zero_le _, Nat.zero_le _⟩ (run_I (As := [vI (r10)]) (st := [.ref (adG (xG x) (k16))]) O (mt_X12_init (xl x) (xG x) _ _ _ _ h) q1052 q1053 q145 q1054 rfl hy_X12_init.2 (by omega) (Nat.le_of_ble_eq_true rfl) ⟨Nat.zero_le _, Nat.zero_le _⟩ rfl (Nat.le_of_ble_eq_true rfl) dX6_part_98) (fun w18 h => ?_)
        exact J.toX (j_aret (v := (some k16)) O hr (.inl ⟨_, rfl⟩) dX6_part_101 h)
      · refine j_newO O cfX8 q906 q907 q141 dX6_part_81 h (fun k19 w20 h => ?_)
        refine j_dup O dX6_part_84 rfl ?_
        refine j_aload_n O 1 0 dX6_part_85 rfl rfl ?_
        refine j_getI2 O cfX7 cfX20 3 ⟨Nat.le_of_ble_eq_true rfl, Nat.le_of_ble_eq_true rfl⟩ ⟨rfl, rfl⟩ q794 q794 dX6_part_86 h (fun v21 h => ?_)
        refine fin_V O ⟨Nat.zero_le _, Nat.zero_le _⟩ (run_I (As := [vI (v21)]) (st := [.ref (adG (xG x) (k19))]) O (mt_X8_init (xl x) (xG x) _ _ _ _ h) q915 q916 q141 q917 rfl hy_X8_init.2 (by omega) (Nat.le_of_ble_eq_true rfl) ⟨Nat.zero_le _, Nat.zero_le _⟩ rfl (Nat.le_of_ble_eq_true rfl) dX6_part_89) (fun w22 h => ?_)
        exact jx_throw O hne dX6_part_92 h
    · refine j_aload_n O 0 0 dX6_part_51 rfl rfl ?_
      obtain ⟨e26, h⟩ := h
      obtain ⟨mc24, ms25, hb27, h⟩ := h
      refine finX_V O hb27 (runX_U2 (As := []) (st := []) (x0 := ⟨"DowryBoxes$Reader", "leaf", "()V"⟩) (owner := "DowryBoxes$Reader") O (mt_X6_leaf (xl x) (xG x) _ _ _ _ _ _ h) e26 cfX7.1 cfX20.1 (lw_U q988 q990 q991 q989 q136 q993) (lw_U q988 q990 q992 q989 q136 q993) rfl hy_X6_leaf.2 (by omega) (Nat.le_of_ble_eq_true rfl) hb27 rfl (Nat.le_of_ble_eq_true rfl) dX6_part_52) (fun w23 h => ?_) (fun k9 w9 ci9 h hk hci => jx_out O hne hk hci h)
      refine j_newO O cfX11 q994 q995 q144 dX6_part_55 h (fun k28 w29 h => ?_)
      refine j_dup O dX6_part_58 rfl ?_
      refine j_aload_n O 0 0 dX6_part_59 rfl rfl ?_
      refine j_iconst O dX6_part_60 ?_
      refine j_sipush (m := 1000) O dX6_part_61 si_1000 ?_
      obtain ⟨e34, h⟩ := h
      obtain ⟨mc32, ms33, hb35, h⟩ := h
      refine finX_I O hb35 (runX_U2 (As := [vI (0), vI (1000)]) (st := [.ref (adG (xG x) (k28)), .ref (adG (xG x) (k28))]) (x0 := ⟨"DowryBoxes$Reader", "number", "(II)I"⟩) (owner := "DowryBoxes$Reader") O (mt_X6_number (xl x) (xG x) _ _ _ _ _ _ _ _ h) e34 cfX7.1 cfX20.1 (lw_U q996 q998 q999 q997 q136 q1001) (lw_U q996 q998 q1000 q997 q136 q1001) rfl hy_X6_number.2 (by omega) (Nat.le_of_ble_eq_true rfl) hb35 rfl (Nat.le_of_ble_eq_true rfl) dX6_part_64) (fun r30 w31 h => ?_) (fun k9 w9 ci9 h hk hci => jx_out O hne hk hci h)
      refine fin_V O ⟨Nat.zero_le _, Nat.zero_le _⟩ (run_I (As := [vI (r30)]) (st := [.ref (adG (xG x) (k28))]) O (mt_X11_init (xl x) (xG x) _ _ _ _ h) q1002 q1003 q144 q1004 rfl hy_X11_init.2 (by omega) (Nat.le_of_ble_eq_true rfl) ⟨Nat.zero_le _, Nat.zero_le _⟩ rfl (Nat.le_of_ble_eq_true rfl) dX6_part_67) (fun w36 h => ?_)
      exact J.toX (j_aret (v := (some k28)) O hr (.inl ⟨_, rfl⟩) dX6_part_70 h)
  · refine j_aload_n O 0 0 dX6_part_9 rfl rfl ?_
    obtain ⟨e40, h⟩ := h
    obtain ⟨mc38, ms39, hb41, h⟩ := h
    refine finX_V O hb41 (runX_U2 (As := []) (st := []) (x0 := ⟨"DowryBoxes$Reader", "opens", "()V"⟩) (owner := "DowryBoxes$Reader") O (mt_X6_opens (xl x) (xG x) _ _ _ _ _ _ h) e40 cfX7.1 cfX20.1 (lw_U q968 q970 q971 q969 q136 q973) (lw_U q968 q970 q972 q969 q136 q973) rfl hy_X6_opens.2 (by omega) (Nat.le_of_ble_eq_true rfl) hb41 rfl (Nat.le_of_ble_eq_true rfl) dX6_part_10) (fun w37 h => ?_) (fun k9 w9 ci9 h hk hci => jx_out O hne hk hci h)
    refine j_aload_n O 0 0 dX6_part_13 rfl rfl ?_
    obtain ⟨e46, h⟩ := h
    obtain ⟨mc44, ms45, hb47, h⟩ := h
    refine finX_R O hb47 (runX_U2 (As := []) (st := []) (x0 := ⟨"DowryBoxes$Reader", "sum", "()LDowryBoxes$Sum;"⟩) (owner := "DowryBoxes$Reader") O (hS_X6_sum (xl x) (xG x) _ _ _ _ _ _ h) e46 cfX7.1 cfX20.1 (lw_U q974 q2279 q2280 q952 q136 q953) (lw_U q974 q2279 q2281 q952 q136 q953) rfl hy_X6_sum.2 (by omega) (Nat.le_of_ble_eq_true rfl) hb47 rfl (Nat.le_of_ble_eq_true rfl) dX6_part_14) (fun o42 w43 h => ?_) (fun k9 w9 ci9 h hk hci => jx_out O hne hk hci h)
    refine j_astoreq_n (L' := [(1, vR (xG x) (o42)), (0, .ref (adG (xG x) (this)))]) O 1 dX6_part_17 rfl (by rw [hm]; decide) rfl ?_
    refine j_aload_n O 1 0 dX6_part_18 rfl rfl ?_
    refine j_ldcS O 1 (by decide) rfl rfl dX6_part_19 ?_
    obtain ⟨e51, h⟩ := h
    obtain ⟨mc49, ms50, hb52, h⟩ := h
    refine finX_V O hb52 (runX_U2 (As := [vR (xG x) ((some (900 + 1)))]) (st := []) (x0 := ⟨"DowryBoxes$Reader", "need", "(Ljava/lang/String;)V"⟩) (owner := "DowryBoxes$Reader") O (mt_X6_need (xl x) (xG x) _ _ _ _ _ _ _ h) e51 cfX7.1 cfX20.1 (lw_U q976 q978 q979 q977 q136 q981) (lw_U q976 q978 q980 q977 q136 q981) rfl hy_X6_need.2 (by omega) (Nat.le_of_ble_eq_true rfl) hb52 rfl (Nat.le_of_ble_eq_true rfl) dX6_part_21) (fun w48 h => ?_) (fun k9 w9 ci9 h hk hci => jx_out O hne hk hci h)
    refine j_aload_n O 1 0 dX6_part_24 rfl rfl ?_
    refine j_dup O dX6_part_25 rfl ?_
    refine j_getI2 O cfX7 cfX20 6 ⟨Nat.le_of_ble_eq_true rfl, Nat.le_of_ble_eq_true rfl⟩ ⟨rfl, rfl⟩ q797 q797 dX6_part_26 h (fun v53 h => ?_)
    refine j_iconst O dX6_part_29 ?_
    refine j_isub O dX6_part_30 ?_
    refine j_putI2 (v := (v53 - 1)) O cfX7 cfX20 6 ⟨Nat.le_of_ble_eq_true rfl, Nat.le_of_ble_eq_true rfl⟩ ⟨rfl, rfl⟩ q797 q797 ⟨rfl, rfl⟩ dX6_part_31 h (fun w54 h => ?_)
    refine j_aloadq_n O 0 1 dX6_part_34 rfl rfl ?_
    exact J.toX (j_aret (v := o42) O hr (.inl ⟨_, rfl⟩) dX6_part_35 h)
theorem hy_X6_term : (yX6_term.cls = "DowryBoxes$Reader" ∧ yX6_term.cls ≠ "java/lang/invoke/MethodHandle" ∧ yX6_term.cls ≠ "java/lang/invoke/VarHandle" ∧ (parseMethodDescriptor yX6_term.desc).map (fun d => d.parameters.length) = some 0) := by decide +kernel
theorem wk_X6_term_32 {x : Cx}  (S_X6_sum : Nat → Nat → Nat → Wd → (Option Nat → Wd → Prop) → (Nat → Wd → Prop) → Prop) (D : Nat) (hB : 8 ≤ D) (hS_X6_sum : ∀ (l : Launch) (G : GW) (this : Nat) (bc bs : Nat) (w : Wd) (Q : Option Nat → Wd → Prop) (XE : Nat → Wd → Prop), S_X6_sum this bc bs w Q XE → XR l G yX6_sum cX6_sum 3 (.object "DowryBoxes$Sum") D bc bs [.ref (adG G (this))] w Q XE) (O : OK x "DowryBoxes$Reader" cX6_term (D + 2)) (hr : (xM x).sig.returnType = some (.object "DowryBoxes$Sum")) (hm : xn x = 3) (hne : ∀ z ∈ (xc x).exceptionTable.toList, False) {Q : Option Nat → Wd → Prop} {XE : Nat → Wd → Prop} (K5 : Option Nat → Nat → Nat → Wd → Prop) (this : Nat) (x1 : Option Nat) (hK5 : ∀ (y1 : Option Nat) (bc bs : Nat) (w : Wd), K5 y1 bc bs w → J x (TXR x Q XE) w bc bs 5 [(0, .ref (adG (xG x) (this))), (1, vR (xG x) (y1))] []) (bc bs : Nat) (w : Wd) (h : wp_X6_term_32 S_X6_sum Q XE K5 this x1 bc bs w) : J x (TXR x Q XE) w bc bs 32 [(0, .ref (adG (xG x) (this))), (1, vR (xG x) (x1))] [] := by
  unfold wp_X6_term_32 at h
  refine j_aload_n O 0 0 dX6_term_32 rfl rfl ?_
  refine j_getA2 O cfX7 cfX20 0 ⟨Nat.le_of_ble_eq_true rfl, Nat.le_of_ble_eq_true rfl⟩ ⟨⟨_, rfl⟩, ⟨_, rfl⟩⟩ q791 q791 dX6_term_33 h (fun k1 h => ?_)
  refine j_aload_n O 0 0 dX6_term_36 rfl rfl ?_
  refine j_getI2 O cfX7 cfX20 3 ⟨Nat.le_of_ble_eq_true rfl, Nat.le_of_ble_eq_true rfl⟩ ⟨rfl, rfl⟩ q794 q794 dX6_term_37 h (fun v2 h => ?_)
  refine j_bald O dX6_term_40 h (fun v3 h => ?_)
  refine j_i2c O dX6_term_41 ?_
  refine j_istore_n (L' := [(2, vI (nC v3)), (0, .ref (adG (xG x) (this))), (1, vR (xG x) (x1))]) O 2 dX6_term_42 rfl (by rw [hm]; decide) (by cases x1 <;> rfl) ?_
  refine j_aload_n O 1 0 dX6_term_43 rfl rfl ?_
  obtain ⟨e5, h⟩ := h
  refine fin_V O ⟨Nat.zero_le _, Nat.zero_le _⟩ (run_U2 (As := []) (st := []) (x0 := ⟨"DowryBoxes$Reader", "next", "()V"⟩) (owner := "DowryBoxes$Reader") O (mt_X6_next (xl x) (xG x) _ _ _ h) e5 cfX7.1 cfX20.1 (lw_U q826 q828 q829 q827 q136 q831) (lw_U q826 q828 q830 q827 q136 q831) rfl hy_X6_next.2 (by omega) (Nat.le_of_ble_eq_true rfl) ⟨Nat.zero_le _, Nat.zero_le _⟩ rfl (Nat.le_of_ble_eq_true rfl) dX6_term_44) (fun w4 h => ?_)
  refine j_newO O cfX13 q1063 q1064 q146 dX6_term_47 h (fun k6 w7 h => ?_)
  refine j_dup O dX6_term_50 rfl ?_
  refine j_iload_n O 0 2 dX6_term_51 rfl rfl ?_
  refine j_aloadq_n O 2 1 dX6_term_52 rfl rfl ?_
  refine j_aload_n O 1 0 dX6_term_53 rfl rfl ?_
  obtain ⟨e12, h⟩ := h
  obtain ⟨mc10, ms11, hb13, h⟩ := h
  refine finX_R O hb13 (runX_U2 (As := []) (st := [vR (xG x) (x1), vI (nC v3), .ref (adG (xG x) (k6)), .ref (adG (xG x) (k6))]) (x0 := ⟨"DowryBoxes$Reader", "part", "()LDowryBoxes$Sum;"⟩) (owner := "DowryBoxes$Reader") O (mt_X6_part  S_X6_sum D hB hS_X6_sum (xl x) (xG x) _ _ _ _ _ _ h) e12 cfX7.1 cfX20.1 (lw_U q960 q962 q963 q961 q136 q965) (lw_U q960 q962 q964 q961 q136 q965) rfl hy_X6_part.2 (by omega) (Nat.le_of_ble_eq_true rfl) hb13 rfl (by simp only [List.map_cons, List.map_nil, vR_cat]; exact Nat.le_of_ble_eq_true rfl) dX6_term_54) (fun o8 w9 h => ?_) (fun k9 w9 ci9 h hk hci => jx_out O hne hk hci h)
  refine fin_V O ⟨Nat.zero_le _, Nat.zero_le _⟩ (run_I (As := [vI ((nC v3)), vR (xG x) (x1), vR (xG x) (o8)]) (st := [.ref (adG (xG x) (k6))]) O (mt_X13_init (xl x) (xG x) _ _ _ _ _ _ h) q1065 q1066 q146 q1067 rfl hy_X13_init.2 (by omega) (Nat.le_of_ble_eq_true rfl) ⟨Nat.zero_le _, Nat.zero_le _⟩ rfl (Nat.le_of_ble_eq_true rfl) dX6_term_57) (fun w14 h => ?_)
  refine j_astore_n (L' := [(1, .ref (adG (xG x) (k6))), (2, vI (nC v3)), (0, .ref (adG (xG x) (this)))]) O 1 dX6_term_60 rfl (by rw [hm]; decide) rfl ?_
  refine j_goto O (tgt := 5) dX6_term_61 (by decide) ?_
  exact (J.sub [2, 0] rfl <| hK5 _ _ _ _ h)
theorem wk_X6_term_5 {x : Cx}  (S_X6_sum : Nat → Nat → Nat → Wd → (Option Nat → Wd → Prop) → (Nat → Wd → Prop) → Prop) (D : Nat) (hB : 8 ≤ D) (hS_X6_sum : ∀ (l : Launch) (G : GW) (this : Nat) (bc bs : Nat) (w : Wd) (Q : Option Nat → Wd → Prop) (XE : Nat → Wd → Prop), S_X6_sum this bc bs w Q XE → XR l G yX6_sum cX6_sum 3 (.object "DowryBoxes$Sum") D bc bs [.ref (adG G (this))] w Q XE) (O : OK x "DowryBoxes$Reader" cX6_term (D + 2)) (hr : (xM x).sig.returnType = some (.object "DowryBoxes$Sum")) (hm : xn x = 3) (hne : ∀ z ∈ (xc x).exceptionTable.toList, False) {Q : Option Nat → Wd → Prop} {XE : Nat → Wd → Prop} (this : Nat) : ∀ (n : Nat) (x1 : Option Nat) (bc bs : Nat) (w : Wd), wp_X6_term_5 S_X6_sum Q XE this n x1 bc bs w → J x (TXR x Q XE) w bc bs 5 [(0, .ref (adG (xG x) (this))), (1, vR (xG x) (x1))] [] := by
  intro n
  induction n with
  | zero => intro x1 bc bs w h; exact False.elim h
  | succ n ih =>
    intro x1 bc bs w h
    rw [wp_X6_term_5] at h
    refine j_aload_n O 0 0 dX6_term_5 rfl rfl ?_
    refine j_ldcS O 2 (by decide) rfl rfl dX6_term_6 ?_
    obtain ⟨e3, h⟩ := h
    refine fin_I O ⟨Nat.zero_le _, Nat.zero_le _⟩ (run_U2 (As := [vR (xG x) ((some (900 + 2)))]) (st := []) (x0 := ⟨"DowryBoxes$Reader", "is", "(Ljava/lang/String;)Z"⟩) (owner := "DowryBoxes$Reader") O (mt_X6_is (xl x) (xG x) _ _ _ _ h) e3 cfX7.1 cfX20.1 (lw_U q967 q2276 q2277 q849 q136 q850) (lw_U q967 q2276 q2278 q849 q136 q850) rfl hy_X6_is.2 (by omega) (Nat.le_of_ble_eq_true rfl) ⟨Nat.zero_le _, Nat.zero_le _⟩ rfl (Nat.le_of_ble_eq_true rfl) dX6_term_8) (fun r1 w2 h => ?_)
    obtain ⟨c4, h⟩ := h
    refine j_if_ne O (tgt := 32) dX6_term_11 (by decide) c4 h (fun h => ?_) (fun h => ?_)
    · exact (J.sub [0, 1] rfl <| wk_X6_term_32  S_X6_sum D hB hS_X6_sum O hr hm hne _ _ _ ih _ _ _ h)
    · refine j_aload_n O 0 0 dX6_term_14 rfl rfl ?_
      refine j_ldcS O 3 (by decide) rfl rfl dX6_term_15 ?_
      obtain ⟨e7, h⟩ := h
      refine fin_I O ⟨Nat.zero_le _, Nat.zero_le _⟩ (run_U2 (As := [vR (xG x) ((some (900 + 3)))]) (st := []) (x0 := ⟨"DowryBoxes$Reader", "is", "(Ljava/lang/String;)Z"⟩) (owner := "DowryBoxes$Reader") O (mt_X6_is (xl x) (xG x) _ _ _ _ h) e7 cfX7.1 cfX20.1 (lw_U q967 q2276 q2277 q849 q136 q850) (lw_U q967 q2276 q2278 q849 q136 q850) rfl hy_X6_is.2 (by omega) (Nat.le_of_ble_eq_true rfl) ⟨Nat.zero_le _, Nat.zero_le _⟩ rfl (Nat.le_of_ble_eq_true rfl) dX6_term_17) (fun r5 w6 h => ?_)
      obtain ⟨c8, h⟩ := h
      refine j_if_ne O (tgt := 32) dX6_term_20 (by decide) c8 h (fun h => ?_) (fun h => ?_)
      · exact (J.sub [0, 1] rfl <| wk_X6_term_32  S_X6_sum D hB hS_X6_sum O hr hm hne _ _ _ ih _ _ _ h)
      · refine j_aload_n O 0 0 dX6_term_23 rfl rfl ?_
        refine j_ldcS O 4 (by decide) rfl rfl dX6_term_24 ?_
        obtain ⟨e11, h⟩ := h
        refine fin_I O ⟨Nat.zero_le _, Nat.zero_le _⟩ (run_U2 (As := [vR (xG x) ((some (900 + 4)))]) (st := []) (x0 := ⟨"DowryBoxes$Reader", "is", "(Ljava/lang/String;)Z"⟩) (owner := "DowryBoxes$Reader") O (mt_X6_is (xl x) (xG x) _ _ _ _ h) e11 cfX7.1 cfX20.1 (lw_U q967 q2276 q2277 q849 q136 q850) (lw_U q967 q2276 q2278 q849 q136 q850) rfl hy_X6_is.2 (by omega) (Nat.le_of_ble_eq_true rfl) ⟨Nat.zero_le _, Nat.zero_le _⟩ rfl (Nat.le_of_ble_eq_true rfl) dX6_term_26) (fun r9 w10 h => ?_)
        obtain ⟨c12, h⟩ := h
        refine j_if_eq O (tgt := 64) dX6_term_29 (by decide) c12 h (fun h => ?_) (fun h => ?_)
        · refine j_aloadq_n O 1 1 dX6_term_64 rfl rfl ?_
          exact J.toX (j_aret (v := x1) O hr (.inl ⟨_, rfl⟩) dX6_term_65 h)
        · exact (J.sub [0, 1] rfl <| wk_X6_term_32  S_X6_sum D hB hS_X6_sum O hr hm hne _ _ _ ih _ _ _ h)
theorem mt_X6_term  (S_X6_sum : Nat → Nat → Nat → Wd → (Option Nat → Wd → Prop) → (Nat → Wd → Prop) → Prop) (D : Nat) (hB : 8 ≤ D) (hS_X6_sum : ∀ (l : Launch) (G : GW) (this : Nat) (bc bs : Nat) (w : Wd) (Q : Option Nat → Wd → Prop) (XE : Nat → Wd → Prop), S_X6_sum this bc bs w Q XE → XR l G yX6_sum cX6_sum 3 (.object "DowryBoxes$Sum") D bc bs [.ref (adG G (this))] w Q XE) (l : Launch) (G : GW) (this : Nat) (bc bs : Nat) (w : Wd) (Q : Option Nat → Wd → Prop) (XE : Nat → Wd → Prop) (h : wp_X6_term S_X6_sum this bc bs w Q XE) : XR l G yX6_term cX6_term 3 (.object "DowryBoxes$Sum") (D + 2) bc bs [.ref (adG G (this))] w Q XE := by
  refine metX_R (fun G => [.ref (adG G (this))]) (by decide) (fun G => Nat.le_of_ble_eq_true rfl) (fun x O hl hm hr hne => ?_)
  subst hl
  have O : OK x "DowryBoxes$Reader" cX6_term (D + 2) := O
  have h : wp_X6_term S_X6_sum this bc bs w Q XE := h
  unfold wp_X6_term at h
  show J x (TXR x Q XE) w bc bs 0 [(0, .ref (adG (xG x) (this)))] []
  refine j_aload_n O 0 0 dX6_term_0 rfl rfl ?_
  obtain ⟨e5, h⟩ := h
  obtain ⟨mc3, ms4, hb6, h⟩ := h
  refine finX_R O hb6 (runX_U2 (As := []) (st := []) (x0 := ⟨"DowryBoxes$Reader", "part", "()LDowryBoxes$Sum;"⟩) (owner := "DowryBoxes$Reader") O (mt_X6_part  S_X6_sum D hB hS_X6_sum (xl x) (xG x) _ _ _ _ _ _ h) e5 cfX7.1 cfX20.1 (lw_U q960 q962 q963 q961 q136 q965) (lw_U q960 q962 q964 q961 q136 q965) rfl hy_X6_part.2 (by omega) (Nat.le_of_ble_eq_true rfl) hb6 rfl (Nat.le_of_ble_eq_true rfl) dX6_term_1) (fun o1 w2 h => ?_) (fun k9 w9 ci9 h hk hci => jx_out O hne hk hci h)
  refine j_astoreq_n (L' := [(1, vR (xG x) (o1)), (0, .ref (adG (xG x) (this)))]) O 1 dX6_term_4 rfl (by rw [hm]; decide) rfl ?_
  exact (J.sub [1, 0] rfl <| wk_X6_term_5  S_X6_sum D hB hS_X6_sum O hr hm hne  _  FU _ _ _ _ h)
