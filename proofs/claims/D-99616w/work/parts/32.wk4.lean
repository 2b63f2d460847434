/-! the walks of the component, by program -/
set_option maxRecDepth 100000
theorem hy_X0_forget : (yX0_forget.cls = "DowryBoxes" ∧ yX0_forget.cls ≠ "java/lang/invoke/MethodHandle" ∧ yX0_forget.cls ≠ "java/lang/invoke/VarHandle" ∧ (parseMethodDescriptor yX0_forget.desc).map (fun d => d.parameters.length) = some 0) := by decide +kernel
theorem mt_X0_forget (l : Launch) (G : GW) (this : Nat) (w : Wd) (Q : Int → Wd → Prop) (h : wp_X0_forget this w Q) : MI l G yX0_forget cX0_forget 2 (.int) 1 0 0 [.ref (adG G (this))] w Q := by
  refine met_I (fun G => [.ref (adG G (this))]) (by decide) (fun G => Nat.le_of_ble_eq_true rfl) (fun x O hl hm hr => ?_)
  subst hl
  have O : OK x "DowryBoxes" cX0_forget 1 := O
  have h : wp_X0_forget this w Q := h
  unfold wp_X0_forget at h
  show J x (TI x Q) w 0 0 0 [(0, .ref (adG (xG x) (this)))] []
  refine j_aload_n O 0 0 dX0_forget_0 rfl rfl ?_
  refine j_getR O cfX0 2 (Nat.le_of_ble_eq_true rfl) ⟨_, rfl⟩ q360 dX0_forget_1 h (fun o1 h => ?_)
  obtain ⟨k2, e_k2, g_k2⟩ := h
  subst e_k2
  have h := g_k2
  refine j_getIN O cfX1 7 (Nat.le_of_ble_eq_true rfl) (.inl rfl) (lw_n q246 rfl) dX0_forget_4 h (fun v3 h => ?_)
  refine j_istore_n (L' := [(1, vI (v3)), (0, .ref (adG (xG x) (this)))]) O 1 dX0_forget_7 rfl (by rw [hm]; decide) rfl ?_
  refine j_aload_n O 1 0 dX0_forget_8 rfl rfl ?_
  refine j_getR O cfX0 2 (Nat.le_of_ble_eq_true rfl) ⟨_, rfl⟩ q360 dX0_forget_9 h (fun o4 h => ?_)
  refine j_iconst O dX0_forget_12 ?_
  obtain ⟨k5, e_k5, g_k5⟩ := h
  subst e_k5
  have h := g_k5
  refine j_putIN O cfX1 7 (Nat.le_of_ble_eq_true rfl) rfl (lw_n q246 rfl) rfl dX0_forget_13 h (fun w6 h => ?_)
  refine j_iload_n O 0 1 dX0_forget_16 rfl rfl ?_
  exact j_iret O hr dX0_forget_17 h
theorem hy_X0_hear : (yX0_hear.cls = "DowryBoxes" ∧ yX0_hear.cls ≠ "java/lang/invoke/MethodHandle" ∧ yX0_hear.cls ≠ "java/lang/invoke/VarHandle" ∧ (parseMethodDescriptor yX0_hear.desc).map (fun d => d.parameters.length) = some 3) := by decide +kernel
theorem wk_X0_hear_23 {x : Cx} (O : OK x "DowryBoxes" cX0_hear 3) (hr : (xM x).sig.returnType = some .int) (hm : xn x = 5) {Q : Int → Wd → Prop} (this : Nat) (w : Wd) (h : wp_X0_hear_23 Q this w) : J x (TI x Q) w 0 0 23 [(0, .ref (adG (xG x) (this)))] [] := by
  unfold wp_X0_hear_23 at h
  refine j_aload_n O 0 0 dX0_hear_23 rfl rfl ?_
  refine j_iconst O dX0_hear_24 ?_
  obtain ⟨e3, h⟩ := h
  refine fin_I O ⟨Nat.zero_le _, Nat.zero_le _⟩ (run_V (As := [vI (((-1)))]) (st := []) O (mt_X0_refuse (xl x) (xG x) _ _ _ _ h) e3 cfX0.1 q468 q470 qs1 q121 q471 hy_X0_refuse (Nat.le_of_ble_eq_true rfl) (Nat.le_of_ble_eq_true rfl) ⟨Nat.zero_le _, Nat.zero_le _⟩ rfl (Nat.le_of_ble_eq_true rfl) dX0_hear_25) (fun r1 w2 h => ?_)
  exact j_iret O hr dX0_hear_28 h
theorem mt_X0_hear (l : Launch) (G : GW) (this : Nat) (p1 : Int) (p2 : Int) (p3 : Int) (w : Wd) (Q : Int → Wd → Prop) (h : wp_X0_hear this p1 p2 p3 w Q) : MI l G yX0_hear cX0_hear 5 (.int) 3 0 0 [.ref (adG G (this)), vI (p1), vI (p2), vI (p3)] w Q := by
  refine met_I (fun G => [.ref (adG G (this)), vI (p1), vI (p2), vI (p3)]) (by decide) (fun G => Nat.le_of_ble_eq_true rfl) (fun x O hl hm hr => ?_)
  subst hl
  have O : OK x "DowryBoxes" cX0_hear 3 := O
  have h : wp_X0_hear this p1 p2 p3 w Q := h
  unfold wp_X0_hear at h
  show J x (TI x Q) w 0 0 0 [(0, .ref (adG (xG x) (this))), (1, vI (p1)), (2, vI (p2)), (3, vI (p3))] []
  refine j_iload_n O 1 1 dX0_hear_0 rfl rfl ?_
  refine fin_I O ⟨Nat.zero_le _, Nat.zero_le _⟩ (run_S (As := [vI (p1)]) (st := []) O (mt_X0_isBar (xl x) (xG x) _ _ _ h) q712 q713 q121 q714 hy_X0_isBar.2 (Nat.le_of_ble_eq_true rfl) (Nat.le_of_ble_eq_true rfl) ⟨Nat.zero_le _, Nat.zero_le _⟩ rfl (Nat.le_of_ble_eq_true rfl) dX0_hear_1) (fun r1 w2 h => ?_)
  obtain ⟨c3, h⟩ := h
  refine j_if_eq O (tgt := 23) dX0_hear_4 (by decide) c3 h (fun h => ?_) (fun h => ?_)
  · exact (J.sub [0] rfl <| wk_X0_hear_23 O hr hm  _  _ h)
  · refine j_iload_n O 2 2 dX0_hear_7 rfl rfl ?_
    refine fin_I O ⟨Nat.zero_le _, Nat.zero_le _⟩ (run_S (As := [vI (p2)]) (st := []) O (mt_X0_isTooth (xl x) (xG x) _ _ _ h) q722 q723 q121 q724 hy_X0_isTooth.2 (Nat.le_of_ble_eq_true rfl) (Nat.le_of_ble_eq_true rfl) ⟨Nat.zero_le _, Nat.zero_le _⟩ rfl (Nat.le_of_ble_eq_true rfl) dX0_hear_8) (fun r4 w5 h => ?_)
    obtain ⟨c6, h⟩ := h
    refine j_if_eq O (tgt := 23) dX0_hear_11 (by decide) c6 h (fun h => ?_) (fun h => ?_)
    · exact (J.sub [0] rfl <| wk_X0_hear_23 O hr hm  _  _ h)
    · refine j_iload_n O 3 3 dX0_hear_14 rfl rfl ?_
      refine j_iconst O dX0_hear_15 ?_
      refine j_iconst O dX0_hear_16 ?_
      refine fin_I O ⟨Nat.zero_le _, Nat.zero_le _⟩ (run_S (As := [vI (p3), vI (0), vI (1)]) (st := []) O (mt_X0_in (xl x) (xG x) _ _ _ _ _ h) q465 q466 q121 q467 hy_X0_in.2 (Nat.le_of_ble_eq_true rfl) (Nat.le_of_ble_eq_true rfl) ⟨Nat.zero_le _, Nat.zero_le _⟩ rfl (Nat.le_of_ble_eq_true rfl) dX0_hear_17) (fun r7 w8 h => ?_)
      obtain ⟨c9, h⟩ := h
      refine j_if_ne O (tgt := 29) dX0_hear_20 (by decide) c9 h (fun h => ?_) (fun h => ?_)
      · refine j_aload_n O 0 0 dX0_hear_29 rfl rfl ?_
        refine j_getR O cfX0 2 (Nat.le_of_ble_eq_true rfl) ⟨_, rfl⟩ q360 dX0_hear_30 h (fun o10 h => ?_)
        obtain ⟨k11, e_k11, g_k11⟩ := h
        subst e_k11
        have h := g_k11
        refine j_getIN O cfX1 7 (Nat.le_of_ble_eq_true rfl) (.inl rfl) (lw_n q246 rfl) dX0_hear_33 h (fun v12 h => ?_)
        refine j_bipush (m := 8) O dX0_hear_36 bi_8 ?_
        obtain ⟨c13, h⟩ := h
        refine j_icmp_ne O (tgt := 48) dX0_hear_38 (by decide) c13 (by decide) h (fun h => ?_) (fun h => ?_)
        · refine j_iconst O dX0_hear_48 ?_
          refine j_aload_n O 0 0 dX0_hear_49 rfl rfl ?_
          refine j_getR O cfX0 2 (Nat.le_of_ble_eq_true rfl) ⟨_, rfl⟩ q360 dX0_hear_50 h (fun o14 h => ?_)
          obtain ⟨k15, e_k15, g_k15⟩ := h
          subst e_k15
          have h := g_k15
          refine j_getIN O cfX1 7 (Nat.le_of_ble_eq_true rfl) (.inl rfl) (lw_n q246 rfl) dX0_hear_53 h (fun v16 h => ?_)
          refine j_imul O dX0_hear_56 ?_
          refine j_istore (L' := [(4, vI (3 * v16)), (0, .ref (adG (xG x) (this))), (1, vI (p1)), (2, vI (p2)), (3, vI (p3))]) O dX0_hear_57 (by rw [hm]; decide) rfl ?_
          refine j_aload_n O 1 0 dX0_hear_59 rfl rfl ?_
          refine j_getR O cfX0 2 (Nat.le_of_ble_eq_true rfl) ⟨_, rfl⟩ q360 dX0_hear_60 h (fun o17 h => ?_)
          obtain ⟨k18, e_k18, g_k18⟩ := h
          subst e_k18
          have h := g_k18
          refine j_getAN O cfX1 3 (Nat.le_of_ble_eq_true rfl) ⟨_, rfl⟩ (lw_n q238 rfl) dX0_hear_63 h (fun k19 h => ?_)
          refine j_iload O 0 dX0_hear_66 rfl ?_
          refine j_iload_n O 2 1 dX0_hear_68 rfl rfl ?_
          refine j_iast O dX0_hear_69 h (fun w20 h => ?_)
          refine j_aload_n O 1 0 dX0_hear_70 rfl rfl ?_
          refine j_getR O cfX0 2 (Nat.le_of_ble_eq_true rfl) ⟨_, rfl⟩ q360 dX0_hear_71 h (fun o21 h => ?_)
          obtain ⟨k22, e_k22, g_k22⟩ := h
          subst e_k22
          have h := g_k22
          refine j_getAN O cfX1 3 (Nat.le_of_ble_eq_true rfl) ⟨_, rfl⟩ (lw_n q238 rfl) dX0_hear_74 h (fun k23 h => ?_)
          refine j_iload O 0 dX0_hear_77 rfl ?_
          refine j_iconst O dX0_hear_79 ?_
          refine j_iadd O dX0_hear_80 ?_
          refine j_iload_n O 3 2 dX0_hear_81 rfl rfl ?_
          refine j_iast O dX0_hear_82 h (fun w24 h => ?_)
          refine j_aload_n O 1 0 dX0_hear_83 rfl rfl ?_
          refine j_getR O cfX0 2 (Nat.le_of_ble_eq_true rfl) ⟨_, rfl⟩ q360 dX0_hear_84 h (fun o25 h => ?_)
          obtain ⟨k26, e_k26, g_k26⟩ := h
          subst e_k26
          have h := g_k26
          refine j_getAN O cfX1 3 (Nat.le_of_ble_eq_true rfl) ⟨_, rfl⟩ (lw_n q238 rfl) dX0_hear_87 h (fun k27 h => ?_)
          refine j_iload O 0 dX0_hear_90 rfl ?_
          refine j_iconst O dX0_hear_92 ?_
          refine j_iadd O dX0_hear_93 ?_
          refine j_iload_n O 4 3 dX0_hear_94 rfl rfl ?_
          refine j_iast O dX0_hear_95 h (fun w28 h => ?_)
          refine j_aload_n O 1 0 dX0_hear_96 rfl rfl ?_
          refine j_getR O cfX0 2 (Nat.le_of_ble_eq_true rfl) ⟨_, rfl⟩ q360 dX0_hear_97 h (fun o29 h => ?_)
          refine j_dup O dX0_hear_100 (vR_cat _ _) ?_
          obtain ⟨k30, e_k30, g_k30⟩ := h
          subst e_k30
          have h := g_k30
          refine j_getIN O cfX1 7 (Nat.le_of_ble_eq_true rfl) (.inl rfl) (lw_n q246 rfl) dX0_hear_101 h (fun v31 h => ?_)
          refine j_iconst O dX0_hear_104 ?_
          refine j_iadd O dX0_hear_105 ?_
          refine j_putIN O cfX1 7 (Nat.le_of_ble_eq_true rfl) rfl (lw_n q246 rfl) rfl dX0_hear_106 h (fun w32 h => ?_)
          refine j_aload_n O 1 0 dX0_hear_109 rfl rfl ?_
          refine j_aload_n O 1 0 dX0_hear_110 rfl rfl ?_
          refine j_getR O cfX0 2 (Nat.le_of_ble_eq_true rfl) ⟨_, rfl⟩ q360 dX0_hear_111 h (fun o33 h => ?_)
          obtain ⟨k34, e_k34, g_k34⟩ := h
          subst e_k34
          have h := g_k34
          refine j_getIN O cfX1 7 (Nat.le_of_ble_eq_true rfl) (.inl rfl) (lw_n q246 rfl) dX0_hear_114 h (fun v35 h => ?_)
          obtain ⟨e38, h⟩ := h
          refine fin_I O ⟨Nat.zero_le _, Nat.zero_le _⟩ (run_V (As := [vI (v35)]) (st := []) O (mt_X0_done (xl x) (xG x) _ _ _ _ h) e38 cfX0.1 q558 q560 qs3 q121 q561 hy_X0_done (Nat.le_of_ble_eq_true rfl) (Nat.le_of_ble_eq_true rfl) ⟨Nat.zero_le _, Nat.zero_le _⟩ rfl (Nat.le_of_ble_eq_true rfl) dX0_hear_117) (fun r36 w37 h => ?_)
          exact j_iret O hr dX0_hear_120 h
        · refine j_aload_n O 0 0 dX0_hear_41 rfl rfl ?_
          refine j_bipush (m := (-5)) O dX0_hear_42 bi_m5 ?_
          obtain ⟨e41, h⟩ := h
          refine fin_I O ⟨Nat.zero_le _, Nat.zero_le _⟩ (run_V (As := [vI (((-5)))]) (st := []) O (mt_X0_refuse (xl x) (xG x) _ _ _ _ h) e41 cfX0.1 q468 q470 qs1 q121 q471 hy_X0_refuse (Nat.le_of_ble_eq_true rfl) (Nat.le_of_ble_eq_true rfl) ⟨Nat.zero_le _, Nat.zero_le _⟩ rfl (Nat.le_of_ble_eq_true rfl) dX0_hear_44) (fun r39 w40 h => ?_)
          exact j_iret O hr dX0_hear_47 h
      · exact (J.sub [0] rfl <| wk_X0_hear_23 O hr hm  _  _ h)
theorem hy_X0_undo : (yX0_undo.cls = "DowryBoxes" ∧ yX0_undo.cls ≠ "java/lang/invoke/MethodHandle" ∧ yX0_undo.cls ≠ "java/lang/invoke/VarHandle" ∧ (parseMethodDescriptor yX0_undo.desc).map (fun d => d.parameters.length) = some 0) := by decide +kernel
theorem mt_X0_undo (l : Launch) (G : GW) (this : Nat) (w : Wd) (Q : Int → Wd → Prop) (h : wp_X0_undo this w Q) : MI l G yX0_undo cX0_undo 1 (.int) 3 0 0 [.ref (adG G (this))] w Q := by
  refine met_I (fun G => [.ref (adG G (this))]) (by decide) (fun G => Nat.le_of_ble_eq_true rfl) (fun x O hl hm hr => ?_)
  subst hl
  have O : OK x "DowryBoxes" cX0_undo 3 := O
  have h : wp_X0_undo this w Q := h
  unfold wp_X0_undo at h
  show J x (TI x Q) w 0 0 0 [(0, .ref (adG (xG x) (this)))] []
  refine j_aload_n O 0 0 dX0_undo_0 rfl rfl ?_
  refine j_getI O cfX0 15 (Nat.le_of_ble_eq_true rfl) (.inl rfl) q373 dX0_undo_1 h (fun v1 h => ?_)
  obtain ⟨c2, h⟩ := h
  refine j_if_ne O (tgt := 14) dX0_undo_4 (by decide) c2 h (fun h => ?_) (fun h => ?_)
  · refine j_aload_n O 0 0 dX0_undo_14 rfl rfl ?_
    refine j_dup O dX0_undo_15 rfl ?_
    refine j_getI O cfX0 15 (Nat.le_of_ble_eq_true rfl) (.inl rfl) q373 dX0_undo_16 h (fun v3 h => ?_)
    refine j_iconst O dX0_undo_19 ?_
    refine j_isub O dX0_undo_20 ?_
    refine j_putI O cfX0 15 (Nat.le_of_ble_eq_true rfl) rfl q373 rfl dX0_undo_21 h (fun w4 h => ?_)
    refine j_aload_n O 0 0 dX0_undo_24 rfl rfl ?_
    obtain ⟨e7, h⟩ := h
    refine fin_R O ⟨Nat.zero_le _, Nat.zero_le _⟩ (run_V (As := []) (st := []) O (mt_X0_table (xl x) (xG x) _ _ _ h) e7 cfX0.1 q574 q576 qs5 q121 q577 hy_X0_table (Nat.le_of_ble_eq_true rfl) (Nat.le_of_ble_eq_true rfl) ⟨Nat.zero_le _, Nat.zero_le _⟩ rfl (Nat.le_of_ble_eq_true rfl) dX0_undo_25) (fun o5 w6 h => ?_)
    refine j_aload_n O 0 0 dX0_undo_28 rfl rfl ?_
    refine j_getA O cfX0 4 (Nat.le_of_ble_eq_true rfl) ⟨_, rfl⟩ q362 dX0_undo_29 h (fun k8 h => ?_)
    refine j_aload_n O 0 0 dX0_undo_32 rfl rfl ?_
    refine j_getI O cfX0 15 (Nat.le_of_ble_eq_true rfl) (.inl rfl) q373 dX0_undo_33 h (fun v9 h => ?_)
    refine j_aald O (by decide) dX0_undo_36 h (fun o10 h => ?_)
    obtain ⟨k11, e_k11, g_k11⟩ := h
    subst e_k11
    have h := g_k11
    obtain ⟨e13, h⟩ := h
    refine fin_V O ⟨Nat.zero_le _, Nat.zero_le _⟩ (run_V (As := [vR (xG x) (o10)]) (st := []) O (mt_X2_takes (xl x) (xG x) _ _ _ _ h) e13 cfX2.1 q1285 q477 q478 q123 q479 hy_X2_takes (Nat.le_of_ble_eq_true rfl) (Nat.le_of_ble_eq_true rfl) ⟨Nat.zero_le _, Nat.zero_le _⟩ rfl (Nat.le_of_ble_eq_true rfl) dX0_undo_37) (fun w12 h => ?_)
    refine j_aload_n O 0 0 dX0_undo_40 rfl rfl ?_
    refine j_aload_n O 0 0 dX0_undo_41 rfl rfl ?_
    refine j_getA O cfX0 6 (Nat.le_of_ble_eq_true rfl) ⟨_, rfl⟩ q364 dX0_undo_42 h (fun k14 h => ?_)
    refine j_aload_n O 0 0 dX0_undo_45 rfl rfl ?_
    refine j_getI O cfX0 15 (Nat.le_of_ble_eq_true rfl) (.inl rfl) q373 dX0_undo_46 h (fun v15 h => ?_)
    refine j_iald O dX0_undo_49 h (fun v16 h => ?_)
    obtain ⟨e19, h⟩ := h
    refine fin_I O ⟨Nat.zero_le _, Nat.zero_le _⟩ (run_V (As := [vI (v16)]) (st := []) O (mt_X0_done (xl x) (xG x) _ _ _ _ h) e19 cfX0.1 q558 q560 qs3 q121 q561 hy_X0_done (Nat.le_of_ble_eq_true rfl) (Nat.le_of_ble_eq_true rfl) ⟨Nat.zero_le _, Nat.zero_le _⟩ rfl (Nat.le_of_ble_eq_true rfl) dX0_undo_50) (fun r17 w18 h => ?_)
    exact j_iret O hr dX0_undo_53 h
  · refine j_aload_n O 0 0 dX0_undo_7 rfl rfl ?_
    refine j_bipush (m := (-3)) O dX0_undo_8 bi_m3 ?_
    obtain ⟨e22, h⟩ := h
    refine fin_I O ⟨Nat.zero_le _, Nat.zero_le _⟩ (run_V (As := [vI (((-3)))]) (st := []) O (mt_X0_refuse (xl x) (xG x) _ _ _ _ h) e22 cfX0.1 q468 q470 qs1 q121 q471 hy_X0_refuse (Nat.le_of_ble_eq_true rfl) (Nat.le_of_ble_eq_true rfl) ⟨Nat.zero_le _, Nat.zero_le _⟩ rfl (Nat.le_of_ble_eq_true rfl) dX0_undo_10) (fun r20 w21 h => ?_)
    exact j_iret O hr dX0_undo_13 h
theorem hy_X0_doneOr : (yX0_doneOr.cls = "DowryBoxes" ∧ yX0_doneOr.cls ≠ "java/lang/invoke/MethodHandle" ∧ yX0_doneOr.cls ≠ "java/lang/invoke/VarHandle" ∧ (parseMethodDescriptor yX0_doneOr.desc).map (fun d => d.parameters.length) = some 1) := by decide +kernel
theorem mt_X0_doneOr (l : Launch) (G : GW) (this : Nat) (p1 : Int) (w : Wd) (Q : Int → Wd → Prop) (h : wp_X0_doneOr this p1 w Q) : MI l G yX0_doneOr cX0_doneOr 2 (.int) 2 0 0 [.ref (adG G (this)), vI (p1)] w Q := by
  refine met_I (fun G => [.ref (adG G (this)), vI (p1)]) (by decide) (fun G => Nat.le_of_ble_eq_true rfl) (fun x O hl hm hr => ?_)
  subst hl
  have O : OK x "DowryBoxes" cX0_doneOr 2 := O
  have h : wp_X0_doneOr this p1 w Q := h
  unfold wp_X0_doneOr at h
  show J x (TI x Q) w 0 0 0 [(0, .ref (adG (xG x) (this))), (1, vI (p1))] []
  refine j_iload_n O 1 1 dX0_doneOr_0 rfl rfl ?_
  obtain ⟨c1, h⟩ := h
  refine j_if_ge O (tgt := 12) dX0_doneOr_1 (by decide) c1 h (fun h => ?_) (fun h => ?_)
  · refine j_aload_n O 0 0 dX0_doneOr_12 rfl rfl ?_
    refine j_iload_n O 1 1 dX0_doneOr_13 rfl rfl ?_
    obtain ⟨e4, h⟩ := h
    refine fin_I O ⟨Nat.zero_le _, Nat.zero_le _⟩ (run_V (As := [vI (p1)]) (st := []) O (mt_X0_done (xl x) (xG x) _ _ _ _ h) e4 cfX0.1 q558 q560 qs3 q121 q561 hy_X0_done (Nat.le_of_ble_eq_true rfl) (Nat.le_of_ble_eq_true rfl) ⟨Nat.zero_le _, Nat.zero_le _⟩ rfl (Nat.le_of_ble_eq_true rfl) dX0_doneOr_14) (fun r2 w3 h => ?_)
    exact j_iret O hr dX0_doneOr_17 h
  · refine j_aload_n O 0 0 dX0_doneOr_4 rfl rfl ?_
    refine j_iload_n O 1 1 dX0_doneOr_5 rfl rfl ?_
    obtain ⟨e7, h⟩ := h
    refine fin_I O ⟨Nat.zero_le _, Nat.zero_le _⟩ (run_V (As := [vI (p1)]) (st := []) O (mt_X0_refuse (xl x) (xG x) _ _ _ _ h) e7 cfX0.1 q468 q470 qs1 q121 q471 hy_X0_refuse (Nat.le_of_ble_eq_true rfl) (Nat.le_of_ble_eq_true rfl) ⟨Nat.zero_le _, Nat.zero_le _⟩ rfl (Nat.le_of_ble_eq_true rfl) dX0_doneOr_6) (fun r5 w6 h => ?_)
    refine j_goto O (tgt := 17) dX0_doneOr_9 (by decide) ?_
    exact j_iret O hr dX0_doneOr_17 h
theorem hy_X0_pass : (yX0_pass.cls = "DowryBoxes" ∧ yX0_pass.cls ≠ "java/lang/invoke/MethodHandle" ∧ yX0_pass.cls ≠ "java/lang/invoke/VarHandle" ∧ (parseMethodDescriptor yX0_pass.desc).map (fun d => d.parameters.length) = some 0) := by decide +kernel
theorem mt_X0_pass (l : Launch) (G : GW) (this : Nat) (w : Wd) (Q : Int → Wd → Prop) (h : wp_X0_pass this w Q) : MI l G yX0_pass cX0_pass 1 (.int) 111 0 0 [.ref (adG G (this))] w Q := by
  refine met_I (fun G => [.ref (adG G (this))]) (by decide) (fun G => Nat.le_of_ble_eq_true rfl) (fun x O hl hm hr => ?_)
  subst hl
  have O : OK x "DowryBoxes" cX0_pass 111 := O
  have h : wp_X0_pass this w Q := h
  unfold wp_X0_pass at h
  show J x (TI x Q) w 0 0 0 [(0, .ref (adG (xG x) (this)))] []
  refine j_aload_n O 0 0 dX0_pass_0 rfl rfl ?_
  refine j_aload_n O 0 0 dX0_pass_1 rfl rfl ?_
  obtain ⟨e3, h⟩ := h
  refine fin_I O ⟨Nat.zero_le _, Nat.zero_le _⟩ (run_V (As := []) (st := [.ref (adG (xG x) (this))]) O (mt_X0_passesKept (xl x) (xG x) _ _ _ h) e3 cfX0.1 q1318 q1320 qs26 q121 q1321 hy_X0_passesKept (Nat.le_of_ble_eq_true rfl) (Nat.le_of_ble_eq_true rfl) ⟨Nat.zero_le _, Nat.zero_le _⟩ rfl (Nat.le_of_ble_eq_true rfl) dX0_pass_2) (fun r1 w2 h => ?_)
  obtain ⟨e6, h⟩ := h
  refine fin_I O ⟨Nat.zero_le _, Nat.zero_le _⟩ (run_V (As := [vI (r1)]) (st := []) O (mt_X0_doneOr (xl x) (xG x) _ _ _ _ h) e6 cfX0.1 q1286 q1288 qs22 q121 q1289 hy_X0_doneOr (Nat.le_of_ble_eq_true rfl) (Nat.le_of_ble_eq_true rfl) ⟨Nat.zero_le _, Nat.zero_le _⟩ rfl (Nat.le_of_ble_eq_true rfl) dX0_pass_5) (fun r4 w5 h => ?_)
  exact j_iret O hr dX0_pass_8 h
theorem hy_X0_wed : (yX0_wed.cls = "DowryBoxes" ∧ yX0_wed.cls ≠ "java/lang/invoke/MethodHandle" ∧ yX0_wed.cls ≠ "java/lang/invoke/VarHandle" ∧ (parseMethodDescriptor yX0_wed.desc).map (fun d => d.parameters.length) = some 2) := by decide +kernel
theorem mt_X0_wed (l : Launch) (G : GW) (this : Nat) (p1 : Int) (p2 : Int) (w : Wd) (Q : Int → Wd → Prop) (h : wp_X0_wed this p1 p2 w Q) : MI l G yX0_wed cX0_wed 3 (.int) 111 0 0 [.ref (adG G (this)), vI (p1), vI (p2)] w Q := by
  refine met_I (fun G => [.ref (adG G (this)), vI (p1), vI (p2)]) (by decide) (fun G => Nat.le_of_ble_eq_true rfl) (fun x O hl hm hr => ?_)
  subst hl
  have O : OK x "DowryBoxes" cX0_wed 111 := O
  have h : wp_X0_wed this p1 p2 w Q := h
  unfold wp_X0_wed at h
  show J x (TI x Q) w 0 0 0 [(0, .ref (adG (xG x) (this))), (1, vI (p1)), (2, vI (p2))] []
  refine j_aload_n O 0 0 dX0_wed_0 rfl rfl ?_
  refine j_aload_n O 0 0 dX0_wed_1 rfl rfl ?_
  refine j_iload_n O 1 1 dX0_wed_2 rfl rfl ?_
  refine j_iload_n O 2 2 dX0_wed_3 rfl rfl ?_
  obtain ⟨e3, h⟩ := h
  refine fin_I O ⟨Nat.zero_le _, Nat.zero_le _⟩ (run_V (As := [vI (p1), vI (p2)]) (st := [.ref (adG (xG x) (this))]) O (mt_X0_wedsKept (xl x) (xG x) _ _ _ _ _ h) e3 cfX0.1 q1302 q1304 qs24 q121 q1305 hy_X0_wedsKept (Nat.le_of_ble_eq_true rfl) (Nat.le_of_ble_eq_true rfl) ⟨Nat.zero_le _, Nat.zero_le _⟩ rfl (Nat.le_of_ble_eq_true rfl) dX0_wed_4) (fun r1 w2 h => ?_)
  obtain ⟨e6, h⟩ := h
  refine fin_I O ⟨Nat.zero_le _, Nat.zero_le _⟩ (run_V (As := [vI (r1)]) (st := []) O (mt_X0_doneOr (xl x) (xG x) _ _ _ _ h) e6 cfX0.1 q1286 q1288 qs22 q121 q1289 hy_X0_doneOr (Nat.le_of_ble_eq_true rfl) (Nat.le_of_ble_eq_true rfl) ⟨Nat.zero_le _, Nat.zero_le _⟩ rfl (Nat.le_of_ble_eq_true rfl) dX0_wed_7) (fun r4 w5 h => ?_)
  exact j_iret O hr dX0_wed_10 h
theorem hy_X0_snap : (yX0_snap.cls = "DowryBoxes" ∧ yX0_snap.cls ≠ "java/lang/invoke/MethodHandle" ∧ yX0_snap.cls ≠ "java/lang/invoke/VarHandle" ∧ (parseMethodDescriptor yX0_snap.desc).map (fun d => d.parameters.length) = some 2) := by decide +kernel
theorem mt_X0_snap (l : Launch) (G : GW) (this : Nat) (p1 : Int) (p2 : Int) (w : Wd) (Q : Int → Wd → Prop) (h : wp_X0_snap this p1 p2 w Q) : MI l G yX0_snap cX0_snap 3 (.int) 5 0 0 [.ref (adG G (this)), vI (p1), vI (p2)] w Q := by
  refine met_I (fun G => [.ref (adG G (this)), vI (p1), vI (p2)]) (by decide) (fun G => Nat.le_of_ble_eq_true rfl) (fun x O hl hm hr => ?_)
  subst hl
  have O : OK x "DowryBoxes" cX0_snap 5 := O
  have h : wp_X0_snap this p1 p2 w Q := h
  unfold wp_X0_snap at h
  show J x (TI x Q) w 0 0 0 [(0, .ref (adG (xG x) (this))), (1, vI (p1)), (2, vI (p2))] []
  refine j_aload_n O 0 0 dX0_snap_0 rfl rfl ?_
  refine j_aload_n O 0 0 dX0_snap_1 rfl rfl ?_
  refine j_iload_n O 1 1 dX0_snap_2 rfl rfl ?_
  refine j_iload_n O 2 2 dX0_snap_3 rfl rfl ?_
  obtain ⟨e3, h⟩ := h
  refine fin_I O ⟨Nat.zero_le _, Nat.zero_le _⟩ (run_V (As := [vI (p1), vI (p2)]) (st := [.ref (adG (xG x) (this))]) O (mt_X0_snapsKept (xl x) (xG x) _ _ _ _ _ h) e3 cfX0.1 q1294 q1296 qs23 q121 q1297 hy_X0_snapsKept (Nat.le_of_ble_eq_true rfl) (Nat.le_of_ble_eq_true rfl) ⟨Nat.zero_le _, Nat.zero_le _⟩ rfl (Nat.le_of_ble_eq_true rfl) dX0_snap_4) (fun r1 w2 h => ?_)
  obtain ⟨e6, h⟩ := h
  refine fin_I O ⟨Nat.zero_le _, Nat.zero_le _⟩ (run_V (As := [vI (r1)]) (st := []) O (mt_X0_doneOr (xl x) (xG x) _ _ _ _ h) e6 cfX0.1 q1286 q1288 qs22 q121 q1289 hy_X0_doneOr (Nat.le_of_ble_eq_true rfl) (Nat.le_of_ble_eq_true rfl) ⟨Nat.zero_le _, Nat.zero_le _⟩ rfl (Nat.le_of_ble_eq_true rfl) dX0_snap_7) (fun r4 w5 h => ?_)
  exact j_iret O hr dX0_snap_10 h
theorem hy_X0_pull : (yX0_pull.cls = "DowryBoxes" ∧ yX0_pull.cls ≠ "java/lang/invoke/MethodHandle" ∧ yX0_pull.cls ≠ "java/lang/invoke/VarHandle" ∧ (parseMethodDescriptor yX0_pull.desc).map (fun d => d.parameters.length) = some 3) := by decide +kernel
theorem mt_X0_pull (l : Launch) (G : GW) (this : Nat) (p1 : Int) (p2 : Int) (p3 : Int) (w : Wd) (Q : Int → Wd → Prop) (h : wp_X0_pull this p1 p2 p3 w Q) : MI l G yX0_pull cX0_pull 4 (.int) 5 0 0 [.ref (adG G (this)), vI (p1), vI (p2), vI (p3)] w Q := by
  refine met_I (fun G => [.ref (adG G (this)), vI (p1), vI (p2), vI (p3)]) (by decide) (fun G => Nat.le_of_ble_eq_true rfl) (fun x O hl hm hr => ?_)
  subst hl
  have O : OK x "DowryBoxes" cX0_pull 5 := O
  have h : wp_X0_pull this p1 p2 p3 w Q := h
  unfold wp_X0_pull at h
  show J x (TI x Q) w 0 0 0 [(0, .ref (adG (xG x) (this))), (1, vI (p1)), (2, vI (p2)), (3, vI (p3))] []
  refine j_aload_n O 0 0 dX0_pull_0 rfl rfl ?_
  refine j_aload_n O 0 0 dX0_pull_1 rfl rfl ?_
  refine j_iload_n O 1 1 dX0_pull_2 rfl rfl ?_
  refine j_iload_n O 2 2 dX0_pull_3 rfl rfl ?_
  refine j_iload_n O 3 3 dX0_pull_4 rfl rfl ?_
  obtain ⟨e3, h⟩ := h
  refine fin_I O ⟨Nat.zero_le _, Nat.zero_le _⟩ (run_V (As := [vI (p1), vI (p2), vI (p3)]) (st := [.ref (adG (xG x) (this))]) O (mt_X0_pullsKept (xl x) (xG x) _ _ _ _ _ _ h) e3 cfX0.1 q1277 q1279 qs20 q121 q1280 hy_X0_pullsKept (Nat.le_of_ble_eq_true rfl) (Nat.le_of_ble_eq_true rfl) ⟨Nat.zero_le _, Nat.zero_le _⟩ rfl (Nat.le_of_ble_eq_true rfl) dX0_pull_5) (fun r1 w2 h => ?_)
  obtain ⟨e6, h⟩ := h
  refine fin_I O ⟨Nat.zero_le _, Nat.zero_le _⟩ (run_V (As := [vI (r1)]) (st := []) O (mt_X0_doneOr (xl x) (xG x) _ _ _ _ h) e6 cfX0.1 q1286 q1288 qs22 q121 q1289 hy_X0_doneOr (Nat.le_of_ble_eq_true rfl) (Nat.le_of_ble_eq_true rfl) ⟨Nat.zero_le _, Nat.zero_le _⟩ rfl (Nat.le_of_ble_eq_true rfl) dX0_pull_8) (fun r4 w5 h => ?_)
  exact j_iret O hr dX0_pull_11 h
theorem hy_X0_force : (yX0_force.cls = "DowryBoxes" ∧ yX0_force.cls ≠ "java/lang/invoke/MethodHandle" ∧ yX0_force.cls ≠ "java/lang/invoke/VarHandle" ∧ (parseMethodDescriptor yX0_force.desc).map (fun d => d.parameters.length) = some 1) := by decide +kernel
theorem mt_X0_force (l : Launch) (G : GW) (this : Nat) (p1 : Int) (w : Wd) (Q : Int → Wd → Prop) (h : wp_X0_force this p1 w Q) : MI l G yX0_force cX0_force 3 (.int) 3 0 0 [.ref (adG G (this)), vI (p1)] w Q := by
  refine met_I (fun G => [.ref (adG G (this)), vI (p1)]) (by decide) (fun G => Nat.le_of_ble_eq_true rfl) (fun x O hl hm hr => ?_)
  subst hl
  have O : OK x "DowryBoxes" cX0_force 3 := O
  have h : wp_X0_force this p1 w Q := h
  unfold wp_X0_force at h
  show J x (TI x Q) w 0 0 0 [(0, .ref (adG (xG x) (this))), (1, vI (p1))] []
  refine j_aload_n O 0 0 dX0_force_0 rfl rfl ?_
  refine j_iload_n O 1 1 dX0_force_1 rfl rfl ?_
  obtain ⟨e3, h⟩ := h
  refine fin_I O ⟨Nat.zero_le _, Nat.zero_le _⟩ (run_V (As := [vI (p1)]) (st := []) O (mt_X0_isLaw (xl x) (xG x) _ _ _ _ h) e3 cfX0.1 q1269 q1271 qs19 q121 q1272 hy_X0_isLaw (Nat.le_of_ble_eq_true rfl) (Nat.le_of_ble_eq_true rfl) ⟨Nat.zero_le _, Nat.zero_le _⟩ rfl (Nat.le_of_ble_eq_true rfl) dX0_force_2) (fun r1 w2 h => ?_)
  obtain ⟨c4, h⟩ := h
  refine j_if_ne O (tgt := 15) dX0_force_5 (by decide) c4 h (fun h => ?_) (fun h => ?_)
  · refine j_aload_n O 0 0 dX0_force_15 rfl rfl ?_
    refine j_getR O cfX0 2 (Nat.le_of_ble_eq_true rfl) ⟨_, rfl⟩ q360 dX0_force_16 h (fun o5 h => ?_)
    obtain ⟨k6, e_k6, g_k6⟩ := h
    subst e_k6
    have h := g_k6
    refine j_getIN O cfX1 10 (Nat.le_of_ble_eq_true rfl) (.inl rfl) (lw_n q252 rfl) dX0_force_19 h (fun v7 h => ?_)
    refine j_istore_n (L' := [(2, vI (v7)), (0, .ref (adG (xG x) (this))), (1, vI (p1))]) O 2 dX0_force_22 rfl (by rw [hm]; decide) rfl ?_
    refine j_aload_n O 1 0 dX0_force_23 rfl rfl ?_
    refine j_getR O cfX0 2 (Nat.le_of_ble_eq_true rfl) ⟨_, rfl⟩ q360 dX0_force_24 h (fun o8 h => ?_)
    refine j_iload_n O 2 1 dX0_force_27 rfl rfl ?_
    obtain ⟨k9, e_k9, g_k9⟩ := h
    subst e_k9
    have h := g_k9
    refine j_putIN O cfX1 10 (Nat.le_of_ble_eq_true rfl) rfl (lw_n q252 rfl) rfl dX0_force_28 h (fun w10 h => ?_)
    refine j_aload_n O 1 0 dX0_force_31 rfl rfl ?_
    refine j_iload_n O 0 2 dX0_force_32 rfl rfl ?_
    obtain ⟨e13, h⟩ := h
    refine fin_I O ⟨Nat.zero_le _, Nat.zero_le _⟩ (run_V (As := [vI (v7)]) (st := []) O (mt_X0_done (xl x) (xG x) _ _ _ _ h) e13 cfX0.1 q558 q560 qs3 q121 q561 hy_X0_done (Nat.le_of_ble_eq_true rfl) (Nat.le_of_ble_eq_true rfl) ⟨Nat.zero_le _, Nat.zero_le _⟩ rfl (Nat.le_of_ble_eq_true rfl) dX0_force_33) (fun r11 w12 h => ?_)
    exact j_iret O hr dX0_force_36 h
  · refine j_aload_n O 0 0 dX0_force_8 rfl rfl ?_
    refine j_bipush (m := (-2)) O dX0_force_9 bi_m2 ?_
    obtain ⟨e16, h⟩ := h
    refine fin_I O ⟨Nat.zero_le _, Nat.zero_le _⟩ (run_V (As := [vI (((-2)))]) (st := []) O (mt_X0_refuse (xl x) (xG x) _ _ _ _ h) e16 cfX0.1 q468 q470 qs1 q121 q471 hy_X0_refuse (Nat.le_of_ble_eq_true rfl) (Nat.le_of_ble_eq_true rfl) ⟨Nat.zero_le _, Nat.zero_le _⟩ rfl (Nat.le_of_ble_eq_true rfl) dX0_force_11) (fun r14 w15 h => ?_)
    exact j_iret O hr dX0_force_14 h
theorem hy_X0_stopped : (yX0_stopped.cls = "DowryBoxes" ∧ yX0_stopped.cls ≠ "java/lang/invoke/MethodHandle" ∧ yX0_stopped.cls ≠ "java/lang/invoke/VarHandle" ∧ (parseMethodDescriptor yX0_stopped.desc).map (fun d => d.parameters.length) = some 0) := by decide +kernel
theorem mt_X0_stopped (l : Launch) (G : GW) (this : Nat) (w : Wd) (Q : Int → Wd → Prop) (h : wp_X0_stopped this w Q) : MI l G yX0_stopped cX0_stopped 1 (.int) 1 0 0 [.ref (adG G (this))] w Q := by
  refine met_I (fun G => [.ref (adG G (this))]) (by decide) (fun G => Nat.le_of_ble_eq_true rfl) (fun x O hl hm hr => ?_)
  subst hl
  have O : OK x "DowryBoxes" cX0_stopped 1 := O
  have h : wp_X0_stopped this w Q := h
  unfold wp_X0_stopped at h
  show J x (TI x Q) w 0 0 0 [(0, .ref (adG (xG x) (this)))] []
  refine j_aload_n O 0 0 dX0_stopped_0 rfl rfl ?_
  refine j_getI O cfX0 14 (Nat.le_of_ble_eq_true rfl) (.inl rfl) q372 dX0_stopped_1 h (fun v1 h => ?_)
  exact j_iret O hr dX0_stopped_4 h
theorem hy_X0_fault : (yX0_fault.cls = "DowryBoxes" ∧ yX0_fault.cls ≠ "java/lang/invoke/MethodHandle" ∧ yX0_fault.cls ≠ "java/lang/invoke/VarHandle" ∧ (parseMethodDescriptor yX0_fault.desc).map (fun d => d.parameters.length) = some 0) := by decide +kernel
theorem mt_X0_fault (l : Launch) (G : GW) (this : Nat) (w : Wd) (Q : Int → Wd → Prop) (h : wp_X0_fault this w Q) : MI l G yX0_fault cX0_fault 1 (.int) 1 0 0 [.ref (adG G (this))] w Q := by
  refine met_I (fun G => [.ref (adG G (this))]) (by decide) (fun G => Nat.le_of_ble_eq_true rfl) (fun x O hl hm hr => ?_)
  subst hl
  have O : OK x "DowryBoxes" cX0_fault 1 := O
  have h : wp_X0_fault this w Q := h
  unfold wp_X0_fault at h
  show J x (TI x Q) w 0 0 0 [(0, .ref (adG (xG x) (this)))] []
  refine j_aload_n O 0 0 dX0_fault_0 rfl rfl ?_
  refine j_getI O cfX0 12 (Nat.le_of_ble_eq_true rfl) (.inl rfl) q370 dX0_fault_1 h (fun v1 h => ?_)
  exact j_iret O hr dX0_fault_4 h
theorem hy_X7_init : (yX7_init.cls = "DowryBoxes$LawReader" ∧ yX7_init.cls ≠ "java/lang/invoke/MethodHandle" ∧ yX7_init.cls ≠ "java/lang/invoke/VarHandle" ∧ (parseMethodDescriptor yX7_init.desc).map (fun d => d.parameters.length) = some 2) := by decide +kernel
theorem mt_X7_init (l : Launch) (G : GW) (this : Nat) (p1 : Option Nat) (p2 : Int) (bc bs : Nat) (w : Wd) (Q : Wd → Prop) (h : wp_X7_init this p1 p2 bc bs w Q) : MV l G yX7_init cX7_init 3 4 bc bs [.ref (adG G (this)), vR G (p1), vI (p2)] w Q := by
  refine met_V (fun G => [.ref (adG G (this)), vR G (p1), vI (p2)]) (by decide) (fun G => by cases p1 <;> exact Nat.le_of_ble_eq_true rfl) (fun x O hl hm hr hn => ?_)
  subst hl
  have O : OK x "DowryBoxes$LawReader" cX7_init 4 := O
  have h : wp_X7_init this p1 p2 bc bs w Q := h
  unfold wp_X7_init at h
  rw [show lv_args 0 [.ref (adG (xG x) (this)), vR (xG x) (p1), vI (p2)] = [(0, .ref (adG (xG x) (this))), (1, vR (xG x) (p1)), (2, vI (p2))] from by cases p1 <;> rfl]
  show J x (TV x Q) w bc bs 0 [(0, .ref (adG (xG x) (this))), (1, vR (xG x) (p1)), (2, vI (p2))] []
  refine j_aload_n O 0 0 dX7_init_0 rfl rfl ?_
  refine j_aloadq_n O 1 1 dX7_init_1 rfl rfl ?_
  refine j_iload_n O 2 2 dX7_init_2 rfl rfl ?_
  refine fin_V O ⟨Nat.zero_le _, Nat.zero_le _⟩ (run_I (As := [vR (xG x) (p1), vI (p2)]) (st := []) O (mt_X6_init (xl x) (xG x) _ _ _ _ _ h) q783 q784 q136 q785 rfl hy_X6_init.2 (Nat.le_of_ble_eq_true rfl) (Nat.le_of_ble_eq_true rfl) ⟨Nat.zero_le _, Nat.zero_le _⟩ rfl (Nat.le_of_ble_eq_true rfl) dX7_init_3) (fun w1 h => ?_)
  refine j_aload_n O 0 0 dX7_init_6 rfl rfl ?_
  refine j_newO O cfJ2 q787 q204 q126 dX7_init_7 h (fun k2 w3 h => ?_)
  refine j_dup O dX7_init_10 rfl ?_
  refine j_iconst O dX7_init_11 ?_
  obtain ⟨mc5, ms6, hb7, h⟩ := h
  refine fin_V O hb7 (run_I (As := [vI (2)]) (st := [.ref (adG (xG x) (k2)), .ref (adG (xG x) (this))]) O (mt_J2_init (xl x) (xG x) _ _ _ _ _ _ h) q788 q206 q126 q207 rfl hy_J2_init.2 (Nat.le_of_ble_eq_true rfl) (Nat.le_of_ble_eq_true rfl) hb7 rfl (Nat.le_of_ble_eq_true rfl) dX7_init_12) (fun w4 h => ?_)
  refine j_putFR (v := (some k2)) O cfX7 7 (Nat.le_of_ble_eq_true rfl) (.inl ⟨_, rfl⟩) q789 rfl hn rfl dX7_init_15 h (fun w8 h => ?_)
  exact j_vret O hr dX7_init_18 h
theorem hy_X19_init : (yX19_init.cls = "DowryBoxes$Law" ∧ yX19_init.cls ≠ "java/lang/invoke/MethodHandle" ∧ yX19_init.cls ≠ "java/lang/invoke/VarHandle" ∧ (parseMethodDescriptor yX19_init.desc).map (fun d => d.parameters.length) = some 1) := by decide +kernel
theorem mt_X19_init (l : Launch) (G : GW) (this : Nat) (p1 : Option Nat) (w : Wd) (Q : Wd → Prop) (h : wp_X19_init this p1 w Q) : MV l G yX19_init cX19_init 2 1 0 0 [.ref (adG G (this)), vR G (p1)] w Q := by
  refine met_V (fun G => [.ref (adG G (this)), vR G (p1)]) (by decide) (fun G => by cases p1 <;> exact Nat.le_of_ble_eq_true rfl) (fun x O hl hm hr hn => ?_)
  subst hl
  have O : OK x "DowryBoxes$Law" cX19_init 1 := O
  have h : wp_X19_init this p1 w Q := h
  unfold wp_X19_init at h
  rw [show lv_args 0 [.ref (adG (xG x) (this)), vR (xG x) (p1)] = [(0, .ref (adG (xG x) (this))), (1, vR (xG x) (p1))] from by cases p1 <;> rfl]
  show J x (TV x Q) w 0 0 0 [(0, .ref (adG (xG x) (this))), (1, vR (xG x) (p1))] []
  refine j_aload_n O 0 0 dX19_init_0 rfl rfl ?_
  refine j_objInit O q1251 q163 q164 (Nat.le_of_ble_eq_true rfl) (Nat.le_of_ble_eq_true rfl) dX19_init_1 ?_
  refine j_aload_n O 0 0 dX19_init_4 rfl rfl ?_
  refine j_aloadq_n O 1 1 dX19_init_5 rfl rfl ?_
  refine j_putFR O cfX19 0 (Nat.le_of_ble_eq_true rfl) (.inl ⟨_, rfl⟩) q1252 rfl hn rfl dX19_init_6 h (fun w1 h => ?_)
  exact j_vret O hr dX19_init_9 h
theorem hy_X0_law : (yX0_law.cls = "DowryBoxes" ∧ yX0_law.cls ≠ "java/lang/invoke/MethodHandle" ∧ yX0_law.cls ≠ "java/lang/invoke/VarHandle" ∧ (parseMethodDescriptor yX0_law.desc).map (fun d => d.parameters.length) = some 0) := by decide +kernel
theorem mt_X0_law (l : Launch) (G : GW) (this : Nat) (bc bs : Nat) (w : Wd) (Q : Int → Wd → Prop) (h : wp_X0_law this bc bs w Q) : MI l G yX0_law cX0_law 3 (.int) 83 bc bs [.ref (adG G (this))] w Q := by
  refine met_I (fun G => [.ref (adG G (this))]) (by decide) (fun G => Nat.le_of_ble_eq_true rfl) (fun x O hl hm hr => ?_)
  subst hl
  have O : OK x "DowryBoxes" cX0_law 83 := O
  have h : wp_X0_law this bc bs w Q := h
  unfold wp_X0_law at h
  show J x (TI x Q) w bc bs 0 [(0, .ref (adG (xG x) (this)))] []
  refine j_aload_n O 0 0 dX0_law_0 rfl rfl ?_
  refine j_getI O cfX0 11 (Nat.le_of_ble_eq_true rfl) (.inl rfl) q369 dX0_law_1 h (fun v1 h => ?_)
  refine j_istore_n (L' := [(1, vI (v1)), (0, .ref (adG (xG x) (this)))]) O 1 dX0_law_4 rfl (by rw [hm]; decide) rfl ?_
  refine j_aload_n O 1 0 dX0_law_5 rfl rfl ?_
  refine j_iconst O dX0_law_6 ?_
  refine j_putI O cfX0 11 (Nat.le_of_ble_eq_true rfl) rfl q369 rfl dX0_law_7 h (fun w2 h => ?_)
  refine j_aload_n O 1 0 dX0_law_10 rfl rfl ?_
  refine j_getR O cfX0 2 (Nat.le_of_ble_eq_true rfl) ⟨_, rfl⟩ q360 dX0_law_11 h (fun o3 h => ?_)
  obtain ⟨k4, e_k4, g_k4⟩ := h
  subst e_k4
  have h := g_k4
  refine j_getRN O cfX1 4 (Nat.le_of_ble_eq_true rfl) ⟨_, rfl⟩ (lw_n q240 rfl) dX0_law_14 h (fun o5 h => ?_)
  obtain ⟨k6, e_k6, g_k6⟩ := h
  subst e_k6
  have h := g_k6
  obtain ⟨e9, h⟩ := h
  refine fin_I O ⟨Nat.zero_le _, Nat.zero_le _⟩ (run_V (As := []) (st := []) O (mt_J2_size (xl x) (xG x) _ _ _ h) e9 cfJ2.1 q777 q648 q649 q126 q650 hy_J2_size (Nat.le_of_ble_eq_true rfl) (Nat.le_of_ble_eq_true rfl) ⟨Nat.zero_le _, Nat.zero_le _⟩ rfl (Nat.le_of_ble_eq_true rfl) dX0_law_17) (fun r7 w8 h => ?_)
  refine j_bipush (m := 6) O dX0_law_20 bi_6 ?_
  obtain ⟨c10, h⟩ := h
  refine j_icmp_ne O (tgt := 32) dX0_law_22 (by decide) c10 (by decide) h (fun h => ?_) (fun h => ?_)
  · refine j_newO O cfX7 q778 q779 q137 dX0_law_32 h (fun k11 w12 h => ?_)
    refine j_dup O dX0_law_35 rfl ?_
    refine j_aload_n O 1 0 dX0_law_36 rfl rfl ?_
    refine j_getA O cfX0 10 (Nat.le_of_ble_eq_true rfl) ⟨_, rfl⟩ q368 dX0_law_37 h (fun k13 h => ?_)
    refine j_iload_n O 0 1 dX0_law_40 rfl rfl ?_
    obtain ⟨mc15, ms16, hb17, h⟩ := h
    refine fin_V O hb17 (run_I (As := [vR (xG x) ((some k13)), vI (v1)]) (st := [.ref (adG (xG x) (k11))]) O (mt_X7_init (xl x) (xG x) _ _ _ _ _ _ _ h) q780 q781 q137 q782 rfl hy_X7_init.2 (Nat.le_of_ble_eq_true rfl) (Nat.le_of_ble_eq_true rfl) hb17 rfl (Nat.le_of_ble_eq_true rfl) dX0_law_41) (fun w14 h => ?_)
    refine j_astore_n (L' := [(2, .ref (adG (xG x) (k11))), (1, vI (v1)), (0, .ref (adG (xG x) (this)))]) O 2 dX0_law_44 rfl (by rw [hm]; decide) rfl ?_
    refine j_aload_n O 2 0 dX0_law_45 rfl rfl ?_
    refine j_aload_n O 0 2 dX0_law_46 rfl rfl ?_
    obtain ⟨e22, h⟩ := h
    obtain ⟨mc20, ms21, hb23, h⟩ := h
    refine fin_I O hb23 (run_VW (As := [vR (xG x) ((some k11))]) (st := []) O (mt_X0_reads (xl x) (xG x) _ _ _ _ _ _ h) e22 cfX0.1 q815 q817 qs16 q121 q818 hy_X0_reads (Nat.le_of_ble_eq_true rfl) (Nat.le_of_ble_eq_true rfl) hb23 rfl (Nat.le_of_ble_eq_true rfl) dX0_law_47) (fun r18 w19 h => ?_)
    obtain ⟨c24, h⟩ := h
    refine j_if_ne O (tgt := 60) dX0_law_50 (by decide) c24 h (fun h => ?_) (fun h => ?_)
    · refine j_aload_n O 2 0 dX0_law_60 rfl rfl ?_
      refine j_getR O cfX0 2 (Nat.le_of_ble_eq_true rfl) ⟨_, rfl⟩ q360 dX0_law_61 h (fun o25 h => ?_)
      obtain ⟨k26, e_k26, g_k26⟩ := h
      subst e_k26
      have h := g_k26
      refine j_getRN O cfX1 4 (Nat.le_of_ble_eq_true rfl) ⟨_, rfl⟩ (lw_n q240 rfl) dX0_law_64 h (fun o27 h => ?_)
      refine j_newO O cfX19 q641 q1247 q155 dX0_law_67 h (fun k28 w29 h => ?_)
      refine j_dup O dX0_law_70 rfl ?_
      refine j_aload_n O 0 2 dX0_law_71 rfl rfl ?_
      refine j_getRN O cfX7 7 (Nat.le_of_ble_eq_true rfl) ⟨_, rfl⟩ (lw_n q790 rfl) dX0_law_72 h (fun o30 h => ?_)
      refine fin_V O ⟨Nat.zero_le _, Nat.zero_le _⟩ (run_I (As := [vR (xG x) (o30)]) (st := [.ref (adG (xG x) (k28)), vR (xG x) (o27)]) O (mt_X19_init (xl x) (xG x) _ _ _ _ h) q1248 q1249 q155 q1250 rfl hy_X19_init.2 (Nat.le_of_ble_eq_true rfl) (Nat.le_of_ble_eq_true rfl) ⟨Nat.zero_le _, Nat.zero_le _⟩ rfl (by simp only [List.map_cons, List.map_nil, vR_cat]; exact Nat.le_of_ble_eq_true rfl) dX0_law_75) (fun w31 h => ?_)
      obtain ⟨k32, e_k32, g_k32⟩ := h
      subst e_k32
      have h := g_k32
      obtain ⟨e37, h⟩ := h
      obtain ⟨mc35, ms36, hb38, h⟩ := h
      refine fin_I O hb38 (run_V (As := [vR (xG x) ((some k28))]) (st := []) O (mt_J2_add (xl x) (xG x) _ _ _ _ _ _ h) e37 cfJ2.1 q1256 q1164 q1165 q126 q1166 hy_J2_add (Nat.le_of_ble_eq_true rfl) (Nat.le_of_ble_eq_true rfl) hb38 rfl (Nat.le_of_ble_eq_true rfl) dX0_law_78) (fun r33 w34 h => ?_)
      refine j_pop O dX0_law_81 rfl ?_
      refine j_aload_n O 2 0 dX0_law_82 rfl rfl ?_
      refine j_aload_n O 2 0 dX0_law_83 rfl rfl ?_
      refine j_getR O cfX0 2 (Nat.le_of_ble_eq_true rfl) ⟨_, rfl⟩ q360 dX0_law_84 h (fun o39 h => ?_)
      obtain ⟨k40, e_k40, g_k40⟩ := h
      subst e_k40
      have h := g_k40
      refine j_getRN O cfX1 4 (Nat.le_of_ble_eq_true rfl) ⟨_, rfl⟩ (lw_n q240 rfl) dX0_law_87 h (fun o41 h => ?_)
      obtain ⟨k42, e_k42, g_k42⟩ := h
      subst e_k42
      have h := g_k42
      obtain ⟨e45, h⟩ := h
      refine fin_I O ⟨Nat.zero_le _, Nat.zero_le _⟩ (run_V (As := []) (st := [.ref (adG (xG x) (this))]) O (mt_J2_size (xl x) (xG x) _ _ _ h) e45 cfJ2.1 q777 q648 q649 q126 q650 hy_J2_size (Nat.le_of_ble_eq_true rfl) (Nat.le_of_ble_eq_true rfl) ⟨Nat.zero_le _, Nat.zero_le _⟩ rfl (Nat.le_of_ble_eq_true rfl) dX0_law_90) (fun r43 w44 h => ?_)
      refine j_iconst O dX0_law_93 ?_
      refine j_isub O dX0_law_94 ?_
      obtain ⟨e48, h⟩ := h
      refine fin_I O ⟨Nat.zero_le _, Nat.zero_le _⟩ (run_V (As := [vI ((r43 - 1))]) (st := []) O (mt_X0_done (xl x) (xG x) _ _ _ _ h) e48 cfX0.1 q558 q560 qs3 q121 q561 hy_X0_done (Nat.le_of_ble_eq_true rfl) (Nat.le_of_ble_eq_true rfl) ⟨Nat.zero_le _, Nat.zero_le _⟩ rfl (Nat.le_of_ble_eq_true rfl) dX0_law_95) (fun r46 w47 h => ?_)
      exact j_iret O hr dX0_law_98 h
    · refine j_aload_n O 2 0 dX0_law_53 rfl rfl ?_
      refine j_bipush (m := (-6)) O dX0_law_54 bi_m6 ?_
      obtain ⟨e51, h⟩ := h
      refine fin_I O ⟨Nat.zero_le _, Nat.zero_le _⟩ (run_V (As := [vI (((-6)))]) (st := []) O (mt_X0_refuse (xl x) (xG x) _ _ _ _ h) e51 cfX0.1 q468 q470 qs1 q121 q471 hy_X0_refuse (Nat.le_of_ble_eq_true rfl) (Nat.le_of_ble_eq_true rfl) ⟨Nat.zero_le _, Nat.zero_le _⟩ rfl (Nat.le_of_ble_eq_true rfl) dX0_law_56) (fun r49 w50 h => ?_)
      exact j_iret O hr dX0_law_59 h
  · refine j_aload_n O 1 0 dX0_law_25 rfl rfl ?_
    refine j_bipush (m := (-5)) O dX0_law_26 bi_m5 ?_
    obtain ⟨e54, h⟩ := h
    refine fin_I O ⟨Nat.zero_le _, Nat.zero_le _⟩ (run_V (As := [vI (((-5)))]) (st := []) O (mt_X0_refuse (xl x) (xG x) _ _ _ _ h) e54 cfX0.1 q468 q470 qs1 q121 q471 hy_X0_refuse (Nat.le_of_ble_eq_true rfl) (Nat.le_of_ble_eq_true rfl) ⟨Nat.zero_le _, Nat.zero_le _⟩ rfl (Nat.le_of_ble_eq_true rfl) dX0_law_28) (fun r52 w53 h => ?_)
    exact j_iret O hr dX0_law_31 h
theorem hy_X0_rust : (yX0_rust.cls = "DowryBoxes" ∧ yX0_rust.cls ≠ "java/lang/invoke/MethodHandle" ∧ yX0_rust.cls ≠ "java/lang/invoke/VarHandle" ∧ (parseMethodDescriptor yX0_rust.desc).map (fun d => d.parameters.length) = some 0) := by decide +kernel
theorem mt_X0_rust (l : Launch) (G : GW) (this : Nat) (w : Wd) (Q : Int → Wd → Prop) (h : wp_X0_rust this w Q) : MI l G yX0_rust cX0_rust 1 (.int) 1 0 0 [.ref (adG G (this))] w Q := by
  refine met_I (fun G => [.ref (adG G (this))]) (by decide) (fun G => Nat.le_of_ble_eq_true rfl) (fun x O hl hm hr => ?_)
  subst hl
  have O : OK x "DowryBoxes" cX0_rust 1 := O
  have h : wp_X0_rust this w Q := h
  unfold wp_X0_rust at h
  show J x (TI x Q) w 0 0 0 [(0, .ref (adG (xG x) (this)))] []
  refine j_aload_n O 0 0 dX0_rust_0 rfl rfl ?_
  refine j_getI O cfX0 13 (Nat.le_of_ble_eq_true rfl) (.inl rfl) q371 dX0_rust_1 h (fun v1 h => ?_)
  exact j_iret O hr dX0_rust_4 h
theorem hy_X0_settled : (yX0_settled.cls = "DowryBoxes" ∧ yX0_settled.cls ≠ "java/lang/invoke/MethodHandle" ∧ yX0_settled.cls ≠ "java/lang/invoke/VarHandle" ∧ (parseMethodDescriptor yX0_settled.desc).map (fun d => d.parameters.length) = some 1) := by decide +kernel
theorem mt_X0_settled (l : Launch) (G : GW) (this : Nat) (p1 : Int) (w : Wd) (Q : Int → Wd → Prop) (h : wp_X0_settled this p1 w Q) : MI l G yX0_settled cX0_settled 2 (.int) 2 0 0 [.ref (adG G (this)), vI (p1)] w Q := by
  refine met_I (fun G => [.ref (adG G (this)), vI (p1)]) (by decide) (fun G => Nat.le_of_ble_eq_true rfl) (fun x O hl hm hr => ?_)
  subst hl
  have O : OK x "DowryBoxes" cX0_settled 2 := O
  have h : wp_X0_settled this p1 w Q := h
  unfold wp_X0_settled at h
  show J x (TI x Q) w 0 0 0 [(0, .ref (adG (xG x) (this))), (1, vI (p1))] []
  refine j_aload_n O 0 0 dX0_settled_0 rfl rfl ?_
  refine j_iconst O dX0_settled_1 ?_
  refine j_putI O cfX0 15 (Nat.le_of_ble_eq_true rfl) rfl q373 rfl dX0_settled_2 h (fun w1 h => ?_)
  refine j_aload_n O 0 0 dX0_settled_5 rfl rfl ?_
  refine j_iload_n O 1 1 dX0_settled_6 rfl rfl ?_
  obtain ⟨e4, h⟩ := h
  refine fin_I O ⟨Nat.zero_le _, Nat.zero_le _⟩ (run_V (As := [vI (p1)]) (st := []) O (mt_X0_done (xl x) (xG x) _ _ _ _ h) e4 cfX0.1 q558 q560 qs3 q121 q561 hy_X0_done (Nat.le_of_ble_eq_true rfl) (Nat.le_of_ble_eq_true rfl) ⟨Nat.zero_le _, Nat.zero_le _⟩ rfl (Nat.le_of_ble_eq_true rfl) dX0_settled_7) (fun r2 w3 h => ?_)
  exact j_iret O hr dX0_settled_10 h
theorem hy_X0_row : (yX0_row.cls = "DowryBoxes" ∧ yX0_row.cls ≠ "java/lang/invoke/MethodHandle" ∧ yX0_row.cls ≠ "java/lang/invoke/VarHandle" ∧ (parseMethodDescriptor yX0_row.desc).map (fun d => d.parameters.length) = some 0) := by decide +kernel
theorem wk_X0_row_152 {x : Cx} (O : OK x "DowryBoxes" cX0_row 3) (hr : (xM x).sig.returnType = some .int) (hm : xn x = 5) {Q : Int → Wd → Prop} (K40 : Int → Int → Wd → Prop) (X40 : Int → Wd → Prop) (this : Nat) (x1 : Int) (x2 : Int) (x3 : Int) (s0 : Int) (s1 : Int) (s2 : Nat) (hK40 : ∀ (y2 : Int) (y3 : Int) (w : Wd), K40 y2 y3 w → J x (TI x Q) w 0 0 40 [(0, .ref (adG (xG x) (this))), (1, vI (x1)), (2, vI (y2)), (3, vI (y3))] []) (hX40 : ∀ (y2 : Int) (w : Wd), X40 y2 w → J x (TI x Q) w 0 0 162 [(0, .ref (adG (xG x) (this))), (2, vI (y2))] []) (w : Wd) (h : wp_X0_row_152 Q K40 X40 this x1 x2 x3 s0 s1 s2 w) : J x (TI x Q) w 0 0 152 [(0, .ref (adG (xG x) (this))), (1, vI (x1)), (2, vI (x2)), (3, vI (x3))] [vI (s0), vI (s1), .ref (adG (xG x) (s2))] := by
  unfold wp_X0_row_152 at h
  refine j_iadd O dX0_row_152 ?_
  refine j_putI O cfX0 13 (Nat.le_of_ble_eq_true rfl) rfl q371 rfl dX0_row_153 h (fun w1 h => ?_)
  refine j_iinc (L' := [(3, vI (x3 + 3)), (0, .ref (adG (xG x) (this))), (1, vI (x1)), (2, vI (x2))]) O 3 dX0_row_156 rfl (by rw [hm]; decide) rfl ?_
  refine j_goto O (tgt := 40) dX0_row_159 (by decide) ?_
  exact (J.sub [1, 2, 3, 0] rfl <| hK40 _ _ _ h)
theorem wk_X0_row_135 {x : Cx} (O : OK x "DowryBoxes" cX0_row 3) (hr : (xM x).sig.returnType = some .int) (hm : xn x = 5) {Q : Int → Wd → Prop} (K40 : Int → Int → Wd → Prop) (X40 : Int → Wd → Prop) (this : Nat) (x1 : Int) (x3 : Int) (x4 : Int) (s0 : Int) (s1 : Int) (hK40 : ∀ (y2 : Int) (y3 : Int) (w : Wd), K40 y2 y3 w → J x (TI x Q) w 0 0 40 [(0, .ref (adG (xG x) (this))), (1, vI (x1)), (2, vI (y2)), (3, vI (y3))] []) (hX40 : ∀ (y2 : Int) (w : Wd), X40 y2 w → J x (TI x Q) w 0 0 162 [(0, .ref (adG (xG x) (this))), (2, vI (y2))] []) (w : Wd) (h : wp_X0_row_135 Q K40 X40 this x1 x3 x4 s0 s1 w) : J x (TI x Q) w 0 0 135 [(0, .ref (adG (xG x) (this))), (1, vI (x1)), (3, vI (x3)), (4, vI (x4))] [vI (s0), vI (s1)] := by
  unfold wp_X0_row_135 at h
  refine j_iadd O dX0_row_135 ?_
  refine j_istore_n (L' := [(2, vI (s1 + s0)), (0, .ref (adG (xG x) (this))), (1, vI (x1)), (3, vI (x3)), (4, vI (x4))]) O 2 dX0_row_136 rfl (by rw [hm]; decide) rfl ?_
  refine j_aload_n O 1 0 dX0_row_137 rfl rfl ?_
  refine j_dup O dX0_row_138 rfl ?_
  refine j_getI O cfX0 13 (Nat.le_of_ble_eq_true rfl) (.inl rfl) q371 dX0_row_139 h (fun v1 h => ?_)
  refine j_iload O 4 dX0_row_142 rfl ?_
  obtain ⟨c2, h⟩ := h
  refine j_if_eq O (tgt := 151) dX0_row_144 (by decide) c2 h (fun h => ?_) (fun h => ?_)
  · refine j_iconst O dX0_row_151 ?_
    exact (J.sub [1, 2, 0, 3] rfl <| wk_X0_row_152 O hr hm _ _ _ _ _ _ _ _ _ hK40 hX40 _ h)
  · refine j_iconst O dX0_row_147 ?_
    refine j_goto O (tgt := 152) dX0_row_148 (by decide) ?_
    exact (J.sub [1, 2, 0, 3] rfl <| wk_X0_row_152 O hr hm _ _ _ _ _ _ _ _ _ hK40 hX40 _ h)
theorem wk_X0_row_124 {x : Cx} (O : OK x "DowryBoxes" cX0_row 3) (hr : (xM x).sig.returnType = some .int) (hm : xn x = 5) {Q : Int → Wd → Prop} (K40 : Int → Int → Wd → Prop) (X40 : Int → Wd → Prop) (this : Nat) (x1 : Int) (x2 : Int) (x3 : Int) (x4 : Int) (hK40 : ∀ (y2 : Int) (y3 : Int) (w : Wd), K40 y2 y3 w → J x (TI x Q) w 0 0 40 [(0, .ref (adG (xG x) (this))), (1, vI (x1)), (2, vI (y2)), (3, vI (y3))] []) (hX40 : ∀ (y2 : Int) (w : Wd), X40 y2 w → J x (TI x Q) w 0 0 162 [(0, .ref (adG (xG x) (this))), (2, vI (y2))] []) (w : Wd) (h : wp_X0_row_124 Q K40 X40 this x1 x2 x3 x4 w) : J x (TI x Q) w 0 0 124 [(0, .ref (adG (xG x) (this))), (1, vI (x1)), (2, vI (x2)), (3, vI (x3)), (4, vI (x4))] [] := by
  unfold wp_X0_row_124 at h
  refine j_iload_n O 2 2 dX0_row_124 rfl rfl ?_
  refine j_iload O 4 dX0_row_125 rfl ?_
  obtain ⟨c1, h⟩ := h
  refine j_if_eq O (tgt := 134) dX0_row_127 (by decide) c1 h (fun h => ?_) (fun h => ?_)
  · refine j_iconst O dX0_row_134 ?_
    exact (J.sub [0, 1, 3, 4] rfl <| wk_X0_row_135 O hr hm _ _ _ _ _ _ _ _ hK40 hX40 _ h)
  · refine j_iconst O dX0_row_130 ?_
    refine j_goto O (tgt := 135) dX0_row_131 (by decide) ?_
    exact (J.sub [0, 1, 3, 4] rfl <| wk_X0_row_135 O hr hm _ _ _ _ _ _ _ _ hK40 hX40 _ h)
theorem wk_X0_row_79 {x : Cx} (O : OK x "DowryBoxes" cX0_row 3) (hr : (xM x).sig.returnType = some .int) (hm : xn x = 5) {Q : Int → Wd → Prop} (K40 : Int → Int → Wd → Prop) (X40 : Int → Wd → Prop) (this : Nat) (x1 : Int) (x2 : Int) (x3 : Int) (s0 : Int) (hK40 : ∀ (y2 : Int) (y3 : Int) (w : Wd), K40 y2 y3 w → J x (TI x Q) w 0 0 40 [(0, .ref (adG (xG x) (this))), (1, vI (x1)), (2, vI (y2)), (3, vI (y3))] []) (hX40 : ∀ (y2 : Int) (w : Wd), X40 y2 w → J x (TI x Q) w 0 0 162 [(0, .ref (adG (xG x) (this))), (2, vI (y2))] []) (w : Wd) (h : wp_X0_row_79 Q K40 X40 this x1 x2 x3 s0 w) : J x (TI x Q) w 0 0 79 [(0, .ref (adG (xG x) (this))), (1, vI (x1)), (2, vI (x2)), (3, vI (x3))] [vI (s0)] := by
  unfold wp_X0_row_79 at h
  refine j_istore (L' := [(4, vI (s0)), (0, .ref (adG (xG x) (this))), (1, vI (x1)), (2, vI (x2)), (3, vI (x3))]) O dX0_row_79 (by rw [hm]; decide) rfl ?_
  refine j_iload O 0 dX0_row_81 rfl ?_
  obtain ⟨c1, h⟩ := h
  refine j_if_eq O (tgt := 124) dX0_row_83 (by decide) c1 h (fun h => ?_) (fun h => ?_)
  · exact (J.sub [1, 2, 3, 4, 0] rfl <| wk_X0_row_124 O hr hm _ _ _ _ _ _ _ hK40 hX40 _ h)
  · refine j_aload_n O 1 0 dX0_row_86 rfl rfl ?_
    obtain ⟨e4, h⟩ := h
    refine fin_R O ⟨Nat.zero_le _, Nat.zero_le _⟩ (run_V (As := []) (st := []) O (mt_X0_table (xl x) (xG x) _ _ _ h) e4 cfX0.1 q574 q576 qs5 q121 q577 hy_X0_table (Nat.le_of_ble_eq_true rfl) (Nat.le_of_ble_eq_true rfl) ⟨Nat.zero_le _, Nat.zero_le _⟩ rfl (Nat.le_of_ble_eq_true rfl) dX0_row_87) (fun o2 w3 h => ?_)
    obtain ⟨k5, e_k5, g_k5⟩ := h
    subst e_k5
    have h := g_k5
    refine j_getAN O cfX2 0 (Nat.le_of_ble_eq_true rfl) ⟨_, rfl⟩ (lw_n q178 rfl) dX0_row_90 h (fun k6 h => ?_)
    refine j_bipush (m := 8) O dX0_row_93 bi_8 ?_
    refine j_aload_n O 1 0 dX0_row_95 rfl rfl ?_
    refine j_getA O cfX0 10 (Nat.le_of_ble_eq_true rfl) ⟨_, rfl⟩ q368 dX0_row_96 h (fun k7 h => ?_)
    refine j_iload_n O 4 3 dX0_row_99 rfl rfl ?_
    refine j_bald O dX0_row_100 h (fun v8 h => ?_)
    refine j_imul O dX0_row_101 ?_
    refine j_aload_n O 1 0 dX0_row_102 rfl rfl ?_
    refine j_getA O cfX0 10 (Nat.le_of_ble_eq_true rfl) ⟨_, rfl⟩ q368 dX0_row_103 h (fun k9 h => ?_)
    refine j_iload_n O 4 3 dX0_row_106 rfl rfl ?_
    refine j_iconst O dX0_row_107 ?_
    refine j_iadd O dX0_row_108 ?_
    refine j_bald O dX0_row_109 h (fun v10 h => ?_)
    refine j_iadd O dX0_row_110 ?_
    refine j_aload_n O 1 0 dX0_row_111 rfl rfl ?_
    refine j_getA O cfX0 10 (Nat.le_of_ble_eq_true rfl) ⟨_, rfl⟩ q368 dX0_row_112 h (fun k11 h => ?_)
    refine j_iload_n O 4 3 dX0_row_115 rfl rfl ?_
    refine j_iconst O dX0_row_116 ?_
    refine j_iadd O dX0_row_117 ?_
    refine j_bald O dX0_row_118 h (fun v12 h => ?_)
    refine j_sipush (m := 255) O dX0_row_119 si_255 ?_
    refine j_iand O dX0_row_122 ?_
    refine j_iast O dX0_row_123 h (fun w13 h => ?_)
    exact (J.sub [1, 2, 3, 4, 0] rfl <| wk_X0_row_124 O hr hm _ _ _ _ _ _ _ hK40 hX40 _ h)
theorem wk_X0_row_78 {x : Cx} (O : OK x "DowryBoxes" cX0_row 3) (hr : (xM x).sig.returnType = some .int) (hm : xn x = 5) {Q : Int → Wd → Prop} (K40 : Int → Int → Wd → Prop) (X40 : Int → Wd → Prop) (this : Nat) (x1 : Int) (x2 : Int) (x3 : Int) (hK40 : ∀ (y2 : Int) (y3 : Int) (w : Wd), K40 y2 y3 w → J x (TI x Q) w 0 0 40 [(0, .ref (adG (xG x) (this))), (1, vI (x1)), (2, vI (y2)), (3, vI (y3))] []) (hX40 : ∀ (y2 : Int) (w : Wd), X40 y2 w → J x (TI x Q) w 0 0 162 [(0, .ref (adG (xG x) (this))), (2, vI (y2))] []) (w : Wd) (h : wp_X0_row_78 Q K40 X40 this x1 x2 x3 w) : J x (TI x Q) w 0 0 78 [(0, .ref (adG (xG x) (this))), (1, vI (x1)), (2, vI (x2)), (3, vI (x3))] [] := by
  unfold wp_X0_row_78 at h
  refine j_iconst O dX0_row_78 ?_
  exact (J.sub [0, 1, 2, 3] rfl <| wk_X0_row_79 O hr hm _ _ _ _ _ _ _ hK40 hX40 _ h)
theorem wk_X0_row_40 {x : Cx} (O : OK x "DowryBoxes" cX0_row 3) (hr : (xM x).sig.returnType = some .int) (hm : xn x = 5) {Q : Int → Wd → Prop} (X40 : Int → Wd → Prop) (this : Nat) (x1 : Int) (hX40 : ∀ (y2 : Int) (w : Wd), X40 y2 w → J x (TI x Q) w 0 0 162 [(0, .ref (adG (xG x) (this))), (2, vI (y2))] []) : ∀ (n : Nat) (x2 : Int) (x3 : Int) (w : Wd), wp_X0_row_40 Q X40 this x1 n x2 x3 w → J x (TI x Q) w 0 0 40 [(0, .ref (adG (xG x) (this))), (1, vI (x1)), (2, vI (x2)), (3, vI (x3))] [] := by
  intro n
  induction n with
  | zero => intro x2 x3 w h; exact False.elim h
  | succ n ih =>
    intro x2 x3 w h
    rw [wp_X0_row_40] at h
    refine j_iload_n O 3 3 dX0_row_40 rfl rfl ?_
    refine j_iconst O dX0_row_41 ?_
    refine j_iadd O dX0_row_42 ?_
    refine j_iload_n O 1 1 dX0_row_43 rfl rfl ?_
    obtain ⟨c1, h⟩ := h
    obtain ⟨c2, h⟩ := h
    refine j_icmp_gt O (tgt := 162) dX0_row_44 (by decide) c1 c2 h (fun h => ?_) (fun h => ?_)
    · exact (J.sub [0, 2] rfl <| hX40 _ _ h)
    · refine j_aload_n O 0 0 dX0_row_47 rfl rfl ?_
      refine j_aload_n O 0 0 dX0_row_48 rfl rfl ?_
      refine j_getA O cfX0 10 (Nat.le_of_ble_eq_true rfl) ⟨_, rfl⟩ q368 dX0_row_49 h (fun k3 h => ?_)
      refine j_iload_n O 3 3 dX0_row_52 rfl rfl ?_
      refine j_bald O dX0_row_53 h (fun v4 h => ?_)
      obtain ⟨e7, h⟩ := h
      refine fin_I O ⟨Nat.zero_le _, Nat.zero_le _⟩ (run_V (As := [vI (v4)]) (st := []) O (mt_X0_isBox (xl x) (xG x) _ _ _ _ h) e7 cfX0.1 q582 q584 qs6 q121 q585 hy_X0_isBox (Nat.le_of_ble_eq_true rfl) (Nat.le_of_ble_eq_true rfl) ⟨Nat.zero_le _, Nat.zero_le _⟩ rfl (Nat.le_of_ble_eq_true rfl) dX0_row_54) (fun r5 w6 h => ?_)
      obtain ⟨c8, h⟩ := h
      refine j_if_eq O (tgt := 78) dX0_row_57 (by decide) c8 h (fun h => ?_) (fun h => ?_)
      · exact (J.sub [0, 1, 2, 3] rfl <| wk_X0_row_78 O hr hm _ _ _ _ _ _ ih hX40 _ h)
      · refine j_aload_n O 0 0 dX0_row_60 rfl rfl ?_
        refine j_getA O cfX0 10 (Nat.le_of_ble_eq_true rfl) ⟨_, rfl⟩ q368 dX0_row_61 h (fun k9 h => ?_)
        refine j_iload_n O 3 3 dX0_row_64 rfl rfl ?_
        refine j_iconst O dX0_row_65 ?_
        refine j_iadd O dX0_row_66 ?_
        refine j_bald O dX0_row_67 h (fun v10 h => ?_)
        refine fin_I O ⟨Nat.zero_le _, Nat.zero_le _⟩ (run_S (As := [vI (v10)]) (st := []) O (mt_X0_isBar (xl x) (xG x) _ _ _ h) q712 q713 q121 q714 hy_X0_isBar.2 (Nat.le_of_ble_eq_true rfl) (Nat.le_of_ble_eq_true rfl) ⟨Nat.zero_le _, Nat.zero_le _⟩ rfl (Nat.le_of_ble_eq_true rfl) dX0_row_68) (fun r11 w12 h => ?_)
        obtain ⟨c13, h⟩ := h
        refine j_if_eq O (tgt := 78) dX0_row_71 (by decide) c13 h (fun h => ?_) (fun h => ?_)
        · exact (J.sub [0, 1, 2, 3] rfl <| wk_X0_row_78 O hr hm _ _ _ _ _ _ ih hX40 _ h)
        · refine j_iconst O dX0_row_74 ?_
          refine j_goto O (tgt := 79) dX0_row_75 (by decide) ?_
          exact (J.sub [0, 1, 2, 3] rfl <| wk_X0_row_79 O hr hm _ _ _ _ _ _ _ ih hX40 _ h)
theorem wk_X0_row_35 {x : Cx} (O : OK x "DowryBoxes" cX0_row 3) (hr : (xM x).sig.returnType = some .int) (hm : xn x = 5) {Q : Int → Wd → Prop} (this : Nat) (x1 : Int) (x2 : Int) (s0 : Int) (s1 : Nat) (w : Wd) (h : wp_X0_row_35 Q this x1 x2 s0 s1 w) : J x (TI x Q) w 0 0 35 [(0, .ref (adG (xG x) (this))), (1, vI (x1)), (2, vI (x2))] [vI (s0), .ref (adG (xG x) (s1))] := by
  unfold wp_X0_row_35 at h
  refine j_putI O cfX0 13 (Nat.le_of_ble_eq_true rfl) rfl q371 rfl dX0_row_35 h (fun w1 h => ?_)
  refine j_iconst O dX0_row_38 ?_
  refine j_istore_n (L' := [(3, vI (0)), (0, .ref (adG (xG x) (this))), (1, vI (x1)), (2, vI (x2))]) O 3 dX0_row_39 rfl (by rw [hm]; decide) rfl ?_
  refine (J.sub [1, 2, 3, 0] rfl <| wk_X0_row_40 O hr hm _ _ _ (fun z2 w3 h => ?_) FU _ _ _ h)
  refine j_aload_n O 0 0 dX0_row_162 rfl rfl ?_
  refine j_iload_n O 1 2 dX0_row_163 rfl rfl ?_
  obtain ⟨e6, h⟩ := h
  refine fin_I O ⟨Nat.zero_le _, Nat.zero_le _⟩ (run_V (As := [vI (z2)]) (st := []) O (mt_X0_settled (xl x) (xG x) _ _ _ _ h) e6 cfX0.1 q566 q568 qs4 q121 q569 hy_X0_settled (Nat.le_of_ble_eq_true rfl) (Nat.le_of_ble_eq_true rfl) ⟨Nat.zero_le _, Nat.zero_le _⟩ rfl (Nat.le_of_ble_eq_true rfl) dX0_row_164) (fun r4 w5 h => ?_)
  exact j_iret O hr dX0_row_167 h
theorem mt_X0_row (l : Launch) (G : GW) (this : Nat) (w : Wd) (Q : Int → Wd → Prop) (h : wp_X0_row this w Q) : MI l G yX0_row cX0_row 5 (.int) 3 0 0 [.ref (adG G (this))] w Q := by
  refine met_I (fun G => [.ref (adG G (this))]) (by decide) (fun G => Nat.le_of_ble_eq_true rfl) (fun x O hl hm hr => ?_)
  subst hl
  have O : OK x "DowryBoxes" cX0_row 3 := O
  have h : wp_X0_row this w Q := h
  unfold wp_X0_row at h
  show J x (TI x Q) w 0 0 0 [(0, .ref (adG (xG x) (this)))] []
  refine j_aload_n O 0 0 dX0_row_0 rfl rfl ?_
  refine j_getI O cfX0 11 (Nat.le_of_ble_eq_true rfl) (.inl rfl) q369 dX0_row_1 h (fun v1 h => ?_)
  refine j_istore_n (L' := [(1, vI (v1)), (0, .ref (adG (xG x) (this)))]) O 1 dX0_row_4 rfl (by rw [hm]; decide) rfl ?_
  refine j_aload_n O 1 0 dX0_row_5 rfl rfl ?_
  refine j_iconst O dX0_row_6 ?_
  refine j_putI O cfX0 11 (Nat.le_of_ble_eq_true rfl) rfl q369 rfl dX0_row_7 h (fun w2 h => ?_)
  refine j_iload_n O 0 1 dX0_row_10 rfl rfl ?_
  obtain ⟨c3, h⟩ := h
  refine j_if_ne O (tgt := 21) dX0_row_11 (by decide) c3 h (fun h => ?_) (fun h => ?_)
  · refine j_iconst O dX0_row_21 ?_
    refine j_istore_n (L' := [(2, vI (0)), (1, vI (v1)), (0, .ref (adG (xG x) (this)))]) O 2 dX0_row_22 rfl (by rw [hm]; decide) rfl ?_
    refine j_aload_n O 2 0 dX0_row_23 rfl rfl ?_
    refine j_iload_n O 1 1 dX0_row_24 rfl rfl ?_
    refine j_iconst O dX0_row_25 ?_
    refine j_irem O dX0_row_26 h (fun h => ?_)
    obtain ⟨c4, h⟩ := h
    refine j_if_ne O (tgt := 34) dX0_row_27 (by decide) c4 h (fun h => ?_) (fun h => ?_)
    · refine j_iconst O dX0_row_34 ?_
      exact (J.sub [2, 1, 0] rfl <| wk_X0_row_35 O hr hm  _ _ _ _ _  _ h)
    · refine j_iconst O dX0_row_30 ?_
      refine j_goto O (tgt := 35) dX0_row_31 (by decide) ?_
      exact (J.sub [2, 1, 0] rfl <| wk_X0_row_35 O hr hm  _ _ _ _ _  _ h)
  · refine j_aload_n O 1 0 dX0_row_14 rfl rfl ?_
    refine j_bipush (m := (-6)) O dX0_row_15 bi_m6 ?_
    obtain ⟨e7, h⟩ := h
    refine fin_I O ⟨Nat.zero_le _, Nat.zero_le _⟩ (run_V (As := [vI (((-6)))]) (st := []) O (mt_X0_refuse (xl x) (xG x) _ _ _ _ h) e7 cfX0.1 q468 q470 qs1 q121 q471 hy_X0_refuse (Nat.le_of_ble_eq_true rfl) (Nat.le_of_ble_eq_true rfl) ⟨Nat.zero_le _, Nat.zero_le _⟩ rfl (Nat.le_of_ble_eq_true rfl) dX0_row_17) (fun r5 w6 h => ?_)
    exact j_iret O hr dX0_row_20 h
theorem hy_X0_end : (yX0_end.cls = "DowryBoxes" ∧ yX0_end.cls ≠ "java/lang/invoke/MethodHandle" ∧ yX0_end.cls ≠ "java/lang/invoke/VarHandle" ∧ (parseMethodDescriptor yX0_end.desc).map (fun d => d.parameters.length) = some 1) := by decide +kernel
theorem mt_X0_end (l : Launch) (G : GW) (this : Nat) (p1 : Int) (w : Wd) (Q : Int → Wd → Prop) (h : wp_X0_end this p1 w Q) : MI l G yX0_end cX0_end 2 (.int) 1 0 0 [.ref (adG G (this)), vI (p1)] w Q := by
  refine met_I (fun G => [.ref (adG G (this)), vI (p1)]) (by decide) (fun G => Nat.le_of_ble_eq_true rfl) (fun x O hl hm hr => ?_)
  subst hl
  have O : OK x "DowryBoxes" cX0_end 1 := O
  have h : wp_X0_end this p1 w Q := h
  unfold wp_X0_end at h
  show J x (TI x Q) w 0 0 0 [(0, .ref (adG (xG x) (this))), (1, vI (p1))] []
  refine j_iload_n O 1 1 dX0_end_0 rfl rfl ?_
  obtain ⟨c1, h⟩ := h
  refine j_if_lt O (tgt := 12) dX0_end_1 (by decide) c1 h (fun h => ?_) (fun h => ?_)
  · refine j_iconst O dX0_end_12 ?_
    exact j_iret O hr dX0_end_13 h
  · refine j_iload_n O 1 1 dX0_end_4 rfl rfl ?_
    refine j_aload_n O 0 0 dX0_end_5 rfl rfl ?_
    refine j_getI O cfX0 11 (Nat.le_of_ble_eq_true rfl) (.inl rfl) q369 dX0_end_6 h (fun v2 h => ?_)
    obtain ⟨c3, h⟩ := h
    obtain ⟨c4, h⟩ := h
    refine j_icmp_le O (tgt := 14) dX0_end_9 (by decide) c3 c4 h (fun h => ?_) (fun h => ?_)
    · refine j_aload_n O 0 0 dX0_end_14 rfl rfl ?_
      refine j_iload_n O 1 1 dX0_end_15 rfl rfl ?_
      refine j_putI O cfX0 11 (Nat.le_of_ble_eq_true rfl) rfl q369 rfl dX0_end_16 h (fun w5 h => ?_)
      refine j_iload_n O 1 1 dX0_end_19 rfl rfl ?_
      exact j_iret O hr dX0_end_20 h
    · refine j_iconst O dX0_end_12 ?_
      exact j_iret O hr dX0_end_13 h
theorem hy_X0_four : (yX0_four.cls = "DowryBoxes" ∧ yX0_four.cls ≠ "java/lang/invoke/MethodHandle" ∧ yX0_four.cls ≠ "java/lang/invoke/VarHandle" ∧ (parseMethodDescriptor yX0_four.desc).map (fun d => d.parameters.length) = some 1) := by decide +kernel
theorem wk_X0_four_3 {x : Cx} (O : OK x "DowryBoxes" cX0_four 1) (hr : (xM x).sig.returnType = none) (hm : xn x = 3) {Q : Wd → Prop} (this : Nat) (x1 : Int) : ∀ (n : Nat) (x2 : Int) (w : Wd), wp_X0_four_3 Q this x1 n x2 w → J x (TV x Q) w 0 0 3 [(0, .ref (adG (xG x) (this))), (1, vI (x1)), (2, vI (x2))] [] := by
  intro n
  induction n with
  | zero => intro x2 w h; exact False.elim h
  | succ n ih =>
    intro x2 w h
    rw [wp_X0_four_3] at h
    refine j_iload_n O 2 2 dX0_four_3 rfl rfl ?_
    obtain ⟨c1, h⟩ := h
    refine j_if_lt O (tgt := 36) dX0_four_4 (by decide) c1 h (fun h => ?_) (fun h => ?_)
    · exact j_vret O hr dX0_four_36 h
    · refine j_aload_n O 0 0 dX0_four_7 rfl rfl ?_
      refine j_getA O cfX0 10 (Nat.le_of_ble_eq_true rfl) ⟨_, rfl⟩ q368 dX0_four_8 h (fun k2 h => ?_)
      refine j_aload_n O 0 0 dX0_four_11 rfl rfl ?_
      refine j_getI O cfX0 11 (Nat.le_of_ble_eq_true rfl) (.inl rfl) q369 dX0_four_12 h (fun v3 h => ?_)
      refine j_iload_n O 1 1 dX0_four_15 rfl rfl ?_
      refine j_iload_n O 2 2 dX0_four_16 rfl rfl ?_
      refine j_ishr O dX0_four_17 ?_
      refine j_i2b O dX0_four_18 ?_
      refine j_bast O dX0_four_19 h (fun w4 h => ?_)
      refine j_aload_n O 0 0 dX0_four_20 rfl rfl ?_
      refine j_dup O dX0_four_21 rfl ?_
      refine j_getI O cfX0 11 (Nat.le_of_ble_eq_true rfl) (.inl rfl) q369 dX0_four_22 h (fun v5 h => ?_)
      refine j_iconst O dX0_four_25 ?_
      refine j_iadd O dX0_four_26 ?_
      refine j_putI O cfX0 11 (Nat.le_of_ble_eq_true rfl) rfl q369 rfl dX0_four_27 h (fun w6 h => ?_)
      refine j_iinc (L' := [(2, vI (x2 + (-8))), (0, .ref (adG (xG x) (this))), (1, vI (x1))]) O 2 dX0_four_30 rfl (by rw [hm]; decide) rfl ?_
      refine j_goto O (tgt := 3) dX0_four_33 (by decide) ?_
      exact (J.sub [1, 2, 0] rfl <| ih _ _ h)
theorem mt_X0_four (l : Launch) (G : GW) (this : Nat) (p1 : Int) (w : Wd) (Q : Wd → Prop) (h : wp_X0_four this p1 w Q) : MV l G yX0_four cX0_four 3 1 0 0 [.ref (adG G (this)), vI (p1)] w Q := by
  refine met_V (fun G => [.ref (adG G (this)), vI (p1)]) (by decide) (fun G => Nat.le_of_ble_eq_true rfl) (fun x O hl hm hr _ => ?_)
  subst hl
  have O : OK x "DowryBoxes" cX0_four 1 := O
  have h : wp_X0_four this p1 w Q := h
  unfold wp_X0_four at h
  show J x (TV x Q) w 0 0 0 [(0, .ref (adG (xG x) (this))), (1, vI (p1))] []
  refine j_bipush (m := 24) O dX0_four_0 bi_24 ?_
  refine j_istore_n (L' := [(2, vI (24)), (0, .ref (adG (xG x) (this))), (1, vI (p1))]) O 2 dX0_four_2 rfl (by rw [hm]; decide) rfl ?_
  exact (J.sub [1, 2, 0] rfl <| wk_X0_four_3 O hr hm  _ _  FU _ _ h)
theorem hy_X0_feed : (yX0_feed.cls = "DowryBoxes" ∧ yX0_feed.cls ≠ "java/lang/invoke/MethodHandle" ∧ yX0_feed.cls ≠ "java/lang/invoke/VarHandle" ∧ (parseMethodDescriptor yX0_feed.desc).map (fun d => d.parameters.length) = some 5) := by decide +kernel
theorem mt_X0_feed (l : Launch) (G : GW) (this : Nat) (p1 : Int) (p2 : Int) (p3 : Int) (p4 : Int) (p5 : Int) (w : Wd) (Q : Int → Wd → Prop) (h : wp_X0_feed this p1 p2 p3 p4 p5 w Q) : MI l G yX0_feed cX0_feed 6 (.int) 2 0 0 [.ref (adG G (this)), vI (p1), vI (p2), vI (p3), vI (p4), vI (p5)] w Q := by
  refine met_I (fun G => [.ref (adG G (this)), vI (p1), vI (p2), vI (p3), vI (p4), vI (p5)]) (by decide) (fun G => Nat.le_of_ble_eq_true rfl) (fun x O hl hm hr => ?_)
  subst hl
  have O : OK x "DowryBoxes" cX0_feed 2 := O
  have h : wp_X0_feed this p1 p2 p3 p4 p5 w Q := h
  unfold wp_X0_feed at h
  show J x (TI x Q) w 0 0 0 [(0, .ref (adG (xG x) (this))), (1, vI (p1)), (2, vI (p2)), (3, vI (p3)), (4, vI (p4)), (5, vI (p5))] []
  refine j_aload_n O 0 0 dX0_feed_0 rfl rfl ?_
  refine j_getI O cfX0 11 (Nat.le_of_ble_eq_true rfl) (.inl rfl) q369 dX0_feed_1 h (fun v1 h => ?_)
  refine j_bipush (m := 20) O dX0_feed_4 bi_20 ?_
  refine j_iadd O dX0_feed_6 ?_
  refine j_sipush (m := 400) O dX0_feed_7 si_400 ?_
  obtain ⟨c2, h⟩ := h
  refine j_icmp_le O (tgt := 15) dX0_feed_10 (by decide) c2 (by decide) h (fun h => ?_) (fun h => ?_)
  · refine j_aload_n O 0 0 dX0_feed_15 rfl rfl ?_
    refine j_iload_n O 1 1 dX0_feed_16 rfl rfl ?_
    obtain ⟨e4, h⟩ := h
    refine fin_V O ⟨Nat.zero_le _, Nat.zero_le _⟩ (run_V (As := [vI (p1)]) (st := []) O (mt_X0_four (xl x) (xG x) _ _ _ _ h) e4 cfX0.1 q757 q759 qs15 q121 q760 hy_X0_four (Nat.le_of_ble_eq_true rfl) (Nat.le_of_ble_eq_true rfl) ⟨Nat.zero_le _, Nat.zero_le _⟩ rfl (Nat.le_of_ble_eq_true rfl) dX0_feed_17) (fun w3 h => ?_)
    refine j_aload_n O 0 0 dX0_feed_20 rfl rfl ?_
    refine j_iload_n O 2 2 dX0_feed_21 rfl rfl ?_
    obtain ⟨e6, h⟩ := h
    refine fin_V O ⟨Nat.zero_le _, Nat.zero_le _⟩ (run_V (As := [vI (p2)]) (st := []) O (mt_X0_four (xl x) (xG x) _ _ _ _ h) e6 cfX0.1 q757 q759 qs15 q121 q760 hy_X0_four (Nat.le_of_ble_eq_true rfl) (Nat.le_of_ble_eq_true rfl) ⟨Nat.zero_le _, Nat.zero_le _⟩ rfl (Nat.le_of_ble_eq_true rfl) dX0_feed_22) (fun w5 h => ?_)
    refine j_aload_n O 0 0 dX0_feed_25 rfl rfl ?_
    refine j_iload_n O 3 3 dX0_feed_26 rfl rfl ?_
    obtain ⟨e8, h⟩ := h
    refine fin_V O ⟨Nat.zero_le _, Nat.zero_le _⟩ (run_V (As := [vI (p3)]) (st := []) O (mt_X0_four (xl x) (xG x) _ _ _ _ h) e8 cfX0.1 q757 q759 qs15 q121 q760 hy_X0_four (Nat.le_of_ble_eq_true rfl) (Nat.le_of_ble_eq_true rfl) ⟨Nat.zero_le _, Nat.zero_le _⟩ rfl (Nat.le_of_ble_eq_true rfl) dX0_feed_27) (fun w7 h => ?_)
    refine j_aload_n O 0 0 dX0_feed_30 rfl rfl ?_
    refine j_iload O 4 dX0_feed_31 rfl ?_
    obtain ⟨e10, h⟩ := h
    refine fin_V O ⟨Nat.zero_le _, Nat.zero_le _⟩ (run_V (As := [vI (p4)]) (st := []) O (mt_X0_four (xl x) (xG x) _ _ _ _ h) e10 cfX0.1 q757 q759 qs15 q121 q760 hy_X0_four (Nat.le_of_ble_eq_true rfl) (Nat.le_of_ble_eq_true rfl) ⟨Nat.zero_le _, Nat.zero_le _⟩ rfl (Nat.le_of_ble_eq_true rfl) dX0_feed_33) (fun w9 h => ?_)
    refine j_aload_n O 0 0 dX0_feed_36 rfl rfl ?_
    refine j_iload O 5 dX0_feed_37 rfl ?_
    obtain ⟨e12, h⟩ := h
    refine fin_V O ⟨Nat.zero_le _, Nat.zero_le _⟩ (run_V (As := [vI (p5)]) (st := []) O (mt_X0_four (xl x) (xG x) _ _ _ _ h) e12 cfX0.1 q757 q759 qs15 q121 q760 hy_X0_four (Nat.le_of_ble_eq_true rfl) (Nat.le_of_ble_eq_true rfl) ⟨Nat.zero_le _, Nat.zero_le _⟩ rfl (Nat.le_of_ble_eq_true rfl) dX0_feed_39) (fun w11 h => ?_)
    refine j_aload_n O 0 0 dX0_feed_42 rfl rfl ?_
    refine j_getI O cfX0 11 (Nat.le_of_ble_eq_true rfl) (.inl rfl) q369 dX0_feed_43 h (fun v13 h => ?_)
    exact j_iret O hr dX0_feed_46 h
  · refine j_iconst O dX0_feed_13 ?_
    exact j_iret O hr dX0_feed_14 h
theorem hy_X0_terms : (yX0_terms.cls = "DowryBoxes" ∧ yX0_terms.cls ≠ "java/lang/invoke/MethodHandle" ∧ yX0_terms.cls ≠ "java/lang/invoke/VarHandle" ∧ (parseMethodDescriptor yX0_terms.desc).map (fun d => d.parameters.length) = some 2) := by decide +kernel
theorem wk_X0_terms_39 {x : Cx} (O : OK x "DowryBoxes" cX0_terms 3) (hr : (xM x).sig.returnType = some .int) (hm : xn x = 4) {Q : Int → Wd → Prop} (this : Nat) (w : Wd) (h : wp_X0_terms_39 Q this w) : J x (TI x Q) w 0 0 39 [(0, .ref (adG (xG x) (this)))] [] := by
  unfold wp_X0_terms_39 at h
  refine j_aload_n O 0 0 dX0_terms_39 rfl rfl ?_
  refine j_iconst O dX0_terms_40 ?_
  obtain ⟨e3, h⟩ := h
  refine fin_I O ⟨Nat.zero_le _, Nat.zero_le _⟩ (run_V (As := [vI (((-1)))]) (st := []) O (mt_X0_refuse (xl x) (xG x) _ _ _ _ h) e3 cfX0.1 q468 q470 qs1 q121 q471 hy_X0_refuse (Nat.le_of_ble_eq_true rfl) (Nat.le_of_ble_eq_true rfl) ⟨Nat.zero_le _, Nat.zero_le _⟩ rfl (Nat.le_of_ble_eq_true rfl) dX0_terms_41) (fun r1 w2 h => ?_)
  exact j_iret O hr dX0_terms_44 h
theorem wk_X0_terms_121 {x : Cx} (O : OK x "DowryBoxes" cX0_terms 3) (hr : (xM x).sig.returnType = some .int) (hm : xn x = 4) {Q : Int → Wd → Prop} (this : Nat) (x3 : Int) (w : Wd) (h : wp_X0_terms_121 Q this x3 w) : J x (TI x Q) w 0 0 121 [(0, .ref (adG (xG x) (this))), (3, vI (x3))] [] := by
  unfold wp_X0_terms_121 at h
  refine j_aload_n O 0 0 dX0_terms_121 rfl rfl ?_
  refine j_iload_n O 1 3 dX0_terms_122 rfl rfl ?_
  obtain ⟨e3, h⟩ := h
  refine fin_I O ⟨Nat.zero_le _, Nat.zero_le _⟩ (run_V (As := [vI (x3)]) (st := []) O (mt_X0_settled (xl x) (xG x) _ _ _ _ h) e3 cfX0.1 q566 q568 qs4 q121 q569 hy_X0_settled (Nat.le_of_ble_eq_true rfl) (Nat.le_of_ble_eq_true rfl) ⟨Nat.zero_le _, Nat.zero_le _⟩ rfl (Nat.le_of_ble_eq_true rfl) dX0_terms_123) (fun r1 w2 h => ?_)
  exact j_iret O hr dX0_terms_126 h
theorem wk_X0_terms_81 {x : Cx} (O : OK x "DowryBoxes" cX0_terms 3) (hr : (xM x).sig.returnType = some .int) (hm : xn x = 4) {Q : Int → Wd → Prop} (this : Nat) (x1 : Int) (x2 : Int) (s0 : Int) (w : Wd) (h : wp_X0_terms_81 Q this x1 x2 s0 w) : J x (TI x Q) w 0 0 81 [(0, .ref (adG (xG x) (this))), (1, vI (x1)), (2, vI (x2))] [vI (s0)] := by
  unfold wp_X0_terms_81 at h
  refine j_istore_n (L' := [(3, vI (s0)), (0, .ref (adG (xG x) (this))), (1, vI (x1)), (2, vI (x2))]) O 3 dX0_terms_81 rfl (by rw [hm]; decide) rfl ?_
  refine j_iload_n O 2 1 dX0_terms_82 rfl rfl ?_
  obtain ⟨c1, h⟩ := h
  refine j_if_ne O (tgt := 97) dX0_terms_83 (by decide) c1 h (fun h => ?_) (fun h => ?_)
  · refine j_iload_n O 2 1 dX0_terms_97 rfl rfl ?_
    refine j_iconst O dX0_terms_98 ?_
    obtain ⟨c2, h⟩ := h
    refine j_icmp_ne O (tgt := 113) dX0_terms_99 (by decide) c2 (by decide) h (fun h => ?_) (fun h => ?_)
    · refine j_aload_n O 1 0 dX0_terms_113 rfl rfl ?_
      refine j_getR O cfX0 2 (Nat.le_of_ble_eq_true rfl) ⟨_, rfl⟩ q360 dX0_terms_114 h (fun o3 h => ?_)
      refine j_iload_n O 3 2 dX0_terms_117 rfl rfl ?_
      obtain ⟨k4, e_k4, g_k4⟩ := h
      subst e_k4
      have h := g_k4
      refine j_putIN O cfX1 9 (Nat.le_of_ble_eq_true rfl) rfl (lw_n q250 rfl) rfl dX0_terms_118 h (fun w5 h => ?_)
      exact (J.sub [1, 0] rfl <| wk_X0_terms_121 O hr hm  _ _  _ h)
    · refine j_aload_n O 1 0 dX0_terms_102 rfl rfl ?_
      refine j_getR O cfX0 2 (Nat.le_of_ble_eq_true rfl) ⟨_, rfl⟩ q360 dX0_terms_103 h (fun o6 h => ?_)
      refine j_iload_n O 3 2 dX0_terms_106 rfl rfl ?_
      obtain ⟨k7, e_k7, g_k7⟩ := h
      subst e_k7
      have h := g_k7
      refine j_putIN O cfX1 8 (Nat.le_of_ble_eq_true rfl) rfl (lw_n q248 rfl) rfl dX0_terms_107 h (fun w8 h => ?_)
      refine j_goto O (tgt := 121) dX0_terms_110 (by decide) ?_
      exact (J.sub [1, 0] rfl <| wk_X0_terms_121 O hr hm  _ _  _ h)
  · refine j_aload_n O 1 0 dX0_terms_86 rfl rfl ?_
    obtain ⟨e11, h⟩ := h
    refine fin_R O ⟨Nat.zero_le _, Nat.zero_le _⟩ (run_V (As := []) (st := []) O (mt_X0_table (xl x) (xG x) _ _ _ h) e11 cfX0.1 q574 q576 qs5 q121 q577 hy_X0_table (Nat.le_of_ble_eq_true rfl) (Nat.le_of_ble_eq_true rfl) ⟨Nat.zero_le _, Nat.zero_le _⟩ rfl (Nat.le_of_ble_eq_true rfl) dX0_terms_87) (fun o9 w10 h => ?_)
    refine j_iload_n O 3 2 dX0_terms_90 rfl rfl ?_
    obtain ⟨k12, e_k12, g_k12⟩ := h
    subst e_k12
    have h := g_k12
    refine j_putIN O cfX2 5 (Nat.le_of_ble_eq_true rfl) rfl (lw_n q188 rfl) rfl dX0_terms_91 h (fun w13 h => ?_)
    refine j_goto O (tgt := 121) dX0_terms_94 (by decide) ?_
    exact (J.sub [1, 0] rfl <| wk_X0_terms_121 O hr hm  _ _  _ h)
theorem wk_X0_terms_33 {x : Cx} (O : OK x "DowryBoxes" cX0_terms 3) (hr : (xM x).sig.returnType = some .int) (hm : xn x = 4) {Q : Int → Wd → Prop} (this : Nat) (x1 : Int) (x2 : Int) (s0 : Int) (s1 : Int) (s2 : Int) (w : Wd) (h : wp_X0_terms_33 Q this x1 x2 s0 s1 s2 w) : J x (TI x Q) w 0 0 33 [(0, .ref (adG (xG x) (this))), (1, vI (x1)), (2, vI (x2))] [vI (s0), vI (s1), vI (s2)] := by
  unfold wp_X0_terms_33 at h
  refine fin_I O ⟨Nat.zero_le _, Nat.zero_le _⟩ (run_S (As := [vI (s2), vI (s1), vI (s0)]) (st := []) O (mt_X0_in (xl x) (xG x) _ _ _ _ _ h) q465 q466 q121 q467 hy_X0_in.2 (Nat.le_of_ble_eq_true rfl) (Nat.le_of_ble_eq_true rfl) ⟨Nat.zero_le _, Nat.zero_le _⟩ rfl (Nat.le_of_ble_eq_true rfl) dX0_terms_33) (fun r1 w2 h => ?_)
  obtain ⟨c3, h⟩ := h
  refine j_if_ne O (tgt := 45) dX0_terms_36 (by decide) c3 h (fun h => ?_) (fun h => ?_)
  · refine j_iload_n O 1 1 dX0_terms_45 rfl rfl ?_
    obtain ⟨c4, h⟩ := h
    refine j_if_ne O (tgt := 59) dX0_terms_46 (by decide) c4 h (fun h => ?_) (fun h => ?_)
    · refine j_iload_n O 1 1 dX0_terms_59 rfl rfl ?_
      refine j_iconst O dX0_terms_60 ?_
      obtain ⟨c5, h⟩ := h
      refine j_icmp_ne O (tgt := 74) dX0_terms_61 (by decide) c5 (by decide) h (fun h => ?_) (fun h => ?_)
      · refine j_aload_n O 0 0 dX0_terms_74 rfl rfl ?_
        refine j_getR O cfX0 2 (Nat.le_of_ble_eq_true rfl) ⟨_, rfl⟩ q360 dX0_terms_75 h (fun o6 h => ?_)
        obtain ⟨k7, e_k7, g_k7⟩ := h
        subst e_k7
        have h := g_k7
        refine j_getIN O cfX1 9 (Nat.le_of_ble_eq_true rfl) (.inl rfl) (lw_n q250 rfl) dX0_terms_78 h (fun v8 h => ?_)
        exact (J.sub [0, 1, 2] rfl <| wk_X0_terms_81 O hr hm  _ _ _ _  _ h)
      · refine j_aload_n O 0 0 dX0_terms_64 rfl rfl ?_
        refine j_getR O cfX0 2 (Nat.le_of_ble_eq_true rfl) ⟨_, rfl⟩ q360 dX0_terms_65 h (fun o9 h => ?_)
        obtain ⟨k10, e_k10, g_k10⟩ := h
        subst e_k10
        have h := g_k10
        refine j_getIN O cfX1 8 (Nat.le_of_ble_eq_true rfl) (.inl rfl) (lw_n q248 rfl) dX0_terms_68 h (fun v11 h => ?_)
        refine j_goto O (tgt := 81) dX0_terms_71 (by decide) ?_
        exact (J.sub [0, 1, 2] rfl <| wk_X0_terms_81 O hr hm  _ _ _ _  _ h)
    · refine j_aload_n O 0 0 dX0_terms_49 rfl rfl ?_
      obtain ⟨e14, h⟩ := h
      refine fin_R O ⟨Nat.zero_le _, Nat.zero_le _⟩ (run_V (As := []) (st := []) O (mt_X0_table (xl x) (xG x) _ _ _ h) e14 cfX0.1 q574 q576 qs5 q121 q577 hy_X0_table (Nat.le_of_ble_eq_true rfl) (Nat.le_of_ble_eq_true rfl) ⟨Nat.zero_le _, Nat.zero_le _⟩ rfl (Nat.le_of_ble_eq_true rfl) dX0_terms_50) (fun o12 w13 h => ?_)
      obtain ⟨k15, e_k15, g_k15⟩ := h
      subst e_k15
      have h := g_k15
      refine j_getIN O cfX2 5 (Nat.le_of_ble_eq_true rfl) (.inl rfl) (lw_n q188 rfl) dX0_terms_53 h (fun v16 h => ?_)
      refine j_goto O (tgt := 81) dX0_terms_56 (by decide) ?_
      exact (J.sub [0, 1, 2] rfl <| wk_X0_terms_81 O hr hm  _ _ _ _  _ h)
  · exact (J.sub [0] rfl <| wk_X0_terms_39 O hr hm  _  _ h)
theorem mt_X0_terms (l : Launch) (G : GW) (this : Nat) (p1 : Int) (p2 : Int) (w : Wd) (Q : Int → Wd → Prop) (h : wp_X0_terms this p1 p2 w Q) : MI l G yX0_terms cX0_terms 4 (.int) 3 0 0 [.ref (adG G (this)), vI (p1), vI (p2)] w Q := by
  refine met_I (fun G => [.ref (adG G (this)), vI (p1), vI (p2)]) (by decide) (fun G => Nat.le_of_ble_eq_true rfl) (fun x O hl hm hr => ?_)
  subst hl
  have O : OK x "DowryBoxes" cX0_terms 3 := O
  have h : wp_X0_terms this p1 p2 w Q := h
  unfold wp_X0_terms at h
  show J x (TI x Q) w 0 0 0 [(0, .ref (adG (xG x) (this))), (1, vI (p1)), (2, vI (p2))] []
  refine j_iload_n O 1 1 dX0_terms_0 rfl rfl ?_
  refine j_iconst O dX0_terms_1 ?_
  refine j_iconst O dX0_terms_2 ?_
  refine fin_I O ⟨Nat.zero_le _, Nat.zero_le _⟩ (run_S (As := [vI (p1), vI (0), vI (2)]) (st := []) O (mt_X0_in (xl x) (xG x) _ _ _ _ _ h) q465 q466 q121 q467 hy_X0_in.2 (Nat.le_of_ble_eq_true rfl) (Nat.le_of_ble_eq_true rfl) ⟨Nat.zero_le _, Nat.zero_le _⟩ rfl (Nat.le_of_ble_eq_true rfl) dX0_terms_3) (fun r1 w2 h => ?_)
  obtain ⟨c3, h⟩ := h
  refine j_if_eq O (tgt := 39) dX0_terms_6 (by decide) c3 h (fun h => ?_) (fun h => ?_)
  · exact (J.sub [0] rfl <| wk_X0_terms_39 O hr hm  _  _ h)
  · refine j_iload_n O 2 2 dX0_terms_9 rfl rfl ?_
    refine j_iconst O dX0_terms_10 ?_
    refine j_iload_n O 1 1 dX0_terms_11 rfl rfl ?_
    obtain ⟨c4, h⟩ := h
    refine j_if_ne O (tgt := 21) dX0_terms_12 (by decide) c4 h (fun h => ?_) (fun h => ?_)
    · refine j_iload_n O 1 1 dX0_terms_21 rfl rfl ?_
      refine j_iconst O dX0_terms_22 ?_
      obtain ⟨c5, h⟩ := h
      refine j_icmp_ne O (tgt := 31) dX0_terms_23 (by decide) c5 (by decide) h (fun h => ?_) (fun h => ?_)
      · refine j_bipush (m := 9) O dX0_terms_31 bi_9 ?_
        exact (J.sub [0, 1, 2] rfl <| wk_X0_terms_33 O hr hm  _ _ _ _ _ _  _ h)
      · refine j_bipush (m := 10) O dX0_terms_26 bi_10 ?_
        refine j_goto O (tgt := 33) dX0_terms_28 (by decide) ?_
        exact (J.sub [0, 1, 2] rfl <| wk_X0_terms_33 O hr hm  _ _ _ _ _ _  _ h)
    · refine j_sipush (m := 999) O dX0_terms_15 si_999 ?_
      refine j_goto O (tgt := 33) dX0_terms_18 (by decide) ?_
      exact (J.sub [0, 1, 2] rfl <| wk_X0_terms_33 O hr hm  _ _ _ _ _ _  _ h)
theorem hy_X0_asks : (yX0_asks.cls = "DowryBoxes" ∧ yX0_asks.cls ≠ "java/lang/invoke/MethodHandle" ∧ yX0_asks.cls ≠ "java/lang/invoke/VarHandle" ∧ (parseMethodDescriptor yX0_asks.desc).map (fun d => d.parameters.length) = some 3) := by decide +kernel
theorem mt_X0_asks (l : Launch) (G : GW) (this : Nat) (p1 : Int) (p2 : Int) (p3 : Int) (w : Wd) (Q : Int → Wd → Prop) (h : wp_X0_asks this p1 p2 p3 w Q) : MI l G yX0_asks cX0_asks 4 (.int) 109 0 0 [.ref (adG G (this)), vI (p1), vI (p2), vI (p3)] w Q := by
  refine met_I (fun G => [.ref (adG G (this)), vI (p1), vI (p2), vI (p3)]) (by decide) (fun G => Nat.le_of_ble_eq_true rfl) (fun x O hl hm hr => ?_)
  subst hl
  have O : OK x "DowryBoxes" cX0_asks 109 := O
  have h : wp_X0_asks this p1 p2 p3 w Q := h
  unfold wp_X0_asks at h
  show J x (TI x Q) w 0 0 0 [(0, .ref (adG (xG x) (this))), (1, vI (p1)), (2, vI (p2)), (3, vI (p3))] []
  refine j_aload_n O 0 0 dX0_asks_0 rfl rfl ?_
  refine j_iload_n O 1 1 dX0_asks_1 rfl rfl ?_
  obtain ⟨e3, h⟩ := h
  refine fin_I O ⟨Nat.zero_le _, Nat.zero_le _⟩ (run_V (As := [vI (p1)]) (st := []) O (mt_X0_isBox (xl x) (xG x) _ _ _ _ h) e3 cfX0.1 q582 q584 qs6 q121 q585 hy_X0_isBox (Nat.le_of_ble_eq_true rfl) (Nat.le_of_ble_eq_true rfl) ⟨Nat.zero_le _, Nat.zero_le _⟩ rfl (Nat.le_of_ble_eq_true rfl) dX0_asks_2) (fun r1 w2 h => ?_)
  obtain ⟨c4, h⟩ := h
  refine j_if_eq O (tgt := 16) dX0_asks_5 (by decide) c4 h (fun h => ?_) (fun h => ?_)
  · refine j_iconst O dX0_asks_16 ?_
    exact j_iret O hr dX0_asks_17 h
  · refine j_aload_n O 0 0 dX0_asks_8 rfl rfl ?_
    refine j_iload_n O 2 2 dX0_asks_9 rfl rfl ?_
    obtain ⟨e7, h⟩ := h
    refine fin_I O ⟨Nat.zero_le _, Nat.zero_le _⟩ (run_V (As := [vI (p2)]) (st := []) O (mt_X0_isSuitor (xl x) (xG x) _ _ _ _ h) e7 cfX0.1 q729 q731 qs11 q121 q732 hy_X0_isSuitor (Nat.le_of_ble_eq_true rfl) (Nat.le_of_ble_eq_true rfl) ⟨Nat.zero_le _, Nat.zero_le _⟩ rfl (Nat.le_of_ble_eq_true rfl) dX0_asks_10) (fun r5 w6 h => ?_)
    obtain ⟨c8, h⟩ := h
    refine j_if_ne O (tgt := 18) dX0_asks_13 (by decide) c8 h (fun h => ?_) (fun h => ?_)
    · refine j_iload_n O 3 3 dX0_asks_18 rfl rfl ?_
      obtain ⟨ca, h⟩ := h
      rcases Classical.em (p3 = 0) with e0 | e0
      · have h := h.1 e0
        refine j_tableIn O (tgt := 44) dX0_asks_19 ca (by omega) (by omega) (by rw [e0]; rfl) (by decide) ?_
        refine j_aload_n O 0 0 dX0_asks_44 rfl rfl ?_
        refine j_aload_n O 0 0 dX0_asks_45 rfl rfl ?_
        obtain ⟨e11, h⟩ := h
        refine fin_R O ⟨Nat.zero_le _, Nat.zero_le _⟩ (run_V (As := []) (st := [.ref (adG (xG x) (this))]) O (mt_X0_table (xl x) (xG x) _ _ _ h) e11 cfX0.1 q574 q576 qs5 q121 q577 hy_X0_table (Nat.le_of_ble_eq_true rfl) (Nat.le_of_ble_eq_true rfl) ⟨Nat.zero_le _, Nat.zero_le _⟩ rfl (Nat.le_of_ble_eq_true rfl) dX0_asks_46) (fun o9 w10 h => ?_)
        refine j_iload_n O 1 1 dX0_asks_49 rfl rfl ?_
        refine j_iload_n O 2 2 dX0_asks_50 rfl rfl ?_
        obtain ⟨e14, h⟩ := h
        refine fin_I O ⟨Nat.zero_le _, Nat.zero_le _⟩ (run_V (As := [vR (xG x) (o9), vI (p1), vI (p2)]) (st := []) O (mt_X0_ears (xl x) (xG x) _ _ _ _ _ _ h) e14 cfX0.1 q619 q621 qs9 q121 q622 hy_X0_ears (Nat.le_of_ble_eq_true rfl) (Nat.le_of_ble_eq_true rfl) ⟨Nat.zero_le _, Nat.zero_le _⟩ rfl (Nat.le_of_ble_eq_true rfl) dX0_asks_51) (fun r12 w13 h => ?_)
        exact j_iret O hr dX0_asks_54 h
      have h := h.2 e0
      rcases Classical.em (p3 = 1) with e1 | e1
      · have h := h.1 e1
        refine j_tableIn O (tgt := 55) dX0_asks_19 ca (by omega) (by omega) (by rw [e1]; rfl) (by decide) ?_
        refine j_aload_n O 0 0 dX0_asks_55 rfl rfl ?_
        refine j_aload_n O 0 0 dX0_asks_56 rfl rfl ?_
        obtain ⟨e17, h⟩ := h
        refine fin_R O ⟨Nat.zero_le _, Nat.zero_le _⟩ (run_V (As := []) (st := [.ref (adG (xG x) (this))]) O (mt_X0_table (xl x) (xG x) _ _ _ h) e17 cfX0.1 q574 q576 qs5 q121 q577 hy_X0_table (Nat.le_of_ble_eq_true rfl) (Nat.le_of_ble_eq_true rfl) ⟨Nat.zero_le _, Nat.zero_le _⟩ rfl (Nat.le_of_ble_eq_true rfl) dX0_asks_57) (fun o15 w16 h => ?_)
        refine j_iload_n O 1 1 dX0_asks_60 rfl rfl ?_
        refine j_iload_n O 2 2 dX0_asks_61 rfl rfl ?_
        obtain ⟨e20, h⟩ := h
        refine fin_I O ⟨Nat.zero_le _, Nat.zero_le _⟩ (run_V (As := [vR (xG x) (o15), vI (p1), vI (p2)]) (st := []) O (mt_X0_likes (xl x) (xG x) _ _ _ _ _ _ h) e20 cfX0.1 q741 q743 qs13 q121 q744 hy_X0_likes (Nat.le_of_ble_eq_true rfl) (Nat.le_of_ble_eq_true rfl) ⟨Nat.zero_le _, Nat.zero_le _⟩ rfl (Nat.le_of_ble_eq_true rfl) dX0_asks_62) (fun r18 w19 h => ?_)
        exact j_iret O hr dX0_asks_65 h
      have h := h.2 e1
      rcases Classical.em (p3 = 2) with e2 | e2
      · have h := h.1 e2
        refine j_tableIn O (tgt := 66) dX0_asks_19 ca (by omega) (by omega) (by rw [e2]; rfl) (by decide) ?_
        refine j_aload_n O 0 0 dX0_asks_66 rfl rfl ?_
        refine j_aload_n O 0 0 dX0_asks_67 rfl rfl ?_
        obtain ⟨e23, h⟩ := h
        refine fin_R O ⟨Nat.zero_le _, Nat.zero_le _⟩ (run_V (As := []) (st := [.ref (adG (xG x) (this))]) O (mt_X0_table (xl x) (xG x) _ _ _ h) e23 cfX0.1 q574 q576 qs5 q121 q577 hy_X0_table (Nat.le_of_ble_eq_true rfl) (Nat.le_of_ble_eq_true rfl) ⟨Nat.zero_le _, Nat.zero_le _⟩ rfl (Nat.le_of_ble_eq_true rfl) dX0_asks_68) (fun o21 w22 h => ?_)
        refine j_iload_n O 1 1 dX0_asks_71 rfl rfl ?_
        refine j_iload_n O 2 2 dX0_asks_72 rfl rfl ?_
        obtain ⟨e26, h⟩ := h
        refine fin_I O ⟨Nat.zero_le _, Nat.zero_le _⟩ (run_V (As := [vR (xG x) (o21), vI (p1), vI (p2)]) (st := []) O (mt_X0_isBarred (xl x) (xG x) _ _ _ _ _ _ h) e26 cfX0.1 q745 q747 qs14 q121 q748 hy_X0_isBarred (Nat.le_of_ble_eq_true rfl) (Nat.le_of_ble_eq_true rfl) ⟨Nat.zero_le _, Nat.zero_le _⟩ rfl (Nat.le_of_ble_eq_true rfl) dX0_asks_73) (fun r24 w25 h => ?_)
        obtain ⟨c27, h⟩ := h
        refine j_if_eq O (tgt := 83) dX0_asks_76 (by decide) c27 h (fun h => ?_) (fun h => ?_)
        · refine j_iconst O dX0_asks_83 ?_
          exact j_iret O hr dX0_asks_84 h
        · refine j_iconst O dX0_asks_79 ?_
          refine j_goto O (tgt := 84) dX0_asks_80 (by decide) ?_
          exact j_iret O hr dX0_asks_84 h
      have h := h.2 e2
      refine j_tableOut O (tgt := 85) dX0_asks_19 ca (by omega) (by decide) ?_
      refine j_iconst O dX0_asks_85 ?_
      exact j_iret O hr dX0_asks_86 h
    · refine j_iconst O dX0_asks_16 ?_
      exact j_iret O hr dX0_asks_17 h
theorem hy_X0_at : (yX0_at.cls = "DowryBoxes" ∧ yX0_at.cls ≠ "java/lang/invoke/MethodHandle" ∧ yX0_at.cls ≠ "java/lang/invoke/VarHandle" ∧ (parseMethodDescriptor yX0_at.desc).map (fun d => d.parameters.length) = some 2) := by decide +kernel
theorem mt_X0_at (l : Launch) (G : GW) (this : Nat) (p1 : Int) (p2 : Int) (w : Wd) (Q : Int → Wd → Prop) (h : wp_X0_at this p1 p2 w Q) : MI l G yX0_at cX0_at 3 (.int) 3 0 0 [.ref (adG G (this)), vI (p1), vI (p2)] w Q := by
  refine met_I (fun G => [.ref (adG G (this)), vI (p1), vI (p2)]) (by decide) (fun G => Nat.le_of_ble_eq_true rfl) (fun x O hl hm hr => ?_)
  subst hl
  have O : OK x "DowryBoxes" cX0_at 3 := O
  have h : wp_X0_at this p1 p2 w Q := h
  unfold wp_X0_at at h
  show J x (TI x Q) w 0 0 0 [(0, .ref (adG (xG x) (this))), (1, vI (p1)), (2, vI (p2))] []
  refine j_aload_n O 0 0 dX0_at_0 rfl rfl ?_
  refine j_iload_n O 1 1 dX0_at_1 rfl rfl ?_
  obtain ⟨e3, h⟩ := h
  refine fin_I O ⟨Nat.zero_le _, Nat.zero_le _⟩ (run_V (As := [vI (p1)]) (st := []) O (mt_X0_isSuitor (xl x) (xG x) _ _ _ _ h) e3 cfX0.1 q729 q731 qs11 q121 q732 hy_X0_isSuitor (Nat.le_of_ble_eq_true rfl) (Nat.le_of_ble_eq_true rfl) ⟨Nat.zero_le _, Nat.zero_le _⟩ rfl (Nat.le_of_ble_eq_true rfl) dX0_at_2) (fun r1 w2 h => ?_)
  obtain ⟨c4, h⟩ := h
  refine j_if_ne O (tgt := 10) dX0_at_5 (by decide) c4 h (fun h => ?_) (fun h => ?_)
  · refine j_iload_n O 2 2 dX0_at_10 rfl rfl ?_
    obtain ⟨ca, h⟩ := h
    rcases Classical.em (p2 = 0) with e0 | e0
    · have h := h.1 e0
      refine j_tableIn O (tgt := 36) dX0_at_11 ca (by omega) (by omega) (by rw [e0]; rfl) (by decide) ?_
      refine j_aload_n O 0 0 dX0_at_36 rfl rfl ?_
      refine j_getR O cfX0 2 (Nat.le_of_ble_eq_true rfl) ⟨_, rfl⟩ q360 dX0_at_37 h (fun o5 h => ?_)
      obtain ⟨k6, e_k6, g_k6⟩ := h
      subst e_k6
      have h := g_k6
      refine j_getAN O cfX1 1 (Nat.le_of_ble_eq_true rfl) ⟨_, rfl⟩ (lw_n q234 rfl) dX0_at_40 h (fun k7 h => ?_)
      refine j_iload_n O 1 1 dX0_at_43 rfl rfl ?_
      refine j_iald O dX0_at_44 h (fun v8 h => ?_)
      exact j_iret O hr dX0_at_45 h
    have h := h.2 e0
    rcases Classical.em (p2 = 1) with e1 | e1
    · have h := h.1 e1
      refine j_tableIn O (tgt := 46) dX0_at_11 ca (by omega) (by omega) (by rw [e1]; rfl) (by decide) ?_
      refine j_aload_n O 0 0 dX0_at_46 rfl rfl ?_
      refine j_getR O cfX0 2 (Nat.le_of_ble_eq_true rfl) ⟨_, rfl⟩ q360 dX0_at_47 h (fun o9 h => ?_)
      obtain ⟨k10, e_k10, g_k10⟩ := h
      subst e_k10
      have h := g_k10
      refine j_getAN O cfX1 2 (Nat.le_of_ble_eq_true rfl) ⟨_, rfl⟩ (lw_n q236 rfl) dX0_at_50 h (fun k11 h => ?_)
      refine j_iload_n O 1 1 dX0_at_53 rfl rfl ?_
      refine j_iald O dX0_at_54 h (fun v12 h => ?_)
      exact j_iret O hr dX0_at_55 h
    have h := h.2 e1
    rcases Classical.em (p2 = 2) with e2 | e2
    · have h := h.1 e2
      refine j_tableIn O (tgt := 56) dX0_at_11 ca (by omega) (by omega) (by rw [e2]; rfl) (by decide) ?_
      refine j_aload_n O 0 0 dX0_at_56 rfl rfl ?_
      refine j_aload_n O 0 0 dX0_at_57 rfl rfl ?_
      obtain ⟨e15, h⟩ := h
      refine fin_R O ⟨Nat.zero_le _, Nat.zero_le _⟩ (run_V (As := []) (st := [.ref (adG (xG x) (this))]) O (mt_X0_table (xl x) (xG x) _ _ _ h) e15 cfX0.1 q574 q576 qs5 q121 q577 hy_X0_table (Nat.le_of_ble_eq_true rfl) (Nat.le_of_ble_eq_true rfl) ⟨Nat.zero_le _, Nat.zero_le _⟩ rfl (Nat.le_of_ble_eq_true rfl) dX0_at_58) (fun o13 w14 h => ?_)
      refine j_iload_n O 1 1 dX0_at_61 rfl rfl ?_
      obtain ⟨e18, h⟩ := h
      refine fin_I O ⟨Nat.zero_le _, Nat.zero_le _⟩ (run_V (As := [vR (xG x) (o13), vI (p1)]) (st := []) O (mt_X0_boxOf (xl x) (xG x) _ _ _ _ _ h) e18 cfX0.1 q733 q735 qs12 q121 q736 hy_X0_boxOf (Nat.le_of_ble_eq_true rfl) (Nat.le_of_ble_eq_true rfl) ⟨Nat.zero_le _, Nat.zero_le _⟩ rfl (Nat.le_of_ble_eq_true rfl) dX0_at_62) (fun r16 w17 h => ?_)
      exact j_iret O hr dX0_at_65 h
    have h := h.2 e2
    refine j_tableOut O (tgt := 66) dX0_at_11 ca (by omega) (by decide) ?_
    refine j_iconst O dX0_at_66 ?_
    exact j_iret O hr dX0_at_67 h
  · refine j_iconst O dX0_at_8 ?_
    exact j_iret O hr dX0_at_9 h
theorem hy_X0_suitor : (yX0_suitor.cls = "DowryBoxes" ∧ yX0_suitor.cls ≠ "java/lang/invoke/MethodHandle" ∧ yX0_suitor.cls ≠ "java/lang/invoke/VarHandle" ∧ (parseMethodDescriptor yX0_suitor.desc).map (fun d => d.parameters.length) = some 2) := by decide +kernel
theorem wk_X0_suitor_17 {x : Cx} (O : OK x "DowryBoxes" cX0_suitor 3) (hr : (xM x).sig.returnType = some .int) (hm : xn x = 4) {Q : Int → Wd → Prop} (this : Nat) (w : Wd) (h : wp_X0_suitor_17 Q this w) : J x (TI x Q) w 0 0 17 [(0, .ref (adG (xG x) (this)))] [] := by
  unfold wp_X0_suitor_17 at h
  refine j_aload_n O 0 0 dX0_suitor_17 rfl rfl ?_
  refine j_iconst O dX0_suitor_18 ?_
  obtain ⟨e3, h⟩ := h
  refine fin_I O ⟨Nat.zero_le _, Nat.zero_le _⟩ (run_V (As := [vI (((-1)))]) (st := []) O (mt_X0_refuse (xl x) (xG x) _ _ _ _ h) e3 cfX0.1 q468 q470 qs1 q121 q471 hy_X0_refuse (Nat.le_of_ble_eq_true rfl) (Nat.le_of_ble_eq_true rfl) ⟨Nat.zero_le _, Nat.zero_le _⟩ rfl (Nat.le_of_ble_eq_true rfl) dX0_suitor_19) (fun r1 w2 h => ?_)
  exact j_iret O hr dX0_suitor_22 h
theorem mt_X0_suitor (l : Launch) (G : GW) (this : Nat) (p1 : Int) (p2 : Int) (w : Wd) (Q : Int → Wd → Prop) (h : wp_X0_suitor this p1 p2 w Q) : MI l G yX0_suitor cX0_suitor 4 (.int) 3 0 0 [.ref (adG G (this)), vI (p1), vI (p2)] w Q := by
  refine met_I (fun G => [.ref (adG G (this)), vI (p1), vI (p2)]) (by decide) (fun G => Nat.le_of_ble_eq_true rfl) (fun x O hl hm hr => ?_)
  subst hl
  have O : OK x "DowryBoxes" cX0_suitor 3 := O
  have h : wp_X0_suitor this p1 p2 w Q := h
  unfold wp_X0_suitor at h
  show J x (TI x Q) w 0 0 0 [(0, .ref (adG (xG x) (this))), (1, vI (p1)), (2, vI (p2))] []
  refine j_iload_n O 1 1 dX0_suitor_0 rfl rfl ?_
  refine fin_I O ⟨Nat.zero_le _, Nat.zero_le _⟩ (run_S (As := [vI (p1)]) (st := []) O (mt_X0_isTooth (xl x) (xG x) _ _ _ h) q722 q723 q121 q724 hy_X0_isTooth.2 (Nat.le_of_ble_eq_true rfl) (Nat.le_of_ble_eq_true rfl) ⟨Nat.zero_le _, Nat.zero_le _⟩ rfl (Nat.le_of_ble_eq_true rfl) dX0_suitor_1) (fun r1 w2 h => ?_)
  obtain ⟨c3, h⟩ := h
  refine j_if_eq O (tgt := 17) dX0_suitor_4 (by decide) c3 h (fun h => ?_) (fun h => ?_)
  · exact (J.sub [0] rfl <| wk_X0_suitor_17 O hr hm  _  _ h)
  · refine j_iload_n O 2 2 dX0_suitor_7 rfl rfl ?_
    refine j_iconst O dX0_suitor_8 ?_
    refine j_bipush (m := 60) O dX0_suitor_9 bi_60 ?_
    refine fin_I O ⟨Nat.zero_le _, Nat.zero_le _⟩ (run_S (As := [vI (p2), vI (0), vI (60)]) (st := []) O (mt_X0_in (xl x) (xG x) _ _ _ _ _ h) q465 q466 q121 q467 hy_X0_in.2 (Nat.le_of_ble_eq_true rfl) (Nat.le_of_ble_eq_true rfl) ⟨Nat.zero_le _, Nat.zero_le _⟩ rfl (Nat.le_of_ble_eq_true rfl) dX0_suitor_11) (fun r4 w5 h => ?_)
    obtain ⟨c6, h⟩ := h
    refine j_if_ne O (tgt := 23) dX0_suitor_14 (by decide) c6 h (fun h => ?_) (fun h => ?_)
    · refine j_aload_n O 0 0 dX0_suitor_23 rfl rfl ?_
      refine j_getR O cfX0 2 (Nat.le_of_ble_eq_true rfl) ⟨_, rfl⟩ q360 dX0_suitor_24 h (fun o7 h => ?_)
      obtain ⟨k8, e_k8, g_k8⟩ := h
      subst e_k8
      have h := g_k8
      refine j_getIN O cfX1 6 (Nat.le_of_ble_eq_true rfl) (.inl rfl) (lw_n q244 rfl) dX0_suitor_27 h (fun v9 h => ?_)
      refine j_istore_n (L' := [(3, vI (v9)), (0, .ref (adG (xG x) (this))), (1, vI (p1)), (2, vI (p2))]) O 3 dX0_suitor_30 rfl (by rw [hm]; decide) rfl ?_
      refine j_iload_n O 0 3 dX0_suitor_31 rfl rfl ?_
      refine j_bipush (m := 6) O dX0_suitor_32 bi_6 ?_
      obtain ⟨c10, h⟩ := h
      refine j_icmp_ne O (tgt := 44) dX0_suitor_34 (by decide) c10 (by decide) h (fun h => ?_) (fun h => ?_)
      · refine j_aload_n O 1 0 dX0_suitor_44 rfl rfl ?_
        refine j_getR O cfX0 2 (Nat.le_of_ble_eq_true rfl) ⟨_, rfl⟩ q360 dX0_suitor_45 h (fun o11 h => ?_)
        obtain ⟨k12, e_k12, g_k12⟩ := h
        subst e_k12
        have h := g_k12
        refine j_getAN O cfX1 1 (Nat.le_of_ble_eq_true rfl) ⟨_, rfl⟩ (lw_n q234 rfl) dX0_suitor_48 h (fun k13 h => ?_)
        refine j_iload_n O 0 3 dX0_suitor_51 rfl rfl ?_
        refine j_iload_n O 2 1 dX0_suitor_52 rfl rfl ?_
        refine j_iast O dX0_suitor_53 h (fun w14 h => ?_)
        refine j_aload_n O 1 0 dX0_suitor_54 rfl rfl ?_
        refine j_getR O cfX0 2 (Nat.le_of_ble_eq_true rfl) ⟨_, rfl⟩ q360 dX0_suitor_55 h (fun o15 h => ?_)
        obtain ⟨k16, e_k16, g_k16⟩ := h
        subst e_k16
        have h := g_k16
        refine j_getAN O cfX1 2 (Nat.le_of_ble_eq_true rfl) ⟨_, rfl⟩ (lw_n q236 rfl) dX0_suitor_58 h (fun k17 h => ?_)
        refine j_iload_n O 0 3 dX0_suitor_61 rfl rfl ?_
        refine j_iload_n O 3 2 dX0_suitor_62 rfl rfl ?_
        refine j_iast O dX0_suitor_63 h (fun w18 h => ?_)
        refine j_aload_n O 1 0 dX0_suitor_64 rfl rfl ?_
        refine j_getR O cfX0 2 (Nat.le_of_ble_eq_true rfl) ⟨_, rfl⟩ q360 dX0_suitor_65 h (fun o19 h => ?_)
        refine j_dup O dX0_suitor_68 (vR_cat _ _) ?_
        obtain ⟨k20, e_k20, g_k20⟩ := h
        subst e_k20
        have h := g_k20
        refine j_getIN O cfX1 6 (Nat.le_of_ble_eq_true rfl) (.inl rfl) (lw_n q244 rfl) dX0_suitor_69 h (fun v21 h => ?_)
        refine j_iconst O dX0_suitor_72 ?_
        refine j_iadd O dX0_suitor_73 ?_
        refine j_putIN O cfX1 6 (Nat.le_of_ble_eq_true rfl) rfl (lw_n q244 rfl) rfl dX0_suitor_74 h (fun w22 h => ?_)
        refine j_aload_n O 1 0 dX0_suitor_77 rfl rfl ?_
        refine j_iload_n O 0 3 dX0_suitor_78 rfl rfl ?_
        obtain ⟨e25, h⟩ := h
        refine fin_I O ⟨Nat.zero_le _, Nat.zero_le _⟩ (run_V (As := [vI (v9)]) (st := []) O (mt_X0_settled (xl x) (xG x) _ _ _ _ h) e25 cfX0.1 q566 q568 qs4 q121 q569 hy_X0_settled (Nat.le_of_ble_eq_true rfl) (Nat.le_of_ble_eq_true rfl) ⟨Nat.zero_le _, Nat.zero_le _⟩ rfl (Nat.le_of_ble_eq_true rfl) dX0_suitor_79) (fun r23 w24 h => ?_)
        exact j_iret O hr dX0_suitor_82 h
      · refine j_aload_n O 1 0 dX0_suitor_37 rfl rfl ?_
        refine j_bipush (m := (-5)) O dX0_suitor_38 bi_m5 ?_
        obtain ⟨e28, h⟩ := h
        refine fin_I O ⟨Nat.zero_le _, Nat.zero_le _⟩ (run_V (As := [vI (((-5)))]) (st := []) O (mt_X0_refuse (xl x) (xG x) _ _ _ _ h) e28 cfX0.1 q468 q470 qs1 q121 q471 hy_X0_refuse (Nat.le_of_ble_eq_true rfl) (Nat.le_of_ble_eq_true rfl) ⟨Nat.zero_le _, Nat.zero_le _⟩ rfl (Nat.le_of_ble_eq_true rfl) dX0_suitor_40) (fun r26 w27 h => ?_)
        exact j_iret O hr dX0_suitor_43 h
    · exact (J.sub [0] rfl <| wk_X0_suitor_17 O hr hm  _  _ h)
theorem hy_X0_isSet : (yX0_isSet.cls = "DowryBoxes" ∧ yX0_isSet.cls ≠ "java/lang/invoke/MethodHandle" ∧ yX0_isSet.cls ≠ "java/lang/invoke/VarHandle" ∧ (parseMethodDescriptor yX0_isSet.desc).map (fun d => d.parameters.length) = some 1) := by decide +kernel
theorem mt_X0_isSet (l : Launch) (G : GW) (p1 : Int) (w : Wd) (Q : Int → Wd → Prop) (h : wp_X0_isSet p1 w Q) : MI l G yX0_isSet cX0_isSet 1 (.boolean) 2 0 0 [vI (p1)] w Q := by
  refine met_I (fun G => [vI (p1)]) (by decide) (fun G => Nat.le_of_ble_eq_true rfl) (fun x O hl hm hr => ?_)
  subst hl
  have O : OK x "DowryBoxes" cX0_isSet 2 := O
  have h : wp_X0_isSet p1 w Q := h
  unfold wp_X0_isSet at h
  show J x (TI x Q) w 0 0 0 [(0, vI (p1))] []
  refine j_iload_n O 0 0 dX0_isSet_0 rfl rfl ?_
  refine j_iconst O dX0_isSet_1 ?_
  refine j_sipush (m := 255) O dX0_isSet_2 si_255 ?_
  refine fin_I O ⟨Nat.zero_le _, Nat.zero_le _⟩ (run_S (As := [vI (p1), vI (0), vI (255)]) (st := []) O (mt_X0_in (xl x) (xG x) _ _ _ _ _ h) q465 q466 q121 q467 hy_X0_in.2 (Nat.le_of_ble_eq_true rfl) (Nat.le_of_ble_eq_true rfl) ⟨Nat.zero_le _, Nat.zero_le _⟩ rfl (Nat.le_of_ble_eq_true rfl) dX0_isSet_5) (fun r1 w2 h => ?_)
  exact j_zret O hr dX0_isSet_8 h
theorem hy_X0_pins : (yX0_pins.cls = "DowryBoxes" ∧ yX0_pins.cls ≠ "java/lang/invoke/MethodHandle" ∧ yX0_pins.cls ≠ "java/lang/invoke/VarHandle" ∧ (parseMethodDescriptor yX0_pins.desc).map (fun d => d.parameters.length) = some 3) := by decide +kernel
theorem wk_X0_pins_14 {x : Cx} (O : OK x "DowryBoxes" cX0_pins 3) (hr : (xM x).sig.returnType = some .int) (hm : xn x = 5) {Q : Int → Wd → Prop} (this : Nat) (w : Wd) (h : wp_X0_pins_14 Q this w) : J x (TI x Q) w 0 0 14 [(0, .ref (adG (xG x) (this)))] [] := by
  unfold wp_X0_pins_14 at h
  refine j_aload_n O 0 0 dX0_pins_14 rfl rfl ?_
  refine j_iconst O dX0_pins_15 ?_
  obtain ⟨e3, h⟩ := h
  refine fin_I O ⟨Nat.zero_le _, Nat.zero_le _⟩ (run_V (As := [vI (((-1)))]) (st := []) O (mt_X0_refuse (xl x) (xG x) _ _ _ _ h) e3 cfX0.1 q468 q470 qs1 q121 q471 hy_X0_refuse (Nat.le_of_ble_eq_true rfl) (Nat.le_of_ble_eq_true rfl) ⟨Nat.zero_le _, Nat.zero_le _⟩ rfl (Nat.le_of_ble_eq_true rfl) dX0_pins_16) (fun r1 w2 h => ?_)
  exact j_iret O hr dX0_pins_19 h
theorem mt_X0_pins (l : Launch) (G : GW) (this : Nat) (p1 : Int) (p2 : Int) (p3 : Int) (w : Wd) (Q : Int → Wd → Prop) (h : wp_X0_pins this p1 p2 p3 w Q) : MI l G yX0_pins cX0_pins 5 (.int) 3 0 0 [.ref (adG G (this)), vI (p1), vI (p2), vI (p3)] w Q := by
  refine met_I (fun G => [.ref (adG G (this)), vI (p1), vI (p2), vI (p3)]) (by decide) (fun G => Nat.le_of_ble_eq_true rfl) (fun x O hl hm hr => ?_)
  subst hl
  have O : OK x "DowryBoxes" cX0_pins 3 := O
  have h : wp_X0_pins this p1 p2 p3 w Q := h
  unfold wp_X0_pins at h
  show J x (TI x Q) w 0 0 0 [(0, .ref (adG (xG x) (this))), (1, vI (p1)), (2, vI (p2)), (3, vI (p3))] []
  refine j_iload_n O 2 2 dX0_pins_0 rfl rfl ?_
  refine fin_I O ⟨Nat.zero_le _, Nat.zero_le _⟩ (run_S (As := [vI (p2)]) (st := []) O (mt_X0_isBar (xl x) (xG x) _ _ _ h) q712 q713 q121 q714 hy_X0_isBar.2 (Nat.le_of_ble_eq_true rfl) (Nat.le_of_ble_eq_true rfl) ⟨Nat.zero_le _, Nat.zero_le _⟩ rfl (Nat.le_of_ble_eq_true rfl) dX0_pins_1) (fun r1 w2 h => ?_)
  obtain ⟨c3, h⟩ := h
  refine j_if_eq O (tgt := 14) dX0_pins_4 (by decide) c3 h (fun h => ?_) (fun h => ?_)
  · exact (J.sub [0] rfl <| wk_X0_pins_14 O hr hm  _  _ h)
  · refine j_iload_n O 3 3 dX0_pins_7 rfl rfl ?_
    refine fin_I O ⟨Nat.zero_le _, Nat.zero_le _⟩ (run_S (As := [vI (p3)]) (st := []) O (mt_X0_isSet (xl x) (xG x) _ _ _ h) q715 q716 q121 q717 hy_X0_isSet.2 (Nat.le_of_ble_eq_true rfl) (Nat.le_of_ble_eq_true rfl) ⟨Nat.zero_le _, Nat.zero_le _⟩ rfl (Nat.le_of_ble_eq_true rfl) dX0_pins_8) (fun r4 w5 h => ?_)
    obtain ⟨c6, h⟩ := h
    refine j_if_ne O (tgt := 20) dX0_pins_11 (by decide) c6 h (fun h => ?_) (fun h => ?_)
    · refine j_aload_n O 0 0 dX0_pins_20 rfl rfl ?_
      refine j_iload_n O 1 1 dX0_pins_21 rfl rfl ?_
      obtain ⟨e9, h⟩ := h
      refine fin_I O ⟨Nat.zero_le _, Nat.zero_le _⟩ (run_V (As := [vI (p1)]) (st := []) O (mt_X0_isBox (xl x) (xG x) _ _ _ _ h) e9 cfX0.1 q582 q584 qs6 q121 q585 hy_X0_isBox (Nat.le_of_ble_eq_true rfl) (Nat.le_of_ble_eq_true rfl) ⟨Nat.zero_le _, Nat.zero_le _⟩ rfl (Nat.le_of_ble_eq_true rfl) dX0_pins_22) (fun r7 w8 h => ?_)
      obtain ⟨c10, h⟩ := h
      refine j_if_ne O (tgt := 35) dX0_pins_25 (by decide) c10 h (fun h => ?_) (fun h => ?_)
      · refine j_aload_n O 0 0 dX0_pins_35 rfl rfl ?_
        obtain ⟨e13, h⟩ := h
        refine fin_R O ⟨Nat.zero_le _, Nat.zero_le _⟩ (run_V (As := []) (st := []) O (mt_X0_table (xl x) (xG x) _ _ _ h) e13 cfX0.1 q574 q576 qs5 q121 q577 hy_X0_table (Nat.le_of_ble_eq_true rfl) (Nat.le_of_ble_eq_true rfl) ⟨Nat.zero_le _, Nat.zero_le _⟩ rfl (Nat.le_of_ble_eq_true rfl) dX0_pins_36) (fun o11 w12 h => ?_)
        refine j_iload_n O 1 1 dX0_pins_39 rfl rfl ?_
        refine j_iload_n O 2 2 dX0_pins_40 rfl rfl ?_
        obtain ⟨k14, e_k14, g_k14⟩ := h
        subst e_k14
        have h := g_k14
        obtain ⟨e17, h⟩ := h
        refine fin_I O ⟨Nat.zero_le _, Nat.zero_le _⟩ (run_V (As := [vI (p1), vI (p2)]) (st := []) O (mt_X2_pinsAt (xl x) (xG x) _ _ _ _ _ h) e17 cfX2.1 q586 q587 q588 q123 q589 hy_X2_pinsAt (Nat.le_of_ble_eq_true rfl) (Nat.le_of_ble_eq_true rfl) ⟨Nat.zero_le _, Nat.zero_le _⟩ rfl (Nat.le_of_ble_eq_true rfl) dX0_pins_41) (fun r15 w16 h => ?_)
        refine j_istore (L' := [(4, vI (r15)), (0, .ref (adG (xG x) (this))), (1, vI (p1)), (2, vI (p2)), (3, vI (p3))]) O dX0_pins_44 (by rw [hm]; decide) rfl ?_
        refine j_aload_n O 1 0 dX0_pins_46 rfl rfl ?_
        obtain ⟨e20, h⟩ := h
        refine fin_R O ⟨Nat.zero_le _, Nat.zero_le _⟩ (run_V (As := []) (st := []) O (mt_X0_table (xl x) (xG x) _ _ _ h) e20 cfX0.1 q574 q576 qs5 q121 q577 hy_X0_table (Nat.le_of_ble_eq_true rfl) (Nat.le_of_ble_eq_true rfl) ⟨Nat.zero_le _, Nat.zero_le _⟩ rfl (Nat.le_of_ble_eq_true rfl) dX0_pins_47) (fun o18 w19 h => ?_)
        obtain ⟨k21, e_k21, g_k21⟩ := h
        subst e_k21
        have h := g_k21
        refine j_getAN O cfX2 0 (Nat.le_of_ble_eq_true rfl) ⟨_, rfl⟩ (lw_n q178 rfl) dX0_pins_50 h (fun k22 h => ?_)
        refine j_bipush (m := 8) O dX0_pins_53 bi_8 ?_
        refine j_iload_n O 2 1 dX0_pins_55 rfl rfl ?_
        refine j_imul O dX0_pins_56 ?_
        refine j_iload_n O 3 2 dX0_pins_57 rfl rfl ?_
        refine j_iadd O dX0_pins_58 ?_
        refine j_iload_n O 4 3 dX0_pins_59 rfl rfl ?_
        refine j_iast O dX0_pins_60 h (fun w23 h => ?_)
        refine j_aload_n O 1 0 dX0_pins_61 rfl rfl ?_
        refine j_iload O 0 dX0_pins_62 rfl ?_
        obtain ⟨e26, h⟩ := h
        refine fin_I O ⟨Nat.zero_le _, Nat.zero_le _⟩ (run_V (As := [vI (r15)]) (st := []) O (mt_X0_settled (xl x) (xG x) _ _ _ _ h) e26 cfX0.1 q566 q568 qs4 q121 q569 hy_X0_settled (Nat.le_of_ble_eq_true rfl) (Nat.le_of_ble_eq_true rfl) ⟨Nat.zero_le _, Nat.zero_le _⟩ rfl (Nat.le_of_ble_eq_true rfl) dX0_pins_64) (fun r24 w25 h => ?_)
        exact j_iret O hr dX0_pins_67 h
      · refine j_aload_n O 0 0 dX0_pins_28 rfl rfl ?_
        refine j_bipush (m := (-2)) O dX0_pins_29 bi_m2 ?_
        obtain ⟨e29, h⟩ := h
        refine fin_I O ⟨Nat.zero_le _, Nat.zero_le _⟩ (run_V (As := [vI (((-2)))]) (st := []) O (mt_X0_refuse (xl x) (xG x) _ _ _ _ h) e29 cfX0.1 q468 q470 qs1 q121 q471 hy_X0_refuse (Nat.le_of_ble_eq_true rfl) (Nat.le_of_ble_eq_true rfl) ⟨Nat.zero_le _, Nat.zero_le _⟩ rfl (Nat.le_of_ble_eq_true rfl) dX0_pins_31) (fun r27 w28 h => ?_)
        exact j_iret O hr dX0_pins_34 h
    · exact (J.sub [0] rfl <| wk_X0_pins_14 O hr hm  _  _ h)
theorem hy_X0_of : (yX0_of.cls = "DowryBoxes" ∧ yX0_of.cls ≠ "java/lang/invoke/MethodHandle" ∧ yX0_of.cls ≠ "java/lang/invoke/VarHandle" ∧ (parseMethodDescriptor yX0_of.desc).map (fun d => d.parameters.length) = some 2) := by decide +kernel
theorem mt_X0_of (l : Launch) (G : GW) (this : Nat) (p1 : Int) (p2 : Int) (w : Wd) (Q : Int → Wd → Prop) (h : wp_X0_of this p1 p2 w Q) : MI l G yX0_of cX0_of 4 (.int) 109 0 0 [.ref (adG G (this)), vI (p1), vI (p2)] w Q := by
  refine met_I (fun G => [.ref (adG G (this)), vI (p1), vI (p2)]) (by decide) (fun G => Nat.le_of_ble_eq_true rfl) (fun x O hl hm hr => ?_)
  subst hl
  have O : OK x "DowryBoxes" cX0_of 109 := O
  have h : wp_X0_of this p1 p2 w Q := h
  unfold wp_X0_of at h
  show J x (TI x Q) w 0 0 0 [(0, .ref (adG (xG x) (this))), (1, vI (p1)), (2, vI (p2))] []
  refine j_aload_n O 0 0 dX0_of_0 rfl rfl ?_
  refine j_iload_n O 1 1 dX0_of_1 rfl rfl ?_
  obtain ⟨e3, h⟩ := h
  refine fin_I O ⟨Nat.zero_le _, Nat.zero_le _⟩ (run_V (As := [vI (p1)]) (st := []) O (mt_X0_isBox (xl x) (xG x) _ _ _ _ h) e3 cfX0.1 q582 q584 qs6 q121 q585 hy_X0_isBox (Nat.le_of_ble_eq_true rfl) (Nat.le_of_ble_eq_true rfl) ⟨Nat.zero_le _, Nat.zero_le _⟩ rfl (Nat.le_of_ble_eq_true rfl) dX0_of_2) (fun r1 w2 h => ?_)
  obtain ⟨c4, h⟩ := h
  refine j_if_ne O (tgt := 10) dX0_of_5 (by decide) c4 h (fun h => ?_) (fun h => ?_)
  · refine j_aload_n O 0 0 dX0_of_10 rfl rfl ?_
    obtain ⟨e7, h⟩ := h
    refine fin_R O ⟨Nat.zero_le _, Nat.zero_le _⟩ (run_V (As := []) (st := []) O (mt_X0_table (xl x) (xG x) _ _ _ h) e7 cfX0.1 q574 q576 qs5 q121 q577 hy_X0_table (Nat.le_of_ble_eq_true rfl) (Nat.le_of_ble_eq_true rfl) ⟨Nat.zero_le _, Nat.zero_le _⟩ rfl (Nat.le_of_ble_eq_true rfl) dX0_of_11) (fun o5 w6 h => ?_)
    refine j_astoreq_n (L' := [(3, vR (xG x) (o5)), (0, .ref (adG (xG x) (this))), (1, vI (p1)), (2, vI (p2))]) O 3 dX0_of_14 rfl (by rw [hm]; decide) rfl ?_
    refine j_iload_n O 3 2 dX0_of_15 rfl rfl ?_
    refine j_bipush (m := 7) O dX0_of_16 bi_7 ?_
    refine j_bipush (m := 14) O dX0_of_18 bi_14 ?_
    refine fin_I O ⟨Nat.zero_le _, Nat.zero_le _⟩ (run_S (As := [vI (p2), vI (7), vI (14)]) (st := []) O (mt_X0_in (xl x) (xG x) _ _ _ _ _ h) q465 q466 q121 q467 hy_X0_in.2 (Nat.le_of_ble_eq_true rfl) (Nat.le_of_ble_eq_true rfl) ⟨Nat.zero_le _, Nat.zero_le _⟩ rfl (Nat.le_of_ble_eq_true rfl) dX0_of_20) (fun r8 w9 h => ?_)
    obtain ⟨c10, h⟩ := h
    refine j_if_eq O (tgt := 36) dX0_of_23 (by decide) c10 h (fun h => ?_) (fun h => ?_)
    · refine j_iload_n O 3 2 dX0_of_36 rfl rfl ?_
      obtain ⟨ca, h⟩ := h
      rcases Classical.em (p2 = 0) with e0 | e0
      · have h := h.1 e0
        refine j_tableIn O (tgt := 80) dX0_of_37 ca (by omega) (by omega) (by rw [e0]; rfl) (by decide) ?_
        refine j_aloadq_n O 0 3 dX0_of_80 rfl rfl ?_
        obtain ⟨k11, e_k11, g_k11⟩ := h
        subst e_k11
        have h := g_k11
        refine j_getAN O cfX2 2 (Nat.le_of_ble_eq_true rfl) ⟨_, rfl⟩ (lw_n q182 rfl) dX0_of_81 h (fun k12 h => ?_)
        refine j_iload_n O 2 1 dX0_of_84 rfl rfl ?_
        refine j_iald O dX0_of_85 h (fun v13 h => ?_)
        exact j_iret O hr dX0_of_86 h
      have h := h.2 e0
      rcases Classical.em (p2 = 1) with e1 | e1
      · have h := h.1 e1
        refine j_tableIn O (tgt := 87) dX0_of_37 ca (by omega) (by omega) (by rw [e1]; rfl) (by decide) ?_
        refine j_aloadq_n O 0 3 dX0_of_87 rfl rfl ?_
        refine j_iload_n O 2 1 dX0_of_88 rfl rfl ?_
        obtain ⟨k14, e_k14, g_k14⟩ := h
        subst e_k14
        have h := g_k14
        obtain ⟨e17, h⟩ := h
        refine fin_I O ⟨Nat.zero_le _, Nat.zero_le _⟩ (run_V (As := [vI (p1)]) (st := []) O (mt_X2_notes (xl x) (xG x) _ _ _ _ h) e17 cfX2.1 q590 q591 q592 q123 q593 hy_X2_notes (Nat.le_of_ble_eq_true rfl) (Nat.le_of_ble_eq_true rfl) ⟨Nat.zero_le _, Nat.zero_le _⟩ rfl (Nat.le_of_ble_eq_true rfl) dX0_of_89) (fun r15 w16 h => ?_)
        exact j_iret O hr dX0_of_92 h
      have h := h.2 e1
      rcases Classical.em (p2 = 2) with e2 | e2
      · have h := h.1 e2
        refine j_tableIn O (tgt := 93) dX0_of_37 ca (by omega) (by omega) (by rw [e2]; rfl) (by decide) ?_
        refine j_aloadq_n O 0 3 dX0_of_93 rfl rfl ?_
        obtain ⟨k18, e_k18, g_k18⟩ := h
        subst e_k18
        have h := g_k18
        refine j_getAN O cfX2 1 (Nat.le_of_ble_eq_true rfl) ⟨_, rfl⟩ (lw_n q180 rfl) dX0_of_94 h (fun k19 h => ?_)
        refine j_iload_n O 2 1 dX0_of_97 rfl rfl ?_
        refine j_iald O dX0_of_98 h (fun v20 h => ?_)
        exact j_iret O hr dX0_of_99 h
      have h := h.2 e2
      rcases Classical.em (p2 = 3) with e3 | e3
      · have h := h.1 e3
        refine j_tableIn O (tgt := 100) dX0_of_37 ca (by omega) (by omega) (by rw [e3]; rfl) (by decide) ?_
        refine j_aloadq_n O 0 3 dX0_of_100 rfl rfl ?_
        obtain ⟨k21, e_k21, g_k21⟩ := h
        subst e_k21
        have h := g_k21
        refine j_getAN O cfX2 3 (Nat.le_of_ble_eq_true rfl) ⟨_, rfl⟩ (lw_n q184 rfl) dX0_of_101 h (fun k22 h => ?_)
        refine j_iload_n O 2 1 dX0_of_104 rfl rfl ?_
        refine j_iald O dX0_of_105 h (fun v23 h => ?_)
        exact j_iret O hr dX0_of_106 h
      have h := h.2 e3
      rcases Classical.em (p2 = 4) with e4 | e4
      · have h := h.1 e4
        refine j_tableIn O (tgt := 107) dX0_of_37 ca (by omega) (by omega) (by rw [e4]; rfl) (by decide) ?_
        refine j_aloadq_n O 0 3 dX0_of_107 rfl rfl ?_
        obtain ⟨k24, e_k24, g_k24⟩ := h
        subst e_k24
        have h := g_k24
        refine j_getAN O cfX2 4 (Nat.le_of_ble_eq_true rfl) ⟨_, rfl⟩ (lw_n q186 rfl) dX0_of_108 h (fun k25 h => ?_)
        refine j_iload_n O 2 1 dX0_of_111 rfl rfl ?_
        refine j_iald O dX0_of_112 h (fun v26 h => ?_)
        exact j_iret O hr dX0_of_113 h
      have h := h.2 e4
      rcases Classical.em (p2 = 5) with e5 | e5
      · have h := h.1 e5
        refine j_tableIn O (tgt := 114) dX0_of_37 ca (by omega) (by omega) (by rw [e5]; rfl) (by decide) ?_
        refine j_aload_n O 1 0 dX0_of_114 rfl rfl ?_
        refine j_aload_n O 1 0 dX0_of_115 rfl rfl ?_
        refine j_getR O cfX0 2 (Nat.le_of_ble_eq_true rfl) ⟨_, rfl⟩ q360 dX0_of_116 h (fun o27 h => ?_)
        obtain ⟨k28, e_k28, g_k28⟩ := h
        subst e_k28
        have h := g_k28
        refine j_getIN O cfX1 10 (Nat.le_of_ble_eq_true rfl) (.inl rfl) (lw_n q252 rfl) dX0_of_119 h (fun v29 h => ?_)
        refine j_aloadq_n O 0 3 dX0_of_122 rfl rfl ?_
        refine j_iload_n O 2 1 dX0_of_123 rfl rfl ?_
        obtain ⟨e32, h⟩ := h
        refine fin_I O ⟨Nat.zero_le _, Nat.zero_le _⟩ (run_V (As := [vI (v29), vR (xG x) (o5), vI (p1)]) (st := []) O (mt_X0_lasts (xl x) (xG x) _ _ _ _ _ _ h) e32 cfX0.1 q608 q610 qs7 q121 q611 hy_X0_lasts (Nat.le_of_ble_eq_true rfl) (Nat.le_of_ble_eq_true rfl) ⟨Nat.zero_le _, Nat.zero_le _⟩ rfl (Nat.le_of_ble_eq_true rfl) dX0_of_124) (fun r30 w31 h => ?_)
        exact j_iret O hr dX0_of_127 h
      have h := h.2 e5
      rcases Classical.em (p2 = 6) with e6 | e6
      · have h := h.1 e6
        refine j_tableIn O (tgt := 128) dX0_of_37 ca (by omega) (by omega) (by rw [e6]; rfl) (by decide) ?_
        refine j_aload_n O 1 0 dX0_of_128 rfl rfl ?_
        refine j_aloadq_n O 0 3 dX0_of_129 rfl rfl ?_
        refine j_iload_n O 2 1 dX0_of_130 rfl rfl ?_
        obtain ⟨e35, h⟩ := h
        refine fin_I O ⟨Nat.zero_le _, Nat.zero_le _⟩ (run_V (As := [vR (xG x) (o5), vI (p1)]) (st := []) O (mt_X0_loses (xl x) (xG x) _ _ _ _ _ h) e35 cfX0.1 q704 q706 qs10 q121 q707 hy_X0_loses (Nat.le_of_ble_eq_true rfl) (Nat.le_of_ble_eq_true rfl) ⟨Nat.zero_le _, Nat.zero_le _⟩ rfl (Nat.le_of_ble_eq_true rfl) dX0_of_131) (fun r33 w34 h => ?_)
        exact j_iret O hr dX0_of_134 h
      have h := h.2 e6
      refine j_tableOut O (tgt := 135) dX0_of_37 ca (by omega) (by decide) ?_
      refine j_iconst O dX0_of_135 ?_
      exact j_iret O hr dX0_of_136 h
    · refine j_aloadq_n O 0 3 dX0_of_26 rfl rfl ?_
      refine j_iload_n O 2 1 dX0_of_27 rfl rfl ?_
      refine j_iload_n O 3 2 dX0_of_28 rfl rfl ?_
      refine j_bipush (m := 7) O dX0_of_29 bi_7 ?_
      refine j_isub O dX0_of_31 ?_
      obtain ⟨k36, e_k36, g_k36⟩ := h
      subst e_k36
      have h := g_k36
      obtain ⟨e39, h⟩ := h
      refine fin_I O ⟨Nat.zero_le _, Nat.zero_le _⟩ (run_V (As := [vI (p1), vI ((p2 - 7))]) (st := []) O (mt_X2_pinsAt (xl x) (xG x) _ _ _ _ _ h) e39 cfX2.1 q586 q587 q588 q123 q589 hy_X2_pinsAt (Nat.le_of_ble_eq_true rfl) (Nat.le_of_ble_eq_true rfl) ⟨Nat.zero_le _, Nat.zero_le _⟩ rfl (Nat.le_of_ble_eq_true rfl) dX0_of_32) (fun r37 w38 h => ?_)
      exact j_iret O hr dX0_of_35 h
  · refine j_iconst O dX0_of_8 ?_
    exact j_iret O hr dX0_of_9 h
theorem hy_X0_box : (yX0_box.cls = "DowryBoxes" ∧ yX0_box.cls ≠ "java/lang/invoke/MethodHandle" ∧ yX0_box.cls ≠ "java/lang/invoke/VarHandle" ∧ (parseMethodDescriptor yX0_box.desc).map (fun d => d.parameters.length) = some 1) := by decide +kernel
theorem wk_X0_box_45 {x : Cx} (O : OK x "DowryBoxes" cX0_box 3) (hr : (xM x).sig.returnType = some .int) (hm : xn x = 5) {Q : Int → Wd → Prop} (X45 : Wd → Prop) (this : Nat) (x1 : Int) (x2 : Int) (x3 : Option Nat) (hX45 : ∀  (w : Wd), X45  w → J x (TI x Q) w 0 0 71 [(0, .ref (adG (xG x) (this))), (1, vI (x1)), (2, vI (x2)), (3, vR (xG x) (x3))] []) : ∀ (n : Nat) (x4 : Int) (w : Wd), wp_X0_box_45 Q X45 this x1 x2 x3 n x4 w → J x (TI x Q) w 0 0 45 [(0, .ref (adG (xG x) (this))), (1, vI (x1)), (2, vI (x2)), (3, vR (xG x) (x3)), (4, vI (x4))] [] := by
  intro n
  induction n with
  | zero => intro x4 w h; exact False.elim h
  | succ n ih =>
    intro x4 w h
    rw [wp_X0_box_45] at h
    refine j_iload O 4 dX0_box_45 rfl ?_
    refine j_bipush (m := 8) O dX0_box_47 bi_8 ?_
    obtain ⟨c1, h⟩ := h
    refine j_icmp_ge O (tgt := 71) dX0_box_49 (by decide) c1 (by decide) h (fun h => ?_) (fun h => ?_)
    · exact (J.sub [0, 1, 2, 3] rfl <| hX45  _ h)
    · refine j_aloadq_n O 3 3 dX0_box_52 rfl rfl ?_
      obtain ⟨k2, e_k2, g_k2⟩ := h
      subst e_k2
      have h := g_k2
      refine j_getAN O cfX2 0 (Nat.le_of_ble_eq_true rfl) ⟨_, rfl⟩ (lw_n q178 rfl) dX0_box_53 h (fun k3 h => ?_)
      refine j_bipush (m := 8) O dX0_box_56 bi_8 ?_
      refine j_iload_n O 2 2 dX0_box_58 rfl rfl ?_
      refine j_imul O dX0_box_59 ?_
      refine j_iload O 4 dX0_box_60 rfl ?_
      refine j_iadd O dX0_box_62 ?_
      refine j_iconst O dX0_box_63 ?_
      refine j_iast O dX0_box_64 h (fun w4 h => ?_)
      refine j_iinc (L' := [(4, vI (x4 + 1)), (0, .ref (adG (xG x) (this))), (1, vI (x1)), (2, vI (x2)), (3, vR (xG x) (some k2))]) O 4 dX0_box_65 rfl (by rw [hm]; decide) rfl ?_
      refine j_goto O (tgt := 45) dX0_box_68 (by decide) ?_
      exact (J.sub [1, 2, 3, 4, 0] rfl <| ih _ _ h)
theorem mt_X0_box (l : Launch) (G : GW) (this : Nat) (p1 : Int) (w : Wd) (Q : Int → Wd → Prop) (h : wp_X0_box this p1 w Q) : MI l G yX0_box cX0_box 5 (.int) 3 0 0 [.ref (adG G (this)), vI (p1)] w Q := by
  refine met_I (fun G => [.ref (adG G (this)), vI (p1)]) (by decide) (fun G => Nat.le_of_ble_eq_true rfl) (fun x O hl hm hr => ?_)
  subst hl
  have O : OK x "DowryBoxes" cX0_box 3 := O
  have h : wp_X0_box this p1 w Q := h
  unfold wp_X0_box at h
  show J x (TI x Q) w 0 0 0 [(0, .ref (adG (xG x) (this))), (1, vI (p1))] []
  refine j_iload_n O 1 1 dX0_box_0 rfl rfl ?_
  refine j_iconst O dX0_box_1 ?_
  refine j_bipush (m := 20) O dX0_box_2 bi_20 ?_
  refine fin_I O ⟨Nat.zero_le _, Nat.zero_le _⟩ (run_S (As := [vI (p1), vI (0), vI (20)]) (st := []) O (mt_X0_in (xl x) (xG x) _ _ _ _ _ h) q465 q466 q121 q467 hy_X0_in.2 (Nat.le_of_ble_eq_true rfl) (Nat.le_of_ble_eq_true rfl) ⟨Nat.zero_le _, Nat.zero_le _⟩ rfl (Nat.le_of_ble_eq_true rfl) dX0_box_4) (fun r1 w2 h => ?_)
  obtain ⟨c3, h⟩ := h
  refine j_if_ne O (tgt := 16) dX0_box_7 (by decide) c3 h (fun h => ?_) (fun h => ?_)
  · refine j_aload_n O 0 0 dX0_box_16 rfl rfl ?_
    refine j_getR O cfX0 2 (Nat.le_of_ble_eq_true rfl) ⟨_, rfl⟩ q360 dX0_box_17 h (fun o4 h => ?_)
    obtain ⟨k5, e_k5, g_k5⟩ := h
    subst e_k5
    have h := g_k5
    refine j_getIN O cfX1 5 (Nat.le_of_ble_eq_true rfl) (.inl rfl) (lw_n q242 rfl) dX0_box_20 h (fun v6 h => ?_)
    refine j_istore_n (L' := [(2, vI (v6)), (0, .ref (adG (xG x) (this))), (1, vI (p1))]) O 2 dX0_box_23 rfl (by rw [hm]; decide) rfl ?_
    refine j_iload_n O 0 2 dX0_box_24 rfl rfl ?_
    refine j_bipush (m := 6) O dX0_box_25 bi_6 ?_
    obtain ⟨c7, h⟩ := h
    refine j_icmp_ne O (tgt := 37) dX0_box_27 (by decide) c7 (by decide) h (fun h => ?_) (fun h => ?_)
    · refine j_aload_n O 1 0 dX0_box_37 rfl rfl ?_
      obtain ⟨e10, h⟩ := h
      refine fin_R O ⟨Nat.zero_le _, Nat.zero_le _⟩ (run_V (As := []) (st := []) O (mt_X0_table (xl x) (xG x) _ _ _ h) e10 cfX0.1 q574 q576 qs5 q121 q577 hy_X0_table (Nat.le_of_ble_eq_true rfl) (Nat.le_of_ble_eq_true rfl) ⟨Nat.zero_le _, Nat.zero_le _⟩ rfl (Nat.le_of_ble_eq_true rfl) dX0_box_38) (fun o8 w9 h => ?_)
      refine j_astoreq_n (L' := [(3, vR (xG x) (o8)), (2, vI (v6)), (0, .ref (adG (xG x) (this))), (1, vI (p1))]) O 3 dX0_box_41 rfl (by rw [hm]; decide) rfl ?_
      refine j_iconst O dX0_box_42 ?_
      refine j_istore (L' := [(4, vI (0)), (3, vR (xG x) (o8)), (2, vI (v6)), (0, .ref (adG (xG x) (this))), (1, vI (p1))]) O dX0_box_43 (by rw [hm]; decide) (by cases o8 <;> rfl) ?_
      refine (J.sub [3, 4, 2, 1, 0] rfl <| wk_X0_box_45 O hr hm _ _ _ _ _ (fun w11 h => ?_) FU _ _ h)
      refine j_aloadq_n O 3 3 dX0_box_71 rfl rfl ?_
      obtain ⟨k12, e_k12, g_k12⟩ := h
      subst e_k12
      have h := g_k12
      refine j_getAN O cfX2 1 (Nat.le_of_ble_eq_true rfl) ⟨_, rfl⟩ (lw_n q180 rfl) dX0_box_72 h (fun k13 h => ?_)
      refine j_iload_n O 2 2 dX0_box_75 rfl rfl ?_
      refine j_iconst O dX0_box_76 ?_
      refine j_iast O dX0_box_77 h (fun w14 h => ?_)
      refine j_aloadq_n O 3 3 dX0_box_78 rfl rfl ?_
      refine j_getAN O cfX2 2 (Nat.le_of_ble_eq_true rfl) ⟨_, rfl⟩ (lw_n q182 rfl) dX0_box_79 h (fun k15 h => ?_)
      refine j_iload_n O 2 2 dX0_box_82 rfl rfl ?_
      refine j_iload_n O 1 1 dX0_box_83 rfl rfl ?_
      refine j_iast O dX0_box_84 h (fun w16 h => ?_)
      refine j_aloadq_n O 3 3 dX0_box_85 rfl rfl ?_
      refine j_getAN O cfX2 3 (Nat.le_of_ble_eq_true rfl) ⟨_, rfl⟩ (lw_n q184 rfl) dX0_box_86 h (fun k17 h => ?_)
      refine j_iload_n O 2 2 dX0_box_89 rfl rfl ?_
      refine j_iconst O dX0_box_90 ?_
      refine j_iast O dX0_box_91 h (fun w18 h => ?_)
      refine j_aloadq_n O 3 3 dX0_box_92 rfl rfl ?_
      refine j_getAN O cfX2 4 (Nat.le_of_ble_eq_true rfl) ⟨_, rfl⟩ (lw_n q186 rfl) dX0_box_93 h (fun k19 h => ?_)
      refine j_iload_n O 2 2 dX0_box_96 rfl rfl ?_
      refine j_iconst O dX0_box_97 ?_
      refine j_iast O dX0_box_98 h (fun w20 h => ?_)
      refine j_aload_n O 0 0 dX0_box_99 rfl rfl ?_
      refine j_getR O cfX0 2 (Nat.le_of_ble_eq_true rfl) ⟨_, rfl⟩ q360 dX0_box_100 h (fun o21 h => ?_)
      refine j_dup O dX0_box_103 (vR_cat _ _) ?_
      obtain ⟨k22, e_k22, g_k22⟩ := h
      subst e_k22
      have h := g_k22
      refine j_getIN O cfX1 5 (Nat.le_of_ble_eq_true rfl) (.inl rfl) (lw_n q242 rfl) dX0_box_104 h (fun v23 h => ?_)
      refine j_iconst O dX0_box_107 ?_
      refine j_iadd O dX0_box_108 ?_
      refine j_putIN O cfX1 5 (Nat.le_of_ble_eq_true rfl) rfl (lw_n q242 rfl) rfl dX0_box_109 h (fun w24 h => ?_)
      refine j_aload_n O 0 0 dX0_box_112 rfl rfl ?_
      refine j_iload_n O 2 2 dX0_box_113 rfl rfl ?_
      obtain ⟨e27, h⟩ := h
      refine fin_I O ⟨Nat.zero_le _, Nat.zero_le _⟩ (run_V (As := [vI (v6)]) (st := []) O (mt_X0_settled (xl x) (xG x) _ _ _ _ h) e27 cfX0.1 q566 q568 qs4 q121 q569 hy_X0_settled (Nat.le_of_ble_eq_true rfl) (Nat.le_of_ble_eq_true rfl) ⟨Nat.zero_le _, Nat.zero_le _⟩ rfl (Nat.le_of_ble_eq_true rfl) dX0_box_114) (fun r25 w26 h => ?_)
      exact j_iret O hr dX0_box_117 h
    · refine j_aload_n O 1 0 dX0_box_30 rfl rfl ?_
      refine j_bipush (m := (-5)) O dX0_box_31 bi_m5 ?_
      obtain ⟨e30, h⟩ := h
      refine fin_I O ⟨Nat.zero_le _, Nat.zero_le _⟩ (run_V (As := [vI (((-5)))]) (st := []) O (mt_X0_refuse (xl x) (xG x) _ _ _ _ h) e30 cfX0.1 q468 q470 qs1 q121 q471 hy_X0_refuse (Nat.le_of_ble_eq_true rfl) (Nat.le_of_ble_eq_true rfl) ⟨Nat.zero_le _, Nat.zero_le _⟩ rfl (Nat.le_of_ble_eq_true rfl) dX0_box_33) (fun r28 w29 h => ?_)
      exact j_iret O hr dX0_box_36 h
  · refine j_aload_n O 0 0 dX0_box_10 rfl rfl ?_
    refine j_iconst O dX0_box_11 ?_
    obtain ⟨e33, h⟩ := h
    refine fin_I O ⟨Nat.zero_le _, Nat.zero_le _⟩ (run_V (As := [vI (((-1)))]) (st := []) O (mt_X0_refuse (xl x) (xG x) _ _ _ _ h) e33 cfX0.1 q468 q470 qs1 q121 q471 hy_X0_refuse (Nat.le_of_ble_eq_true rfl) (Nat.le_of_ble_eq_true rfl) ⟨Nat.zero_le _, Nat.zero_le _⟩ rfl (Nat.le_of_ble_eq_true rfl) dX0_box_12) (fun r31 w32 h => ?_)
    exact j_iret O hr dX0_box_15 h
theorem hy_J2_clear : (yJ2_clear.cls = "java/util/ArrayList" ∧ yJ2_clear.cls ≠ "java/lang/invoke/MethodHandle" ∧ yJ2_clear.cls ≠ "java/lang/invoke/VarHandle" ∧ (parseMethodDescriptor yJ2_clear.desc).map (fun d => d.parameters.length) = some 0) := by decide +kernel
theorem wk_J2_clear_27 {x : Cx} (O : OK x "java/util/ArrayList" cJ2_clear 1) (hr : (xM x).sig.returnType = none) (hm : xn x = 4) {Q : Wd → Prop} (x1 : Nat) (x2 : Int) : ∀ (n : Nat) (x3 : Int) (w : Wd), wp_J2_clear_27 Q x1 x2 n x3 w → J x (TV x Q) w 0 0 27 [(1, .ref (adG (xG x) (x1))), (2, vI (x2)), (3, vI (x3))] [] := by
  intro n
  induction n with
  | zero => intro x3 w h; exact False.elim h
  | succ n ih =>
    intro x3 w h
    rw [wp_J2_clear_27] at h
    refine j_iload_n O 2 3 dJ2_clear_27 rfl rfl ?_
    refine j_iload_n O 1 2 dJ2_clear_28 rfl rfl ?_
    obtain ⟨c1, h⟩ := h
    obtain ⟨c2, h⟩ := h
    refine j_icmp_ge O (tgt := 42) dJ2_clear_29 (by decide) c1 c2 h (fun h => ?_) (fun h => ?_)
    · exact j_vret O hr dJ2_clear_42 h
    · refine j_aload_n O 0 1 dJ2_clear_32 rfl rfl ?_
      refine j_iload_n O 2 3 dJ2_clear_33 rfl rfl ?_
      refine j_null O dJ2_clear_34 ?_
      refine j_aast (r := none) O (by decide) dJ2_clear_35 h (fun w3 h => ?_)
      refine j_iinc (L' := [(3, vI (x3 + 1)), (1, .ref (adG (xG x) (x1))), (2, vI (x2))]) O 2 dJ2_clear_36 rfl (by rw [hm]; decide) rfl ?_
      refine j_goto O (tgt := 27) dJ2_clear_39 (by decide) ?_
      exact (J.sub [1, 2, 0] rfl <| ih _ _ h)
theorem mt_J2_clear (l : Launch) (G : GW) (this : Nat) (w : Wd) (Q : Wd → Prop) (h : wp_J2_clear this w Q) : MV l G yJ2_clear cJ2_clear 4 1 0 0 [.ref (adG G (this))] w Q := by
  refine met_V (fun G => [.ref (adG G (this))]) (by decide) (fun G => Nat.le_of_ble_eq_true rfl) (fun x O hl hm hr _ => ?_)
  subst hl
  have O : OK x "java/util/ArrayList" cJ2_clear 1 := O
  have h : wp_J2_clear this w Q := h
  unfold wp_J2_clear at h
  show J x (TV x Q) w 0 0 0 [(0, .ref (adG (xG x) (this)))] []
  refine j_aload_n O 0 0 dJ2_clear_0 rfl rfl ?_
  refine j_dup O dJ2_clear_1 rfl ?_
  refine j_getIs O cfJ2 0 (Nat.le_of_ble_eq_true rfl) rfl q222 q223 dJ2_clear_2 h (fun v1 h => ?_)
  refine j_iconst O dJ2_clear_5 ?_
  refine j_iadd O dJ2_clear_6 ?_
  refine j_putIs O cfJ2 0 (Nat.le_of_ble_eq_true rfl) rfl q222 q223 rfl dJ2_clear_7 h (fun w2 h => ?_)
  refine j_aload_n O 0 0 dJ2_clear_10 rfl rfl ?_
  refine j_getA O cfJ2 1 (Nat.le_of_ble_eq_true rfl) ⟨_, rfl⟩ q219 dJ2_clear_11 h (fun k3 h => ?_)
  refine j_astore_n (L' := [(1, .ref (adG (xG x) (k3))), (0, .ref (adG (xG x) (this)))]) O 1 dJ2_clear_14 rfl (by rw [hm]; decide) rfl ?_
  refine j_aload_n O 1 0 dJ2_clear_15 rfl rfl ?_
  refine j_getI O cfJ2 2 (Nat.le_of_ble_eq_true rfl) (.inl rfl) q220 dJ2_clear_16 h (fun v4 h => ?_)
  refine j_istore_n (L' := [(2, vI (v4)), (1, .ref (adG (xG x) (k3))), (0, .ref (adG (xG x) (this)))]) O 2 dJ2_clear_19 rfl (by rw [hm]; decide) rfl ?_
  refine j_aload_n O 2 0 dJ2_clear_20 rfl rfl ?_
  refine j_iconst O dJ2_clear_21 ?_
  refine j_dup_x1 O dJ2_clear_22 rfl rfl ?_
  refine j_putI O cfJ2 2 (Nat.le_of_ble_eq_true rfl) rfl q220 rfl dJ2_clear_23 h (fun w5 h => ?_)
  refine j_istore_n (L' := [(3, vI (0)), (2, vI (v4)), (1, .ref (adG (xG x) (k3))), (0, .ref (adG (xG x) (this)))]) O 3 dJ2_clear_26 rfl (by rw [hm]; decide) rfl ?_
  exact (J.sub [2, 1, 0] rfl <| wk_J2_clear_27 O hr hm  _ _  FU _ _ h)
theorem hy_J2_toArray : (yJ2_toArray.cls = "java/util/ArrayList" ∧ yJ2_toArray.cls ≠ "java/lang/invoke/MethodHandle" ∧ yJ2_toArray.cls ≠ "java/lang/invoke/VarHandle" ∧ (parseMethodDescriptor yJ2_toArray.desc).map (fun d => d.parameters.length) = some 0) := by decide +kernel
theorem mt_J2_toArray (l : Launch) (G : GW) (this : Nat) (bc bs : Nat) (w : Wd) (Q : Option Nat → Wd → Prop) (h : wp_J2_toArray this bc bs w Q) : MR l G yJ2_toArray cJ2_toArray 1 (.array (.object "java/lang/Object")) 3 bc bs [.ref (adG G (this))] w Q := by
  refine met_R (fun G => [.ref (adG G (this))]) (by decide) (fun G => Nat.le_of_ble_eq_true rfl) (fun x O hl hm hr => ?_)
  subst hl
  have O : OK x "java/util/ArrayList" cJ2_toArray 3 := O
  have h : wp_J2_toArray this bc bs w Q := h
  unfold wp_J2_toArray at h
  show J x (TR x Q) w bc bs 0 [(0, .ref (adG (xG x) (this)))] []
  refine j_aload_n O 0 0 dJ2_toArray_0 rfl rfl ?_
  refine j_getA O cfJ2 1 (Nat.le_of_ble_eq_true rfl) ⟨_, rfl⟩ q219 dJ2_toArray_1 h (fun k1 h => ?_)
  refine j_aload_n O 0 0 dJ2_toArray_4 rfl rfl ?_
  refine j_getI O cfJ2 2 (Nat.le_of_ble_eq_true rfl) (.inl rfl) q220 dJ2_toArray_5 h (fun v2 h => ?_)
  obtain ⟨mc5, ms6, hb7, h⟩ := h
  refine fin_R O hb7 (run_S (As := [vR (xG x) ((some k1)), vI (v2)]) (st := []) O (mt_J13_copyOf (xl x) (xG x) _ _ _ _ _ _ h) q505 q506 q152 q507 hy_J13_copyOf.2 (Nat.le_of_ble_eq_true rfl) (Nat.le_of_ble_eq_true rfl) hb7 rfl (Nat.le_of_ble_eq_true rfl) dJ2_toArray_8) (fun o3 w4 h => ?_)
  exact j_aret (v := o3) O hr (.inr ⟨_, rfl⟩) dJ2_toArray_11 h
theorem hy_J2_addAll : (yJ2_addAll.cls = "java/util/ArrayList" ∧ yJ2_addAll.cls ≠ "java/lang/invoke/MethodHandle" ∧ yJ2_addAll.cls ≠ "java/lang/invoke/VarHandle" ∧ (parseMethodDescriptor yJ2_addAll.desc).map (fun d => d.parameters.length) = some 1) := by decide +kernel
theorem wk_J2_addAll_56 {x : Cx} (O : OK x "java/util/ArrayList" cJ2_addAll 4) (hr : (xM x).sig.returnType = some .boolean) (hm : xn x = 6) {Q : Int → Wd → Prop} (this : Nat) (x2 : Option Nat) (x3 : Int) (x4 : Option Nat) (x5 : Int) (bc bs : Nat) (w : Wd) (h : wp_J2_addAll_56 Q this x2 x3 x4 x5 bc bs w) : J x (TI x Q) w bc bs 56 [(0, .ref (adG (xG x) (this))), (2, vR (xG x) (x2)), (3, vI (x3)), (4, vR (xG x) (x4)), (5, vI (x5))] [] := by
  unfold wp_J2_addAll_56 at h
  refine j_aloadq_n O 1 2 dJ2_addAll_56 rfl rfl ?_
  refine j_iconst O dJ2_addAll_57 ?_
  refine j_aloadq O 3 dJ2_addAll_58 rfl ?_
  refine j_iload O 4 dJ2_addAll_60 rfl ?_
  refine j_iload_n O 2 3 dJ2_addAll_62 rfl rfl ?_
  obtain ⟨k1, e_k1, g_k1⟩ := h
  subst e_k1
  have h := g_k1
  obtain ⟨k2, e_k2, g_k2⟩ := h
  subst e_k2
  have h := g_k2
  refine j_copyQ O q557 (Nat.le_of_ble_eq_true rfl) (Nat.le_of_ble_eq_true rfl) dJ2_addAll_63 h (fun w3 h => ?_)
  refine j_aload_n O 0 0 dJ2_addAll_66 rfl rfl ?_
  refine j_iload O 4 dJ2_addAll_67 rfl ?_
  refine j_iload_n O 2 3 dJ2_addAll_69 rfl rfl ?_
  refine j_iadd O dJ2_addAll_70 ?_
  refine j_putI O cfJ2 2 (Nat.le_of_ble_eq_true rfl) rfl q220 rfl dJ2_addAll_71 h (fun w4 h => ?_)
  refine j_iconst O dJ2_addAll_74 ?_
  exact j_zret O hr dJ2_addAll_75 h
theorem mt_J2_addAll (l : Launch) (G : GW) (this : Nat) (p1 : Option Nat) (bc bs : Nat) (w : Wd) (Q : Int → Wd → Prop) (h : wp_J2_addAll this p1 bc bs w Q) : MI l G yJ2_addAll cJ2_addAll 6 (.boolean) 4 bc bs [.ref (adG G (this)), vR G (p1)] w Q := by
  refine met_I (fun G => [.ref (adG G (this)), vR G (p1)]) (by decide) (fun G => by cases p1 <;> exact Nat.le_of_ble_eq_true rfl) (fun x O hl hm hr => ?_)
  subst hl
  have O : OK x "java/util/ArrayList" cJ2_addAll 4 := O
  have h : wp_J2_addAll this p1 bc bs w Q := h
  unfold wp_J2_addAll at h
  rw [show lv_args 0 [.ref (adG (xG x) (this)), vR (xG x) (p1)] = [(0, .ref (adG (xG x) (this))), (1, vR (xG x) (p1))] from by cases p1 <;> rfl]
  show J x (TI x Q) w bc bs 0 [(0, .ref (adG (xG x) (this))), (1, vR (xG x) (p1))] []
  refine j_aloadq_n O 1 1 dJ2_addAll_0 rfl rfl ?_
  obtain ⟨k1, e_k1, g_k1⟩ := h
  subst e_k1
  have h := g_k1
  obtain ⟨e7, mc4, ms5, hb6, h⟩ := h
  refine j_toArray O (mt_J2_toArray (xl x) (xG x) _ _ _ _ _ h) e7 q496 q500 q502 q126 q504 (Nat.le_of_ble_eq_true rfl) (Nat.le_of_ble_eq_true rfl) hb6 (Nat.le_of_ble_eq_true rfl) dJ2_addAll_1 (fun o2 w3 h => ?_)
  refine j_astoreq_n (L' := [(2, vR (xG x) (o2)), (0, .ref (adG (xG x) (this))), (1, vR (xG x) (some k1))]) O 2 dJ2_addAll_6 rfl (by rw [hm]; decide) rfl ?_
  refine j_aload_n O 1 0 dJ2_addAll_7 rfl rfl ?_
  refine j_dup O dJ2_addAll_8 rfl ?_
  refine j_getIs O cfJ2 0 (Nat.le_of_ble_eq_true rfl) rfl q222 q223 dJ2_addAll_9 h (fun v8 h => ?_)
  refine j_iconst O dJ2_addAll_12 ?_
  refine j_iadd O dJ2_addAll_13 ?_
  refine j_putIs O cfJ2 0 (Nat.le_of_ble_eq_true rfl) rfl q222 q223 rfl dJ2_addAll_14 h (fun w9 h => ?_)
  refine j_aloadq_n O 0 2 dJ2_addAll_17 rfl rfl ?_
  obtain ⟨k10, e_k10, g_k10⟩ := h
  subst e_k10
  have h := g_k10
  refine j_alen O dJ2_addAll_18 h (fun v11 h => ?_)
  refine j_istore_n (L' := [(3, vI (v11)), (2, vR (xG x) (some k10)), (0, .ref (adG (xG x) (this))), (1, vR (xG x) (some k1))]) O 3 dJ2_addAll_19 rfl (by rw [hm]; decide) rfl ?_
  refine j_iload_n O 0 3 dJ2_addAll_20 rfl rfl ?_
  obtain ⟨c12, h⟩ := h
  refine j_if_ne O (tgt := 26) dJ2_addAll_21 (by decide) c12 h (fun h => ?_) (fun h => ?_)
  · refine j_iload_n O 0 3 dJ2_addAll_26 rfl rfl ?_
    refine j_aload_n O 2 0 dJ2_addAll_27 rfl rfl ?_
    refine j_getA O cfJ2 1 (Nat.le_of_ble_eq_true rfl) ⟨_, rfl⟩ q219 dJ2_addAll_28 h (fun k13 h => ?_)
    refine j_dup O dJ2_addAll_31 rfl ?_
    refine j_astore (L' := [(4, .ref (adG (xG x) (k13))), (3, vI (v11)), (2, vR (xG x) (some k10)), (0, .ref (adG (xG x) (this))), (1, vR (xG x) (some k1))]) O dJ2_addAll_32 (by rw [hm]; decide) rfl ?_
    refine j_alen O dJ2_addAll_34 h (fun v14 h => ?_)
    refine j_aload_n O 3 0 dJ2_addAll_35 rfl rfl ?_
    refine j_getI O cfJ2 2 (Nat.le_of_ble_eq_true rfl) (.inl rfl) q220 dJ2_addAll_36 h (fun v15 h => ?_)
    refine j_dup O dJ2_addAll_39 rfl ?_
    refine j_istore (L' := [(5, vI (v15)), (4, .ref (adG (xG x) (k13))), (3, vI (v11)), (2, vR (xG x) (some k10)), (0, .ref (adG (xG x) (this))), (1, vR (xG x) (some k1))]) O dJ2_addAll_40 (by rw [hm]; decide) rfl ?_
    refine j_isub O dJ2_addAll_42 ?_
    obtain ⟨c16, h⟩ := h
    obtain ⟨c17, h⟩ := h
    refine j_icmp_le O (tgt := 56) dJ2_addAll_43 (by decide) c16 c17 h (fun h => ?_) (fun h => ?_)
    · exact (J.sub [4, 3, 2, 1, 0] rfl <| wk_J2_addAll_56 O hr hm  _ _ _ _ _  _ _ _ h)
    · refine j_aload_n O 4 0 dJ2_addAll_46 rfl rfl ?_
      refine j_iload O 0 dJ2_addAll_47 rfl ?_
      refine j_iload_n O 2 3 dJ2_addAll_49 rfl rfl ?_
      refine j_iadd O dJ2_addAll_50 ?_
      obtain ⟨e22, h⟩ := h
      obtain ⟨mc20, ms21, hb23, h⟩ := h
      refine fin_R O hb23 (run_V (As := [vI ((v15 + v11))]) (st := []) O (mt_J2_grow (xl x) (xG x) _ _ _ _ _ _ h) e22 cfJ2.1 q540 q542 qs2 q126 q543 hy_J2_grow (Nat.le_of_ble_eq_true rfl) (Nat.le_of_ble_eq_true rfl) hb23 rfl (Nat.le_of_ble_eq_true rfl) dJ2_addAll_51) (fun o18 w19 h => ?_)
      refine j_astoreq (L' := [(4, vR (xG x) (o18)), (5, vI (v15)), (3, vI (v11)), (2, vR (xG x) (some k10)), (0, .ref (adG (xG x) (this))), (1, vR (xG x) (some k1))]) O dJ2_addAll_54 (by rw [hm]; decide) rfl ?_
      exact (J.sub [4, 3, 2, 0, 1] rfl <| wk_J2_addAll_56 O hr hm  _ _ _ _ _  _ _ _ h)
  · refine j_iconst O dJ2_addAll_24 ?_
    exact j_zret O hr dJ2_addAll_25 h
theorem hy_X1_takes : (yX1_takes.cls = "DowryBoxes$State" ∧ yX1_takes.cls ≠ "java/lang/invoke/MethodHandle" ∧ yX1_takes.cls ≠ "java/lang/invoke/VarHandle" ∧ (parseMethodDescriptor yX1_takes.desc).map (fun d => d.parameters.length) = some 1) := by decide +kernel
theorem mt_X1_takes (l : Launch) (G : GW) (this : Nat) (p1 : Option Nat) (bc bs : Nat) (w : Wd) (Q : Wd → Prop) (h : wp_X1_takes this p1 bc bs w Q) : MV l G yX1_takes cX1_takes 2 5 bc bs [.ref (adG G (this)), vR G (p1)] w Q := by
  refine met_V (fun G => [.ref (adG G (this)), vR G (p1)]) (by decide) (fun G => by cases p1 <;> exact Nat.le_of_ble_eq_true rfl) (fun x O hl hm hr _ => ?_)
  subst hl
  have O : OK x "DowryBoxes$State" cX1_takes 5 := O
  have h : wp_X1_takes this p1 bc bs w Q := h
  unfold wp_X1_takes at h
  rw [show lv_args 0 [.ref (adG (xG x) (this)), vR (xG x) (p1)] = [(0, .ref (adG (xG x) (this))), (1, vR (xG x) (p1))] from by cases p1 <;> rfl]
  show J x (TV x Q) w bc bs 0 [(0, .ref (adG (xG x) (this))), (1, vR (xG x) (p1))] []
  refine j_aload_n O 0 0 dX1_takes_0 rfl rfl ?_
  refine j_getR O cfX1 0 (Nat.le_of_ble_eq_true rfl) ⟨_, rfl⟩ q231 dX1_takes_1 h (fun o1 h => ?_)
  refine j_aloadq_n O 1 1 dX1_takes_4 rfl rfl ?_
  obtain ⟨k2, e_k2, g_k2⟩ := h
  subst e_k2
  have h := g_k2
  refine j_getR O cfX1 0 (Nat.le_of_ble_eq_true rfl) ⟨_, rfl⟩ q231 dX1_takes_5 h (fun o3 h => ?_)
  obtain ⟨k4, e_k4, g_k4⟩ := h
  subst e_k4
  have h := g_k4
  obtain ⟨e6, h⟩ := h
  refine fin_V O ⟨Nat.zero_le _, Nat.zero_le _⟩ (run_V (As := [vR (xG x) (o3)]) (st := []) O (mt_X2_takes (xl x) (xG x) _ _ _ _ h) e6 cfX2.1 q476 q477 q478 q123 q479 hy_X2_takes (Nat.le_of_ble_eq_true rfl) (Nat.le_of_ble_eq_true rfl) ⟨Nat.zero_le _, Nat.zero_le _⟩ rfl (Nat.le_of_ble_eq_true rfl) dX1_takes_8) (fun w5 h => ?_)
  refine j_aload_n O 0 0 dX1_takes_11 rfl rfl ?_
  refine j_getA O cfX1 1 (Nat.le_of_ble_eq_true rfl) ⟨_, rfl⟩ q233 dX1_takes_12 h (fun k7 h => ?_)
  refine j_aloadq_n O 1 1 dX1_takes_15 rfl rfl ?_
  refine j_getA O cfX1 1 (Nat.le_of_ble_eq_true rfl) ⟨_, rfl⟩ q233 dX1_takes_16 h (fun k8 h => ?_)
  refine fin_V O ⟨Nat.zero_le _, Nat.zero_le _⟩ (run_SN (As := [vR (xG x) ((some k7)), vR (xG x) ((some k8))]) (st := []) O (mt_X2_rows (xl x) (xG x) _ _ _ _ h) (lw_n q486 rfl) q481 q123 q482 hy_X2_rows.2 (Nat.le_of_ble_eq_true rfl) (Nat.le_of_ble_eq_true rfl) ⟨Nat.zero_le _, Nat.zero_le _⟩ rfl (Nat.le_of_ble_eq_true rfl) dX1_takes_19) (fun w9 h => ?_)
  refine j_aload_n O 0 0 dX1_takes_22 rfl rfl ?_
  refine j_getA O cfX1 2 (Nat.le_of_ble_eq_true rfl) ⟨_, rfl⟩ q235 dX1_takes_23 h (fun k10 h => ?_)
  refine j_aloadq_n O 1 1 dX1_takes_26 rfl rfl ?_
  refine j_getA O cfX1 2 (Nat.le_of_ble_eq_true rfl) ⟨_, rfl⟩ q235 dX1_takes_27 h (fun k11 h => ?_)
  refine fin_V O ⟨Nat.zero_le _, Nat.zero_le _⟩ (run_SN (As := [vR (xG x) ((some k10)), vR (xG x) ((some k11))]) (st := []) O (mt_X2_rows (xl x) (xG x) _ _ _ _ h) (lw_n q486 rfl) q481 q123 q482 hy_X2_rows.2 (Nat.le_of_ble_eq_true rfl) (Nat.le_of_ble_eq_true rfl) ⟨Nat.zero_le _, Nat.zero_le _⟩ rfl (Nat.le_of_ble_eq_true rfl) dX1_takes_30) (fun w12 h => ?_)
  refine j_aload_n O 0 0 dX1_takes_33 rfl rfl ?_
  refine j_getA O cfX1 3 (Nat.le_of_ble_eq_true rfl) ⟨_, rfl⟩ q237 dX1_takes_34 h (fun k13 h => ?_)
  refine j_aloadq_n O 1 1 dX1_takes_37 rfl rfl ?_
  refine j_getA O cfX1 3 (Nat.le_of_ble_eq_true rfl) ⟨_, rfl⟩ q237 dX1_takes_38 h (fun k14 h => ?_)
  refine fin_V O ⟨Nat.zero_le _, Nat.zero_le _⟩ (run_SN (As := [vR (xG x) ((some k13)), vR (xG x) ((some k14))]) (st := []) O (mt_X2_rows (xl x) (xG x) _ _ _ _ h) (lw_n q486 rfl) q481 q123 q482 hy_X2_rows.2 (Nat.le_of_ble_eq_true rfl) (Nat.le_of_ble_eq_true rfl) ⟨Nat.zero_le _, Nat.zero_le _⟩ rfl (Nat.le_of_ble_eq_true rfl) dX1_takes_41) (fun w15 h => ?_)
  refine j_aload_n O 0 0 dX1_takes_44 rfl rfl ?_
  refine j_getR O cfX1 4 (Nat.le_of_ble_eq_true rfl) ⟨_, rfl⟩ q239 dX1_takes_45 h (fun o16 h => ?_)
  obtain ⟨k17, e_k17, g_k17⟩ := h
  subst e_k17
  have h := g_k17
  obtain ⟨e19, h⟩ := h
  refine fin_V O ⟨Nat.zero_le _, Nat.zero_le _⟩ (run_V (As := []) (st := []) O (mt_J2_clear (xl x) (xG x) _ _ _ h) e19 cfJ2.1 q487 q488 q489 q126 q490 hy_J2_clear (Nat.le_of_ble_eq_true rfl) (Nat.le_of_ble_eq_true rfl) ⟨Nat.zero_le _, Nat.zero_le _⟩ rfl (Nat.le_of_ble_eq_true rfl) dX1_takes_48) (fun w18 h => ?_)
  refine j_aload_n O 0 0 dX1_takes_51 rfl rfl ?_
  refine j_getR O cfX1 4 (Nat.le_of_ble_eq_true rfl) ⟨_, rfl⟩ q239 dX1_takes_52 h (fun o20 h => ?_)
  refine j_aloadq_n O 1 1 dX1_takes_55 rfl rfl ?_
  refine j_getR O cfX1 4 (Nat.le_of_ble_eq_true rfl) ⟨_, rfl⟩ q239 dX1_takes_56 h (fun o21 h => ?_)
  obtain ⟨k22, e_k22, g_k22⟩ := h
  subst e_k22
  have h := g_k22
  obtain ⟨e27, h⟩ := h
  obtain ⟨mc25, ms26, hb28, h⟩ := h
  refine fin_I O hb28 (run_V (As := [vR (xG x) (o21)]) (st := []) O (mt_J2_addAll (xl x) (xG x) _ _ _ _ _ _ h) e27 cfJ2.1 q491 q492 q493 q126 q494 hy_J2_addAll (Nat.le_of_ble_eq_true rfl) (Nat.le_of_ble_eq_true rfl) hb28 rfl (Nat.le_of_ble_eq_true rfl) dX1_takes_59) (fun r23 w24 h => ?_)
  refine j_pop O dX1_takes_62 rfl ?_
  refine j_aload_n O 0 0 dX1_takes_63 rfl rfl ?_
  refine j_aloadq_n O 1 1 dX1_takes_64 rfl rfl ?_
  refine j_getI O cfX1 5 (Nat.le_of_ble_eq_true rfl) (.inl rfl) q241 dX1_takes_65 h (fun v29 h => ?_)
  refine j_putI O cfX1 5 (Nat.le_of_ble_eq_true rfl) rfl q241 rfl dX1_takes_68 h (fun w30 h => ?_)
  refine j_aload_n O 0 0 dX1_takes_71 rfl rfl ?_
  refine j_aloadq_n O 1 1 dX1_takes_72 rfl rfl ?_
  refine j_getI O cfX1 6 (Nat.le_of_ble_eq_true rfl) (.inl rfl) q243 dX1_takes_73 h (fun v31 h => ?_)
  refine j_putI O cfX1 6 (Nat.le_of_ble_eq_true rfl) rfl q243 rfl dX1_takes_76 h (fun w32 h => ?_)
  refine j_aload_n O 0 0 dX1_takes_79 rfl rfl ?_
  refine j_aloadq_n O 1 1 dX1_takes_80 rfl rfl ?_
  refine j_getI O cfX1 7 (Nat.le_of_ble_eq_true rfl) (.inl rfl) q245 dX1_takes_81 h (fun v33 h => ?_)
  refine j_putI O cfX1 7 (Nat.le_of_ble_eq_true rfl) rfl q245 rfl dX1_takes_84 h (fun w34 h => ?_)
  refine j_aload_n O 0 0 dX1_takes_87 rfl rfl ?_
  refine j_aloadq_n O 1 1 dX1_takes_88 rfl rfl ?_
  refine j_getI O cfX1 8 (Nat.le_of_ble_eq_true rfl) (.inl rfl) q247 dX1_takes_89 h (fun v35 h => ?_)
  refine j_putI O cfX1 8 (Nat.le_of_ble_eq_true rfl) rfl q247 rfl dX1_takes_92 h (fun w36 h => ?_)
  refine j_aload_n O 0 0 dX1_takes_95 rfl rfl ?_
  refine j_aloadq_n O 1 1 dX1_takes_96 rfl rfl ?_
  refine j_getI O cfX1 9 (Nat.le_of_ble_eq_true rfl) (.inl rfl) q249 dX1_takes_97 h (fun v37 h => ?_)
  refine j_putI O cfX1 9 (Nat.le_of_ble_eq_true rfl) rfl q249 rfl dX1_takes_100 h (fun w38 h => ?_)
  refine j_aload_n O 0 0 dX1_takes_103 rfl rfl ?_
  refine j_aloadq_n O 1 1 dX1_takes_104 rfl rfl ?_
  refine j_getI O cfX1 10 (Nat.le_of_ble_eq_true rfl) (.inl rfl) q251 dX1_takes_105 h (fun v39 h => ?_)
  refine j_putI O cfX1 10 (Nat.le_of_ble_eq_true rfl) rfl q251 rfl dX1_takes_108 h (fun w40 h => ?_)
  exact j_vret O hr dX1_takes_111 h
theorem hy_X0_back : (yX0_back.cls = "DowryBoxes" ∧ yX0_back.cls ≠ "java/lang/invoke/MethodHandle" ∧ yX0_back.cls ≠ "java/lang/invoke/VarHandle" ∧ (parseMethodDescriptor yX0_back.desc).map (fun d => d.parameters.length) = some 1) := by decide +kernel
theorem mt_X0_back (l : Launch) (G : GW) (this : Nat) (p1 : Int) (bc bs : Nat) (w : Wd) (Q : Int → Wd → Prop) (h : wp_X0_back this p1 bc bs w Q) : MI l G yX0_back cX0_back 2 (.int) 6 bc bs [.ref (adG G (this)), vI (p1)] w Q := by
  refine met_I (fun G => [.ref (adG G (this)), vI (p1)]) (by decide) (fun G => Nat.le_of_ble_eq_true rfl) (fun x O hl hm hr => ?_)
  subst hl
  have O : OK x "DowryBoxes" cX0_back 6 := O
  have h : wp_X0_back this p1 bc bs w Q := h
  unfold wp_X0_back at h
  show J x (TI x Q) w bc bs 0 [(0, .ref (adG (xG x) (this))), (1, vI (p1))] []
  refine j_iload_n O 1 1 dX0_back_0 rfl rfl ?_
  refine j_iconst O dX0_back_1 ?_
  refine j_iconst O dX0_back_2 ?_
  refine fin_I O ⟨Nat.zero_le _, Nat.zero_le _⟩ (run_S (As := [vI (p1), vI (0), vI (1)]) (st := []) O (mt_X0_in (xl x) (xG x) _ _ _ _ _ h) q465 q466 q121 q467 hy_X0_in.2 (Nat.le_of_ble_eq_true rfl) (Nat.le_of_ble_eq_true rfl) ⟨Nat.zero_le _, Nat.zero_le _⟩ rfl (Nat.le_of_ble_eq_true rfl) dX0_back_3) (fun r1 w2 h => ?_)
  obtain ⟨c3, h⟩ := h
  refine j_if_ne O (tgt := 15) dX0_back_6 (by decide) c3 h (fun h => ?_) (fun h => ?_)
  · refine j_aload_n O 0 0 dX0_back_15 rfl rfl ?_
    refine j_getA O cfX0 3 (Nat.le_of_ble_eq_true rfl) ⟨_, rfl⟩ q361 dX0_back_16 h (fun k4 h => ?_)
    refine j_iload_n O 1 1 dX0_back_19 rfl rfl ?_
    refine j_aald O (by decide) dX0_back_20 h (fun o5 h => ?_)
    refine j_ifnonnull O (tgt := 31) dX0_back_21 (by decide)  h (fun h => ?_) (fun h => ?_)
    · refine j_aload_n O 0 0 dX0_back_31 rfl rfl ?_
      refine j_getR O cfX0 2 (Nat.le_of_ble_eq_true rfl) ⟨_, rfl⟩ q360 dX0_back_32 h (fun o6 h => ?_)
      refine j_aload_n O 0 0 dX0_back_35 rfl rfl ?_
      refine j_getA O cfX0 3 (Nat.le_of_ble_eq_true rfl) ⟨_, rfl⟩ q361 dX0_back_36 h (fun k7 h => ?_)
      refine j_iload_n O 1 1 dX0_back_39 rfl rfl ?_
      refine j_aald O (by decide) dX0_back_40 h (fun o8 h => ?_)
      obtain ⟨k9, e_k9, g_k9⟩ := h
      subst e_k9
      have h := g_k9
      obtain ⟨e13, h⟩ := h
      obtain ⟨mc11, ms12, hb14, h⟩ := h
      refine fin_V O hb14 (run_V (As := [vR (xG x) (o8)]) (st := []) O (mt_X1_takes (xl x) (xG x) _ _ _ _ _ _ h) e13 cfX1.1 q472 q473 q474 q122 q475 hy_X1_takes (Nat.le_of_ble_eq_true rfl) (Nat.le_of_ble_eq_true rfl) hb14 rfl (Nat.le_of_ble_eq_true rfl) dX0_back_41) (fun w10 h => ?_)
      refine j_aload_n O 0 0 dX0_back_44 rfl rfl ?_
      refine j_iconst O dX0_back_45 ?_
      obtain ⟨e17, h⟩ := h
      refine fin_I O ⟨Nat.zero_le _, Nat.zero_le _⟩ (run_V (As := [vI (0)]) (st := []) O (mt_X0_settled (xl x) (xG x) _ _ _ _ h) e17 cfX0.1 q566 q568 qs4 q121 q569 hy_X0_settled (Nat.le_of_ble_eq_true rfl) (Nat.le_of_ble_eq_true rfl) ⟨Nat.zero_le _, Nat.zero_le _⟩ rfl (Nat.le_of_ble_eq_true rfl) dX0_back_46) (fun r15 w16 h => ?_)
      exact j_iret O hr dX0_back_49 h
    · refine j_aload_n O 0 0 dX0_back_24 rfl rfl ?_
      refine j_bipush (m := (-2)) O dX0_back_25 bi_m2 ?_
      obtain ⟨e20, h⟩ := h
      refine fin_I O ⟨Nat.zero_le _, Nat.zero_le _⟩ (run_V (As := [vI (((-2)))]) (st := []) O (mt_X0_refuse (xl x) (xG x) _ _ _ _ h) e20 cfX0.1 q468 q470 qs1 q121 q471 hy_X0_refuse (Nat.le_of_ble_eq_true rfl) (Nat.le_of_ble_eq_true rfl) ⟨Nat.zero_le _, Nat.zero_le _⟩ rfl (Nat.le_of_ble_eq_true rfl) dX0_back_27) (fun r18 w19 h => ?_)
      exact j_iret O hr dX0_back_30 h
  · refine j_aload_n O 0 0 dX0_back_9 rfl rfl ?_
    refine j_iconst O dX0_back_10 ?_
    obtain ⟨e23, h⟩ := h
    refine fin_I O ⟨Nat.zero_le _, Nat.zero_le _⟩ (run_V (As := [vI (((-1)))]) (st := []) O (mt_X0_refuse (xl x) (xG x) _ _ _ _ h) e23 cfX0.1 q468 q470 qs1 q121 q471 hy_X0_refuse (Nat.le_of_ble_eq_true rfl) (Nat.le_of_ble_eq_true rfl) ⟨Nat.zero_le _, Nat.zero_le _⟩ rfl (Nat.le_of_ble_eq_true rfl) dX0_back_11) (fun r21 w22 h => ?_)
    exact j_iret O hr dX0_back_14 h
theorem hy_X2_init : (yX2_init.cls = "DowryBoxes$Table" ∧ yX2_init.cls ≠ "java/lang/invoke/MethodHandle" ∧ yX2_init.cls ≠ "java/lang/invoke/VarHandle" ∧ (parseMethodDescriptor yX2_init.desc).map (fun d => d.parameters.length) = some 0) := by decide +kernel
theorem mt_X2_init (l : Launch) (G : GW) (this : Nat) (bc bs : Nat) (w : Wd) (Q : Wd → Prop) (h : wp_X2_init this bc bs w Q) : MV l G yX2_init cX2_init 1 1 bc bs [.ref (adG G (this))] w Q := by
  refine met_V (fun G => [.ref (adG G (this))]) (by decide) (fun G => Nat.le_of_ble_eq_true rfl) (fun x O hl hm hr hn => ?_)
  subst hl
  have O : OK x "DowryBoxes$Table" cX2_init 1 := O
  have h : wp_X2_init this bc bs w Q := h
  unfold wp_X2_init at h
  show J x (TV x Q) w bc bs 0 [(0, .ref (adG (xG x) (this)))] []
  refine j_aload_n O 0 0 dX2_init_0 rfl rfl ?_
  refine j_objInit O q176 q163 q164 (Nat.le_of_ble_eq_true rfl) (Nat.le_of_ble_eq_true rfl) dX2_init_1 ?_
  refine j_aload_n O 0 0 dX2_init_4 rfl rfl ?_
  refine j_bipush (m := 48) O dX2_init_5 bi_48 ?_
  refine j_newA O 0 (by decide) rfl q202 dX2_init_7 h (fun k1 w2 h => ?_)
  refine j_putFR (v := (some k1)) O cfX2 0 (Nat.le_of_ble_eq_true rfl) (.inr ⟨_, rfl⟩) q177 rfl hn rfl dX2_init_9 h (fun w3 h => ?_)
  refine j_aload_n O 0 0 dX2_init_12 rfl rfl ?_
  refine j_bipush (m := 6) O dX2_init_13 bi_6 ?_
  refine j_newA O 0 (by decide) rfl q202 dX2_init_15 h (fun k4 w5 h => ?_)
  refine j_putFR (v := (some k4)) O cfX2 1 (Nat.le_of_ble_eq_true rfl) (.inr ⟨_, rfl⟩) q179 rfl hn rfl dX2_init_17 h (fun w6 h => ?_)
  refine j_aload_n O 0 0 dX2_init_20 rfl rfl ?_
  refine j_bipush (m := 6) O dX2_init_21 bi_6 ?_
  refine j_newA O 0 (by decide) rfl q202 dX2_init_23 h (fun k7 w8 h => ?_)
  refine j_putFR (v := (some k7)) O cfX2 2 (Nat.le_of_ble_eq_true rfl) (.inr ⟨_, rfl⟩) q181 rfl hn rfl dX2_init_25 h (fun w9 h => ?_)
  refine j_aload_n O 0 0 dX2_init_28 rfl rfl ?_
  refine j_bipush (m := 6) O dX2_init_29 bi_6 ?_
  refine j_newA O 0 (by decide) rfl q202 dX2_init_31 h (fun k10 w11 h => ?_)
  refine j_putFR (v := (some k10)) O cfX2 3 (Nat.le_of_ble_eq_true rfl) (.inr ⟨_, rfl⟩) q183 rfl hn rfl dX2_init_33 h (fun w12 h => ?_)
  refine j_aload_n O 0 0 dX2_init_36 rfl rfl ?_
  refine j_bipush (m := 6) O dX2_init_37 bi_6 ?_
  refine j_newA O 0 (by decide) rfl q202 dX2_init_39 h (fun k13 w14 h => ?_)
  refine j_putFR (v := (some k13)) O cfX2 4 (Nat.le_of_ble_eq_true rfl) (.inr ⟨_, rfl⟩) q185 rfl hn rfl dX2_init_41 h (fun w15 h => ?_)
  exact j_vret O hr dX2_init_44 h
theorem hy_X1_init : (yX1_init.cls = "DowryBoxes$State" ∧ yX1_init.cls ≠ "java/lang/invoke/MethodHandle" ∧ yX1_init.cls ≠ "java/lang/invoke/VarHandle" ∧ (parseMethodDescriptor yX1_init.desc).map (fun d => d.parameters.length) = some 0) := by decide +kernel
theorem mt_X1_init (l : Launch) (G : GW) (this : Nat) (bc bs : Nat) (w : Wd) (Q : Wd → Prop) (h : wp_X1_init this bc bs w Q) : MV l G yX1_init cX1_init 1 4 bc bs [.ref (adG G (this))] w Q := by
  refine met_V (fun G => [.ref (adG G (this))]) (by decide) (fun G => Nat.le_of_ble_eq_true rfl) (fun x O hl hm hr hn => ?_)
  subst hl
  have O : OK x "DowryBoxes$State" cX1_init 4 := O
  have h : wp_X1_init this bc bs w Q := h
  unfold wp_X1_init at h
  show J x (TV x Q) w bc bs 0 [(0, .ref (adG (xG x) (this)))] []
  refine j_aload_n O 0 0 dX1_init_0 rfl rfl ?_
  refine j_objInit O q170 q163 q164 (Nat.le_of_ble_eq_true rfl) (Nat.le_of_ble_eq_true rfl) dX1_init_1 ?_
  refine j_aload_n O 0 0 dX1_init_4 rfl rfl ?_
  refine j_newO O cfX2 q171 q172 q123 dX1_init_5 h (fun k1 w2 h => ?_)
  refine j_dup O dX1_init_8 rfl ?_
  obtain ⟨mc4, ms5, hb6, h⟩ := h
  refine fin_V O hb6 (run_IN (As := []) (st := [.ref (adG (xG x) (k1)), .ref (adG (xG x) (this))]) O (mt_X2_init (xl x) (xG x) _ _ _ _ _ h) (lw_n q173 rfl) q174 q123 q175 rfl hy_X2_init.2 (Nat.le_of_ble_eq_true rfl) (Nat.le_of_ble_eq_true rfl) hb6 rfl (Nat.le_of_ble_eq_true rfl) dX1_init_9) (fun w3 h => ?_)
  refine j_putFR (v := (some k1)) O cfX1 0 (Nat.le_of_ble_eq_true rfl) (.inl ⟨_, rfl⟩) q231 rfl hn rfl dX1_init_12 h (fun w7 h => ?_)
  refine j_aload_n O 0 0 dX1_init_15 rfl rfl ?_
  refine j_bipush (m := 6) O dX1_init_16 bi_6 ?_
  refine j_newA O 0 (by decide) rfl q202 dX1_init_18 h (fun k8 w9 h => ?_)
  refine j_putFR (v := (some k8)) O cfX1 1 (Nat.le_of_ble_eq_true rfl) (.inr ⟨_, rfl⟩) q233 rfl hn rfl dX1_init_20 h (fun w10 h => ?_)
  refine j_aload_n O 0 0 dX1_init_23 rfl rfl ?_
  refine j_bipush (m := 6) O dX1_init_24 bi_6 ?_
  refine j_newA O 0 (by decide) rfl q202 dX1_init_26 h (fun k11 w12 h => ?_)
  refine j_putFR (v := (some k11)) O cfX1 2 (Nat.le_of_ble_eq_true rfl) (.inr ⟨_, rfl⟩) q235 rfl hn rfl dX1_init_28 h (fun w13 h => ?_)
  refine j_aload_n O 0 0 dX1_init_31 rfl rfl ?_
  refine j_bipush (m := 24) O dX1_init_32 bi_24 ?_
  refine j_newA O 0 (by decide) rfl q202 dX1_init_34 h (fun k14 w15 h => ?_)
  refine j_putFR (v := (some k14)) O cfX1 3 (Nat.le_of_ble_eq_true rfl) (.inr ⟨_, rfl⟩) q237 rfl hn rfl dX1_init_36 h (fun w16 h => ?_)
  refine j_aload_n O 0 0 dX1_init_39 rfl rfl ?_
  refine j_newO O cfJ2 q203 q204 q126 dX1_init_40 h (fun k17 w18 h => ?_)
  refine j_dup O dX1_init_43 rfl ?_
  refine j_iconst O dX1_init_44 ?_
  obtain ⟨mc20, ms21, hb22, h⟩ := h
  refine fin_V O hb22 (run_I (As := [vI (2)]) (st := [.ref (adG (xG x) (k17)), .ref (adG (xG x) (this))]) O (mt_J2_init (xl x) (xG x) _ _ _ _ _ _ h) q205 q206 q126 q207 rfl hy_J2_init.2 (Nat.le_of_ble_eq_true rfl) (Nat.le_of_ble_eq_true rfl) hb22 rfl (Nat.le_of_ble_eq_true rfl) dX1_init_45) (fun w19 h => ?_)
  refine j_putFR (v := (some k17)) O cfX1 4 (Nat.le_of_ble_eq_true rfl) (.inl ⟨_, rfl⟩) q239 rfl hn rfl dX1_init_48 h (fun w23 h => ?_)
  refine j_aload_n O 0 0 dX1_init_51 rfl rfl ?_
  refine j_iconst O dX1_init_52 ?_
  refine j_putI O cfX1 8 (Nat.le_of_ble_eq_true rfl) rfl q247 rfl dX1_init_53 h (fun w24 h => ?_)
  refine j_aload_n O 0 0 dX1_init_56 rfl rfl ?_
  refine j_iconst O dX1_init_57 ?_
  refine j_putI O cfX1 10 (Nat.le_of_ble_eq_true rfl) rfl q251 rfl dX1_init_58 h (fun w25 h => ?_)
  exact j_vret O hr dX1_init_61 h
theorem hy_X0_image : (yX0_image.cls = "DowryBoxes" ∧ yX0_image.cls ≠ "java/lang/invoke/MethodHandle" ∧ yX0_image.cls ≠ "java/lang/invoke/VarHandle" ∧ (parseMethodDescriptor yX0_image.desc).map (fun d => d.parameters.length) = some 1) := by decide +kernel
theorem wk_X0_image_37 {x : Cx} (O : OK x "DowryBoxes" cX0_image 6) (hr : (xM x).sig.returnType = some .int) (hm : xn x = 2) {Q : Int → Wd → Prop} (this : Nat) (x1 : Int) (bc bs : Nat) (w : Wd) (h : wp_X0_image_37 Q this x1 bc bs w) : J x (TI x Q) w bc bs 37 [(0, .ref (adG (xG x) (this))), (1, vI (x1))] [] := by
  unfold wp_X0_image_37 at h
  refine j_aload_n O 0 0 dX0_image_37 rfl rfl ?_
  refine j_getA O cfX0 3 (Nat.le_of_ble_eq_true rfl) ⟨_, rfl⟩ q361 dX0_image_38 h (fun k1 h => ?_)
  refine j_iload_n O 1 1 dX0_image_41 rfl rfl ?_
  refine j_aald O (by decide) dX0_image_42 h (fun o2 h => ?_)
  refine j_aload_n O 0 0 dX0_image_43 rfl rfl ?_
  refine j_getR O cfX0 2 (Nat.le_of_ble_eq_true rfl) ⟨_, rfl⟩ q360 dX0_image_44 h (fun o3 h => ?_)
  obtain ⟨k4, e_k4, g_k4⟩ := h
  subst e_k4
  have h := g_k4
  obtain ⟨e8, h⟩ := h
  obtain ⟨mc6, ms7, hb9, h⟩ := h
  refine fin_V O hb9 (run_V (As := [vR (xG x) (o3)]) (st := []) O (mt_X1_takes (xl x) (xG x) _ _ _ _ _ _ h) e8 cfX1.1 q472 q473 q474 q122 q475 hy_X1_takes (Nat.le_of_ble_eq_true rfl) (Nat.le_of_ble_eq_true rfl) hb9 rfl (Nat.le_of_ble_eq_true rfl) dX0_image_47) (fun w5 h => ?_)
  refine j_aload_n O 0 0 dX0_image_50 rfl rfl ?_
  refine j_iconst O dX0_image_51 ?_
  obtain ⟨e12, h⟩ := h
  refine fin_I O ⟨Nat.zero_le _, Nat.zero_le _⟩ (run_V (As := [vI (0)]) (st := []) O (mt_X0_done (xl x) (xG x) _ _ _ _ h) e12 cfX0.1 q558 q560 qs3 q121 q561 hy_X0_done (Nat.le_of_ble_eq_true rfl) (Nat.le_of_ble_eq_true rfl) ⟨Nat.zero_le _, Nat.zero_le _⟩ rfl (Nat.le_of_ble_eq_true rfl) dX0_image_52) (fun r10 w11 h => ?_)
  exact j_iret O hr dX0_image_55 h
theorem mt_X0_image (l : Launch) (G : GW) (this : Nat) (p1 : Int) (bc bs : Nat) (w : Wd) (Q : Int → Wd → Prop) (h : wp_X0_image this p1 bc bs w Q) : MI l G yX0_image cX0_image 2 (.int) 6 bc bs [.ref (adG G (this)), vI (p1)] w Q := by
  refine met_I (fun G => [.ref (adG G (this)), vI (p1)]) (by decide) (fun G => Nat.le_of_ble_eq_true rfl) (fun x O hl hm hr => ?_)
  subst hl
  have O : OK x "DowryBoxes" cX0_image 6 := O
  have h : wp_X0_image this p1 bc bs w Q := h
  unfold wp_X0_image at h
  show J x (TI x Q) w bc bs 0 [(0, .ref (adG (xG x) (this))), (1, vI (p1))] []
  refine j_iload_n O 1 1 dX0_image_0 rfl rfl ?_
  refine j_iconst O dX0_image_1 ?_
  refine j_iconst O dX0_image_2 ?_
  refine fin_I O ⟨Nat.zero_le _, Nat.zero_le _⟩ (run_S (As := [vI (p1), vI (0), vI (1)]) (st := []) O (mt_X0_in (xl x) (xG x) _ _ _ _ _ h) q465 q466 q121 q467 hy_X0_in.2 (Nat.le_of_ble_eq_true rfl) (Nat.le_of_ble_eq_true rfl) ⟨Nat.zero_le _, Nat.zero_le _⟩ rfl (Nat.le_of_ble_eq_true rfl) dX0_image_3) (fun r1 w2 h => ?_)
  obtain ⟨c3, h⟩ := h
  refine j_if_ne O (tgt := 15) dX0_image_6 (by decide) c3 h (fun h => ?_) (fun h => ?_)
  · refine j_aload_n O 0 0 dX0_image_15 rfl rfl ?_
    refine j_getA O cfX0 3 (Nat.le_of_ble_eq_true rfl) ⟨_, rfl⟩ q361 dX0_image_16 h (fun k4 h => ?_)
    refine j_iload_n O 1 1 dX0_image_19 rfl rfl ?_
    refine j_aald O (by decide) dX0_image_20 h (fun o5 h => ?_)
    refine j_ifnonnull O (tgt := 37) dX0_image_21 (by decide)  h (fun h => ?_) (fun h => ?_)
    · exact (J.sub [0, 1] rfl <| wk_X0_image_37 O hr hm  _ _  _ _ _ h)
    · refine j_aload_n O 0 0 dX0_image_24 rfl rfl ?_
      refine j_getA O cfX0 3 (Nat.le_of_ble_eq_true rfl) ⟨_, rfl⟩ q361 dX0_image_25 h (fun k6 h => ?_)
      refine j_iload_n O 1 1 dX0_image_28 rfl rfl ?_
      refine j_newO O cfX1 q165 q166 q122 dX0_image_29 h (fun k7 w8 h => ?_)
      refine j_dup O dX0_image_32 rfl ?_
      obtain ⟨mc10, ms11, hb12, h⟩ := h
      refine fin_V O hb12 (run_IN (As := []) (st := [.ref (adG (xG x) (k7)), vI (p1), .ref (adG (xG x) (k6))]) O (mt_X1_init (xl x) (xG x) _ _ _ _ _ h) (lw_n q167 rfl) q168 q122 q169 rfl hy_X1_init.2 (Nat.le_of_ble_eq_true rfl) (Nat.le_of_ble_eq_true rfl) hb12 rfl (Nat.le_of_ble_eq_true rfl) dX0_image_33) (fun w9 h => ?_)
      refine j_aast (r := (some k7)) O (by decide) dX0_image_36 h (fun w13 h => ?_)
      exact (J.sub [0, 1] rfl <| wk_X0_image_37 O hr hm  _ _  _ _ _ h)
  · refine j_aload_n O 0 0 dX0_image_9 rfl rfl ?_
    refine j_iconst O dX0_image_10 ?_
    obtain ⟨e16, h⟩ := h
    refine fin_I O ⟨Nat.zero_le _, Nat.zero_le _⟩ (run_V (As := [vI (((-1)))]) (st := []) O (mt_X0_refuse (xl x) (xG x) _ _ _ _ h) e16 cfX0.1 q468 q470 qs1 q121 q471 hy_X0_refuse (Nat.le_of_ble_eq_true rfl) (Nat.le_of_ble_eq_true rfl) ⟨Nat.zero_le _, Nat.zero_le _⟩ rfl (Nat.le_of_ble_eq_true rfl) dX0_image_11) (fun r14 w15 h => ?_)
    exact j_iret O hr dX0_image_14 h
theorem hy_X4_init : (yX4_init.cls = "DowryBoxes$Broken" ∧ yX4_init.cls ≠ "java/lang/invoke/MethodHandle" ∧ yX4_init.cls ≠ "java/lang/invoke/VarHandle" ∧ (parseMethodDescriptor yX4_init.desc).map (fun d => d.parameters.length) = some 0) := by decide +kernel
theorem mt_X4_init (l : Launch) (G : GW) (this : Nat) (w : Wd) (Q : Wd → Prop) (h : wp_X4_init this w Q) : MV l G yX4_init cX4_init 1 3 0 0 [.ref (adG G (this))] w Q := by
  refine met_V (fun G => [.ref (adG G (this))]) (by decide) (fun G => Nat.le_of_ble_eq_true rfl) (fun x O hl hm hr hn => ?_)
  subst hl
  have O : OK x "DowryBoxes$Broken" cX4_init 3 := O
  have h : wp_X4_init this w Q := h
  unfold wp_X4_init at h
  show J x (TV x Q) w 0 0 0 [(0, .ref (adG (xG x) (this)))] []
  refine j_aload_n O 0 0 dX4_init_0 rfl rfl ?_
  refine j_null O dX4_init_1 ?_
  refine j_null O dX4_init_2 ?_
  refine j_iconst O dX4_init_3 ?_
  refine j_iconst O dX4_init_4 ?_
  refine fin_V O ⟨Nat.zero_le _, Nat.zero_le _⟩ (run_I (As := [vR (xG x) (none), vR (xG x) (none), vI (0), vI (0)]) (st := []) O (mt_J4_init (xl x) (xG x) _ _ _ _ _ _ _ h) q327 q328 q129 q329 rfl hy_J4_init.2 (Nat.le_of_ble_eq_true rfl) (Nat.le_of_ble_eq_true rfl) ⟨Nat.zero_le _, Nat.zero_le _⟩ rfl (Nat.le_of_ble_eq_true rfl) dX4_init_5) (fun w1 h => ?_)
  exact j_vret O hr dX4_init_8 h
theorem hy_X3_init : (yX3_init.cls = "DowryBoxes$Setting" ∧ yX3_init.cls ≠ "java/lang/invoke/MethodHandle" ∧ yX3_init.cls ≠ "java/lang/invoke/VarHandle" ∧ (parseMethodDescriptor yX3_init.desc).map (fun d => d.parameters.length) = some 0) := by decide +kernel
theorem mt_X3_init (l : Launch) (G : GW) (this : Nat) (bc bs : Nat) (w : Wd) (Q : Wd → Prop) (h : wp_X3_init this bc bs w Q) : MV l G yX3_init cX3_init 1 4 bc bs [.ref (adG G (this))] w Q := by
  refine met_V (fun G => [.ref (adG G (this))]) (by decide) (fun G => Nat.le_of_ble_eq_true rfl) (fun x O hl hm hr hn => ?_)
  subst hl
  have O : OK x "DowryBoxes$Setting" cX3_init 4 := O
  have h : wp_X3_init this bc bs w Q := h
  unfold wp_X3_init at h
  show J x (TV x Q) w bc bs 0 [(0, .ref (adG (xG x) (this)))] []
  refine j_aload_n O 0 0 dX3_init_0 rfl rfl ?_
  refine j_objInit O q285 q163 q164 (Nat.le_of_ble_eq_true rfl) (Nat.le_of_ble_eq_true rfl) dX3_init_1 ?_
  refine j_aload_n O 0 0 dX3_init_4 rfl rfl ?_
  refine j_newO O cfX4 q286 q287 q130 dX3_init_5 h (fun k1 w2 h => ?_)
  refine j_dup O dX3_init_8 rfl ?_
  refine fin_V O ⟨Nat.zero_le _, Nat.zero_le _⟩ (run_I (As := []) (st := [.ref (adG (xG x) (k1)), .ref (adG (xG x) (this))]) O (mt_X4_init (xl x) (xG x) _ _ _ h) q324 q325 q130 q326 rfl hy_X4_init.2 (Nat.le_of_ble_eq_true rfl) (Nat.le_of_ble_eq_true rfl) ⟨Nat.zero_le _, Nat.zero_le _⟩ rfl (Nat.le_of_ble_eq_true rfl) dX3_init_9) (fun w3 h => ?_)
  refine j_putFR (v := (some k1)) O cfX3 0 (Nat.le_of_ble_eq_true rfl) (.inl ⟨_, rfl⟩) q347 rfl hn rfl dX3_init_12 h (fun w4 h => ?_)
  refine j_aload_n O 0 0 dX3_init_15 rfl rfl ?_
  refine j_bipush (m := 16) O dX3_init_16 bi_16 ?_
  refine j_newA O 1 (by decide) rfl q357 dX3_init_18 h (fun k5 w6 h => ?_)
  refine j_putFR (v := (some k5)) O cfX3 1 (Nat.le_of_ble_eq_true rfl) (.inr ⟨_, rfl⟩) q349 rfl hn rfl dX3_init_20 h (fun w7 h => ?_)
  exact j_vret O hr dX3_init_23 h
theorem hy_X0_init : (yX0_init.cls = "DowryBoxes" ∧ yX0_init.cls ≠ "java/lang/invoke/MethodHandle" ∧ yX0_init.cls ≠ "java/lang/invoke/VarHandle" ∧ (parseMethodDescriptor yX0_init.desc).map (fun d => d.parameters.length) = some 0) := by decide +kernel
theorem wk_X0_init_232 {x : Cx} (O : OK x "DowryBoxes" cX0_init 5) (hr : (xM x).sig.returnType = none) (hn : (xM x).name = "<init>") (hm : xn x = 2) {Q : Wd → Prop} (this : Nat) : ∀ (n : Nat) (x1 : Int) (bc bs : Nat) (w : Wd), wp_X0_init_232 Q this n x1 bc bs w → J x (TV x Q) w bc bs 232 [(0, .ref (adG (xG x) (this))), (1, vI (x1))] [] := by
  intro n
  induction n with
  | zero => intro x1 bc bs w h; exact False.elim h
  | succ n ih =>
    intro x1 bc bs w h
    rw [wp_X0_init_232] at h
    refine j_iload_n O 1 1 dX0_init_232 rfl rfl ?_
    refine j_bipush (m := 16) O dX0_init_233 bi_16 ?_
    obtain ⟨c1, h⟩ := h
    refine j_icmp_ge O (tgt := 270) dX0_init_235 (by decide) c1 (by decide) h (fun h => ?_) (fun h => ?_)
    · exact j_vret O hr dX0_init_270 h
    · refine j_aload_n O 0 0 dX0_init_238 rfl rfl ?_
      refine j_getA O cfX0 4 (Nat.le_of_ble_eq_true rfl) ⟨_, rfl⟩ q362 dX0_init_239 h (fun k2 h => ?_)
      refine j_iload_n O 1 1 dX0_init_242 rfl rfl ?_
      refine j_newO O cfX2 q277 q172 q123 dX0_init_243 h (fun k3 w4 h => ?_)
      refine j_dup O dX0_init_246 rfl ?_
      obtain ⟨mc6, ms7, hb8, h⟩ := h
      refine fin_V O hb8 (run_IN (As := []) (st := [.ref (adG (xG x) (k3)), vI (x1), .ref (adG (xG x) (k2))]) O (mt_X2_init (xl x) (xG x) _ _ _ _ _ h) (lw_n q279 rfl) q174 q123 q175 rfl hy_X2_init.2 (Nat.le_of_ble_eq_true rfl) (Nat.le_of_ble_eq_true rfl) hb8 rfl (Nat.le_of_ble_eq_true rfl) dX0_init_247) (fun w5 h => ?_)
      refine j_aast (r := (some k3)) O (by decide) dX0_init_250 h (fun w9 h => ?_)
      refine j_aload_n O 0 0 dX0_init_251 rfl rfl ?_
      refine j_getA O cfX0 5 (Nat.le_of_ble_eq_true rfl) ⟨_, rfl⟩ q363 dX0_init_252 h (fun k10 h => ?_)
      refine j_iload_n O 1 1 dX0_init_255 rfl rfl ?_
      refine j_newO O cfX2 q277 q172 q123 dX0_init_256 h (fun k11 w12 h => ?_)
      refine j_dup O dX0_init_259 rfl ?_
      obtain ⟨mc14, ms15, hb16, h⟩ := h
      refine fin_V O hb16 (run_IN (As := []) (st := [.ref (adG (xG x) (k11)), vI (x1), .ref (adG (xG x) (k10))]) O (mt_X2_init (xl x) (xG x) _ _ _ _ _ h) (lw_n q279 rfl) q174 q123 q175 rfl hy_X2_init.2 (Nat.le_of_ble_eq_true rfl) (Nat.le_of_ble_eq_true rfl) hb16 rfl (Nat.le_of_ble_eq_true rfl) dX0_init_260) (fun w13 h => ?_)
      refine j_aast (r := (some k11)) O (by decide) dX0_init_263 h (fun w17 h => ?_)
      refine j_iinc (L' := [(1, vI (x1 + 1)), (0, .ref (adG (xG x) (this)))]) O 1 dX0_init_264 rfl (by rw [hm]; decide) rfl ?_
      refine j_goto O (tgt := 232) dX0_init_267 (by decide) ?_
      exact (J.sub [1, 0] rfl <| ih _ _ _ _ h)
theorem mt_X0_init (l : Launch) (G : GW) (this : Nat) (bc bs : Nat) (w : Wd) (Q : Wd → Prop) (h : wp_X0_init this bc bs w Q) : MV l G yX0_init cX0_init 2 5 bc bs [.ref (adG G (this))] w Q := by
  refine met_V (fun G => [.ref (adG G (this))]) (by decide) (fun G => Nat.le_of_ble_eq_true rfl) (fun x O hl hm hr hn => ?_)
  subst hl
  have O : OK x "DowryBoxes" cX0_init 5 := O
  have h : wp_X0_init this bc bs w Q := h
  unfold wp_X0_init at h
  show J x (TV x Q) w bc bs 0 [(0, .ref (adG (xG x) (this)))] []
  refine j_aload_n O 0 0 dX0_init_0 rfl rfl ?_
  refine j_objInit O q162 q163 q164 (Nat.le_of_ble_eq_true rfl) (Nat.le_of_ble_eq_true rfl) dX0_init_1 ?_
  refine j_aload_n O 0 0 dX0_init_4 rfl rfl ?_
  refine j_bipush (m := 7) O dX0_init_5 bi_7 ?_
  refine j_newA O 0 (by decide) rfl q202 dX0_init_7 h (fun k1 w2 h => ?_)
  refine j_putFR (v := (some k1)) O cfX0 1 (Nat.le_of_ble_eq_true rfl) (.inr ⟨_, rfl⟩) q359 rfl hn rfl dX0_init_9 h (fun w3 h => ?_)
  refine j_aload_n O 0 0 dX0_init_12 rfl rfl ?_
  refine j_newO O cfX1 q165 q166 q122 dX0_init_13 h (fun k4 w5 h => ?_)
  refine j_dup O dX0_init_16 rfl ?_
  obtain ⟨mc7, ms8, hb9, h⟩ := h
  refine fin_V O hb9 (run_IN (As := []) (st := [.ref (adG (xG x) (k4)), .ref (adG (xG x) (this))]) O (mt_X1_init (xl x) (xG x) _ _ _ _ _ h) (lw_n q167 rfl) q168 q122 q169 rfl hy_X1_init.2 (Nat.le_of_ble_eq_true rfl) (Nat.le_of_ble_eq_true rfl) hb9 rfl (Nat.le_of_ble_eq_true rfl) dX0_init_17) (fun w6 h => ?_)
  refine j_putFR (v := (some k4)) O cfX0 2 (Nat.le_of_ble_eq_true rfl) (.inl ⟨_, rfl⟩) q360 rfl hn rfl dX0_init_20 h (fun w10 h => ?_)
  refine j_aload_n O 0 0 dX0_init_23 rfl rfl ?_
  refine j_iconst O dX0_init_24 ?_
  refine j_newQ O 5 (by decide) q165 dX0_init_25 h (fun k11 w12 h => ?_)
  refine j_putFR (v := (some k11)) O cfX0 3 (Nat.le_of_ble_eq_true rfl) (.inr ⟨_, rfl⟩) q361 rfl hn rfl dX0_init_28 h (fun w13 h => ?_)
  refine j_aload_n O 0 0 dX0_init_31 rfl rfl ?_
  refine j_bipush (m := 16) O dX0_init_32 bi_16 ?_
  refine j_newQ O 6 (by decide) q277 dX0_init_34 h (fun k14 w15 h => ?_)
  refine j_putFR (v := (some k14)) O cfX0 4 (Nat.le_of_ble_eq_true rfl) (.inr ⟨_, rfl⟩) q362 rfl hn rfl dX0_init_37 h (fun w16 h => ?_)
  refine j_aload_n O 0 0 dX0_init_40 rfl rfl ?_
  refine j_bipush (m := 16) O dX0_init_41 bi_16 ?_
  refine j_newQ O 6 (by decide) q277 dX0_init_43 h (fun k17 w18 h => ?_)
  refine j_putFR (v := (some k17)) O cfX0 5 (Nat.le_of_ble_eq_true rfl) (.inr ⟨_, rfl⟩) q363 rfl hn rfl dX0_init_46 h (fun w19 h => ?_)
  refine j_aload_n O 0 0 dX0_init_49 rfl rfl ?_
  refine j_bipush (m := 16) O dX0_init_50 bi_16 ?_
  refine j_newA O 0 (by decide) rfl q202 dX0_init_52 h (fun k20 w21 h => ?_)
  refine j_putFR (v := (some k20)) O cfX0 6 (Nat.le_of_ble_eq_true rfl) (.inr ⟨_, rfl⟩) q364 rfl hn rfl dX0_init_54 h (fun w22 h => ?_)
  refine j_aload_n O 0 0 dX0_init_57 rfl rfl ?_
  refine j_bipush (m := 16) O dX0_init_58 bi_16 ?_
  refine j_newA O 0 (by decide) rfl q202 dX0_init_60 h (fun k23 w24 h => ?_)
  refine j_putFR (v := (some k23)) O cfX0 7 (Nat.le_of_ble_eq_true rfl) (.inr ⟨_, rfl⟩) q365 rfl hn rfl dX0_init_62 h (fun w25 h => ?_)
  refine j_aload_n O 0 0 dX0_init_65 rfl rfl ?_
  refine j_newO O cfX2 q277 q172 q123 dX0_init_66 h (fun k26 w27 h => ?_)
  refine j_dup O dX0_init_69 rfl ?_
  obtain ⟨mc29, ms30, hb31, h⟩ := h
  refine fin_V O hb31 (run_IN (As := []) (st := [.ref (adG (xG x) (k26)), .ref (adG (xG x) (this))]) O (mt_X2_init (xl x) (xG x) _ _ _ _ _ h) (lw_n q279 rfl) q174 q123 q175 rfl hy_X2_init.2 (Nat.le_of_ble_eq_true rfl) (Nat.le_of_ble_eq_true rfl) hb31 rfl (Nat.le_of_ble_eq_true rfl) dX0_init_70) (fun w28 h => ?_)
  refine j_putFR (v := (some k26)) O cfX0 8 (Nat.le_of_ble_eq_true rfl) (.inl ⟨_, rfl⟩) q366 rfl hn rfl dX0_init_73 h (fun w32 h => ?_)
  refine j_aload_n O 0 0 dX0_init_76 rfl rfl ?_
  refine j_newO O cfX2 q277 q172 q123 dX0_init_77 h (fun k33 w34 h => ?_)
  refine j_dup O dX0_init_80 rfl ?_
  obtain ⟨mc36, ms37, hb38, h⟩ := h
  refine fin_V O hb38 (run_IN (As := []) (st := [.ref (adG (xG x) (k33)), .ref (adG (xG x) (this))]) O (mt_X2_init (xl x) (xG x) _ _ _ _ _ h) (lw_n q279 rfl) q174 q123 q175 rfl hy_X2_init.2 (Nat.le_of_ble_eq_true rfl) (Nat.le_of_ble_eq_true rfl) hb38 rfl (Nat.le_of_ble_eq_true rfl) dX0_init_81) (fun w35 h => ?_)
  refine j_putFR (v := (some k33)) O cfX0 9 (Nat.le_of_ble_eq_true rfl) (.inl ⟨_, rfl⟩) q367 rfl hn rfl dX0_init_84 h (fun w39 h => ?_)
  refine j_aload_n O 0 0 dX0_init_87 rfl rfl ?_
  refine j_sipush (m := 400) O dX0_init_88 si_400 ?_
  refine j_newA O 2 (by decide) rfl q346 dX0_init_91 h (fun k40 w41 h => ?_)
  refine j_putFR (v := (some k40)) O cfX0 10 (Nat.le_of_ble_eq_true rfl) (.inr ⟨_, rfl⟩) q368 rfl hn rfl dX0_init_93 h (fun w42 h => ?_)
  refine j_aload_n O 0 0 dX0_init_96 rfl rfl ?_
  refine j_iconst O dX0_init_97 ?_
  refine j_putI O cfX0 12 (Nat.le_of_ble_eq_true rfl) rfl q370 rfl dX0_init_98 h (fun w43 h => ?_)
  refine j_aload_n O 0 0 dX0_init_101 rfl rfl ?_
  refine j_iconst O dX0_init_102 ?_
  refine j_putI O cfX0 14 (Nat.le_of_ble_eq_true rfl) rfl q372 rfl dX0_init_103 h (fun w44 h => ?_)
  refine j_aload_n O 0 0 dX0_init_106 rfl rfl ?_
  refine j_newO O cfX3 q280 q281 q127 dX0_init_107 h (fun k45 w46 h => ?_)
  refine j_dup O dX0_init_110 rfl ?_
  obtain ⟨mc48, ms49, hb50, h⟩ := h
  refine fin_V O hb50 (run_IN (As := []) (st := [.ref (adG (xG x) (k45)), .ref (adG (xG x) (this))]) O (mt_X3_init (xl x) (xG x) _ _ _ _ _ h) (lw_n q282 rfl) q283 q127 q284 rfl hy_X3_init.2 (Nat.le_of_ble_eq_true rfl) (Nat.le_of_ble_eq_true rfl) hb50 rfl (Nat.le_of_ble_eq_true rfl) dX0_init_111) (fun w47 h => ?_)
  refine j_putFR (v := (some k45)) O cfX0 16 (Nat.le_of_ble_eq_true rfl) (.inl ⟨_, rfl⟩) q374 rfl hn rfl dX0_init_114 h (fun w51 h => ?_)
  refine j_aload_n O 0 0 dX0_init_117 rfl rfl ?_
  refine j_bipush (m := 6) O dX0_init_118 bi_6 ?_
  refine j_newA O 0 (by decide) rfl q202 dX0_init_120 h (fun k52 w53 h => ?_)
  refine j_putFR (v := (some k52)) O cfX0 17 (Nat.le_of_ble_eq_true rfl) (.inr ⟨_, rfl⟩) q375 rfl hn rfl dX0_init_122 h (fun w54 h => ?_)
  refine j_aload_n O 0 0 dX0_init_125 rfl rfl ?_
  refine j_bipush (m := 36) O dX0_init_126 bi_36 ?_
  refine j_newA O 0 (by decide) rfl q202 dX0_init_128 h (fun k55 w56 h => ?_)
  refine j_putFR (v := (some k55)) O cfX0 18 (Nat.le_of_ble_eq_true rfl) (.inr ⟨_, rfl⟩) q376 rfl hn rfl dX0_init_130 h (fun w57 h => ?_)
  refine j_aload_n O 0 0 dX0_init_133 rfl rfl ?_
  refine j_bipush (m := 36) O dX0_init_134 bi_36 ?_
  refine j_newA O 0 (by decide) rfl q202 dX0_init_136 h (fun k58 w59 h => ?_)
  refine j_putFR (v := (some k58)) O cfX0 19 (Nat.le_of_ble_eq_true rfl) (.inr ⟨_, rfl⟩) q377 rfl hn rfl dX0_init_138 h (fun w60 h => ?_)
  refine j_aload_n O 0 0 dX0_init_141 rfl rfl ?_
  refine j_bipush (m := 6) O dX0_init_142 bi_6 ?_
  refine j_newA O 0 (by decide) rfl q202 dX0_init_144 h (fun k61 w62 h => ?_)
  refine j_putFR (v := (some k61)) O cfX0 20 (Nat.le_of_ble_eq_true rfl) (.inr ⟨_, rfl⟩) q378 rfl hn rfl dX0_init_146 h (fun w63 h => ?_)
  refine j_aload_n O 0 0 dX0_init_149 rfl rfl ?_
  refine j_bipush (m := 6) O dX0_init_150 bi_6 ?_
  refine j_newA O 0 (by decide) rfl q202 dX0_init_152 h (fun k64 w65 h => ?_)
  refine j_putFR (v := (some k64)) O cfX0 21 (Nat.le_of_ble_eq_true rfl) (.inr ⟨_, rfl⟩) q379 rfl hn rfl dX0_init_154 h (fun w66 h => ?_)
  refine j_aload_n O 0 0 dX0_init_157 rfl rfl ?_
  refine j_sipush (m := 448) O dX0_init_158 si_448 ?_
  refine j_newA O 0 (by decide) rfl q202 dX0_init_161 h (fun k67 w68 h => ?_)
  refine j_putFR (v := (some k67)) O cfX0 22 (Nat.le_of_ble_eq_true rfl) (.inr ⟨_, rfl⟩) q380 rfl hn rfl dX0_init_163 h (fun w69 h => ?_)
  refine j_aload_n O 0 0 dX0_init_166 rfl rfl ?_
  refine j_sipush (m := 2048) O dX0_init_167 si_2048 ?_
  refine j_newA O 0 (by decide) rfl q202 dX0_init_170 h (fun k70 w71 h => ?_)
  refine j_putFR (v := (some k70)) O cfX0 24 (Nat.le_of_ble_eq_true rfl) (.inr ⟨_, rfl⟩) q382 rfl hn rfl dX0_init_172 h (fun w72 h => ?_)
  refine j_aload_n O 0 0 dX0_init_175 rfl rfl ?_
  refine j_iconst O dX0_init_176 ?_
  refine j_newA O 0 (by decide) rfl q202 dX0_init_177 h (fun k73 w74 h => ?_)
  refine j_putFR (v := (some k73)) O cfX0 25 (Nat.le_of_ble_eq_true rfl) (.inr ⟨_, rfl⟩) q383 rfl hn rfl dX0_init_179 h (fun w75 h => ?_)
  refine j_aload_n O 0 0 dX0_init_182 rfl rfl ?_
  refine j_bipush (m := 6) O dX0_init_183 bi_6 ?_
  refine j_newA O 0 (by decide) rfl q202 dX0_init_185 h (fun k76 w77 h => ?_)
  refine j_putFR (v := (some k76)) O cfX0 26 (Nat.le_of_ble_eq_true rfl) (.inr ⟨_, rfl⟩) q384 rfl hn rfl dX0_init_187 h (fun w78 h => ?_)
  refine j_aload_n O 0 0 dX0_init_190 rfl rfl ?_
  refine j_bipush (m := 6) O dX0_init_191 bi_6 ?_
  refine j_newA O 0 (by decide) rfl q202 dX0_init_193 h (fun k79 w80 h => ?_)
  refine j_putFR (v := (some k79)) O cfX0 27 (Nat.le_of_ble_eq_true rfl) (.inr ⟨_, rfl⟩) q385 rfl hn rfl dX0_init_195 h (fun w81 h => ?_)
  refine j_aload_n O 0 0 dX0_init_198 rfl rfl ?_
  refine j_bipush (m := 6) O dX0_init_199 bi_6 ?_
  refine j_newA O 0 (by decide) rfl q202 dX0_init_201 h (fun k82 w83 h => ?_)
  refine j_putFR (v := (some k82)) O cfX0 28 (Nat.le_of_ble_eq_true rfl) (.inr ⟨_, rfl⟩) q386 rfl hn rfl dX0_init_203 h (fun w84 h => ?_)
  refine j_aload_n O 0 0 dX0_init_206 rfl rfl ?_
  refine j_bipush (m := 21) O dX0_init_207 bi_21 ?_
  refine j_newA O 1 (by decide) rfl q357 dX0_init_209 h (fun k85 w86 h => ?_)
  refine j_putFR (v := (some k85)) O cfX0 30 (Nat.le_of_ble_eq_true rfl) (.inr ⟨_, rfl⟩) q388 rfl hn rfl dX0_init_211 h (fun w87 h => ?_)
  refine j_aload_n O 0 0 dX0_init_214 rfl rfl ?_
  refine j_newO O cfX2 q277 q172 q123 dX0_init_215 h (fun k88 w89 h => ?_)
  refine j_dup O dX0_init_218 rfl ?_
  obtain ⟨mc91, ms92, hb93, h⟩ := h
  refine fin_V O hb93 (run_IN (As := []) (st := [.ref (adG (xG x) (k88)), .ref (adG (xG x) (this))]) O (mt_X2_init (xl x) (xG x) _ _ _ _ _ h) (lw_n q279 rfl) q174 q123 q175 rfl hy_X2_init.2 (Nat.le_of_ble_eq_true rfl) (Nat.le_of_ble_eq_true rfl) hb93 rfl (Nat.le_of_ble_eq_true rfl) dX0_init_219) (fun w90 h => ?_)
  refine j_putFR (v := (some k88)) O cfX0 31 (Nat.le_of_ble_eq_true rfl) (.inl ⟨_, rfl⟩) q389 rfl hn rfl dX0_init_222 h (fun w94 h => ?_)
  refine j_aload_n O 0 0 dX0_init_225 rfl rfl ?_
  refine j_iconst O dX0_init_226 ?_
  refine j_putI O cfX0 32 (Nat.le_of_ble_eq_true rfl) rfl q390 rfl dX0_init_227 h (fun w95 h => ?_)
  refine j_iconst O dX0_init_230 ?_
  refine j_istore_n (L' := [(1, vI (0)), (0, .ref (adG (xG x) (this)))]) O 1 dX0_init_231 rfl (by rw [hm]; decide) rfl ?_
  exact (J.sub [1, 0] rfl <| wk_X0_init_232 O hr hn hm  _  FU _ _ _ _ h)
