/-! the walks of the reference, by program -/
set_option maxRecDepth 100000
theorem hy_X5_withSuitor : (yX5_withSuitor.cls = "DowryBoxesModel" ∧ yX5_withSuitor.cls ≠ "java/lang/invoke/MethodHandle" ∧ yX5_withSuitor.cls ≠ "java/lang/invoke/VarHandle" ∧ (parseMethodDescriptor yX5_withSuitor.desc).map (fun d => d.parameters.length) = some 4) := by decide +kernel
theorem wk_X5_withSuitor_34 {x : Cx} (O : OK x "DowryBoxesModel" cX5_withSuitor 2) (hr : (xM x).sig.returnType = some .int) (hm : xn x = 6) {Q : Int → Wd → Prop} (w : Wd) (h : wp_X5_withSuitor_34 Q w) : J x (TI x Q) w 0 0 34 [] [] := by
  unfold wp_X5_withSuitor_34 at h
  refine j_ldcw (m := (-100000000)) O dX5_withSuitor_34 q2148 ld_m100000000 ?_
  refine j_goto O (tgt := 64) dX5_withSuitor_37 (by decide) ?_
  exact j_iret O hr dX5_withSuitor_64 h
theorem mt_X5_withSuitor (l : Launch) (G : GW) (this : Nat) (p1 : Int) (p2 : Int) (p3 : Int) (p4 : Int) (w : Wd) (Q : Int → Wd → Prop) (h : wp_X5_withSuitor this p1 p2 p3 p4 w Q) : MI l G yX5_withSuitor cX5_withSuitor 6 (.int) 2 0 0 [.ref (adG G (this)), vI (p1), vI (p2), vI (p3), vI (p4)] w Q := by
  refine met_I (fun G => [.ref (adG G (this)), vI (p1), vI (p2), vI (p3), vI (p4)]) (by decide) (fun G => Nat.le_of_ble_eq_true rfl) (fun x O hl hm hr => ?_)
  subst hl
  have O : OK x "DowryBoxesModel" cX5_withSuitor 2 := O
  have h : wp_X5_withSuitor this p1 p2 p3 p4 w Q := h
  unfold wp_X5_withSuitor at h
  show J x (TI x Q) w 0 0 0 [(0, .ref (adG (xG x) (this))), (1, vI (p1)), (2, vI (p2)), (3, vI (p3)), (4, vI (p4))] []
  refine j_aload_n O 0 0 dX5_withSuitor_0 rfl rfl ?_
  refine j_getA O cfX5 42 (Nat.le_of_ble_eq_true rfl) ⟨_, rfl⟩ q1610 dX5_withSuitor_1 h (fun k1 h => ?_)
  refine j_bipush (m := 6) O dX5_withSuitor_4 bi_6 ?_
  refine j_iload_n O 1 1 dX5_withSuitor_6 rfl rfl ?_
  refine j_imul O dX5_withSuitor_7 ?_
  refine j_iload_n O 3 3 dX5_withSuitor_8 rfl rfl ?_
  refine j_iadd O dX5_withSuitor_9 ?_
  refine j_iald O dX5_withSuitor_10 h (fun v2 h => ?_)
  refine j_istore (L' := [(5, vI (v2)), (0, .ref (adG (xG x) (this))), (1, vI (p1)), (2, vI (p2)), (3, vI (p3)), (4, vI (p4))]) O dX5_withSuitor_11 (by rw [hm]; decide) rfl ?_
  refine j_iload O 0 dX5_withSuitor_13 rfl ?_
  refine j_iconst O dX5_withSuitor_15 ?_
  obtain ⟨c3, h⟩ := h
  refine j_icmp_eq O (tgt := 34) dX5_withSuitor_16 (by decide) c3 (by decide) h (fun h => ?_) (fun h => ?_)
  · exact (J.sub [] rfl <| wk_X5_withSuitor_34 O hr hm    _ h)
  · refine j_iload O 0 dX5_withSuitor_19 rfl ?_
    refine j_iload O 5 dX5_withSuitor_21 rfl ?_
    obtain ⟨c4, h⟩ := h
    obtain ⟨c5, h⟩ := h
    refine j_icmp_gt O (tgt := 34) dX5_withSuitor_23 (by decide) c4 c5 h (fun h => ?_) (fun h => ?_)
    · exact (J.sub [] rfl <| wk_X5_withSuitor_34 O hr hm    _ h)
    · refine j_iload_n O 3 2 dX5_withSuitor_26 rfl rfl ?_
      refine j_iload_n O 4 3 dX5_withSuitor_27 rfl rfl ?_
      refine fin_I O ⟨Nat.zero_le _, Nat.zero_le _⟩ (run_S (As := [vI (p2), vI (p3)]) (st := []) O (mt_X5_is (xl x) (xG x) _ _ _ _ h) q2056 q2057 q131 q2058 hy_X5_is.2 (Nat.le_of_ble_eq_true rfl) (Nat.le_of_ble_eq_true rfl) ⟨Nat.zero_le _, Nat.zero_le _⟩ rfl (Nat.le_of_ble_eq_true rfl) dX5_withSuitor_28) (fun r6 w7 h => ?_)
      obtain ⟨c8, h⟩ := h
      refine j_if_eq O (tgt := 40) dX5_withSuitor_31 (by decide) c8 h (fun h => ?_) (fun h => ?_)
      · refine j_sipush (m := 1000) O dX5_withSuitor_40 si_1000 ?_
        refine j_iload O 0 dX5_withSuitor_43 rfl ?_
        refine j_isub O dX5_withSuitor_45 ?_
        refine j_aload_n O 1 0 dX5_withSuitor_46 rfl rfl ?_
        refine j_getA O cfX5 46 (Nat.le_of_ble_eq_true rfl) ⟨_, rfl⟩ q1614 dX5_withSuitor_47 h (fun k9 h => ?_)
        refine j_bipush (m := 64) O dX5_withSuitor_50 bi_64 ?_
        refine j_iload_n O 2 1 dX5_withSuitor_52 rfl rfl ?_
        refine j_iconst O dX5_withSuitor_53 ?_
        refine j_iadd O dX5_withSuitor_54 ?_
        refine j_imul O dX5_withSuitor_55 ?_
        refine j_iload_n O 3 2 dX5_withSuitor_56 rfl rfl ?_
        refine j_iconst O dX5_withSuitor_57 ?_
        refine j_iload_n O 4 3 dX5_withSuitor_58 rfl rfl ?_
        refine j_ishl O dX5_withSuitor_59 ?_
        refine j_ior O dX5_withSuitor_60 ?_
        refine j_iadd O dX5_withSuitor_61 ?_
        refine j_iald O dX5_withSuitor_62 h (fun v10 h => ?_)
        refine j_iadd O dX5_withSuitor_63 ?_
        exact j_iret O hr dX5_withSuitor_64 h
      · exact (J.sub [] rfl <| wk_X5_withSuitor_34 O hr hm    _ h)
theorem hy_X5_likesOf : (yX5_likesOf.cls = "DowryBoxesModel" ∧ yX5_likesOf.cls ≠ "java/lang/invoke/MethodHandle" ∧ yX5_likesOf.cls ≠ "java/lang/invoke/VarHandle" ∧ (parseMethodDescriptor yX5_likesOf.desc).map (fun d => d.parameters.length) = some 2) := by decide +kernel
theorem mt_X5_likesOf (l : Launch) (G : GW) (this : Nat) (p1 : Int) (p2 : Int) (w : Wd) (Q : Int → Wd → Prop) (h : wp_X5_likesOf this p1 p2 w Q) : MI l G yX5_likesOf cX5_likesOf 3 (.int) 6 0 0 [.ref (adG G (this)), vI (p1), vI (p2)] w Q := by
  refine met_I (fun G => [.ref (adG G (this)), vI (p1), vI (p2)]) (by decide) (fun G => Nat.le_of_ble_eq_true rfl) (fun x O hl hm hr => ?_)
  subst hl
  have O : OK x "DowryBoxesModel" cX5_likesOf 6 := O
  have h : wp_X5_likesOf this p1 p2 w Q := h
  unfold wp_X5_likesOf at h
  show J x (TI x Q) w 0 0 0 [(0, .ref (adG (xG x) (this))), (1, vI (p1)), (2, vI (p2))] []
  refine j_aload_n O 0 0 dX5_likesOf_0 rfl rfl ?_
  refine j_iconst O dX5_likesOf_1 ?_
  refine j_iload_n O 1 1 dX5_likesOf_2 rfl rfl ?_
  refine j_iload_n O 2 2 dX5_likesOf_3 rfl rfl ?_
  refine j_aload_n O 0 0 dX5_likesOf_4 rfl rfl ?_
  refine j_iload_n O 1 1 dX5_likesOf_5 rfl rfl ?_
  refine j_iload_n O 2 2 dX5_likesOf_6 rfl rfl ?_
  obtain ⟨e3, h⟩ := h
  refine fin_I O ⟨Nat.zero_le _, Nat.zero_le _⟩ (run_V (As := [vI (p1), vI (p2)]) (st := [vI (p2), vI (p1), vI (1), .ref (adG (xG x) (this))]) O (mt_X5_earOf (xl x) (xG x) _ _ _ _ _ h) e3 cfX5.1 q1817 q1819 qs56 q131 q1820 hy_X5_earOf (Nat.le_of_ble_eq_true rfl) (Nat.le_of_ble_eq_true rfl) ⟨Nat.zero_le _, Nat.zero_le _⟩ rfl (Nat.le_of_ble_eq_true rfl) dX5_likesOf_7) (fun r1 w2 h => ?_)
  refine j_i2l O dX5_likesOf_10 h (fun h => ?_)
  obtain ⟨e6, h⟩ := h
  refine fin_L O ⟨Nat.zero_le _, Nat.zero_le _⟩ (run_V (As := [vI (1), vI (p1), vI (p2), vL (r1)]) (st := []) O (mt_X5_tells (xl x) (xG x) _ _ _ _ _ _ _ h) e6 cfX5.1 q1812 q1814 qs55 q131 q1815 hy_X5_tells (Nat.le_of_ble_eq_true rfl) (Nat.le_of_ble_eq_true rfl) ⟨Nat.zero_le _, Nat.zero_le _⟩ rfl (Nat.le_of_ble_eq_true rfl) dX5_likesOf_11) (fun r4 w5 h => ?_)
  refine j_iconst O dX5_likesOf_14 ?_
  refine j_bipush (m := 99) O dX5_likesOf_15 bi_99 ?_
  refine fin_I O ⟨Nat.zero_le _, Nat.zero_le _⟩ (run_S (As := [vL (r4), vI (0), vI (99)]) (st := []) O (mt_X5_within (xl x) (xG x) _ _ _ _ _ h) q1835 q1836 q131 q1837 hy_X5_within.2 (Nat.le_of_ble_eq_true rfl) (Nat.le_of_ble_eq_true rfl) ⟨Nat.zero_le _, Nat.zero_le _⟩ rfl (Nat.le_of_ble_eq_true rfl) dX5_likesOf_17) (fun r7 w8 h => ?_)
  exact j_iret O hr dX5_likesOf_20 h
theorem hy_X5_layTwos : (yX5_layTwos.cls = "DowryBoxesModel" ∧ yX5_layTwos.cls ≠ "java/lang/invoke/MethodHandle" ∧ yX5_layTwos.cls ≠ "java/lang/invoke/VarHandle" ∧ (parseMethodDescriptor yX5_layTwos.desc).map (fun d => d.parameters.length) = some 0) := by decide +kernel
theorem wk_X5_layTwos_146 {x : Cx} (O : OK x "DowryBoxesModel" cX5_layTwos 7) (hr : (xM x).sig.returnType = none) (hm : xn x = 5) {Q : Wd → Prop} (K2 : Int → Wd → Prop) (K14 : Int → Wd → Prop) (X14 : Wd → Prop) (this : Nat) (x1 : Int) (x2 : Int) (s0 : Int) (s1 : Int) (s2 : Nat) (hK2 : ∀ (y1 : Int) (w : Wd), K2 y1 w → J x (TV x Q) w 0 0 2 [(0, .ref (adG (xG x) (this))), (1, vI (y1))] []) (hK14 : ∀ (y2 : Int) (w : Wd), K14 y2 w → J x (TV x Q) w 0 0 14 [(0, .ref (adG (xG x) (this))), (1, vI (x1)), (2, vI (y2))] []) (hX14 : ∀  (w : Wd), X14  w → J x (TV x Q) w 0 0 153 [(0, .ref (adG (xG x) (this))), (1, vI (x1))] []) (w : Wd) (h : wp_X5_layTwos_146 Q K2 K14 X14 this x1 x2 s0 s1 s2 w) : J x (TV x Q) w 0 0 146 [(0, .ref (adG (xG x) (this))), (1, vI (x1)), (2, vI (x2))] [vI (s0), vI (s1), .ref (adG (xG x) (s2))] := by
  unfold wp_X5_layTwos_146 at h
  refine j_zast O dX5_layTwos_146 h (fun w1 h => ?_)
  refine j_iinc (L' := [(2, vI (x2 + 1)), (0, .ref (adG (xG x) (this))), (1, vI (x1))]) O 2 dX5_layTwos_147 rfl (by rw [hm]; decide) rfl ?_
  refine j_goto O (tgt := 14) dX5_layTwos_150 (by decide) ?_
  exact (J.sub [1, 2, 0] rfl <| hK14 _ _ h)
theorem wk_X5_layTwos_109 {x : Cx} (O : OK x "DowryBoxesModel" cX5_layTwos 7) (hr : (xM x).sig.returnType = none) (hm : xn x = 5) {Q : Wd → Prop} (K2 : Int → Wd → Prop) (K14 : Int → Wd → Prop) (X14 : Wd → Prop) (this : Nat) (x1 : Int) (x2 : Int) (x3 : Int) (s0 : Int) (s1 : Int) (s2 : Nat) (hK2 : ∀ (y1 : Int) (w : Wd), K2 y1 w → J x (TV x Q) w 0 0 2 [(0, .ref (adG (xG x) (this))), (1, vI (y1))] []) (hK14 : ∀ (y2 : Int) (w : Wd), K14 y2 w → J x (TV x Q) w 0 0 14 [(0, .ref (adG (xG x) (this))), (1, vI (x1)), (2, vI (y2))] []) (hX14 : ∀  (w : Wd), X14  w → J x (TV x Q) w 0 0 153 [(0, .ref (adG (xG x) (this))), (1, vI (x1))] []) (w : Wd) (h : wp_X5_layTwos_109 Q K2 K14 X14 this x1 x2 x3 s0 s1 s2 w) : J x (TV x Q) w 0 0 109 [(0, .ref (adG (xG x) (this))), (1, vI (x1)), (2, vI (x2)), (3, vI (x3))] [vI (s0), vI (s1), .ref (adG (xG x) (s2))] := by
  unfold wp_X5_layTwos_109 at h
  refine j_iast O dX5_layTwos_109 h (fun w1 h => ?_)
  refine j_aload_n O 0 0 dX5_layTwos_110 rfl rfl ?_
  refine j_getA O cfX5 43 (Nat.le_of_ble_eq_true rfl) ⟨_, rfl⟩ q1611 dX5_layTwos_111 h (fun k2 h => ?_)
  refine j_bipush (m := 6) O dX5_layTwos_114 bi_6 ?_
  refine j_iload_n O 1 1 dX5_layTwos_116 rfl rfl ?_
  refine j_imul O dX5_layTwos_117 ?_
  refine j_iload_n O 2 2 dX5_layTwos_118 rfl rfl ?_
  refine j_iadd O dX5_layTwos_119 ?_
  refine j_aload_n O 0 0 dX5_layTwos_120 rfl rfl ?_
  refine j_iload_n O 1 1 dX5_layTwos_121 rfl rfl ?_
  refine j_iload_n O 2 2 dX5_layTwos_122 rfl rfl ?_
  obtain ⟨e5, h⟩ := h
  refine fin_I O ⟨Nat.zero_le _, Nat.zero_le _⟩ (run_V (As := [vI (x1), vI (x2)]) (st := [vI ((6 * x1) + x2), .ref (adG (xG x) (k2))]) O (mt_X5_likesOf (xl x) (xG x) _ _ _ _ _ h) e5 cfX5.1 q1879 q1881 qs64 q131 q1882 hy_X5_likesOf (Nat.le_of_ble_eq_true rfl) (Nat.le_of_ble_eq_true rfl) ⟨Nat.zero_le _, Nat.zero_le _⟩ rfl (Nat.le_of_ble_eq_true rfl) dX5_layTwos_123) (fun r3 w4 h => ?_)
  refine j_iast O dX5_layTwos_126 h (fun w6 h => ?_)
  refine j_aload_n O 0 0 dX5_layTwos_127 rfl rfl ?_
  refine j_getA O cfX5 45 (Nat.le_of_ble_eq_true rfl) ⟨_, rfl⟩ q1613 dX5_layTwos_128 h (fun k7 h => ?_)
  refine j_bipush (m := 6) O dX5_layTwos_131 bi_6 ?_
  refine j_iload_n O 1 1 dX5_layTwos_133 rfl rfl ?_
  refine j_imul O dX5_layTwos_134 ?_
  refine j_iload_n O 2 2 dX5_layTwos_135 rfl rfl ?_
  refine j_iadd O dX5_layTwos_136 ?_
  refine j_iload_n O 3 3 dX5_layTwos_137 rfl rfl ?_
  obtain ⟨c8, h⟩ := h
  refine j_if_ne O (tgt := 145) dX5_layTwos_138 (by decide) c8 h (fun h => ?_) (fun h => ?_)
  · refine j_iconst O dX5_layTwos_145 ?_
    exact (J.sub [0, 1, 2] rfl <| wk_X5_layTwos_146 O hr hm _ _ _ _ _ _ _ _ _ hK2 hK14 hX14 _ h)
  · refine j_iconst O dX5_layTwos_141 ?_
    refine j_goto O (tgt := 146) dX5_layTwos_142 (by decide) ?_
    exact (J.sub [0, 1, 2] rfl <| wk_X5_layTwos_146 O hr hm _ _ _ _ _ _ _ _ _ hK2 hK14 hX14 _ h)
theorem wk_X5_layTwos_60 {x : Cx} (O : OK x "DowryBoxesModel" cX5_layTwos 7) (hr : (xM x).sig.returnType = none) (hm : xn x = 5) {Q : Wd → Prop} (K2 : Int → Wd → Prop) (K14 : Int → Wd → Prop) (X14 : Wd → Prop) (this : Nat) (x1 : Int) (x2 : Int) (s0 : Int) (hK2 : ∀ (y1 : Int) (w : Wd), K2 y1 w → J x (TV x Q) w 0 0 2 [(0, .ref (adG (xG x) (this))), (1, vI (y1))] []) (hK14 : ∀ (y2 : Int) (w : Wd), K14 y2 w → J x (TV x Q) w 0 0 14 [(0, .ref (adG (xG x) (this))), (1, vI (x1)), (2, vI (y2))] []) (hX14 : ∀  (w : Wd), X14  w → J x (TV x Q) w 0 0 153 [(0, .ref (adG (xG x) (this))), (1, vI (x1))] []) (w : Wd) (h : wp_X5_layTwos_60 Q K2 K14 X14 this x1 x2 s0 w) : J x (TV x Q) w 0 0 60 [(0, .ref (adG (xG x) (this))), (1, vI (x1)), (2, vI (x2))] [vI (s0)] := by
  unfold wp_X5_layTwos_60 at h
  refine j_istore_n (L' := [(3, vI (s0)), (0, .ref (adG (xG x) (this))), (1, vI (x1)), (2, vI (x2))]) O 3 dX5_layTwos_60 rfl (by rw [hm]; decide) rfl ?_
  refine j_aload_n O 1 0 dX5_layTwos_61 rfl rfl ?_
  refine j_iload_n O 2 1 dX5_layTwos_62 rfl rfl ?_
  obtain ⟨e3, h⟩ := h
  refine fin_I O ⟨Nat.zero_le _, Nat.zero_le _⟩ (run_V (As := [vI (x1)]) (st := []) O (mt_X5_lastsOf (xl x) (xG x) _ _ _ _ h) e3 cfX5.1 q1808 q1810 qs54 q131 q1811 hy_X5_lastsOf (Nat.le_of_ble_eq_true rfl) (Nat.le_of_ble_eq_true rfl) ⟨Nat.zero_le _, Nat.zero_le _⟩ rfl (Nat.le_of_ble_eq_true rfl) dX5_layTwos_63) (fun r1 w2 h => ?_)
  refine j_aload_n O 1 0 dX5_layTwos_66 rfl rfl ?_
  refine j_getA O cfX5 3 (Nat.le_of_ble_eq_true rfl) ⟨_, rfl⟩ q1571 dX5_layTwos_67 h (fun k4 h => ?_)
  refine j_bipush (m := 86) O dX5_layTwos_70 bi_86 ?_
  refine j_iload_n O 3 2 dX5_layTwos_72 rfl rfl ?_
  refine j_iadd O dX5_layTwos_73 ?_
  refine j_iald O dX5_layTwos_74 h (fun v5 h => ?_)
  refine j_isub O dX5_layTwos_75 ?_
  refine j_istore (L' := [(4, vI (r1 - v5)), (3, vI (s0)), (0, .ref (adG (xG x) (this))), (1, vI (x1)), (2, vI (x2))]) O dX5_layTwos_76 (by rw [hm]; decide) rfl ?_
  refine j_aload_n O 2 0 dX5_layTwos_78 rfl rfl ?_
  refine j_getA O cfX5 42 (Nat.le_of_ble_eq_true rfl) ⟨_, rfl⟩ q1610 dX5_layTwos_79 h (fun k6 h => ?_)
  refine j_bipush (m := 6) O dX5_layTwos_82 bi_6 ?_
  refine j_iload_n O 3 1 dX5_layTwos_84 rfl rfl ?_
  refine j_imul O dX5_layTwos_85 ?_
  refine j_iload_n O 4 2 dX5_layTwos_86 rfl rfl ?_
  refine j_iadd O dX5_layTwos_87 ?_
  refine j_iload_n O 1 3 dX5_layTwos_88 rfl rfl ?_
  obtain ⟨c7, h⟩ := h
  refine j_if_eq O (tgt := 108) dX5_layTwos_89 (by decide) c7 h (fun h => ?_) (fun h => ?_)
  · refine j_iconst O dX5_layTwos_108 ?_
    exact (J.sub [2, 3, 4, 1] rfl <| wk_X5_layTwos_109 O hr hm _ _ _ _ _ _ _ _ _ _ hK2 hK14 hX14 _ h)
  · refine j_iload O 0 dX5_layTwos_92 rfl ?_
    obtain ⟨c8, h⟩ := h
    refine j_if_ge O (tgt := 103) dX5_layTwos_94 (by decide) c8 h (fun h => ?_) (fun h => ?_)
    · refine j_iload O 0 dX5_layTwos_103 rfl ?_
      refine j_goto O (tgt := 109) dX5_layTwos_105 (by decide) ?_
      exact (J.sub [2, 3, 4, 1] rfl <| wk_X5_layTwos_109 O hr hm _ _ _ _ _ _ _ _ _ _ hK2 hK14 hX14 _ h)
    · refine j_iload O 0 dX5_layTwos_97 rfl ?_
      refine j_ineg O dX5_layTwos_99 ?_
      refine j_goto O (tgt := 109) dX5_layTwos_100 (by decide) ?_
      exact (J.sub [2, 3, 4, 1] rfl <| wk_X5_layTwos_109 O hr hm _ _ _ _ _ _ _ _ _ _ hK2 hK14 hX14 _ h)
theorem wk_X5_layTwos_59 {x : Cx} (O : OK x "DowryBoxesModel" cX5_layTwos 7) (hr : (xM x).sig.returnType = none) (hm : xn x = 5) {Q : Wd → Prop} (K2 : Int → Wd → Prop) (K14 : Int → Wd → Prop) (X14 : Wd → Prop) (this : Nat) (x1 : Int) (x2 : Int) (hK2 : ∀ (y1 : Int) (w : Wd), K2 y1 w → J x (TV x Q) w 0 0 2 [(0, .ref (adG (xG x) (this))), (1, vI (y1))] []) (hK14 : ∀ (y2 : Int) (w : Wd), K14 y2 w → J x (TV x Q) w 0 0 14 [(0, .ref (adG (xG x) (this))), (1, vI (x1)), (2, vI (y2))] []) (hX14 : ∀  (w : Wd), X14  w → J x (TV x Q) w 0 0 153 [(0, .ref (adG (xG x) (this))), (1, vI (x1))] []) (w : Wd) (h : wp_X5_layTwos_59 Q K2 K14 X14 this x1 x2 w) : J x (TV x Q) w 0 0 59 [(0, .ref (adG (xG x) (this))), (1, vI (x1)), (2, vI (x2))] [] := by
  unfold wp_X5_layTwos_59 at h
  refine j_iconst O dX5_layTwos_59 ?_
  exact (J.sub [0, 1, 2] rfl <| wk_X5_layTwos_60 O hr hm _ _ _ _ _ _ _ hK2 hK14 hX14 _ h)
theorem wk_X5_layTwos_14 {x : Cx} (O : OK x "DowryBoxesModel" cX5_layTwos 7) (hr : (xM x).sig.returnType = none) (hm : xn x = 5) {Q : Wd → Prop} (K2 : Int → Wd → Prop) (X14 : Wd → Prop) (this : Nat) (x1 : Int) (hK2 : ∀ (y1 : Int) (w : Wd), K2 y1 w → J x (TV x Q) w 0 0 2 [(0, .ref (adG (xG x) (this))), (1, vI (y1))] []) (hX14 : ∀  (w : Wd), X14  w → J x (TV x Q) w 0 0 153 [(0, .ref (adG (xG x) (this))), (1, vI (x1))] []) : ∀ (n : Nat) (x2 : Int) (w : Wd), wp_X5_layTwos_14 Q K2 X14 this x1 n x2 w → J x (TV x Q) w 0 0 14 [(0, .ref (adG (xG x) (this))), (1, vI (x1)), (2, vI (x2))] [] := by
  intro n
  induction n with
  | zero => intro x2 w h; exact False.elim h
  | succ n ih =>
    intro x2 w h
    rw [wp_X5_layTwos_14] at h
    refine j_iload_n O 2 2 dX5_layTwos_14 rfl rfl ?_
    refine j_aload_n O 0 0 dX5_layTwos_15 rfl rfl ?_
    refine j_getA O cfX5 3 (Nat.le_of_ble_eq_true rfl) ⟨_, rfl⟩ q1571 dX5_layTwos_16 h (fun k1 h => ?_)
    refine j_iconst O dX5_layTwos_19 ?_
    refine j_iald O dX5_layTwos_20 h (fun v2 h => ?_)
    obtain ⟨c3, h⟩ := h
    obtain ⟨c4, h⟩ := h
    refine j_icmp_ge O (tgt := 153) dX5_layTwos_21 (by decide) c3 c4 h (fun h => ?_) (fun h => ?_)
    · exact (J.sub [0, 1] rfl <| hX14  _ h)
    · refine j_aload_n O 0 0 dX5_layTwos_24 rfl rfl ?_
      refine j_getA O cfX5 3 (Nat.le_of_ble_eq_true rfl) ⟨_, rfl⟩ q1571 dX5_layTwos_25 h (fun k5 h => ?_)
      refine j_bipush (m := 68) O dX5_layTwos_28 bi_68 ?_
      refine j_iload_n O 1 1 dX5_layTwos_30 rfl rfl ?_
      refine j_iadd O dX5_layTwos_31 ?_
      refine j_iald O dX5_layTwos_32 h (fun v6 h => ?_)
      refine j_iconst O dX5_layTwos_33 ?_
      obtain ⟨c7, h⟩ := h
      refine j_icmp_ne O (tgt := 59) dX5_layTwos_34 (by decide) c7 (by decide) h (fun h => ?_) (fun h => ?_)
      · exact (J.sub [0, 1, 2] rfl <| wk_X5_layTwos_59 O hr hm _ _ _ _ _ _ hK2 ih hX14 _ h)
      · refine j_aload_n O 0 0 dX5_layTwos_37 rfl rfl ?_
        refine j_iload_n O 2 2 dX5_layTwos_38 rfl rfl ?_
        obtain ⟨e10, h⟩ := h
        refine fin_I O ⟨Nat.zero_le _, Nat.zero_le _⟩ (run_V (As := [vI (x2)]) (st := []) O (mt_X5_boxOf (xl x) (xG x) _ _ _ _ h) e10 cfX5.1 q1871 q1873 qs63 q131 q1874 hy_X5_boxOf (Nat.le_of_ble_eq_true rfl) (Nat.le_of_ble_eq_true rfl) ⟨Nat.zero_le _, Nat.zero_le _⟩ rfl (Nat.le_of_ble_eq_true rfl) dX5_layTwos_39) (fun r8 w9 h => ?_)
        refine j_iconst O dX5_layTwos_42 ?_
        obtain ⟨c11, h⟩ := h
        refine j_icmp_ne O (tgt := 59) dX5_layTwos_43 (by decide) c11 (by decide) h (fun h => ?_) (fun h => ?_)
        · exact (J.sub [0, 1, 2] rfl <| wk_X5_layTwos_59 O hr hm _ _ _ _ _ _ hK2 ih hX14 _ h)
        · refine j_aload_n O 0 0 dX5_layTwos_46 rfl rfl ?_
          refine j_iload_n O 1 1 dX5_layTwos_47 rfl rfl ?_
          refine j_iload_n O 2 2 dX5_layTwos_48 rfl rfl ?_
          obtain ⟨e14, h⟩ := h
          refine fin_I O ⟨Nat.zero_le _, Nat.zero_le _⟩ (run_V (As := [vI (x1), vI (x2)]) (st := []) O (mt_X5_isBarred (xl x) (xG x) _ _ _ _ _ h) e14 cfX5.1 q1883 q1885 qs65 q131 q1886 hy_X5_isBarred (Nat.le_of_ble_eq_true rfl) (Nat.le_of_ble_eq_true rfl) ⟨Nat.zero_le _, Nat.zero_le _⟩ rfl (Nat.le_of_ble_eq_true rfl) dX5_layTwos_49) (fun r12 w13 h => ?_)
          obtain ⟨c15, h⟩ := h
          refine j_if_ne O (tgt := 59) dX5_layTwos_52 (by decide) c15 h (fun h => ?_) (fun h => ?_)
          · exact (J.sub [0, 1, 2] rfl <| wk_X5_layTwos_59 O hr hm _ _ _ _ _ _ hK2 ih hX14 _ h)
          · refine j_iconst O dX5_layTwos_55 ?_
            refine j_goto O (tgt := 60) dX5_layTwos_56 (by decide) ?_
            exact (J.sub [0, 1, 2] rfl <| wk_X5_layTwos_60 O hr hm _ _ _ _ _ _ _ hK2 ih hX14 _ h)
theorem wk_X5_layTwos_2 {x : Cx} (O : OK x "DowryBoxesModel" cX5_layTwos 7) (hr : (xM x).sig.returnType = none) (hm : xn x = 5) {Q : Wd → Prop} (this : Nat) : ∀ (n : Nat) (x1 : Int) (w : Wd), wp_X5_layTwos_2 Q this n x1 w → J x (TV x Q) w 0 0 2 [(0, .ref (adG (xG x) (this))), (1, vI (x1))] [] := by
  intro n
  induction n with
  | zero => intro x1 w h; exact False.elim h
  | succ n ih =>
    intro x1 w h
    rw [wp_X5_layTwos_2] at h
    refine j_iload_n O 1 1 dX5_layTwos_2 rfl rfl ?_
    refine j_aload_n O 0 0 dX5_layTwos_3 rfl rfl ?_
    refine j_getA O cfX5 3 (Nat.le_of_ble_eq_true rfl) ⟨_, rfl⟩ q1571 dX5_layTwos_4 h (fun k1 h => ?_)
    refine j_iconst O dX5_layTwos_7 ?_
    refine j_iald O dX5_layTwos_8 h (fun v2 h => ?_)
    obtain ⟨c3, h⟩ := h
    obtain ⟨c4, h⟩ := h
    refine j_icmp_ge O (tgt := 159) dX5_layTwos_9 (by decide) c3 c4 h (fun h => ?_) (fun h => ?_)
    · exact j_vret O hr dX5_layTwos_159 h
    · refine j_iconst O dX5_layTwos_12 ?_
      refine j_istore_n (L' := [(2, vI (0)), (0, .ref (adG (xG x) (this))), (1, vI (x1))]) O 2 dX5_layTwos_13 rfl (by rw [hm]; decide) rfl ?_
      refine (J.sub [1, 2, 0] rfl <| wk_X5_layTwos_14 O hr hm _ _ _ _ ih (fun w5 h => ?_) FU _ _ h)
      refine j_iinc (L' := [(1, vI (x1 + 1)), (0, .ref (adG (xG x) (this)))]) O 1 dX5_layTwos_153 rfl (by rw [hm]; decide) rfl ?_
      refine j_goto O (tgt := 2) dX5_layTwos_156 (by decide) ?_
      exact (J.sub [1, 0] rfl <| ih _ _ h)
theorem mt_X5_layTwos (l : Launch) (G : GW) (this : Nat) (w : Wd) (Q : Wd → Prop) (h : wp_X5_layTwos this w Q) : MV l G yX5_layTwos cX5_layTwos 5 7 0 0 [.ref (adG G (this))] w Q := by
  refine met_V (fun G => [.ref (adG G (this))]) (by decide) (fun G => Nat.le_of_ble_eq_true rfl) (fun x O hl hm hr _ => ?_)
  subst hl
  have O : OK x "DowryBoxesModel" cX5_layTwos 7 := O
  have h : wp_X5_layTwos this w Q := h
  unfold wp_X5_layTwos at h
  show J x (TV x Q) w 0 0 0 [(0, .ref (adG (xG x) (this)))] []
  refine j_iconst O dX5_layTwos_0 ?_
  refine j_istore_n (L' := [(1, vI (0)), (0, .ref (adG (xG x) (this)))]) O 1 dX5_layTwos_1 rfl (by rw [hm]; decide) rfl ?_
  exact (J.sub [1, 0] rfl <| wk_X5_layTwos_2 O hr hm  _  FU _ _ h)
theorem hy_X5_layAbout : (yX5_layAbout.cls = "DowryBoxesModel" ∧ yX5_layAbout.cls ≠ "java/lang/invoke/MethodHandle" ∧ yX5_layAbout.cls ≠ "java/lang/invoke/VarHandle" ∧ (parseMethodDescriptor yX5_layAbout.desc).map (fun d => d.parameters.length) = some 1) := by decide +kernel
theorem wk_X5_layAbout_101 {x : Cx} (O : OK x "DowryBoxesModel" cX5_layAbout 8) (hr : (xM x).sig.returnType = none) (hm : xn x = 7) {Q : Wd → Prop} (K11 : Int → Wd → Prop) (K17 : Int → Wd → Prop) (X17 : Wd → Prop) (K55 : Int → Int → Wd → Prop) (X55 : Int → Wd → Prop) (this : Nat) (x1 : Int) (x2 : Int) (x3 : Int) (x5 : Int) (s0 : Int) (hK11 : ∀ (y2 : Int) (w : Wd), K11 y2 w → J x (TV x Q) w 0 0 11 [(0, .ref (adG (xG x) (this))), (1, vI (x1)), (2, vI (y2))] []) (hK17 : ∀ (y3 : Int) (w : Wd), K17 y3 w → J x (TV x Q) w 0 0 17 [(0, .ref (adG (xG x) (this))), (1, vI (x1)), (2, vI (x2)), (3, vI (y3))] []) (hX17 : ∀  (w : Wd), X17  w → J x (TV x Q) w 0 0 128 [(0, .ref (adG (xG x) (this))), (1, vI (x1)), (2, vI (x2))] []) (hK55 : ∀ (y4 : Int) (y5 : Int) (w : Wd), K55 y4 y5 w → J x (TV x Q) w 0 0 55 [(0, .ref (adG (xG x) (this))), (1, vI (x1)), (2, vI (x2)), (3, vI (x3)), (4, vI (y4)), (5, vI (y5))] []) (hX55 : ∀ (y4 : Int) (w : Wd), X55 y4 w → J x (TV x Q) w 0 0 109 [(0, .ref (adG (xG x) (this))), (1, vI (x1)), (2, vI (x2)), (3, vI (x3)), (4, vI (y4))] []) (w : Wd) (h : wp_X5_layAbout_101 Q K11 K17 X17 K55 X55 this x1 x2 x3 x5 s0 w) : J x (TV x Q) w 0 0 101 [(0, .ref (adG (xG x) (this))), (1, vI (x1)), (2, vI (x2)), (3, vI (x3)), (5, vI (x5))] [vI (s0)] := by
  unfold wp_X5_layAbout_101 at h
  refine j_istore (L' := [(4, vI (s0)), (0, .ref (adG (xG x) (this))), (1, vI (x1)), (2, vI (x2)), (3, vI (x3)), (5, vI (x5))]) O dX5_layAbout_101 (by rw [hm]; decide) rfl ?_
  refine j_iinc (L' := [(5, vI (x5 + 1)), (4, vI (s0)), (0, .ref (adG (xG x) (this))), (1, vI (x1)), (2, vI (x2)), (3, vI (x3))]) O 5 dX5_layAbout_103 rfl (by rw [hm]; decide) rfl ?_
  refine j_goto O (tgt := 55) dX5_layAbout_106 (by decide) ?_
  exact (J.sub [2, 3, 4, 5, 1, 0] rfl <| hK55 _ _ _ h)
theorem wk_X5_layAbout_55 {x : Cx} (O : OK x "DowryBoxesModel" cX5_layAbout 8) (hr : (xM x).sig.returnType = none) (hm : xn x = 7) {Q : Wd → Prop} (K11 : Int → Wd → Prop) (K17 : Int → Wd → Prop) (X17 : Wd → Prop) (X55 : Int → Wd → Prop) (this : Nat) (x1 : Int) (x2 : Int) (x3 : Int) (hK11 : ∀ (y2 : Int) (w : Wd), K11 y2 w → J x (TV x Q) w 0 0 11 [(0, .ref (adG (xG x) (this))), (1, vI (x1)), (2, vI (y2))] []) (hK17 : ∀ (y3 : Int) (w : Wd), K17 y3 w → J x (TV x Q) w 0 0 17 [(0, .ref (adG (xG x) (this))), (1, vI (x1)), (2, vI (x2)), (3, vI (y3))] []) (hX17 : ∀  (w : Wd), X17  w → J x (TV x Q) w 0 0 128 [(0, .ref (adG (xG x) (this))), (1, vI (x1)), (2, vI (x2))] []) (hX55 : ∀ (y4 : Int) (w : Wd), X55 y4 w → J x (TV x Q) w 0 0 109 [(0, .ref (adG (xG x) (this))), (1, vI (x1)), (2, vI (x2)), (3, vI (x3)), (4, vI (y4))] []) : ∀ (n : Nat) (x4 : Int) (x5 : Int) (w : Wd), wp_X5_layAbout_55 Q K11 K17 X17 X55 this x1 x2 x3 n x4 x5 w → J x (TV x Q) w 0 0 55 [(0, .ref (adG (xG x) (this))), (1, vI (x1)), (2, vI (x2)), (3, vI (x3)), (4, vI (x4)), (5, vI (x5))] [] := by
  intro n
  induction n with
  | zero => intro x4 x5 w h; exact False.elim h
  | succ n ih =>
    intro x4 x5 w h
    rw [wp_X5_layAbout_55] at h
    refine j_iload O 5 dX5_layAbout_55 rfl ?_
    refine j_aload_n O 0 0 dX5_layAbout_57 rfl rfl ?_
    refine j_getA O cfX5 3 (Nat.le_of_ble_eq_true rfl) ⟨_, rfl⟩ q1571 dX5_layAbout_58 h (fun k1 h => ?_)
    refine j_iconst O dX5_layAbout_61 ?_
    refine j_iald O dX5_layAbout_62 h (fun v2 h => ?_)
    obtain ⟨c3, h⟩ := h
    obtain ⟨c4, h⟩ := h
    refine j_icmp_ge O (tgt := 109) dX5_layAbout_63 (by decide) c3 c4 h (fun h => ?_) (fun h => ?_)
    · exact (J.sub [0, 1, 2, 3, 4] rfl <| hX55 _ _ h)
    · refine j_iload_n O 2 2 dX5_layAbout_66 rfl rfl ?_
      refine j_aload_n O 0 0 dX5_layAbout_67 rfl rfl ?_
      refine j_getA O cfX5 3 (Nat.le_of_ble_eq_true rfl) ⟨_, rfl⟩ q1571 dX5_layAbout_68 h (fun k5 h => ?_)
      refine j_iconst O dX5_layAbout_71 ?_
      refine j_iald O dX5_layAbout_72 h (fun v6 h => ?_)
      obtain ⟨c7, h⟩ := h
      obtain ⟨c8, h⟩ := h
      refine j_icmp_ge O (tgt := 109) dX5_layAbout_73 (by decide) c7 c8 h (fun h => ?_) (fun h => ?_)
      · exact (J.sub [0, 1, 2, 3, 4] rfl <| hX55 _ _ h)
      · refine j_aload_n O 0 0 dX5_layAbout_76 rfl rfl ?_
        refine j_iload_n O 2 2 dX5_layAbout_77 rfl rfl ?_
        refine j_iload_n O 3 3 dX5_layAbout_78 rfl rfl ?_
        refine j_iload O 5 dX5_layAbout_79 rfl ?_
        refine j_iload_n O 1 1 dX5_layAbout_81 rfl rfl ?_
        obtain ⟨e11, h⟩ := h
        refine fin_I O ⟨Nat.zero_le _, Nat.zero_le _⟩ (run_V (As := [vI (x2), vI (x3), vI (x5), vI (x1)]) (st := []) O (mt_X5_withSuitor (xl x) (xG x) _ _ _ _ _ _ _ h) e11 cfX5.1 q2144 q2146 qs105 q131 q2147 hy_X5_withSuitor (Nat.le_of_ble_eq_true rfl) (Nat.le_of_ble_eq_true rfl) ⟨Nat.zero_le _, Nat.zero_le _⟩ rfl (Nat.le_of_ble_eq_true rfl) dX5_layAbout_82) (fun r9 w10 h => ?_)
        refine j_istore (L' := [(6, vI (r9)), (0, .ref (adG (xG x) (this))), (1, vI (x1)), (2, vI (x2)), (3, vI (x3)), (4, vI (x4)), (5, vI (x5))]) O dX5_layAbout_85 (by rw [hm]; decide) rfl ?_
        refine j_iload O 0 dX5_layAbout_87 rfl ?_
        refine j_iload O 5 dX5_layAbout_89 rfl ?_
        obtain ⟨c12, h⟩ := h
        obtain ⟨c13, h⟩ := h
        refine j_icmp_le O (tgt := 99) dX5_layAbout_91 (by decide) c12 c13 h (fun h => ?_) (fun h => ?_)
        · refine j_iload O 5 dX5_layAbout_99 rfl ?_
          exact (J.sub [1, 2, 3, 4, 6] rfl <| wk_X5_layAbout_101 O hr hm _ _ _ _ _ _ _ _ _ _ _ hK11 hK17 hX17 ih hX55 _ h)
        · refine j_iload O 0 dX5_layAbout_94 rfl ?_
          refine j_goto O (tgt := 101) dX5_layAbout_96 (by decide) ?_
          exact (J.sub [1, 2, 3, 4, 6] rfl <| wk_X5_layAbout_101 O hr hm _ _ _ _ _ _ _ _ _ _ _ hK11 hK17 hX17 ih hX55 _ h)
theorem wk_X5_layAbout_109 {x : Cx} (O : OK x "DowryBoxesModel" cX5_layAbout 8) (hr : (xM x).sig.returnType = none) (hm : xn x = 7) {Q : Wd → Prop} (K11 : Int → Wd → Prop) (K17 : Int → Wd → Prop) (X17 : Wd → Prop) (this : Nat) (x1 : Int) (x2 : Int) (x3 : Int) (x4 : Int) (hK11 : ∀ (y2 : Int) (w : Wd), K11 y2 w → J x (TV x Q) w 0 0 11 [(0, .ref (adG (xG x) (this))), (1, vI (x1)), (2, vI (y2))] []) (hK17 : ∀ (y3 : Int) (w : Wd), K17 y3 w → J x (TV x Q) w 0 0 17 [(0, .ref (adG (xG x) (this))), (1, vI (x1)), (2, vI (x2)), (3, vI (y3))] []) (hX17 : ∀  (w : Wd), X17  w → J x (TV x Q) w 0 0 128 [(0, .ref (adG (xG x) (this))), (1, vI (x1)), (2, vI (x2))] []) (w : Wd) (h : wp_X5_layAbout_109 Q K11 K17 X17 this x1 x2 x3 x4 w) : J x (TV x Q) w 0 0 109 [(0, .ref (adG (xG x) (this))), (1, vI (x1)), (2, vI (x2)), (3, vI (x3)), (4, vI (x4))] [] := by
  unfold wp_X5_layAbout_109 at h
  refine j_aload_n O 0 0 dX5_layAbout_109 rfl rfl ?_
  refine j_getA O cfX5 46 (Nat.le_of_ble_eq_true rfl) ⟨_, rfl⟩ q1614 dX5_layAbout_110 h (fun k1 h => ?_)
  refine j_bipush (m := 64) O dX5_layAbout_113 bi_64 ?_
  refine j_iload_n O 2 2 dX5_layAbout_115 rfl rfl ?_
  refine j_imul O dX5_layAbout_116 ?_
  refine j_iload_n O 3 3 dX5_layAbout_117 rfl rfl ?_
  refine j_iadd O dX5_layAbout_118 ?_
  refine j_iload O 4 dX5_layAbout_119 rfl ?_
  refine j_iast O dX5_layAbout_121 h (fun w2 h => ?_)
  refine j_iinc (L' := [(3, vI (x3 + 1)), (0, .ref (adG (xG x) (this))), (1, vI (x1)), (2, vI (x2)), (4, vI (x4))]) O 3 dX5_layAbout_122 rfl (by rw [hm]; decide) rfl ?_
  refine j_goto O (tgt := 17) dX5_layAbout_125 (by decide) ?_
  exact (J.sub [1, 2, 3, 0] rfl <| hK17 _ _ h)
theorem wk_X5_layAbout_50 {x : Cx} (O : OK x "DowryBoxesModel" cX5_layAbout 8) (hr : (xM x).sig.returnType = none) (hm : xn x = 7) {Q : Wd → Prop} (K11 : Int → Wd → Prop) (K17 : Int → Wd → Prop) (X17 : Wd → Prop) (this : Nat) (x1 : Int) (x2 : Int) (x3 : Int) (s0 : Int) (hK11 : ∀ (y2 : Int) (w : Wd), K11 y2 w → J x (TV x Q) w 0 0 11 [(0, .ref (adG (xG x) (this))), (1, vI (x1)), (2, vI (y2))] []) (hK17 : ∀ (y3 : Int) (w : Wd), K17 y3 w → J x (TV x Q) w 0 0 17 [(0, .ref (adG (xG x) (this))), (1, vI (x1)), (2, vI (x2)), (3, vI (y3))] []) (hX17 : ∀  (w : Wd), X17  w → J x (TV x Q) w 0 0 128 [(0, .ref (adG (xG x) (this))), (1, vI (x1)), (2, vI (x2))] []) (w : Wd) (h : wp_X5_layAbout_50 Q K11 K17 X17 this x1 x2 x3 s0 w) : J x (TV x Q) w 0 0 50 [(0, .ref (adG (xG x) (this))), (1, vI (x1)), (2, vI (x2)), (3, vI (x3))] [vI (s0)] := by
  unfold wp_X5_layAbout_50 at h
  refine j_istore (L' := [(4, vI (s0)), (0, .ref (adG (xG x) (this))), (1, vI (x1)), (2, vI (x2)), (3, vI (x3))]) O dX5_layAbout_50 (by rw [hm]; decide) rfl ?_
  refine j_iconst O dX5_layAbout_52 ?_
  refine j_istore (L' := [(5, vI (0)), (4, vI (s0)), (0, .ref (adG (xG x) (this))), (1, vI (x1)), (2, vI (x2)), (3, vI (x3))]) O dX5_layAbout_53 (by rw [hm]; decide) rfl ?_
  refine (J.sub [2, 3, 4, 5, 1, 0] rfl <| wk_X5_layAbout_55 O hr hm _ _ _ _ _ _ _ _ hK11 hK17 hX17 (fun z1 w2 h => ?_) FU _ _ _ h)
  exact (J.sub [0, 1, 2, 3, 4] rfl <| wk_X5_layAbout_109 O hr hm _ _ _ _ _ _ _ _ hK11 hK17 hX17 _ h)
theorem wk_X5_layAbout_17 {x : Cx} (O : OK x "DowryBoxesModel" cX5_layAbout 8) (hr : (xM x).sig.returnType = none) (hm : xn x = 7) {Q : Wd → Prop} (K11 : Int → Wd → Prop) (X17 : Wd → Prop) (this : Nat) (x1 : Int) (x2 : Int) (hK11 : ∀ (y2 : Int) (w : Wd), K11 y2 w → J x (TV x Q) w 0 0 11 [(0, .ref (adG (xG x) (this))), (1, vI (x1)), (2, vI (y2))] []) (hX17 : ∀  (w : Wd), X17  w → J x (TV x Q) w 0 0 128 [(0, .ref (adG (xG x) (this))), (1, vI (x1)), (2, vI (x2))] []) : ∀ (n : Nat) (x3 : Int) (w : Wd), wp_X5_layAbout_17 Q K11 X17 this x1 x2 n x3 w → J x (TV x Q) w 0 0 17 [(0, .ref (adG (xG x) (this))), (1, vI (x1)), (2, vI (x2)), (3, vI (x3))] [] := by
  intro n
  induction n with
  | zero => intro x3 w h; exact False.elim h
  | succ n ih =>
    intro x3 w h
    rw [wp_X5_layAbout_17] at h
    refine j_iload_n O 3 3 dX5_layAbout_17 rfl rfl ?_
    refine j_bipush (m := 64) O dX5_layAbout_18 bi_64 ?_
    obtain ⟨c1, h⟩ := h
    refine j_icmp_ge O (tgt := 128) dX5_layAbout_20 (by decide) c1 (by decide) h (fun h => ?_) (fun h => ?_)
    · exact (J.sub [0, 1, 2] rfl <| hX17  _ h)
    · refine j_iload_n O 2 2 dX5_layAbout_23 rfl rfl ?_
      refine j_aload_n O 0 0 dX5_layAbout_24 rfl rfl ?_
      refine j_getA O cfX5 3 (Nat.le_of_ble_eq_true rfl) ⟨_, rfl⟩ q1571 dX5_layAbout_25 h (fun k2 h => ?_)
      refine j_iconst O dX5_layAbout_28 ?_
      refine j_iald O dX5_layAbout_29 h (fun v3 h => ?_)
      obtain ⟨c4, h⟩ := h
      obtain ⟨c5, h⟩ := h
      refine j_icmp_ne O (tgt := 37) dX5_layAbout_30 (by decide) c4 c5 h (fun h => ?_) (fun h => ?_)
      · refine j_aload_n O 0 0 dX5_layAbout_37 rfl rfl ?_
        refine j_getA O cfX5 46 (Nat.le_of_ble_eq_true rfl) ⟨_, rfl⟩ q1614 dX5_layAbout_38 h (fun k6 h => ?_)
        refine j_bipush (m := 64) O dX5_layAbout_41 bi_64 ?_
        refine j_iload_n O 2 2 dX5_layAbout_43 rfl rfl ?_
        refine j_iconst O dX5_layAbout_44 ?_
        refine j_iadd O dX5_layAbout_45 ?_
        refine j_imul O dX5_layAbout_46 ?_
        refine j_iload_n O 3 3 dX5_layAbout_47 rfl rfl ?_
        refine j_iadd O dX5_layAbout_48 ?_
        refine j_iald O dX5_layAbout_49 h (fun v7 h => ?_)
        exact (J.sub [0, 1, 2, 3] rfl <| wk_X5_layAbout_50 O hr hm _ _ _ _ _ _ _ _ hK11 ih hX17 _ h)
      · refine j_iconst O dX5_layAbout_33 ?_
        refine j_goto O (tgt := 50) dX5_layAbout_34 (by decide) ?_
        exact (J.sub [0, 1, 2, 3] rfl <| wk_X5_layAbout_50 O hr hm _ _ _ _ _ _ _ _ hK11 ih hX17 _ h)
theorem wk_X5_layAbout_11 {x : Cx} (O : OK x "DowryBoxesModel" cX5_layAbout 8) (hr : (xM x).sig.returnType = none) (hm : xn x = 7) {Q : Wd → Prop} (this : Nat) (x1 : Int) : ∀ (n : Nat) (x2 : Int) (w : Wd), wp_X5_layAbout_11 Q this x1 n x2 w → J x (TV x Q) w 0 0 11 [(0, .ref (adG (xG x) (this))), (1, vI (x1)), (2, vI (x2))] [] := by
  intro n
  induction n with
  | zero => intro x2 w h; exact False.elim h
  | succ n ih =>
    intro x2 w h
    rw [wp_X5_layAbout_11] at h
    refine j_iload_n O 2 2 dX5_layAbout_11 rfl rfl ?_
    obtain ⟨c1, h⟩ := h
    refine j_if_lt O (tgt := 134) dX5_layAbout_12 (by decide) c1 h (fun h => ?_) (fun h => ?_)
    · exact j_vret O hr dX5_layAbout_134 h
    · refine j_iconst O dX5_layAbout_15 ?_
      refine j_istore_n (L' := [(3, vI (0)), (0, .ref (adG (xG x) (this))), (1, vI (x1)), (2, vI (x2))]) O 3 dX5_layAbout_16 rfl (by rw [hm]; decide) rfl ?_
      refine (J.sub [1, 2, 3, 0] rfl <| wk_X5_layAbout_17 O hr hm _ _ _ _ _ ih (fun w2 h => ?_) FU _ _ h)
      refine j_iinc (L' := [(2, vI (x2 + (-1))), (0, .ref (adG (xG x) (this))), (1, vI (x1))]) O 2 dX5_layAbout_128 rfl (by rw [hm]; decide) rfl ?_
      refine j_goto O (tgt := 11) dX5_layAbout_131 (by decide) ?_
      exact (J.sub [1, 2, 0] rfl <| ih _ _ h)
theorem mt_X5_layAbout (l : Launch) (G : GW) (this : Nat) (p1 : Int) (w : Wd) (Q : Wd → Prop) (h : wp_X5_layAbout this p1 w Q) : MV l G yX5_layAbout cX5_layAbout 7 8 0 0 [.ref (adG G (this)), vI (p1)] w Q := by
  refine met_V (fun G => [.ref (adG G (this)), vI (p1)]) (by decide) (fun G => Nat.le_of_ble_eq_true rfl) (fun x O hl hm hr _ => ?_)
  subst hl
  have O : OK x "DowryBoxesModel" cX5_layAbout 8 := O
  have h : wp_X5_layAbout this p1 w Q := h
  unfold wp_X5_layAbout at h
  show J x (TV x Q) w 0 0 0 [(0, .ref (adG (xG x) (this))), (1, vI (p1))] []
  refine j_aload_n O 0 0 dX5_layAbout_0 rfl rfl ?_
  obtain ⟨e2, h⟩ := h
  refine fin_V O ⟨Nat.zero_le _, Nat.zero_le _⟩ (run_V (As := []) (st := []) O (mt_X5_layTwos (xl x) (xG x) _ _ _ h) e2 cfX5.1 q2124 q2126 qs101 q131 q2127 hy_X5_layTwos (Nat.le_of_ble_eq_true rfl) (Nat.le_of_ble_eq_true rfl) ⟨Nat.zero_le _, Nat.zero_le _⟩ rfl (Nat.le_of_ble_eq_true rfl) dX5_layAbout_1) (fun w1 h => ?_)
  refine j_aload_n O 0 0 dX5_layAbout_4 rfl rfl ?_
  refine j_getA O cfX5 3 (Nat.le_of_ble_eq_true rfl) ⟨_, rfl⟩ q1571 dX5_layAbout_5 h (fun k3 h => ?_)
  refine j_iconst O dX5_layAbout_8 ?_
  refine j_iald O dX5_layAbout_9 h (fun v4 h => ?_)
  refine j_istore_n (L' := [(2, vI (v4)), (0, .ref (adG (xG x) (this))), (1, vI (p1))]) O 2 dX5_layAbout_10 rfl (by rw [hm]; decide) rfl ?_
  exact (J.sub [1, 2, 0] rfl <| wk_X5_layAbout_11 O hr hm  _ _  FU _ _ h)
theorem hy_X5_about : (yX5_about.cls = "DowryBoxesModel" ∧ yX5_about.cls ≠ "java/lang/invoke/MethodHandle" ∧ yX5_about.cls ≠ "java/lang/invoke/VarHandle" ∧ (parseMethodDescriptor yX5_about.desc).map (fun d => d.parameters.length) = some 2) := by decide +kernel
theorem wk_X5_about_105 {x : Cx} (O : OK x "DowryBoxesModel" cX5_about 9) (hr : (xM x).sig.returnType = some .int) (hm : xn x = 8) {Q : Int → Wd → Prop} (K94 : Int → Int → Int → Wd → Prop) (X105 : Int → Wd → Prop) (this : Nat) (x1 : Int) (x2 : Int) (x4 : Int) (x6 : Int) (hK94 : ∀ (y4 : Int) (y5 : Int) (y6 : Int) (w : Wd), K94 y4 y5 y6 w → J x (TI x Q) w 0 0 94 [(0, .ref (adG (xG x) (this))), (1, vI (x1)), (2, vI (x2)), (4, vI (y4)), (5, vI (y5)), (6, vI (y6))] []) (hX105 : ∀ (y7 : Int) (w : Wd), X105 y7 w → J x (TI x Q) w 0 0 149 [(0, .ref (adG (xG x) (this))), (1, vI (x1)), (2, vI (x2)), (4, vI (x4)), (6, vI (x6)), (7, vI (y7))] []) : ∀ (n : Nat) (x7 : Int) (w : Wd), wp_X5_about_105 Q K94 X105 this x1 x2 x4 x6 n x7 w → J x (TI x Q) w 0 0 105 [(0, .ref (adG (xG x) (this))), (1, vI (x1)), (2, vI (x2)), (4, vI (x4)), (6, vI (x6)), (7, vI (x7))] [] := by
  intro n
  induction n with
  | zero => intro x7 w h; exact False.elim h
  | succ n ih =>
    intro x7 w h
    rw [wp_X5_about_105] at h
    refine j_iload O 5 dX5_about_105 rfl ?_
    refine j_aload_n O 0 0 dX5_about_107 rfl rfl ?_
    refine j_getA O cfX5 3 (Nat.le_of_ble_eq_true rfl) ⟨_, rfl⟩ q1571 dX5_about_108 h (fun k1 h => ?_)
    refine j_iconst O dX5_about_111 ?_
    refine j_iald O dX5_about_112 h (fun v2 h => ?_)
    obtain ⟨c3, h⟩ := h
    obtain ⟨c4, h⟩ := h
    refine j_icmp_ge O (tgt := 149) dX5_about_113 (by decide) c3 c4 h (fun h => ?_) (fun h => ?_)
    · exact (J.sub [0, 1, 2, 3, 4, 5] rfl <| hX105 _ _ h)
    · refine j_aload_n O 0 0 dX5_about_116 rfl rfl ?_
      refine j_iload O 4 dX5_about_117 rfl ?_
      refine j_iload O 3 dX5_about_119 rfl ?_
      refine j_iload O 5 dX5_about_121 rfl ?_
      refine j_iload_n O 1 1 dX5_about_123 rfl rfl ?_
      obtain ⟨e7, h⟩ := h
      refine fin_I O ⟨Nat.zero_le _, Nat.zero_le _⟩ (run_V (As := [vI (x6), vI (x4), vI (x7), vI (x1)]) (st := []) O (mt_X5_withSuitor (xl x) (xG x) _ _ _ _ _ _ _ h) e7 cfX5.1 q2144 q2146 qs105 q131 q2147 hy_X5_withSuitor (Nat.le_of_ble_eq_true rfl) (Nat.le_of_ble_eq_true rfl) ⟨Nat.zero_le _, Nat.zero_le _⟩ rfl (Nat.le_of_ble_eq_true rfl) dX5_about_124) (fun r5 w6 h => ?_)
      refine j_aload_n O 0 0 dX5_about_127 rfl rfl ?_
      refine j_getA O cfX5 46 (Nat.le_of_ble_eq_true rfl) ⟨_, rfl⟩ q1614 dX5_about_128 h (fun k8 h => ?_)
      refine j_bipush (m := 64) O dX5_about_131 bi_64 ?_
      refine j_iload O 4 dX5_about_133 rfl ?_
      refine j_imul O dX5_about_135 ?_
      refine j_iload O 3 dX5_about_136 rfl ?_
      refine j_iadd O dX5_about_138 ?_
      refine j_iald O dX5_about_139 h (fun v9 h => ?_)
      obtain ⟨c10, h⟩ := h
      obtain ⟨c11, h⟩ := h
      refine j_icmp_eq O (tgt := 149) dX5_about_140 (by decide) c10 c11 h (fun h => ?_) (fun h => ?_)
      · exact (J.sub [0, 1, 2, 3, 4, 5] rfl <| hX105 _ _ h)
      · refine j_iinc (L' := [(7, vI (x7 + 1)), (0, .ref (adG (xG x) (this))), (1, vI (x1)), (2, vI (x2)), (4, vI (x4)), (6, vI (x6))]) O 5 dX5_about_143 rfl (by rw [hm]; decide) rfl ?_
        refine j_goto O (tgt := 105) dX5_about_146 (by decide) ?_
        exact (J.sub [1, 2, 3, 4, 5, 0] rfl <| ih _ _ h)
theorem wk_X5_about_208 {x : Cx} (O : OK x "DowryBoxesModel" cX5_about 9) (hr : (xM x).sig.returnType = some .int) (hm : xn x = 8) {Q : Int → Wd → Prop} (K94 : Int → Int → Int → Wd → Prop) (this : Nat) (x1 : Int) (x2 : Int) (x5 : Int) (x6 : Int) (s0 : Int) (s1 : Int) (hK94 : ∀ (y4 : Int) (y5 : Int) (y6 : Int) (w : Wd), K94 y4 y5 y6 w → J x (TI x Q) w 0 0 94 [(0, .ref (adG (xG x) (this))), (1, vI (x1)), (2, vI (x2)), (4, vI (y4)), (5, vI (y5)), (6, vI (y6))] []) (w : Wd) (h : wp_X5_about_208 Q K94 this x1 x2 x5 x6 s0 s1 w) : J x (TI x Q) w 0 0 208 [(0, .ref (adG (xG x) (this))), (1, vI (x1)), (2, vI (x2)), (5, vI (x5)), (6, vI (x6))] [vI (s0), vI (s1)] := by
  unfold wp_X5_about_208 at h
  refine j_ior O dX5_about_208 ?_
  refine j_istore (L' := [(4, vI (ior s1 s0)), (0, .ref (adG (xG x) (this))), (1, vI (x1)), (2, vI (x2)), (5, vI (x5)), (6, vI (x6))]) O dX5_about_209 (by rw [hm]; decide) rfl ?_
  refine j_iinc (L' := [(6, vI (x6 + 1)), (4, vI (ior s1 s0)), (0, .ref (adG (xG x) (this))), (1, vI (x1)), (2, vI (x2)), (5, vI (x5))]) O 5 dX5_about_211 rfl (by rw [hm]; decide) rfl ?_
  refine j_goto O (tgt := 94) dX5_about_214 (by decide) ?_
  exact (J.sub [2, 3, 4, 1, 5, 0] rfl <| hK94 _ _ _ _ h)
theorem wk_X5_about_185 {x : Cx} (O : OK x "DowryBoxesModel" cX5_about 9) (hr : (xM x).sig.returnType = some .int) (hm : xn x = 8) {Q : Int → Wd → Prop} (K94 : Int → Int → Int → Wd → Prop) (this : Nat) (x1 : Int) (x2 : Int) (x4 : Int) (x6 : Int) (x7 : Int) (s0 : Int) (hK94 : ∀ (y4 : Int) (y5 : Int) (y6 : Int) (w : Wd), K94 y4 y5 y6 w → J x (TI x Q) w 0 0 94 [(0, .ref (adG (xG x) (this))), (1, vI (x1)), (2, vI (x2)), (4, vI (y4)), (5, vI (y5)), (6, vI (y6))] []) (w : Wd) (h : wp_X5_about_185 Q K94 this x1 x2 x4 x6 x7 s0 w) : J x (TI x Q) w 0 0 185 [(0, .ref (adG (xG x) (this))), (1, vI (x1)), (2, vI (x2)), (4, vI (x4)), (6, vI (x6)), (7, vI (x7))] [vI (s0)] := by
  unfold wp_X5_about_185 at h
  refine j_istore (L' := [(5, vI (s0)), (0, .ref (adG (xG x) (this))), (1, vI (x1)), (2, vI (x2)), (4, vI (x4)), (6, vI (x6)), (7, vI (x7))]) O dX5_about_185 (by rw [hm]; decide) rfl ?_
  refine j_iload O 4 dX5_about_187 rfl ?_
  refine j_iload O 6 dX5_about_189 rfl ?_
  refine j_aload_n O 1 0 dX5_about_191 rfl rfl ?_
  refine j_getA O cfX5 3 (Nat.le_of_ble_eq_true rfl) ⟨_, rfl⟩ q1571 dX5_about_192 h (fun k1 h => ?_)
  refine j_iconst O dX5_about_195 ?_
  refine j_iald O dX5_about_196 h (fun v2 h => ?_)
  obtain ⟨c3, h⟩ := h
  obtain ⟨c4, h⟩ := h
  refine j_icmp_ge O (tgt := 207) dX5_about_197 (by decide) c3 c4 h (fun h => ?_) (fun h => ?_)
  · refine j_iconst O dX5_about_207 ?_
    exact (J.sub [1, 2, 3, 0, 5] rfl <| wk_X5_about_208 O hr hm _ _ _ _ _ _ _ _ hK94 _ h)
  · refine j_iconst O dX5_about_200 ?_
    refine j_iload O 6 dX5_about_201 rfl ?_
    refine j_ishl O dX5_about_203 ?_
    refine j_goto O (tgt := 208) dX5_about_204 (by decide) ?_
    exact (J.sub [1, 2, 3, 0, 5] rfl <| wk_X5_about_208 O hr hm _ _ _ _ _ _ _ _ hK94 _ h)
theorem wk_X5_about_149 {x : Cx} (O : OK x "DowryBoxesModel" cX5_about 9) (hr : (xM x).sig.returnType = some .int) (hm : xn x = 8) {Q : Int → Wd → Prop} (K94 : Int → Int → Int → Wd → Prop) (this : Nat) (x1 : Int) (x2 : Int) (x4 : Int) (x6 : Int) (x7 : Int) (hK94 : ∀ (y4 : Int) (y5 : Int) (y6 : Int) (w : Wd), K94 y4 y5 y6 w → J x (TI x Q) w 0 0 94 [(0, .ref (adG (xG x) (this))), (1, vI (x1)), (2, vI (x2)), (4, vI (y4)), (5, vI (y5)), (6, vI (y6))] []) (w : Wd) (h : wp_X5_about_149 Q K94 this x1 x2 x4 x6 x7 w) : J x (TI x Q) w 0 0 149 [(0, .ref (adG (xG x) (this))), (1, vI (x1)), (2, vI (x2)), (4, vI (x4)), (6, vI (x6)), (7, vI (x7))] [] := by
  unfold wp_X5_about_149 at h
  refine j_aload_n O 0 0 dX5_about_149 rfl rfl ?_
  refine j_getA O cfX5 3 (Nat.le_of_ble_eq_true rfl) ⟨_, rfl⟩ q1571 dX5_about_150 h (fun k1 h => ?_)
  refine j_bipush (m := 68) O dX5_about_153 bi_68 ?_
  refine j_iload O 4 dX5_about_155 rfl ?_
  refine j_iadd O dX5_about_157 ?_
  refine j_iald O dX5_about_158 h (fun v2 h => ?_)
  refine j_iconst O dX5_about_159 ?_
  obtain ⟨c3, h⟩ := h
  refine j_icmp_eq O (tgt := 167) dX5_about_160 (by decide) c3 (by decide) h (fun h => ?_) (fun h => ?_)
  · refine j_iload O 5 dX5_about_167 rfl ?_
    refine j_aload_n O 0 0 dX5_about_169 rfl rfl ?_
    refine j_getA O cfX5 3 (Nat.le_of_ble_eq_true rfl) ⟨_, rfl⟩ q1571 dX5_about_170 h (fun k4 h => ?_)
    refine j_iconst O dX5_about_173 ?_
    refine j_iald O dX5_about_174 h (fun v5 h => ?_)
    obtain ⟨c6, h⟩ := h
    obtain ⟨c7, h⟩ := h
    refine j_icmp_ge O (tgt := 183) dX5_about_175 (by decide) c6 c7 h (fun h => ?_) (fun h => ?_)
    · refine j_bipush (m := 100) O dX5_about_183 bi_100 ?_
      exact (J.sub [0, 1, 2, 3, 4, 5] rfl <| wk_X5_about_185 O hr hm _ _ _ _ _ _ _ _ hK94 _ h)
    · refine j_iload O 5 dX5_about_178 rfl ?_
      refine j_goto O (tgt := 185) dX5_about_180 (by decide) ?_
      exact (J.sub [0, 1, 2, 3, 4, 5] rfl <| wk_X5_about_185 O hr hm _ _ _ _ _ _ _ _ hK94 _ h)
  · refine j_iconst O dX5_about_163 ?_
    refine j_goto O (tgt := 185) dX5_about_164 (by decide) ?_
    exact (J.sub [0, 1, 2, 3, 4, 5] rfl <| wk_X5_about_185 O hr hm _ _ _ _ _ _ _ _ hK94 _ h)
theorem wk_X5_about_94 {x : Cx} (O : OK x "DowryBoxesModel" cX5_about 9) (hr : (xM x).sig.returnType = some .int) (hm : xn x = 8) {Q : Int → Wd → Prop} (this : Nat) (x1 : Int) (x2 : Int) : ∀ (n : Nat) (x4 : Int) (x5 : Int) (x6 : Int) (w : Wd), wp_X5_about_94 Q this x1 x2 n x4 x5 x6 w → J x (TI x Q) w 0 0 94 [(0, .ref (adG (xG x) (this))), (1, vI (x1)), (2, vI (x2)), (4, vI (x4)), (5, vI (x5)), (6, vI (x6))] [] := by
  intro n
  induction n with
  | zero => intro x4 x5 x6 w h; exact False.elim h
  | succ n ih =>
    intro x4 x5 x6 w h
    rw [wp_X5_about_94] at h
    refine j_iload O 5 dX5_about_94 rfl ?_
    refine j_iload_n O 2 2 dX5_about_96 rfl rfl ?_
    refine j_iconst O dX5_about_97 ?_
    refine j_isub O dX5_about_98 ?_
    obtain ⟨c1, h⟩ := h
    obtain ⟨c2, h⟩ := h
    refine j_icmp_gt O (tgt := 217) dX5_about_99 (by decide) c1 c2 h (fun h => ?_) (fun h => ?_)
    · refine j_iload O 4 dX5_about_217 rfl ?_
      exact j_iret O hr dX5_about_219 h
    · refine j_iconst O dX5_about_102 ?_
      refine j_istore (L' := [(7, vI (0)), (0, .ref (adG (xG x) (this))), (1, vI (x1)), (2, vI (x2)), (4, vI (x4)), (5, vI (x5)), (6, vI (x6))]) O dX5_about_103 (by rw [hm]; decide) rfl ?_
      refine (J.sub [1, 2, 3, 4, 6, 0] rfl <| wk_X5_about_105 O hr hm _ _ _ _ _ _ _ ih (fun z3 w4 h => ?_) FU _ _ h)
      exact (J.sub [0, 1, 2, 3, 4, 5] rfl <| wk_X5_about_149 O hr hm _ _ _ _ _ _ _ ih _ h)
theorem mt_X5_about (l : Launch) (G : GW) (this : Nat) (p1 : Int) (p2 : Int) (w : Wd) (Q : Int → Wd → Prop) (h : wp_X5_about this p1 p2 w Q) : MI l G yX5_about cX5_about 8 (.int) 9 0 0 [.ref (adG G (this)), vI (p1), vI (p2)] w Q := by
  refine met_I (fun G => [.ref (adG G (this)), vI (p1), vI (p2)]) (by decide) (fun G => Nat.le_of_ble_eq_true rfl) (fun x O hl hm hr => ?_)
  subst hl
  have O : OK x "DowryBoxesModel" cX5_about 9 := O
  have h : wp_X5_about this p1 p2 w Q := h
  unfold wp_X5_about at h
  show J x (TI x Q) w 0 0 0 [(0, .ref (adG (xG x) (this))), (1, vI (p1)), (2, vI (p2))] []
  refine j_aload_n O 0 0 dX5_about_0 rfl rfl ?_
  refine j_iconst O dX5_about_1 ?_
  refine j_putI O cfX5 0 (Nat.le_of_ble_eq_true rfl) rfl q1568 rfl dX5_about_2 h (fun w1 h => ?_)
  refine j_iload_n O 1 1 dX5_about_5 rfl rfl ?_
  refine j_i2l O dX5_about_6 h (fun h => ?_)
  refine j_lconst (m := 0) O dX5_about_7 lc_0 ?_
  refine j_ldc2 (m := 60) O dX5_about_8 q1862 l2_60 ?_
  refine fin_I O ⟨Nat.zero_le _, Nat.zero_le _⟩ (run_S (As := [vL (p1), vL (0), vL (60)]) (st := []) O (mt_X5_in (xl x) (xG x) _ _ _ _ _ h) q1772 q1773 q131 q1774 hy_X5_in.2 (Nat.le_of_ble_eq_true rfl) (Nat.le_of_ble_eq_true rfl) ⟨Nat.zero_le _, Nat.zero_le _⟩ rfl (Nat.le_of_ble_eq_true rfl) dX5_about_11) (fun r2 w3 h => ?_)
  obtain ⟨c4, h⟩ := h
  refine j_if_eq O (tgt := 35) dX5_about_14 (by decide) c4 h (fun h => ?_) (fun h => ?_)
  · refine j_iconst O dX5_about_35 ?_
    exact j_iret O hr dX5_about_36 h
  · refine j_iload_n O 2 2 dX5_about_17 rfl rfl ?_
    refine j_i2l O dX5_about_18 h (fun h => ?_)
    refine j_lconst (m := 0) O dX5_about_19 lc_0 ?_
    refine j_lconst (m := 1) O dX5_about_20 lc_1 ?_
    refine j_aload_n O 0 0 dX5_about_21 rfl rfl ?_
    refine j_getA O cfX5 3 (Nat.le_of_ble_eq_true rfl) ⟨_, rfl⟩ q1571 dX5_about_22 h (fun k5 h => ?_)
    refine j_iconst O dX5_about_25 ?_
    refine j_iald O dX5_about_26 h (fun v6 h => ?_)
    refine j_i2l O dX5_about_27 h (fun h => ?_)
    refine j_ladd O dX5_about_28 ?_
    refine fin_I O ⟨Nat.zero_le _, Nat.zero_le _⟩ (run_S (As := [vL (p2), vL (0), vL ((1 + v6))]) (st := []) O (mt_X5_in (xl x) (xG x) _ _ _ _ _ h) q1772 q1773 q131 q1774 hy_X5_in.2 (Nat.le_of_ble_eq_true rfl) (Nat.le_of_ble_eq_true rfl) ⟨Nat.zero_le _, Nat.zero_le _⟩ rfl (Nat.le_of_ble_eq_true rfl) dX5_about_29) (fun r7 w8 h => ?_)
    obtain ⟨c9, h⟩ := h
    refine j_if_ne O (tgt := 37) dX5_about_32 (by decide) c9 h (fun h => ?_) (fun h => ?_)
    · refine j_aload_n O 0 0 dX5_about_37 rfl rfl ?_
      refine j_iload_n O 1 1 dX5_about_38 rfl rfl ?_
      obtain ⟨e11, h⟩ := h
      refine fin_V O ⟨Nat.zero_le _, Nat.zero_le _⟩ (run_V (As := [vI (p1)]) (st := []) O (mt_X5_layAbout (xl x) (xG x) _ _ _ _ h) e11 cfX5.1 q2140 q2142 qs104 q131 q2143 hy_X5_layAbout (Nat.le_of_ble_eq_true rfl) (Nat.le_of_ble_eq_true rfl) ⟨Nat.zero_le _, Nat.zero_le _⟩ rfl (Nat.le_of_ble_eq_true rfl) dX5_about_39) (fun w10 h => ?_)
      refine j_aload_n O 0 0 dX5_about_42 rfl rfl ?_
      refine j_getA O cfX5 46 (Nat.le_of_ble_eq_true rfl) ⟨_, rfl⟩ q1614 dX5_about_43 h (fun k12 h => ?_)
      refine j_iconst O dX5_about_46 ?_
      refine j_iald O dX5_about_47 h (fun v13 h => ?_)
      refine j_sipush (m := 1000) O dX5_about_48 si_1000 ?_
      refine j_iadd O dX5_about_51 ?_
      refine j_iconst O dX5_about_52 ?_
      refine j_isub O dX5_about_53 ?_
      refine j_sipush (m := 1000) O dX5_about_54 si_1000 ?_
      refine j_idiv O dX5_about_57 h (fun h => ?_)
      refine j_istore_n (L' := [(3, vI (Int.tdiv ((v13 + 1000) - 1) 1000)), (0, .ref (adG (xG x) (this))), (1, vI (p1)), (2, vI (p2))]) O 3 dX5_about_58 rfl (by rw [hm]; decide) rfl ?_
      refine j_iload_n O 3 2 dX5_about_59 rfl rfl ?_
      refine j_iconst O dX5_about_60 ?_
      obtain ⟨c14, h⟩ := h
      refine j_icmp_ge O (tgt := 85) dX5_about_61 (by decide) c14 (by decide) h (fun h => ?_) (fun h => ?_)
      · refine j_iconst O dX5_about_85 ?_
        refine j_istore (L' := [(4, vI (0)), (3, vI (Int.tdiv ((v13 + 1000) - 1) 1000)), (0, .ref (adG (xG x) (this))), (1, vI (p1)), (2, vI (p2))]) O dX5_about_86 (by rw [hm]; decide) rfl ?_
        refine j_iconst O dX5_about_88 ?_
        refine j_istore (L' := [(5, vI ((-1))), (4, vI (0)), (3, vI (Int.tdiv ((v13 + 1000) - 1) 1000)), (0, .ref (adG (xG x) (this))), (1, vI (p1)), (2, vI (p2))]) O dX5_about_89 (by rw [hm]; decide) rfl ?_
        refine j_iconst O dX5_about_91 ?_
        refine j_istore (L' := [(6, vI (0)), (5, vI ((-1))), (4, vI (0)), (3, vI (Int.tdiv ((v13 + 1000) - 1) 1000)), (0, .ref (adG (xG x) (this))), (1, vI (p1)), (2, vI (p2))]) O dX5_about_92 (by rw [hm]; decide) rfl ?_
        exact (J.sub [4, 5, 6, 2, 1, 0] rfl <| wk_X5_about_94 O hr hm  _ _ _  FU _ _ _ _ h)
      · refine j_iload_n O 3 2 dX5_about_64 rfl rfl ?_
        obtain ⟨c15, h⟩ := h
        refine j_if_ne O (tgt := 72) dX5_about_65 (by decide) c15 h (fun h => ?_) (fun h => ?_)
        · refine j_sipush (m := 1000) O dX5_about_72 si_1000 ?_
          refine j_iload_n O 0 3 dX5_about_75 rfl rfl ?_
          refine j_imul O dX5_about_76 ?_
          refine j_aload_n O 1 0 dX5_about_77 rfl rfl ?_
          refine j_getA O cfX5 46 (Nat.le_of_ble_eq_true rfl) ⟨_, rfl⟩ q1614 dX5_about_78 h (fun k16 h => ?_)
          refine j_iconst O dX5_about_81 ?_
          refine j_iald O dX5_about_82 h (fun v17 h => ?_)
          refine j_isub O dX5_about_83 ?_
          exact j_iret O hr dX5_about_84 h
        · refine j_iload_n O 0 3 dX5_about_68 rfl rfl ?_
          refine j_goto O (tgt := 84) dX5_about_69 (by decide) ?_
          exact j_iret O hr dX5_about_84 h
    · refine j_iconst O dX5_about_35 ?_
      exact j_iret O hr dX5_about_36 h
theorem hy_X5_keptBy : (yX5_keptBy.cls = "DowryBoxesModel" ∧ yX5_keptBy.cls ≠ "java/lang/invoke/MethodHandle" ∧ yX5_keptBy.cls ≠ "java/lang/invoke/VarHandle" ∧ (parseMethodDescriptor yX5_keptBy.desc).map (fun d => d.parameters.length) = some 1) := by decide +kernel
theorem wk_X5_keptBy_59 {x : Cx} (O : OK x "DowryBoxesModel" cX5_keptBy 1) (hr : (xM x).sig.returnType = some .int) (hm : xn x = 4) {Q : Int → Wd → Prop} (K4 : Int → Int → Wd → Prop) (this : Nat) (x1 : Int) (x3 : Int) (s0 : Int) (hK4 : ∀ (y2 : Int) (y3 : Int) (w : Wd), K4 y2 y3 w → J x (TI x Q) w 0 0 4 [(0, .ref (adG (xG x) (this))), (1, vI (x1)), (2, vI (y2)), (3, vI (y3))] []) (w : Wd) (h : wp_X5_keptBy_59 Q K4 this x1 x3 s0 w) : J x (TI x Q) w 0 0 59 [(0, .ref (adG (xG x) (this))), (1, vI (x1)), (3, vI (x3))] [vI (s0)] := by
  unfold wp_X5_keptBy_59 at h
  refine j_istore_n (L' := [(2, vI (s0)), (0, .ref (adG (xG x) (this))), (1, vI (x1)), (3, vI (x3))]) O 2 dX5_keptBy_59 rfl (by rw [hm]; decide) rfl ?_
  refine j_iinc (L' := [(3, vI (x3 + 1)), (2, vI (s0)), (0, .ref (adG (xG x) (this))), (1, vI (x1))]) O 3 dX5_keptBy_60 rfl (by rw [hm]; decide) rfl ?_
  refine j_goto O (tgt := 4) dX5_keptBy_63 (by decide) ?_
  exact (J.sub [2, 3, 1, 0] rfl <| hK4 _ _ _ h)
theorem wk_X5_keptBy_54 {x : Cx} (O : OK x "DowryBoxesModel" cX5_keptBy 1) (hr : (xM x).sig.returnType = some .int) (hm : xn x = 4) {Q : Int → Wd → Prop} (K4 : Int → Int → Wd → Prop) (this : Nat) (x1 : Int) (x3 : Int) (hK4 : ∀ (y2 : Int) (y3 : Int) (w : Wd), K4 y2 y3 w → J x (TI x Q) w 0 0 4 [(0, .ref (adG (xG x) (this))), (1, vI (x1)), (2, vI (y2)), (3, vI (y3))] []) (w : Wd) (h : wp_X5_keptBy_54 Q K4 this x1 x3 w) : J x (TI x Q) w 0 0 54 [(0, .ref (adG (xG x) (this))), (1, vI (x1)), (3, vI (x3))] [] := by
  unfold wp_X5_keptBy_54 at h
  refine j_iload_n O 2 3 dX5_keptBy_54 rfl rfl ?_
  refine j_goto O (tgt := 59) dX5_keptBy_55 (by decide) ?_
  exact (J.sub [0, 1, 2] rfl <| wk_X5_keptBy_59 O hr hm _ _ _ _ _ hK4 _ h)
theorem wk_X5_keptBy_58 {x : Cx} (O : OK x "DowryBoxesModel" cX5_keptBy 1) (hr : (xM x).sig.returnType = some .int) (hm : xn x = 4) {Q : Int → Wd → Prop} (K4 : Int → Int → Wd → Prop) (this : Nat) (x1 : Int) (x2 : Int) (x3 : Int) (hK4 : ∀ (y2 : Int) (y3 : Int) (w : Wd), K4 y2 y3 w → J x (TI x Q) w 0 0 4 [(0, .ref (adG (xG x) (this))), (1, vI (x1)), (2, vI (y2)), (3, vI (y3))] []) (w : Wd) (h : wp_X5_keptBy_58 Q K4 this x1 x2 x3 w) : J x (TI x Q) w 0 0 58 [(0, .ref (adG (xG x) (this))), (1, vI (x1)), (2, vI (x2)), (3, vI (x3))] [] := by
  unfold wp_X5_keptBy_58 at h
  refine j_iload_n O 2 2 dX5_keptBy_58 rfl rfl ?_
  exact (J.sub [0, 1, 3] rfl <| wk_X5_keptBy_59 O hr hm _ _ _ _ _ hK4 _ h)
theorem wk_X5_keptBy_4 {x : Cx} (O : OK x "DowryBoxesModel" cX5_keptBy 1) (hr : (xM x).sig.returnType = some .int) (hm : xn x = 4) {Q : Int → Wd → Prop} (this : Nat) (x1 : Int) : ∀ (n : Nat) (x2 : Int) (x3 : Int) (w : Wd), wp_X5_keptBy_4 Q this x1 n x2 x3 w → J x (TI x Q) w 0 0 4 [(0, .ref (adG (xG x) (this))), (1, vI (x1)), (2, vI (x2)), (3, vI (x3))] [] := by
  intro n
  induction n with
  | zero => intro x2 x3 w h; exact False.elim h
  | succ n ih =>
    intro x2 x3 w h
    rw [wp_X5_keptBy_4] at h
    refine j_iload_n O 3 3 dX5_keptBy_4 rfl rfl ?_
    refine j_aload_n O 0 0 dX5_keptBy_5 rfl rfl ?_
    refine j_getA O cfX5 3 (Nat.le_of_ble_eq_true rfl) ⟨_, rfl⟩ q1571 dX5_keptBy_6 h (fun k1 h => ?_)
    refine j_iconst O dX5_keptBy_9 ?_
    refine j_iald O dX5_keptBy_10 h (fun v2 h => ?_)
    obtain ⟨c3, h⟩ := h
    obtain ⟨c4, h⟩ := h
    refine j_icmp_ge O (tgt := 66) dX5_keptBy_11 (by decide) c3 c4 h (fun h => ?_) (fun h => ?_)
    · refine j_iload_n O 2 2 dX5_keptBy_66 rfl rfl ?_
      exact j_iret O hr dX5_keptBy_67 h
    · refine j_aload_n O 0 0 dX5_keptBy_14 rfl rfl ?_
      refine j_getA O cfX5 44 (Nat.le_of_ble_eq_true rfl) ⟨_, rfl⟩ q1612 dX5_keptBy_15 h (fun k5 h => ?_)
      refine j_iload_n O 3 3 dX5_keptBy_18 rfl rfl ?_
      refine j_iald O dX5_keptBy_19 h (fun v6 h => ?_)
      refine j_iload_n O 1 1 dX5_keptBy_20 rfl rfl ?_
      obtain ⟨c7, h⟩ := h
      obtain ⟨c8, h⟩ := h
      refine j_icmp_ne O (tgt := 58) dX5_keptBy_21 (by decide) c7 c8 h (fun h => ?_) (fun h => ?_)
      · exact (J.sub [0, 1, 2, 3] rfl <| wk_X5_keptBy_58 O hr hm _ _ _ _ _ ih _ h)
      · refine j_iload_n O 2 2 dX5_keptBy_24 rfl rfl ?_
        refine j_iconst O dX5_keptBy_25 ?_
        obtain ⟨c9, h⟩ := h
        refine j_icmp_eq O (tgt := 54) dX5_keptBy_26 (by decide) c9 (by decide) h (fun h => ?_) (fun h => ?_)
        · exact (J.sub [0, 1, 3] rfl <| wk_X5_keptBy_54 O hr hm _ _ _ _ ih _ h)
        · refine j_aload_n O 0 0 dX5_keptBy_29 rfl rfl ?_
          refine j_getA O cfX5 43 (Nat.le_of_ble_eq_true rfl) ⟨_, rfl⟩ q1611 dX5_keptBy_30 h (fun k10 h => ?_)
          refine j_bipush (m := 6) O dX5_keptBy_33 bi_6 ?_
          refine j_iload_n O 3 3 dX5_keptBy_35 rfl rfl ?_
          refine j_imul O dX5_keptBy_36 ?_
          refine j_iload_n O 1 1 dX5_keptBy_37 rfl rfl ?_
          refine j_iadd O dX5_keptBy_38 ?_
          refine j_iald O dX5_keptBy_39 h (fun v11 h => ?_)
          refine j_aload_n O 0 0 dX5_keptBy_40 rfl rfl ?_
          refine j_getA O cfX5 43 (Nat.le_of_ble_eq_true rfl) ⟨_, rfl⟩ q1611 dX5_keptBy_41 h (fun k12 h => ?_)
          refine j_bipush (m := 6) O dX5_keptBy_44 bi_6 ?_
          refine j_iload_n O 2 2 dX5_keptBy_46 rfl rfl ?_
          refine j_imul O dX5_keptBy_47 ?_
          refine j_iload_n O 1 1 dX5_keptBy_48 rfl rfl ?_
          refine j_iadd O dX5_keptBy_49 ?_
          refine j_iald O dX5_keptBy_50 h (fun v13 h => ?_)
          obtain ⟨c14, h⟩ := h
          obtain ⟨c15, h⟩ := h
          refine j_icmp_le O (tgt := 58) dX5_keptBy_51 (by decide) c14 c15 h (fun h => ?_) (fun h => ?_)
          · exact (J.sub [0, 1, 2, 3] rfl <| wk_X5_keptBy_58 O hr hm _ _ _ _ _ ih _ h)
          · exact (J.sub [0, 1, 3] rfl <| wk_X5_keptBy_54 O hr hm _ _ _ _ ih _ h)
theorem mt_X5_keptBy (l : Launch) (G : GW) (this : Nat) (p1 : Int) (w : Wd) (Q : Int → Wd → Prop) (h : wp_X5_keptBy this p1 w Q) : MI l G yX5_keptBy cX5_keptBy 4 (.int) 1 0 0 [.ref (adG G (this)), vI (p1)] w Q := by
  refine met_I (fun G => [.ref (adG G (this)), vI (p1)]) (by decide) (fun G => Nat.le_of_ble_eq_true rfl) (fun x O hl hm hr => ?_)
  subst hl
  have O : OK x "DowryBoxesModel" cX5_keptBy 1 := O
  have h : wp_X5_keptBy this p1 w Q := h
  unfold wp_X5_keptBy at h
  show J x (TI x Q) w 0 0 0 [(0, .ref (adG (xG x) (this))), (1, vI (p1))] []
  refine j_iconst O dX5_keptBy_0 ?_
  refine j_istore_n (L' := [(2, vI ((-1))), (0, .ref (adG (xG x) (this))), (1, vI (p1))]) O 2 dX5_keptBy_1 rfl (by rw [hm]; decide) rfl ?_
  refine j_iconst O dX5_keptBy_2 ?_
  refine j_istore_n (L' := [(3, vI (0)), (2, vI ((-1))), (0, .ref (adG (xG x) (this))), (1, vI (p1))]) O 3 dX5_keptBy_3 rfl (by rw [hm]; decide) rfl ?_
  exact (J.sub [2, 3, 1, 0] rfl <| wk_X5_keptBy_4 O hr hm  _ _  FU _ _ _ h)
theorem hy_X5_nearest : (yX5_nearest.cls = "DowryBoxesModel" ∧ yX5_nearest.cls ≠ "java/lang/invoke/MethodHandle" ∧ yX5_nearest.cls ≠ "java/lang/invoke/VarHandle" ∧ (parseMethodDescriptor yX5_nearest.desc).map (fun d => d.parameters.length) = some 1) := by decide +kernel
theorem wk_X5_nearest_63 {x : Cx} (O : OK x "DowryBoxesModel" cX5_nearest 1) (hr : (xM x).sig.returnType = some .int) (hm : xn x = 4) {Q : Int → Wd → Prop} (K4 : Int → Int → Wd → Prop) (this : Nat) (x1 : Int) (x3 : Int) (s0 : Int) (hK4 : ∀ (y2 : Int) (y3 : Int) (w : Wd), K4 y2 y3 w → J x (TI x Q) w 0 0 4 [(0, .ref (adG (xG x) (this))), (1, vI (x1)), (2, vI (y2)), (3, vI (y3))] []) (w : Wd) (h : wp_X5_nearest_63 Q K4 this x1 x3 s0 w) : J x (TI x Q) w 0 0 63 [(0, .ref (adG (xG x) (this))), (1, vI (x1)), (3, vI (x3))] [vI (s0)] := by
  unfold wp_X5_nearest_63 at h
  refine j_istore_n (L' := [(2, vI (s0)), (0, .ref (adG (xG x) (this))), (1, vI (x1)), (3, vI (x3))]) O 2 dX5_nearest_63 rfl (by rw [hm]; decide) rfl ?_
  refine j_iinc (L' := [(3, vI (x3 + 1)), (2, vI (s0)), (0, .ref (adG (xG x) (this))), (1, vI (x1))]) O 3 dX5_nearest_64 rfl (by rw [hm]; decide) rfl ?_
  refine j_goto O (tgt := 4) dX5_nearest_67 (by decide) ?_
  exact (J.sub [2, 3, 1, 0] rfl <| hK4 _ _ _ h)
theorem wk_X5_nearest_58 {x : Cx} (O : OK x "DowryBoxesModel" cX5_nearest 1) (hr : (xM x).sig.returnType = some .int) (hm : xn x = 4) {Q : Int → Wd → Prop} (K4 : Int → Int → Wd → Prop) (this : Nat) (x1 : Int) (x3 : Int) (hK4 : ∀ (y2 : Int) (y3 : Int) (w : Wd), K4 y2 y3 w → J x (TI x Q) w 0 0 4 [(0, .ref (adG (xG x) (this))), (1, vI (x1)), (2, vI (y2)), (3, vI (y3))] []) (w : Wd) (h : wp_X5_nearest_58 Q K4 this x1 x3 w) : J x (TI x Q) w 0 0 58 [(0, .ref (adG (xG x) (this))), (1, vI (x1)), (3, vI (x3))] [] := by
  unfold wp_X5_nearest_58 at h
  refine j_iload_n O 2 3 dX5_nearest_58 rfl rfl ?_
  refine j_goto O (tgt := 63) dX5_nearest_59 (by decide) ?_
  exact (J.sub [0, 1, 2] rfl <| wk_X5_nearest_63 O hr hm _ _ _ _ _ hK4 _ h)
theorem wk_X5_nearest_62 {x : Cx} (O : OK x "DowryBoxesModel" cX5_nearest 1) (hr : (xM x).sig.returnType = some .int) (hm : xn x = 4) {Q : Int → Wd → Prop} (K4 : Int → Int → Wd → Prop) (this : Nat) (x1 : Int) (x2 : Int) (x3 : Int) (hK4 : ∀ (y2 : Int) (y3 : Int) (w : Wd), K4 y2 y3 w → J x (TI x Q) w 0 0 4 [(0, .ref (adG (xG x) (this))), (1, vI (x1)), (2, vI (y2)), (3, vI (y3))] []) (w : Wd) (h : wp_X5_nearest_62 Q K4 this x1 x2 x3 w) : J x (TI x Q) w 0 0 62 [(0, .ref (adG (xG x) (this))), (1, vI (x1)), (2, vI (x2)), (3, vI (x3))] [] := by
  unfold wp_X5_nearest_62 at h
  refine j_iload_n O 2 2 dX5_nearest_62 rfl rfl ?_
  exact (J.sub [0, 1, 3] rfl <| wk_X5_nearest_63 O hr hm _ _ _ _ _ hK4 _ h)
theorem wk_X5_nearest_4 {x : Cx} (O : OK x "DowryBoxesModel" cX5_nearest 1) (hr : (xM x).sig.returnType = some .int) (hm : xn x = 4) {Q : Int → Wd → Prop} (this : Nat) (x1 : Int) : ∀ (n : Nat) (x2 : Int) (x3 : Int) (w : Wd), wp_X5_nearest_4 Q this x1 n x2 x3 w → J x (TI x Q) w 0 0 4 [(0, .ref (adG (xG x) (this))), (1, vI (x1)), (2, vI (x2)), (3, vI (x3))] [] := by
  intro n
  induction n with
  | zero => intro x2 x3 w h; exact False.elim h
  | succ n ih =>
    intro x2 x3 w h
    rw [wp_X5_nearest_4] at h
    refine j_iload_n O 3 3 dX5_nearest_4 rfl rfl ?_
    refine j_aload_n O 0 0 dX5_nearest_5 rfl rfl ?_
    refine j_getA O cfX5 3 (Nat.le_of_ble_eq_true rfl) ⟨_, rfl⟩ q1571 dX5_nearest_6 h (fun k1 h => ?_)
    refine j_iconst O dX5_nearest_9 ?_
    refine j_iald O dX5_nearest_10 h (fun v2 h => ?_)
    obtain ⟨c3, h⟩ := h
    obtain ⟨c4, h⟩ := h
    refine j_icmp_ge O (tgt := 70) dX5_nearest_11 (by decide) c3 c4 h (fun h => ?_) (fun h => ?_)
    · refine j_iload_n O 2 2 dX5_nearest_70 rfl rfl ?_
      exact j_iret O hr dX5_nearest_71 h
    · refine j_aload_n O 0 0 dX5_nearest_14 rfl rfl ?_
      refine j_getA O cfX5 45 (Nat.le_of_ble_eq_true rfl) ⟨_, rfl⟩ q1613 dX5_nearest_15 h (fun k5 h => ?_)
      refine j_bipush (m := 6) O dX5_nearest_18 bi_6 ?_
      refine j_iload_n O 1 1 dX5_nearest_20 rfl rfl ?_
      refine j_imul O dX5_nearest_21 ?_
      refine j_iload_n O 3 3 dX5_nearest_22 rfl rfl ?_
      refine j_iadd O dX5_nearest_23 ?_
      refine j_zald O dX5_nearest_24 h (fun v6 h => ?_)
      obtain ⟨c7, h⟩ := h
      refine j_if_ne O (tgt := 62) dX5_nearest_25 (by decide) c7 h (fun h => ?_) (fun h => ?_)
      · exact (J.sub [0, 1, 2, 3] rfl <| wk_X5_nearest_62 O hr hm _ _ _ _ _ ih _ h)
      · refine j_iload_n O 2 2 dX5_nearest_28 rfl rfl ?_
        refine j_iconst O dX5_nearest_29 ?_
        obtain ⟨c8, h⟩ := h
        refine j_icmp_eq O (tgt := 58) dX5_nearest_30 (by decide) c8 (by decide) h (fun h => ?_) (fun h => ?_)
        · exact (J.sub [0, 1, 3] rfl <| wk_X5_nearest_58 O hr hm _ _ _ _ ih _ h)
        · refine j_aload_n O 0 0 dX5_nearest_33 rfl rfl ?_
          refine j_getA O cfX5 42 (Nat.le_of_ble_eq_true rfl) ⟨_, rfl⟩ q1610 dX5_nearest_34 h (fun k9 h => ?_)
          refine j_bipush (m := 6) O dX5_nearest_37 bi_6 ?_
          refine j_iload_n O 1 1 dX5_nearest_39 rfl rfl ?_
          refine j_imul O dX5_nearest_40 ?_
          refine j_iload_n O 3 3 dX5_nearest_41 rfl rfl ?_
          refine j_iadd O dX5_nearest_42 ?_
          refine j_iald O dX5_nearest_43 h (fun v10 h => ?_)
          refine j_aload_n O 0 0 dX5_nearest_44 rfl rfl ?_
          refine j_getA O cfX5 42 (Nat.le_of_ble_eq_true rfl) ⟨_, rfl⟩ q1610 dX5_nearest_45 h (fun k11 h => ?_)
          refine j_bipush (m := 6) O dX5_nearest_48 bi_6 ?_
          refine j_iload_n O 1 1 dX5_nearest_50 rfl rfl ?_
          refine j_imul O dX5_nearest_51 ?_
          refine j_iload_n O 2 2 dX5_nearest_52 rfl rfl ?_
          refine j_iadd O dX5_nearest_53 ?_
          refine j_iald O dX5_nearest_54 h (fun v12 h => ?_)
          obtain ⟨c13, h⟩ := h
          obtain ⟨c14, h⟩ := h
          refine j_icmp_ge O (tgt := 62) dX5_nearest_55 (by decide) c13 c14 h (fun h => ?_) (fun h => ?_)
          · exact (J.sub [0, 1, 2, 3] rfl <| wk_X5_nearest_62 O hr hm _ _ _ _ _ ih _ h)
          · exact (J.sub [0, 1, 3] rfl <| wk_X5_nearest_58 O hr hm _ _ _ _ ih _ h)
theorem mt_X5_nearest (l : Launch) (G : GW) (this : Nat) (p1 : Int) (w : Wd) (Q : Int → Wd → Prop) (h : wp_X5_nearest this p1 w Q) : MI l G yX5_nearest cX5_nearest 4 (.int) 1 0 0 [.ref (adG G (this)), vI (p1)] w Q := by
  refine met_I (fun G => [.ref (adG G (this)), vI (p1)]) (by decide) (fun G => Nat.le_of_ble_eq_true rfl) (fun x O hl hm hr => ?_)
  subst hl
  have O : OK x "DowryBoxesModel" cX5_nearest 1 := O
  have h : wp_X5_nearest this p1 w Q := h
  unfold wp_X5_nearest at h
  show J x (TI x Q) w 0 0 0 [(0, .ref (adG (xG x) (this))), (1, vI (p1))] []
  refine j_iconst O dX5_nearest_0 ?_
  refine j_istore_n (L' := [(2, vI ((-1))), (0, .ref (adG (xG x) (this))), (1, vI (p1))]) O 2 dX5_nearest_1 rfl (by rw [hm]; decide) rfl ?_
  refine j_iconst O dX5_nearest_2 ?_
  refine j_istore_n (L' := [(3, vI (0)), (2, vI ((-1))), (0, .ref (adG (xG x) (this))), (1, vI (p1))]) O 3 dX5_nearest_3 rfl (by rw [hm]; decide) rfl ?_
  exact (J.sub [2, 3, 1, 0] rfl <| wk_X5_nearest_4 O hr hm  _ _  FU _ _ _ h)
theorem hy_X5_laySteady : (yX5_laySteady.cls = "DowryBoxesModel" ∧ yX5_laySteady.cls ≠ "java/lang/invoke/MethodHandle" ∧ yX5_laySteady.cls ≠ "java/lang/invoke/VarHandle" ∧ (parseMethodDescriptor yX5_laySteady.desc).map (fun d => d.parameters.length) = some 0) := by decide +kernel
theorem wk_X5_laySteady_14 {x : Cx} (O : OK x "DowryBoxesModel" cX5_laySteady 8) (hr : (xM x).sig.returnType = none) (hm : xn x = 4) {Q : Wd → Prop} (K6 : Int → Wd → Prop) (X14 : Wd → Prop) (this : Nat) (x1 : Int) (hK6 : ∀ (y1 : Int) (w : Wd), K6 y1 w → J x (TV x Q) w 0 0 6 [(0, .ref (adG (xG x) (this))), (1, vI (y1))] []) (hX14 : ∀  (w : Wd), X14  w → J x (TV x Q) w 0 0 41 [(0, .ref (adG (xG x) (this))), (1, vI (x1))] []) : ∀ (n : Nat) (x2 : Int) (w : Wd), wp_X5_laySteady_14 Q K6 X14 this x1 n x2 w → J x (TV x Q) w 0 0 14 [(0, .ref (adG (xG x) (this))), (1, vI (x1)), (2, vI (x2))] [] := by
  intro n
  induction n with
  | zero => intro x2 w h; exact False.elim h
  | succ n ih =>
    intro x2 w h
    rw [wp_X5_laySteady_14] at h
    refine j_iload_n O 2 2 dX5_laySteady_14 rfl rfl ?_
    refine j_aload_n O 0 0 dX5_laySteady_15 rfl rfl ?_
    refine j_getA O cfX5 3 (Nat.le_of_ble_eq_true rfl) ⟨_, rfl⟩ q1571 dX5_laySteady_16 h (fun k1 h => ?_)
    refine j_iconst O dX5_laySteady_19 ?_
    refine j_iald O dX5_laySteady_20 h (fun v2 h => ?_)
    obtain ⟨c3, h⟩ := h
    obtain ⟨c4, h⟩ := h
    refine j_icmp_ge O (tgt := 41) dX5_laySteady_21 (by decide) c3 c4 h (fun h => ?_) (fun h => ?_)
    · exact (J.sub [0, 1] rfl <| hX14  _ h)
    · refine j_aload_n O 0 0 dX5_laySteady_24 rfl rfl ?_
      refine j_getA O cfX5 44 (Nat.le_of_ble_eq_true rfl) ⟨_, rfl⟩ q1612 dX5_laySteady_25 h (fun k5 h => ?_)
      refine j_iload_n O 2 2 dX5_laySteady_28 rfl rfl ?_
      refine j_aload_n O 0 0 dX5_laySteady_29 rfl rfl ?_
      refine j_iload_n O 2 2 dX5_laySteady_30 rfl rfl ?_
      obtain ⟨e8, h⟩ := h
      refine fin_I O ⟨Nat.zero_le _, Nat.zero_le _⟩ (run_V (As := [vI (x2)]) (st := [vI (x2), .ref (adG (xG x) (k5))]) O (mt_X5_nearest (xl x) (xG x) _ _ _ _ h) e8 cfX5.1 q2128 q2130 qs102 q131 q2131 hy_X5_nearest (Nat.le_of_ble_eq_true rfl) (Nat.le_of_ble_eq_true rfl) ⟨Nat.zero_le _, Nat.zero_le _⟩ rfl (Nat.le_of_ble_eq_true rfl) dX5_laySteady_31) (fun r6 w7 h => ?_)
      refine j_iast O dX5_laySteady_34 h (fun w9 h => ?_)
      refine j_iinc (L' := [(2, vI (x2 + 1)), (0, .ref (adG (xG x) (this))), (1, vI (x1))]) O 2 dX5_laySteady_35 rfl (by rw [hm]; decide) rfl ?_
      refine j_goto O (tgt := 14) dX5_laySteady_38 (by decide) ?_
      exact (J.sub [1, 2, 0] rfl <| ih _ _ h)
theorem wk_X5_laySteady_88 {x : Cx} (O : OK x "DowryBoxesModel" cX5_laySteady 8) (hr : (xM x).sig.returnType = none) (hm : xn x = 4) {Q : Wd → Prop} (K6 : Int → Wd → Prop) (K43 : Int → Int → Wd → Prop) (X43 : Int → Wd → Prop) (this : Nat) (x1 : Int) (x2 : Int) (hK6 : ∀ (y1 : Int) (w : Wd), K6 y1 w → J x (TV x Q) w 0 0 6 [(0, .ref (adG (xG x) (this))), (1, vI (y1))] []) (hK43 : ∀ (y1 : Int) (y2 : Int) (w : Wd), K43 y1 y2 w → J x (TV x Q) w 0 0 43 [(0, .ref (adG (xG x) (this))), (1, vI (y1)), (2, vI (y2))] []) (hX43 : ∀ (y1 : Int) (w : Wd), X43 y1 w → J x (TV x Q) w 0 0 94 [(0, .ref (adG (xG x) (this))), (1, vI (y1))] []) (w : Wd) (h : wp_X5_laySteady_88 Q K6 K43 X43 this x1 x2 w) : J x (TV x Q) w 0 0 88 [(0, .ref (adG (xG x) (this))), (1, vI (x1)), (2, vI (x2))] [] := by
  unfold wp_X5_laySteady_88 at h
  refine j_iinc (L' := [(2, vI (x2 + 1)), (0, .ref (adG (xG x) (this))), (1, vI (x1))]) O 2 dX5_laySteady_88 rfl (by rw [hm]; decide) rfl ?_
  refine j_goto O (tgt := 43) dX5_laySteady_91 (by decide) ?_
  exact (J.sub [1, 2, 0] rfl <| hK43 _ _ _ h)
theorem wk_X5_laySteady_43 {x : Cx} (O : OK x "DowryBoxesModel" cX5_laySteady 8) (hr : (xM x).sig.returnType = none) (hm : xn x = 4) {Q : Wd → Prop} (K6 : Int → Wd → Prop) (X43 : Int → Wd → Prop) (this : Nat) (hK6 : ∀ (y1 : Int) (w : Wd), K6 y1 w → J x (TV x Q) w 0 0 6 [(0, .ref (adG (xG x) (this))), (1, vI (y1))] []) (hX43 : ∀ (y1 : Int) (w : Wd), X43 y1 w → J x (TV x Q) w 0 0 94 [(0, .ref (adG (xG x) (this))), (1, vI (y1))] []) : ∀ (n : Nat) (x1 : Int) (x2 : Int) (w : Wd), wp_X5_laySteady_43 Q K6 X43 this n x1 x2 w → J x (TV x Q) w 0 0 43 [(0, .ref (adG (xG x) (this))), (1, vI (x1)), (2, vI (x2))] [] := by
  intro n
  induction n with
  | zero => intro x1 x2 w h; exact False.elim h
  | succ n ih =>
    intro x1 x2 w h
    rw [wp_X5_laySteady_43] at h
    refine j_iload_n O 2 2 dX5_laySteady_43 rfl rfl ?_
    refine j_aload_n O 0 0 dX5_laySteady_44 rfl rfl ?_
    refine j_getA O cfX5 3 (Nat.le_of_ble_eq_true rfl) ⟨_, rfl⟩ q1571 dX5_laySteady_45 h (fun k1 h => ?_)
    refine j_iconst O dX5_laySteady_48 ?_
    refine j_iald O dX5_laySteady_49 h (fun v2 h => ?_)
    obtain ⟨c3, h⟩ := h
    obtain ⟨c4, h⟩ := h
    refine j_icmp_ge O (tgt := 94) dX5_laySteady_50 (by decide) c3 c4 h (fun h => ?_) (fun h => ?_)
    · exact (J.sub [0, 1] rfl <| hX43 _ _ h)
    · refine j_aload_n O 0 0 dX5_laySteady_53 rfl rfl ?_
      refine j_getA O cfX5 44 (Nat.le_of_ble_eq_true rfl) ⟨_, rfl⟩ q1612 dX5_laySteady_54 h (fun k5 h => ?_)
      refine j_iload_n O 2 2 dX5_laySteady_57 rfl rfl ?_
      refine j_iald O dX5_laySteady_58 h (fun v6 h => ?_)
      refine j_istore_n (L' := [(3, vI (v6)), (0, .ref (adG (xG x) (this))), (1, vI (x1)), (2, vI (x2))]) O 3 dX5_laySteady_59 rfl (by rw [hm]; decide) rfl ?_
      refine j_iload_n O 0 3 dX5_laySteady_60 rfl rfl ?_
      refine j_iconst O dX5_laySteady_61 ?_
      obtain ⟨c7, h⟩ := h
      refine j_icmp_eq O (tgt := 88) dX5_laySteady_62 (by decide) c7 (by decide) h (fun h => ?_) (fun h => ?_)
      · exact (J.sub [1, 2, 3] rfl <| wk_X5_laySteady_88 O hr hm _ _ _ _ _ _ hK6 ih hX43 _ h)
      · refine j_aload_n O 1 0 dX5_laySteady_65 rfl rfl ?_
        refine j_iload_n O 0 3 dX5_laySteady_66 rfl rfl ?_
        obtain ⟨e10, h⟩ := h
        refine fin_I O ⟨Nat.zero_le _, Nat.zero_le _⟩ (run_V (As := [vI (v6)]) (st := []) O (mt_X5_keptBy (xl x) (xG x) _ _ _ _ h) e10 cfX5.1 q2132 q2134 qs103 q131 q2135 hy_X5_keptBy (Nat.le_of_ble_eq_true rfl) (Nat.le_of_ble_eq_true rfl) ⟨Nat.zero_le _, Nat.zero_le _⟩ rfl (Nat.le_of_ble_eq_true rfl) dX5_laySteady_67) (fun r8 w9 h => ?_)
        refine j_iload_n O 3 2 dX5_laySteady_70 rfl rfl ?_
        obtain ⟨c11, h⟩ := h
        obtain ⟨c12, h⟩ := h
        refine j_icmp_eq O (tgt := 88) dX5_laySteady_71 (by decide) c11 c12 h (fun h => ?_) (fun h => ?_)
        · exact (J.sub [1, 2, 3] rfl <| wk_X5_laySteady_88 O hr hm _ _ _ _ _ _ hK6 ih hX43 _ h)
        · refine j_aload_n O 1 0 dX5_laySteady_74 rfl rfl ?_
          refine j_getA O cfX5 45 (Nat.le_of_ble_eq_true rfl) ⟨_, rfl⟩ q1613 dX5_laySteady_75 h (fun k13 h => ?_)
          refine j_bipush (m := 6) O dX5_laySteady_78 bi_6 ?_
          refine j_iload_n O 3 2 dX5_laySteady_80 rfl rfl ?_
          refine j_imul O dX5_laySteady_81 ?_
          refine j_iload_n O 0 3 dX5_laySteady_82 rfl rfl ?_
          refine j_iadd O dX5_laySteady_83 ?_
          refine j_iconst O dX5_laySteady_84 ?_
          refine j_zast O dX5_laySteady_85 h (fun w14 h => ?_)
          refine j_iconst O dX5_laySteady_86 ?_
          refine j_istore_n (L' := [(1, vI (1)), (3, vI (v6)), (0, .ref (adG (xG x) (this))), (2, vI (x2))]) O 1 dX5_laySteady_87 rfl (by rw [hm]; decide) rfl ?_
          exact (J.sub [2, 0, 3] rfl <| wk_X5_laySteady_88 O hr hm _ _ _ _ _ _ hK6 ih hX43 _ h)
theorem wk_X5_laySteady_6 {x : Cx} (O : OK x "DowryBoxesModel" cX5_laySteady 8) (hr : (xM x).sig.returnType = none) (hm : xn x = 4) {Q : Wd → Prop} (this : Nat) : ∀ (n : Nat) (x1 : Int) (w : Wd), wp_X5_laySteady_6 Q this n x1 w → J x (TV x Q) w 0 0 6 [(0, .ref (adG (xG x) (this))), (1, vI (x1))] [] := by
  intro n
  induction n with
  | zero => intro x1 w h; exact False.elim h
  | succ n ih =>
    intro x1 w h
    rw [wp_X5_laySteady_6] at h
    refine j_iload_n O 1 1 dX5_laySteady_6 rfl rfl ?_
    obtain ⟨c1, h⟩ := h
    refine j_if_eq O (tgt := 97) dX5_laySteady_7 (by decide) c1 h (fun h => ?_) (fun h => ?_)
    · exact j_vret O hr dX5_laySteady_97 h
    · refine j_iconst O dX5_laySteady_10 ?_
      refine j_istore_n (L' := [(1, vI (0)), (0, .ref (adG (xG x) (this)))]) O 1 dX5_laySteady_11 rfl (by rw [hm]; decide) rfl ?_
      refine j_iconst O dX5_laySteady_12 ?_
      refine j_istore_n (L' := [(2, vI (0)), (1, vI (0)), (0, .ref (adG (xG x) (this)))]) O 2 dX5_laySteady_13 rfl (by rw [hm]; decide) rfl ?_
      refine (J.sub [2, 1, 0] rfl <| wk_X5_laySteady_14 O hr hm _ _ _ _ ih (fun w2 h => ?_) FU _ _ h)
      refine j_iconst O dX5_laySteady_41 ?_
      refine j_istore_n (L' := [(2, vI (0)), (0, .ref (adG (xG x) (this))), (1, vI (0))]) O 2 dX5_laySteady_42 rfl (by rw [hm]; decide) rfl ?_
      refine (J.sub [1, 2, 0] rfl <| wk_X5_laySteady_43 O hr hm _ _ _ ih (fun z3 w4 h => ?_) FU _ _ _ h)
      refine j_goto O (tgt := 6) dX5_laySteady_94 (by decide) ?_
      exact (J.sub [0, 1] rfl <| ih _ _ h)
theorem mt_X5_laySteady (l : Launch) (G : GW) (this : Nat) (w : Wd) (Q : Wd → Prop) (h : wp_X5_laySteady this w Q) : MV l G yX5_laySteady cX5_laySteady 4 8 0 0 [.ref (adG G (this))] w Q := by
  refine met_V (fun G => [.ref (adG G (this))]) (by decide) (fun G => Nat.le_of_ble_eq_true rfl) (fun x O hl hm hr _ => ?_)
  subst hl
  have O : OK x "DowryBoxesModel" cX5_laySteady 8 := O
  have h : wp_X5_laySteady this w Q := h
  unfold wp_X5_laySteady at h
  show J x (TV x Q) w 0 0 0 [(0, .ref (adG (xG x) (this)))] []
  refine j_aload_n O 0 0 dX5_laySteady_0 rfl rfl ?_
  obtain ⟨e2, h⟩ := h
  refine fin_V O ⟨Nat.zero_le _, Nat.zero_le _⟩ (run_V (As := []) (st := []) O (mt_X5_layTwos (xl x) (xG x) _ _ _ h) e2 cfX5.1 q2124 q2126 qs101 q131 q2127 hy_X5_layTwos (Nat.le_of_ble_eq_true rfl) (Nat.le_of_ble_eq_true rfl) ⟨Nat.zero_le _, Nat.zero_le _⟩ rfl (Nat.le_of_ble_eq_true rfl) dX5_laySteady_1) (fun w1 h => ?_)
  refine j_iconst O dX5_laySteady_4 ?_
  refine j_istore_n (L' := [(1, vI (1)), (0, .ref (adG (xG x) (this)))]) O 1 dX5_laySteady_5 rfl (by rw [hm]; decide) rfl ?_
  exact (J.sub [1, 0] rfl <| wk_X5_laySteady_6 O hr hm  _  FU _ _ h)
theorem hy_X5_steady : (yX5_steady.cls = "DowryBoxesModel" ∧ yX5_steady.cls ≠ "java/lang/invoke/MethodHandle" ∧ yX5_steady.cls ≠ "java/lang/invoke/VarHandle" ∧ (parseMethodDescriptor yX5_steady.desc).map (fun d => d.parameters.length) = some 1) := by decide +kernel
theorem mt_X5_steady (l : Launch) (G : GW) (this : Nat) (p1 : Int) (w : Wd) (Q : Int → Wd → Prop) (h : wp_X5_steady this p1 w Q) : MI l G yX5_steady cX5_steady 2 (.int) 9 0 0 [.ref (adG G (this)), vI (p1)] w Q := by
  refine met_I (fun G => [.ref (adG G (this)), vI (p1)]) (by decide) (fun G => Nat.le_of_ble_eq_true rfl) (fun x O hl hm hr => ?_)
  subst hl
  have O : OK x "DowryBoxesModel" cX5_steady 9 := O
  have h : wp_X5_steady this p1 w Q := h
  unfold wp_X5_steady at h
  show J x (TI x Q) w 0 0 0 [(0, .ref (adG (xG x) (this))), (1, vI (p1))] []
  refine j_aload_n O 0 0 dX5_steady_0 rfl rfl ?_
  refine j_iconst O dX5_steady_1 ?_
  refine j_putI O cfX5 0 (Nat.le_of_ble_eq_true rfl) rfl q1568 rfl dX5_steady_2 h (fun w1 h => ?_)
  refine j_aload_n O 0 0 dX5_steady_5 rfl rfl ?_
  refine j_iload_n O 1 1 dX5_steady_6 rfl rfl ?_
  obtain ⟨e4, h⟩ := h
  refine fin_I O ⟨Nat.zero_le _, Nat.zero_le _⟩ (run_V (As := [vI (p1)]) (st := []) O (mt_X5_isBox (xl x) (xG x) _ _ _ _ h) e4 cfX5.1 q1792 q1794 qs51 q131 q1795 hy_X5_isBox (Nat.le_of_ble_eq_true rfl) (Nat.le_of_ble_eq_true rfl) ⟨Nat.zero_le _, Nat.zero_le _⟩ rfl (Nat.le_of_ble_eq_true rfl) dX5_steady_7) (fun r2 w3 h => ?_)
  obtain ⟨c5, h⟩ := h
  refine j_if_ne O (tgt := 15) dX5_steady_10 (by decide) c5 h (fun h => ?_) (fun h => ?_)
  · refine j_aload_n O 0 0 dX5_steady_15 rfl rfl ?_
    obtain ⟨e7, h⟩ := h
    refine fin_V O ⟨Nat.zero_le _, Nat.zero_le _⟩ (run_V (As := []) (st := []) O (mt_X5_laySteady (xl x) (xG x) _ _ _ h) e7 cfX5.1 q2120 q2122 qs100 q131 q2123 hy_X5_laySteady (Nat.le_of_ble_eq_true rfl) (Nat.le_of_ble_eq_true rfl) ⟨Nat.zero_le _, Nat.zero_le _⟩ rfl (Nat.le_of_ble_eq_true rfl) dX5_steady_16) (fun w6 h => ?_)
    refine j_aload_n O 0 0 dX5_steady_19 rfl rfl ?_
    refine j_getA O cfX5 44 (Nat.le_of_ble_eq_true rfl) ⟨_, rfl⟩ q1612 dX5_steady_20 h (fun k8 h => ?_)
    refine j_iload_n O 1 1 dX5_steady_23 rfl rfl ?_
    refine j_iald O dX5_steady_24 h (fun v9 h => ?_)
    exact j_iret O hr dX5_steady_25 h
  · refine j_iconst O dX5_steady_13 ?_
    exact j_iret O hr dX5_steady_14 h
theorem hy_X5_whichAre : (yX5_whichAre.cls = "DowryBoxesModel" ∧ yX5_whichAre.cls ≠ "java/lang/invoke/MethodHandle" ∧ yX5_whichAre.cls ≠ "java/lang/invoke/VarHandle" ∧ (parseMethodDescriptor yX5_whichAre.desc).map (fun d => d.parameters.length) = some 0) := by decide +kernel
theorem wk_X5_whichAre_90 {x : Cx} (O : OK x "DowryBoxesModel" cX5_whichAre 2) (hr : (xM x).sig.returnType = some .int) (hm : xn x = 5) {Q : Int → Wd → Prop} (K4 : Int → Int → Wd → Prop) (K19 : Int → Int → Wd → Prop) (X19 : Int → Wd → Prop) (this : Nat) (x1 : Int) (x2 : Int) (x4 : Int) (s0 : Int) (hK4 : ∀ (y1 : Int) (y2 : Int) (w : Wd), K4 y1 y2 w → J x (TI x Q) w 0 0 4 [(0, .ref (adG (xG x) (this))), (1, vI (y1)), (2, vI (y2))] []) (hK19 : ∀ (y3 : Int) (y4 : Int) (w : Wd), K19 y3 y4 w → J x (TI x Q) w 0 0 19 [(0, .ref (adG (xG x) (this))), (1, vI (x1)), (2, vI (x2)), (3, vI (y3)), (4, vI (y4))] []) (hX19 : ∀ (y3 : Int) (w : Wd), X19 y3 w → J x (TI x Q) w 0 0 97 [(0, .ref (adG (xG x) (this))), (1, vI (x1)), (2, vI (x2)), (3, vI (y3))] []) (w : Wd) (h : wp_X5_whichAre_90 Q K4 K19 X19 this x1 x2 x4 s0 w) : J x (TI x Q) w 0 0 90 [(0, .ref (adG (xG x) (this))), (1, vI (x1)), (2, vI (x2)), (4, vI (x4))] [vI (s0)] := by
  unfold wp_X5_whichAre_90 at h
  refine j_istore_n (L' := [(3, vI (s0)), (0, .ref (adG (xG x) (this))), (1, vI (x1)), (2, vI (x2)), (4, vI (x4))]) O 3 dX5_whichAre_90 rfl (by rw [hm]; decide) rfl ?_
  refine j_iinc (L' := [(4, vI (x4 + 1)), (3, vI (s0)), (0, .ref (adG (xG x) (this))), (1, vI (x1)), (2, vI (x2))]) O 4 dX5_whichAre_91 rfl (by rw [hm]; decide) rfl ?_
  refine j_goto O (tgt := 19) dX5_whichAre_94 (by decide) ?_
  exact (J.sub [2, 3, 4, 1, 0] rfl <| hK19 _ _ _ h)
theorem wk_X5_whichAre_89 {x : Cx} (O : OK x "DowryBoxesModel" cX5_whichAre 2) (hr : (xM x).sig.returnType = some .int) (hm : xn x = 5) {Q : Int → Wd → Prop} (K4 : Int → Int → Wd → Prop) (K19 : Int → Int → Wd → Prop) (X19 : Int → Wd → Prop) (this : Nat) (x1 : Int) (x2 : Int) (x4 : Int) (hK4 : ∀ (y1 : Int) (y2 : Int) (w : Wd), K4 y1 y2 w → J x (TI x Q) w 0 0 4 [(0, .ref (adG (xG x) (this))), (1, vI (y1)), (2, vI (y2))] []) (hK19 : ∀ (y3 : Int) (y4 : Int) (w : Wd), K19 y3 y4 w → J x (TI x Q) w 0 0 19 [(0, .ref (adG (xG x) (this))), (1, vI (x1)), (2, vI (x2)), (3, vI (y3)), (4, vI (y4))] []) (hX19 : ∀ (y3 : Int) (w : Wd), X19 y3 w → J x (TI x Q) w 0 0 97 [(0, .ref (adG (xG x) (this))), (1, vI (x1)), (2, vI (x2)), (3, vI (y3))] []) (w : Wd) (h : wp_X5_whichAre_89 Q K4 K19 X19 this x1 x2 x4 w) : J x (TI x Q) w 0 0 89 [(0, .ref (adG (xG x) (this))), (1, vI (x1)), (2, vI (x2)), (4, vI (x4))] [] := by
  unfold wp_X5_whichAre_89 at h
  refine j_iconst O dX5_whichAre_89 ?_
  exact (J.sub [0, 1, 2, 3] rfl <| wk_X5_whichAre_90 O hr hm _ _ _ _ _ _ _ _ hK4 hK19 hX19 _ h)
theorem wk_X5_whichAre_19 {x : Cx} (O : OK x "DowryBoxesModel" cX5_whichAre 2) (hr : (xM x).sig.returnType = some .int) (hm : xn x = 5) {Q : Int → Wd → Prop} (K4 : Int → Int → Wd → Prop) (X19 : Int → Wd → Prop) (this : Nat) (x1 : Int) (x2 : Int) (hK4 : ∀ (y1 : Int) (y2 : Int) (w : Wd), K4 y1 y2 w → J x (TI x Q) w 0 0 4 [(0, .ref (adG (xG x) (this))), (1, vI (y1)), (2, vI (y2))] []) (hX19 : ∀ (y3 : Int) (w : Wd), X19 y3 w → J x (TI x Q) w 0 0 97 [(0, .ref (adG (xG x) (this))), (1, vI (x1)), (2, vI (x2)), (3, vI (y3))] []) : ∀ (n : Nat) (x3 : Int) (x4 : Int) (w : Wd), wp_X5_whichAre_19 Q K4 X19 this x1 x2 n x3 x4 w → J x (TI x Q) w 0 0 19 [(0, .ref (adG (xG x) (this))), (1, vI (x1)), (2, vI (x2)), (3, vI (x3)), (4, vI (x4))] [] := by
  intro n
  induction n with
  | zero => intro x3 x4 w h; exact False.elim h
  | succ n ih =>
    intro x3 x4 w h
    rw [wp_X5_whichAre_19] at h
    refine j_iload O 4 dX5_whichAre_19 rfl ?_
    refine j_aload_n O 0 0 dX5_whichAre_21 rfl rfl ?_
    refine j_getA O cfX5 3 (Nat.le_of_ble_eq_true rfl) ⟨_, rfl⟩ q1571 dX5_whichAre_22 h (fun k1 h => ?_)
    refine j_iconst O dX5_whichAre_25 ?_
    refine j_iald O dX5_whichAre_26 h (fun v2 h => ?_)
    obtain ⟨c3, h⟩ := h
    obtain ⟨c4, h⟩ := h
    refine j_icmp_ge O (tgt := 97) dX5_whichAre_27 (by decide) c3 c4 h (fun h => ?_) (fun h => ?_)
    · exact (J.sub [0, 1, 2, 3] rfl <| hX19 _ _ h)
    · refine j_iload_n O 3 3 dX5_whichAre_30 rfl rfl ?_
      obtain ⟨c5, h⟩ := h
      refine j_if_eq O (tgt := 89) dX5_whichAre_31 (by decide) c5 h (fun h => ?_) (fun h => ?_)
      · exact (J.sub [0, 1, 2, 4] rfl <| wk_X5_whichAre_89 O hr hm _ _ _ _ _ _ _ hK4 ih hX19 _ h)
      · refine j_aload_n O 0 0 dX5_whichAre_34 rfl rfl ?_
        refine j_iload_n O 2 2 dX5_whichAre_35 rfl rfl ?_
        refine j_aload_n O 0 0 dX5_whichAre_36 rfl rfl ?_
        refine j_getA O cfX5 3 (Nat.le_of_ble_eq_true rfl) ⟨_, rfl⟩ q1571 dX5_whichAre_37 h (fun k6 h => ?_)
        refine j_bipush (m := 92) O dX5_whichAre_40 bi_92 ?_
        refine j_iconst O dX5_whichAre_42 ?_
        refine j_iload O 4 dX5_whichAre_43 rfl ?_
        refine j_imul O dX5_whichAre_45 ?_
        refine j_iadd O dX5_whichAre_46 ?_
        refine j_iald O dX5_whichAre_47 h (fun v7 h => ?_)
        obtain ⟨e10, h⟩ := h
        refine fin_I O ⟨Nat.zero_le _, Nat.zero_le _⟩ (run_V (As := [vI (x2), vI (v7)]) (st := []) O (mt_X5_notesAt (xl x) (xG x) _ _ _ _ _ h) e10 cfX5.1 q1801 q1803 qs53 q131 q1804 hy_X5_notesAt (Nat.le_of_ble_eq_true rfl) (Nat.le_of_ble_eq_true rfl) ⟨Nat.zero_le _, Nat.zero_le _⟩ rfl (Nat.le_of_ble_eq_true rfl) dX5_whichAre_48) (fun r8 w9 h => ?_)
        refine j_aload_n O 0 0 dX5_whichAre_51 rfl rfl ?_
        refine j_getA O cfX5 3 (Nat.le_of_ble_eq_true rfl) ⟨_, rfl⟩ q1571 dX5_whichAre_52 h (fun k11 h => ?_)
        refine j_bipush (m := 92) O dX5_whichAre_55 bi_92 ?_
        refine j_iconst O dX5_whichAre_57 ?_
        refine j_iload O 4 dX5_whichAre_58 rfl ?_
        refine j_imul O dX5_whichAre_60 ?_
        refine j_iadd O dX5_whichAre_61 ?_
        refine j_iconst O dX5_whichAre_62 ?_
        refine j_iadd O dX5_whichAre_63 ?_
        refine j_iald O dX5_whichAre_64 h (fun v12 h => ?_)
        refine j_ishr O dX5_whichAre_65 ?_
        refine j_iconst O dX5_whichAre_66 ?_
        refine j_iand O dX5_whichAre_67 ?_
        refine j_aload_n O 0 0 dX5_whichAre_68 rfl rfl ?_
        refine j_getA O cfX5 3 (Nat.le_of_ble_eq_true rfl) ⟨_, rfl⟩ q1571 dX5_whichAre_69 h (fun k13 h => ?_)
        refine j_bipush (m := 92) O dX5_whichAre_72 bi_92 ?_
        refine j_iconst O dX5_whichAre_74 ?_
        refine j_iload O 4 dX5_whichAre_75 rfl ?_
        refine j_imul O dX5_whichAre_77 ?_
        refine j_iadd O dX5_whichAre_78 ?_
        refine j_iconst O dX5_whichAre_79 ?_
        refine j_iadd O dX5_whichAre_80 ?_
        refine j_iald O dX5_whichAre_81 h (fun v14 h => ?_)
        obtain ⟨c15, h⟩ := h
        obtain ⟨c16, h⟩ := h
        refine j_icmp_ne O (tgt := 89) dX5_whichAre_82 (by decide) c15 c16 h (fun h => ?_) (fun h => ?_)
        · exact (J.sub [0, 1, 2, 4] rfl <| wk_X5_whichAre_89 O hr hm _ _ _ _ _ _ _ hK4 ih hX19 _ h)
        · refine j_iconst O dX5_whichAre_85 ?_
          refine j_goto O (tgt := 90) dX5_whichAre_86 (by decide) ?_
          exact (J.sub [0, 1, 2, 4] rfl <| wk_X5_whichAre_90 O hr hm _ _ _ _ _ _ _ _ hK4 ih hX19 _ h)
theorem wk_X5_whichAre_109 {x : Cx} (O : OK x "DowryBoxesModel" cX5_whichAre 2) (hr : (xM x).sig.returnType = some .int) (hm : xn x = 5) {Q : Int → Wd → Prop} (K4 : Int → Int → Wd → Prop) (this : Nat) (x2 : Int) (s0 : Int) (s1 : Int) (hK4 : ∀ (y1 : Int) (y2 : Int) (w : Wd), K4 y1 y2 w → J x (TI x Q) w 0 0 4 [(0, .ref (adG (xG x) (this))), (1, vI (y1)), (2, vI (y2))] []) (w : Wd) (h : wp_X5_whichAre_109 Q K4 this x2 s0 s1 w) : J x (TI x Q) w 0 0 109 [(0, .ref (adG (xG x) (this))), (2, vI (x2))] [vI (s0), vI (s1)] := by
  unfold wp_X5_whichAre_109 at h
  refine j_ior O dX5_whichAre_109 ?_
  refine j_istore_n (L' := [(1, vI (ior s1 s0)), (0, .ref (adG (xG x) (this))), (2, vI (x2))]) O 1 dX5_whichAre_110 rfl (by rw [hm]; decide) rfl ?_
  refine j_iinc (L' := [(2, vI (x2 + 1)), (1, vI (ior s1 s0)), (0, .ref (adG (xG x) (this)))]) O 2 dX5_whichAre_111 rfl (by rw [hm]; decide) rfl ?_
  refine j_goto O (tgt := 4) dX5_whichAre_114 (by decide) ?_
  exact (J.sub [2, 1, 0] rfl <| hK4 _ _ _ h)
theorem wk_X5_whichAre_4 {x : Cx} (O : OK x "DowryBoxesModel" cX5_whichAre 2) (hr : (xM x).sig.returnType = some .int) (hm : xn x = 5) {Q : Int → Wd → Prop} (this : Nat) : ∀ (n : Nat) (x1 : Int) (x2 : Int) (w : Wd), wp_X5_whichAre_4 Q this n x1 x2 w → J x (TI x Q) w 0 0 4 [(0, .ref (adG (xG x) (this))), (1, vI (x1)), (2, vI (x2))] [] := by
  intro n
  induction n with
  | zero => intro x1 x2 w h; exact False.elim h
  | succ n ih =>
    intro x1 x2 w h
    rw [wp_X5_whichAre_4] at h
    refine j_iload_n O 2 2 dX5_whichAre_4 rfl rfl ?_
    refine j_aload_n O 0 0 dX5_whichAre_5 rfl rfl ?_
    refine j_getA O cfX5 3 (Nat.le_of_ble_eq_true rfl) ⟨_, rfl⟩ q1571 dX5_whichAre_6 h (fun k1 h => ?_)
    refine j_iconst O dX5_whichAre_9 ?_
    refine j_iald O dX5_whichAre_10 h (fun v2 h => ?_)
    obtain ⟨c3, h⟩ := h
    obtain ⟨c4, h⟩ := h
    refine j_icmp_ge O (tgt := 117) dX5_whichAre_11 (by decide) c3 c4 h (fun h => ?_) (fun h => ?_)
    · refine j_iload_n O 1 1 dX5_whichAre_117 rfl rfl ?_
      exact j_iret O hr dX5_whichAre_118 h
    · refine j_iconst O dX5_whichAre_14 ?_
      refine j_istore_n (L' := [(3, vI (1)), (0, .ref (adG (xG x) (this))), (1, vI (x1)), (2, vI (x2))]) O 3 dX5_whichAre_15 rfl (by rw [hm]; decide) rfl ?_
      refine j_iconst O dX5_whichAre_16 ?_
      refine j_istore (L' := [(4, vI (0)), (3, vI (1)), (0, .ref (adG (xG x) (this))), (1, vI (x1)), (2, vI (x2))]) O dX5_whichAre_17 (by rw [hm]; decide) rfl ?_
      refine (J.sub [2, 3, 4, 1, 0] rfl <| wk_X5_whichAre_19 O hr hm _ _ _ _ _ ih (fun z5 w6 h => ?_) FU _ _ _ h)
      refine j_iload_n O 1 1 dX5_whichAre_97 rfl rfl ?_
      refine j_iload_n O 3 3 dX5_whichAre_98 rfl rfl ?_
      obtain ⟨c7, h⟩ := h
      refine j_if_eq O (tgt := 108) dX5_whichAre_99 (by decide) c7 h (fun h => ?_) (fun h => ?_)
      · refine j_iconst O dX5_whichAre_108 ?_
        exact (J.sub [0, 2] rfl <| wk_X5_whichAre_109 O hr hm _ _ _ _ _ ih _ h)
      · refine j_iconst O dX5_whichAre_102 ?_
        refine j_iload_n O 2 2 dX5_whichAre_103 rfl rfl ?_
        refine j_ishl O dX5_whichAre_104 ?_
        refine j_goto O (tgt := 109) dX5_whichAre_105 (by decide) ?_
        exact (J.sub [0, 2] rfl <| wk_X5_whichAre_109 O hr hm _ _ _ _ _ ih _ h)
theorem mt_X5_whichAre (l : Launch) (G : GW) (this : Nat) (w : Wd) (Q : Int → Wd → Prop) (h : wp_X5_whichAre this w Q) : MI l G yX5_whichAre cX5_whichAre 5 (.int) 2 0 0 [.ref (adG G (this))] w Q := by
  refine met_I (fun G => [.ref (adG G (this))]) (by decide) (fun G => Nat.le_of_ble_eq_true rfl) (fun x O hl hm hr => ?_)
  subst hl
  have O : OK x "DowryBoxesModel" cX5_whichAre 2 := O
  have h : wp_X5_whichAre this w Q := h
  unfold wp_X5_whichAre at h
  show J x (TI x Q) w 0 0 0 [(0, .ref (adG (xG x) (this)))] []
  refine j_iconst O dX5_whichAre_0 ?_
  refine j_istore_n (L' := [(1, vI (0)), (0, .ref (adG (xG x) (this)))]) O 1 dX5_whichAre_1 rfl (by rw [hm]; decide) rfl ?_
  refine j_iconst O dX5_whichAre_2 ?_
  refine j_istore_n (L' := [(2, vI (0)), (1, vI (0)), (0, .ref (adG (xG x) (this)))]) O 2 dX5_whichAre_3 rfl (by rw [hm]; decide) rfl ?_
  exact (J.sub [2, 1, 0] rfl <| wk_X5_whichAre_4 O hr hm  _  FU _ _ _ h)
theorem hy_X5_listen : (yX5_listen.cls = "DowryBoxesModel" ∧ yX5_listen.cls ≠ "java/lang/invoke/MethodHandle" ∧ yX5_listen.cls ≠ "java/lang/invoke/VarHandle" ∧ (parseMethodDescriptor yX5_listen.desc).map (fun d => d.parameters.length) = some 1) := by decide +kernel
theorem wk_X5_listen_94 {x : Cx} (O : OK x "DowryBoxesModel" cX5_listen 3) (hr : (xM x).sig.returnType = some .int) (hm : xn x = 8) {Q : Int → Wd → Prop} (K36 : Int → Int → Int → Wd → Prop) (X36 : Int → Int → Wd → Prop) (K49 : Int → Int → Wd → Prop) (X49 : Int → Wd → Prop) (this : Nat) (x1 : Int) (x2 : Int) (x3 : Int) (x4 : Int) (x5 : Int) (x7 : Int) (s0 : Int) (s1 : Int) (hK36 : ∀ (y3 : Int) (y4 : Int) (y5 : Int) (w : Wd), K36 y3 y4 y5 w → J x (TI x Q) w 0 0 36 [(0, .ref (adG (xG x) (this))), (1, vI (x1)), (2, vI (x2)), (3, vI (y3)), (4, vI (y4)), (5, vI (y5))] []) (hX36 : ∀ (y3 : Int) (y4 : Int) (w : Wd), X36 y3 y4 w → J x (TI x Q) w 0 0 175 [(1, vI (x1)), (3, vI (y3)), (4, vI (y4))] []) (hK49 : ∀ (y6 : Int) (y7 : Int) (w : Wd), K49 y6 y7 w → J x (TI x Q) w 0 0 49 [(0, .ref (adG (xG x) (this))), (1, vI (x1)), (2, vI (x2)), (3, vI (x3)), (4, vI (x4)), (5, vI (x5)), (6, vI (y6)), (7, vI (y7))] []) (hX49 : ∀ (y6 : Int) (w : Wd), X49 y6 w → J x (TI x Q) w 0 0 103 [(0, .ref (adG (xG x) (this))), (1, vI (x1)), (2, vI (x2)), (3, vI (x3)), (4, vI (x4)), (5, vI (x5)), (6, vI (y6))] []) (w : Wd) (h : wp_X5_listen_94 Q K36 X36 K49 X49 this x1 x2 x3 x4 x5 x7 s0 s1 w) : J x (TI x Q) w 0 0 94 [(0, .ref (adG (xG x) (this))), (1, vI (x1)), (2, vI (x2)), (3, vI (x3)), (4, vI (x4)), (5, vI (x5)), (7, vI (x7))] [vI (s0), vI (s1)] := by
  unfold wp_X5_listen_94 at h
  refine j_iadd O dX5_listen_94 ?_
  refine j_istore (L' := [(6, vI (s1 + s0)), (0, .ref (adG (xG x) (this))), (1, vI (x1)), (2, vI (x2)), (3, vI (x3)), (4, vI (x4)), (5, vI (x5)), (7, vI (x7))]) O dX5_listen_95 (by rw [hm]; decide) rfl ?_
  refine j_iinc (L' := [(7, vI (x7 + 1)), (6, vI (s1 + s0)), (0, .ref (adG (xG x) (this))), (1, vI (x1)), (2, vI (x2)), (3, vI (x3)), (4, vI (x4)), (5, vI (x5))]) O 7 dX5_listen_97 rfl (by rw [hm]; decide) rfl ?_
  refine j_goto O (tgt := 49) dX5_listen_100 (by decide) ?_
  exact (J.sub [2, 3, 4, 5, 6, 7, 1, 0] rfl <| hK49 _ _ _ h)
theorem wk_X5_listen_49 {x : Cx} (O : OK x "DowryBoxesModel" cX5_listen 3) (hr : (xM x).sig.returnType = some .int) (hm : xn x = 8) {Q : Int → Wd → Prop} (K36 : Int → Int → Int → Wd → Prop) (X36 : Int → Int → Wd → Prop) (X49 : Int → Wd → Prop) (this : Nat) (x1 : Int) (x2 : Int) (x3 : Int) (x4 : Int) (x5 : Int) (hK36 : ∀ (y3 : Int) (y4 : Int) (y5 : Int) (w : Wd), K36 y3 y4 y5 w → J x (TI x Q) w 0 0 36 [(0, .ref (adG (xG x) (this))), (1, vI (x1)), (2, vI (x2)), (3, vI (y3)), (4, vI (y4)), (5, vI (y5))] []) (hX36 : ∀ (y3 : Int) (y4 : Int) (w : Wd), X36 y3 y4 w → J x (TI x Q) w 0 0 175 [(1, vI (x1)), (3, vI (y3)), (4, vI (y4))] []) (hX49 : ∀ (y6 : Int) (w : Wd), X49 y6 w → J x (TI x Q) w 0 0 103 [(0, .ref (adG (xG x) (this))), (1, vI (x1)), (2, vI (x2)), (3, vI (x3)), (4, vI (x4)), (5, vI (x5)), (6, vI (y6))] []) : ∀ (n : Nat) (x6 : Int) (x7 : Int) (w : Wd), wp_X5_listen_49 Q K36 X36 X49 this x1 x2 x3 x4 x5 n x6 x7 w → J x (TI x Q) w 0 0 49 [(0, .ref (adG (xG x) (this))), (1, vI (x1)), (2, vI (x2)), (3, vI (x3)), (4, vI (x4)), (5, vI (x5)), (6, vI (x6)), (7, vI (x7))] [] := by
  intro n
  induction n with
  | zero => intro x6 x7 w h; exact False.elim h
  | succ n ih =>
    intro x6 x7 w h
    rw [wp_X5_listen_49] at h
    refine j_iload O 7 dX5_listen_49 rfl ?_
    refine j_aload_n O 0 0 dX5_listen_51 rfl rfl ?_
    refine j_getA O cfX5 3 (Nat.le_of_ble_eq_true rfl) ⟨_, rfl⟩ q1571 dX5_listen_52 h (fun k1 h => ?_)
    refine j_iconst O dX5_listen_55 ?_
    refine j_iald O dX5_listen_56 h (fun v2 h => ?_)
    obtain ⟨c3, h⟩ := h
    obtain ⟨c4, h⟩ := h
    refine j_icmp_ge O (tgt := 103) dX5_listen_57 (by decide) c3 c4 h (fun h => ?_) (fun h => ?_)
    · exact (J.sub [0, 1, 2, 3, 4, 5, 6] rfl <| hX49 _ _ h)
    · refine j_iload O 6 dX5_listen_60 rfl ?_
      refine j_iload_n O 2 2 dX5_listen_62 rfl rfl ?_
      refine j_iload O 7 dX5_listen_63 rfl ?_
      refine fin_I O ⟨Nat.zero_le _, Nat.zero_le _⟩ (run_S (As := [vI (x2), vI (x7)]) (st := [vI (x6)]) O (mt_X5_is (xl x) (xG x) _ _ _ _ h) q2056 q2057 q131 q2058 hy_X5_is.2 (Nat.le_of_ble_eq_true rfl) (Nat.le_of_ble_eq_true rfl) ⟨Nat.zero_le _, Nat.zero_le _⟩ rfl (Nat.le_of_ble_eq_true rfl) dX5_listen_65) (fun r5 w6 h => ?_)
      obtain ⟨c7, h⟩ := h
      refine j_if_eq O (tgt := 93) dX5_listen_68 (by decide) c7 h (fun h => ?_) (fun h => ?_)
      · refine j_iconst O dX5_listen_93 ?_
        exact (J.sub [0, 1, 2, 3, 4, 5, 7] rfl <| wk_X5_listen_94 O hr hm _ _ _ _ _ _ _ _ _ _ _ _ _ hK36 hX36 ih hX49 _ h)
      · refine j_aload_n O 0 0 dX5_listen_71 rfl rfl ?_
        refine j_iload O 7 dX5_listen_72 rfl ?_
        refine j_iload O 5 dX5_listen_74 rfl ?_
        refine j_bipush (m := 8) O dX5_listen_76 bi_8 ?_
        refine j_idiv O dX5_listen_78 h (fun h => ?_)
        obtain ⟨e10, h⟩ := h
        refine fin_I O ⟨Nat.zero_le _, Nat.zero_le _⟩ (run_V (As := [vI (x7), vI ((Int.tdiv x5 8))]) (st := [vI (x6)]) O (mt_X5_notesAt (xl x) (xG x) _ _ _ _ _ h) e10 cfX5.1 q1801 q1803 qs53 q131 q1804 hy_X5_notesAt (Nat.le_of_ble_eq_true rfl) (Nat.le_of_ble_eq_true rfl) ⟨Nat.zero_le _, Nat.zero_le _⟩ rfl (Nat.le_of_ble_eq_true rfl) dX5_listen_79) (fun r8 w9 h => ?_)
        refine j_iload O 5 dX5_listen_82 rfl ?_
        refine j_bipush (m := 8) O dX5_listen_84 bi_8 ?_
        refine j_irem O dX5_listen_86 h (fun h => ?_)
        refine j_ishr O dX5_listen_87 ?_
        refine j_iconst O dX5_listen_88 ?_
        refine j_iand O dX5_listen_89 ?_
        refine j_goto O (tgt := 94) dX5_listen_90 (by decide) ?_
        exact (J.sub [0, 1, 2, 3, 4, 5, 7] rfl <| wk_X5_listen_94 O hr hm _ _ _ _ _ _ _ _ _ _ _ _ _ hK36 hX36 ih hX49 _ h)
theorem wk_X5_listen_168 {x : Cx} (O : OK x "DowryBoxesModel" cX5_listen 3) (hr : (xM x).sig.returnType = some .int) (hm : xn x = 8) {Q : Int → Wd → Prop} (K36 : Int → Int → Int → Wd → Prop) (X36 : Int → Int → Wd → Prop) (this : Nat) (x1 : Int) (x2 : Int) (x4 : Int) (x5 : Int) (s0 : Int) (hK36 : ∀ (y3 : Int) (y4 : Int) (y5 : Int) (w : Wd), K36 y3 y4 y5 w → J x (TI x Q) w 0 0 36 [(0, .ref (adG (xG x) (this))), (1, vI (x1)), (2, vI (x2)), (3, vI (y3)), (4, vI (y4)), (5, vI (y5))] []) (hX36 : ∀ (y3 : Int) (y4 : Int) (w : Wd), X36 y3 y4 w → J x (TI x Q) w 0 0 175 [(1, vI (x1)), (3, vI (y3)), (4, vI (y4))] []) (w : Wd) (h : wp_X5_listen_168 Q K36 X36 this x1 x2 x4 x5 s0 w) : J x (TI x Q) w 0 0 168 [(0, .ref (adG (xG x) (this))), (1, vI (x1)), (2, vI (x2)), (4, vI (x4)), (5, vI (x5))] [vI (s0)] := by
  unfold wp_X5_listen_168 at h
  refine j_istore_n (L' := [(3, vI (s0)), (0, .ref (adG (xG x) (this))), (1, vI (x1)), (2, vI (x2)), (4, vI (x4)), (5, vI (x5))]) O 3 dX5_listen_168 rfl (by rw [hm]; decide) rfl ?_
  refine j_iinc (L' := [(5, vI (x5 + 1)), (3, vI (s0)), (0, .ref (adG (xG x) (this))), (1, vI (x1)), (2, vI (x2)), (4, vI (x4))]) O 5 dX5_listen_169 rfl (by rw [hm]; decide) rfl ?_
  refine j_goto O (tgt := 36) dX5_listen_172 (by decide) ?_
  exact (J.sub [2, 3, 4, 1, 5, 0] rfl <| hK36 _ _ _ _ h)
theorem wk_X5_listen_154 {x : Cx} (O : OK x "DowryBoxesModel" cX5_listen 3) (hr : (xM x).sig.returnType = some .int) (hm : xn x = 8) {Q : Int → Wd → Prop} (K36 : Int → Int → Int → Wd → Prop) (X36 : Int → Int → Wd → Prop) (this : Nat) (x1 : Int) (x2 : Int) (x3 : Int) (x5 : Int) (x7 : Int) (s0 : Int) (hK36 : ∀ (y3 : Int) (y4 : Int) (y5 : Int) (w : Wd), K36 y3 y4 y5 w → J x (TI x Q) w 0 0 36 [(0, .ref (adG (xG x) (this))), (1, vI (x1)), (2, vI (x2)), (3, vI (y3)), (4, vI (y4)), (5, vI (y5))] []) (hX36 : ∀ (y3 : Int) (y4 : Int) (w : Wd), X36 y3 y4 w → J x (TI x Q) w 0 0 175 [(1, vI (x1)), (3, vI (y3)), (4, vI (y4))] []) (w : Wd) (h : wp_X5_listen_154 Q K36 X36 this x1 x2 x3 x5 x7 s0 w) : J x (TI x Q) w 0 0 154 [(0, .ref (adG (xG x) (this))), (1, vI (x1)), (2, vI (x2)), (3, vI (x3)), (5, vI (x5)), (7, vI (x7))] [vI (s0)] := by
  unfold wp_X5_listen_154 at h
  refine j_istore (L' := [(4, vI (s0)), (0, .ref (adG (xG x) (this))), (1, vI (x1)), (2, vI (x2)), (3, vI (x3)), (5, vI (x5)), (7, vI (x7))]) O dX5_listen_154 (by rw [hm]; decide) rfl ?_
  refine j_iload O 6 dX5_listen_156 rfl ?_
  refine j_iload_n O 4 3 dX5_listen_158 rfl rfl ?_
  obtain ⟨c1, h⟩ := h
  obtain ⟨c2, h⟩ := h
  refine j_icmp_ge O (tgt := 167) dX5_listen_159 (by decide) c1 c2 h (fun h => ?_) (fun h => ?_)
  · refine j_iload_n O 4 3 dX5_listen_167 rfl rfl ?_
    exact (J.sub [1, 2, 3, 0, 5] rfl <| wk_X5_listen_168 O hr hm _ _ _ _ _ _ _ _ hK36 hX36 _ h)
  · refine j_iload O 6 dX5_listen_162 rfl ?_
    refine j_goto O (tgt := 168) dX5_listen_164 (by decide) ?_
    exact (J.sub [1, 2, 3, 0, 5] rfl <| wk_X5_listen_168 O hr hm _ _ _ _ _ _ _ _ hK36 hX36 _ h)
theorem wk_X5_listen_127 {x : Cx} (O : OK x "DowryBoxesModel" cX5_listen 3) (hr : (xM x).sig.returnType = some .int) (hm : xn x = 8) {Q : Int → Wd → Prop} (K36 : Int → Int → Int → Wd → Prop) (X36 : Int → Int → Wd → Prop) (this : Nat) (x1 : Int) (x2 : Int) (x3 : Int) (x4 : Int) (x5 : Int) (s0 : Int) (hK36 : ∀ (y3 : Int) (y4 : Int) (y5 : Int) (w : Wd), K36 y3 y4 y5 w → J x (TI x Q) w 0 0 36 [(0, .ref (adG (xG x) (this))), (1, vI (x1)), (2, vI (x2)), (3, vI (y3)), (4, vI (y4)), (5, vI (y5))] []) (hX36 : ∀ (y3 : Int) (y4 : Int) (w : Wd), X36 y3 y4 w → J x (TI x Q) w 0 0 175 [(1, vI (x1)), (3, vI (y3)), (4, vI (y4))] []) (w : Wd) (h : wp_X5_listen_127 Q K36 X36 this x1 x2 x3 x4 x5 s0 w) : J x (TI x Q) w 0 0 127 [(0, .ref (adG (xG x) (this))), (1, vI (x1)), (2, vI (x2)), (3, vI (x3)), (4, vI (x4)), (5, vI (x5))] [vI (s0)] := by
  unfold wp_X5_listen_127 at h
  refine j_istore (L' := [(7, vI (s0)), (0, .ref (adG (xG x) (this))), (1, vI (x1)), (2, vI (x2)), (3, vI (x3)), (4, vI (x4)), (5, vI (x5))]) O dX5_listen_127 (by rw [hm]; decide) rfl ?_
  refine j_iload O 0 dX5_listen_129 rfl ?_
  refine j_iload_n O 4 3 dX5_listen_131 rfl rfl ?_
  obtain ⟨c1, h⟩ := h
  obtain ⟨c2, h⟩ := h
  refine j_icmp_ge O (tgt := 152) dX5_listen_132 (by decide) c1 c2 h (fun h => ?_) (fun h => ?_)
  · refine j_iload O 5 dX5_listen_152 rfl ?_
    exact (J.sub [1, 2, 3, 4, 6, 0] rfl <| wk_X5_listen_154 O hr hm _ _ _ _ _ _ _ _ _ hK36 hX36 _ h)
  · refine j_bipush (m := 10) O dX5_listen_135 bi_10 ?_
    refine j_iload O 6 dX5_listen_137 rfl ?_
    refine j_bipush (m := 8) O dX5_listen_139 bi_8 ?_
    refine j_idiv O dX5_listen_141 h (fun h => ?_)
    refine j_imul O dX5_listen_142 ?_
    refine j_iload O 6 dX5_listen_143 rfl ?_
    refine j_bipush (m := 8) O dX5_listen_145 bi_8 ?_
    refine j_irem O dX5_listen_147 h (fun h => ?_)
    refine j_iadd O dX5_listen_148 ?_
    refine j_goto O (tgt := 154) dX5_listen_149 (by decide) ?_
    exact (J.sub [1, 2, 3, 4, 6, 0] rfl <| wk_X5_listen_154 O hr hm _ _ _ _ _ _ _ _ _ hK36 hX36 _ h)
theorem wk_X5_listen_36 {x : Cx} (O : OK x "DowryBoxesModel" cX5_listen 3) (hr : (xM x).sig.returnType = some .int) (hm : xn x = 8) {Q : Int → Wd → Prop} (X36 : Int → Int → Wd → Prop) (this : Nat) (x1 : Int) (x2 : Int) (hX36 : ∀ (y3 : Int) (y4 : Int) (w : Wd), X36 y3 y4 w → J x (TI x Q) w 0 0 175 [(1, vI (x1)), (3, vI (y3)), (4, vI (y4))] []) : ∀ (n : Nat) (x3 : Int) (x4 : Int) (x5 : Int) (w : Wd), wp_X5_listen_36 Q X36 this x1 x2 n x3 x4 x5 w → J x (TI x Q) w 0 0 36 [(0, .ref (adG (xG x) (this))), (1, vI (x1)), (2, vI (x2)), (3, vI (x3)), (4, vI (x4)), (5, vI (x5))] [] := by
  intro n
  induction n with
  | zero => intro x3 x4 x5 w h; exact False.elim h
  | succ n ih =>
    intro x3 x4 x5 w h
    rw [wp_X5_listen_36] at h
    refine j_iload O 5 dX5_listen_36 rfl ?_
    refine j_bipush (m := 64) O dX5_listen_38 bi_64 ?_
    obtain ⟨c1, h⟩ := h
    refine j_icmp_ge O (tgt := 175) dX5_listen_40 (by decide) c1 (by decide) h (fun h => ?_) (fun h => ?_)
    · exact (J.sub [1, 3, 4] rfl <| hX36 _ _ _ h)
    · refine j_iconst O dX5_listen_43 ?_
      refine j_istore (L' := [(6, vI (0)), (0, .ref (adG (xG x) (this))), (1, vI (x1)), (2, vI (x2)), (3, vI (x3)), (4, vI (x4)), (5, vI (x5))]) O dX5_listen_44 (by rw [hm]; decide) rfl ?_
      refine j_iconst O dX5_listen_46 ?_
      refine j_istore (L' := [(7, vI (0)), (6, vI (0)), (0, .ref (adG (xG x) (this))), (1, vI (x1)), (2, vI (x2)), (3, vI (x3)), (4, vI (x4)), (5, vI (x5))]) O dX5_listen_47 (by rw [hm]; decide) rfl ?_
      refine (J.sub [2, 3, 4, 5, 6, 7, 1, 0] rfl <| wk_X5_listen_49 O hr hm _ _ _ _ _ _ _ _ _ ih hX36 (fun z2 w3 h => ?_) FU _ _ _ h)
      refine j_iload O 6 dX5_listen_103 rfl ?_
      refine j_iload_n O 2 2 dX5_listen_105 rfl rfl ?_
      refine fin_I O ⟨Nat.zero_le _, Nat.zero_le _⟩ (run_S (As := [vI (x2)]) (st := [vI (z2)]) O (mt_X5_ones (xl x) (xG x) _ _ _ h) q1805 q1806 q131 q1807 hy_X5_ones.2 (Nat.le_of_ble_eq_true rfl) (Nat.le_of_ble_eq_true rfl) ⟨Nat.zero_le _, Nat.zero_le _⟩ rfl (Nat.le_of_ble_eq_true rfl) dX5_listen_106) (fun r4 w5 h => ?_)
      refine j_iload O 6 dX5_listen_109 rfl ?_
      refine j_isub O dX5_listen_111 ?_
      obtain ⟨c6, h⟩ := h
      obtain ⟨c7, h⟩ := h
      refine j_icmp_le O (tgt := 120) dX5_listen_112 (by decide) c6 c7 h (fun h => ?_) (fun h => ?_)
      · refine j_iload_n O 2 2 dX5_listen_120 rfl rfl ?_
        refine fin_I O ⟨Nat.zero_le _, Nat.zero_le _⟩ (run_S (As := [vI (x2)]) (st := []) O (mt_X5_ones (xl x) (xG x) _ _ _ h) q1805 q1806 q131 q1807 hy_X5_ones.2 (Nat.le_of_ble_eq_true rfl) (Nat.le_of_ble_eq_true rfl) ⟨Nat.zero_le _, Nat.zero_le _⟩ rfl (Nat.le_of_ble_eq_true rfl) dX5_listen_121) (fun r8 w9 h => ?_)
        refine j_iload O 6 dX5_listen_124 rfl ?_
        refine j_isub O dX5_listen_126 ?_
        exact (J.sub [0, 1, 2, 3, 4, 5] rfl <| wk_X5_listen_127 O hr hm _ _ _ _ _ _ _ _ _ ih hX36 _ h)
      · refine j_iload O 6 dX5_listen_115 rfl ?_
        refine j_goto O (tgt := 127) dX5_listen_117 (by decide) ?_
        exact (J.sub [0, 1, 2, 3, 4, 5] rfl <| wk_X5_listen_127 O hr hm _ _ _ _ _ _ _ _ _ ih hX36 _ h)
theorem mt_X5_listen (l : Launch) (G : GW) (this : Nat) (p1 : Int) (w : Wd) (Q : Int → Wd → Prop) (h : wp_X5_listen this p1 w Q) : MI l G yX5_listen cX5_listen 8 (.int) 3 0 0 [.ref (adG G (this)), vI (p1)] w Q := by
  refine met_I (fun G => [.ref (adG G (this)), vI (p1)]) (by decide) (fun G => Nat.le_of_ble_eq_true rfl) (fun x O hl hm hr => ?_)
  subst hl
  have O : OK x "DowryBoxesModel" cX5_listen 3 := O
  have h : wp_X5_listen this p1 w Q := h
  unfold wp_X5_listen at h
  show J x (TI x Q) w 0 0 0 [(0, .ref (adG (xG x) (this))), (1, vI (p1))] []
  refine j_aload_n O 0 0 dX5_listen_0 rfl rfl ?_
  refine j_iconst O dX5_listen_1 ?_
  refine j_putI O cfX5 0 (Nat.le_of_ble_eq_true rfl) rfl q1568 rfl dX5_listen_2 h (fun w1 h => ?_)
  refine j_aload_n O 0 0 dX5_listen_5 rfl rfl ?_
  obtain ⟨e4, h⟩ := h
  refine fin_I O ⟨Nat.zero_le _, Nat.zero_le _⟩ (run_V (As := []) (st := []) O (mt_X5_whichAre (xl x) (xG x) _ _ _ h) e4 cfX5.1 q2107 q2109 qs99 q131 q2110 hy_X5_whichAre (Nat.le_of_ble_eq_true rfl) (Nat.le_of_ble_eq_true rfl) ⟨Nat.zero_le _, Nat.zero_le _⟩ rfl (Nat.le_of_ble_eq_true rfl) dX5_listen_6) (fun r2 w3 h => ?_)
  refine j_istore_n (L' := [(2, vI (r2)), (0, .ref (adG (xG x) (this))), (1, vI (p1))]) O 2 dX5_listen_9 rfl (by rw [hm]; decide) rfl ?_
  refine j_iload_n O 2 1 dX5_listen_10 rfl rfl ?_
  refine j_i2l O dX5_listen_11 h (fun h => ?_)
  refine j_lconst (m := 0) O dX5_listen_12 lc_0 ?_
  refine j_lconst (m := 1) O dX5_listen_13 lc_1 ?_
  refine fin_I O ⟨Nat.zero_le _, Nat.zero_le _⟩ (run_S (As := [vL (p1), vL (0), vL (1)]) (st := []) O (mt_X5_in (xl x) (xG x) _ _ _ _ _ h) q1772 q1773 q131 q1774 hy_X5_in.2 (Nat.le_of_ble_eq_true rfl) (Nat.le_of_ble_eq_true rfl) ⟨Nat.zero_le _, Nat.zero_le _⟩ rfl (Nat.le_of_ble_eq_true rfl) dX5_listen_14) (fun r5 w6 h => ?_)
  obtain ⟨c7, h⟩ := h
  refine j_if_eq O (tgt := 24) dX5_listen_17 (by decide) c7 h (fun h => ?_) (fun h => ?_)
  · refine j_iconst O dX5_listen_24 ?_
    exact j_iret O hr dX5_listen_25 h
  · refine j_iload_n O 0 2 dX5_listen_20 rfl rfl ?_
    obtain ⟨c8, h⟩ := h
    refine j_if_ne O (tgt := 26) dX5_listen_21 (by decide) c8 h (fun h => ?_) (fun h => ?_)
    · refine j_ldcw (m := 100000000) O dX5_listen_26 q2115 ld_100000000 ?_
      refine j_istore_n (L' := [(3, vI (100000000)), (2, vI (r2)), (0, .ref (adG (xG x) (this))), (1, vI (p1))]) O 3 dX5_listen_29 rfl (by rw [hm]; decide) rfl ?_
      refine j_iconst O dX5_listen_30 ?_
      refine j_istore (L' := [(4, vI ((-1))), (3, vI (100000000)), (2, vI (r2)), (0, .ref (adG (xG x) (this))), (1, vI (p1))]) O dX5_listen_31 (by rw [hm]; decide) rfl ?_
      refine j_iconst O dX5_listen_33 ?_
      refine j_istore (L' := [(5, vI (0)), (4, vI ((-1))), (3, vI (100000000)), (2, vI (r2)), (0, .ref (adG (xG x) (this))), (1, vI (p1))]) O dX5_listen_34 (by rw [hm]; decide) rfl ?_
      refine (J.sub [4, 5, 3, 2, 1, 0] rfl <| wk_X5_listen_36 O hr hm _ _ _ _ (fun z9 z10 w11 h => ?_) FU _ _ _ _ h)
      refine j_iload_n O 0 1 dX5_listen_175 rfl rfl ?_
      obtain ⟨c12, h⟩ := h
      refine j_if_ne O (tgt := 184) dX5_listen_176 (by decide) c12 h (fun h => ?_) (fun h => ?_)
      · refine j_iload_n O 1 3 dX5_listen_184 rfl rfl ?_
        exact j_iret O hr dX5_listen_185 h
      · refine j_iload O 2 dX5_listen_179 rfl ?_
        refine j_goto O (tgt := 185) dX5_listen_181 (by decide) ?_
        exact j_iret O hr dX5_listen_185 h
    · refine j_iconst O dX5_listen_24 ?_
      exact j_iret O hr dX5_listen_25 h
theorem hy_X5_which : (yX5_which.cls = "DowryBoxesModel" ∧ yX5_which.cls ≠ "java/lang/invoke/MethodHandle" ∧ yX5_which.cls ≠ "java/lang/invoke/VarHandle" ∧ (parseMethodDescriptor yX5_which.desc).map (fun d => d.parameters.length) = some 0) := by decide +kernel
theorem mt_X5_which (l : Launch) (G : GW) (this : Nat) (w : Wd) (Q : Int → Wd → Prop) (h : wp_X5_which this w Q) : MI l G yX5_which cX5_which 1 (.int) 3 0 0 [.ref (adG G (this))] w Q := by
  refine met_I (fun G => [.ref (adG G (this))]) (by decide) (fun G => Nat.le_of_ble_eq_true rfl) (fun x O hl hm hr => ?_)
  subst hl
  have O : OK x "DowryBoxesModel" cX5_which 3 := O
  have h : wp_X5_which this w Q := h
  unfold wp_X5_which at h
  show J x (TI x Q) w 0 0 0 [(0, .ref (adG (xG x) (this)))] []
  refine j_aload_n O 0 0 dX5_which_0 rfl rfl ?_
  refine j_iconst O dX5_which_1 ?_
  refine j_putI O cfX5 0 (Nat.le_of_ble_eq_true rfl) rfl q1568 rfl dX5_which_2 h (fun w1 h => ?_)
  refine j_aload_n O 0 0 dX5_which_5 rfl rfl ?_
  obtain ⟨e4, h⟩ := h
  refine fin_I O ⟨Nat.zero_le _, Nat.zero_le _⟩ (run_V (As := []) (st := []) O (mt_X5_whichAre (xl x) (xG x) _ _ _ h) e4 cfX5.1 q2107 q2109 qs99 q131 q2110 hy_X5_whichAre (Nat.le_of_ble_eq_true rfl) (Nat.le_of_ble_eq_true rfl) ⟨Nat.zero_le _, Nat.zero_le _⟩ rfl (Nat.le_of_ble_eq_true rfl) dX5_which_6) (fun r2 w3 h => ?_)
  exact j_iret O hr dX5_which_9 h
theorem hy_X5_forget : (yX5_forget.cls = "DowryBoxesModel" ∧ yX5_forget.cls ≠ "java/lang/invoke/MethodHandle" ∧ yX5_forget.cls ≠ "java/lang/invoke/VarHandle" ∧ (parseMethodDescriptor yX5_forget.desc).map (fun d => d.parameters.length) = some 0) := by decide +kernel
theorem mt_X5_forget (l : Launch) (G : GW) (this : Nat) (w : Wd) (Q : Int → Wd → Prop) (h : wp_X5_forget this w Q) : MI l G yX5_forget cX5_forget 2 (.int) 1 0 0 [.ref (adG G (this))] w Q := by
  refine met_I (fun G => [.ref (adG G (this))]) (by decide) (fun G => Nat.le_of_ble_eq_true rfl) (fun x O hl hm hr => ?_)
  subst hl
  have O : OK x "DowryBoxesModel" cX5_forget 1 := O
  have h : wp_X5_forget this w Q := h
  unfold wp_X5_forget at h
  show J x (TI x Q) w 0 0 0 [(0, .ref (adG (xG x) (this)))] []
  refine j_aload_n O 0 0 dX5_forget_0 rfl rfl ?_
  refine j_iconst O dX5_forget_1 ?_
  refine j_putI O cfX5 0 (Nat.le_of_ble_eq_true rfl) rfl q1568 rfl dX5_forget_2 h (fun w1 h => ?_)
  refine j_aload_n O 0 0 dX5_forget_5 rfl rfl ?_
  refine j_getA O cfX5 3 (Nat.le_of_ble_eq_true rfl) ⟨_, rfl⟩ q1571 dX5_forget_6 h (fun k2 h => ?_)
  refine j_iconst O dX5_forget_9 ?_
  refine j_iald O dX5_forget_10 h (fun v3 h => ?_)
  refine j_istore_n (L' := [(1, vI (v3)), (0, .ref (adG (xG x) (this)))]) O 1 dX5_forget_11 rfl (by rw [hm]; decide) rfl ?_
  refine j_aload_n O 1 0 dX5_forget_12 rfl rfl ?_
  refine j_getA O cfX5 3 (Nat.le_of_ble_eq_true rfl) ⟨_, rfl⟩ q1571 dX5_forget_13 h (fun k4 h => ?_)
  refine j_iconst O dX5_forget_16 ?_
  refine j_iconst O dX5_forget_17 ?_
  refine j_iast O dX5_forget_18 h (fun w5 h => ?_)
  refine j_iload_n O 0 1 dX5_forget_19 rfl rfl ?_
  exact j_iret O hr dX5_forget_20 h
theorem hy_X5_hear : (yX5_hear.cls = "DowryBoxesModel" ∧ yX5_hear.cls ≠ "java/lang/invoke/MethodHandle" ∧ yX5_hear.cls ≠ "java/lang/invoke/VarHandle" ∧ (parseMethodDescriptor yX5_hear.desc).map (fun d => d.parameters.length) = some 3) := by decide +kernel
theorem wk_X5_hear_29 {x : Cx} (O : OK x "DowryBoxesModel" cX5_hear 3) (hr : (xM x).sig.returnType = some .int) (hm : xn x = 5) {Q : Int → Wd → Prop} (this : Nat) (w : Wd) (h : wp_X5_hear_29 Q this w) : J x (TI x Q) w 0 0 29 [(0, .ref (adG (xG x) (this)))] [] := by
  unfold wp_X5_hear_29 at h
  refine j_aload_n O 0 0 dX5_hear_29 rfl rfl ?_
  refine j_iconst O dX5_hear_30 ?_
  obtain ⟨e3, h⟩ := h
  refine fin_I O ⟨Nat.zero_le _, Nat.zero_le _⟩ (run_V (As := [vI (((-1)))]) (st := []) O (mt_X5_tell (xl x) (xG x) _ _ _ _ h) e3 cfX5.1 q1760 q1762 qs48 q131 q1763 hy_X5_tell (Nat.le_of_ble_eq_true rfl) (Nat.le_of_ble_eq_true rfl) ⟨Nat.zero_le _, Nat.zero_le _⟩ rfl (Nat.le_of_ble_eq_true rfl) dX5_hear_31) (fun r1 w2 h => ?_)
  exact j_iret O hr dX5_hear_34 h
theorem mt_X5_hear (l : Launch) (G : GW) (this : Nat) (p1 : Int) (p2 : Int) (p3 : Int) (w : Wd) (Q : Int → Wd → Prop) (h : wp_X5_hear this p1 p2 p3 w Q) : MI l G yX5_hear cX5_hear 5 (.int) 3 0 0 [.ref (adG G (this)), vI (p1), vI (p2), vI (p3)] w Q := by
  refine met_I (fun G => [.ref (adG G (this)), vI (p1), vI (p2), vI (p3)]) (by decide) (fun G => Nat.le_of_ble_eq_true rfl) (fun x O hl hm hr => ?_)
  subst hl
  have O : OK x "DowryBoxesModel" cX5_hear 3 := O
  have h : wp_X5_hear this p1 p2 p3 w Q := h
  unfold wp_X5_hear at h
  show J x (TI x Q) w 0 0 0 [(0, .ref (adG (xG x) (this))), (1, vI (p1)), (2, vI (p2)), (3, vI (p3))] []
  refine j_aload_n O 0 0 dX5_hear_0 rfl rfl ?_
  refine j_iconst O dX5_hear_1 ?_
  refine j_putI O cfX5 0 (Nat.le_of_ble_eq_true rfl) rfl q1568 rfl dX5_hear_2 h (fun w1 h => ?_)
  refine j_iload_n O 1 1 dX5_hear_5 rfl rfl ?_
  refine fin_I O ⟨Nat.zero_le _, Nat.zero_le _⟩ (run_S (As := [vI (p1)]) (st := []) O (mt_X5_isBar (xl x) (xG x) _ _ _ h) q1846 q1847 q131 q1848 hy_X5_isBar.2 (Nat.le_of_ble_eq_true rfl) (Nat.le_of_ble_eq_true rfl) ⟨Nat.zero_le _, Nat.zero_le _⟩ rfl (Nat.le_of_ble_eq_true rfl) dX5_hear_6) (fun r2 w3 h => ?_)
  obtain ⟨c4, h⟩ := h
  refine j_if_eq O (tgt := 29) dX5_hear_9 (by decide) c4 h (fun h => ?_) (fun h => ?_)
  · exact (J.sub [0] rfl <| wk_X5_hear_29 O hr hm  _  _ h)
  · refine j_iload_n O 2 2 dX5_hear_12 rfl rfl ?_
    refine fin_I O ⟨Nat.zero_le _, Nat.zero_le _⟩ (run_S (As := [vI (p2)]) (st := []) O (mt_X5_isTooth (xl x) (xG x) _ _ _ h) q1859 q1860 q131 q1861 hy_X5_isTooth.2 (Nat.le_of_ble_eq_true rfl) (Nat.le_of_ble_eq_true rfl) ⟨Nat.zero_le _, Nat.zero_le _⟩ rfl (Nat.le_of_ble_eq_true rfl) dX5_hear_13) (fun r5 w6 h => ?_)
    obtain ⟨c7, h⟩ := h
    refine j_if_eq O (tgt := 29) dX5_hear_16 (by decide) c7 h (fun h => ?_) (fun h => ?_)
    · exact (J.sub [0] rfl <| wk_X5_hear_29 O hr hm  _  _ h)
    · refine j_iload_n O 3 3 dX5_hear_19 rfl rfl ?_
      refine j_i2l O dX5_hear_20 h (fun h => ?_)
      refine j_lconst (m := 0) O dX5_hear_21 lc_0 ?_
      refine j_lconst (m := 1) O dX5_hear_22 lc_1 ?_
      refine fin_I O ⟨Nat.zero_le _, Nat.zero_le _⟩ (run_S (As := [vL (p3), vL (0), vL (1)]) (st := []) O (mt_X5_in (xl x) (xG x) _ _ _ _ _ h) q1772 q1773 q131 q1774 hy_X5_in.2 (Nat.le_of_ble_eq_true rfl) (Nat.le_of_ble_eq_true rfl) ⟨Nat.zero_le _, Nat.zero_le _⟩ rfl (Nat.le_of_ble_eq_true rfl) dX5_hear_23) (fun r8 w9 h => ?_)
      obtain ⟨c10, h⟩ := h
      refine j_if_ne O (tgt := 35) dX5_hear_26 (by decide) c10 h (fun h => ?_) (fun h => ?_)
      · refine j_aload_n O 0 0 dX5_hear_35 rfl rfl ?_
        refine j_getA O cfX5 3 (Nat.le_of_ble_eq_true rfl) ⟨_, rfl⟩ q1571 dX5_hear_36 h (fun k11 h => ?_)
        refine j_iconst O dX5_hear_39 ?_
        refine j_iald O dX5_hear_40 h (fun v12 h => ?_)
        refine j_istore (L' := [(4, vI (v12)), (0, .ref (adG (xG x) (this))), (1, vI (p1)), (2, vI (p2)), (3, vI (p3))]) O dX5_hear_41 (by rw [hm]; decide) rfl ?_
        refine j_iload O 0 dX5_hear_43 rfl ?_
        refine j_bipush (m := 8) O dX5_hear_45 bi_8 ?_
        obtain ⟨c13, h⟩ := h
        refine j_icmp_ne O (tgt := 57) dX5_hear_47 (by decide) c13 (by decide) h (fun h => ?_) (fun h => ?_)
        · refine j_aload_n O 1 0 dX5_hear_57 rfl rfl ?_
          refine j_getA O cfX5 3 (Nat.le_of_ble_eq_true rfl) ⟨_, rfl⟩ q1571 dX5_hear_58 h (fun k14 h => ?_)
          refine j_bipush (m := 92) O dX5_hear_61 bi_92 ?_
          refine j_iconst O dX5_hear_63 ?_
          refine j_iload O 0 dX5_hear_64 rfl ?_
          refine j_imul O dX5_hear_66 ?_
          refine j_iadd O dX5_hear_67 ?_
          refine j_iload_n O 2 1 dX5_hear_68 rfl rfl ?_
          refine j_iast O dX5_hear_69 h (fun w15 h => ?_)
          refine j_aload_n O 1 0 dX5_hear_70 rfl rfl ?_
          refine j_getA O cfX5 3 (Nat.le_of_ble_eq_true rfl) ⟨_, rfl⟩ q1571 dX5_hear_71 h (fun k16 h => ?_)
          refine j_bipush (m := 92) O dX5_hear_74 bi_92 ?_
          refine j_iconst O dX5_hear_76 ?_
          refine j_iload O 0 dX5_hear_77 rfl ?_
          refine j_imul O dX5_hear_79 ?_
          refine j_iadd O dX5_hear_80 ?_
          refine j_iconst O dX5_hear_81 ?_
          refine j_iadd O dX5_hear_82 ?_
          refine j_iload_n O 3 2 dX5_hear_83 rfl rfl ?_
          refine j_iast O dX5_hear_84 h (fun w17 h => ?_)
          refine j_aload_n O 1 0 dX5_hear_85 rfl rfl ?_
          refine j_getA O cfX5 3 (Nat.le_of_ble_eq_true rfl) ⟨_, rfl⟩ q1571 dX5_hear_86 h (fun k18 h => ?_)
          refine j_bipush (m := 92) O dX5_hear_89 bi_92 ?_
          refine j_iconst O dX5_hear_91 ?_
          refine j_iload O 0 dX5_hear_92 rfl ?_
          refine j_imul O dX5_hear_94 ?_
          refine j_iadd O dX5_hear_95 ?_
          refine j_iconst O dX5_hear_96 ?_
          refine j_iadd O dX5_hear_97 ?_
          refine j_iload_n O 4 3 dX5_hear_98 rfl rfl ?_
          refine j_iast O dX5_hear_99 h (fun w19 h => ?_)
          refine j_aload_n O 1 0 dX5_hear_100 rfl rfl ?_
          refine j_getA O cfX5 3 (Nat.le_of_ble_eq_true rfl) ⟨_, rfl⟩ q1571 dX5_hear_101 h (fun k20 h => ?_)
          refine j_iconst O dX5_hear_104 ?_
          refine j_dup2_11 O dX5_hear_105 rfl rfl ?_
          refine j_iald O dX5_hear_106 h (fun v21 h => ?_)
          refine j_iconst O dX5_hear_107 ?_
          refine j_iadd O dX5_hear_108 ?_
          refine j_iast O dX5_hear_109 h (fun w22 h => ?_)
          refine j_aload_n O 1 0 dX5_hear_110 rfl rfl ?_
          refine j_iload O 0 dX5_hear_111 rfl ?_
          refine j_iconst O dX5_hear_113 ?_
          refine j_iadd O dX5_hear_114 ?_
          obtain ⟨e25, h⟩ := h
          refine fin_I O ⟨Nat.zero_le _, Nat.zero_le _⟩ (run_V (As := [vI ((v12 + 1))]) (st := []) O (mt_X5_tell (xl x) (xG x) _ _ _ _ h) e25 cfX5.1 q1760 q1762 qs48 q131 q1763 hy_X5_tell (Nat.le_of_ble_eq_true rfl) (Nat.le_of_ble_eq_true rfl) ⟨Nat.zero_le _, Nat.zero_le _⟩ rfl (Nat.le_of_ble_eq_true rfl) dX5_hear_115) (fun r23 w24 h => ?_)
          exact j_iret O hr dX5_hear_118 h
        · refine j_aload_n O 1 0 dX5_hear_50 rfl rfl ?_
          refine j_bipush (m := (-5)) O dX5_hear_51 bi_m5 ?_
          obtain ⟨e28, h⟩ := h
          refine fin_I O ⟨Nat.zero_le _, Nat.zero_le _⟩ (run_V (As := [vI (((-5)))]) (st := []) O (mt_X5_tell (xl x) (xG x) _ _ _ _ h) e28 cfX5.1 q1760 q1762 qs48 q131 q1763 hy_X5_tell (Nat.le_of_ble_eq_true rfl) (Nat.le_of_ble_eq_true rfl) ⟨Nat.zero_le _, Nat.zero_le _⟩ rfl (Nat.le_of_ble_eq_true rfl) dX5_hear_53) (fun r26 w27 h => ?_)
          exact j_iret O hr dX5_hear_56 h
      · exact (J.sub [0] rfl <| wk_X5_hear_29 O hr hm  _  _ h)
theorem hy_X5_pass : (yX5_pass.cls = "DowryBoxesModel" ∧ yX5_pass.cls ≠ "java/lang/invoke/MethodHandle" ∧ yX5_pass.cls ≠ "java/lang/invoke/VarHandle" ∧ (parseMethodDescriptor yX5_pass.desc).map (fun d => d.parameters.length) = some 0) := by decide +kernel
theorem mt_X5_pass (l : Launch) (G : GW) (this : Nat) (w : Wd) (Q : Int → Wd → Prop) (h : wp_X5_pass this w Q) : MI l G yX5_pass cX5_pass 1 (.int) 9 0 0 [.ref (adG G (this))] w Q := by
  refine met_I (fun G => [.ref (adG G (this))]) (by decide) (fun G => Nat.le_of_ble_eq_true rfl) (fun x O hl hm hr => ?_)
  subst hl
  have O : OK x "DowryBoxesModel" cX5_pass 9 := O
  have h : wp_X5_pass this w Q := h
  unfold wp_X5_pass at h
  show J x (TI x Q) w 0 0 0 [(0, .ref (adG (xG x) (this)))] []
  refine j_aload_n O 0 0 dX5_pass_0 rfl rfl ?_
  refine j_iconst O dX5_pass_1 ?_
  refine j_putI O cfX5 0 (Nat.le_of_ble_eq_true rfl) rfl q1568 rfl dX5_pass_2 h (fun w1 h => ?_)
  refine j_aload_n O 0 0 dX5_pass_5 rfl rfl ?_
  refine j_aload_n O 0 0 dX5_pass_6 rfl rfl ?_
  obtain ⟨e4, h⟩ := h
  refine fin_I O ⟨Nat.zero_le _, Nat.zero_le _⟩ (run_V (As := []) (st := [.ref (adG (xG x) (this))]) O (mt_X5_passNow (xl x) (xG x) _ _ _ h) e4 cfX5.1 q2087 q2089 qs97 q131 q2090 hy_X5_passNow (Nat.le_of_ble_eq_true rfl) (Nat.le_of_ble_eq_true rfl) ⟨Nat.zero_le _, Nat.zero_le _⟩ rfl (Nat.le_of_ble_eq_true rfl) dX5_pass_7) (fun r2 w3 h => ?_)
  obtain ⟨e7, h⟩ := h
  refine fin_I O ⟨Nat.zero_le _, Nat.zero_le _⟩ (run_V (As := [vI (r2)]) (st := []) O (mt_X5_tell (xl x) (xG x) _ _ _ _ h) e7 cfX5.1 q1760 q1762 qs48 q131 q1763 hy_X5_tell (Nat.le_of_ble_eq_true rfl) (Nat.le_of_ble_eq_true rfl) ⟨Nat.zero_le _, Nat.zero_le _⟩ rfl (Nat.le_of_ble_eq_true rfl) dX5_pass_10) (fun r5 w6 h => ?_)
  exact j_iret O hr dX5_pass_13 h
theorem hy_X5_wed : (yX5_wed.cls = "DowryBoxesModel" ∧ yX5_wed.cls ≠ "java/lang/invoke/MethodHandle" ∧ yX5_wed.cls ≠ "java/lang/invoke/VarHandle" ∧ (parseMethodDescriptor yX5_wed.desc).map (fun d => d.parameters.length) = some 2) := by decide +kernel
theorem mt_X5_wed (l : Launch) (G : GW) (this : Nat) (p1 : Int) (p2 : Int) (w : Wd) (Q : Int → Wd → Prop) (h : wp_X5_wed this p1 p2 w Q) : MI l G yX5_wed cX5_wed 3 (.int) 8 0 0 [.ref (adG G (this)), vI (p1), vI (p2)] w Q := by
  refine met_I (fun G => [.ref (adG G (this)), vI (p1), vI (p2)]) (by decide) (fun G => Nat.le_of_ble_eq_true rfl) (fun x O hl hm hr => ?_)
  subst hl
  have O : OK x "DowryBoxesModel" cX5_wed 8 := O
  have h : wp_X5_wed this p1 p2 w Q := h
  unfold wp_X5_wed at h
  show J x (TI x Q) w 0 0 0 [(0, .ref (adG (xG x) (this))), (1, vI (p1)), (2, vI (p2))] []
  refine j_aload_n O 0 0 dX5_wed_0 rfl rfl ?_
  refine j_iconst O dX5_wed_1 ?_
  refine j_putI O cfX5 0 (Nat.le_of_ble_eq_true rfl) rfl q1568 rfl dX5_wed_2 h (fun w1 h => ?_)
  refine j_aload_n O 0 0 dX5_wed_5 rfl rfl ?_
  refine j_aload_n O 0 0 dX5_wed_6 rfl rfl ?_
  refine j_iload_n O 1 1 dX5_wed_7 rfl rfl ?_
  refine j_iload_n O 2 2 dX5_wed_8 rfl rfl ?_
  obtain ⟨e4, h⟩ := h
  refine fin_I O ⟨Nat.zero_le _, Nat.zero_le _⟩ (run_V (As := [vI (p1), vI (p2)]) (st := [.ref (adG (xG x) (this))]) O (mt_X5_wedNow (xl x) (xG x) _ _ _ _ _ h) e4 cfX5.1 q2079 q2081 qs96 q131 q2082 hy_X5_wedNow (Nat.le_of_ble_eq_true rfl) (Nat.le_of_ble_eq_true rfl) ⟨Nat.zero_le _, Nat.zero_le _⟩ rfl (Nat.le_of_ble_eq_true rfl) dX5_wed_9) (fun r2 w3 h => ?_)
  obtain ⟨e7, h⟩ := h
  refine fin_I O ⟨Nat.zero_le _, Nat.zero_le _⟩ (run_V (As := [vI (r2)]) (st := []) O (mt_X5_tell (xl x) (xG x) _ _ _ _ h) e7 cfX5.1 q1760 q1762 qs48 q131 q1763 hy_X5_tell (Nat.le_of_ble_eq_true rfl) (Nat.le_of_ble_eq_true rfl) ⟨Nat.zero_le _, Nat.zero_le _⟩ rfl (Nat.le_of_ble_eq_true rfl) dX5_wed_12) (fun r5 w6 h => ?_)
  exact j_iret O hr dX5_wed_15 h
theorem hy_X5_snap : (yX5_snap.cls = "DowryBoxesModel" ∧ yX5_snap.cls ≠ "java/lang/invoke/MethodHandle" ∧ yX5_snap.cls ≠ "java/lang/invoke/VarHandle" ∧ (parseMethodDescriptor yX5_snap.desc).map (fun d => d.parameters.length) = some 2) := by decide +kernel
theorem mt_X5_snap (l : Launch) (G : GW) (this : Nat) (p1 : Int) (p2 : Int) (w : Wd) (Q : Int → Wd → Prop) (h : wp_X5_snap this p1 p2 w Q) : MI l G yX5_snap cX5_snap 3 (.int) 4 0 0 [.ref (adG G (this)), vI (p1), vI (p2)] w Q := by
  refine met_I (fun G => [.ref (adG G (this)), vI (p1), vI (p2)]) (by decide) (fun G => Nat.le_of_ble_eq_true rfl) (fun x O hl hm hr => ?_)
  subst hl
  have O : OK x "DowryBoxesModel" cX5_snap 4 := O
  have h : wp_X5_snap this p1 p2 w Q := h
  unfold wp_X5_snap at h
  show J x (TI x Q) w 0 0 0 [(0, .ref (adG (xG x) (this))), (1, vI (p1)), (2, vI (p2))] []
  refine j_aload_n O 0 0 dX5_snap_0 rfl rfl ?_
  refine j_iconst O dX5_snap_1 ?_
  refine j_putI O cfX5 0 (Nat.le_of_ble_eq_true rfl) rfl q1568 rfl dX5_snap_2 h (fun w1 h => ?_)
  refine j_aload_n O 0 0 dX5_snap_5 rfl rfl ?_
  refine j_aload_n O 0 0 dX5_snap_6 rfl rfl ?_
  refine j_iload_n O 1 1 dX5_snap_7 rfl rfl ?_
  refine j_iload_n O 2 2 dX5_snap_8 rfl rfl ?_
  obtain ⟨e4, h⟩ := h
  refine fin_I O ⟨Nat.zero_le _, Nat.zero_le _⟩ (run_V (As := [vI (p1), vI (p2)]) (st := [.ref (adG (xG x) (this))]) O (mt_X5_snapNow (xl x) (xG x) _ _ _ _ _ h) e4 cfX5.1 q2071 q2073 qs95 q131 q2074 hy_X5_snapNow (Nat.le_of_ble_eq_true rfl) (Nat.le_of_ble_eq_true rfl) ⟨Nat.zero_le _, Nat.zero_le _⟩ rfl (Nat.le_of_ble_eq_true rfl) dX5_snap_9) (fun r2 w3 h => ?_)
  obtain ⟨e7, h⟩ := h
  refine fin_I O ⟨Nat.zero_le _, Nat.zero_le _⟩ (run_V (As := [vI (r2)]) (st := []) O (mt_X5_tell (xl x) (xG x) _ _ _ _ h) e7 cfX5.1 q1760 q1762 qs48 q131 q1763 hy_X5_tell (Nat.le_of_ble_eq_true rfl) (Nat.le_of_ble_eq_true rfl) ⟨Nat.zero_le _, Nat.zero_le _⟩ rfl (Nat.le_of_ble_eq_true rfl) dX5_snap_12) (fun r5 w6 h => ?_)
  exact j_iret O hr dX5_snap_15 h
theorem hy_X5_pull : (yX5_pull.cls = "DowryBoxesModel" ∧ yX5_pull.cls ≠ "java/lang/invoke/MethodHandle" ∧ yX5_pull.cls ≠ "java/lang/invoke/VarHandle" ∧ (parseMethodDescriptor yX5_pull.desc).map (fun d => d.parameters.length) = some 3) := by decide +kernel
theorem mt_X5_pull (l : Launch) (G : GW) (this : Nat) (p1 : Int) (p2 : Int) (p3 : Int) (w : Wd) (Q : Int → Wd → Prop) (h : wp_X5_pull this p1 p2 p3 w Q) : MI l G yX5_pull cX5_pull 4 (.int) 4 0 0 [.ref (adG G (this)), vI (p1), vI (p2), vI (p3)] w Q := by
  refine met_I (fun G => [.ref (adG G (this)), vI (p1), vI (p2), vI (p3)]) (by decide) (fun G => Nat.le_of_ble_eq_true rfl) (fun x O hl hm hr => ?_)
  subst hl
  have O : OK x "DowryBoxesModel" cX5_pull 4 := O
  have h : wp_X5_pull this p1 p2 p3 w Q := h
  unfold wp_X5_pull at h
  show J x (TI x Q) w 0 0 0 [(0, .ref (adG (xG x) (this))), (1, vI (p1)), (2, vI (p2)), (3, vI (p3))] []
  refine j_aload_n O 0 0 dX5_pull_0 rfl rfl ?_
  refine j_iconst O dX5_pull_1 ?_
  refine j_putI O cfX5 0 (Nat.le_of_ble_eq_true rfl) rfl q1568 rfl dX5_pull_2 h (fun w1 h => ?_)
  refine j_aload_n O 0 0 dX5_pull_5 rfl rfl ?_
  refine j_aload_n O 0 0 dX5_pull_6 rfl rfl ?_
  refine j_iload_n O 1 1 dX5_pull_7 rfl rfl ?_
  refine j_iload_n O 2 2 dX5_pull_8 rfl rfl ?_
  refine j_iload_n O 3 3 dX5_pull_9 rfl rfl ?_
  obtain ⟨e4, h⟩ := h
  refine fin_I O ⟨Nat.zero_le _, Nat.zero_le _⟩ (run_V (As := [vI (p1), vI (p2), vI (p3)]) (st := [.ref (adG (xG x) (this))]) O (mt_X5_pullNow (xl x) (xG x) _ _ _ _ _ _ h) e4 cfX5.1 q2048 q2050 qs91 q131 q2051 hy_X5_pullNow (Nat.le_of_ble_eq_true rfl) (Nat.le_of_ble_eq_true rfl) ⟨Nat.zero_le _, Nat.zero_le _⟩ rfl (Nat.le_of_ble_eq_true rfl) dX5_pull_10) (fun r2 w3 h => ?_)
  obtain ⟨e7, h⟩ := h
  refine fin_I O ⟨Nat.zero_le _, Nat.zero_le _⟩ (run_V (As := [vI (r2)]) (st := []) O (mt_X5_tell (xl x) (xG x) _ _ _ _ h) e7 cfX5.1 q1760 q1762 qs48 q131 q1763 hy_X5_tell (Nat.le_of_ble_eq_true rfl) (Nat.le_of_ble_eq_true rfl) ⟨Nat.zero_le _, Nat.zero_le _⟩ rfl (Nat.le_of_ble_eq_true rfl) dX5_pull_13) (fun r5 w6 h => ?_)
  exact j_iret O hr dX5_pull_16 h
theorem hy_X5_change : (yX5_change.cls = "DowryBoxesModel" ∧ yX5_change.cls ≠ "java/lang/invoke/MethodHandle" ∧ yX5_change.cls ≠ "java/lang/invoke/VarHandle" ∧ (parseMethodDescriptor yX5_change.desc).map (fun d => d.parameters.length) = some 2) := by decide +kernel
theorem mt_X5_change (l : Launch) (G : GW) (this : Nat) (p1 : Int) (p2 : Int) (w : Wd) (Q : Int → Wd → Prop) (h : wp_X5_change this p1 p2 w Q) : MI l G yX5_change cX5_change 4 (.int) 1 0 0 [.ref (adG G (this)), vI (p1), vI (p2)] w Q := by
  refine met_I (fun G => [.ref (adG G (this)), vI (p1), vI (p2)]) (by decide) (fun G => Nat.le_of_ble_eq_true rfl) (fun x O hl hm hr => ?_)
  subst hl
  have O : OK x "DowryBoxesModel" cX5_change 1 := O
  have h : wp_X5_change this p1 p2 w Q := h
  unfold wp_X5_change at h
  show J x (TI x Q) w 0 0 0 [(0, .ref (adG (xG x) (this))), (1, vI (p1)), (2, vI (p2))] []
  refine j_aload_n O 0 0 dX5_change_0 rfl rfl ?_
  refine j_getA O cfX5 3 (Nat.le_of_ble_eq_true rfl) ⟨_, rfl⟩ q1571 dX5_change_1 h (fun k1 h => ?_)
  refine j_iload_n O 1 1 dX5_change_4 rfl rfl ?_
  refine j_iald O dX5_change_5 h (fun v2 h => ?_)
  refine j_istore_n (L' := [(3, vI (v2)), (0, .ref (adG (xG x) (this))), (1, vI (p1)), (2, vI (p2))]) O 3 dX5_change_6 rfl (by rw [hm]; decide) rfl ?_
  refine j_aload_n O 1 0 dX5_change_7 rfl rfl ?_
  refine j_getA O cfX5 3 (Nat.le_of_ble_eq_true rfl) ⟨_, rfl⟩ q1571 dX5_change_8 h (fun k3 h => ?_)
  refine j_iload_n O 2 1 dX5_change_11 rfl rfl ?_
  refine j_iload_n O 3 2 dX5_change_12 rfl rfl ?_
  refine j_iast O dX5_change_13 h (fun w4 h => ?_)
  refine j_aload_n O 1 0 dX5_change_14 rfl rfl ?_
  refine j_iconst O dX5_change_15 ?_
  refine j_putI O cfX5 1 (Nat.le_of_ble_eq_true rfl) rfl q1569 rfl dX5_change_16 h (fun w5 h => ?_)
  refine j_iload_n O 0 3 dX5_change_19 rfl rfl ?_
  exact j_iret O hr dX5_change_20 h
theorem hy_X5_force : (yX5_force.cls = "DowryBoxesModel" ∧ yX5_force.cls ≠ "java/lang/invoke/MethodHandle" ∧ yX5_force.cls ≠ "java/lang/invoke/VarHandle" ∧ (parseMethodDescriptor yX5_force.desc).map (fun d => d.parameters.length) = some 1) := by decide +kernel
theorem mt_X5_force (l : Launch) (G : GW) (this : Nat) (p1 : Int) (w : Wd) (Q : Int → Wd → Prop) (h : wp_X5_force this p1 w Q) : MI l G yX5_force cX5_force 2 (.int) 3 0 0 [.ref (adG G (this)), vI (p1)] w Q := by
  refine met_I (fun G => [.ref (adG G (this)), vI (p1)]) (by decide) (fun G => Nat.le_of_ble_eq_true rfl) (fun x O hl hm hr => ?_)
  subst hl
  have O : OK x "DowryBoxesModel" cX5_force 3 := O
  have h : wp_X5_force this p1 w Q := h
  unfold wp_X5_force at h
  show J x (TI x Q) w 0 0 0 [(0, .ref (adG (xG x) (this))), (1, vI (p1))] []
  refine j_aload_n O 0 0 dX5_force_0 rfl rfl ?_
  refine j_iconst O dX5_force_1 ?_
  refine j_putI O cfX5 0 (Nat.le_of_ble_eq_true rfl) rfl q1568 rfl dX5_force_2 h (fun w1 h => ?_)
  refine j_aload_n O 0 0 dX5_force_5 rfl rfl ?_
  refine j_iload_n O 1 1 dX5_force_6 rfl rfl ?_
  obtain ⟨e4, h⟩ := h
  refine fin_I O ⟨Nat.zero_le _, Nat.zero_le _⟩ (run_V (As := [vI (p1)]) (st := []) O (mt_X5_isLaw (xl x) (xG x) _ _ _ _ h) e4 cfX5.1 q2040 q2042 qs90 q131 q2043 hy_X5_isLaw (Nat.le_of_ble_eq_true rfl) (Nat.le_of_ble_eq_true rfl) ⟨Nat.zero_le _, Nat.zero_le _⟩ rfl (Nat.le_of_ble_eq_true rfl) dX5_force_7) (fun r2 w3 h => ?_)
  obtain ⟨c5, h⟩ := h
  refine j_if_eq O (tgt := 22) dX5_force_10 (by decide) c5 h (fun h => ?_) (fun h => ?_)
  · refine j_aload_n O 0 0 dX5_force_22 rfl rfl ?_
    refine j_bipush (m := (-2)) O dX5_force_23 bi_m2 ?_
    obtain ⟨e8, h⟩ := h
    refine fin_I O ⟨Nat.zero_le _, Nat.zero_le _⟩ (run_V (As := [vI (((-2)))]) (st := []) O (mt_X5_tell (xl x) (xG x) _ _ _ _ h) e8 cfX5.1 q1760 q1762 qs48 q131 q1763 hy_X5_tell (Nat.le_of_ble_eq_true rfl) (Nat.le_of_ble_eq_true rfl) ⟨Nat.zero_le _, Nat.zero_le _⟩ rfl (Nat.le_of_ble_eq_true rfl) dX5_force_25) (fun r6 w7 h => ?_)
    exact j_iret O hr dX5_force_28 h
  · refine j_aload_n O 0 0 dX5_force_13 rfl rfl ?_
    refine j_iconst O dX5_force_14 ?_
    refine j_iload_n O 1 1 dX5_force_15 rfl rfl ?_
    obtain ⟨e11, h⟩ := h
    refine fin_I O ⟨Nat.zero_le _, Nat.zero_le _⟩ (run_V (As := [vI (4), vI (p1)]) (st := []) O (mt_X5_change (xl x) (xG x) _ _ _ _ _ h) e11 cfX5.1 q1851 q1853 qs61 q131 q1854 hy_X5_change (Nat.le_of_ble_eq_true rfl) (Nat.le_of_ble_eq_true rfl) ⟨Nat.zero_le _, Nat.zero_le _⟩ rfl (Nat.le_of_ble_eq_true rfl) dX5_force_16) (fun r9 w10 h => ?_)
    refine j_goto O (tgt := 28) dX5_force_19 (by decide) ?_
    exact j_iret O hr dX5_force_28 h
theorem hy_X5_readLaw : (yX5_readLaw.cls = "DowryBoxesModel" ∧ yX5_readLaw.cls ≠ "java/lang/invoke/MethodHandle" ∧ yX5_readLaw.cls ≠ "java/lang/invoke/VarHandle" ∧ (parseMethodDescriptor yX5_readLaw.desc).map (fun d => d.parameters.length) = some 0) := by decide +kernel
theorem wk_X5_readLaw_27 {x : Cx} (O : OK x "DowryBoxesModel" cX5_readLaw 8) (hr : (xM x).sig.returnType = none) (hm : xn x = 4) {Q : Wd → Prop} (K4 : Int → Int → Wd → Prop) (X4 : Int → Wd → Prop) (this : Nat) (x2 : Int) (s0 : Int) (hK4 : ∀ (y1 : Int) (y2 : Int) (w : Wd), K4 y1 y2 w → J x (TV x Q) w 0 0 4 [(0, .ref (adG (xG x) (this))), (1, vI (y1)), (2, vI (y2))] []) (hX4 : ∀ (y1 : Int) (w : Wd), X4 y1 w → J x (TV x Q) w 0 0 34 [(0, .ref (adG (xG x) (this))), (1, vI (y1))] []) (w : Wd) (h : wp_X5_readLaw_27 Q K4 X4 this x2 s0 w) : J x (TV x Q) w 0 0 27 [(0, .ref (adG (xG x) (this))), (2, vI (x2))] [vI (s0)] := by
  unfold wp_X5_readLaw_27 at h
  refine j_istore_n (L' := [(1, vI (s0)), (0, .ref (adG (xG x) (this))), (2, vI (x2))]) O 1 dX5_readLaw_27 rfl (by rw [hm]; decide) rfl ?_
  refine j_iinc (L' := [(2, vI (x2 + 1)), (1, vI (s0)), (0, .ref (adG (xG x) (this)))]) O 2 dX5_readLaw_28 rfl (by rw [hm]; decide) rfl ?_
  refine j_goto O (tgt := 4) dX5_readLaw_31 (by decide) ?_
  exact (J.sub [2, 1, 0] rfl <| hK4 _ _ _ h)
theorem wk_X5_readLaw_4 {x : Cx} (O : OK x "DowryBoxesModel" cX5_readLaw 8) (hr : (xM x).sig.returnType = none) (hm : xn x = 4) {Q : Wd → Prop} (X4 : Int → Wd → Prop) (this : Nat) (hX4 : ∀ (y1 : Int) (w : Wd), X4 y1 w → J x (TV x Q) w 0 0 34 [(0, .ref (adG (xG x) (this))), (1, vI (y1))] []) : ∀ (n : Nat) (x1 : Int) (x2 : Int) (w : Wd), wp_X5_readLaw_4 Q X4 this n x1 x2 w → J x (TV x Q) w 0 0 4 [(0, .ref (adG (xG x) (this))), (1, vI (x1)), (2, vI (x2))] [] := by
  intro n
  induction n with
  | zero => intro x1 x2 w h; exact False.elim h
  | succ n ih =>
    intro x1 x2 w h
    rw [wp_X5_readLaw_4] at h
    refine j_iload_n O 2 2 dX5_readLaw_4 rfl rfl ?_
    refine j_iconst O dX5_readLaw_5 ?_
    obtain ⟨c1, h⟩ := h
    refine j_icmp_ge O (tgt := 34) dX5_readLaw_6 (by decide) c1 (by decide) h (fun h => ?_) (fun h => ?_)
    · exact (J.sub [0, 1] rfl <| hX4 _ _ h)
    · refine j_aload_n O 0 0 dX5_readLaw_9 rfl rfl ?_
      refine j_aload_n O 0 0 dX5_readLaw_10 rfl rfl ?_
      refine j_getA O cfX5 33 (Nat.le_of_ble_eq_true rfl) ⟨_, rfl⟩ q1601 dX5_readLaw_11 h (fun k2 h => ?_)
      refine j_iload_n O 2 2 dX5_readLaw_14 rfl rfl ?_
      refine j_lald O dX5_readLaw_15 h (fun v3 h => ?_)
      obtain ⟨e6, h⟩ := h
      refine fin_I O ⟨Nat.zero_le _, Nat.zero_le _⟩ (run_V (As := [vL (v3)]) (st := []) O (mt_X5_isWord (xl x) (xG x) _ _ _ _ h) e6 cfX5.1 q1948 q1950 qs71 q131 q1951 hy_X5_isWord (Nat.le_of_ble_eq_true rfl) (Nat.le_of_ble_eq_true rfl) ⟨Nat.zero_le _, Nat.zero_le _⟩ rfl (Nat.le_of_ble_eq_true rfl) dX5_readLaw_16) (fun r4 w5 h => ?_)
      obtain ⟨c7, h⟩ := h
      refine j_if_eq O (tgt := 26) dX5_readLaw_19 (by decide) c7 h (fun h => ?_) (fun h => ?_)
      · refine j_iload_n O 1 1 dX5_readLaw_26 rfl rfl ?_
        exact (J.sub [0, 2] rfl <| wk_X5_readLaw_27 O hr hm _ _ _ _ _ ih hX4 _ h)
      · refine j_iload_n O 2 2 dX5_readLaw_22 rfl rfl ?_
        refine j_goto O (tgt := 27) dX5_readLaw_23 (by decide) ?_
        exact (J.sub [0, 2] rfl <| wk_X5_readLaw_27 O hr hm _ _ _ _ _ ih hX4 _ h)
theorem wk_X5_readLaw_75 {x : Cx} (O : OK x "DowryBoxesModel" cX5_readLaw 8) (hr : (xM x).sig.returnType = none) (hm : xn x = 4) {Q : Wd → Prop} (X75 : Wd → Prop) (this : Nat) (x1 : Int) (x2 : Int) (hX75 : ∀  (w : Wd), X75  w → J x (TV x Q) w 0 0 96 [(0, .ref (adG (xG x) (this))), (1, vI (x1)), (2, vI (x2))] []) : ∀ (n : Nat) (x3 : Int) (w : Wd), wp_X5_readLaw_75 Q X75 this x1 x2 n x3 w → J x (TV x Q) w 0 0 75 [(0, .ref (adG (xG x) (this))), (1, vI (x1)), (2, vI (x2)), (3, vI (x3))] [] := by
  intro n
  induction n with
  | zero => intro x3 w h; exact False.elim h
  | succ n ih =>
    intro x3 w h
    rw [wp_X5_readLaw_75] at h
    refine j_iload_n O 3 3 dX5_readLaw_75 rfl rfl ?_
    refine j_bipush (m := 8) O dX5_readLaw_76 bi_8 ?_
    obtain ⟨c1, h⟩ := h
    refine j_icmp_ge O (tgt := 96) dX5_readLaw_78 (by decide) c1 (by decide) h (fun h => ?_) (fun h => ?_)
    · exact (J.sub [0, 1, 2] rfl <| hX75  _ h)
    · refine j_aload_n O 0 0 dX5_readLaw_81 rfl rfl ?_
      refine j_getA O cfX5 22 (Nat.le_of_ble_eq_true rfl) ⟨_, rfl⟩ q1590 dX5_readLaw_82 h (fun k2 h => ?_)
      refine j_iload_n O 2 2 dX5_readLaw_85 rfl rfl ?_
      refine j_iload_n O 3 3 dX5_readLaw_86 rfl rfl ?_
      refine j_iadd O dX5_readLaw_87 ?_
      refine j_iconst O dX5_readLaw_88 ?_
      refine j_iast O dX5_readLaw_89 h (fun w3 h => ?_)
      refine j_iinc (L' := [(3, vI (x3 + 1)), (0, .ref (adG (xG x) (this))), (1, vI (x1)), (2, vI (x2))]) O 3 dX5_readLaw_90 rfl (by rw [hm]; decide) rfl ?_
      refine j_goto O (tgt := 75) dX5_readLaw_93 (by decide) ?_
      exact (J.sub [1, 2, 3, 0] rfl <| ih _ _ h)
theorem wk_X5_readLaw_185 {x : Cx} (O : OK x "DowryBoxesModel" cX5_readLaw 8) (hr : (xM x).sig.returnType = none) (hm : xn x = 4) {Q : Wd → Prop} (this : Nat) (x2 : Int) (w : Wd) (h : wp_X5_readLaw_185 Q this x2 w) : J x (TV x Q) w 0 0 185 [(0, .ref (adG (xG x) (this))), (2, vI (x2))] [] := by
  unfold wp_X5_readLaw_185 at h
  refine j_aload_n O 0 0 dX5_readLaw_185 rfl rfl ?_
  refine j_getA O cfX5 22 (Nat.le_of_ble_eq_true rfl) ⟨_, rfl⟩ q1590 dX5_readLaw_186 h (fun k1 h => ?_)
  refine j_iload_n O 1 2 dX5_readLaw_189 rfl rfl ?_
  refine j_bipush (m := 6) O dX5_readLaw_190 bi_6 ?_
  refine j_iadd O dX5_readLaw_192 ?_
  refine j_aload_n O 0 0 dX5_readLaw_193 rfl rfl ?_
  refine j_getI O cfX5 23 (Nat.le_of_ble_eq_true rfl) (.inl rfl) q1591 dX5_readLaw_194 h (fun v2 h => ?_)
  refine j_iast O dX5_readLaw_197 h (fun w3 h => ?_)
  exact j_vret O hr dX5_readLaw_198 h
theorem wk_X5_readLaw_135 {x : Cx} (O : OK x "DowryBoxesModel" cX5_readLaw 8) (hr : (xM x).sig.returnType = none) (hm : xn x = 4) {Q : Wd → Prop} (this : Nat) (x2 : Int) (w : Wd) (h : wp_X5_readLaw_135 Q this x2 w) : J x (TV x Q) w 0 0 135 [(0, .ref (adG (xG x) (this))), (2, vI (x2))] [] := by
  unfold wp_X5_readLaw_135 at h
  refine j_aload_n O 0 0 dX5_readLaw_135 rfl rfl ?_
  refine j_getA O cfX5 22 (Nat.le_of_ble_eq_true rfl) ⟨_, rfl⟩ q1590 dX5_readLaw_136 h (fun k1 h => ?_)
  refine j_iload_n O 1 2 dX5_readLaw_139 rfl rfl ?_
  refine j_iconst O dX5_readLaw_140 ?_
  refine j_iadd O dX5_readLaw_141 ?_
  refine j_aload_n O 0 0 dX5_readLaw_142 rfl rfl ?_
  refine j_getI O cfX5 23 (Nat.le_of_ble_eq_true rfl) (.inl rfl) q1591 dX5_readLaw_143 h (fun v2 h => ?_)
  refine j_iast O dX5_readLaw_146 h (fun w3 h => ?_)
  refine j_aload_n O 0 0 dX5_readLaw_147 rfl rfl ?_
  refine j_getA O cfX5 22 (Nat.le_of_ble_eq_true rfl) ⟨_, rfl⟩ q1590 dX5_readLaw_148 h (fun k4 h => ?_)
  refine j_iload_n O 1 2 dX5_readLaw_151 rfl rfl ?_
  refine j_iconst O dX5_readLaw_152 ?_
  refine j_iadd O dX5_readLaw_153 ?_
  refine j_aload_n O 0 0 dX5_readLaw_154 rfl rfl ?_
  refine j_getI O cfX5 23 (Nat.le_of_ble_eq_true rfl) (.inl rfl) q1591 dX5_readLaw_155 h (fun v5 h => ?_)
  refine j_iast O dX5_readLaw_158 h (fun w6 h => ?_)
  refine j_aload_n O 0 0 dX5_readLaw_159 rfl rfl ?_
  refine j_getI O cfX5 19 (Nat.le_of_ble_eq_true rfl) (.inr (.inl rfl)) q1587 dX5_readLaw_160 h (fun v7 h => ?_)
  obtain ⟨c8, h⟩ := h
  refine j_if_ne O (tgt := 185) dX5_readLaw_163 (by decide) c8 h (fun h => ?_) (fun h => ?_)
  · exact (J.sub [0, 1] rfl <| wk_X5_readLaw_185 O hr hm  _ _  _ h)
  · refine j_aload_n O 0 0 dX5_readLaw_166 rfl rfl ?_
    refine j_ldc2 (m := 294) O dX5_readLaw_167 q2031 l2_294 ?_
    obtain ⟨e11, h⟩ := h
    refine fin_I O ⟨Nat.zero_le _, Nat.zero_le _⟩ (run_V (As := [vL (294)]) (st := []) O (mt_X5_isWord (xl x) (xG x) _ _ _ _ h) e11 cfX5.1 q1948 q1950 qs71 q131 q1951 hy_X5_isWord (Nat.le_of_ble_eq_true rfl) (Nat.le_of_ble_eq_true rfl) ⟨Nat.zero_le _, Nat.zero_le _⟩ rfl (Nat.le_of_ble_eq_true rfl) dX5_readLaw_170) (fun r9 w10 h => ?_)
    obtain ⟨c12, h⟩ := h
    refine j_if_eq O (tgt := 185) dX5_readLaw_173 (by decide) c12 h (fun h => ?_) (fun h => ?_)
    · exact (J.sub [0, 1] rfl <| wk_X5_readLaw_185 O hr hm  _ _  _ h)
    · refine j_aload_n O 0 0 dX5_readLaw_176 rfl rfl ?_
      obtain ⟨e14, h⟩ := h
      refine fin_V O ⟨Nat.zero_le _, Nat.zero_le _⟩ (run_V (As := []) (st := []) O (mt_X5_next (xl x) (xG x) _ _ _ h) e14 cfX5.1 q1930 q1932 qs69 q131 q1933 hy_X5_next (Nat.le_of_ble_eq_true rfl) (Nat.le_of_ble_eq_true rfl) ⟨Nat.zero_le _, Nat.zero_le _⟩ rfl (Nat.le_of_ble_eq_true rfl) dX5_readLaw_177) (fun w13 h => ?_)
      refine j_aload_n O 0 0 dX5_readLaw_180 rfl rfl ?_
      refine j_iconst O dX5_readLaw_181 ?_
      obtain ⟨e16, h⟩ := h
      refine fin_V O ⟨Nat.zero_le _, Nat.zero_le _⟩ (run_V (As := [vI (1)]) (st := []) O (mt_X5_readExpression (xl x) (xG x) _ _ _ _ h) e16 cfX5.1 q1956 q1958 qs73 q131 q1959 hy_X5_readExpression (Nat.le_of_ble_eq_true rfl) (Nat.le_of_ble_eq_true rfl) ⟨Nat.zero_le _, Nat.zero_le _⟩ rfl (Nat.le_of_ble_eq_true rfl) dX5_readLaw_182) (fun w15 h => ?_)
      exact (J.sub [0, 1] rfl <| wk_X5_readLaw_185 O hr hm  _ _  _ h)
theorem wk_X5_readLaw_54 {x : Cx} (O : OK x "DowryBoxesModel" cX5_readLaw 8) (hr : (xM x).sig.returnType = none) (hm : xn x = 4) {Q : Wd → Prop} (this : Nat) (x1 : Int) (s0 : Int) (s1 : Nat) (w : Wd) (h : wp_X5_readLaw_54 Q this x1 s0 s1 w) : J x (TV x Q) w 0 0 54 [(0, .ref (adG (xG x) (this))), (1, vI (x1))] [vI (s0), .ref (adG (xG x) (s1))] := by
  unfold wp_X5_readLaw_54 at h
  obtain ⟨e2, h⟩ := h
  refine fin_V O ⟨Nat.zero_le _, Nat.zero_le _⟩ (run_V (As := [vI (s0)]) (st := []) O (mt_X5_must (xl x) (xG x) _ _ _ _ h) e2 cfX5.1 q1952 q1954 qs72 q131 q1955 hy_X5_must (Nat.le_of_ble_eq_true rfl) (Nat.le_of_ble_eq_true rfl) ⟨Nat.zero_le _, Nat.zero_le _⟩ rfl (Nat.le_of_ble_eq_true rfl) dX5_readLaw_54) (fun w1 h => ?_)
  refine j_aload_n O 0 0 dX5_readLaw_57 rfl rfl ?_
  refine j_getI O cfX5 19 (Nat.le_of_ble_eq_true rfl) (.inr (.inl rfl)) q1587 dX5_readLaw_58 h (fun v3 h => ?_)
  obtain ⟨c4, h⟩ := h
  refine j_if_eq O (tgt := 65) dX5_readLaw_61 (by decide) c4 h (fun h => ?_) (fun h => ?_)
  · refine j_bipush (m := 8) O dX5_readLaw_65 bi_8 ?_
    refine j_aload_n O 0 0 dX5_readLaw_67 rfl rfl ?_
    refine j_getI O cfX5 21 (Nat.le_of_ble_eq_true rfl) (.inl rfl) q1589 dX5_readLaw_68 h (fun v5 h => ?_)
    refine j_imul O dX5_readLaw_71 ?_
    refine j_istore_n (L' := [(2, vI (8 * v5)), (0, .ref (adG (xG x) (this))), (1, vI (x1))]) O 2 dX5_readLaw_72 rfl (by rw [hm]; decide) rfl ?_
    refine j_iconst O dX5_readLaw_73 ?_
    refine j_istore_n (L' := [(3, vI (0)), (2, vI (8 * v5)), (0, .ref (adG (xG x) (this))), (1, vI (x1))]) O 3 dX5_readLaw_74 rfl (by rw [hm]; decide) rfl ?_
    refine (J.sub [2, 3, 1, 0] rfl <| wk_X5_readLaw_75 O hr hm _ _ _ _ (fun w6 h => ?_) FU _ _ h)
    refine j_aload_n O 0 0 dX5_readLaw_96 rfl rfl ?_
    refine j_getA O cfX5 22 (Nat.le_of_ble_eq_true rfl) ⟨_, rfl⟩ q1590 dX5_readLaw_97 h (fun k7 h => ?_)
    refine j_iload_n O 2 2 dX5_readLaw_100 rfl rfl ?_
    refine j_iload_n O 1 1 dX5_readLaw_101 rfl rfl ?_
    refine j_iast O dX5_readLaw_102 h (fun w8 h => ?_)
    refine j_aload_n O 0 0 dX5_readLaw_103 rfl rfl ?_
    refine j_dup O dX5_readLaw_104 rfl ?_
    refine j_getI O cfX5 21 (Nat.le_of_ble_eq_true rfl) (.inl rfl) q1589 dX5_readLaw_105 h (fun v9 h => ?_)
    refine j_iconst O dX5_readLaw_108 ?_
    refine j_iadd O dX5_readLaw_109 ?_
    refine j_putI O cfX5 21 (Nat.le_of_ble_eq_true rfl) rfl q1589 rfl dX5_readLaw_110 h (fun w10 h => ?_)
    refine j_aload_n O 0 0 dX5_readLaw_113 rfl rfl ?_
    refine j_getA O cfX5 22 (Nat.le_of_ble_eq_true rfl) ⟨_, rfl⟩ q1590 dX5_readLaw_114 h (fun k11 h => ?_)
    refine j_iload_n O 2 2 dX5_readLaw_117 rfl rfl ?_
    refine j_iconst O dX5_readLaw_118 ?_
    refine j_iadd O dX5_readLaw_119 ?_
    refine j_aload_n O 0 0 dX5_readLaw_120 rfl rfl ?_
    refine j_getI O cfX5 23 (Nat.le_of_ble_eq_true rfl) (.inl rfl) q1591 dX5_readLaw_121 h (fun v12 h => ?_)
    refine j_iast O dX5_readLaw_124 h (fun w13 h => ?_)
    refine j_iload_n O 1 1 dX5_readLaw_125 rfl rfl ?_
    refine j_iconst O dX5_readLaw_126 ?_
    obtain ⟨c14, h⟩ := h
    refine j_icmp_eq O (tgt := 135) dX5_readLaw_127 (by decide) c14 (by decide) h (fun h => ?_) (fun h => ?_)
    · exact (J.sub [0, 2] rfl <| wk_X5_readLaw_135 O hr hm  _ _  _ h)
    · refine j_aload_n O 0 0 dX5_readLaw_130 rfl rfl ?_
      refine j_iconst O dX5_readLaw_131 ?_
      obtain ⟨e16, h⟩ := h
      refine fin_V O ⟨Nat.zero_le _, Nat.zero_le _⟩ (run_V (As := [vI (0)]) (st := []) O (mt_X5_readExpression (xl x) (xG x) _ _ _ _ h) e16 cfX5.1 q1956 q1958 qs73 q131 q1959 hy_X5_readExpression (Nat.le_of_ble_eq_true rfl) (Nat.le_of_ble_eq_true rfl) ⟨Nat.zero_le _, Nat.zero_le _⟩ rfl (Nat.le_of_ble_eq_true rfl) dX5_readLaw_132) (fun w15 h => ?_)
      exact (J.sub [0, 2] rfl <| wk_X5_readLaw_135 O hr hm  _ _  _ h)
  · exact j_vret O hr dX5_readLaw_64 h
theorem wk_X5_readLaw_53 {x : Cx} (O : OK x "DowryBoxesModel" cX5_readLaw 8) (hr : (xM x).sig.returnType = none) (hm : xn x = 4) {Q : Wd → Prop} (this : Nat) (x1 : Int) (s0 : Nat) (w : Wd) (h : wp_X5_readLaw_53 Q this x1 s0 w) : J x (TV x Q) w 0 0 53 [(0, .ref (adG (xG x) (this))), (1, vI (x1))] [.ref (adG (xG x) (s0))] := by
  unfold wp_X5_readLaw_53 at h
  refine j_iconst O dX5_readLaw_53 ?_
  exact (J.sub [0, 1] rfl <| wk_X5_readLaw_54 O hr hm  _ _ _ _  _ h)
theorem mt_X5_readLaw (l : Launch) (G : GW) (this : Nat) (w : Wd) (Q : Wd → Prop) (h : wp_X5_readLaw this w Q) : MV l G yX5_readLaw cX5_readLaw 4 8 0 0 [.ref (adG G (this))] w Q := by
  refine met_V (fun G => [.ref (adG G (this))]) (by decide) (fun G => Nat.le_of_ble_eq_true rfl) (fun x O hl hm hr _ => ?_)
  subst hl
  have O : OK x "DowryBoxesModel" cX5_readLaw 8 := O
  have h : wp_X5_readLaw this w Q := h
  unfold wp_X5_readLaw at h
  show J x (TV x Q) w 0 0 0 [(0, .ref (adG (xG x) (this)))] []
  refine j_iconst O dX5_readLaw_0 ?_
  refine j_istore_n (L' := [(1, vI ((-1))), (0, .ref (adG (xG x) (this)))]) O 1 dX5_readLaw_1 rfl (by rw [hm]; decide) rfl ?_
  refine j_iconst O dX5_readLaw_2 ?_
  refine j_istore_n (L' := [(2, vI (0)), (1, vI ((-1))), (0, .ref (adG (xG x) (this)))]) O 2 dX5_readLaw_3 rfl (by rw [hm]; decide) rfl ?_
  refine (J.sub [2, 1, 0] rfl <| wk_X5_readLaw_4 O hr hm _ _ (fun z1 w2 h => ?_) FU _ _ _ h)
  refine j_aload_n O 0 0 dX5_readLaw_34 rfl rfl ?_
  refine j_iload_n O 1 1 dX5_readLaw_35 rfl rfl ?_
  refine j_iconst O dX5_readLaw_36 ?_
  obtain ⟨c3, h⟩ := h
  refine j_icmp_eq O (tgt := 53) dX5_readLaw_37 (by decide) c3 (by decide) h (fun h => ?_) (fun h => ?_)
  · exact (J.sub [0, 1] rfl <| wk_X5_readLaw_53 O hr hm  _ _ _  _ h)
  · refine j_aload_n O 0 0 dX5_readLaw_40 rfl rfl ?_
    refine j_getI O cfX5 21 (Nat.le_of_ble_eq_true rfl) (.inl rfl) q1589 dX5_readLaw_41 h (fun v4 h => ?_)
    refine j_bipush (m := 12) O dX5_readLaw_44 bi_12 ?_
    obtain ⟨c5, h⟩ := h
    refine j_icmp_ge O (tgt := 53) dX5_readLaw_46 (by decide) c5 (by decide) h (fun h => ?_) (fun h => ?_)
    · exact (J.sub [0, 1] rfl <| wk_X5_readLaw_53 O hr hm  _ _ _  _ h)
    · refine j_iconst O dX5_readLaw_49 ?_
      refine j_goto O (tgt := 54) dX5_readLaw_50 (by decide) ?_
      exact (J.sub [0, 1] rfl <| wk_X5_readLaw_54 O hr hm  _ _ _ _  _ h)
theorem hy_X5_law : (yX5_law.cls = "DowryBoxesModel" ∧ yX5_law.cls ≠ "java/lang/invoke/MethodHandle" ∧ yX5_law.cls ≠ "java/lang/invoke/VarHandle" ∧ (parseMethodDescriptor yX5_law.desc).map (fun d => d.parameters.length) = some 0) := by decide +kernel
theorem wk_X5_law_37 {x : Cx} (O : OK x "DowryBoxesModel" cX5_law 9) (hr : (xM x).sig.returnType = some .int) (hm : xn x = 3) {Q : Int → Wd → Prop} (X37 : Wd → Prop) (this : Nat) (hX37 : ∀  (w : Wd), X37  w → J x (TI x Q) w 0 0 64 [(0, .ref (adG (xG x) (this)))] []) : ∀ (n : Nat) (w : Wd), wp_X5_law_37 Q X37 this n w → J x (TI x Q) w 0 0 37 [(0, .ref (adG (xG x) (this)))] [] := by
  intro n
  induction n with
  | zero => intro w h; exact False.elim h
  | succ n ih =>
    intro w h
    rw [wp_X5_law_37] at h
    refine j_aload_n O 0 0 dX5_law_37 rfl rfl ?_
    refine j_getI O cfX5 19 (Nat.le_of_ble_eq_true rfl) (.inr (.inl rfl)) q1587 dX5_law_38 h (fun v1 h => ?_)
    obtain ⟨c2, h⟩ := h
    refine j_if_ne O (tgt := 64) dX5_law_41 (by decide) c2 h (fun h => ?_) (fun h => ?_)
    · exact (J.sub [0] rfl <| hX37  _ h)
    · refine j_aload_n O 0 0 dX5_law_44 rfl rfl ?_
      refine j_bipush (m := 59) O dX5_law_45 bi_59 ?_
      obtain ⟨e5, h⟩ := h
      refine fin_I O ⟨Nat.zero_le _, Nat.zero_le _⟩ (run_V (As := [vI (59)]) (st := []) O (mt_X5_isSign (xl x) (xG x) _ _ _ _ h) e5 cfX5.1 q1969 q1971 qs76 q131 q1972 hy_X5_isSign (Nat.le_of_ble_eq_true rfl) (Nat.le_of_ble_eq_true rfl) ⟨Nat.zero_le _, Nat.zero_le _⟩ rfl (Nat.le_of_ble_eq_true rfl) dX5_law_47) (fun r3 w4 h => ?_)
      obtain ⟨c6, h⟩ := h
      refine j_if_eq O (tgt := 64) dX5_law_50 (by decide) c6 h (fun h => ?_) (fun h => ?_)
      · exact (J.sub [0] rfl <| hX37  _ h)
      · refine j_aload_n O 0 0 dX5_law_53 rfl rfl ?_
        obtain ⟨e8, h⟩ := h
        refine fin_V O ⟨Nat.zero_le _, Nat.zero_le _⟩ (run_V (As := []) (st := []) O (mt_X5_next (xl x) (xG x) _ _ _ h) e8 cfX5.1 q1930 q1932 qs69 q131 q1933 hy_X5_next (Nat.le_of_ble_eq_true rfl) (Nat.le_of_ble_eq_true rfl) ⟨Nat.zero_le _, Nat.zero_le _⟩ rfl (Nat.le_of_ble_eq_true rfl) dX5_law_54) (fun w7 h => ?_)
        refine j_aload_n O 0 0 dX5_law_57 rfl rfl ?_
        obtain ⟨e10, h⟩ := h
        refine fin_V O ⟨Nat.zero_le _, Nat.zero_le _⟩ (run_V (As := []) (st := []) O (mt_X5_readLaw (xl x) (xG x) _ _ _ h) e10 cfX5.1 q1944 q1946 qs70 q131 q1947 hy_X5_readLaw (Nat.le_of_ble_eq_true rfl) (Nat.le_of_ble_eq_true rfl) ⟨Nat.zero_le _, Nat.zero_le _⟩ rfl (Nat.le_of_ble_eq_true rfl) dX5_law_58) (fun w9 h => ?_)
        refine j_goto O (tgt := 37) dX5_law_61 (by decide) ?_
        exact (J.sub [0] rfl <| ih  _ h)
theorem wk_X5_law_110 {x : Cx} (O : OK x "DowryBoxesModel" cX5_law 9) (hr : (xM x).sig.returnType = some .int) (hm : xn x = 3) {Q : Int → Wd → Prop} (X110 : Wd → Prop) (this : Nat) (x1 : Int) (hX110 : ∀  (w : Wd), X110  w → J x (TI x Q) w 0 0 143 [(0, .ref (adG (xG x) (this))), (1, vI (x1))] []) : ∀ (n : Nat) (x2 : Int) (w : Wd), wp_X5_law_110 Q X110 this x1 n x2 w → J x (TI x Q) w 0 0 110 [(0, .ref (adG (xG x) (this))), (1, vI (x1)), (2, vI (x2))] [] := by
  intro n
  induction n with
  | zero => intro x2 w h; exact False.elim h
  | succ n ih =>
    intro x2 w h
    rw [wp_X5_law_110] at h
    refine j_iload_n O 2 2 dX5_law_110 rfl rfl ?_
    refine j_bipush (m := 8) O dX5_law_111 bi_8 ?_
    refine j_aload_n O 0 0 dX5_law_113 rfl rfl ?_
    refine j_getI O cfX5 21 (Nat.le_of_ble_eq_true rfl) (.inl rfl) q1589 dX5_law_114 h (fun v1 h => ?_)
    refine j_imul O dX5_law_117 ?_
    obtain ⟨c2, h⟩ := h
    obtain ⟨c3, h⟩ := h
    refine j_icmp_ge O (tgt := 143) dX5_law_118 (by decide) c2 c3 h (fun h => ?_) (fun h => ?_)
    · exact (J.sub [0, 1] rfl <| hX110  _ h)
    · refine j_aload_n O 0 0 dX5_law_121 rfl rfl ?_
      refine j_getA O cfX5 3 (Nat.le_of_ble_eq_true rfl) ⟨_, rfl⟩ q1571 dX5_law_122 h (fun k4 h => ?_)
      refine j_iload_n O 1 1 dX5_law_125 rfl rfl ?_
      refine j_iconst O dX5_law_126 ?_
      refine j_iadd O dX5_law_127 ?_
      refine j_iload_n O 2 2 dX5_law_128 rfl rfl ?_
      refine j_iadd O dX5_law_129 ?_
      refine j_aload_n O 0 0 dX5_law_130 rfl rfl ?_
      refine j_getA O cfX5 22 (Nat.le_of_ble_eq_true rfl) ⟨_, rfl⟩ q1590 dX5_law_131 h (fun k5 h => ?_)
      refine j_iload_n O 2 2 dX5_law_134 rfl rfl ?_
      refine j_iald O dX5_law_135 h (fun v6 h => ?_)
      refine j_iast O dX5_law_136 h (fun w7 h => ?_)
      refine j_iinc (L' := [(2, vI (x2 + 1)), (0, .ref (adG (xG x) (this))), (1, vI (x1))]) O 2 dX5_law_137 rfl (by rw [hm]; decide) rfl ?_
      refine j_goto O (tgt := 110) dX5_law_140 (by decide) ?_
      exact (J.sub [1, 2, 0] rfl <| ih _ _ h)
theorem wk_X5_law_145 {x : Cx} (O : OK x "DowryBoxesModel" cX5_law 9) (hr : (xM x).sig.returnType = some .int) (hm : xn x = 3) {Q : Int → Wd → Prop} (X145 : Wd → Prop) (this : Nat) (x1 : Int) (hX145 : ∀  (w : Wd), X145  w → J x (TI x Q) w 0 0 199 [(0, .ref (adG (xG x) (this)))] []) : ∀ (n : Nat) (x2 : Int) (w : Wd), wp_X5_law_145 Q X145 this x1 n x2 w → J x (TI x Q) w 0 0 145 [(0, .ref (adG (xG x) (this))), (1, vI (x1)), (2, vI (x2))] [] := by
  intro n
  induction n with
  | zero => intro x2 w h; exact False.elim h
  | succ n ih =>
    intro x2 w h
    rw [wp_X5_law_145] at h
    refine j_iload_n O 2 2 dX5_law_145 rfl rfl ?_
    refine j_aload_n O 0 0 dX5_law_146 rfl rfl ?_
    refine j_getI O cfX5 23 (Nat.le_of_ble_eq_true rfl) (.inl rfl) q1591 dX5_law_147 h (fun v1 h => ?_)
    obtain ⟨c2, h⟩ := h
    obtain ⟨c3, h⟩ := h
    refine j_icmp_ge O (tgt := 199) dX5_law_150 (by decide) c2 c3 h (fun h => ?_) (fun h => ?_)
    · exact (J.sub [0] rfl <| hX145  _ h)
    · refine j_aload_n O 0 0 dX5_law_153 rfl rfl ?_
      refine j_getA O cfX5 3 (Nat.le_of_ble_eq_true rfl) ⟨_, rfl⟩ q1571 dX5_law_154 h (fun k4 h => ?_)
      refine j_iload_n O 1 1 dX5_law_157 rfl rfl ?_
      refine j_bipush (m := 98) O dX5_law_158 bi_98 ?_
      refine j_iadd O dX5_law_160 ?_
      refine j_iconst O dX5_law_161 ?_
      refine j_iload_n O 2 2 dX5_law_162 rfl rfl ?_
      refine j_imul O dX5_law_163 ?_
      refine j_iadd O dX5_law_164 ?_
      refine j_aload_n O 0 0 dX5_law_165 rfl rfl ?_
      refine j_getA O cfX5 24 (Nat.le_of_ble_eq_true rfl) ⟨_, rfl⟩ q1592 dX5_law_166 h (fun k5 h => ?_)
      refine j_iload_n O 2 2 dX5_law_169 rfl rfl ?_
      refine j_iald O dX5_law_170 h (fun v6 h => ?_)
      refine j_iast O dX5_law_171 h (fun w7 h => ?_)
      refine j_aload_n O 0 0 dX5_law_172 rfl rfl ?_
      refine j_getA O cfX5 3 (Nat.le_of_ble_eq_true rfl) ⟨_, rfl⟩ q1571 dX5_law_173 h (fun k8 h => ?_)
      refine j_iload_n O 1 1 dX5_law_176 rfl rfl ?_
      refine j_bipush (m := 98) O dX5_law_177 bi_98 ?_
      refine j_iadd O dX5_law_179 ?_
      refine j_iconst O dX5_law_180 ?_
      refine j_iload_n O 2 2 dX5_law_181 rfl rfl ?_
      refine j_imul O dX5_law_182 ?_
      refine j_iadd O dX5_law_183 ?_
      refine j_iconst O dX5_law_184 ?_
      refine j_iadd O dX5_law_185 ?_
      refine j_aload_n O 0 0 dX5_law_186 rfl rfl ?_
      refine j_getA O cfX5 25 (Nat.le_of_ble_eq_true rfl) ⟨_, rfl⟩ q1593 dX5_law_187 h (fun k9 h => ?_)
      refine j_iload_n O 2 2 dX5_law_190 rfl rfl ?_
      refine j_iald O dX5_law_191 h (fun v10 h => ?_)
      refine j_iast O dX5_law_192 h (fun w11 h => ?_)
      refine j_iinc (L' := [(2, vI (x2 + 1)), (0, .ref (adG (xG x) (this))), (1, vI (x1))]) O 2 dX5_law_193 rfl (by rw [hm]; decide) rfl ?_
      refine j_goto O (tgt := 145) dX5_law_196 (by decide) ?_
      exact (J.sub [1, 2, 0] rfl <| ih _ _ h)
theorem wk_X5_law_64 {x : Cx} (O : OK x "DowryBoxesModel" cX5_law 9) (hr : (xM x).sig.returnType = some .int) (hm : xn x = 3) {Q : Int → Wd → Prop} (this : Nat) (w : Wd) (h : wp_X5_law_64 Q this w) : J x (TI x Q) w 0 0 64 [(0, .ref (adG (xG x) (this)))] [] := by
  unfold wp_X5_law_64 at h
  refine j_aload_n O 0 0 dX5_law_64 rfl rfl ?_
  obtain ⟨e2, h⟩ := h
  refine fin_V O ⟨Nat.zero_le _, Nat.zero_le _⟩ (run_V (As := []) (st := []) O (mt_X5_endText (xl x) (xG x) _ _ _ h) e2 cfX5.1 q2032 q2034 qs89 q131 q2035 hy_X5_endText (Nat.le_of_ble_eq_true rfl) (Nat.le_of_ble_eq_true rfl) ⟨Nat.zero_le _, Nat.zero_le _⟩ rfl (Nat.le_of_ble_eq_true rfl) dX5_law_65) (fun w1 h => ?_)
  refine j_aload_n O 0 0 dX5_law_68 rfl rfl ?_
  refine j_getI O cfX5 19 (Nat.le_of_ble_eq_true rfl) (.inr (.inl rfl)) q1587 dX5_law_69 h (fun v3 h => ?_)
  obtain ⟨c4, h⟩ := h
  refine j_if_eq O (tgt := 82) dX5_law_72 (by decide) c4 h (fun h => ?_) (fun h => ?_)
  · refine j_bipush (m := 116) O dX5_law_82 bi_116 ?_
    refine j_sipush (m := 900) O dX5_law_84 si_900 ?_
    refine j_aload_n O 0 0 dX5_law_87 rfl rfl ?_
    refine j_getA O cfX5 3 (Nat.le_of_ble_eq_true rfl) ⟨_, rfl⟩ q1571 dX5_law_88 h (fun k5 h => ?_)
    refine j_iconst O dX5_law_91 ?_
    refine j_iald O dX5_law_92 h (fun v6 h => ?_)
    refine j_imul O dX5_law_93 ?_
    refine j_iadd O dX5_law_94 ?_
    refine j_istore_n (L' := [(1, vI (116 + (900 * v6))), (0, .ref (adG (xG x) (this)))]) O 1 dX5_law_95 rfl (by rw [hm]; decide) rfl ?_
    refine j_aload_n O 1 0 dX5_law_96 rfl rfl ?_
    refine j_getA O cfX5 3 (Nat.le_of_ble_eq_true rfl) ⟨_, rfl⟩ q1571 dX5_law_97 h (fun k7 h => ?_)
    refine j_iload_n O 0 1 dX5_law_100 rfl rfl ?_
    refine j_iconst O dX5_law_101 ?_
    refine j_iadd O dX5_law_102 ?_
    refine j_aload_n O 1 0 dX5_law_103 rfl rfl ?_
    refine j_getI O cfX5 21 (Nat.le_of_ble_eq_true rfl) (.inl rfl) q1589 dX5_law_104 h (fun v8 h => ?_)
    refine j_iast O dX5_law_107 h (fun w9 h => ?_)
    refine j_iconst O dX5_law_108 ?_
    refine j_istore_n (L' := [(2, vI (0)), (1, vI (116 + (900 * v6))), (0, .ref (adG (xG x) (this)))]) O 2 dX5_law_109 rfl (by rw [hm]; decide) rfl ?_
    refine (J.sub [2, 1, 0] rfl <| wk_X5_law_110 O hr hm _ _ _ (fun w10 h => ?_) FU _ _ h)
    refine j_iconst O dX5_law_143 ?_
    refine j_istore_n (L' := [(2, vI (0)), (0, .ref (adG (xG x) (this))), (1, vI (116 + (900 * v6)))]) O 2 dX5_law_144 rfl (by rw [hm]; decide) rfl ?_
    refine (J.sub [1, 2, 0] rfl <| wk_X5_law_145 O hr hm _ _ _ (fun w11 h => ?_) FU _ _ h)
    refine j_aload_n O 0 0 dX5_law_199 rfl rfl ?_
    refine j_getA O cfX5 3 (Nat.le_of_ble_eq_true rfl) ⟨_, rfl⟩ q1571 dX5_law_200 h (fun k12 h => ?_)
    refine j_iconst O dX5_law_203 ?_
    refine j_dup2_11 O dX5_law_204 rfl rfl ?_
    refine j_iald O dX5_law_205 h (fun v13 h => ?_)
    refine j_iconst O dX5_law_206 ?_
    refine j_iadd O dX5_law_207 ?_
    refine j_iast O dX5_law_208 h (fun w14 h => ?_)
    refine j_aload_n O 0 0 dX5_law_209 rfl rfl ?_
    refine j_aload_n O 0 0 dX5_law_210 rfl rfl ?_
    refine j_getA O cfX5 3 (Nat.le_of_ble_eq_true rfl) ⟨_, rfl⟩ q1571 dX5_law_211 h (fun k15 h => ?_)
    refine j_iconst O dX5_law_214 ?_
    refine j_iald O dX5_law_215 h (fun v16 h => ?_)
    refine j_iconst O dX5_law_216 ?_
    refine j_isub O dX5_law_217 ?_
    obtain ⟨e19, h⟩ := h
    refine fin_I O ⟨Nat.zero_le _, Nat.zero_le _⟩ (run_V (As := [vI ((v16 - 1))]) (st := []) O (mt_X5_tell (xl x) (xG x) _ _ _ _ h) e19 cfX5.1 q1760 q1762 qs48 q131 q1763 hy_X5_tell (Nat.le_of_ble_eq_true rfl) (Nat.le_of_ble_eq_true rfl) ⟨Nat.zero_le _, Nat.zero_le _⟩ rfl (Nat.le_of_ble_eq_true rfl) dX5_law_218) (fun r17 w18 h => ?_)
    exact j_iret O hr dX5_law_221 h
  · refine j_aload_n O 0 0 dX5_law_75 rfl rfl ?_
    refine j_bipush (m := (-6)) O dX5_law_76 bi_m6 ?_
    obtain ⟨e22, h⟩ := h
    refine fin_I O ⟨Nat.zero_le _, Nat.zero_le _⟩ (run_V (As := [vI (((-6)))]) (st := []) O (mt_X5_tell (xl x) (xG x) _ _ _ _ h) e22 cfX5.1 q1760 q1762 qs48 q131 q1763 hy_X5_tell (Nat.le_of_ble_eq_true rfl) (Nat.le_of_ble_eq_true rfl) ⟨Nat.zero_le _, Nat.zero_le _⟩ rfl (Nat.le_of_ble_eq_true rfl) dX5_law_78) (fun r20 w21 h => ?_)
    exact j_iret O hr dX5_law_81 h
theorem mt_X5_law (l : Launch) (G : GW) (this : Nat) (w : Wd) (Q : Int → Wd → Prop) (h : wp_X5_law this w Q) : MI l G yX5_law cX5_law 3 (.int) 9 0 0 [.ref (adG G (this))] w Q := by
  refine met_I (fun G => [.ref (adG G (this))]) (by decide) (fun G => Nat.le_of_ble_eq_true rfl) (fun x O hl hm hr => ?_)
  subst hl
  have O : OK x "DowryBoxesModel" cX5_law 9 := O
  have h : wp_X5_law this w Q := h
  unfold wp_X5_law at h
  show J x (TI x Q) w 0 0 0 [(0, .ref (adG (xG x) (this)))] []
  refine j_aload_n O 0 0 dX5_law_0 rfl rfl ?_
  refine j_iconst O dX5_law_1 ?_
  refine j_putI O cfX5 0 (Nat.le_of_ble_eq_true rfl) rfl q1568 rfl dX5_law_2 h (fun w1 h => ?_)
  refine j_aload_n O 0 0 dX5_law_5 rfl rfl ?_
  refine j_getA O cfX5 3 (Nat.le_of_ble_eq_true rfl) ⟨_, rfl⟩ q1571 dX5_law_6 h (fun k2 h => ?_)
  refine j_iconst O dX5_law_9 ?_
  refine j_iald O dX5_law_10 h (fun v3 h => ?_)
  refine j_bipush (m := 6) O dX5_law_11 bi_6 ?_
  obtain ⟨c4, h⟩ := h
  refine j_icmp_ne O (tgt := 28) dX5_law_13 (by decide) c4 (by decide) h (fun h => ?_) (fun h => ?_)
  · refine j_aload_n O 0 0 dX5_law_28 rfl rfl ?_
    refine j_iconst O dX5_law_29 ?_
    obtain ⟨e6, h⟩ := h
    refine fin_V O ⟨Nat.zero_le _, Nat.zero_le _⟩ (run_V (As := [vI (0)]) (st := []) O (mt_X5_beginText (xl x) (xG x) _ _ _ _ h) e6 cfX5.1 q1922 q1924 qs67 q131 q1925 hy_X5_beginText (Nat.le_of_ble_eq_true rfl) (Nat.le_of_ble_eq_true rfl) ⟨Nat.zero_le _, Nat.zero_le _⟩ rfl (Nat.le_of_ble_eq_true rfl) dX5_law_30) (fun w5 h => ?_)
    refine j_aload_n O 0 0 dX5_law_33 rfl rfl ?_
    obtain ⟨e8, h⟩ := h
    refine fin_V O ⟨Nat.zero_le _, Nat.zero_le _⟩ (run_V (As := []) (st := []) O (mt_X5_readLaw (xl x) (xG x) _ _ _ h) e8 cfX5.1 q1944 q1946 qs70 q131 q1947 hy_X5_readLaw (Nat.le_of_ble_eq_true rfl) (Nat.le_of_ble_eq_true rfl) ⟨Nat.zero_le _, Nat.zero_le _⟩ rfl (Nat.le_of_ble_eq_true rfl) dX5_law_34) (fun w7 h => ?_)
    refine (J.sub [0] rfl <| wk_X5_law_37 O hr hm _ _ (fun w9 h => ?_) FU  _ h)
    exact (J.sub [0] rfl <| wk_X5_law_64 O hr hm  _  _ h)
  · refine j_aload_n O 0 0 dX5_law_16 rfl rfl ?_
    refine j_iconst O dX5_law_17 ?_
    refine j_putI O cfX5 13 (Nat.le_of_ble_eq_true rfl) rfl q1581 rfl dX5_law_18 h (fun w10 h => ?_)
    refine j_aload_n O 0 0 dX5_law_21 rfl rfl ?_
    refine j_bipush (m := (-5)) O dX5_law_22 bi_m5 ?_
    obtain ⟨e13, h⟩ := h
    refine fin_I O ⟨Nat.zero_le _, Nat.zero_le _⟩ (run_V (As := [vI (((-5)))]) (st := []) O (mt_X5_tell (xl x) (xG x) _ _ _ _ h) e13 cfX5.1 q1760 q1762 qs48 q131 q1763 hy_X5_tell (Nat.le_of_ble_eq_true rfl) (Nat.le_of_ble_eq_true rfl) ⟨Nat.zero_le _, Nat.zero_le _⟩ rfl (Nat.le_of_ble_eq_true rfl) dX5_law_24) (fun r11 w12 h => ?_)
    exact j_iret O hr dX5_law_27 h
theorem hy_X5_fault : (yX5_fault.cls = "DowryBoxesModel" ∧ yX5_fault.cls ≠ "java/lang/invoke/MethodHandle" ∧ yX5_fault.cls ≠ "java/lang/invoke/VarHandle" ∧ (parseMethodDescriptor yX5_fault.desc).map (fun d => d.parameters.length) = some 0) := by decide +kernel
theorem mt_X5_fault (l : Launch) (G : GW) (this : Nat) (w : Wd) (Q : Int → Wd → Prop) (h : wp_X5_fault this w Q) : MI l G yX5_fault cX5_fault 1 (.int) 1 0 0 [.ref (adG G (this))] w Q := by
  refine met_I (fun G => [.ref (adG G (this))]) (by decide) (fun G => Nat.le_of_ble_eq_true rfl) (fun x O hl hm hr => ?_)
  subst hl
  have O : OK x "DowryBoxesModel" cX5_fault 1 := O
  have h : wp_X5_fault this w Q := h
  unfold wp_X5_fault at h
  show J x (TI x Q) w 0 0 0 [(0, .ref (adG (xG x) (this)))] []
  refine j_aload_n O 0 0 dX5_fault_0 rfl rfl ?_
  refine j_iconst O dX5_fault_1 ?_
  refine j_putI O cfX5 0 (Nat.le_of_ble_eq_true rfl) rfl q1568 rfl dX5_fault_2 h (fun w1 h => ?_)
  refine j_aload_n O 0 0 dX5_fault_5 rfl rfl ?_
  refine j_getI O cfX5 18 (Nat.le_of_ble_eq_true rfl) (.inl rfl) q1586 dX5_fault_6 h (fun v2 h => ?_)
  exact j_iret O hr dX5_fault_9 h
theorem hy_X5_end : (yX5_end.cls = "DowryBoxesModel" ∧ yX5_end.cls ≠ "java/lang/invoke/MethodHandle" ∧ yX5_end.cls ≠ "java/lang/invoke/VarHandle" ∧ (parseMethodDescriptor yX5_end.desc).map (fun d => d.parameters.length) = some 1) := by decide +kernel
theorem mt_X5_end (l : Launch) (G : GW) (this : Nat) (p1 : Int) (w : Wd) (Q : Int → Wd → Prop) (h : wp_X5_end this p1 w Q) : MI l G yX5_end cX5_end 2 (.int) 1 0 0 [.ref (adG G (this)), vI (p1)] w Q := by
  refine met_I (fun G => [.ref (adG G (this)), vI (p1)]) (by decide) (fun G => Nat.le_of_ble_eq_true rfl) (fun x O hl hm hr => ?_)
  subst hl
  have O : OK x "DowryBoxesModel" cX5_end 1 := O
  have h : wp_X5_end this p1 w Q := h
  unfold wp_X5_end at h
  show J x (TI x Q) w 0 0 0 [(0, .ref (adG (xG x) (this))), (1, vI (p1))] []
  refine j_aload_n O 0 0 dX5_end_0 rfl rfl ?_
  refine j_iconst O dX5_end_1 ?_
  refine j_putI O cfX5 0 (Nat.le_of_ble_eq_true rfl) rfl q1568 rfl dX5_end_2 h (fun w1 h => ?_)
  refine j_iload_n O 1 1 dX5_end_5 rfl rfl ?_
  obtain ⟨c2, h⟩ := h
  refine j_if_lt O (tgt := 17) dX5_end_6 (by decide) c2 h (fun h => ?_) (fun h => ?_)
  · refine j_iconst O dX5_end_17 ?_
    exact j_iret O hr dX5_end_18 h
  · refine j_iload_n O 1 1 dX5_end_9 rfl rfl ?_
    refine j_aload_n O 0 0 dX5_end_10 rfl rfl ?_
    refine j_getI O cfX5 13 (Nat.le_of_ble_eq_true rfl) (.inl rfl) q1581 dX5_end_11 h (fun v3 h => ?_)
    obtain ⟨c4, h⟩ := h
    obtain ⟨c5, h⟩ := h
    refine j_icmp_le O (tgt := 19) dX5_end_14 (by decide) c4 c5 h (fun h => ?_) (fun h => ?_)
    · refine j_aload_n O 0 0 dX5_end_19 rfl rfl ?_
      refine j_iload_n O 1 1 dX5_end_20 rfl rfl ?_
      refine j_putI O cfX5 13 (Nat.le_of_ble_eq_true rfl) rfl q1581 rfl dX5_end_21 h (fun w6 h => ?_)
      refine j_iload_n O 1 1 dX5_end_24 rfl rfl ?_
      exact j_iret O hr dX5_end_25 h
    · refine j_iconst O dX5_end_17 ?_
      exact j_iret O hr dX5_end_18 h
theorem hy_X5_four : (yX5_four.cls = "DowryBoxesModel" ∧ yX5_four.cls ≠ "java/lang/invoke/MethodHandle" ∧ yX5_four.cls ≠ "java/lang/invoke/VarHandle" ∧ (parseMethodDescriptor yX5_four.desc).map (fun d => d.parameters.length) = some 1) := by decide +kernel
theorem wk_X5_four_3 {x : Cx} (O : OK x "DowryBoxesModel" cX5_four 1) (hr : (xM x).sig.returnType = none) (hm : xn x = 3) {Q : Wd → Prop} (this : Nat) (x1 : Int) : ∀ (n : Nat) (x2 : Int) (w : Wd), wp_X5_four_3 Q this x1 n x2 w → J x (TV x Q) w 0 0 3 [(0, .ref (adG (xG x) (this))), (1, vI (x1)), (2, vI (x2))] [] := by
  intro n
  induction n with
  | zero => intro x2 w h; exact False.elim h
  | succ n ih =>
    intro x2 w h
    rw [wp_X5_four_3] at h
    refine j_iload_n O 2 2 dX5_four_3 rfl rfl ?_
    obtain ⟨c1, h⟩ := h
    refine j_if_lt O (tgt := 39) dX5_four_4 (by decide) c1 h (fun h => ?_) (fun h => ?_)
    · exact j_vret O hr dX5_four_39 h
    · refine j_aload_n O 0 0 dX5_four_7 rfl rfl ?_
      refine j_getA O cfX5 12 (Nat.le_of_ble_eq_true rfl) ⟨_, rfl⟩ q1580 dX5_four_8 h (fun k2 h => ?_)
      refine j_aload_n O 0 0 dX5_four_11 rfl rfl ?_
      refine j_getI O cfX5 13 (Nat.le_of_ble_eq_true rfl) (.inl rfl) q1581 dX5_four_12 h (fun v3 h => ?_)
      refine j_iload_n O 1 1 dX5_four_15 rfl rfl ?_
      refine j_iload_n O 2 2 dX5_four_16 rfl rfl ?_
      refine j_ishr O dX5_four_17 ?_
      refine j_sipush (m := 255) O dX5_four_18 si_255 ?_
      refine j_iand O dX5_four_21 ?_
      refine j_iast O dX5_four_22 h (fun w4 h => ?_)
      refine j_aload_n O 0 0 dX5_four_23 rfl rfl ?_
      refine j_dup O dX5_four_24 rfl ?_
      refine j_getI O cfX5 13 (Nat.le_of_ble_eq_true rfl) (.inl rfl) q1581 dX5_four_25 h (fun v5 h => ?_)
      refine j_iconst O dX5_four_28 ?_
      refine j_iadd O dX5_four_29 ?_
      refine j_putI O cfX5 13 (Nat.le_of_ble_eq_true rfl) rfl q1581 rfl dX5_four_30 h (fun w6 h => ?_)
      refine j_iinc (L' := [(2, vI (x2 + (-8))), (0, .ref (adG (xG x) (this))), (1, vI (x1))]) O 2 dX5_four_33 rfl (by rw [hm]; decide) rfl ?_
      refine j_goto O (tgt := 3) dX5_four_36 (by decide) ?_
      exact (J.sub [1, 2, 0] rfl <| ih _ _ h)
theorem mt_X5_four (l : Launch) (G : GW) (this : Nat) (p1 : Int) (w : Wd) (Q : Wd → Prop) (h : wp_X5_four this p1 w Q) : MV l G yX5_four cX5_four 3 1 0 0 [.ref (adG G (this)), vI (p1)] w Q := by
  refine met_V (fun G => [.ref (adG G (this)), vI (p1)]) (by decide) (fun G => Nat.le_of_ble_eq_true rfl) (fun x O hl hm hr _ => ?_)
  subst hl
  have O : OK x "DowryBoxesModel" cX5_four 1 := O
  have h : wp_X5_four this p1 w Q := h
  unfold wp_X5_four at h
  show J x (TV x Q) w 0 0 0 [(0, .ref (adG (xG x) (this))), (1, vI (p1))] []
  refine j_bipush (m := 24) O dX5_four_0 bi_24 ?_
  refine j_istore_n (L' := [(2, vI (24)), (0, .ref (adG (xG x) (this))), (1, vI (p1))]) O 2 dX5_four_2 rfl (by rw [hm]; decide) rfl ?_
  exact (J.sub [1, 2, 0] rfl <| wk_X5_four_3 O hr hm  _ _  FU _ _ h)
theorem hy_X5_feed : (yX5_feed.cls = "DowryBoxesModel" ∧ yX5_feed.cls ≠ "java/lang/invoke/MethodHandle" ∧ yX5_feed.cls ≠ "java/lang/invoke/VarHandle" ∧ (parseMethodDescriptor yX5_feed.desc).map (fun d => d.parameters.length) = some 5) := by decide +kernel
theorem mt_X5_feed (l : Launch) (G : GW) (this : Nat) (p1 : Int) (p2 : Int) (p3 : Int) (p4 : Int) (p5 : Int) (w : Wd) (Q : Int → Wd → Prop) (h : wp_X5_feed this p1 p2 p3 p4 p5 w Q) : MI l G yX5_feed cX5_feed 6 (.int) 2 0 0 [.ref (adG G (this)), vI (p1), vI (p2), vI (p3), vI (p4), vI (p5)] w Q := by
  refine met_I (fun G => [.ref (adG G (this)), vI (p1), vI (p2), vI (p3), vI (p4), vI (p5)]) (by decide) (fun G => Nat.le_of_ble_eq_true rfl) (fun x O hl hm hr => ?_)
  subst hl
  have O : OK x "DowryBoxesModel" cX5_feed 2 := O
  have h : wp_X5_feed this p1 p2 p3 p4 p5 w Q := h
  unfold wp_X5_feed at h
  show J x (TI x Q) w 0 0 0 [(0, .ref (adG (xG x) (this))), (1, vI (p1)), (2, vI (p2)), (3, vI (p3)), (4, vI (p4)), (5, vI (p5))] []
  refine j_aload_n O 0 0 dX5_feed_0 rfl rfl ?_
  refine j_iconst O dX5_feed_1 ?_
  refine j_putI O cfX5 0 (Nat.le_of_ble_eq_true rfl) rfl q1568 rfl dX5_feed_2 h (fun w1 h => ?_)
  refine j_aload_n O 0 0 dX5_feed_5 rfl rfl ?_
  refine j_getI O cfX5 13 (Nat.le_of_ble_eq_true rfl) (.inl rfl) q1581 dX5_feed_6 h (fun v2 h => ?_)
  refine j_bipush (m := 20) O dX5_feed_9 bi_20 ?_
  refine j_iadd O dX5_feed_11 ?_
  refine j_sipush (m := 400) O dX5_feed_12 si_400 ?_
  obtain ⟨c3, h⟩ := h
  refine j_icmp_le O (tgt := 20) dX5_feed_15 (by decide) c3 (by decide) h (fun h => ?_) (fun h => ?_)
  · refine j_aload_n O 0 0 dX5_feed_20 rfl rfl ?_
    refine j_iload_n O 1 1 dX5_feed_21 rfl rfl ?_
    obtain ⟨e5, h⟩ := h
    refine fin_V O ⟨Nat.zero_le _, Nat.zero_le _⟩ (run_V (As := [vI (p1)]) (st := []) O (mt_X5_four (xl x) (xG x) _ _ _ _ h) e5 cfX5.1 q1906 q1908 qs66 q131 q1909 hy_X5_four (Nat.le_of_ble_eq_true rfl) (Nat.le_of_ble_eq_true rfl) ⟨Nat.zero_le _, Nat.zero_le _⟩ rfl (Nat.le_of_ble_eq_true rfl) dX5_feed_22) (fun w4 h => ?_)
    refine j_aload_n O 0 0 dX5_feed_25 rfl rfl ?_
    refine j_iload_n O 2 2 dX5_feed_26 rfl rfl ?_
    obtain ⟨e7, h⟩ := h
    refine fin_V O ⟨Nat.zero_le _, Nat.zero_le _⟩ (run_V (As := [vI (p2)]) (st := []) O (mt_X5_four (xl x) (xG x) _ _ _ _ h) e7 cfX5.1 q1906 q1908 qs66 q131 q1909 hy_X5_four (Nat.le_of_ble_eq_true rfl) (Nat.le_of_ble_eq_true rfl) ⟨Nat.zero_le _, Nat.zero_le _⟩ rfl (Nat.le_of_ble_eq_true rfl) dX5_feed_27) (fun w6 h => ?_)
    refine j_aload_n O 0 0 dX5_feed_30 rfl rfl ?_
    refine j_iload_n O 3 3 dX5_feed_31 rfl rfl ?_
    obtain ⟨e9, h⟩ := h
    refine fin_V O ⟨Nat.zero_le _, Nat.zero_le _⟩ (run_V (As := [vI (p3)]) (st := []) O (mt_X5_four (xl x) (xG x) _ _ _ _ h) e9 cfX5.1 q1906 q1908 qs66 q131 q1909 hy_X5_four (Nat.le_of_ble_eq_true rfl) (Nat.le_of_ble_eq_true rfl) ⟨Nat.zero_le _, Nat.zero_le _⟩ rfl (Nat.le_of_ble_eq_true rfl) dX5_feed_32) (fun w8 h => ?_)
    refine j_aload_n O 0 0 dX5_feed_35 rfl rfl ?_
    refine j_iload O 4 dX5_feed_36 rfl ?_
    obtain ⟨e11, h⟩ := h
    refine fin_V O ⟨Nat.zero_le _, Nat.zero_le _⟩ (run_V (As := [vI (p4)]) (st := []) O (mt_X5_four (xl x) (xG x) _ _ _ _ h) e11 cfX5.1 q1906 q1908 qs66 q131 q1909 hy_X5_four (Nat.le_of_ble_eq_true rfl) (Nat.le_of_ble_eq_true rfl) ⟨Nat.zero_le _, Nat.zero_le _⟩ rfl (Nat.le_of_ble_eq_true rfl) dX5_feed_38) (fun w10 h => ?_)
    refine j_aload_n O 0 0 dX5_feed_41 rfl rfl ?_
    refine j_iload O 5 dX5_feed_42 rfl ?_
    obtain ⟨e13, h⟩ := h
    refine fin_V O ⟨Nat.zero_le _, Nat.zero_le _⟩ (run_V (As := [vI (p5)]) (st := []) O (mt_X5_four (xl x) (xG x) _ _ _ _ h) e13 cfX5.1 q1906 q1908 qs66 q131 q1909 hy_X5_four (Nat.le_of_ble_eq_true rfl) (Nat.le_of_ble_eq_true rfl) ⟨Nat.zero_le _, Nat.zero_le _⟩ rfl (Nat.le_of_ble_eq_true rfl) dX5_feed_44) (fun w12 h => ?_)
    refine j_aload_n O 0 0 dX5_feed_47 rfl rfl ?_
    refine j_getI O cfX5 13 (Nat.le_of_ble_eq_true rfl) (.inl rfl) q1581 dX5_feed_48 h (fun v14 h => ?_)
    exact j_iret O hr dX5_feed_51 h
  · refine j_iconst O dX5_feed_18 ?_
    exact j_iret O hr dX5_feed_19 h
theorem hy_X5_rust : (yX5_rust.cls = "DowryBoxesModel" ∧ yX5_rust.cls ≠ "java/lang/invoke/MethodHandle" ∧ yX5_rust.cls ≠ "java/lang/invoke/VarHandle" ∧ (parseMethodDescriptor yX5_rust.desc).map (fun d => d.parameters.length) = some 0) := by decide +kernel
theorem mt_X5_rust (l : Launch) (G : GW) (this : Nat) (w : Wd) (Q : Int → Wd → Prop) (h : wp_X5_rust this w Q) : MI l G yX5_rust cX5_rust 1 (.int) 1 0 0 [.ref (adG G (this))] w Q := by
  refine met_I (fun G => [.ref (adG G (this))]) (by decide) (fun G => Nat.le_of_ble_eq_true rfl) (fun x O hl hm hr => ?_)
  subst hl
  have O : OK x "DowryBoxesModel" cX5_rust 1 := O
  have h : wp_X5_rust this w Q := h
  unfold wp_X5_rust at h
  show J x (TI x Q) w 0 0 0 [(0, .ref (adG (xG x) (this)))] []
  refine j_aload_n O 0 0 dX5_rust_0 rfl rfl ?_
  refine j_iconst O dX5_rust_1 ?_
  refine j_putI O cfX5 0 (Nat.le_of_ble_eq_true rfl) rfl q1568 rfl dX5_rust_2 h (fun w1 h => ?_)
  refine j_aload_n O 0 0 dX5_rust_5 rfl rfl ?_
  refine j_getI O cfX5 11 (Nat.le_of_ble_eq_true rfl) (.inl rfl) q1579 dX5_rust_6 h (fun v2 h => ?_)
  exact j_iret O hr dX5_rust_9 h
theorem hy_X5_settled : (yX5_settled.cls = "DowryBoxesModel" ∧ yX5_settled.cls ≠ "java/lang/invoke/MethodHandle" ∧ yX5_settled.cls ≠ "java/lang/invoke/VarHandle" ∧ (parseMethodDescriptor yX5_settled.desc).map (fun d => d.parameters.length) = some 1) := by decide +kernel
theorem wk_X5_settled_13 {x : Cx} (O : OK x "DowryBoxesModel" cX5_settled 2) (hr : (xM x).sig.returnType = some .int) (hm : xn x = 2) {Q : Int → Wd → Prop} (this : Nat) (x1 : Int) (s0 : Int) (s1 : Nat) (w : Wd) (h : wp_X5_settled_13 Q this x1 s0 s1 w) : J x (TI x Q) w 0 0 13 [(0, .ref (adG (xG x) (this))), (1, vI (x1))] [vI (s0), .ref (adG (xG x) (s1))] := by
  unfold wp_X5_settled_13 at h
  refine j_putI O cfX5 8 (Nat.le_of_ble_eq_true rfl) rfl q1576 rfl dX5_settled_13 h (fun w1 h => ?_)
  refine j_aload_n O 0 0 dX5_settled_16 rfl rfl ?_
  refine j_iload_n O 1 1 dX5_settled_17 rfl rfl ?_
  obtain ⟨e4, h⟩ := h
  refine fin_I O ⟨Nat.zero_le _, Nat.zero_le _⟩ (run_V (As := [vI (x1)]) (st := []) O (mt_X5_tell (xl x) (xG x) _ _ _ _ h) e4 cfX5.1 q1760 q1762 qs48 q131 q1763 hy_X5_tell (Nat.le_of_ble_eq_true rfl) (Nat.le_of_ble_eq_true rfl) ⟨Nat.zero_le _, Nat.zero_le _⟩ rfl (Nat.le_of_ble_eq_true rfl) dX5_settled_18) (fun r2 w3 h => ?_)
  exact j_iret O hr dX5_settled_21 h
theorem mt_X5_settled (l : Launch) (G : GW) (this : Nat) (p1 : Int) (w : Wd) (Q : Int → Wd → Prop) (h : wp_X5_settled this p1 w Q) : MI l G yX5_settled cX5_settled 2 (.int) 2 0 0 [.ref (adG G (this)), vI (p1)] w Q := by
  refine met_I (fun G => [.ref (adG G (this)), vI (p1)]) (by decide) (fun G => Nat.le_of_ble_eq_true rfl) (fun x O hl hm hr => ?_)
  subst hl
  have O : OK x "DowryBoxesModel" cX5_settled 2 := O
  have h : wp_X5_settled this p1 w Q := h
  unfold wp_X5_settled at h
  show J x (TI x Q) w 0 0 0 [(0, .ref (adG (xG x) (this))), (1, vI (p1))] []
  refine j_aload_n O 0 0 dX5_settled_0 rfl rfl ?_
  refine j_iload_n O 1 1 dX5_settled_1 rfl rfl ?_
  obtain ⟨c1, h⟩ := h
  refine j_if_ge O (tgt := 12) dX5_settled_2 (by decide) c1 h (fun h => ?_) (fun h => ?_)
  · refine j_iconst O dX5_settled_12 ?_
    exact (J.sub [0, 1] rfl <| wk_X5_settled_13 O hr hm  _ _ _ _  _ h)
  · refine j_aload_n O 0 0 dX5_settled_5 rfl rfl ?_
    refine j_getI O cfX5 8 (Nat.le_of_ble_eq_true rfl) (.inl rfl) q1576 dX5_settled_6 h (fun v2 h => ?_)
    refine j_goto O (tgt := 13) dX5_settled_9 (by decide) ?_
    exact (J.sub [0, 1] rfl <| wk_X5_settled_13 O hr hm  _ _ _ _  _ h)
theorem hy_X5_row : (yX5_row.cls = "DowryBoxesModel" ∧ yX5_row.cls ≠ "java/lang/invoke/MethodHandle" ∧ yX5_row.cls ≠ "java/lang/invoke/VarHandle" ∧ (parseMethodDescriptor yX5_row.desc).map (fun d => d.parameters.length) = some 0) := by decide +kernel
theorem wk_X5_row_124 {x : Cx} (O : OK x "DowryBoxesModel" cX5_row 3) (hr : (xM x).sig.returnType = some .int) (hm : xn x = 4) {Q : Int → Wd → Prop} (K35 : Int → Int → Wd → Prop) (X35 : Int → Wd → Prop) (this : Nat) (x1 : Int) (x2 : Int) (x3 : Int) (hK35 : ∀ (y2 : Int) (y3 : Int) (w : Wd), K35 y2 y3 w → J x (TI x Q) w 0 0 35 [(0, .ref (adG (xG x) (this))), (1, vI (x1)), (2, vI (y2)), (3, vI (y3))] []) (hX35 : ∀ (y2 : Int) (w : Wd), X35 y2 w → J x (TI x Q) w 0 0 130 [(0, .ref (adG (xG x) (this))), (2, vI (y2))] []) (w : Wd) (h : wp_X5_row_124 Q K35 X35 this x1 x2 x3 w) : J x (TI x Q) w 0 0 124 [(0, .ref (adG (xG x) (this))), (1, vI (x1)), (2, vI (x2)), (3, vI (x3))] [] := by
  unfold wp_X5_row_124 at h
  refine j_iinc (L' := [(3, vI (x3 + 3)), (0, .ref (adG (xG x) (this))), (1, vI (x1)), (2, vI (x2))]) O 3 dX5_row_124 rfl (by rw [hm]; decide) rfl ?_
  refine j_goto O (tgt := 35) dX5_row_127 (by decide) ?_
  exact (J.sub [1, 2, 3, 0] rfl <| hK35 _ _ _ h)
theorem wk_X5_row_114 {x : Cx} (O : OK x "DowryBoxesModel" cX5_row 3) (hr : (xM x).sig.returnType = some .int) (hm : xn x = 4) {Q : Int → Wd → Prop} (K35 : Int → Int → Wd → Prop) (X35 : Int → Wd → Prop) (this : Nat) (x1 : Int) (x2 : Int) (x3 : Int) (hK35 : ∀ (y2 : Int) (y3 : Int) (w : Wd), K35 y2 y3 w → J x (TI x Q) w 0 0 35 [(0, .ref (adG (xG x) (this))), (1, vI (x1)), (2, vI (y2)), (3, vI (y3))] []) (hX35 : ∀ (y2 : Int) (w : Wd), X35 y2 w → J x (TI x Q) w 0 0 130 [(0, .ref (adG (xG x) (this))), (2, vI (y2))] []) (w : Wd) (h : wp_X5_row_114 Q K35 X35 this x1 x2 x3 w) : J x (TI x Q) w 0 0 114 [(0, .ref (adG (xG x) (this))), (1, vI (x1)), (2, vI (x2)), (3, vI (x3))] [] := by
  unfold wp_X5_row_114 at h
  refine j_aload_n O 0 0 dX5_row_114 rfl rfl ?_
  refine j_dup O dX5_row_115 rfl ?_
  refine j_getI O cfX5 11 (Nat.le_of_ble_eq_true rfl) (.inl rfl) q1579 dX5_row_116 h (fun v1 h => ?_)
  refine j_iconst O dX5_row_119 ?_
  refine j_iadd O dX5_row_120 ?_
  refine j_putI O cfX5 11 (Nat.le_of_ble_eq_true rfl) rfl q1579 rfl dX5_row_121 h (fun w2 h => ?_)
  exact (J.sub [0, 1, 2, 3] rfl <| wk_X5_row_124 O hr hm _ _ _ _ _ _ hK35 hX35 _ h)
theorem wk_X5_row_35 {x : Cx} (O : OK x "DowryBoxesModel" cX5_row 3) (hr : (xM x).sig.returnType = some .int) (hm : xn x = 4) {Q : Int → Wd → Prop} (X35 : Int → Wd → Prop) (this : Nat) (x1 : Int) (hX35 : ∀ (y2 : Int) (w : Wd), X35 y2 w → J x (TI x Q) w 0 0 130 [(0, .ref (adG (xG x) (this))), (2, vI (y2))] []) : ∀ (n : Nat) (x2 : Int) (x3 : Int) (w : Wd), wp_X5_row_35 Q X35 this x1 n x2 x3 w → J x (TI x Q) w 0 0 35 [(0, .ref (adG (xG x) (this))), (1, vI (x1)), (2, vI (x2)), (3, vI (x3))] [] := by
  intro n
  induction n with
  | zero => intro x2 x3 w h; exact False.elim h
  | succ n ih =>
    intro x2 x3 w h
    rw [wp_X5_row_35] at h
    refine j_iload_n O 3 3 dX5_row_35 rfl rfl ?_
    refine j_iload_n O 1 1 dX5_row_36 rfl rfl ?_
    obtain ⟨c1, h⟩ := h
    obtain ⟨c2, h⟩ := h
    refine j_icmp_ge O (tgt := 130) dX5_row_37 (by decide) c1 c2 h (fun h => ?_) (fun h => ?_)
    · exact (J.sub [0, 2] rfl <| hX35 _ _ h)
    · refine j_iload_n O 3 3 dX5_row_40 rfl rfl ?_
      refine j_iconst O dX5_row_41 ?_
      refine j_iadd O dX5_row_42 ?_
      refine j_iload_n O 1 1 dX5_row_43 rfl rfl ?_
      obtain ⟨c3, h⟩ := h
      obtain ⟨c4, h⟩ := h
      refine j_icmp_ge O (tgt := 114) dX5_row_44 (by decide) c3 c4 h (fun h => ?_) (fun h => ?_)
      · exact (J.sub [0, 1, 2, 3] rfl <| wk_X5_row_114 O hr hm _ _ _ _ _ _ ih hX35 _ h)
      · refine j_aload_n O 0 0 dX5_row_47 rfl rfl ?_
        refine j_aload_n O 0 0 dX5_row_48 rfl rfl ?_
        refine j_getA O cfX5 12 (Nat.le_of_ble_eq_true rfl) ⟨_, rfl⟩ q1580 dX5_row_49 h (fun k5 h => ?_)
        refine j_iload_n O 3 3 dX5_row_52 rfl rfl ?_
        refine j_iald O dX5_row_53 h (fun v6 h => ?_)
        obtain ⟨e9, h⟩ := h
        refine fin_I O ⟨Nat.zero_le _, Nat.zero_le _⟩ (run_V (As := [vI (v6)]) (st := []) O (mt_X5_isBox (xl x) (xG x) _ _ _ _ h) e9 cfX5.1 q1792 q1794 qs51 q131 q1795 hy_X5_isBox (Nat.le_of_ble_eq_true rfl) (Nat.le_of_ble_eq_true rfl) ⟨Nat.zero_le _, Nat.zero_le _⟩ rfl (Nat.le_of_ble_eq_true rfl) dX5_row_54) (fun r7 w8 h => ?_)
        obtain ⟨c10, h⟩ := h
        refine j_if_eq O (tgt := 114) dX5_row_57 (by decide) c10 h (fun h => ?_) (fun h => ?_)
        · exact (J.sub [0, 1, 2, 3] rfl <| wk_X5_row_114 O hr hm _ _ _ _ _ _ ih hX35 _ h)
        · refine j_aload_n O 0 0 dX5_row_60 rfl rfl ?_
          refine j_getA O cfX5 12 (Nat.le_of_ble_eq_true rfl) ⟨_, rfl⟩ q1580 dX5_row_61 h (fun k11 h => ?_)
          refine j_iload_n O 3 3 dX5_row_64 rfl rfl ?_
          refine j_iconst O dX5_row_65 ?_
          refine j_iadd O dX5_row_66 ?_
          refine j_iald O dX5_row_67 h (fun v12 h => ?_)
          refine fin_I O ⟨Nat.zero_le _, Nat.zero_le _⟩ (run_S (As := [vI (v12)]) (st := []) O (mt_X5_isBar (xl x) (xG x) _ _ _ h) q1846 q1847 q131 q1848 hy_X5_isBar.2 (Nat.le_of_ble_eq_true rfl) (Nat.le_of_ble_eq_true rfl) ⟨Nat.zero_le _, Nat.zero_le _⟩ rfl (Nat.le_of_ble_eq_true rfl) dX5_row_68) (fun r13 w14 h => ?_)
          obtain ⟨c15, h⟩ := h
          refine j_if_eq O (tgt := 114) dX5_row_71 (by decide) c15 h (fun h => ?_) (fun h => ?_)
          · exact (J.sub [0, 1, 2, 3] rfl <| wk_X5_row_114 O hr hm _ _ _ _ _ _ ih hX35 _ h)
          · refine j_aload_n O 0 0 dX5_row_74 rfl rfl ?_
            refine j_getA O cfX5 3 (Nat.le_of_ble_eq_true rfl) ⟨_, rfl⟩ q1571 dX5_row_75 h (fun k16 h => ?_)
            refine j_bipush (m := 8) O dX5_row_78 bi_8 ?_
            refine j_bipush (m := 8) O dX5_row_80 bi_8 ?_
            refine j_aload_n O 0 0 dX5_row_82 rfl rfl ?_
            refine j_getA O cfX5 12 (Nat.le_of_ble_eq_true rfl) ⟨_, rfl⟩ q1580 dX5_row_83 h (fun k17 h => ?_)
            refine j_iload_n O 3 3 dX5_row_86 rfl rfl ?_
            refine j_iald O dX5_row_87 h (fun v18 h => ?_)
            refine j_imul O dX5_row_88 ?_
            refine j_iadd O dX5_row_89 ?_
            refine j_aload_n O 0 0 dX5_row_90 rfl rfl ?_
            refine j_getA O cfX5 12 (Nat.le_of_ble_eq_true rfl) ⟨_, rfl⟩ q1580 dX5_row_91 h (fun k19 h => ?_)
            refine j_iload_n O 3 3 dX5_row_94 rfl rfl ?_
            refine j_iconst O dX5_row_95 ?_
            refine j_iadd O dX5_row_96 ?_
            refine j_iald O dX5_row_97 h (fun v20 h => ?_)
            refine j_iadd O dX5_row_98 ?_
            refine j_aload_n O 0 0 dX5_row_99 rfl rfl ?_
            refine j_getA O cfX5 12 (Nat.le_of_ble_eq_true rfl) ⟨_, rfl⟩ q1580 dX5_row_100 h (fun k21 h => ?_)
            refine j_iload_n O 3 3 dX5_row_103 rfl rfl ?_
            refine j_iconst O dX5_row_104 ?_
            refine j_iadd O dX5_row_105 ?_
            refine j_iald O dX5_row_106 h (fun v22 h => ?_)
            refine j_iast O dX5_row_107 h (fun w23 h => ?_)
            refine j_iinc (L' := [(2, vI (x2 + 1)), (0, .ref (adG (xG x) (this))), (1, vI (x1)), (3, vI (x3))]) O 2 dX5_row_108 rfl (by rw [hm]; decide) rfl ?_
            refine j_goto O (tgt := 124) dX5_row_111 (by decide) ?_
            exact (J.sub [1, 2, 0, 3] rfl <| wk_X5_row_124 O hr hm _ _ _ _ _ _ ih hX35 _ h)
theorem mt_X5_row (l : Launch) (G : GW) (this : Nat) (w : Wd) (Q : Int → Wd → Prop) (h : wp_X5_row this w Q) : MI l G yX5_row cX5_row 4 (.int) 3 0 0 [.ref (adG G (this))] w Q := by
  refine met_I (fun G => [.ref (adG G (this))]) (by decide) (fun G => Nat.le_of_ble_eq_true rfl) (fun x O hl hm hr => ?_)
  subst hl
  have O : OK x "DowryBoxesModel" cX5_row 3 := O
  have h : wp_X5_row this w Q := h
  unfold wp_X5_row at h
  show J x (TI x Q) w 0 0 0 [(0, .ref (adG (xG x) (this)))] []
  refine j_aload_n O 0 0 dX5_row_0 rfl rfl ?_
  refine j_iconst O dX5_row_1 ?_
  refine j_putI O cfX5 0 (Nat.le_of_ble_eq_true rfl) rfl q1568 rfl dX5_row_2 h (fun w1 h => ?_)
  refine j_aload_n O 0 0 dX5_row_5 rfl rfl ?_
  refine j_getI O cfX5 13 (Nat.le_of_ble_eq_true rfl) (.inl rfl) q1581 dX5_row_6 h (fun v2 h => ?_)
  refine j_istore_n (L' := [(1, vI (v2)), (0, .ref (adG (xG x) (this)))]) O 1 dX5_row_9 rfl (by rw [hm]; decide) rfl ?_
  refine j_aload_n O 1 0 dX5_row_10 rfl rfl ?_
  refine j_iconst O dX5_row_11 ?_
  refine j_putI O cfX5 13 (Nat.le_of_ble_eq_true rfl) rfl q1581 rfl dX5_row_12 h (fun w3 h => ?_)
  refine j_iload_n O 0 1 dX5_row_15 rfl rfl ?_
  obtain ⟨c4, h⟩ := h
  refine j_if_ne O (tgt := 26) dX5_row_16 (by decide) c4 h (fun h => ?_) (fun h => ?_)
  · refine j_aload_n O 1 0 dX5_row_26 rfl rfl ?_
    refine j_iconst O dX5_row_27 ?_
    refine j_putI O cfX5 11 (Nat.le_of_ble_eq_true rfl) rfl q1579 rfl dX5_row_28 h (fun w5 h => ?_)
    refine j_iconst O dX5_row_31 ?_
    refine j_istore_n (L' := [(2, vI (0)), (1, vI (v2)), (0, .ref (adG (xG x) (this)))]) O 2 dX5_row_32 rfl (by rw [hm]; decide) rfl ?_
    refine j_iconst O dX5_row_33 ?_
    refine j_istore_n (L' := [(3, vI (0)), (2, vI (0)), (1, vI (v2)), (0, .ref (adG (xG x) (this)))]) O 3 dX5_row_34 rfl (by rw [hm]; decide) rfl ?_
    refine (J.sub [3, 2, 1, 0] rfl <| wk_X5_row_35 O hr hm _ _ _ (fun z6 w7 h => ?_) FU _ _ _ h)
    refine j_aload_n O 0 0 dX5_row_130 rfl rfl ?_
    refine j_iload_n O 1 2 dX5_row_131 rfl rfl ?_
    obtain ⟨e10, h⟩ := h
    refine fin_I O ⟨Nat.zero_le _, Nat.zero_le _⟩ (run_V (As := [vI (z6)]) (st := []) O (mt_X5_settled (xl x) (xG x) _ _ _ _ h) e10 cfX5.1 q1779 q1781 qs50 q131 q1782 hy_X5_settled (Nat.le_of_ble_eq_true rfl) (Nat.le_of_ble_eq_true rfl) ⟨Nat.zero_le _, Nat.zero_le _⟩ rfl (Nat.le_of_ble_eq_true rfl) dX5_row_132) (fun r8 w9 h => ?_)
    exact j_iret O hr dX5_row_135 h
  · refine j_aload_n O 1 0 dX5_row_19 rfl rfl ?_
    refine j_bipush (m := (-6)) O dX5_row_20 bi_m6 ?_
    obtain ⟨e13, h⟩ := h
    refine fin_I O ⟨Nat.zero_le _, Nat.zero_le _⟩ (run_V (As := [vI (((-6)))]) (st := []) O (mt_X5_tell (xl x) (xG x) _ _ _ _ h) e13 cfX5.1 q1760 q1762 qs48 q131 q1763 hy_X5_tell (Nat.le_of_ble_eq_true rfl) (Nat.le_of_ble_eq_true rfl) ⟨Nat.zero_le _, Nat.zero_le _⟩ rfl (Nat.le_of_ble_eq_true rfl) dX5_row_22) (fun r11 w12 h => ?_)
    exact j_iret O hr dX5_row_25 h
theorem hy_X5_terms : (yX5_terms.cls = "DowryBoxesModel" ∧ yX5_terms.cls ≠ "java/lang/invoke/MethodHandle" ∧ yX5_terms.cls ≠ "java/lang/invoke/VarHandle" ∧ (parseMethodDescriptor yX5_terms.desc).map (fun d => d.parameters.length) = some 2) := by decide +kernel
theorem wk_X5_terms_60 {x : Cx} (O : OK x "DowryBoxesModel" cX5_terms 2) (hr : (xM x).sig.returnType = some .int) (hm : xn x = 4) {Q : Int → Wd → Prop} (this : Nat) (x1 : Int) (x2 : Int) (s0 : Int) (w : Wd) (h : wp_X5_terms_60 Q this x1 x2 s0 w) : J x (TI x Q) w 0 0 60 [(0, .ref (adG (xG x) (this))), (1, vI (x1)), (2, vI (x2))] [vI (s0)] := by
  unfold wp_X5_terms_60 at h
  refine j_istore_n (L' := [(3, vI (s0)), (0, .ref (adG (xG x) (this))), (1, vI (x1)), (2, vI (x2))]) O 3 dX5_terms_60 rfl (by rw [hm]; decide) rfl ?_
  refine j_iload_n O 0 3 dX5_terms_61 rfl rfl ?_
  obtain ⟨c1, h⟩ := h
  refine j_if_ne O (tgt := 71) dX5_terms_62 (by decide) c1 h (fun h => ?_) (fun h => ?_)
  · refine j_aload_n O 1 0 dX5_terms_71 rfl rfl ?_
    refine j_iconst O dX5_terms_72 ?_
    refine j_putI O cfX5 8 (Nat.le_of_ble_eq_true rfl) rfl q1576 rfl dX5_terms_73 h (fun w2 h => ?_)
    refine j_aload_n O 1 0 dX5_terms_76 rfl rfl ?_
    refine j_iconst O dX5_terms_77 ?_
    refine j_iload_n O 2 1 dX5_terms_78 rfl rfl ?_
    refine j_iadd O dX5_terms_79 ?_
    refine j_iload_n O 3 2 dX5_terms_80 rfl rfl ?_
    obtain ⟨e5, h⟩ := h
    refine fin_I O ⟨Nat.zero_le _, Nat.zero_le _⟩ (run_V (As := [vI ((5 + x1)), vI (x2)]) (st := []) O (mt_X5_change (xl x) (xG x) _ _ _ _ _ h) e5 cfX5.1 q1851 q1853 qs61 q131 q1854 hy_X5_change (Nat.le_of_ble_eq_true rfl) (Nat.le_of_ble_eq_true rfl) ⟨Nat.zero_le _, Nat.zero_le _⟩ rfl (Nat.le_of_ble_eq_true rfl) dX5_terms_81) (fun r3 w4 h => ?_)
    exact j_iret O hr dX5_terms_84 h
  · refine j_aload_n O 1 0 dX5_terms_65 rfl rfl ?_
    refine j_iconst O dX5_terms_66 ?_
    obtain ⟨e8, h⟩ := h
    refine fin_I O ⟨Nat.zero_le _, Nat.zero_le _⟩ (run_V (As := [vI (((-1)))]) (st := []) O (mt_X5_tell (xl x) (xG x) _ _ _ _ h) e8 cfX5.1 q1760 q1762 qs48 q131 q1763 hy_X5_tell (Nat.le_of_ble_eq_true rfl) (Nat.le_of_ble_eq_true rfl) ⟨Nat.zero_le _, Nat.zero_le _⟩ rfl (Nat.le_of_ble_eq_true rfl) dX5_terms_67) (fun r6 w7 h => ?_)
    exact j_iret O hr dX5_terms_70 h
theorem wk_X5_terms_59 {x : Cx} (O : OK x "DowryBoxesModel" cX5_terms 2) (hr : (xM x).sig.returnType = some .int) (hm : xn x = 4) {Q : Int → Wd → Prop} (this : Nat) (x1 : Int) (x2 : Int) (w : Wd) (h : wp_X5_terms_59 Q this x1 x2 w) : J x (TI x Q) w 0 0 59 [(0, .ref (adG (xG x) (this))), (1, vI (x1)), (2, vI (x2))] [] := by
  unfold wp_X5_terms_59 at h
  refine j_iconst O dX5_terms_59 ?_
  exact (J.sub [0, 1, 2] rfl <| wk_X5_terms_60 O hr hm  _ _ _ _  _ h)
theorem mt_X5_terms (l : Launch) (G : GW) (this : Nat) (p1 : Int) (p2 : Int) (w : Wd) (Q : Int → Wd → Prop) (h : wp_X5_terms this p1 p2 w Q) : MI l G yX5_terms cX5_terms 4 (.int) 2 0 0 [.ref (adG G (this)), vI (p1), vI (p2)] w Q := by
  refine met_I (fun G => [.ref (adG G (this)), vI (p1), vI (p2)]) (by decide) (fun G => Nat.le_of_ble_eq_true rfl) (fun x O hl hm hr => ?_)
  subst hl
  have O : OK x "DowryBoxesModel" cX5_terms 2 := O
  have h : wp_X5_terms this p1 p2 w Q := h
  unfold wp_X5_terms at h
  show J x (TI x Q) w 0 0 0 [(0, .ref (adG (xG x) (this))), (1, vI (p1)), (2, vI (p2))] []
  refine j_aload_n O 0 0 dX5_terms_0 rfl rfl ?_
  refine j_iconst O dX5_terms_1 ?_
  refine j_putI O cfX5 0 (Nat.le_of_ble_eq_true rfl) rfl q1568 rfl dX5_terms_2 h (fun w1 h => ?_)
  refine j_iload_n O 1 1 dX5_terms_5 rfl rfl ?_
  obtain ⟨c2, h⟩ := h
  refine j_if_ne O (tgt := 21) dX5_terms_6 (by decide) c2 h (fun h => ?_) (fun h => ?_)
  · refine j_iload_n O 1 1 dX5_terms_21 rfl rfl ?_
    refine j_iconst O dX5_terms_22 ?_
    obtain ⟨c3, h⟩ := h
    refine j_icmp_ne O (tgt := 38) dX5_terms_23 (by decide) c3 (by decide) h (fun h => ?_) (fun h => ?_)
    · refine j_iload_n O 1 1 dX5_terms_38 rfl rfl ?_
      refine j_iconst O dX5_terms_39 ?_
      obtain ⟨c4, h⟩ := h
      refine j_icmp_ne O (tgt := 59) dX5_terms_40 (by decide) c4 (by decide) h (fun h => ?_) (fun h => ?_)
      · exact (J.sub [0, 1, 2] rfl <| wk_X5_terms_59 O hr hm  _ _ _  _ h)
      · refine j_iload_n O 2 2 dX5_terms_43 rfl rfl ?_
        refine j_i2l O dX5_terms_44 h (fun h => ?_)
        refine j_lconst (m := 0) O dX5_terms_45 lc_0 ?_
        refine j_ldc2 (m := 9) O dX5_terms_46 q1893 l2_9 ?_
        refine fin_I O ⟨Nat.zero_le _, Nat.zero_le _⟩ (run_S (As := [vL (p2), vL (0), vL (9)]) (st := []) O (mt_X5_in (xl x) (xG x) _ _ _ _ _ h) q1772 q1773 q131 q1774 hy_X5_in.2 (Nat.le_of_ble_eq_true rfl) (Nat.le_of_ble_eq_true rfl) ⟨Nat.zero_le _, Nat.zero_le _⟩ rfl (Nat.le_of_ble_eq_true rfl) dX5_terms_49) (fun r5 w6 h => ?_)
        obtain ⟨c7, h⟩ := h
        refine j_if_eq O (tgt := 59) dX5_terms_52 (by decide) c7 h (fun h => ?_) (fun h => ?_)
        · exact (J.sub [0, 1, 2] rfl <| wk_X5_terms_59 O hr hm  _ _ _  _ h)
        · refine j_iconst O dX5_terms_55 ?_
          refine j_goto O (tgt := 60) dX5_terms_56 (by decide) ?_
          exact (J.sub [0, 1, 2] rfl <| wk_X5_terms_60 O hr hm  _ _ _ _  _ h)
    · refine j_iload_n O 2 2 dX5_terms_26 rfl rfl ?_
      refine j_i2l O dX5_terms_27 h (fun h => ?_)
      refine j_lconst (m := 0) O dX5_terms_28 lc_0 ?_
      refine j_ldc2 (m := 10) O dX5_terms_29 q1892 l2_10 ?_
      refine fin_I O ⟨Nat.zero_le _, Nat.zero_le _⟩ (run_S (As := [vL (p2), vL (0), vL (10)]) (st := []) O (mt_X5_in (xl x) (xG x) _ _ _ _ _ h) q1772 q1773 q131 q1774 hy_X5_in.2 (Nat.le_of_ble_eq_true rfl) (Nat.le_of_ble_eq_true rfl) ⟨Nat.zero_le _, Nat.zero_le _⟩ rfl (Nat.le_of_ble_eq_true rfl) dX5_terms_32) (fun r8 w9 h => ?_)
      refine j_goto O (tgt := 60) dX5_terms_35 (by decide) ?_
      exact (J.sub [0, 1, 2] rfl <| wk_X5_terms_60 O hr hm  _ _ _ _  _ h)
  · refine j_iload_n O 2 2 dX5_terms_9 rfl rfl ?_
    refine j_i2l O dX5_terms_10 h (fun h => ?_)
    refine j_lconst (m := 0) O dX5_terms_11 lc_0 ?_
    refine j_ldc2 (m := 999) O dX5_terms_12 q1891 l2_999 ?_
    refine fin_I O ⟨Nat.zero_le _, Nat.zero_le _⟩ (run_S (As := [vL (p2), vL (0), vL (999)]) (st := []) O (mt_X5_in (xl x) (xG x) _ _ _ _ _ h) q1772 q1773 q131 q1774 hy_X5_in.2 (Nat.le_of_ble_eq_true rfl) (Nat.le_of_ble_eq_true rfl) ⟨Nat.zero_le _, Nat.zero_le _⟩ rfl (Nat.le_of_ble_eq_true rfl) dX5_terms_15) (fun r10 w11 h => ?_)
    refine j_goto O (tgt := 60) dX5_terms_18 (by decide) ?_
    exact (J.sub [0, 1, 2] rfl <| wk_X5_terms_60 O hr hm  _ _ _ _  _ h)
theorem hy_X5_asks : (yX5_asks.cls = "DowryBoxesModel" ∧ yX5_asks.cls ≠ "java/lang/invoke/MethodHandle" ∧ yX5_asks.cls ≠ "java/lang/invoke/VarHandle" ∧ (parseMethodDescriptor yX5_asks.desc).map (fun d => d.parameters.length) = some 3) := by decide +kernel
theorem mt_X5_asks (l : Launch) (G : GW) (this : Nat) (p1 : Int) (p2 : Int) (p3 : Int) (w : Wd) (Q : Int → Wd → Prop) (h : wp_X5_asks this p1 p2 p3 w Q) : MI l G yX5_asks cX5_asks 4 (.int) 7 0 0 [.ref (adG G (this)), vI (p1), vI (p2), vI (p3)] w Q := by
  refine met_I (fun G => [.ref (adG G (this)), vI (p1), vI (p2), vI (p3)]) (by decide) (fun G => Nat.le_of_ble_eq_true rfl) (fun x O hl hm hr => ?_)
  subst hl
  have O : OK x "DowryBoxesModel" cX5_asks 7 := O
  have h : wp_X5_asks this p1 p2 p3 w Q := h
  unfold wp_X5_asks at h
  show J x (TI x Q) w 0 0 0 [(0, .ref (adG (xG x) (this))), (1, vI (p1)), (2, vI (p2)), (3, vI (p3))] []
  refine j_aload_n O 0 0 dX5_asks_0 rfl rfl ?_
  refine j_iconst O dX5_asks_1 ?_
  refine j_putI O cfX5 0 (Nat.le_of_ble_eq_true rfl) rfl q1568 rfl dX5_asks_2 h (fun w1 h => ?_)
  refine j_aload_n O 0 0 dX5_asks_5 rfl rfl ?_
  refine j_iload_n O 1 1 dX5_asks_6 rfl rfl ?_
  obtain ⟨e4, h⟩ := h
  refine fin_I O ⟨Nat.zero_le _, Nat.zero_le _⟩ (run_V (As := [vI (p1)]) (st := []) O (mt_X5_isBox (xl x) (xG x) _ _ _ _ h) e4 cfX5.1 q1792 q1794 qs51 q131 q1795 hy_X5_isBox (Nat.le_of_ble_eq_true rfl) (Nat.le_of_ble_eq_true rfl) ⟨Nat.zero_le _, Nat.zero_le _⟩ rfl (Nat.le_of_ble_eq_true rfl) dX5_asks_7) (fun r2 w3 h => ?_)
  obtain ⟨c5, h⟩ := h
  refine j_if_eq O (tgt := 21) dX5_asks_10 (by decide) c5 h (fun h => ?_) (fun h => ?_)
  · refine j_iconst O dX5_asks_21 ?_
    exact j_iret O hr dX5_asks_22 h
  · refine j_aload_n O 0 0 dX5_asks_13 rfl rfl ?_
    refine j_iload_n O 2 2 dX5_asks_14 rfl rfl ?_
    obtain ⟨e8, h⟩ := h
    refine fin_I O ⟨Nat.zero_le _, Nat.zero_le _⟩ (run_V (As := [vI (p2)]) (st := []) O (mt_X5_isSuitor (xl x) (xG x) _ _ _ _ h) e8 cfX5.1 q1867 q1869 qs62 q131 q1870 hy_X5_isSuitor (Nat.le_of_ble_eq_true rfl) (Nat.le_of_ble_eq_true rfl) ⟨Nat.zero_le _, Nat.zero_le _⟩ rfl (Nat.le_of_ble_eq_true rfl) dX5_asks_15) (fun r6 w7 h => ?_)
    obtain ⟨c9, h⟩ := h
    refine j_if_ne O (tgt := 23) dX5_asks_18 (by decide) c9 h (fun h => ?_) (fun h => ?_)
    · refine j_iload_n O 3 3 dX5_asks_23 rfl rfl ?_
      obtain ⟨ca, h⟩ := h
      rcases Classical.em (p3 = 0) with e0 | e0
      · have h := h.1 e0
        refine j_tableIn O (tgt := 52) dX5_asks_24 ca (by omega) (by omega) (by rw [e0]; rfl) (by decide) ?_
        refine j_aload_n O 0 0 dX5_asks_52 rfl rfl ?_
        refine j_iload_n O 1 1 dX5_asks_53 rfl rfl ?_
        refine j_iload_n O 2 2 dX5_asks_54 rfl rfl ?_
        obtain ⟨e12, h⟩ := h
        refine fin_I O ⟨Nat.zero_le _, Nat.zero_le _⟩ (run_V (As := [vI (p1), vI (p2)]) (st := []) O (mt_X5_earOf (xl x) (xG x) _ _ _ _ _ h) e12 cfX5.1 q1817 q1819 qs56 q131 q1820 hy_X5_earOf (Nat.le_of_ble_eq_true rfl) (Nat.le_of_ble_eq_true rfl) ⟨Nat.zero_le _, Nat.zero_le _⟩ rfl (Nat.le_of_ble_eq_true rfl) dX5_asks_55) (fun r10 w11 h => ?_)
        exact j_iret O hr dX5_asks_58 h
      have h := h.2 e0
      rcases Classical.em (p3 = 1) with e1 | e1
      · have h := h.1 e1
        refine j_tableIn O (tgt := 59) dX5_asks_24 ca (by omega) (by omega) (by rw [e1]; rfl) (by decide) ?_
        refine j_aload_n O 0 0 dX5_asks_59 rfl rfl ?_
        refine j_iload_n O 1 1 dX5_asks_60 rfl rfl ?_
        refine j_iload_n O 2 2 dX5_asks_61 rfl rfl ?_
        obtain ⟨e15, h⟩ := h
        refine fin_I O ⟨Nat.zero_le _, Nat.zero_le _⟩ (run_V (As := [vI (p1), vI (p2)]) (st := []) O (mt_X5_likesOf (xl x) (xG x) _ _ _ _ _ h) e15 cfX5.1 q1879 q1881 qs64 q131 q1882 hy_X5_likesOf (Nat.le_of_ble_eq_true rfl) (Nat.le_of_ble_eq_true rfl) ⟨Nat.zero_le _, Nat.zero_le _⟩ rfl (Nat.le_of_ble_eq_true rfl) dX5_asks_62) (fun r13 w14 h => ?_)
        exact j_iret O hr dX5_asks_65 h
      have h := h.2 e1
      rcases Classical.em (p3 = 2) with e2 | e2
      · have h := h.1 e2
        refine j_tableIn O (tgt := 66) dX5_asks_24 ca (by omega) (by omega) (by rw [e2]; rfl) (by decide) ?_
        refine j_aload_n O 0 0 dX5_asks_66 rfl rfl ?_
        refine j_iload_n O 1 1 dX5_asks_67 rfl rfl ?_
        refine j_iload_n O 2 2 dX5_asks_68 rfl rfl ?_
        obtain ⟨e18, h⟩ := h
        refine fin_I O ⟨Nat.zero_le _, Nat.zero_le _⟩ (run_V (As := [vI (p1), vI (p2)]) (st := []) O (mt_X5_isBarred (xl x) (xG x) _ _ _ _ _ h) e18 cfX5.1 q1883 q1885 qs65 q131 q1886 hy_X5_isBarred (Nat.le_of_ble_eq_true rfl) (Nat.le_of_ble_eq_true rfl) ⟨Nat.zero_le _, Nat.zero_le _⟩ rfl (Nat.le_of_ble_eq_true rfl) dX5_asks_69) (fun r16 w17 h => ?_)
        obtain ⟨c19, h⟩ := h
        refine j_if_eq O (tgt := 79) dX5_asks_72 (by decide) c19 h (fun h => ?_) (fun h => ?_)
        · refine j_iconst O dX5_asks_79 ?_
          exact j_iret O hr dX5_asks_80 h
        · refine j_iconst O dX5_asks_75 ?_
          refine j_goto O (tgt := 80) dX5_asks_76 (by decide) ?_
          exact j_iret O hr dX5_asks_80 h
      have h := h.2 e2
      refine j_tableOut O (tgt := 81) dX5_asks_24 ca (by omega) (by decide) ?_
      refine j_iconst O dX5_asks_81 ?_
      exact j_iret O hr dX5_asks_82 h
    · refine j_iconst O dX5_asks_21 ?_
      exact j_iret O hr dX5_asks_22 h
theorem hy_X5_at : (yX5_at.cls = "DowryBoxesModel" ∧ yX5_at.cls ≠ "java/lang/invoke/MethodHandle" ∧ yX5_at.cls ≠ "java/lang/invoke/VarHandle" ∧ (parseMethodDescriptor yX5_at.desc).map (fun d => d.parameters.length) = some 2) := by decide +kernel
theorem mt_X5_at (l : Launch) (G : GW) (this : Nat) (p1 : Int) (p2 : Int) (w : Wd) (Q : Int → Wd → Prop) (h : wp_X5_at this p1 p2 w Q) : MI l G yX5_at cX5_at 3 (.int) 3 0 0 [.ref (adG G (this)), vI (p1), vI (p2)] w Q := by
  refine met_I (fun G => [.ref (adG G (this)), vI (p1), vI (p2)]) (by decide) (fun G => Nat.le_of_ble_eq_true rfl) (fun x O hl hm hr => ?_)
  subst hl
  have O : OK x "DowryBoxesModel" cX5_at 3 := O
  have h : wp_X5_at this p1 p2 w Q := h
  unfold wp_X5_at at h
  show J x (TI x Q) w 0 0 0 [(0, .ref (adG (xG x) (this))), (1, vI (p1)), (2, vI (p2))] []
  refine j_aload_n O 0 0 dX5_at_0 rfl rfl ?_
  refine j_iconst O dX5_at_1 ?_
  refine j_putI O cfX5 0 (Nat.le_of_ble_eq_true rfl) rfl q1568 rfl dX5_at_2 h (fun w1 h => ?_)
  refine j_aload_n O 0 0 dX5_at_5 rfl rfl ?_
  refine j_iload_n O 1 1 dX5_at_6 rfl rfl ?_
  obtain ⟨e4, h⟩ := h
  refine fin_I O ⟨Nat.zero_le _, Nat.zero_le _⟩ (run_V (As := [vI (p1)]) (st := []) O (mt_X5_isSuitor (xl x) (xG x) _ _ _ _ h) e4 cfX5.1 q1867 q1869 qs62 q131 q1870 hy_X5_isSuitor (Nat.le_of_ble_eq_true rfl) (Nat.le_of_ble_eq_true rfl) ⟨Nat.zero_le _, Nat.zero_le _⟩ rfl (Nat.le_of_ble_eq_true rfl) dX5_at_7) (fun r2 w3 h => ?_)
  obtain ⟨c5, h⟩ := h
  refine j_if_ne O (tgt := 15) dX5_at_10 (by decide) c5 h (fun h => ?_) (fun h => ?_)
  · refine j_iload_n O 2 2 dX5_at_15 rfl rfl ?_
    obtain ⟨ca, h⟩ := h
    rcases Classical.em (p2 = 0) with e0 | e0
    · have h := h.1 e0
      refine j_tableIn O (tgt := 44) dX5_at_16 ca (by omega) (by omega) (by rw [e0]; rfl) (by decide) ?_
      refine j_aload_n O 0 0 dX5_at_44 rfl rfl ?_
      refine j_getA O cfX5 3 (Nat.le_of_ble_eq_true rfl) ⟨_, rfl⟩ q1571 dX5_at_45 h (fun k6 h => ?_)
      refine j_bipush (m := 80) O dX5_at_48 bi_80 ?_
      refine j_iload_n O 1 1 dX5_at_50 rfl rfl ?_
      refine j_iadd O dX5_at_51 ?_
      refine j_iald O dX5_at_52 h (fun v7 h => ?_)
      exact j_iret O hr dX5_at_53 h
    have h := h.2 e0
    rcases Classical.em (p2 = 1) with e1 | e1
    · have h := h.1 e1
      refine j_tableIn O (tgt := 54) dX5_at_16 ca (by omega) (by omega) (by rw [e1]; rfl) (by decide) ?_
      refine j_aload_n O 0 0 dX5_at_54 rfl rfl ?_
      refine j_getA O cfX5 3 (Nat.le_of_ble_eq_true rfl) ⟨_, rfl⟩ q1571 dX5_at_55 h (fun k8 h => ?_)
      refine j_bipush (m := 86) O dX5_at_58 bi_86 ?_
      refine j_iload_n O 1 1 dX5_at_60 rfl rfl ?_
      refine j_iadd O dX5_at_61 ?_
      refine j_iald O dX5_at_62 h (fun v9 h => ?_)
      exact j_iret O hr dX5_at_63 h
    have h := h.2 e1
    rcases Classical.em (p2 = 2) with e2 | e2
    · have h := h.1 e2
      refine j_tableIn O (tgt := 64) dX5_at_16 ca (by omega) (by omega) (by rw [e2]; rfl) (by decide) ?_
      refine j_aload_n O 0 0 dX5_at_64 rfl rfl ?_
      refine j_iload_n O 1 1 dX5_at_65 rfl rfl ?_
      obtain ⟨e12, h⟩ := h
      refine fin_I O ⟨Nat.zero_le _, Nat.zero_le _⟩ (run_V (As := [vI (p1)]) (st := []) O (mt_X5_boxOf (xl x) (xG x) _ _ _ _ h) e12 cfX5.1 q1871 q1873 qs63 q131 q1874 hy_X5_boxOf (Nat.le_of_ble_eq_true rfl) (Nat.le_of_ble_eq_true rfl) ⟨Nat.zero_le _, Nat.zero_le _⟩ rfl (Nat.le_of_ble_eq_true rfl) dX5_at_66) (fun r10 w11 h => ?_)
      exact j_iret O hr dX5_at_69 h
    have h := h.2 e2
    refine j_tableOut O (tgt := 70) dX5_at_16 ca (by omega) (by decide) ?_
    refine j_iconst O dX5_at_70 ?_
    exact j_iret O hr dX5_at_71 h
  · refine j_iconst O dX5_at_13 ?_
    exact j_iret O hr dX5_at_14 h
theorem hy_X5_suitor : (yX5_suitor.cls = "DowryBoxesModel" ∧ yX5_suitor.cls ≠ "java/lang/invoke/MethodHandle" ∧ yX5_suitor.cls ≠ "java/lang/invoke/VarHandle" ∧ (parseMethodDescriptor yX5_suitor.desc).map (fun d => d.parameters.length) = some 2) := by decide +kernel
theorem wk_X5_suitor_24 {x : Cx} (O : OK x "DowryBoxesModel" cX5_suitor 3) (hr : (xM x).sig.returnType = some .int) (hm : xn x = 4) {Q : Int → Wd → Prop} (this : Nat) (w : Wd) (h : wp_X5_suitor_24 Q this w) : J x (TI x Q) w 0 0 24 [(0, .ref (adG (xG x) (this)))] [] := by
  unfold wp_X5_suitor_24 at h
  refine j_aload_n O 0 0 dX5_suitor_24 rfl rfl ?_
  refine j_iconst O dX5_suitor_25 ?_
  obtain ⟨e3, h⟩ := h
  refine fin_I O ⟨Nat.zero_le _, Nat.zero_le _⟩ (run_V (As := [vI (((-1)))]) (st := []) O (mt_X5_tell (xl x) (xG x) _ _ _ _ h) e3 cfX5.1 q1760 q1762 qs48 q131 q1763 hy_X5_tell (Nat.le_of_ble_eq_true rfl) (Nat.le_of_ble_eq_true rfl) ⟨Nat.zero_le _, Nat.zero_le _⟩ rfl (Nat.le_of_ble_eq_true rfl) dX5_suitor_26) (fun r1 w2 h => ?_)
  exact j_iret O hr dX5_suitor_29 h
theorem mt_X5_suitor (l : Launch) (G : GW) (this : Nat) (p1 : Int) (p2 : Int) (w : Wd) (Q : Int → Wd → Prop) (h : wp_X5_suitor this p1 p2 w Q) : MI l G yX5_suitor cX5_suitor 4 (.int) 3 0 0 [.ref (adG G (this)), vI (p1), vI (p2)] w Q := by
  refine met_I (fun G => [.ref (adG G (this)), vI (p1), vI (p2)]) (by decide) (fun G => Nat.le_of_ble_eq_true rfl) (fun x O hl hm hr => ?_)
  subst hl
  have O : OK x "DowryBoxesModel" cX5_suitor 3 := O
  have h : wp_X5_suitor this p1 p2 w Q := h
  unfold wp_X5_suitor at h
  show J x (TI x Q) w 0 0 0 [(0, .ref (adG (xG x) (this))), (1, vI (p1)), (2, vI (p2))] []
  refine j_aload_n O 0 0 dX5_suitor_0 rfl rfl ?_
  refine j_iconst O dX5_suitor_1 ?_
  refine j_putI O cfX5 0 (Nat.le_of_ble_eq_true rfl) rfl q1568 rfl dX5_suitor_2 h (fun w1 h => ?_)
  refine j_iload_n O 1 1 dX5_suitor_5 rfl rfl ?_
  refine fin_I O ⟨Nat.zero_le _, Nat.zero_le _⟩ (run_S (As := [vI (p1)]) (st := []) O (mt_X5_isTooth (xl x) (xG x) _ _ _ h) q1859 q1860 q131 q1861 hy_X5_isTooth.2 (Nat.le_of_ble_eq_true rfl) (Nat.le_of_ble_eq_true rfl) ⟨Nat.zero_le _, Nat.zero_le _⟩ rfl (Nat.le_of_ble_eq_true rfl) dX5_suitor_6) (fun r2 w3 h => ?_)
  obtain ⟨c4, h⟩ := h
  refine j_if_eq O (tgt := 24) dX5_suitor_9 (by decide) c4 h (fun h => ?_) (fun h => ?_)
  · exact (J.sub [0] rfl <| wk_X5_suitor_24 O hr hm  _  _ h)
  · refine j_iload_n O 2 2 dX5_suitor_12 rfl rfl ?_
    refine j_i2l O dX5_suitor_13 h (fun h => ?_)
    refine j_lconst (m := 0) O dX5_suitor_14 lc_0 ?_
    refine j_ldc2 (m := 60) O dX5_suitor_15 q1862 l2_60 ?_
    refine fin_I O ⟨Nat.zero_le _, Nat.zero_le _⟩ (run_S (As := [vL (p2), vL (0), vL (60)]) (st := []) O (mt_X5_in (xl x) (xG x) _ _ _ _ _ h) q1772 q1773 q131 q1774 hy_X5_in.2 (Nat.le_of_ble_eq_true rfl) (Nat.le_of_ble_eq_true rfl) ⟨Nat.zero_le _, Nat.zero_le _⟩ rfl (Nat.le_of_ble_eq_true rfl) dX5_suitor_18) (fun r5 w6 h => ?_)
    obtain ⟨c7, h⟩ := h
    refine j_if_ne O (tgt := 30) dX5_suitor_21 (by decide) c7 h (fun h => ?_) (fun h => ?_)
    · refine j_aload_n O 0 0 dX5_suitor_30 rfl rfl ?_
      refine j_getA O cfX5 3 (Nat.le_of_ble_eq_true rfl) ⟨_, rfl⟩ q1571 dX5_suitor_31 h (fun k8 h => ?_)
      refine j_iconst O dX5_suitor_34 ?_
      refine j_iald O dX5_suitor_35 h (fun v9 h => ?_)
      refine j_istore_n (L' := [(3, vI (v9)), (0, .ref (adG (xG x) (this))), (1, vI (p1)), (2, vI (p2))]) O 3 dX5_suitor_36 rfl (by rw [hm]; decide) rfl ?_
      refine j_iload_n O 0 3 dX5_suitor_37 rfl rfl ?_
      refine j_bipush (m := 6) O dX5_suitor_38 bi_6 ?_
      obtain ⟨c10, h⟩ := h
      refine j_icmp_ne O (tgt := 50) dX5_suitor_40 (by decide) c10 (by decide) h (fun h => ?_) (fun h => ?_)
      · refine j_aload_n O 1 0 dX5_suitor_50 rfl rfl ?_
        refine j_getA O cfX5 3 (Nat.le_of_ble_eq_true rfl) ⟨_, rfl⟩ q1571 dX5_suitor_51 h (fun k11 h => ?_)
        refine j_bipush (m := 80) O dX5_suitor_54 bi_80 ?_
        refine j_iload_n O 0 3 dX5_suitor_56 rfl rfl ?_
        refine j_iadd O dX5_suitor_57 ?_
        refine j_iload_n O 2 1 dX5_suitor_58 rfl rfl ?_
        refine j_iast O dX5_suitor_59 h (fun w12 h => ?_)
        refine j_aload_n O 1 0 dX5_suitor_60 rfl rfl ?_
        refine j_getA O cfX5 3 (Nat.le_of_ble_eq_true rfl) ⟨_, rfl⟩ q1571 dX5_suitor_61 h (fun k13 h => ?_)
        refine j_bipush (m := 86) O dX5_suitor_64 bi_86 ?_
        refine j_iload_n O 0 3 dX5_suitor_66 rfl rfl ?_
        refine j_iadd O dX5_suitor_67 ?_
        refine j_iload_n O 3 2 dX5_suitor_68 rfl rfl ?_
        refine j_iast O dX5_suitor_69 h (fun w14 h => ?_)
        refine j_aload_n O 1 0 dX5_suitor_70 rfl rfl ?_
        refine j_getA O cfX5 3 (Nat.le_of_ble_eq_true rfl) ⟨_, rfl⟩ q1571 dX5_suitor_71 h (fun k15 h => ?_)
        refine j_iconst O dX5_suitor_74 ?_
        refine j_dup2_11 O dX5_suitor_75 rfl rfl ?_
        refine j_iald O dX5_suitor_76 h (fun v16 h => ?_)
        refine j_iconst O dX5_suitor_77 ?_
        refine j_iadd O dX5_suitor_78 ?_
        refine j_iast O dX5_suitor_79 h (fun w17 h => ?_)
        refine j_aload_n O 1 0 dX5_suitor_80 rfl rfl ?_
        refine j_iload_n O 0 3 dX5_suitor_81 rfl rfl ?_
        obtain ⟨e20, h⟩ := h
        refine fin_I O ⟨Nat.zero_le _, Nat.zero_le _⟩ (run_V (As := [vI (v9)]) (st := []) O (mt_X5_settled (xl x) (xG x) _ _ _ _ h) e20 cfX5.1 q1779 q1781 qs50 q131 q1782 hy_X5_settled (Nat.le_of_ble_eq_true rfl) (Nat.le_of_ble_eq_true rfl) ⟨Nat.zero_le _, Nat.zero_le _⟩ rfl (Nat.le_of_ble_eq_true rfl) dX5_suitor_82) (fun r18 w19 h => ?_)
        exact j_iret O hr dX5_suitor_85 h
      · refine j_aload_n O 1 0 dX5_suitor_43 rfl rfl ?_
        refine j_bipush (m := (-5)) O dX5_suitor_44 bi_m5 ?_
        obtain ⟨e23, h⟩ := h
        refine fin_I O ⟨Nat.zero_le _, Nat.zero_le _⟩ (run_V (As := [vI (((-5)))]) (st := []) O (mt_X5_tell (xl x) (xG x) _ _ _ _ h) e23 cfX5.1 q1760 q1762 qs48 q131 q1763 hy_X5_tell (Nat.le_of_ble_eq_true rfl) (Nat.le_of_ble_eq_true rfl) ⟨Nat.zero_le _, Nat.zero_le _⟩ rfl (Nat.le_of_ble_eq_true rfl) dX5_suitor_46) (fun r21 w22 h => ?_)
        exact j_iret O hr dX5_suitor_49 h
    · exact (J.sub [0] rfl <| wk_X5_suitor_24 O hr hm  _  _ h)
theorem hy_X5_pins : (yX5_pins.cls = "DowryBoxesModel" ∧ yX5_pins.cls ≠ "java/lang/invoke/MethodHandle" ∧ yX5_pins.cls ≠ "java/lang/invoke/VarHandle" ∧ (parseMethodDescriptor yX5_pins.desc).map (fun d => d.parameters.length) = some 3) := by decide +kernel
theorem wk_X5_pins_24 {x : Cx} (O : OK x "DowryBoxesModel" cX5_pins 3) (hr : (xM x).sig.returnType = some .int) (hm : xn x = 4) {Q : Int → Wd → Prop} (this : Nat) (w : Wd) (h : wp_X5_pins_24 Q this w) : J x (TI x Q) w 0 0 24 [(0, .ref (adG (xG x) (this)))] [] := by
  unfold wp_X5_pins_24 at h
  refine j_aload_n O 0 0 dX5_pins_24 rfl rfl ?_
  refine j_iconst O dX5_pins_25 ?_
  obtain ⟨e3, h⟩ := h
  refine fin_I O ⟨Nat.zero_le _, Nat.zero_le _⟩ (run_V (As := [vI (((-1)))]) (st := []) O (mt_X5_tell (xl x) (xG x) _ _ _ _ h) e3 cfX5.1 q1760 q1762 qs48 q131 q1763 hy_X5_tell (Nat.le_of_ble_eq_true rfl) (Nat.le_of_ble_eq_true rfl) ⟨Nat.zero_le _, Nat.zero_le _⟩ rfl (Nat.le_of_ble_eq_true rfl) dX5_pins_26) (fun r1 w2 h => ?_)
  exact j_iret O hr dX5_pins_29 h
theorem mt_X5_pins (l : Launch) (G : GW) (this : Nat) (p1 : Int) (p2 : Int) (p3 : Int) (w : Wd) (Q : Int → Wd → Prop) (h : wp_X5_pins this p1 p2 p3 w Q) : MI l G yX5_pins cX5_pins 4 (.int) 3 0 0 [.ref (adG G (this)), vI (p1), vI (p2), vI (p3)] w Q := by
  refine met_I (fun G => [.ref (adG G (this)), vI (p1), vI (p2), vI (p3)]) (by decide) (fun G => Nat.le_of_ble_eq_true rfl) (fun x O hl hm hr => ?_)
  subst hl
  have O : OK x "DowryBoxesModel" cX5_pins 3 := O
  have h : wp_X5_pins this p1 p2 p3 w Q := h
  unfold wp_X5_pins at h
  show J x (TI x Q) w 0 0 0 [(0, .ref (adG (xG x) (this))), (1, vI (p1)), (2, vI (p2)), (3, vI (p3))] []
  refine j_aload_n O 0 0 dX5_pins_0 rfl rfl ?_
  refine j_iconst O dX5_pins_1 ?_
  refine j_putI O cfX5 0 (Nat.le_of_ble_eq_true rfl) rfl q1568 rfl dX5_pins_2 h (fun w1 h => ?_)
  refine j_iload_n O 2 2 dX5_pins_5 rfl rfl ?_
  refine fin_I O ⟨Nat.zero_le _, Nat.zero_le _⟩ (run_S (As := [vI (p2)]) (st := []) O (mt_X5_isBar (xl x) (xG x) _ _ _ h) q1846 q1847 q131 q1848 hy_X5_isBar.2 (Nat.le_of_ble_eq_true rfl) (Nat.le_of_ble_eq_true rfl) ⟨Nat.zero_le _, Nat.zero_le _⟩ rfl (Nat.le_of_ble_eq_true rfl) dX5_pins_6) (fun r2 w3 h => ?_)
  obtain ⟨c4, h⟩ := h
  refine j_if_eq O (tgt := 24) dX5_pins_9 (by decide) c4 h (fun h => ?_) (fun h => ?_)
  · exact (J.sub [0] rfl <| wk_X5_pins_24 O hr hm  _  _ h)
  · refine j_iload_n O 3 3 dX5_pins_12 rfl rfl ?_
    refine j_i2l O dX5_pins_13 h (fun h => ?_)
    refine j_lconst (m := 0) O dX5_pins_14 lc_0 ?_
    refine j_ldc2 (m := 255) O dX5_pins_15 q1850 l2_255 ?_
    refine fin_I O ⟨Nat.zero_le _, Nat.zero_le _⟩ (run_S (As := [vL (p3), vL (0), vL (255)]) (st := []) O (mt_X5_in (xl x) (xG x) _ _ _ _ _ h) q1772 q1773 q131 q1774 hy_X5_in.2 (Nat.le_of_ble_eq_true rfl) (Nat.le_of_ble_eq_true rfl) ⟨Nat.zero_le _, Nat.zero_le _⟩ rfl (Nat.le_of_ble_eq_true rfl) dX5_pins_18) (fun r5 w6 h => ?_)
    obtain ⟨c7, h⟩ := h
    refine j_if_ne O (tgt := 30) dX5_pins_21 (by decide) c7 h (fun h => ?_) (fun h => ?_)
    · refine j_aload_n O 0 0 dX5_pins_30 rfl rfl ?_
      refine j_iload_n O 1 1 dX5_pins_31 rfl rfl ?_
      obtain ⟨e10, h⟩ := h
      refine fin_I O ⟨Nat.zero_le _, Nat.zero_le _⟩ (run_V (As := [vI (p1)]) (st := []) O (mt_X5_isBox (xl x) (xG x) _ _ _ _ h) e10 cfX5.1 q1792 q1794 qs51 q131 q1795 hy_X5_isBox (Nat.le_of_ble_eq_true rfl) (Nat.le_of_ble_eq_true rfl) ⟨Nat.zero_le _, Nat.zero_le _⟩ rfl (Nat.le_of_ble_eq_true rfl) dX5_pins_32) (fun r8 w9 h => ?_)
      obtain ⟨c11, h⟩ := h
      refine j_if_ne O (tgt := 45) dX5_pins_35 (by decide) c11 h (fun h => ?_) (fun h => ?_)
      · refine j_aload_n O 0 0 dX5_pins_45 rfl rfl ?_
        refine j_iconst O dX5_pins_46 ?_
        refine j_putI O cfX5 8 (Nat.le_of_ble_eq_true rfl) rfl q1576 rfl dX5_pins_47 h (fun w12 h => ?_)
        refine j_aload_n O 0 0 dX5_pins_50 rfl rfl ?_
        refine j_bipush (m := 8) O dX5_pins_51 bi_8 ?_
        refine j_bipush (m := 8) O dX5_pins_53 bi_8 ?_
        refine j_iload_n O 1 1 dX5_pins_55 rfl rfl ?_
        refine j_imul O dX5_pins_56 ?_
        refine j_iadd O dX5_pins_57 ?_
        refine j_iload_n O 2 2 dX5_pins_58 rfl rfl ?_
        refine j_iadd O dX5_pins_59 ?_
        refine j_iload_n O 3 3 dX5_pins_60 rfl rfl ?_
        obtain ⟨e15, h⟩ := h
        refine fin_I O ⟨Nat.zero_le _, Nat.zero_le _⟩ (run_V (As := [vI (((8 + (8 * p1)) + p2)), vI (p3)]) (st := []) O (mt_X5_change (xl x) (xG x) _ _ _ _ _ h) e15 cfX5.1 q1851 q1853 qs61 q131 q1854 hy_X5_change (Nat.le_of_ble_eq_true rfl) (Nat.le_of_ble_eq_true rfl) ⟨Nat.zero_le _, Nat.zero_le _⟩ rfl (Nat.le_of_ble_eq_true rfl) dX5_pins_61) (fun r13 w14 h => ?_)
        exact j_iret O hr dX5_pins_64 h
      · refine j_aload_n O 0 0 dX5_pins_38 rfl rfl ?_
        refine j_bipush (m := (-2)) O dX5_pins_39 bi_m2 ?_
        obtain ⟨e18, h⟩ := h
        refine fin_I O ⟨Nat.zero_le _, Nat.zero_le _⟩ (run_V (As := [vI (((-2)))]) (st := []) O (mt_X5_tell (xl x) (xG x) _ _ _ _ h) e18 cfX5.1 q1760 q1762 qs48 q131 q1763 hy_X5_tell (Nat.le_of_ble_eq_true rfl) (Nat.le_of_ble_eq_true rfl) ⟨Nat.zero_le _, Nat.zero_le _⟩ rfl (Nat.le_of_ble_eq_true rfl) dX5_pins_41) (fun r16 w17 h => ?_)
        exact j_iret O hr dX5_pins_44 h
    · exact (J.sub [0] rfl <| wk_X5_pins_24 O hr hm  _  _ h)
theorem hy_X5_of : (yX5_of.cls = "DowryBoxesModel" ∧ yX5_of.cls ≠ "java/lang/invoke/MethodHandle" ∧ yX5_of.cls ≠ "java/lang/invoke/VarHandle" ∧ (parseMethodDescriptor yX5_of.desc).map (fun d => d.parameters.length) = some 2) := by decide +kernel
theorem mt_X5_of (l : Launch) (G : GW) (this : Nat) (p1 : Int) (p2 : Int) (w : Wd) (Q : Int → Wd → Prop) (h : wp_X5_of this p1 p2 w Q) : MI l G yX5_of cX5_of 3 (.int) 7 0 0 [.ref (adG G (this)), vI (p1), vI (p2)] w Q := by
  refine met_I (fun G => [.ref (adG G (this)), vI (p1), vI (p2)]) (by decide) (fun G => Nat.le_of_ble_eq_true rfl) (fun x O hl hm hr => ?_)
  subst hl
  have O : OK x "DowryBoxesModel" cX5_of 7 := O
  have h : wp_X5_of this p1 p2 w Q := h
  unfold wp_X5_of at h
  show J x (TI x Q) w 0 0 0 [(0, .ref (adG (xG x) (this))), (1, vI (p1)), (2, vI (p2))] []
  refine j_aload_n O 0 0 dX5_of_0 rfl rfl ?_
  refine j_iconst O dX5_of_1 ?_
  refine j_putI O cfX5 0 (Nat.le_of_ble_eq_true rfl) rfl q1568 rfl dX5_of_2 h (fun w1 h => ?_)
  refine j_aload_n O 0 0 dX5_of_5 rfl rfl ?_
  refine j_iload_n O 1 1 dX5_of_6 rfl rfl ?_
  obtain ⟨e4, h⟩ := h
  refine fin_I O ⟨Nat.zero_le _, Nat.zero_le _⟩ (run_V (As := [vI (p1)]) (st := []) O (mt_X5_isBox (xl x) (xG x) _ _ _ _ h) e4 cfX5.1 q1792 q1794 qs51 q131 q1795 hy_X5_isBox (Nat.le_of_ble_eq_true rfl) (Nat.le_of_ble_eq_true rfl) ⟨Nat.zero_le _, Nat.zero_le _⟩ rfl (Nat.le_of_ble_eq_true rfl) dX5_of_7) (fun r2 w3 h => ?_)
  obtain ⟨c5, h⟩ := h
  refine j_if_eq O (tgt := 25) dX5_of_10 (by decide) c5 h (fun h => ?_) (fun h => ?_)
  · refine j_iconst O dX5_of_25 ?_
    exact j_iret O hr dX5_of_26 h
  · refine j_iload_n O 2 2 dX5_of_13 rfl rfl ?_
    refine j_i2l O dX5_of_14 h (fun h => ?_)
    refine j_lconst (m := 0) O dX5_of_15 lc_0 ?_
    refine j_ldc2 (m := 14) O dX5_of_16 q1796 l2_14 ?_
    refine fin_I O ⟨Nat.zero_le _, Nat.zero_le _⟩ (run_S (As := [vL (p2), vL (0), vL (14)]) (st := []) O (mt_X5_in (xl x) (xG x) _ _ _ _ _ h) q1772 q1773 q131 q1774 hy_X5_in.2 (Nat.le_of_ble_eq_true rfl) (Nat.le_of_ble_eq_true rfl) ⟨Nat.zero_le _, Nat.zero_le _⟩ rfl (Nat.le_of_ble_eq_true rfl) dX5_of_19) (fun r6 w7 h => ?_)
    obtain ⟨c8, h⟩ := h
    refine j_if_ne O (tgt := 27) dX5_of_22 (by decide) c8 h (fun h => ?_) (fun h => ?_)
    · refine j_iload_n O 2 2 dX5_of_27 rfl rfl ?_
      obtain ⟨ca, h⟩ := h
      rcases Classical.em (p2 = 0) with e0 | e0
      · have h := h.1 e0
        refine j_tableIn O (tgt := 72) dX5_of_28 ca (by omega) (by omega) (by rw [e0]; rfl) (by decide) ?_
        refine j_aload_n O 0 0 dX5_of_72 rfl rfl ?_
        refine j_getA O cfX5 3 (Nat.le_of_ble_eq_true rfl) ⟨_, rfl⟩ q1571 dX5_of_73 h (fun k9 h => ?_)
        refine j_bipush (m := 62) O dX5_of_76 bi_62 ?_
        refine j_iload_n O 1 1 dX5_of_78 rfl rfl ?_
        refine j_iadd O dX5_of_79 ?_
        refine j_iald O dX5_of_80 h (fun v10 h => ?_)
        exact j_iret O hr dX5_of_81 h
      have h := h.2 e0
      rcases Classical.em (p2 = 1) with e1 | e1
      · have h := h.1 e1
        refine j_tableIn O (tgt := 82) dX5_of_28 ca (by omega) (by omega) (by rw [e1]; rfl) (by decide) ?_
        refine j_aload_n O 0 0 dX5_of_82 rfl rfl ?_
        refine j_iload_n O 1 1 dX5_of_83 rfl rfl ?_
        obtain ⟨e13, h⟩ := h
        refine fin_I O ⟨Nat.zero_le _, Nat.zero_le _⟩ (run_V (As := [vI (p1)]) (st := []) O (mt_X5_notesOf (xl x) (xG x) _ _ _ _ h) e13 cfX5.1 q1797 q1799 qs52 q131 q1800 hy_X5_notesOf (Nat.le_of_ble_eq_true rfl) (Nat.le_of_ble_eq_true rfl) ⟨Nat.zero_le _, Nat.zero_le _⟩ rfl (Nat.le_of_ble_eq_true rfl) dX5_of_84) (fun r11 w12 h => ?_)
        exact j_iret O hr dX5_of_87 h
      have h := h.2 e1
      rcases Classical.em (p2 = 2) with e2 | e2
      · have h := h.1 e2
        refine j_tableIn O (tgt := 88) dX5_of_28 ca (by omega) (by omega) (by rw [e2]; rfl) (by decide) ?_
        refine j_aload_n O 0 0 dX5_of_88 rfl rfl ?_
        refine j_getA O cfX5 3 (Nat.le_of_ble_eq_true rfl) ⟨_, rfl⟩ q1571 dX5_of_89 h (fun k14 h => ?_)
        refine j_bipush (m := 56) O dX5_of_92 bi_56 ?_
        refine j_iload_n O 1 1 dX5_of_94 rfl rfl ?_
        refine j_iadd O dX5_of_95 ?_
        refine j_iald O dX5_of_96 h (fun v15 h => ?_)
        exact j_iret O hr dX5_of_97 h
      have h := h.2 e2
      rcases Classical.em (p2 = 3) with e3 | e3
      · have h := h.1 e3
        refine j_tableIn O (tgt := 98) dX5_of_28 ca (by omega) (by omega) (by rw [e3]; rfl) (by decide) ?_
        refine j_aload_n O 0 0 dX5_of_98 rfl rfl ?_
        refine j_getA O cfX5 3 (Nat.le_of_ble_eq_true rfl) ⟨_, rfl⟩ q1571 dX5_of_99 h (fun k16 h => ?_)
        refine j_bipush (m := 68) O dX5_of_102 bi_68 ?_
        refine j_iload_n O 1 1 dX5_of_104 rfl rfl ?_
        refine j_iadd O dX5_of_105 ?_
        refine j_iald O dX5_of_106 h (fun v17 h => ?_)
        exact j_iret O hr dX5_of_107 h
      have h := h.2 e3
      rcases Classical.em (p2 = 4) with e4 | e4
      · have h := h.1 e4
        refine j_tableIn O (tgt := 108) dX5_of_28 ca (by omega) (by omega) (by rw [e4]; rfl) (by decide) ?_
        refine j_aload_n O 0 0 dX5_of_108 rfl rfl ?_
        refine j_getA O cfX5 3 (Nat.le_of_ble_eq_true rfl) ⟨_, rfl⟩ q1571 dX5_of_109 h (fun k18 h => ?_)
        refine j_bipush (m := 74) O dX5_of_112 bi_74 ?_
        refine j_iload_n O 1 1 dX5_of_114 rfl rfl ?_
        refine j_iadd O dX5_of_115 ?_
        refine j_iald O dX5_of_116 h (fun v19 h => ?_)
        exact j_iret O hr dX5_of_117 h
      have h := h.2 e4
      rcases Classical.em (p2 = 5) with e5 | e5
      · have h := h.1 e5
        refine j_tableIn O (tgt := 118) dX5_of_28 ca (by omega) (by omega) (by rw [e5]; rfl) (by decide) ?_
        refine j_aload_n O 0 0 dX5_of_118 rfl rfl ?_
        refine j_iload_n O 1 1 dX5_of_119 rfl rfl ?_
        obtain ⟨e22, h⟩ := h
        refine fin_I O ⟨Nat.zero_le _, Nat.zero_le _⟩ (run_V (As := [vI (p1)]) (st := []) O (mt_X5_lastsOf (xl x) (xG x) _ _ _ _ h) e22 cfX5.1 q1808 q1810 qs54 q131 q1811 hy_X5_lastsOf (Nat.le_of_ble_eq_true rfl) (Nat.le_of_ble_eq_true rfl) ⟨Nat.zero_le _, Nat.zero_le _⟩ rfl (Nat.le_of_ble_eq_true rfl) dX5_of_120) (fun r20 w21 h => ?_)
        exact j_iret O hr dX5_of_123 h
      have h := h.2 e5
      rcases Classical.em (p2 = 6) with e6 | e6
      · have h := h.1 e6
        refine j_tableIn O (tgt := 124) dX5_of_28 ca (by omega) (by omega) (by rw [e6]; rfl) (by decide) ?_
        refine j_aload_n O 0 0 dX5_of_124 rfl rfl ?_
        refine j_iload_n O 1 1 dX5_of_125 rfl rfl ?_
        obtain ⟨e25, h⟩ := h
        refine fin_I O ⟨Nat.zero_le _, Nat.zero_le _⟩ (run_V (As := [vI (p1)]) (st := []) O (mt_X5_losesOf (xl x) (xG x) _ _ _ _ h) e25 cfX5.1 q1838 q1840 qs60 q131 q1841 hy_X5_losesOf (Nat.le_of_ble_eq_true rfl) (Nat.le_of_ble_eq_true rfl) ⟨Nat.zero_le _, Nat.zero_le _⟩ rfl (Nat.le_of_ble_eq_true rfl) dX5_of_126) (fun r23 w24 h => ?_)
        exact j_iret O hr dX5_of_129 h
      have h := h.2 e6
      refine j_tableOut O (tgt := 130) dX5_of_28 ca (by omega) (by decide) ?_
      refine j_aload_n O 0 0 dX5_of_130 rfl rfl ?_
      refine j_getA O cfX5 3 (Nat.le_of_ble_eq_true rfl) ⟨_, rfl⟩ q1571 dX5_of_131 h (fun k26 h => ?_)
      refine j_bipush (m := 8) O dX5_of_134 bi_8 ?_
      refine j_bipush (m := 8) O dX5_of_136 bi_8 ?_
      refine j_iload_n O 1 1 dX5_of_138 rfl rfl ?_
      refine j_imul O dX5_of_139 ?_
      refine j_iadd O dX5_of_140 ?_
      refine j_iload_n O 2 2 dX5_of_141 rfl rfl ?_
      refine j_iadd O dX5_of_142 ?_
      refine j_bipush (m := 7) O dX5_of_143 bi_7 ?_
      refine j_isub O dX5_of_145 ?_
      refine j_iald O dX5_of_146 h (fun v27 h => ?_)
      exact j_iret O hr dX5_of_147 h
    · refine j_iconst O dX5_of_25 ?_
      exact j_iret O hr dX5_of_26 h
theorem hy_X5_box : (yX5_box.cls = "DowryBoxesModel" ∧ yX5_box.cls ≠ "java/lang/invoke/MethodHandle" ∧ yX5_box.cls ≠ "java/lang/invoke/VarHandle" ∧ (parseMethodDescriptor yX5_box.desc).map (fun d => d.parameters.length) = some 1) := by decide +kernel
theorem wk_X5_box_45 {x : Cx} (O : OK x "DowryBoxesModel" cX5_box 3) (hr : (xM x).sig.returnType = some .int) (hm : xn x = 4) {Q : Int → Wd → Prop} (X45 : Wd → Prop) (this : Nat) (x1 : Int) (x2 : Int) (hX45 : ∀  (w : Wd), X45  w → J x (TI x Q) w 0 0 72 [(0, .ref (adG (xG x) (this))), (1, vI (x1)), (2, vI (x2))] []) : ∀ (n : Nat) (x3 : Int) (w : Wd), wp_X5_box_45 Q X45 this x1 x2 n x3 w → J x (TI x Q) w 0 0 45 [(0, .ref (adG (xG x) (this))), (1, vI (x1)), (2, vI (x2)), (3, vI (x3))] [] := by
  intro n
  induction n with
  | zero => intro x3 w h; exact False.elim h
  | succ n ih =>
    intro x3 w h
    rw [wp_X5_box_45] at h
    refine j_iload_n O 3 3 dX5_box_45 rfl rfl ?_
    refine j_bipush (m := 8) O dX5_box_46 bi_8 ?_
    obtain ⟨c1, h⟩ := h
    refine j_icmp_ge O (tgt := 72) dX5_box_48 (by decide) c1 (by decide) h (fun h => ?_) (fun h => ?_)
    · exact (J.sub [0, 1, 2] rfl <| hX45  _ h)
    · refine j_aload_n O 0 0 dX5_box_51 rfl rfl ?_
      refine j_getA O cfX5 3 (Nat.le_of_ble_eq_true rfl) ⟨_, rfl⟩ q1571 dX5_box_52 h (fun k2 h => ?_)
      refine j_bipush (m := 8) O dX5_box_55 bi_8 ?_
      refine j_bipush (m := 8) O dX5_box_57 bi_8 ?_
      refine j_iload_n O 2 2 dX5_box_59 rfl rfl ?_
      refine j_imul O dX5_box_60 ?_
      refine j_iadd O dX5_box_61 ?_
      refine j_iload_n O 3 3 dX5_box_62 rfl rfl ?_
      refine j_iadd O dX5_box_63 ?_
      refine j_iconst O dX5_box_64 ?_
      refine j_iast O dX5_box_65 h (fun w3 h => ?_)
      refine j_iinc (L' := [(3, vI (x3 + 1)), (0, .ref (adG (xG x) (this))), (1, vI (x1)), (2, vI (x2))]) O 3 dX5_box_66 rfl (by rw [hm]; decide) rfl ?_
      refine j_goto O (tgt := 45) dX5_box_69 (by decide) ?_
      exact (J.sub [1, 2, 3, 0] rfl <| ih _ _ h)
theorem mt_X5_box (l : Launch) (G : GW) (this : Nat) (p1 : Int) (w : Wd) (Q : Int → Wd → Prop) (h : wp_X5_box this p1 w Q) : MI l G yX5_box cX5_box 4 (.int) 3 0 0 [.ref (adG G (this)), vI (p1)] w Q := by
  refine met_I (fun G => [.ref (adG G (this)), vI (p1)]) (by decide) (fun G => Nat.le_of_ble_eq_true rfl) (fun x O hl hm hr => ?_)
  subst hl
  have O : OK x "DowryBoxesModel" cX5_box 3 := O
  have h : wp_X5_box this p1 w Q := h
  unfold wp_X5_box at h
  show J x (TI x Q) w 0 0 0 [(0, .ref (adG (xG x) (this))), (1, vI (p1))] []
  refine j_aload_n O 0 0 dX5_box_0 rfl rfl ?_
  refine j_iconst O dX5_box_1 ?_
  refine j_putI O cfX5 0 (Nat.le_of_ble_eq_true rfl) rfl q1568 rfl dX5_box_2 h (fun w1 h => ?_)
  refine j_iload_n O 1 1 dX5_box_5 rfl rfl ?_
  refine j_i2l O dX5_box_6 h (fun h => ?_)
  refine j_lconst (m := 0) O dX5_box_7 lc_0 ?_
  refine j_ldc2 (m := 20) O dX5_box_8 q1787 l2_20 ?_
  refine fin_I O ⟨Nat.zero_le _, Nat.zero_le _⟩ (run_S (As := [vL (p1), vL (0), vL (20)]) (st := []) O (mt_X5_in (xl x) (xG x) _ _ _ _ _ h) q1772 q1773 q131 q1774 hy_X5_in.2 (Nat.le_of_ble_eq_true rfl) (Nat.le_of_ble_eq_true rfl) ⟨Nat.zero_le _, Nat.zero_le _⟩ rfl (Nat.le_of_ble_eq_true rfl) dX5_box_11) (fun r2 w3 h => ?_)
  obtain ⟨c4, h⟩ := h
  refine j_if_ne O (tgt := 23) dX5_box_14 (by decide) c4 h (fun h => ?_) (fun h => ?_)
  · refine j_aload_n O 0 0 dX5_box_23 rfl rfl ?_
    refine j_getA O cfX5 3 (Nat.le_of_ble_eq_true rfl) ⟨_, rfl⟩ q1571 dX5_box_24 h (fun k5 h => ?_)
    refine j_iconst O dX5_box_27 ?_
    refine j_iald O dX5_box_28 h (fun v6 h => ?_)
    refine j_istore_n (L' := [(2, vI (v6)), (0, .ref (adG (xG x) (this))), (1, vI (p1))]) O 2 dX5_box_29 rfl (by rw [hm]; decide) rfl ?_
    refine j_iload_n O 0 2 dX5_box_30 rfl rfl ?_
    refine j_bipush (m := 6) O dX5_box_31 bi_6 ?_
    obtain ⟨c7, h⟩ := h
    refine j_icmp_ne O (tgt := 43) dX5_box_33 (by decide) c7 (by decide) h (fun h => ?_) (fun h => ?_)
    · refine j_iconst O dX5_box_43 ?_
      refine j_istore_n (L' := [(3, vI (0)), (2, vI (v6)), (0, .ref (adG (xG x) (this))), (1, vI (p1))]) O 3 dX5_box_44 rfl (by rw [hm]; decide) rfl ?_
      refine (J.sub [2, 3, 1, 0] rfl <| wk_X5_box_45 O hr hm _ _ _ _ (fun w8 h => ?_) FU _ _ h)
      refine j_aload_n O 0 0 dX5_box_72 rfl rfl ?_
      refine j_getA O cfX5 3 (Nat.le_of_ble_eq_true rfl) ⟨_, rfl⟩ q1571 dX5_box_73 h (fun k9 h => ?_)
      refine j_bipush (m := 56) O dX5_box_76 bi_56 ?_
      refine j_iload_n O 2 2 dX5_box_78 rfl rfl ?_
      refine j_iadd O dX5_box_79 ?_
      refine j_iconst O dX5_box_80 ?_
      refine j_iast O dX5_box_81 h (fun w10 h => ?_)
      refine j_aload_n O 0 0 dX5_box_82 rfl rfl ?_
      refine j_getA O cfX5 3 (Nat.le_of_ble_eq_true rfl) ⟨_, rfl⟩ q1571 dX5_box_83 h (fun k11 h => ?_)
      refine j_bipush (m := 62) O dX5_box_86 bi_62 ?_
      refine j_iload_n O 2 2 dX5_box_88 rfl rfl ?_
      refine j_iadd O dX5_box_89 ?_
      refine j_iload_n O 1 1 dX5_box_90 rfl rfl ?_
      refine j_iast O dX5_box_91 h (fun w12 h => ?_)
      refine j_aload_n O 0 0 dX5_box_92 rfl rfl ?_
      refine j_getA O cfX5 3 (Nat.le_of_ble_eq_true rfl) ⟨_, rfl⟩ q1571 dX5_box_93 h (fun k13 h => ?_)
      refine j_bipush (m := 68) O dX5_box_96 bi_68 ?_
      refine j_iload_n O 2 2 dX5_box_98 rfl rfl ?_
      refine j_iadd O dX5_box_99 ?_
      refine j_iconst O dX5_box_100 ?_
      refine j_iast O dX5_box_101 h (fun w14 h => ?_)
      refine j_aload_n O 0 0 dX5_box_102 rfl rfl ?_
      refine j_getA O cfX5 3 (Nat.le_of_ble_eq_true rfl) ⟨_, rfl⟩ q1571 dX5_box_103 h (fun k15 h => ?_)
      refine j_bipush (m := 74) O dX5_box_106 bi_74 ?_
      refine j_iload_n O 2 2 dX5_box_108 rfl rfl ?_
      refine j_iadd O dX5_box_109 ?_
      refine j_iconst O dX5_box_110 ?_
      refine j_iast O dX5_box_111 h (fun w16 h => ?_)
      refine j_aload_n O 0 0 dX5_box_112 rfl rfl ?_
      refine j_getA O cfX5 3 (Nat.le_of_ble_eq_true rfl) ⟨_, rfl⟩ q1571 dX5_box_113 h (fun k17 h => ?_)
      refine j_iconst O dX5_box_116 ?_
      refine j_dup2_11 O dX5_box_117 rfl rfl ?_
      refine j_iald O dX5_box_118 h (fun v18 h => ?_)
      refine j_iconst O dX5_box_119 ?_
      refine j_iadd O dX5_box_120 ?_
      refine j_iast O dX5_box_121 h (fun w19 h => ?_)
      refine j_aload_n O 0 0 dX5_box_122 rfl rfl ?_
      refine j_iload_n O 2 2 dX5_box_123 rfl rfl ?_
      obtain ⟨e22, h⟩ := h
      refine fin_I O ⟨Nat.zero_le _, Nat.zero_le _⟩ (run_V (As := [vI (v6)]) (st := []) O (mt_X5_settled (xl x) (xG x) _ _ _ _ h) e22 cfX5.1 q1779 q1781 qs50 q131 q1782 hy_X5_settled (Nat.le_of_ble_eq_true rfl) (Nat.le_of_ble_eq_true rfl) ⟨Nat.zero_le _, Nat.zero_le _⟩ rfl (Nat.le_of_ble_eq_true rfl) dX5_box_124) (fun r20 w21 h => ?_)
      exact j_iret O hr dX5_box_127 h
    · refine j_aload_n O 1 0 dX5_box_36 rfl rfl ?_
      refine j_bipush (m := (-5)) O dX5_box_37 bi_m5 ?_
      obtain ⟨e25, h⟩ := h
      refine fin_I O ⟨Nat.zero_le _, Nat.zero_le _⟩ (run_V (As := [vI (((-5)))]) (st := []) O (mt_X5_tell (xl x) (xG x) _ _ _ _ h) e25 cfX5.1 q1760 q1762 qs48 q131 q1763 hy_X5_tell (Nat.le_of_ble_eq_true rfl) (Nat.le_of_ble_eq_true rfl) ⟨Nat.zero_le _, Nat.zero_le _⟩ rfl (Nat.le_of_ble_eq_true rfl) dX5_box_39) (fun r23 w24 h => ?_)
      exact j_iret O hr dX5_box_42 h
  · refine j_aload_n O 0 0 dX5_box_17 rfl rfl ?_
    refine j_iconst O dX5_box_18 ?_
    obtain ⟨e28, h⟩ := h
    refine fin_I O ⟨Nat.zero_le _, Nat.zero_le _⟩ (run_V (As := [vI (((-1)))]) (st := []) O (mt_X5_tell (xl x) (xG x) _ _ _ _ h) e28 cfX5.1 q1760 q1762 qs48 q131 q1763 hy_X5_tell (Nat.le_of_ble_eq_true rfl) (Nat.le_of_ble_eq_true rfl) ⟨Nat.zero_le _, Nat.zero_le _⟩ rfl (Nat.le_of_ble_eq_true rfl) dX5_box_19) (fun r26 w27 h => ?_)
    exact j_iret O hr dX5_box_22 h
theorem hy_X5_back : (yX5_back.cls = "DowryBoxesModel" ∧ yX5_back.cls ≠ "java/lang/invoke/MethodHandle" ∧ yX5_back.cls ≠ "java/lang/invoke/VarHandle" ∧ (parseMethodDescriptor yX5_back.desc).map (fun d => d.parameters.length) = some 1) := by decide +kernel
theorem wk_X5_back_39 {x : Cx} (O : OK x "DowryBoxesModel" cX5_back 3) (hr : (xM x).sig.returnType = some .int) (hm : xn x = 3) {Q : Int → Wd → Prop} (X39 : Wd → Prop) (this : Nat) (x1 : Int) (hX39 : ∀  (w : Wd), X39  w → J x (TI x Q) w 0 0 70 [(0, .ref (adG (xG x) (this)))] []) : ∀ (n : Nat) (x2 : Int) (w : Wd), wp_X5_back_39 Q X39 this x1 n x2 w → J x (TI x Q) w 0 0 39 [(0, .ref (adG (xG x) (this))), (1, vI (x1)), (2, vI (x2))] [] := by
  intro n
  induction n with
  | zero => intro x2 w h; exact False.elim h
  | succ n ih =>
    intro x2 w h
    rw [wp_X5_back_39] at h
    refine j_iload_n O 2 2 dX5_back_39 rfl rfl ?_
    refine j_sipush (m := 5516) O dX5_back_40 si_5516 ?_
    obtain ⟨c1, h⟩ := h
    refine j_icmp_ge O (tgt := 70) dX5_back_43 (by decide) c1 (by decide) h (fun h => ?_) (fun h => ?_)
    · exact (J.sub [0] rfl <| hX39  _ h)
    · refine j_aload_n O 0 0 dX5_back_46 rfl rfl ?_
      refine j_getA O cfX5 3 (Nat.le_of_ble_eq_true rfl) ⟨_, rfl⟩ q1571 dX5_back_47 h (fun k2 h => ?_)
      refine j_iload_n O 2 2 dX5_back_50 rfl rfl ?_
      refine j_aload_n O 0 0 dX5_back_51 rfl rfl ?_
      refine j_getA O cfX5 4 (Nat.le_of_ble_eq_true rfl) ⟨_, rfl⟩ q1572 dX5_back_52 h (fun k3 h => ?_)
      refine j_sipush (m := 5516) O dX5_back_55 si_5516 ?_
      refine j_iload_n O 1 1 dX5_back_58 rfl rfl ?_
      refine j_imul O dX5_back_59 ?_
      refine j_iload_n O 2 2 dX5_back_60 rfl rfl ?_
      refine j_iadd O dX5_back_61 ?_
      refine j_iald O dX5_back_62 h (fun v4 h => ?_)
      refine j_iast O dX5_back_63 h (fun w5 h => ?_)
      refine j_iinc (L' := [(2, vI (x2 + 1)), (0, .ref (adG (xG x) (this))), (1, vI (x1))]) O 2 dX5_back_64 rfl (by rw [hm]; decide) rfl ?_
      refine j_goto O (tgt := 39) dX5_back_67 (by decide) ?_
      exact (J.sub [1, 2, 0] rfl <| ih _ _ h)
theorem mt_X5_back (l : Launch) (G : GW) (this : Nat) (p1 : Int) (w : Wd) (Q : Int → Wd → Prop) (h : wp_X5_back this p1 w Q) : MI l G yX5_back cX5_back 3 (.int) 3 0 0 [.ref (adG G (this)), vI (p1)] w Q := by
  refine met_I (fun G => [.ref (adG G (this)), vI (p1)]) (by decide) (fun G => Nat.le_of_ble_eq_true rfl) (fun x O hl hm hr => ?_)
  subst hl
  have O : OK x "DowryBoxesModel" cX5_back 3 := O
  have h : wp_X5_back this p1 w Q := h
  unfold wp_X5_back at h
  show J x (TI x Q) w 0 0 0 [(0, .ref (adG (xG x) (this))), (1, vI (p1))] []
  refine j_aload_n O 0 0 dX5_back_0 rfl rfl ?_
  refine j_iconst O dX5_back_1 ?_
  refine j_putI O cfX5 0 (Nat.le_of_ble_eq_true rfl) rfl q1568 rfl dX5_back_2 h (fun w1 h => ?_)
  refine j_iload_n O 1 1 dX5_back_5 rfl rfl ?_
  refine j_i2l O dX5_back_6 h (fun h => ?_)
  refine j_lconst (m := 0) O dX5_back_7 lc_0 ?_
  refine j_lconst (m := 1) O dX5_back_8 lc_1 ?_
  refine fin_I O ⟨Nat.zero_le _, Nat.zero_le _⟩ (run_S (As := [vL (p1), vL (0), vL (1)]) (st := []) O (mt_X5_in (xl x) (xG x) _ _ _ _ _ h) q1772 q1773 q131 q1774 hy_X5_in.2 (Nat.le_of_ble_eq_true rfl) (Nat.le_of_ble_eq_true rfl) ⟨Nat.zero_le _, Nat.zero_le _⟩ rfl (Nat.le_of_ble_eq_true rfl) dX5_back_9) (fun r2 w3 h => ?_)
  obtain ⟨c4, h⟩ := h
  refine j_if_ne O (tgt := 21) dX5_back_12 (by decide) c4 h (fun h => ?_) (fun h => ?_)
  · refine j_aload_n O 0 0 dX5_back_21 rfl rfl ?_
    refine j_getA O cfX5 5 (Nat.le_of_ble_eq_true rfl) ⟨_, rfl⟩ q1573 dX5_back_22 h (fun k5 h => ?_)
    refine j_iload_n O 1 1 dX5_back_25 rfl rfl ?_
    refine j_zald O dX5_back_26 h (fun v6 h => ?_)
    obtain ⟨c7, h⟩ := h
    refine j_if_ne O (tgt := 37) dX5_back_27 (by decide) c7 h (fun h => ?_) (fun h => ?_)
    · refine j_iconst O dX5_back_37 ?_
      refine j_istore_n (L' := [(2, vI (0)), (0, .ref (adG (xG x) (this))), (1, vI (p1))]) O 2 dX5_back_38 rfl (by rw [hm]; decide) rfl ?_
      refine (J.sub [1, 2, 0] rfl <| wk_X5_back_39 O hr hm _ _ _ (fun w8 h => ?_) FU _ _ h)
      refine j_aload_n O 0 0 dX5_back_70 rfl rfl ?_
      refine j_iconst O dX5_back_71 ?_
      obtain ⟨e11, h⟩ := h
      refine fin_I O ⟨Nat.zero_le _, Nat.zero_le _⟩ (run_V (As := [vI (0)]) (st := []) O (mt_X5_settled (xl x) (xG x) _ _ _ _ h) e11 cfX5.1 q1779 q1781 qs50 q131 q1782 hy_X5_settled (Nat.le_of_ble_eq_true rfl) (Nat.le_of_ble_eq_true rfl) ⟨Nat.zero_le _, Nat.zero_le _⟩ rfl (Nat.le_of_ble_eq_true rfl) dX5_back_72) (fun r9 w10 h => ?_)
      exact j_iret O hr dX5_back_75 h
    · refine j_aload_n O 0 0 dX5_back_30 rfl rfl ?_
      refine j_bipush (m := (-2)) O dX5_back_31 bi_m2 ?_
      obtain ⟨e14, h⟩ := h
      refine fin_I O ⟨Nat.zero_le _, Nat.zero_le _⟩ (run_V (As := [vI (((-2)))]) (st := []) O (mt_X5_tell (xl x) (xG x) _ _ _ _ h) e14 cfX5.1 q1760 q1762 qs48 q131 q1763 hy_X5_tell (Nat.le_of_ble_eq_true rfl) (Nat.le_of_ble_eq_true rfl) ⟨Nat.zero_le _, Nat.zero_le _⟩ rfl (Nat.le_of_ble_eq_true rfl) dX5_back_33) (fun r12 w13 h => ?_)
      exact j_iret O hr dX5_back_36 h
  · refine j_aload_n O 0 0 dX5_back_15 rfl rfl ?_
    refine j_iconst O dX5_back_16 ?_
    obtain ⟨e17, h⟩ := h
    refine fin_I O ⟨Nat.zero_le _, Nat.zero_le _⟩ (run_V (As := [vI (((-1)))]) (st := []) O (mt_X5_tell (xl x) (xG x) _ _ _ _ h) e17 cfX5.1 q1760 q1762 qs48 q131 q1763 hy_X5_tell (Nat.le_of_ble_eq_true rfl) (Nat.le_of_ble_eq_true rfl) ⟨Nat.zero_le _, Nat.zero_le _⟩ rfl (Nat.le_of_ble_eq_true rfl) dX5_back_17) (fun r15 w16 h => ?_)
    exact j_iret O hr dX5_back_20 h
theorem hy_X5_image : (yX5_image.cls = "DowryBoxesModel" ∧ yX5_image.cls ≠ "java/lang/invoke/MethodHandle" ∧ yX5_image.cls ≠ "java/lang/invoke/VarHandle" ∧ (parseMethodDescriptor yX5_image.desc).map (fun d => d.parameters.length) = some 1) := by decide +kernel
theorem wk_X5_image_23 {x : Cx} (O : OK x "DowryBoxesModel" cX5_image 2) (hr : (xM x).sig.returnType = some .int) (hm : xn x = 3) {Q : Int → Wd → Prop} (X23 : Wd → Prop) (this : Nat) (x1 : Int) (hX23 : ∀  (w : Wd), X23  w → J x (TI x Q) w 0 0 54 [(0, .ref (adG (xG x) (this))), (1, vI (x1))] []) : ∀ (n : Nat) (x2 : Int) (w : Wd), wp_X5_image_23 Q X23 this x1 n x2 w → J x (TI x Q) w 0 0 23 [(0, .ref (adG (xG x) (this))), (1, vI (x1)), (2, vI (x2))] [] := by
  intro n
  induction n with
  | zero => intro x2 w h; exact False.elim h
  | succ n ih =>
    intro x2 w h
    rw [wp_X5_image_23] at h
    refine j_iload_n O 2 2 dX5_image_23 rfl rfl ?_
    refine j_sipush (m := 5516) O dX5_image_24 si_5516 ?_
    obtain ⟨c1, h⟩ := h
    refine j_icmp_ge O (tgt := 54) dX5_image_27 (by decide) c1 (by decide) h (fun h => ?_) (fun h => ?_)
    · exact (J.sub [0, 1] rfl <| hX23  _ h)
    · refine j_aload_n O 0 0 dX5_image_30 rfl rfl ?_
      refine j_getA O cfX5 4 (Nat.le_of_ble_eq_true rfl) ⟨_, rfl⟩ q1572 dX5_image_31 h (fun k2 h => ?_)
      refine j_sipush (m := 5516) O dX5_image_34 si_5516 ?_
      refine j_iload_n O 1 1 dX5_image_37 rfl rfl ?_
      refine j_imul O dX5_image_38 ?_
      refine j_iload_n O 2 2 dX5_image_39 rfl rfl ?_
      refine j_iadd O dX5_image_40 ?_
      refine j_aload_n O 0 0 dX5_image_41 rfl rfl ?_
      refine j_getA O cfX5 3 (Nat.le_of_ble_eq_true rfl) ⟨_, rfl⟩ q1571 dX5_image_42 h (fun k3 h => ?_)
      refine j_iload_n O 2 2 dX5_image_45 rfl rfl ?_
      refine j_iald O dX5_image_46 h (fun v4 h => ?_)
      refine j_iast O dX5_image_47 h (fun w5 h => ?_)
      refine j_iinc (L' := [(2, vI (x2 + 1)), (0, .ref (adG (xG x) (this))), (1, vI (x1))]) O 2 dX5_image_48 rfl (by rw [hm]; decide) rfl ?_
      refine j_goto O (tgt := 23) dX5_image_51 (by decide) ?_
      exact (J.sub [1, 2, 0] rfl <| ih _ _ h)
theorem mt_X5_image (l : Launch) (G : GW) (this : Nat) (p1 : Int) (w : Wd) (Q : Int → Wd → Prop) (h : wp_X5_image this p1 w Q) : MI l G yX5_image cX5_image 3 (.int) 2 0 0 [.ref (adG G (this)), vI (p1)] w Q := by
  refine met_I (fun G => [.ref (adG G (this)), vI (p1)]) (by decide) (fun G => Nat.le_of_ble_eq_true rfl) (fun x O hl hm hr => ?_)
  subst hl
  have O : OK x "DowryBoxesModel" cX5_image 2 := O
  have h : wp_X5_image this p1 w Q := h
  unfold wp_X5_image at h
  show J x (TI x Q) w 0 0 0 [(0, .ref (adG (xG x) (this))), (1, vI (p1))] []
  refine j_aload_n O 0 0 dX5_image_0 rfl rfl ?_
  refine j_iconst O dX5_image_1 ?_
  refine j_putI O cfX5 0 (Nat.le_of_ble_eq_true rfl) rfl q1568 rfl dX5_image_2 h (fun w1 h => ?_)
  refine j_iload_n O 1 1 dX5_image_5 rfl rfl ?_
  refine j_i2l O dX5_image_6 h (fun h => ?_)
  refine j_lconst (m := 0) O dX5_image_7 lc_0 ?_
  refine j_lconst (m := 1) O dX5_image_8 lc_1 ?_
  refine fin_I O ⟨Nat.zero_le _, Nat.zero_le _⟩ (run_S (As := [vL (p1), vL (0), vL (1)]) (st := []) O (mt_X5_in (xl x) (xG x) _ _ _ _ _ h) q1772 q1773 q131 q1774 hy_X5_in.2 (Nat.le_of_ble_eq_true rfl) (Nat.le_of_ble_eq_true rfl) ⟨Nat.zero_le _, Nat.zero_le _⟩ rfl (Nat.le_of_ble_eq_true rfl) dX5_image_9) (fun r2 w3 h => ?_)
  obtain ⟨c4, h⟩ := h
  refine j_if_ne O (tgt := 21) dX5_image_12 (by decide) c4 h (fun h => ?_) (fun h => ?_)
  · refine j_iconst O dX5_image_21 ?_
    refine j_istore_n (L' := [(2, vI (0)), (0, .ref (adG (xG x) (this))), (1, vI (p1))]) O 2 dX5_image_22 rfl (by rw [hm]; decide) rfl ?_
    refine (J.sub [1, 2, 0] rfl <| wk_X5_image_23 O hr hm _ _ _ (fun w5 h => ?_) FU _ _ h)
    refine j_aload_n O 0 0 dX5_image_54 rfl rfl ?_
    refine j_getA O cfX5 5 (Nat.le_of_ble_eq_true rfl) ⟨_, rfl⟩ q1573 dX5_image_55 h (fun k6 h => ?_)
    refine j_iload_n O 1 1 dX5_image_58 rfl rfl ?_
    refine j_iconst O dX5_image_59 ?_
    refine j_zast O dX5_image_60 h (fun w7 h => ?_)
    refine j_aload_n O 0 0 dX5_image_61 rfl rfl ?_
    refine j_iconst O dX5_image_62 ?_
    obtain ⟨e10, h⟩ := h
    refine fin_I O ⟨Nat.zero_le _, Nat.zero_le _⟩ (run_V (As := [vI (0)]) (st := []) O (mt_X5_tell (xl x) (xG x) _ _ _ _ h) e10 cfX5.1 q1760 q1762 qs48 q131 q1763 hy_X5_tell (Nat.le_of_ble_eq_true rfl) (Nat.le_of_ble_eq_true rfl) ⟨Nat.zero_le _, Nat.zero_le _⟩ rfl (Nat.le_of_ble_eq_true rfl) dX5_image_63) (fun r8 w9 h => ?_)
    exact j_iret O hr dX5_image_66 h
  · refine j_aload_n O 0 0 dX5_image_15 rfl rfl ?_
    refine j_iconst O dX5_image_16 ?_
    obtain ⟨e13, h⟩ := h
    refine fin_I O ⟨Nat.zero_le _, Nat.zero_le _⟩ (run_V (As := [vI (((-1)))]) (st := []) O (mt_X5_tell (xl x) (xG x) _ _ _ _ h) e13 cfX5.1 q1760 q1762 qs48 q131 q1763 hy_X5_tell (Nat.le_of_ble_eq_true rfl) (Nat.le_of_ble_eq_true rfl) ⟨Nat.zero_le _, Nat.zero_le _⟩ rfl (Nat.le_of_ble_eq_true rfl) dX5_image_17) (fun r11 w12 h => ?_)
    exact j_iret O hr dX5_image_20 h
theorem hy_X5_undo : (yX5_undo.cls = "DowryBoxesModel" ∧ yX5_undo.cls ≠ "java/lang/invoke/MethodHandle" ∧ yX5_undo.cls ≠ "java/lang/invoke/VarHandle" ∧ (parseMethodDescriptor yX5_undo.desc).map (fun d => d.parameters.length) = some 0) := by decide +kernel
theorem mt_X5_undo (l : Launch) (G : GW) (this : Nat) (w : Wd) (Q : Int → Wd → Prop) (h : wp_X5_undo this w Q) : MI l G yX5_undo cX5_undo 1 (.int) 2 0 0 [.ref (adG G (this))] w Q := by
  refine met_I (fun G => [.ref (adG G (this))]) (by decide) (fun G => Nat.le_of_ble_eq_true rfl) (fun x O hl hm hr => ?_)
  subst hl
  have O : OK x "DowryBoxesModel" cX5_undo 2 := O
  have h : wp_X5_undo this w Q := h
  unfold wp_X5_undo at h
  show J x (TI x Q) w 0 0 0 [(0, .ref (adG (xG x) (this)))] []
  refine j_aload_n O 0 0 dX5_undo_0 rfl rfl ?_
  refine j_iconst O dX5_undo_1 ?_
  refine j_putI O cfX5 0 (Nat.le_of_ble_eq_true rfl) rfl q1568 rfl dX5_undo_2 h (fun w1 h => ?_)
  refine j_aload_n O 0 0 dX5_undo_5 rfl rfl ?_
  refine j_getI O cfX5 8 (Nat.le_of_ble_eq_true rfl) (.inl rfl) q1576 dX5_undo_6 h (fun v2 h => ?_)
  obtain ⟨c3, h⟩ := h
  refine j_if_ne O (tgt := 19) dX5_undo_9 (by decide) c3 h (fun h => ?_) (fun h => ?_)
  · refine j_aload_n O 0 0 dX5_undo_19 rfl rfl ?_
    refine j_dup O dX5_undo_20 rfl ?_
    refine j_getI O cfX5 8 (Nat.le_of_ble_eq_true rfl) (.inl rfl) q1576 dX5_undo_21 h (fun v4 h => ?_)
    refine j_iconst O dX5_undo_24 ?_
    refine j_isub O dX5_undo_25 ?_
    refine j_putI O cfX5 8 (Nat.le_of_ble_eq_true rfl) rfl q1576 rfl dX5_undo_26 h (fun w5 h => ?_)
    refine j_aload_n O 0 0 dX5_undo_29 rfl rfl ?_
    refine j_aload_n O 0 0 dX5_undo_30 rfl rfl ?_
    refine j_getI O cfX5 8 (Nat.le_of_ble_eq_true rfl) (.inl rfl) q1576 dX5_undo_31 h (fun v6 h => ?_)
    obtain ⟨e8, h⟩ := h
    refine fin_V O ⟨Nat.zero_le _, Nat.zero_le _⟩ (run_V (As := [vI (v6)]) (st := []) O (mt_X5_putBack (xl x) (xG x) _ _ _ _ h) e8 cfX5.1 q1764 q1766 qs49 q131 q1767 hy_X5_putBack (Nat.le_of_ble_eq_true rfl) (Nat.le_of_ble_eq_true rfl) ⟨Nat.zero_le _, Nat.zero_le _⟩ rfl (Nat.le_of_ble_eq_true rfl) dX5_undo_34) (fun w7 h => ?_)
    refine j_aload_n O 0 0 dX5_undo_37 rfl rfl ?_
    refine j_aload_n O 0 0 dX5_undo_38 rfl rfl ?_
    refine j_getA O cfX5 7 (Nat.le_of_ble_eq_true rfl) ⟨_, rfl⟩ q1575 dX5_undo_39 h (fun k9 h => ?_)
    refine j_aload_n O 0 0 dX5_undo_42 rfl rfl ?_
    refine j_getI O cfX5 8 (Nat.le_of_ble_eq_true rfl) (.inl rfl) q1576 dX5_undo_43 h (fun v10 h => ?_)
    refine j_iald O dX5_undo_46 h (fun v11 h => ?_)
    obtain ⟨e14, h⟩ := h
    refine fin_I O ⟨Nat.zero_le _, Nat.zero_le _⟩ (run_V (As := [vI (v11)]) (st := []) O (mt_X5_tell (xl x) (xG x) _ _ _ _ h) e14 cfX5.1 q1760 q1762 qs48 q131 q1763 hy_X5_tell (Nat.le_of_ble_eq_true rfl) (Nat.le_of_ble_eq_true rfl) ⟨Nat.zero_le _, Nat.zero_le _⟩ rfl (Nat.le_of_ble_eq_true rfl) dX5_undo_47) (fun r12 w13 h => ?_)
    exact j_iret O hr dX5_undo_50 h
  · refine j_aload_n O 0 0 dX5_undo_12 rfl rfl ?_
    refine j_bipush (m := (-3)) O dX5_undo_13 bi_m3 ?_
    obtain ⟨e17, h⟩ := h
    refine fin_I O ⟨Nat.zero_le _, Nat.zero_le _⟩ (run_V (As := [vI (((-3)))]) (st := []) O (mt_X5_tell (xl x) (xG x) _ _ _ _ h) e17 cfX5.1 q1760 q1762 qs48 q131 q1763 hy_X5_tell (Nat.le_of_ble_eq_true rfl) (Nat.le_of_ble_eq_true rfl) ⟨Nat.zero_le _, Nat.zero_le _⟩ rfl (Nat.le_of_ble_eq_true rfl) dX5_undo_15) (fun r15 w16 h => ?_)
    exact j_iret O hr dX5_undo_18 h
theorem hy_X5_init : (yX5_init.cls = "DowryBoxesModel" ∧ yX5_init.cls ≠ "java/lang/invoke/MethodHandle" ∧ yX5_init.cls ≠ "java/lang/invoke/VarHandle" ∧ (parseMethodDescriptor yX5_init.desc).map (fun d => d.parameters.length) = some 0) := by decide +kernel
theorem mt_X5_init (l : Launch) (G : GW) (this : Nat) (bc bs : Nat) (w : Wd) (Q : Wd → Prop) (h : wp_X5_init this bc bs w Q) : MV l G yX5_init cX5_init 1 1 bc bs [.ref (adG G (this))] w Q := by
  refine met_V (fun G => [.ref (adG G (this))]) (by decide) (fun G => Nat.le_of_ble_eq_true rfl) (fun x O hl hm hr hn => ?_)
  subst hl
  have O : OK x "DowryBoxesModel" cX5_init 1 := O
  have h : wp_X5_init this bc bs w Q := h
  unfold wp_X5_init at h
  show J x (TV x Q) w bc bs 0 [(0, .ref (adG (xG x) (this)))] []
  refine j_aload_n O 0 0 dX5_init_0 rfl rfl ?_
  refine j_objInit O q1543 q163 q164 (Nat.le_of_ble_eq_true rfl) (Nat.le_of_ble_eq_true rfl) dX5_init_1 ?_
  refine j_aload_n O 0 0 dX5_init_4 rfl rfl ?_
  refine j_bipush (m := 7) O dX5_init_5 bi_7 ?_
  refine j_newA O 0 (by decide) rfl q202 dX5_init_7 h (fun k1 w2 h => ?_)
  refine j_putFR (v := (some k1)) O cfX5 2 (Nat.le_of_ble_eq_true rfl) (.inr ⟨_, rfl⟩) q1570 rfl hn rfl dX5_init_9 h (fun w3 h => ?_)
  refine j_aload_n O 0 0 dX5_init_12 rfl rfl ?_
  refine j_sipush (m := 5516) O dX5_init_13 si_5516 ?_
  refine j_newA O 0 (by decide) rfl q202 dX5_init_16 h (fun k4 w5 h => ?_)
  refine j_putFR (v := (some k4)) O cfX5 3 (Nat.le_of_ble_eq_true rfl) (.inr ⟨_, rfl⟩) q1571 rfl hn rfl dX5_init_18 h (fun w6 h => ?_)
  refine j_aload_n O 0 0 dX5_init_21 rfl rfl ?_
  refine j_sipush (m := 11032) O dX5_init_22 si_11032 ?_
  refine j_newA O 0 (by decide) rfl q202 dX5_init_25 h (fun k7 w8 h => ?_)
  refine j_putFR (v := (some k7)) O cfX5 4 (Nat.le_of_ble_eq_true rfl) (.inr ⟨_, rfl⟩) q1572 rfl hn rfl dX5_init_27 h (fun w9 h => ?_)
  refine j_aload_n O 0 0 dX5_init_30 rfl rfl ?_
  refine j_iconst O dX5_init_31 ?_
  refine j_newA O 3 (by decide) rfl q1755 dX5_init_32 h (fun k10 w11 h => ?_)
  refine j_putFR (v := (some k10)) O cfX5 5 (Nat.le_of_ble_eq_true rfl) (.inr ⟨_, rfl⟩) q1573 rfl hn rfl dX5_init_34 h (fun w12 h => ?_)
  refine j_aload_n O 0 0 dX5_init_37 rfl rfl ?_
  refine j_sipush (m := 1350) O dX5_init_38 si_1350 ?_
  refine j_newA O 0 (by decide) rfl q202 dX5_init_41 h (fun k13 w14 h => ?_)
  refine j_putFR (v := (some k13)) O cfX5 6 (Nat.le_of_ble_eq_true rfl) (.inr ⟨_, rfl⟩) q1574 rfl hn rfl dX5_init_43 h (fun w15 h => ?_)
  refine j_aload_n O 0 0 dX5_init_46 rfl rfl ?_
  refine j_bipush (m := 16) O dX5_init_47 bi_16 ?_
  refine j_newA O 0 (by decide) rfl q202 dX5_init_49 h (fun k16 w17 h => ?_)
  refine j_putFR (v := (some k16)) O cfX5 7 (Nat.le_of_ble_eq_true rfl) (.inr ⟨_, rfl⟩) q1575 rfl hn rfl dX5_init_51 h (fun w18 h => ?_)
  refine j_aload_n O 0 0 dX5_init_54 rfl rfl ?_
  refine j_sipush (m := 1200) O dX5_init_55 si_1200 ?_
  refine j_newA O 0 (by decide) rfl q202 dX5_init_58 h (fun k19 w20 h => ?_)
  refine j_putFR (v := (some k19)) O cfX5 9 (Nat.le_of_ble_eq_true rfl) (.inr ⟨_, rfl⟩) q1577 rfl hn rfl dX5_init_60 h (fun w21 h => ?_)
  refine j_aload_n O 0 0 dX5_init_63 rfl rfl ?_
  refine j_bipush (m := 16) O dX5_init_64 bi_16 ?_
  refine j_newA O 0 (by decide) rfl q202 dX5_init_66 h (fun k22 w23 h => ?_)
  refine j_putFR (v := (some k22)) O cfX5 10 (Nat.le_of_ble_eq_true rfl) (.inr ⟨_, rfl⟩) q1578 rfl hn rfl dX5_init_68 h (fun w24 h => ?_)
  refine j_aload_n O 0 0 dX5_init_71 rfl rfl ?_
  refine j_sipush (m := 400) O dX5_init_72 si_400 ?_
  refine j_newA O 0 (by decide) rfl q202 dX5_init_75 h (fun k25 w26 h => ?_)
  refine j_putFR (v := (some k25)) O cfX5 12 (Nat.le_of_ble_eq_true rfl) (.inr ⟨_, rfl⟩) q1580 rfl hn rfl dX5_init_77 h (fun w27 h => ?_)
  refine j_aload_n O 0 0 dX5_init_80 rfl rfl ?_
  refine j_iconst O dX5_init_81 ?_
  refine j_putI O cfX5 18 (Nat.le_of_ble_eq_true rfl) rfl q1586 rfl dX5_init_82 h (fun w28 h => ?_)
  refine j_aload_n O 0 0 dX5_init_85 rfl rfl ?_
  refine j_bipush (m := 96) O dX5_init_86 bi_96 ?_
  refine j_newA O 0 (by decide) rfl q202 dX5_init_88 h (fun k29 w30 h => ?_)
  refine j_putFR (v := (some k29)) O cfX5 22 (Nat.le_of_ble_eq_true rfl) (.inr ⟨_, rfl⟩) q1590 rfl hn rfl dX5_init_90 h (fun w31 h => ?_)
  refine j_aload_n O 0 0 dX5_init_93 rfl rfl ?_
  refine j_sipush (m := 400) O dX5_init_94 si_400 ?_
  refine j_newA O 0 (by decide) rfl q202 dX5_init_97 h (fun k32 w33 h => ?_)
  refine j_putFR (v := (some k32)) O cfX5 24 (Nat.le_of_ble_eq_true rfl) (.inr ⟨_, rfl⟩) q1592 rfl hn rfl dX5_init_99 h (fun w34 h => ?_)
  refine j_aload_n O 0 0 dX5_init_102 rfl rfl ?_
  refine j_sipush (m := 400) O dX5_init_103 si_400 ?_
  refine j_newA O 0 (by decide) rfl q202 dX5_init_106 h (fun k35 w36 h => ?_)
  refine j_putFR (v := (some k35)) O cfX5 25 (Nat.le_of_ble_eq_true rfl) (.inr ⟨_, rfl⟩) q1593 rfl hn rfl dX5_init_108 h (fun w37 h => ?_)
  refine j_aload_n O 0 0 dX5_init_111 rfl rfl ?_
  refine j_sipush (m := 400) O dX5_init_112 si_400 ?_
  refine j_newA O 0 (by decide) rfl q202 dX5_init_115 h (fun k38 w39 h => ?_)
  refine j_putFR (v := (some k38)) O cfX5 27 (Nat.le_of_ble_eq_true rfl) (.inr ⟨_, rfl⟩) q1595 rfl hn rfl dX5_init_117 h (fun w40 h => ?_)
  refine j_aload_n O 0 0 dX5_init_120 rfl rfl ?_
  refine j_sipush (m := 400) O dX5_init_121 si_400 ?_
  refine j_newA O 0 (by decide) rfl q202 dX5_init_124 h (fun k41 w42 h => ?_)
  refine j_putFR (v := (some k41)) O cfX5 28 (Nat.le_of_ble_eq_true rfl) (.inr ⟨_, rfl⟩) q1596 rfl hn rfl dX5_init_126 h (fun w43 h => ?_)
  refine j_aload_n O 0 0 dX5_init_129 rfl rfl ?_
  refine j_bipush (m := 9) O dX5_init_130 bi_9 ?_
  refine j_newA O 1 (by decide) rfl q357 dX5_init_132 h (fun k44 w45 h => ?_)
  refine j_dup O dX5_init_134 rfl ?_
  refine j_iconst O dX5_init_135 ?_
  refine j_ldc2 (m := 2552) O dX5_init_136 q1544 l2_2552 ?_
  refine j_last O dX5_init_139 h (fun w46 h => ?_)
  refine j_dup O dX5_init_140 rfl ?_
  refine j_iconst O dX5_init_141 ?_
  refine j_ldc2 (m := 654910919) O dX5_init_142 q1545 l2_654910919 ?_
  refine j_last O dX5_init_145 h (fun w47 h => ?_)
  refine j_dup O dX5_init_146 rfl ?_
  refine j_iconst O dX5_init_147 ?_
  refine j_ldc2 (m := 15192243) O dX5_init_148 q1546 l2_15192243 ?_
  refine j_last O dX5_init_151 h (fun w48 h => ?_)
  refine j_dup O dX5_init_152 rfl ?_
  refine j_iconst O dX5_init_153 ?_
  refine j_ldc2 (m := 86486190) O dX5_init_154 q1547 l2_86486190 ?_
  refine j_last O dX5_init_157 h (fun w49 h => ?_)
  refine j_dup O dX5_init_158 rfl ?_
  refine j_iconst O dX5_init_159 ?_
  refine j_ldc2 (m := 659870194) O dX5_init_160 q1548 l2_659870194 ?_
  refine j_last O dX5_init_163 h (fun w50 h => ?_)
  refine j_dup O dX5_init_164 rfl ?_
  refine j_iconst O dX5_init_165 ?_
  refine j_ldc2 (m := 5170) O dX5_init_166 q1549 l2_5170 ?_
  refine j_last O dX5_init_169 h (fun w51 h => ?_)
  refine j_dup O dX5_init_170 rfl ?_
  refine j_bipush (m := 6) O dX5_init_171 bi_6 ?_
  refine j_ldc2 (m := 24165011) O dX5_init_173 q1550 l2_24165011 ?_
  refine j_last O dX5_init_176 h (fun w52 h => ?_)
  refine j_dup O dX5_init_177 rfl ?_
  refine j_bipush (m := 7) O dX5_init_178 bi_7 ?_
  refine j_ldc2 (m := 824370) O dX5_init_180 q1551 l2_824370 ?_
  refine j_last O dX5_init_183 h (fun w53 h => ?_)
  refine j_dup O dX5_init_184 rfl ?_
  refine j_bipush (m := 8) O dX5_init_185 bi_8 ?_
  refine j_ldc2 (m := 441828) O dX5_init_187 q1552 l2_441828 ?_
  refine j_last O dX5_init_190 h (fun w54 h => ?_)
  refine j_putFR (v := (some k44)) O cfX5 31 (Nat.le_of_ble_eq_true rfl) (.inr ⟨_, rfl⟩) q1599 rfl hn rfl dX5_init_191 h (fun w55 h => ?_)
  refine j_aload_n O 0 0 dX5_init_194 rfl rfl ?_
  refine j_bipush (m := 6) O dX5_init_195 bi_6 ?_
  refine j_newA O 1 (by decide) rfl q357 dX5_init_197 h (fun k56 w57 h => ?_)
  refine j_dup O dX5_init_199 rfl ?_
  refine j_iconst O dX5_init_200 ?_
  refine j_ldc2 (m := 824370) O dX5_init_201 q1551 l2_824370 ?_
  refine j_last O dX5_init_204 h (fun w58 h => ?_)
  refine j_dup O dX5_init_205 rfl ?_
  refine j_iconst O dX5_init_206 ?_
  refine j_ldc2 (m := 146885) O dX5_init_207 q1553 l2_146885 ?_
  refine j_last O dX5_init_210 h (fun w59 h => ?_)
  refine j_dup O dX5_init_211 rfl ?_
  refine j_iconst O dX5_init_212 ?_
  refine j_ldc2 (m := 404362868) O dX5_init_213 q1554 l2_404362868 ?_
  refine j_last O dX5_init_216 h (fun w60 h => ?_)
  refine j_dup O dX5_init_217 rfl ?_
  refine j_iconst O dX5_init_218 ?_
  refine j_ldc2 (m := 3747098803) O dX5_init_219 q1555 l2_3747098803 ?_
  refine j_last O dX5_init_222 h (fun w61 h => ?_)
  refine j_dup O dX5_init_223 rfl ?_
  refine j_iconst O dX5_init_224 ?_
  refine j_ldc2 (m := 398548) O dX5_init_225 q1556 l2_398548 ?_
  refine j_last O dX5_init_228 h (fun w62 h => ?_)
  refine j_dup O dX5_init_229 rfl ?_
  refine j_iconst O dX5_init_230 ?_
  refine j_ldc2 (m := 15192243) O dX5_init_231 q1546 l2_15192243 ?_
  refine j_last O dX5_init_234 h (fun w63 h => ?_)
  refine j_putFR (v := (some k56)) O cfX5 32 (Nat.le_of_ble_eq_true rfl) (.inr ⟨_, rfl⟩) q1600 rfl hn rfl dX5_init_235 h (fun w64 h => ?_)
  refine j_aload_n O 0 0 dX5_init_238 rfl rfl ?_
  refine j_iconst O dX5_init_239 ?_
  refine j_newA O 1 (by decide) rfl q357 dX5_init_240 h (fun k65 w66 h => ?_)
  refine j_dup O dX5_init_242 rfl ?_
  refine j_iconst O dX5_init_243 ?_
  refine j_ldc2 (m := 12635795) O dX5_init_244 q1557 l2_12635795 ?_
  refine j_last O dX5_init_247 h (fun w67 h => ?_)
  refine j_dup O dX5_init_248 rfl ?_
  refine j_iconst O dX5_init_249 ?_
  refine j_ldc2 (m := 12889267) O dX5_init_250 q1558 l2_12889267 ?_
  refine j_last O dX5_init_253 h (fun w68 h => ?_)
  refine j_dup O dX5_init_254 rfl ?_
  refine j_iconst O dX5_init_255 ?_
  refine j_ldc2 (m := 13094067) O dX5_init_256 q1559 l2_13094067 ?_
  refine j_last O dX5_init_259 h (fun w69 h => ?_)
  refine j_dup O dX5_init_260 rfl ?_
  refine j_iconst O dX5_init_261 ?_
  refine j_ldc2 (m := 67155) O dX5_init_262 q1560 l2_67155 ?_
  refine j_last O dX5_init_265 h (fun w70 h => ?_)
  refine j_putFR (v := (some k65)) O cfX5 33 (Nat.le_of_ble_eq_true rfl) (.inr ⟨_, rfl⟩) q1601 rfl hn rfl dX5_init_266 h (fun w71 h => ?_)
  refine j_aload_n O 0 0 dX5_init_269 rfl rfl ?_
  refine j_bipush (m := 13) O dX5_init_270 bi_13 ?_
  refine j_newA O 1 (by decide) rfl q357 dX5_init_272 h (fun k72 w73 h => ?_)
  refine j_putFR (v := (some k72)) O cfX5 35 (Nat.le_of_ble_eq_true rfl) (.inr ⟨_, rfl⟩) q1603 rfl hn rfl dX5_init_274 h (fun w74 h => ?_)
  refine j_aload_n O 0 0 dX5_init_277 rfl rfl ?_
  refine j_bipush (m := 13) O dX5_init_278 bi_13 ?_
  refine j_newA O 1 (by decide) rfl q357 dX5_init_280 h (fun k75 w76 h => ?_)
  refine j_putFR (v := (some k75)) O cfX5 36 (Nat.le_of_ble_eq_true rfl) (.inr ⟨_, rfl⟩) q1604 rfl hn rfl dX5_init_282 h (fun w77 h => ?_)
  refine j_aload_n O 0 0 dX5_init_285 rfl rfl ?_
  refine j_sipush (m := 400) O dX5_init_286 si_400 ?_
  refine j_newA O 1 (by decide) rfl q357 dX5_init_289 h (fun k78 w79 h => ?_)
  refine j_putFR (v := (some k78)) O cfX5 37 (Nat.le_of_ble_eq_true rfl) (.inr ⟨_, rfl⟩) q1605 rfl hn rfl dX5_init_291 h (fun w80 h => ?_)
  refine j_aload_n O 0 0 dX5_init_294 rfl rfl ?_
  refine j_bipush (m := 6) O dX5_init_295 bi_6 ?_
  refine j_newA O 0 (by decide) rfl q202 dX5_init_297 h (fun k81 w82 h => ?_)
  refine j_putFR (v := (some k81)) O cfX5 41 (Nat.le_of_ble_eq_true rfl) (.inr ⟨_, rfl⟩) q1609 rfl hn rfl dX5_init_299 h (fun w83 h => ?_)
  refine j_aload_n O 0 0 dX5_init_302 rfl rfl ?_
  refine j_bipush (m := 36) O dX5_init_303 bi_36 ?_
  refine j_newA O 0 (by decide) rfl q202 dX5_init_305 h (fun k84 w85 h => ?_)
  refine j_putFR (v := (some k84)) O cfX5 42 (Nat.le_of_ble_eq_true rfl) (.inr ⟨_, rfl⟩) q1610 rfl hn rfl dX5_init_307 h (fun w86 h => ?_)
  refine j_aload_n O 0 0 dX5_init_310 rfl rfl ?_
  refine j_bipush (m := 36) O dX5_init_311 bi_36 ?_
  refine j_newA O 0 (by decide) rfl q202 dX5_init_313 h (fun k87 w88 h => ?_)
  refine j_putFR (v := (some k87)) O cfX5 43 (Nat.le_of_ble_eq_true rfl) (.inr ⟨_, rfl⟩) q1611 rfl hn rfl dX5_init_315 h (fun w89 h => ?_)
  refine j_aload_n O 0 0 dX5_init_318 rfl rfl ?_
  refine j_bipush (m := 6) O dX5_init_319 bi_6 ?_
  refine j_newA O 0 (by decide) rfl q202 dX5_init_321 h (fun k90 w91 h => ?_)
  refine j_putFR (v := (some k90)) O cfX5 44 (Nat.le_of_ble_eq_true rfl) (.inr ⟨_, rfl⟩) q1612 rfl hn rfl dX5_init_323 h (fun w92 h => ?_)
  refine j_aload_n O 0 0 dX5_init_326 rfl rfl ?_
  refine j_bipush (m := 36) O dX5_init_327 bi_36 ?_
  refine j_newA O 3 (by decide) rfl q1755 dX5_init_329 h (fun k93 w94 h => ?_)
  refine j_putFR (v := (some k93)) O cfX5 45 (Nat.le_of_ble_eq_true rfl) (.inr ⟨_, rfl⟩) q1613 rfl hn rfl dX5_init_331 h (fun w95 h => ?_)
  refine j_aload_n O 0 0 dX5_init_334 rfl rfl ?_
  refine j_sipush (m := 448) O dX5_init_335 si_448 ?_
  refine j_newA O 0 (by decide) rfl q202 dX5_init_338 h (fun k96 w97 h => ?_)
  refine j_putFR (v := (some k96)) O cfX5 46 (Nat.le_of_ble_eq_true rfl) (.inr ⟨_, rfl⟩) q1614 rfl hn rfl dX5_init_340 h (fun w98 h => ?_)
  refine j_aload_n O 0 0 dX5_init_343 rfl rfl ?_
  refine j_sipush (m := 2048) O dX5_init_344 si_2048 ?_
  refine j_newA O 0 (by decide) rfl q202 dX5_init_347 h (fun k99 w100 h => ?_)
  refine j_putFR (v := (some k99)) O cfX5 47 (Nat.le_of_ble_eq_true rfl) (.inr ⟨_, rfl⟩) q1615 rfl hn rfl dX5_init_349 h (fun w101 h => ?_)
  refine j_aload_n O 0 0 dX5_init_352 rfl rfl ?_
  refine j_bipush (m := 8) O dX5_init_353 bi_8 ?_
  refine j_newA O 0 (by decide) rfl q202 dX5_init_355 h (fun k102 w103 h => ?_)
  refine j_putFR (v := (some k102)) O cfX5 48 (Nat.le_of_ble_eq_true rfl) (.inr ⟨_, rfl⟩) q1616 rfl hn rfl dX5_init_357 h (fun w104 h => ?_)
  refine j_aload_n O 0 0 dX5_init_360 rfl rfl ?_
  refine j_iconst O dX5_init_361 ?_
  refine j_newA O 0 (by decide) rfl q202 dX5_init_362 h (fun k105 w106 h => ?_)
  refine j_putFR (v := (some k105)) O cfX5 49 (Nat.le_of_ble_eq_true rfl) (.inr ⟨_, rfl⟩) q1617 rfl hn rfl dX5_init_364 h (fun w107 h => ?_)
  refine j_aload_n O 0 0 dX5_init_367 rfl rfl ?_
  refine j_bipush (m := 6) O dX5_init_368 bi_6 ?_
  refine j_newA O 0 (by decide) rfl q202 dX5_init_370 h (fun k108 w109 h => ?_)
  refine j_putFR (v := (some k108)) O cfX5 50 (Nat.le_of_ble_eq_true rfl) (.inr ⟨_, rfl⟩) q1618 rfl hn rfl dX5_init_372 h (fun w110 h => ?_)
  refine j_aload_n O 0 0 dX5_init_375 rfl rfl ?_
  refine j_bipush (m := 21) O dX5_init_376 bi_21 ?_
  refine j_newA O 1 (by decide) rfl q357 dX5_init_378 h (fun k111 w112 h => ?_)
  refine j_putFR (v := (some k111)) O cfX5 51 (Nat.le_of_ble_eq_true rfl) (.inr ⟨_, rfl⟩) q1619 rfl hn rfl dX5_init_380 h (fun w113 h => ?_)
  refine j_aload_n O 0 0 dX5_init_383 rfl rfl ?_
  refine j_iconst O dX5_init_384 ?_
  refine j_newA O 1 (by decide) rfl q357 dX5_init_385 h (fun k114 w115 h => ?_)
  refine j_dup O dX5_init_387 rfl ?_
  refine j_iconst O dX5_init_388 ?_
  refine j_ldc2 (m := 546188) O dX5_init_389 q1561 l2_546188 ?_
  refine j_last O dX5_init_392 h (fun w116 h => ?_)
  refine j_dup O dX5_init_393 rfl ?_
  refine j_iconst O dX5_init_394 ?_
  refine j_ldc2 (m := 636976) O dX5_init_395 q1562 l2_636976 ?_
  refine j_last O dX5_init_398 h (fun w117 h => ?_)
  refine j_dup O dX5_init_399 rfl ?_
  refine j_iconst O dX5_init_400 ?_
  refine j_ldc2 (m := 23716) O dX5_init_401 q1563 l2_23716 ?_
  refine j_last O dX5_init_404 h (fun w118 h => ?_)
  refine j_dup O dX5_init_405 rfl ?_
  refine j_iconst O dX5_init_406 ?_
  refine j_ldc2 (m := 525939) O dX5_init_407 q1564 l2_525939 ?_
  refine j_last O dX5_init_410 h (fun w119 h => ?_)
  refine j_putFR (v := (some k114)) O cfX5 52 (Nat.le_of_ble_eq_true rfl) (.inr ⟨_, rfl⟩) q1620 rfl hn rfl dX5_init_411 h (fun w120 h => ?_)
  refine j_aload_n O 0 0 dX5_init_414 rfl rfl ?_
  refine j_iconst O dX5_init_415 ?_
  refine j_newA O 1 (by decide) rfl q357 dX5_init_416 h (fun k121 w122 h => ?_)
  refine j_dup O dX5_init_418 rfl ?_
  refine j_iconst O dX5_init_419 ?_
  refine j_ldc2 (m := 52) O dX5_init_420 q1565 l2_52 ?_
  refine j_last O dX5_init_423 h (fun w123 h => ?_)
  refine j_dup O dX5_init_424 rfl ?_
  refine j_iconst O dX5_init_425 ?_
  refine j_ldc2 (m := 486) O dX5_init_426 q1566 l2_486 ?_
  refine j_last O dX5_init_429 h (fun w124 h => ?_)
  refine j_dup O dX5_init_430 rfl ?_
  refine j_iconst O dX5_init_431 ?_
  refine j_ldc2 (m := 655) O dX5_init_432 q1567 l2_655 ?_
  refine j_last O dX5_init_435 h (fun w125 h => ?_)
  refine j_putFR (v := (some k121)) O cfX5 53 (Nat.le_of_ble_eq_true rfl) (.inr ⟨_, rfl⟩) q1621 rfl hn rfl dX5_init_436 h (fun w126 h => ?_)
  refine j_aload_n O 0 0 dX5_init_439 rfl rfl ?_
  refine j_bipush (m := 120) O dX5_init_440 bi_120 ?_
  refine j_newA O 0 (by decide) rfl q202 dX5_init_442 h (fun k127 w128 h => ?_)
  refine j_putFR (v := (some k127)) O cfX5 54 (Nat.le_of_ble_eq_true rfl) (.inr ⟨_, rfl⟩) q1622 rfl hn rfl dX5_init_444 h (fun w129 h => ?_)
  refine j_aload_n O 0 0 dX5_init_447 rfl rfl ?_
  refine j_iconst O dX5_init_448 ?_
  refine j_putI O cfX5 57 (Nat.le_of_ble_eq_true rfl) rfl q1625 rfl dX5_init_449 h (fun w130 h => ?_)
  refine j_aload_n O 0 0 dX5_init_452 rfl rfl ?_
  refine j_bipush (m := 18) O dX5_init_453 bi_18 ?_
  refine j_newA O 0 (by decide) rfl q202 dX5_init_455 h (fun k131 w132 h => ?_)
  refine j_putFR (v := (some k131)) O cfX5 60 (Nat.le_of_ble_eq_true rfl) (.inr ⟨_, rfl⟩) q1628 rfl hn rfl dX5_init_457 h (fun w133 h => ?_)
  refine j_aload_n O 0 0 dX5_init_460 rfl rfl ?_
  refine j_iconst O dX5_init_461 ?_
  refine j_putI O cfX5 61 (Nat.le_of_ble_eq_true rfl) rfl q1629 rfl dX5_init_462 h (fun w134 h => ?_)
  refine j_aload_n O 0 0 dX5_init_465 rfl rfl ?_
  refine j_getA O cfX5 3 (Nat.le_of_ble_eq_true rfl) ⟨_, rfl⟩ q1571 dX5_init_466 h (fun k135 h => ?_)
  refine j_iconst O dX5_init_469 ?_
  refine j_iconst O dX5_init_470 ?_
  refine j_iast O dX5_init_471 h (fun w136 h => ?_)
  refine j_aload_n O 0 0 dX5_init_472 rfl rfl ?_
  refine j_getA O cfX5 3 (Nat.le_of_ble_eq_true rfl) ⟨_, rfl⟩ q1571 dX5_init_473 h (fun k137 h => ?_)
  refine j_bipush (m := 6) O dX5_init_476 bi_6 ?_
  refine j_iconst O dX5_init_478 ?_
  refine j_iast O dX5_init_479 h (fun w138 h => ?_)
  exact j_vret O hr dX5_init_480 h
