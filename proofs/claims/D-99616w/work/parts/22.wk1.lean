/-! the walks of the reference, by program -/
set_option maxRecDepth 100000
theorem hy_X5_readPart : (yX5_readPart.cls = "DowryBoxesModel" ∧ yX5_readPart.cls ≠ "java/lang/invoke/MethodHandle" ∧ yX5_readPart.cls ≠ "java/lang/invoke/VarHandle" ∧ (parseMethodDescriptor yX5_readPart.desc).map (fun d => d.parameters.length) = some 0) := by decide +kernel
theorem wk_X5_readPart_99 {x : Cx} (O : OK x "DowryBoxesModel" cX5_readPart 5) (hr : (xM x).sig.returnType = some .int) (hm : xn x = 4) {Q : Int → Wd → Prop} (this : Nat) (x1 : Int) (s0 : Int) (s1 : Int) (s2 : Int) (s3 : Nat) (w : Wd) (h : wp_X5_readPart_99 Q this x1 s0 s1 s2 s3 w) : J x (TI x Q) w 0 0 99 [(0, .ref (adG (xG x) (this))), (1, vI (x1))] [vI (s0), vI (s1), vI (s2), .ref (adG (xG x) (s3))] := by
  unfold wp_X5_readPart_99 at h
  obtain ⟨e2, h⟩ := h
  refine fin_V O ⟨Nat.zero_le _, Nat.zero_le _⟩ (run_V (As := [vI (s2), vI (s1), vI (s0)]) (st := []) O (mt_X5_leaf (xl x) (xG x) _ _ _ _ _ _ h) e2 cfX5.1 q1990 q1992 qs81 q131 q1993 hy_X5_leaf (Nat.le_of_ble_eq_true rfl) (Nat.le_of_ble_eq_true rfl) ⟨Nat.zero_le _, Nat.zero_le _⟩ rfl (Nat.le_of_ble_eq_true rfl) dX5_readPart_99) (fun w1 h => ?_)
  refine j_aload_n O 0 0 dX5_readPart_102 rfl rfl ?_
  refine j_getI O cfX5 20 (Nat.le_of_ble_eq_true rfl) (.inr (.inl rfl)) q1588 dX5_readPart_103 h (fun v3 h => ?_)
  obtain ⟨c4, h⟩ := h
  refine j_if_eq O (tgt := 142) dX5_readPart_106 (by decide) c4 h (fun h => ?_) (fun h => ?_)
  · refine j_iconst O dX5_readPart_142 ?_
    exact j_iret O hr dX5_readPart_143 h
  · refine j_iload_n O 1 1 dX5_readPart_109 rfl rfl ?_
    refine j_iconst O dX5_readPart_110 ?_
    obtain ⟨c5, h⟩ := h
    refine j_icmp_lt O (tgt := 142) dX5_readPart_111 (by decide) c5 (by decide) h (fun h => ?_) (fun h => ?_)
    · refine j_iconst O dX5_readPart_142 ?_
      exact j_iret O hr dX5_readPart_143 h
    · refine j_aload_n O 0 0 dX5_readPart_114 rfl rfl ?_
      refine j_getI O cfX5 19 (Nat.le_of_ble_eq_true rfl) (.inr (.inl rfl)) q1587 dX5_readPart_115 h (fun v6 h => ?_)
      obtain ⟨c7, h⟩ := h
      refine j_if_ne O (tgt := 142) dX5_readPart_118 (by decide) c7 h (fun h => ?_) (fun h => ?_)
      · refine j_iconst O dX5_readPart_142 ?_
        exact j_iret O hr dX5_readPart_143 h
      · refine j_aload_n O 0 0 dX5_readPart_121 rfl rfl ?_
        refine j_getI O cfX5 23 (Nat.le_of_ble_eq_true rfl) (.inl rfl) q1591 dX5_readPart_122 h (fun v8 h => ?_)
        refine j_iconst O dX5_readPart_125 ?_
        refine j_isub O dX5_readPart_126 ?_
        refine j_istore_n (L' := [(3, vI (v8 - 1)), (0, .ref (adG (xG x) (this))), (1, vI (x1))]) O 3 dX5_readPart_127 rfl (by rw [hm]; decide) rfl ?_
        refine j_aload_n O 1 0 dX5_readPart_128 rfl rfl ?_
        refine j_getA O cfX5 25 (Nat.le_of_ble_eq_true rfl) ⟨_, rfl⟩ q1593 dX5_readPart_129 h (fun k9 h => ?_)
        refine j_iload_n O 0 3 dX5_readPart_132 rfl rfl ?_
        refine j_aload_n O 1 0 dX5_readPart_133 rfl rfl ?_
        refine j_lconst (m := 0) O dX5_readPart_134 lc_0 ?_
        refine j_ldc2 (m := 5) O dX5_readPart_135 q1998 l2_5 ?_
        obtain ⟨e12, h⟩ := h
        refine fin_I O ⟨Nat.zero_le _, Nat.zero_le _⟩ (run_V (As := [vL (0), vL (5)]) (st := [vI (v8 - 1), .ref (adG (xG x) (k9))]) O (mt_X5_number (xl x) (xG x) _ _ _ _ _ h) e12 cfX5.1 q1999 q2001 qs83 q131 q2002 hy_X5_number (Nat.le_of_ble_eq_true rfl) (Nat.le_of_ble_eq_true rfl) ⟨Nat.zero_le _, Nat.zero_le _⟩ rfl (Nat.le_of_ble_eq_true rfl) dX5_readPart_138) (fun r10 w11 h => ?_)
        refine j_iast O dX5_readPart_141 h (fun w13 h => ?_)
        refine j_iconst O dX5_readPart_142 ?_
        exact j_iret O hr dX5_readPart_143 h
theorem wk_X5_readPart_86 {x : Cx} (O : OK x "DowryBoxesModel" cX5_readPart 5) (hr : (xM x).sig.returnType = some .int) (hm : xn x = 4) {Q : Int → Wd → Prop} (this : Nat) (x1 : Int) (x2 : Int) (s0 : Int) (s1 : Int) (s2 : Nat) (w : Wd) (h : wp_X5_readPart_86 Q this x1 x2 s0 s1 s2 w) : J x (TI x Q) w 0 0 86 [(0, .ref (adG (xG x) (this))), (1, vI (x1)), (2, vI (x2))] [vI (s0), vI (s1), .ref (adG (xG x) (s2))] := by
  unfold wp_X5_readPart_86 at h
  refine j_iload_n O 2 2 dX5_readPart_86 rfl rfl ?_
  obtain ⟨c1, h⟩ := h
  refine j_if_eq O (tgt := 98) dX5_readPart_87 (by decide) c1 h (fun h => ?_) (fun h => ?_)
  · refine j_iconst O dX5_readPart_98 ?_
    exact (J.sub [0, 1] rfl <| wk_X5_readPart_99 O hr hm  _ _ _ _ _ _  _ h)
  · refine j_aload_n O 0 0 dX5_readPart_90 rfl rfl ?_
    refine j_getL O cfX5 17 (Nat.le_of_ble_eq_true rfl) rfl q1585 dX5_readPart_91 h (fun v2 h => ?_)
    refine j_l2i O dX5_readPart_94 ?_
    refine j_goto O (tgt := 99) dX5_readPart_95 (by decide) ?_
    exact (J.sub [0, 1] rfl <| wk_X5_readPart_99 O hr hm  _ _ _ _ _ _  _ h)
theorem wk_X5_readPart_76 {x : Cx} (O : OK x "DowryBoxesModel" cX5_readPart 5) (hr : (xM x).sig.returnType = some .int) (hm : xn x = 4) {Q : Int → Wd → Prop} (this : Nat) (x1 : Int) (x2 : Int) (s0 : Int) (s1 : Nat) (w : Wd) (h : wp_X5_readPart_76 Q this x1 x2 s0 s1 w) : J x (TI x Q) w 0 0 76 [(0, .ref (adG (xG x) (this))), (1, vI (x1)), (2, vI (x2))] [vI (s0), .ref (adG (xG x) (s1))] := by
  unfold wp_X5_readPart_76 at h
  refine j_iload_n O 1 1 dX5_readPart_76 rfl rfl ?_
  refine j_iconst O dX5_readPart_77 ?_
  obtain ⟨c1, h⟩ := h
  refine j_icmp_ne O (tgt := 85) dX5_readPart_78 (by decide) c1 (by decide) h (fun h => ?_) (fun h => ?_)
  · refine j_iload_n O 1 1 dX5_readPart_85 rfl rfl ?_
    exact (J.sub [0, 1, 2] rfl <| wk_X5_readPart_86 O hr hm  _ _ _ _ _ _  _ h)
  · refine j_iconst O dX5_readPart_81 ?_
    refine j_goto O (tgt := 86) dX5_readPart_82 (by decide) ?_
    exact (J.sub [0, 1, 2] rfl <| wk_X5_readPart_86 O hr hm  _ _ _ _ _ _  _ h)
theorem wk_X5_readPart_71 {x : Cx} (O : OK x "DowryBoxesModel" cX5_readPart 5) (hr : (xM x).sig.returnType = some .int) (hm : xn x = 4) {Q : Int → Wd → Prop} (this : Nat) (x1 : Int) (x2 : Int) (s0 : Nat) (w : Wd) (h : wp_X5_readPart_71 Q this x1 x2 s0 w) : J x (TI x Q) w 0 0 71 [(0, .ref (adG (xG x) (this))), (1, vI (x1)), (2, vI (x2))] [.ref (adG (xG x) (s0))] := by
  unfold wp_X5_readPart_71 at h
  refine j_iconst O dX5_readPart_71 ?_
  refine j_goto O (tgt := 76) dX5_readPart_72 (by decide) ?_
  exact (J.sub [0, 1, 2] rfl <| wk_X5_readPart_76 O hr hm  _ _ _ _ _  _ h)
theorem wk_X5_readPart_60 {x : Cx} (O : OK x "DowryBoxesModel" cX5_readPart 5) (hr : (xM x).sig.returnType = some .int) (hm : xn x = 4) {Q : Int → Wd → Prop} (this : Nat) (x1 : Int) (s0 : Int) (w : Wd) (h : wp_X5_readPart_60 Q this x1 s0 w) : J x (TI x Q) w 0 0 60 [(0, .ref (adG (xG x) (this))), (1, vI (x1))] [vI (s0)] := by
  unfold wp_X5_readPart_60 at h
  refine j_istore_n (L' := [(2, vI (s0)), (0, .ref (adG (xG x) (this))), (1, vI (x1))]) O 2 dX5_readPart_60 rfl (by rw [hm]; decide) rfl ?_
  refine j_aload_n O 1 0 dX5_readPart_61 rfl rfl ?_
  refine j_iload_n O 2 1 dX5_readPart_62 rfl rfl ?_
  refine j_iconst O dX5_readPart_63 ?_
  obtain ⟨c1, h⟩ := h
  refine j_icmp_ne O (tgt := 71) dX5_readPart_64 (by decide) c1 (by decide) h (fun h => ?_) (fun h => ?_)
  · exact (J.sub [1, 2, 0] rfl <| wk_X5_readPart_71 O hr hm  _ _ _ _  _ h)
  · refine j_iload_n O 0 2 dX5_readPart_67 rfl rfl ?_
    obtain ⟨c2, h⟩ := h
    refine j_if_eq O (tgt := 75) dX5_readPart_68 (by decide) c2 h (fun h => ?_) (fun h => ?_)
    · refine j_iconst O dX5_readPart_75 ?_
      exact (J.sub [1, 2, 0] rfl <| wk_X5_readPart_76 O hr hm  _ _ _ _ _  _ h)
    · exact (J.sub [1, 2, 0] rfl <| wk_X5_readPart_71 O hr hm  _ _ _ _  _ h)
theorem wk_X5_readPart_59 {x : Cx} (O : OK x "DowryBoxesModel" cX5_readPart 5) (hr : (xM x).sig.returnType = some .int) (hm : xn x = 4) {Q : Int → Wd → Prop} (this : Nat) (x1 : Int) (w : Wd) (h : wp_X5_readPart_59 Q this x1 w) : J x (TI x Q) w 0 0 59 [(0, .ref (adG (xG x) (this))), (1, vI (x1))] [] := by
  unfold wp_X5_readPart_59 at h
  refine j_iconst O dX5_readPart_59 ?_
  exact (J.sub [0, 1] rfl <| wk_X5_readPart_60 O hr hm  _ _ _  _ h)
theorem wk_X5_readPart_35 {x : Cx} (O : OK x "DowryBoxesModel" cX5_readPart 5) (hr : (xM x).sig.returnType = some .int) (hm : xn x = 4) {Q : Int → Wd → Prop} (this : Nat) (s0 : Int) (w : Wd) (h : wp_X5_readPart_35 Q this s0 w) : J x (TI x Q) w 0 0 35 [(0, .ref (adG (xG x) (this)))] [vI (s0)] := by
  unfold wp_X5_readPart_35 at h
  refine j_istore_n (L' := [(1, vI (s0)), (0, .ref (adG (xG x) (this)))]) O 1 dX5_readPart_35 rfl (by rw [hm]; decide) rfl ?_
  refine j_aload_n O 1 0 dX5_readPart_36 rfl rfl ?_
  refine j_getI O cfX5 16 (Nat.le_of_ble_eq_true rfl) (.inl rfl) q1584 dX5_readPart_37 h (fun v1 h => ?_)
  refine j_iconst O dX5_readPart_40 ?_
  obtain ⟨c2, h⟩ := h
  refine j_icmp_ne O (tgt := 59) dX5_readPart_41 (by decide) c2 (by decide) h (fun h => ?_) (fun h => ?_)
  · exact (J.sub [1, 0] rfl <| wk_X5_readPart_59 O hr hm  _ _  _ h)
  · refine j_aload_n O 1 0 dX5_readPart_44 rfl rfl ?_
    refine j_getL O cfX5 17 (Nat.le_of_ble_eq_true rfl) rfl q1585 dX5_readPart_45 h (fun v3 h => ?_)
    refine j_ldc2 (m := 1000) O dX5_readPart_48 q1989 l2_1000 ?_
    obtain ⟨c4, h⟩ := h
    refine j_lcif_gt O (tgt := 59) dX5_readPart_51 rfl dX5_readPart_52 (by decide) c4 (by decide) h (fun h => ?_) (fun h => ?_)
    · exact (J.sub [1, 0] rfl <| wk_X5_readPart_59 O hr hm  _ _  _ h)
    · refine j_iconst O dX5_readPart_55 ?_
      refine j_goto O (tgt := 60) dX5_readPart_56 (by decide) ?_
      exact (J.sub [1, 0] rfl <| wk_X5_readPart_60 O hr hm  _ _ _  _ h)
theorem mt_X5_readPart (l : Launch) (G : GW) (this : Nat) (w : Wd) (Q : Int → Wd → Prop) (h : wp_X5_readPart this w Q) : MI l G yX5_readPart cX5_readPart 4 (.int) 5 0 0 [.ref (adG G (this))] w Q := by
  refine met_I (fun G => [.ref (adG G (this))]) (by decide) (fun G => Nat.le_of_ble_eq_true rfl) (fun x O hl hm hr => ?_)
  subst hl
  have O : OK x "DowryBoxesModel" cX5_readPart 5 := O
  have h : wp_X5_readPart this w Q := h
  unfold wp_X5_readPart at h
  show J x (TI x Q) w 0 0 0 [(0, .ref (adG (xG x) (this)))] []
  refine j_aload_n O 0 0 dX5_readPart_0 rfl rfl ?_
  refine j_bipush (m := 91) O dX5_readPart_1 bi_91 ?_
  obtain ⟨e3, h⟩ := h
  refine fin_I O ⟨Nat.zero_le _, Nat.zero_le _⟩ (run_V (As := [vI (91)]) (st := []) O (mt_X5_isSign (xl x) (xG x) _ _ _ _ h) e3 cfX5.1 q1969 q1971 qs76 q131 q1972 hy_X5_isSign (Nat.le_of_ble_eq_true rfl) (Nat.le_of_ble_eq_true rfl) ⟨Nat.zero_le _, Nat.zero_le _⟩ rfl (Nat.le_of_ble_eq_true rfl) dX5_readPart_3) (fun r1 w2 h => ?_)
  obtain ⟨c4, h⟩ := h
  refine j_if_eq O (tgt := 17) dX5_readPart_6 (by decide) c4 h (fun h => ?_) (fun h => ?_)
  · refine j_aload_n O 0 0 dX5_readPart_17 rfl rfl ?_
    refine j_getI O cfX5 20 (Nat.le_of_ble_eq_true rfl) (.inr (.inl rfl)) q1588 dX5_readPart_18 h (fun v5 h => ?_)
    obtain ⟨c6, h⟩ := h
    refine j_if_eq O (tgt := 31) dX5_readPart_21 (by decide) c6 h (fun h => ?_) (fun h => ?_)
    · refine j_aload_n O 0 0 dX5_readPart_31 rfl rfl ?_
      obtain ⟨e9, h⟩ := h
      refine fin_I O ⟨Nat.zero_le _, Nat.zero_le _⟩ (run_V (As := []) (st := []) O (mt_X5_partAt (xl x) (xG x) _ _ _ h) e9 cfX5.1 q1985 q1987 qs80 q131 q1988 hy_X5_partAt (Nat.le_of_ble_eq_true rfl) (Nat.le_of_ble_eq_true rfl) ⟨Nat.zero_le _, Nat.zero_le _⟩ rfl (Nat.le_of_ble_eq_true rfl) dX5_readPart_32) (fun r7 w8 h => ?_)
      exact (J.sub [0] rfl <| wk_X5_readPart_35 O hr hm  _ _  _ h)
    · refine j_aload_n O 0 0 dX5_readPart_24 rfl rfl ?_
      obtain ⟨e12, h⟩ := h
      refine fin_I O ⟨Nat.zero_le _, Nat.zero_le _⟩ (run_V (As := []) (st := []) O (mt_X5_orderPartAt (xl x) (xG x) _ _ _ h) e12 cfX5.1 q1981 q1983 qs79 q131 q1984 hy_X5_orderPartAt (Nat.le_of_ble_eq_true rfl) (Nat.le_of_ble_eq_true rfl) ⟨Nat.zero_le _, Nat.zero_le _⟩ rfl (Nat.le_of_ble_eq_true rfl) dX5_readPart_25) (fun r10 w11 h => ?_)
      refine j_goto O (tgt := 35) dX5_readPart_28 (by decide) ?_
      exact (J.sub [0] rfl <| wk_X5_readPart_35 O hr hm  _ _  _ h)
  · refine j_aload_n O 0 0 dX5_readPart_9 rfl rfl ?_
    refine j_bipush (m := 32) O dX5_readPart_10 bi_32 ?_
    obtain ⟨e14, h⟩ := h
    refine fin_V O ⟨Nat.zero_le _, Nat.zero_le _⟩ (run_V (As := [vI (32)]) (st := []) O (mt_X5_openBracket (xl x) (xG x) _ _ _ _ h) e14 cfX5.1 q1973 q1975 qs77 q131 q1976 hy_X5_openBracket (Nat.le_of_ble_eq_true rfl) (Nat.le_of_ble_eq_true rfl) ⟨Nat.zero_le _, Nat.zero_le _⟩ rfl (Nat.le_of_ble_eq_true rfl) dX5_readPart_12) (fun w13 h => ?_)
    refine j_iconst O dX5_readPart_15 ?_
    exact j_iret O hr dX5_readPart_16 h
theorem hy_X5_readPlain : (yX5_readPlain.cls = "DowryBoxesModel" ∧ yX5_readPlain.cls ≠ "java/lang/invoke/MethodHandle" ∧ yX5_readPlain.cls ≠ "java/lang/invoke/VarHandle" ∧ (parseMethodDescriptor yX5_readPlain.desc).map (fun d => d.parameters.length) = some 0) := by decide +kernel
theorem mt_X5_readPlain (l : Launch) (G : GW) (this : Nat) (w : Wd) (Q : Int → Wd → Prop) (h : wp_X5_readPlain this w Q) : MI l G yX5_readPlain cX5_readPlain 1 (.int) 6 0 0 [.ref (adG G (this))] w Q := by
  refine met_I (fun G => [.ref (adG G (this))]) (by decide) (fun G => Nat.le_of_ble_eq_true rfl) (fun x O hl hm hr => ?_)
  subst hl
  have O : OK x "DowryBoxesModel" cX5_readPlain 6 := O
  have h : wp_X5_readPlain this w Q := h
  unfold wp_X5_readPlain at h
  show J x (TI x Q) w 0 0 0 [(0, .ref (adG (xG x) (this)))] []
  refine j_aload_n O 0 0 dX5_readPlain_0 rfl rfl ?_
  refine j_ldc2 (m := 14836) O dX5_readPlain_1 q1964 l2_14836 ?_
  obtain ⟨e3, h⟩ := h
  refine fin_I O ⟨Nat.zero_le _, Nat.zero_le _⟩ (run_V (As := [vL (14836)]) (st := []) O (mt_X5_isWord (xl x) (xG x) _ _ _ _ h) e3 cfX5.1 q1948 q1950 qs71 q131 q1951 hy_X5_isWord (Nat.le_of_ble_eq_true rfl) (Nat.le_of_ble_eq_true rfl) ⟨Nat.zero_le _, Nat.zero_le _⟩ rfl (Nat.le_of_ble_eq_true rfl) dX5_readPlain_4) (fun r1 w2 h => ?_)
  obtain ⟨c4, h⟩ := h
  refine j_if_eq O (tgt := 23) dX5_readPlain_7 (by decide) c4 h (fun h => ?_) (fun h => ?_)
  · refine j_aload_n O 0 0 dX5_readPlain_23 rfl rfl ?_
    refine j_bipush (m := 40) O dX5_readPlain_24 bi_40 ?_
    obtain ⟨e7, h⟩ := h
    refine fin_I O ⟨Nat.zero_le _, Nat.zero_le _⟩ (run_V (As := [vI (40)]) (st := []) O (mt_X5_isSign (xl x) (xG x) _ _ _ _ h) e7 cfX5.1 q1969 q1971 qs76 q131 q1972 hy_X5_isSign (Nat.le_of_ble_eq_true rfl) (Nat.le_of_ble_eq_true rfl) ⟨Nat.zero_le _, Nat.zero_le _⟩ rfl (Nat.le_of_ble_eq_true rfl) dX5_readPlain_26) (fun r5 w6 h => ?_)
    obtain ⟨c8, h⟩ := h
    refine j_if_eq O (tgt := 40) dX5_readPlain_29 (by decide) c8 h (fun h => ?_) (fun h => ?_)
    · refine j_aload_n O 0 0 dX5_readPlain_40 rfl rfl ?_
      obtain ⟨e11, h⟩ := h
      refine fin_I O ⟨Nat.zero_le _, Nat.zero_le _⟩ (run_V (As := []) (st := []) O (mt_X5_readPart (xl x) (xG x) _ _ _ h) e11 cfX5.1 q1977 q1979 qs78 q131 q1980 hy_X5_readPart (Nat.le_of_ble_eq_true rfl) (Nat.le_of_ble_eq_true rfl) ⟨Nat.zero_le _, Nat.zero_le _⟩ rfl (Nat.le_of_ble_eq_true rfl) dX5_readPlain_41) (fun r9 w10 h => ?_)
      exact j_iret O hr dX5_readPlain_44 h
    · refine j_aload_n O 0 0 dX5_readPlain_32 rfl rfl ?_
      refine j_bipush (m := 31) O dX5_readPlain_33 bi_31 ?_
      obtain ⟨e13, h⟩ := h
      refine fin_V O ⟨Nat.zero_le _, Nat.zero_le _⟩ (run_V (As := [vI (31)]) (st := []) O (mt_X5_openBracket (xl x) (xG x) _ _ _ _ h) e13 cfX5.1 q1973 q1975 qs77 q131 q1976 hy_X5_openBracket (Nat.le_of_ble_eq_true rfl) (Nat.le_of_ble_eq_true rfl) ⟨Nat.zero_le _, Nat.zero_le _⟩ rfl (Nat.le_of_ble_eq_true rfl) dX5_readPlain_35) (fun w12 h => ?_)
      refine j_iconst O dX5_readPlain_38 ?_
      exact j_iret O hr dX5_readPlain_39 h
  · refine j_aload_n O 0 0 dX5_readPlain_10 rfl rfl ?_
    refine j_bipush (m := 28) O dX5_readPlain_11 bi_28 ?_
    refine j_iconst O dX5_readPlain_13 ?_
    obtain ⟨e15, h⟩ := h
    refine fin_V O ⟨Nat.zero_le _, Nat.zero_le _⟩ (run_V (As := [vI (28), vI (0)]) (st := []) O (mt_X5_push (xl x) (xG x) _ _ _ _ _ h) e15 cfX5.1 q1965 q1967 qs75 q131 q1968 hy_X5_push (Nat.le_of_ble_eq_true rfl) (Nat.le_of_ble_eq_true rfl) ⟨Nat.zero_le _, Nat.zero_le _⟩ rfl (Nat.le_of_ble_eq_true rfl) dX5_readPlain_14) (fun w14 h => ?_)
    refine j_aload_n O 0 0 dX5_readPlain_17 rfl rfl ?_
    obtain ⟨e17, h⟩ := h
    refine fin_V O ⟨Nat.zero_le _, Nat.zero_le _⟩ (run_V (As := []) (st := []) O (mt_X5_next (xl x) (xG x) _ _ _ h) e17 cfX5.1 q1930 q1932 qs69 q131 q1933 hy_X5_next (Nat.le_of_ble_eq_true rfl) (Nat.le_of_ble_eq_true rfl) ⟨Nat.zero_le _, Nat.zero_le _⟩ rfl (Nat.le_of_ble_eq_true rfl) dX5_readPlain_18) (fun w16 h => ?_)
    refine j_iconst O dX5_readPlain_21 ?_
    exact j_iret O hr dX5_readPlain_22 h
theorem hy_X5_binds : (yX5_binds.cls = "DowryBoxesModel" ∧ yX5_binds.cls ≠ "java/lang/invoke/MethodHandle" ∧ yX5_binds.cls ≠ "java/lang/invoke/VarHandle" ∧ (parseMethodDescriptor yX5_binds.desc).map (fun d => d.parameters.length) = some 1) := by decide +kernel
theorem mt_X5_binds (l : Launch) (G : GW) (p1 : Int) (w : Wd) (Q : Int → Wd → Prop) (h : wp_X5_binds p1 w Q) : MI l G yX5_binds cX5_binds 1 (.int) 1 0 0 [vI (p1)] w Q := by
  refine met_I (fun G => [vI (p1)]) (by decide) (fun G => Nat.le_of_ble_eq_true rfl) (fun x O hl hm hr => ?_)
  subst hl
  have O : OK x "DowryBoxesModel" cX5_binds 1 := O
  have h : wp_X5_binds p1 w Q := h
  unfold wp_X5_binds at h
  show J x (TI x Q) w 0 0 0 [(0, vI (p1))] []
  refine j_iload_n O 0 0 dX5_binds_0 rfl rfl ?_
  refine j_bipush (m := 31) O dX5_binds_1 bi_31 ?_
  obtain ⟨c1, h⟩ := h
  refine j_icmp_lt O (tgt := 10) dX5_binds_3 (by decide) c1 (by decide) h (fun h => ?_) (fun h => ?_)
  · refine j_iload_n O 0 0 dX5_binds_10 rfl rfl ?_
    refine j_bipush (m := 30) O dX5_binds_11 bi_30 ?_
    obtain ⟨c2, h⟩ := h
    refine j_icmp_ne O (tgt := 20) dX5_binds_13 (by decide) c2 (by decide) h (fun h => ?_) (fun h => ?_)
    · refine j_iload_n O 0 0 dX5_binds_20 rfl rfl ?_
      refine j_bipush (m := 29) O dX5_binds_21 bi_29 ?_
      obtain ⟨c3, h⟩ := h
      refine j_icmp_ne O (tgt := 30) dX5_binds_23 (by decide) c3 (by decide) h (fun h => ?_) (fun h => ?_)
      · refine j_iload_n O 0 0 dX5_binds_30 rfl rfl ?_
        refine j_bipush (m := 28) O dX5_binds_31 bi_28 ?_
        obtain ⟨c4, h⟩ := h
        refine j_icmp_ne O (tgt := 40) dX5_binds_33 (by decide) c4 (by decide) h (fun h => ?_) (fun h => ?_)
        · refine j_iload_n O 0 0 dX5_binds_40 rfl rfl ?_
          refine j_bipush (m := 25) O dX5_binds_41 bi_25 ?_
          obtain ⟨c5, h⟩ := h
          refine j_icmp_lt O (tgt := 50) dX5_binds_43 (by decide) c5 (by decide) h (fun h => ?_) (fun h => ?_)
          · refine j_iload_n O 0 0 dX5_binds_50 rfl rfl ?_
            refine j_bipush (m := 22) O dX5_binds_51 bi_22 ?_
            obtain ⟨c6, h⟩ := h
            refine j_icmp_lt O (tgt := 61) dX5_binds_53 (by decide) c6 (by decide) h (fun h => ?_) (fun h => ?_)
            · refine j_iconst O dX5_binds_61 ?_
              exact j_iret O hr dX5_binds_62 h
            · refine j_bipush (m := 6) O dX5_binds_56 bi_6 ?_
              refine j_goto O (tgt := 62) dX5_binds_58 (by decide) ?_
              exact j_iret O hr dX5_binds_62 h
          · refine j_iconst O dX5_binds_46 ?_
            refine j_goto O (tgt := 62) dX5_binds_47 (by decide) ?_
            exact j_iret O hr dX5_binds_62 h
        · refine j_iconst O dX5_binds_36 ?_
          refine j_goto O (tgt := 62) dX5_binds_37 (by decide) ?_
          exact j_iret O hr dX5_binds_62 h
      · refine j_iconst O dX5_binds_26 ?_
        refine j_goto O (tgt := 62) dX5_binds_27 (by decide) ?_
        exact j_iret O hr dX5_binds_62 h
    · refine j_iconst O dX5_binds_16 ?_
      refine j_goto O (tgt := 62) dX5_binds_17 (by decide) ?_
      exact j_iret O hr dX5_binds_62 h
  · refine j_iconst O dX5_binds_6 ?_
    refine j_goto O (tgt := 62) dX5_binds_7 (by decide) ?_
    exact j_iret O hr dX5_binds_62 h
theorem hy_X5_settle : (yX5_settle.cls = "DowryBoxesModel" ∧ yX5_settle.cls ≠ "java/lang/invoke/MethodHandle" ∧ yX5_settle.cls ≠ "java/lang/invoke/VarHandle" ∧ (parseMethodDescriptor yX5_settle.desc).map (fun d => d.parameters.length) = some 1) := by decide +kernel
theorem wk_X5_settle_63 {x : Cx} (O : OK x "DowryBoxesModel" cX5_settle 2) (hr : (xM x).sig.returnType = none) (hm : xn x = 2) {Q : Wd → Prop} (K0 : Wd → Prop) (this : Nat) (x1 : Int) (hK0 : ∀  (w : Wd), K0  w → J x (TV x Q) w 0 0 0 [(0, .ref (adG (xG x) (this))), (1, vI (x1))] []) (w : Wd) (h : wp_X5_settle_63 Q K0 this x1 w) : J x (TV x Q) w 0 0 63 [(0, .ref (adG (xG x) (this))), (1, vI (x1))] [] := by
  unfold wp_X5_settle_63 at h
  refine j_aload_n O 0 0 dX5_settle_63 rfl rfl ?_
  refine j_getA O cfX5 25 (Nat.le_of_ble_eq_true rfl) ⟨_, rfl⟩ q1593 dX5_settle_64 h (fun k1 h => ?_)
  refine j_aload_n O 0 0 dX5_settle_67 rfl rfl ?_
  refine j_getA O cfX5 28 (Nat.le_of_ble_eq_true rfl) ⟨_, rfl⟩ q1596 dX5_settle_68 h (fun k2 h => ?_)
  refine j_aload_n O 0 0 dX5_settle_71 rfl rfl ?_
  refine j_getI O cfX5 29 (Nat.le_of_ble_eq_true rfl) (.inl rfl) q1597 dX5_settle_72 h (fun v3 h => ?_)
  refine j_iald O dX5_settle_75 h (fun v4 h => ?_)
  refine j_aload_n O 0 0 dX5_settle_76 rfl rfl ?_
  refine j_getI O cfX5 23 (Nat.le_of_ble_eq_true rfl) (.inl rfl) q1591 dX5_settle_77 h (fun v5 h => ?_)
  refine j_iast O dX5_settle_80 h (fun w6 h => ?_)
  refine j_goto O (tgt := 0) dX5_settle_81 (by decide) ?_
  exact (J.sub [0, 1] rfl <| hK0  _ h)
theorem wk_X5_settle_0 {x : Cx} (O : OK x "DowryBoxesModel" cX5_settle 2) (hr : (xM x).sig.returnType = none) (hm : xn x = 2) {Q : Wd → Prop} (this : Nat) (x1 : Int) : ∀ (n : Nat) (w : Wd), wp_X5_settle_0 Q this x1 n w → J x (TV x Q) w 0 0 0 [(0, .ref (adG (xG x) (this))), (1, vI (x1))] [] := by
  intro n
  induction n with
  | zero => intro w h; exact False.elim h
  | succ n ih =>
    intro w h
    rw [wp_X5_settle_0] at h
    refine j_aload_n O 0 0 dX5_settle_0 rfl rfl ?_
    refine j_getI O cfX5 29 (Nat.le_of_ble_eq_true rfl) (.inl rfl) q1597 dX5_settle_1 h (fun v1 h => ?_)
    obtain ⟨c2, h⟩ := h
    refine j_if_le O (tgt := 101) dX5_settle_4 (by decide) c2 h (fun h => ?_) (fun h => ?_)
    · exact j_vret O hr dX5_settle_101 h
    · refine j_aload_n O 0 0 dX5_settle_7 rfl rfl ?_
      refine j_getA O cfX5 27 (Nat.le_of_ble_eq_true rfl) ⟨_, rfl⟩ q1595 dX5_settle_8 h (fun k3 h => ?_)
      refine j_aload_n O 0 0 dX5_settle_11 rfl rfl ?_
      refine j_getI O cfX5 29 (Nat.le_of_ble_eq_true rfl) (.inl rfl) q1597 dX5_settle_12 h (fun v4 h => ?_)
      refine j_iconst O dX5_settle_15 ?_
      refine j_isub O dX5_settle_16 ?_
      refine j_iald O dX5_settle_17 h (fun v5 h => ?_)
      refine fin_I O ⟨Nat.zero_le _, Nat.zero_le _⟩ (run_S (As := [vI (v5)]) (st := []) O (mt_X5_binds (xl x) (xG x) _ _ _ h) q2007 q2008 q131 q2009 hy_X5_binds.2 (Nat.le_of_ble_eq_true rfl) (Nat.le_of_ble_eq_true rfl) ⟨Nat.zero_le _, Nat.zero_le _⟩ rfl (Nat.le_of_ble_eq_true rfl) dX5_settle_18) (fun r6 w7 h => ?_)
      refine j_iload_n O 1 1 dX5_settle_21 rfl rfl ?_
      obtain ⟨c8, h⟩ := h
      obtain ⟨c9, h⟩ := h
      refine j_icmp_lt O (tgt := 101) dX5_settle_22 (by decide) c8 c9 h (fun h => ?_) (fun h => ?_)
      · exact j_vret O hr dX5_settle_101 h
      · refine j_aload_n O 0 0 dX5_settle_25 rfl rfl ?_
        refine j_dup O dX5_settle_26 rfl ?_
        refine j_getI O cfX5 29 (Nat.le_of_ble_eq_true rfl) (.inl rfl) q1597 dX5_settle_27 h (fun v10 h => ?_)
        refine j_iconst O dX5_settle_30 ?_
        refine j_isub O dX5_settle_31 ?_
        refine j_putI O cfX5 29 (Nat.le_of_ble_eq_true rfl) rfl q1597 rfl dX5_settle_32 h (fun w11 h => ?_)
        refine j_aload_n O 0 0 dX5_settle_35 rfl rfl ?_
        refine j_getA O cfX5 27 (Nat.le_of_ble_eq_true rfl) ⟨_, rfl⟩ q1595 dX5_settle_36 h (fun k12 h => ?_)
        refine j_aload_n O 0 0 dX5_settle_39 rfl rfl ?_
        refine j_getI O cfX5 29 (Nat.le_of_ble_eq_true rfl) (.inl rfl) q1597 dX5_settle_40 h (fun v13 h => ?_)
        refine j_iald O dX5_settle_43 h (fun v14 h => ?_)
        refine j_bipush (m := 29) O dX5_settle_44 bi_29 ?_
        obtain ⟨c15, h⟩ := h
        refine j_icmp_eq O (tgt := 63) dX5_settle_46 (by decide) c15 (by decide) h (fun h => ?_) (fun h => ?_)
        · exact (J.sub [0, 1] rfl <| wk_X5_settle_63 O hr hm _ _ _ ih _ h)
        · refine j_aload_n O 0 0 dX5_settle_49 rfl rfl ?_
          refine j_getA O cfX5 27 (Nat.le_of_ble_eq_true rfl) ⟨_, rfl⟩ q1595 dX5_settle_50 h (fun k16 h => ?_)
          refine j_aload_n O 0 0 dX5_settle_53 rfl rfl ?_
          refine j_getI O cfX5 29 (Nat.le_of_ble_eq_true rfl) (.inl rfl) q1597 dX5_settle_54 h (fun v17 h => ?_)
          refine j_iald O dX5_settle_57 h (fun v18 h => ?_)
          refine j_bipush (m := 30) O dX5_settle_58 bi_30 ?_
          obtain ⟨c19, h⟩ := h
          refine j_icmp_ne O (tgt := 84) dX5_settle_60 (by decide) c19 (by decide) h (fun h => ?_) (fun h => ?_)
          · refine j_aload_n O 0 0 dX5_settle_84 rfl rfl ?_
            refine j_aload_n O 0 0 dX5_settle_85 rfl rfl ?_
            refine j_getA O cfX5 27 (Nat.le_of_ble_eq_true rfl) ⟨_, rfl⟩ q1595 dX5_settle_86 h (fun k20 h => ?_)
            refine j_aload_n O 0 0 dX5_settle_89 rfl rfl ?_
            refine j_getI O cfX5 29 (Nat.le_of_ble_eq_true rfl) (.inl rfl) q1597 dX5_settle_90 h (fun v21 h => ?_)
            refine j_iald O dX5_settle_93 h (fun v22 h => ?_)
            refine j_iconst O dX5_settle_94 ?_
            obtain ⟨e24, h⟩ := h
            refine fin_V O ⟨Nat.zero_le _, Nat.zero_le _⟩ (run_V (As := [vI (v22), vI (0)]) (st := []) O (mt_X5_emit (xl x) (xG x) _ _ _ _ _ h) e24 cfX5.1 q1994 q1996 qs82 q131 q1997 hy_X5_emit (Nat.le_of_ble_eq_true rfl) (Nat.le_of_ble_eq_true rfl) ⟨Nat.zero_le _, Nat.zero_le _⟩ rfl (Nat.le_of_ble_eq_true rfl) dX5_settle_95) (fun w23 h => ?_)
            refine j_goto O (tgt := 0) dX5_settle_98 (by decide) ?_
            exact (J.sub [0, 1] rfl <| ih  _ h)
          · exact (J.sub [0, 1] rfl <| wk_X5_settle_63 O hr hm _ _ _ ih _ h)
theorem mt_X5_settle (l : Launch) (G : GW) (this : Nat) (p1 : Int) (w : Wd) (Q : Wd → Prop) (h : wp_X5_settle this p1 w Q) : MV l G yX5_settle cX5_settle 2 2 0 0 [.ref (adG G (this)), vI (p1)] w Q := by
  refine met_V (fun G => [.ref (adG G (this)), vI (p1)]) (by decide) (fun G => Nat.le_of_ble_eq_true rfl) (fun x O hl hm hr _ => ?_)
  subst hl
  have O : OK x "DowryBoxesModel" cX5_settle 2 := O
  have h : wp_X5_settle this p1 w Q := h
  unfold wp_X5_settle at h
  show J x (TV x Q) w 0 0 0 [(0, .ref (adG (xG x) (this))), (1, vI (p1))] []
  exact (J.sub [0, 1] rfl <| wk_X5_settle_0 O hr hm  _ _  FU  _ h)
theorem hy_X5_inner : (yX5_inner.cls = "DowryBoxesModel" ∧ yX5_inner.cls ≠ "java/lang/invoke/MethodHandle" ∧ yX5_inner.cls ≠ "java/lang/invoke/VarHandle" ∧ (parseMethodDescriptor yX5_inner.desc).map (fun d => d.parameters.length) = some 0) := by decide +kernel
theorem wk_X5_inner_33 {x : Cx} (O : OK x "DowryBoxesModel" cX5_inner 1) (hr : (xM x).sig.returnType = some .int) (hm : xn x = 3) {Q : Int → Wd → Prop} (K4 : Int → Int → Wd → Prop) (this : Nat) (x2 : Int) (s0 : Int) (hK4 : ∀ (y1 : Int) (y2 : Int) (w : Wd), K4 y1 y2 w → J x (TI x Q) w 0 0 4 [(0, .ref (adG (xG x) (this))), (1, vI (y1)), (2, vI (y2))] []) (w : Wd) (h : wp_X5_inner_33 Q K4 this x2 s0 w) : J x (TI x Q) w 0 0 33 [(0, .ref (adG (xG x) (this))), (2, vI (x2))] [vI (s0)] := by
  unfold wp_X5_inner_33 at h
  refine j_istore_n (L' := [(1, vI (s0)), (0, .ref (adG (xG x) (this))), (2, vI (x2))]) O 1 dX5_inner_33 rfl (by rw [hm]; decide) rfl ?_
  refine j_iinc (L' := [(2, vI (x2 + 1)), (1, vI (s0)), (0, .ref (adG (xG x) (this)))]) O 2 dX5_inner_34 rfl (by rw [hm]; decide) rfl ?_
  refine j_goto O (tgt := 4) dX5_inner_37 (by decide) ?_
  exact (J.sub [2, 1, 0] rfl <| hK4 _ _ _ h)
theorem wk_X5_inner_4 {x : Cx} (O : OK x "DowryBoxesModel" cX5_inner 1) (hr : (xM x).sig.returnType = some .int) (hm : xn x = 3) {Q : Int → Wd → Prop} (this : Nat) : ∀ (n : Nat) (x1 : Int) (x2 : Int) (w : Wd), wp_X5_inner_4 Q this n x1 x2 w → J x (TI x Q) w 0 0 4 [(0, .ref (adG (xG x) (this))), (1, vI (x1)), (2, vI (x2))] [] := by
  intro n
  induction n with
  | zero => intro x1 x2 w h; exact False.elim h
  | succ n ih =>
    intro x1 x2 w h
    rw [wp_X5_inner_4] at h
    refine j_iload_n O 2 2 dX5_inner_4 rfl rfl ?_
    refine j_aload_n O 0 0 dX5_inner_5 rfl rfl ?_
    refine j_getI O cfX5 29 (Nat.le_of_ble_eq_true rfl) (.inl rfl) q1597 dX5_inner_6 h (fun v1 h => ?_)
    obtain ⟨c2, h⟩ := h
    obtain ⟨c3, h⟩ := h
    refine j_icmp_ge O (tgt := 40) dX5_inner_9 (by decide) c2 c3 h (fun h => ?_) (fun h => ?_)
    · refine j_iload_n O 1 1 dX5_inner_40 rfl rfl ?_
      exact j_iret O hr dX5_inner_41 h
    · refine j_aload_n O 0 0 dX5_inner_12 rfl rfl ?_
      refine j_getA O cfX5 27 (Nat.le_of_ble_eq_true rfl) ⟨_, rfl⟩ q1595 dX5_inner_13 h (fun k4 h => ?_)
      refine j_iload_n O 2 2 dX5_inner_16 rfl rfl ?_
      refine j_iald O dX5_inner_17 h (fun v5 h => ?_)
      refine j_bipush (m := 31) O dX5_inner_18 bi_31 ?_
      obtain ⟨c6, h⟩ := h
      refine j_icmp_lt O (tgt := 32) dX5_inner_20 (by decide) c6 (by decide) h (fun h => ?_) (fun h => ?_)
      · refine j_iload_n O 1 1 dX5_inner_32 rfl rfl ?_
        exact (J.sub [0, 2] rfl <| wk_X5_inner_33 O hr hm _ _ _ _ ih _ h)
      · refine j_aload_n O 0 0 dX5_inner_23 rfl rfl ?_
        refine j_getA O cfX5 27 (Nat.le_of_ble_eq_true rfl) ⟨_, rfl⟩ q1595 dX5_inner_24 h (fun k7 h => ?_)
        refine j_iload_n O 2 2 dX5_inner_27 rfl rfl ?_
        refine j_iald O dX5_inner_28 h (fun v8 h => ?_)
        refine j_goto O (tgt := 33) dX5_inner_29 (by decide) ?_
        exact (J.sub [0, 2] rfl <| wk_X5_inner_33 O hr hm _ _ _ _ ih _ h)
theorem mt_X5_inner (l : Launch) (G : GW) (this : Nat) (w : Wd) (Q : Int → Wd → Prop) (h : wp_X5_inner this w Q) : MI l G yX5_inner cX5_inner 3 (.int) 1 0 0 [.ref (adG G (this))] w Q := by
  refine met_I (fun G => [.ref (adG G (this))]) (by decide) (fun G => Nat.le_of_ble_eq_true rfl) (fun x O hl hm hr => ?_)
  subst hl
  have O : OK x "DowryBoxesModel" cX5_inner 1 := O
  have h : wp_X5_inner this w Q := h
  unfold wp_X5_inner at h
  show J x (TI x Q) w 0 0 0 [(0, .ref (adG (xG x) (this)))] []
  refine j_iconst O dX5_inner_0 ?_
  refine j_istore_n (L' := [(1, vI ((-1))), (0, .ref (adG (xG x) (this)))]) O 1 dX5_inner_1 rfl (by rw [hm]; decide) rfl ?_
  refine j_iconst O dX5_inner_2 ?_
  refine j_istore_n (L' := [(2, vI (0)), (1, vI ((-1))), (0, .ref (adG (xG x) (this)))]) O 2 dX5_inner_3 rfl (by rw [hm]; decide) rfl ?_
  exact (J.sub [2, 1, 0] rfl <| wk_X5_inner_4 O hr hm  _  FU _ _ _ h)
theorem hy_X5_isCompared : (yX5_isCompared.cls = "DowryBoxesModel" ∧ yX5_isCompared.cls ≠ "java/lang/invoke/MethodHandle" ∧ yX5_isCompared.cls ≠ "java/lang/invoke/VarHandle" ∧ (parseMethodDescriptor yX5_isCompared.desc).map (fun d => d.parameters.length) = some 0) := by decide +kernel
theorem wk_X5_isCompared_7 {x : Cx} (O : OK x "DowryBoxesModel" cX5_isCompared 2) (hr : (xM x).sig.returnType = some .boolean) (hm : xn x = 2) {Q : Int → Wd → Prop} (X7 : Int → Wd → Prop) (this : Nat) (hX7 : ∀ (y1 : Int) (w : Wd), X7 y1 w → J x (TI x Q) w 0 0 36 [(0, .ref (adG (xG x) (this))), (1, vI (y1))] []) : ∀ (n : Nat) (x1 : Int) (w : Wd), wp_X5_isCompared_7 Q X7 this n x1 w → J x (TI x Q) w 0 0 7 [(0, .ref (adG (xG x) (this))), (1, vI (x1))] [] := by
  intro n
  induction n with
  | zero => intro x1 w h; exact False.elim h
  | succ n ih =>
    intro x1 w h
    rw [wp_X5_isCompared_7] at h
    refine j_iload_n O 1 1 dX5_isCompared_7 rfl rfl ?_
    obtain ⟨c1, h⟩ := h
    refine j_if_lt O (tgt := 36) dX5_isCompared_8 (by decide) c1 h (fun h => ?_) (fun h => ?_)
    · exact (J.sub [0, 1] rfl <| hX7 _ _ h)
    · refine j_aload_n O 0 0 dX5_isCompared_11 rfl rfl ?_
      refine j_getA O cfX5 27 (Nat.le_of_ble_eq_true rfl) ⟨_, rfl⟩ q1595 dX5_isCompared_12 h (fun k2 h => ?_)
      refine j_iload_n O 1 1 dX5_isCompared_15 rfl rfl ?_
      refine j_iald O dX5_isCompared_16 h (fun v3 h => ?_)
      refine j_i2l O dX5_isCompared_17 h (fun h => ?_)
      refine j_ldc2 (m := 20) O dX5_isCompared_18 q1787 l2_20 ?_
      refine j_ldc2 (m := 24) O dX5_isCompared_21 q2022 l2_24 ?_
      refine fin_I O ⟨Nat.zero_le _, Nat.zero_le _⟩ (run_S (As := [vL (v3), vL (20), vL (24)]) (st := []) O (mt_X5_in (xl x) (xG x) _ _ _ _ _ h) q1772 q1773 q131 q1774 hy_X5_in.2 (Nat.le_of_ble_eq_true rfl) (Nat.le_of_ble_eq_true rfl) ⟨Nat.zero_le _, Nat.zero_le _⟩ rfl (Nat.le_of_ble_eq_true rfl) dX5_isCompared_24) (fun r4 w5 h => ?_)
      obtain ⟨c6, h⟩ := h
      refine j_if_eq O (tgt := 36) dX5_isCompared_27 (by decide) c6 h (fun h => ?_) (fun h => ?_)
      · exact (J.sub [0, 1] rfl <| hX7 _ _ h)
      · refine j_iinc (L' := [(1, vI (x1 + (-1))), (0, .ref (adG (xG x) (this)))]) O 1 dX5_isCompared_30 rfl (by rw [hm]; decide) rfl ?_
        refine j_goto O (tgt := 7) dX5_isCompared_33 (by decide) ?_
        exact (J.sub [1, 0] rfl <| ih _ _ h)
theorem wk_X5_isCompared_36 {x : Cx} (O : OK x "DowryBoxesModel" cX5_isCompared 2) (hr : (xM x).sig.returnType = some .boolean) (hm : xn x = 2) {Q : Int → Wd → Prop} (this : Nat) (x1 : Int) (w : Wd) (h : wp_X5_isCompared_36 Q this x1 w) : J x (TI x Q) w 0 0 36 [(0, .ref (adG (xG x) (this))), (1, vI (x1))] [] := by
  unfold wp_X5_isCompared_36 at h
  refine j_iload_n O 1 1 dX5_isCompared_36 rfl rfl ?_
  obtain ⟨c1, h⟩ := h
  refine j_if_lt O (tgt := 63) dX5_isCompared_37 (by decide) c1 h (fun h => ?_) (fun h => ?_)
  · refine j_iconst O dX5_isCompared_63 ?_
    exact j_zret O hr dX5_isCompared_64 h
  · refine j_aload_n O 0 0 dX5_isCompared_40 rfl rfl ?_
    refine j_getA O cfX5 27 (Nat.le_of_ble_eq_true rfl) ⟨_, rfl⟩ q1595 dX5_isCompared_41 h (fun k2 h => ?_)
    refine j_iload_n O 1 1 dX5_isCompared_44 rfl rfl ?_
    refine j_iald O dX5_isCompared_45 h (fun v3 h => ?_)
    refine j_i2l O dX5_isCompared_46 h (fun h => ?_)
    refine j_ldc2 (m := 25) O dX5_isCompared_47 q2023 l2_25 ?_
    refine j_ldc2 (m := 27) O dX5_isCompared_50 q2024 l2_27 ?_
    refine fin_I O ⟨Nat.zero_le _, Nat.zero_le _⟩ (run_S (As := [vL (v3), vL (25), vL (27)]) (st := []) O (mt_X5_in (xl x) (xG x) _ _ _ _ _ h) q1772 q1773 q131 q1774 hy_X5_in.2 (Nat.le_of_ble_eq_true rfl) (Nat.le_of_ble_eq_true rfl) ⟨Nat.zero_le _, Nat.zero_le _⟩ rfl (Nat.le_of_ble_eq_true rfl) dX5_isCompared_53) (fun r4 w5 h => ?_)
    obtain ⟨c6, h⟩ := h
    refine j_if_eq O (tgt := 63) dX5_isCompared_56 (by decide) c6 h (fun h => ?_) (fun h => ?_)
    · refine j_iconst O dX5_isCompared_63 ?_
      exact j_zret O hr dX5_isCompared_64 h
    · refine j_iconst O dX5_isCompared_59 ?_
      refine j_goto O (tgt := 64) dX5_isCompared_60 (by decide) ?_
      exact j_zret O hr dX5_isCompared_64 h
theorem mt_X5_isCompared (l : Launch) (G : GW) (this : Nat) (w : Wd) (Q : Int → Wd → Prop) (h : wp_X5_isCompared this w Q) : MI l G yX5_isCompared cX5_isCompared 2 (.boolean) 2 0 0 [.ref (adG G (this))] w Q := by
  refine met_I (fun G => [.ref (adG G (this))]) (by decide) (fun G => Nat.le_of_ble_eq_true rfl) (fun x O hl hm hr => ?_)
  subst hl
  have O : OK x "DowryBoxesModel" cX5_isCompared 2 := O
  have h : wp_X5_isCompared this w Q := h
  unfold wp_X5_isCompared at h
  show J x (TI x Q) w 0 0 0 [(0, .ref (adG (xG x) (this)))] []
  refine j_aload_n O 0 0 dX5_isCompared_0 rfl rfl ?_
  refine j_getI O cfX5 29 (Nat.le_of_ble_eq_true rfl) (.inl rfl) q1597 dX5_isCompared_1 h (fun v1 h => ?_)
  refine j_iconst O dX5_isCompared_4 ?_
  refine j_isub O dX5_isCompared_5 ?_
  refine j_istore_n (L' := [(1, vI (v1 - 1)), (0, .ref (adG (xG x) (this)))]) O 1 dX5_isCompared_6 rfl (by rw [hm]; decide) rfl ?_
  refine (J.sub [1, 0] rfl <| wk_X5_isCompared_7 O hr hm _ _ (fun z2 w3 h => ?_) FU _ _ h)
  exact (J.sub [0, 1] rfl <| wk_X5_isCompared_36 O hr hm  _ _  _ h)
theorem hy_X5_behindSum : (yX5_behindSum.cls = "DowryBoxesModel" ∧ yX5_behindSum.cls ≠ "java/lang/invoke/MethodHandle" ∧ yX5_behindSum.cls ≠ "java/lang/invoke/VarHandle" ∧ (parseMethodDescriptor yX5_behindSum.desc).map (fun d => d.parameters.length) = some 1) := by decide +kernel
theorem wk_X5_behindSum_224 {x : Cx} (O : OK x "DowryBoxesModel" cX5_behindSum 4) (hr : (xM x).sig.returnType = some .int) (hm : xn x = 4) {Q : Int → Wd → Prop} (this : Nat) (x2 : Int) (s0 : Int) (s1 : Nat) (w : Wd) (h : wp_X5_behindSum_224 Q this x2 s0 s1 w) : J x (TI x Q) w 0 0 224 [(0, .ref (adG (xG x) (this))), (2, vI (x2))] [vI (s0), .ref (adG (xG x) (s1))] := by
  unfold wp_X5_behindSum_224 at h
  obtain ⟨e2, h⟩ := h
  refine fin_V O ⟨Nat.zero_le _, Nat.zero_le _⟩ (run_V (As := [vI (s0)]) (st := []) O (mt_X5_must (xl x) (xG x) _ _ _ _ h) e2 cfX5.1 q1952 q1954 qs72 q131 q1955 hy_X5_must (Nat.le_of_ble_eq_true rfl) (Nat.le_of_ble_eq_true rfl) ⟨Nat.zero_le _, Nat.zero_le _⟩ rfl (Nat.le_of_ble_eq_true rfl) dX5_behindSum_224) (fun w1 h => ?_)
  refine j_aload_n O 0 0 dX5_behindSum_227 rfl rfl ?_
  refine j_getI O cfX5 19 (Nat.le_of_ble_eq_true rfl) (.inr (.inl rfl)) q1587 dX5_behindSum_228 h (fun v3 h => ?_)
  obtain ⟨c4, h⟩ := h
  refine j_if_ne O (tgt := 245) dX5_behindSum_231 (by decide) c4 h (fun h => ?_) (fun h => ?_)
  · refine j_iconst O dX5_behindSum_245 ?_
    exact j_iret O hr dX5_behindSum_246 h
  · refine j_aload_n O 0 0 dX5_behindSum_234 rfl rfl ?_
    refine j_iconst O dX5_behindSum_235 ?_
    obtain ⟨e6, h⟩ := h
    refine fin_V O ⟨Nat.zero_le _, Nat.zero_le _⟩ (run_V (As := [vI (5)]) (st := []) O (mt_X5_settle (xl x) (xG x) _ _ _ _ h) e6 cfX5.1 q2010 q2012 qs85 q131 q2013 hy_X5_settle (Nat.le_of_ble_eq_true rfl) (Nat.le_of_ble_eq_true rfl) ⟨Nat.zero_le _, Nat.zero_le _⟩ rfl (Nat.le_of_ble_eq_true rfl) dX5_behindSum_236) (fun w5 h => ?_)
    refine j_aload_n O 0 0 dX5_behindSum_239 rfl rfl ?_
    refine j_iload_n O 1 2 dX5_behindSum_240 rfl rfl ?_
    refine j_iconst O dX5_behindSum_241 ?_
    obtain ⟨e8, h⟩ := h
    refine fin_V O ⟨Nat.zero_le _, Nat.zero_le _⟩ (run_V (As := [vI (x2), vI (0)]) (st := []) O (mt_X5_push (xl x) (xG x) _ _ _ _ _ h) e8 cfX5.1 q1965 q1967 qs75 q131 q1968 hy_X5_push (Nat.le_of_ble_eq_true rfl) (Nat.le_of_ble_eq_true rfl) ⟨Nat.zero_le _, Nat.zero_le _⟩ rfl (Nat.le_of_ble_eq_true rfl) dX5_behindSum_242) (fun w7 h => ?_)
    refine j_iconst O dX5_behindSum_245 ?_
    exact j_iret O hr dX5_behindSum_246 h
theorem wk_X5_behindSum_219 {x : Cx} (O : OK x "DowryBoxesModel" cX5_behindSum 4) (hr : (xM x).sig.returnType = some .int) (hm : xn x = 4) {Q : Int → Wd → Prop} (this : Nat) (x2 : Int) (s0 : Nat) (w : Wd) (h : wp_X5_behindSum_219 Q this x2 s0 w) : J x (TI x Q) w 0 0 219 [(0, .ref (adG (xG x) (this))), (2, vI (x2))] [.ref (adG (xG x) (s0))] := by
  unfold wp_X5_behindSum_219 at h
  refine j_iconst O dX5_behindSum_219 ?_
  refine j_goto O (tgt := 224) dX5_behindSum_220 (by decide) ?_
  exact (J.sub [0, 1] rfl <| wk_X5_behindSum_224 O hr hm  _ _ _ _  _ h)
theorem wk_X5_behindSum_202 {x : Cx} (O : OK x "DowryBoxesModel" cX5_behindSum 4) (hr : (xM x).sig.returnType = some .int) (hm : xn x = 4) {Q : Int → Wd → Prop} (this : Nat) (s0 : Int) (w : Wd) (h : wp_X5_behindSum_202 Q this s0 w) : J x (TI x Q) w 0 0 202 [(0, .ref (adG (xG x) (this)))] [vI (s0)] := by
  unfold wp_X5_behindSum_202 at h
  refine j_istore_n (L' := [(2, vI (s0)), (0, .ref (adG (xG x) (this)))]) O 2 dX5_behindSum_202 rfl (by rw [hm]; decide) rfl ?_
  refine j_aload_n O 1 0 dX5_behindSum_203 rfl rfl ?_
  refine j_iload_n O 0 2 dX5_behindSum_204 rfl rfl ?_
  refine j_bipush (m := 27) O dX5_behindSum_205 bi_27 ?_
  obtain ⟨c1, h⟩ := h
  refine j_icmp_ne O (tgt := 219) dX5_behindSum_207 (by decide) c1 (by decide) h (fun h => ?_) (fun h => ?_)
  · exact (J.sub [1, 0] rfl <| wk_X5_behindSum_219 O hr hm  _ _ _  _ h)
  · refine j_aload_n O 1 0 dX5_behindSum_210 rfl rfl ?_
    refine j_bipush (m := 61) O dX5_behindSum_211 bi_61 ?_
    obtain ⟨e4, h⟩ := h
    refine fin_I O ⟨Nat.zero_le _, Nat.zero_le _⟩ (run_V (As := [vI (61)]) (st := [.ref (adG (xG x) (this))]) O (mt_X5_isSign (xl x) (xG x) _ _ _ _ h) e4 cfX5.1 q1969 q1971 qs76 q131 q1972 hy_X5_isSign (Nat.le_of_ble_eq_true rfl) (Nat.le_of_ble_eq_true rfl) ⟨Nat.zero_le _, Nat.zero_le _⟩ rfl (Nat.le_of_ble_eq_true rfl) dX5_behindSum_213) (fun r2 w3 h => ?_)
    obtain ⟨c5, h⟩ := h
    refine j_if_eq O (tgt := 223) dX5_behindSum_216 (by decide) c5 h (fun h => ?_) (fun h => ?_)
    · refine j_iconst O dX5_behindSum_223 ?_
      exact (J.sub [1, 0] rfl <| wk_X5_behindSum_224 O hr hm  _ _ _ _  _ h)
    · exact (J.sub [1, 0] rfl <| wk_X5_behindSum_219 O hr hm  _ _ _  _ h)
theorem wk_X5_behindSum_163 {x : Cx} (O : OK x "DowryBoxesModel" cX5_behindSum 4) (hr : (xM x).sig.returnType = some .int) (hm : xn x = 4) {Q : Int → Wd → Prop} (this : Nat) (w : Wd) (h : wp_X5_behindSum_163 Q this w) : J x (TI x Q) w 0 0 163 [(0, .ref (adG (xG x) (this)))] [] := by
  unfold wp_X5_behindSum_163 at h
  refine j_aload_n O 0 0 dX5_behindSum_163 rfl rfl ?_
  obtain ⟨e3, h⟩ := h
  refine fin_I O ⟨Nat.zero_le _, Nat.zero_le _⟩ (run_V (As := []) (st := []) O (mt_X5_isCompared (xl x) (xG x) _ _ _ h) e3 cfX5.1 q2018 q2020 qs87 q131 q2021 hy_X5_isCompared (Nat.le_of_ble_eq_true rfl) (Nat.le_of_ble_eq_true rfl) ⟨Nat.zero_le _, Nat.zero_le _⟩ rfl (Nat.le_of_ble_eq_true rfl) dX5_behindSum_164) (fun r1 w2 h => ?_)
  obtain ⟨c4, h⟩ := h
  refine j_if_eq O (tgt := 172) dX5_behindSum_167 (by decide) c4 h (fun h => ?_) (fun h => ?_)
  · refine j_aload_n O 0 0 dX5_behindSum_172 rfl rfl ?_
    refine j_bipush (m := 60) O dX5_behindSum_173 bi_60 ?_
    obtain ⟨e7, h⟩ := h
    refine fin_I O ⟨Nat.zero_le _, Nat.zero_le _⟩ (run_V (As := [vI (60)]) (st := []) O (mt_X5_isSign (xl x) (xG x) _ _ _ _ h) e7 cfX5.1 q1969 q1971 qs76 q131 q1972 hy_X5_isSign (Nat.le_of_ble_eq_true rfl) (Nat.le_of_ble_eq_true rfl) ⟨Nat.zero_le _, Nat.zero_le _⟩ rfl (Nat.le_of_ble_eq_true rfl) dX5_behindSum_175) (fun r5 w6 h => ?_)
    obtain ⟨c8, h⟩ := h
    refine j_if_eq O (tgt := 186) dX5_behindSum_178 (by decide) c8 h (fun h => ?_) (fun h => ?_)
    · refine j_aload_n O 0 0 dX5_behindSum_186 rfl rfl ?_
      refine j_bipush (m := 62) O dX5_behindSum_187 bi_62 ?_
      obtain ⟨e11, h⟩ := h
      refine fin_I O ⟨Nat.zero_le _, Nat.zero_le _⟩ (run_V (As := [vI (62)]) (st := []) O (mt_X5_isSign (xl x) (xG x) _ _ _ _ h) e11 cfX5.1 q1969 q1971 qs76 q131 q1972 hy_X5_isSign (Nat.le_of_ble_eq_true rfl) (Nat.le_of_ble_eq_true rfl) ⟨Nat.zero_le _, Nat.zero_le _⟩ rfl (Nat.le_of_ble_eq_true rfl) dX5_behindSum_189) (fun r9 w10 h => ?_)
      obtain ⟨c12, h⟩ := h
      refine j_if_eq O (tgt := 200) dX5_behindSum_192 (by decide) c12 h (fun h => ?_) (fun h => ?_)
      · refine j_bipush (m := 27) O dX5_behindSum_200 bi_27 ?_
        exact (J.sub [0] rfl <| wk_X5_behindSum_202 O hr hm  _ _  _ h)
      · refine j_bipush (m := 26) O dX5_behindSum_195 bi_26 ?_
        refine j_goto O (tgt := 202) dX5_behindSum_197 (by decide) ?_
        exact (J.sub [0] rfl <| wk_X5_behindSum_202 O hr hm  _ _  _ h)
    · refine j_bipush (m := 25) O dX5_behindSum_181 bi_25 ?_
      refine j_goto O (tgt := 202) dX5_behindSum_183 (by decide) ?_
      exact (J.sub [0] rfl <| wk_X5_behindSum_202 O hr hm  _ _  _ h)
  · refine j_iconst O dX5_behindSum_170 ?_
    exact j_iret O hr dX5_behindSum_171 h
theorem wk_X5_behindSum_71 {x : Cx} (O : OK x "DowryBoxesModel" cX5_behindSum 4) (hr : (xM x).sig.returnType = some .int) (hm : xn x = 4) {Q : Int → Wd → Prop} (this : Nat) (x1 : Int) (s0 : Int) (w : Wd) (h : wp_X5_behindSum_71 Q this x1 s0 w) : J x (TI x Q) w 0 0 71 [(0, .ref (adG (xG x) (this))), (1, vI (x1))] [vI (s0)] := by
  unfold wp_X5_behindSum_71 at h
  refine j_istore_n (L' := [(2, vI (s0)), (0, .ref (adG (xG x) (this))), (1, vI (x1))]) O 2 dX5_behindSum_71 rfl (by rw [hm]; decide) rfl ?_
  refine j_iload_n O 0 2 dX5_behindSum_72 rfl rfl ?_
  refine j_iconst O dX5_behindSum_73 ?_
  obtain ⟨c1, h⟩ := h
  refine j_icmp_eq O (tgt := 97) dX5_behindSum_74 (by decide) c1 (by decide) h (fun h => ?_) (fun h => ?_)
  · refine j_aload_n O 1 0 dX5_behindSum_97 rfl rfl ?_
    obtain ⟨e4, h⟩ := h
    refine fin_I O ⟨Nat.zero_le _, Nat.zero_le _⟩ (run_V (As := []) (st := []) O (mt_X5_inner (xl x) (xG x) _ _ _ h) e4 cfX5.1 q2014 q2016 qs86 q131 q2017 hy_X5_inner (Nat.le_of_ble_eq_true rfl) (Nat.le_of_ble_eq_true rfl) ⟨Nat.zero_le _, Nat.zero_le _⟩ rfl (Nat.le_of_ble_eq_true rfl) dX5_behindSum_98) (fun r2 w3 h => ?_)
    refine j_istore_n (L' := [(3, vI (r2)), (2, vI (s0)), (0, .ref (adG (xG x) (this))), (1, vI (x1))]) O 3 dX5_behindSum_101 rfl (by rw [hm]; decide) rfl ?_
    refine j_iload_n O 0 3 dX5_behindSum_102 rfl rfl ?_
    refine j_bipush (m := 32) O dX5_behindSum_103 bi_32 ?_
    obtain ⟨c5, h⟩ := h
    refine j_icmp_ne O (tgt := 152) dX5_behindSum_105 (by decide) c5 (by decide) h (fun h => ?_) (fun h => ?_)
    · refine j_iload_n O 0 3 dX5_behindSum_152 rfl rfl ?_
      refine j_iconst O dX5_behindSum_153 ?_
      obtain ⟨c6, h⟩ := h
      refine j_icmp_ne O (tgt := 163) dX5_behindSum_154 (by decide) c6 (by decide) h (fun h => ?_) (fun h => ?_)
      · exact (J.sub [2] rfl <| wk_X5_behindSum_163 O hr hm  _  _ h)
      · refine j_iload_n O 3 1 dX5_behindSum_157 rfl rfl ?_
        obtain ⟨c7, h⟩ := h
        refine j_if_ne O (tgt := 163) dX5_behindSum_158 (by decide) c7 h (fun h => ?_) (fun h => ?_)
        · exact (J.sub [2] rfl <| wk_X5_behindSum_163 O hr hm  _  _ h)
        · refine j_iconst O dX5_behindSum_161 ?_
          exact j_iret O hr dX5_behindSum_162 h
    · refine j_aload_n O 2 0 dX5_behindSum_108 rfl rfl ?_
      refine j_aload_n O 2 0 dX5_behindSum_109 rfl rfl ?_
      refine j_bipush (m := 93) O dX5_behindSum_110 bi_93 ?_
      obtain ⟨e10, h⟩ := h
      refine fin_I O ⟨Nat.zero_le _, Nat.zero_le _⟩ (run_V (As := [vI (93)]) (st := [.ref (adG (xG x) (this))]) O (mt_X5_isSign (xl x) (xG x) _ _ _ _ h) e10 cfX5.1 q1969 q1971 qs76 q131 q1972 hy_X5_isSign (Nat.le_of_ble_eq_true rfl) (Nat.le_of_ble_eq_true rfl) ⟨Nat.zero_le _, Nat.zero_le _⟩ rfl (Nat.le_of_ble_eq_true rfl) dX5_behindSum_112) (fun r8 w9 h => ?_)
      obtain ⟨e12, h⟩ := h
      refine fin_V O ⟨Nat.zero_le _, Nat.zero_le _⟩ (run_V (As := [vI (r8)]) (st := []) O (mt_X5_must (xl x) (xG x) _ _ _ _ h) e12 cfX5.1 q1952 q1954 qs72 q131 q1955 hy_X5_must (Nat.le_of_ble_eq_true rfl) (Nat.le_of_ble_eq_true rfl) ⟨Nat.zero_le _, Nat.zero_le _⟩ rfl (Nat.le_of_ble_eq_true rfl) dX5_behindSum_115) (fun w11 h => ?_)
      refine j_aload_n O 2 0 dX5_behindSum_118 rfl rfl ?_
      refine j_getI O cfX5 19 (Nat.le_of_ble_eq_true rfl) (.inr (.inl rfl)) q1587 dX5_behindSum_119 h (fun v13 h => ?_)
      obtain ⟨c14, h⟩ := h
      refine j_if_ne O (tgt := 150) dX5_behindSum_122 (by decide) c14 h (fun h => ?_) (fun h => ?_)
      · refine j_iconst O dX5_behindSum_150 ?_
        exact j_iret O hr dX5_behindSum_151 h
      · refine j_aload_n O 2 0 dX5_behindSum_125 rfl rfl ?_
        refine j_iconst O dX5_behindSum_126 ?_
        obtain ⟨e16, h⟩ := h
        refine fin_V O ⟨Nat.zero_le _, Nat.zero_le _⟩ (run_V (As := [vI (5)]) (st := []) O (mt_X5_settle (xl x) (xG x) _ _ _ _ h) e16 cfX5.1 q2010 q2012 qs85 q131 q2013 hy_X5_settle (Nat.le_of_ble_eq_true rfl) (Nat.le_of_ble_eq_true rfl) ⟨Nat.zero_le _, Nat.zero_le _⟩ rfl (Nat.le_of_ble_eq_true rfl) dX5_behindSum_127) (fun w15 h => ?_)
        refine j_aload_n O 2 0 dX5_behindSum_130 rfl rfl ?_
        refine j_dup O dX5_behindSum_131 rfl ?_
        refine j_getI O cfX5 29 (Nat.le_of_ble_eq_true rfl) (.inl rfl) q1597 dX5_behindSum_132 h (fun v17 h => ?_)
        refine j_iconst O dX5_behindSum_135 ?_
        refine j_isub O dX5_behindSum_136 ?_
        refine j_putI O cfX5 29 (Nat.le_of_ble_eq_true rfl) rfl q1597 rfl dX5_behindSum_137 h (fun w18 h => ?_)
        refine j_aload_n O 2 0 dX5_behindSum_140 rfl rfl ?_
        refine j_dup O dX5_behindSum_141 rfl ?_
        refine j_getI O cfX5 30 (Nat.le_of_ble_eq_true rfl) (.inl rfl) q1598 dX5_behindSum_142 h (fun v19 h => ?_)
        refine j_iconst O dX5_behindSum_145 ?_
        refine j_isub O dX5_behindSum_146 ?_
        refine j_putI O cfX5 30 (Nat.le_of_ble_eq_true rfl) rfl q1598 rfl dX5_behindSum_147 h (fun w20 h => ?_)
        refine j_iconst O dX5_behindSum_150 ?_
        exact j_iret O hr dX5_behindSum_151 h
  · refine j_aload_n O 1 0 dX5_behindSum_77 rfl rfl ?_
    refine j_iload_n O 0 2 dX5_behindSum_78 rfl rfl ?_
    refine fin_I O ⟨Nat.zero_le _, Nat.zero_le _⟩ (run_S (As := [vI (s0)]) (st := [.ref (adG (xG x) (this))]) O (mt_X5_binds (xl x) (xG x) _ _ _ h) q2007 q2008 q131 q2009 hy_X5_binds.2 (Nat.le_of_ble_eq_true rfl) (Nat.le_of_ble_eq_true rfl) ⟨Nat.zero_le _, Nat.zero_le _⟩ rfl (Nat.le_of_ble_eq_true rfl) dX5_behindSum_79) (fun r21 w22 h => ?_)
    obtain ⟨e24, h⟩ := h
    refine fin_V O ⟨Nat.zero_le _, Nat.zero_le _⟩ (run_V (As := [vI (r21)]) (st := []) O (mt_X5_settle (xl x) (xG x) _ _ _ _ h) e24 cfX5.1 q2010 q2012 qs85 q131 q2013 hy_X5_settle (Nat.le_of_ble_eq_true rfl) (Nat.le_of_ble_eq_true rfl) ⟨Nat.zero_le _, Nat.zero_le _⟩ rfl (Nat.le_of_ble_eq_true rfl) dX5_behindSum_82) (fun w23 h => ?_)
    refine j_aload_n O 1 0 dX5_behindSum_85 rfl rfl ?_
    refine j_iload_n O 0 2 dX5_behindSum_86 rfl rfl ?_
    refine j_iconst O dX5_behindSum_87 ?_
    obtain ⟨e26, h⟩ := h
    refine fin_V O ⟨Nat.zero_le _, Nat.zero_le _⟩ (run_V (As := [vI (s0), vI (0)]) (st := []) O (mt_X5_push (xl x) (xG x) _ _ _ _ _ h) e26 cfX5.1 q1965 q1967 qs75 q131 q1968 hy_X5_push (Nat.le_of_ble_eq_true rfl) (Nat.le_of_ble_eq_true rfl) ⟨Nat.zero_le _, Nat.zero_le _⟩ rfl (Nat.le_of_ble_eq_true rfl) dX5_behindSum_88) (fun w25 h => ?_)
    refine j_aload_n O 1 0 dX5_behindSum_91 rfl rfl ?_
    obtain ⟨e28, h⟩ := h
    refine fin_V O ⟨Nat.zero_le _, Nat.zero_le _⟩ (run_V (As := []) (st := []) O (mt_X5_next (xl x) (xG x) _ _ _ h) e28 cfX5.1 q1930 q1932 qs69 q131 q1933 hy_X5_next (Nat.le_of_ble_eq_true rfl) (Nat.le_of_ble_eq_true rfl) ⟨Nat.zero_le _, Nat.zero_le _⟩ rfl (Nat.le_of_ble_eq_true rfl) dX5_behindSum_92) (fun w27 h => ?_)
    refine j_iconst O dX5_behindSum_95 ?_
    exact j_iret O hr dX5_behindSum_96 h
theorem mt_X5_behindSum (l : Launch) (G : GW) (this : Nat) (p1 : Int) (w : Wd) (Q : Int → Wd → Prop) (h : wp_X5_behindSum this p1 w Q) : MI l G yX5_behindSum cX5_behindSum 4 (.int) 4 0 0 [.ref (adG G (this)), vI (p1)] w Q := by
  refine met_I (fun G => [.ref (adG G (this)), vI (p1)]) (by decide) (fun G => Nat.le_of_ble_eq_true rfl) (fun x O hl hm hr => ?_)
  subst hl
  have O : OK x "DowryBoxesModel" cX5_behindSum 4 := O
  have h : wp_X5_behindSum this p1 w Q := h
  unfold wp_X5_behindSum at h
  show J x (TI x Q) w 0 0 0 [(0, .ref (adG (xG x) (this))), (1, vI (p1))] []
  refine j_aload_n O 0 0 dX5_behindSum_0 rfl rfl ?_
  refine j_bipush (m := 43) O dX5_behindSum_1 bi_43 ?_
  obtain ⟨e3, h⟩ := h
  refine fin_I O ⟨Nat.zero_le _, Nat.zero_le _⟩ (run_V (As := [vI (43)]) (st := []) O (mt_X5_isSign (xl x) (xG x) _ _ _ _ h) e3 cfX5.1 q1969 q1971 qs76 q131 q1972 hy_X5_isSign (Nat.le_of_ble_eq_true rfl) (Nat.le_of_ble_eq_true rfl) ⟨Nat.zero_le _, Nat.zero_le _⟩ rfl (Nat.le_of_ble_eq_true rfl) dX5_behindSum_3) (fun r1 w2 h => ?_)
  obtain ⟨c4, h⟩ := h
  refine j_if_eq O (tgt := 14) dX5_behindSum_6 (by decide) c4 h (fun h => ?_) (fun h => ?_)
  · refine j_aload_n O 0 0 dX5_behindSum_14 rfl rfl ?_
    refine j_bipush (m := 45) O dX5_behindSum_15 bi_45 ?_
    obtain ⟨e7, h⟩ := h
    refine fin_I O ⟨Nat.zero_le _, Nat.zero_le _⟩ (run_V (As := [vI (45)]) (st := []) O (mt_X5_isSign (xl x) (xG x) _ _ _ _ h) e7 cfX5.1 q1969 q1971 qs76 q131 q1972 hy_X5_isSign (Nat.le_of_ble_eq_true rfl) (Nat.le_of_ble_eq_true rfl) ⟨Nat.zero_le _, Nat.zero_le _⟩ rfl (Nat.le_of_ble_eq_true rfl) dX5_behindSum_17) (fun r5 w6 h => ?_)
    obtain ⟨c8, h⟩ := h
    refine j_if_eq O (tgt := 28) dX5_behindSum_20 (by decide) c8 h (fun h => ?_) (fun h => ?_)
    · refine j_aload_n O 0 0 dX5_behindSum_28 rfl rfl ?_
      refine j_bipush (m := 42) O dX5_behindSum_29 bi_42 ?_
      obtain ⟨e11, h⟩ := h
      refine fin_I O ⟨Nat.zero_le _, Nat.zero_le _⟩ (run_V (As := [vI (42)]) (st := []) O (mt_X5_isSign (xl x) (xG x) _ _ _ _ h) e11 cfX5.1 q1969 q1971 qs76 q131 q1972 hy_X5_isSign (Nat.le_of_ble_eq_true rfl) (Nat.le_of_ble_eq_true rfl) ⟨Nat.zero_le _, Nat.zero_le _⟩ rfl (Nat.le_of_ble_eq_true rfl) dX5_behindSum_31) (fun r9 w10 h => ?_)
      obtain ⟨c12, h⟩ := h
      refine j_if_eq O (tgt := 42) dX5_behindSum_34 (by decide) c12 h (fun h => ?_) (fun h => ?_)
      · refine j_aload_n O 0 0 dX5_behindSum_42 rfl rfl ?_
        refine j_bipush (m := 47) O dX5_behindSum_43 bi_47 ?_
        obtain ⟨e15, h⟩ := h
        refine fin_I O ⟨Nat.zero_le _, Nat.zero_le _⟩ (run_V (As := [vI (47)]) (st := []) O (mt_X5_isSign (xl x) (xG x) _ _ _ _ h) e15 cfX5.1 q1969 q1971 qs76 q131 q1972 hy_X5_isSign (Nat.le_of_ble_eq_true rfl) (Nat.le_of_ble_eq_true rfl) ⟨Nat.zero_le _, Nat.zero_le _⟩ rfl (Nat.le_of_ble_eq_true rfl) dX5_behindSum_45) (fun r13 w14 h => ?_)
        obtain ⟨c16, h⟩ := h
        refine j_if_eq O (tgt := 56) dX5_behindSum_48 (by decide) c16 h (fun h => ?_) (fun h => ?_)
        · refine j_aload_n O 0 0 dX5_behindSum_56 rfl rfl ?_
          refine j_bipush (m := 37) O dX5_behindSum_57 bi_37 ?_
          obtain ⟨e19, h⟩ := h
          refine fin_I O ⟨Nat.zero_le _, Nat.zero_le _⟩ (run_V (As := [vI (37)]) (st := []) O (mt_X5_isSign (xl x) (xG x) _ _ _ _ h) e19 cfX5.1 q1969 q1971 qs76 q131 q1972 hy_X5_isSign (Nat.le_of_ble_eq_true rfl) (Nat.le_of_ble_eq_true rfl) ⟨Nat.zero_le _, Nat.zero_le _⟩ rfl (Nat.le_of_ble_eq_true rfl) dX5_behindSum_59) (fun r17 w18 h => ?_)
          obtain ⟨c20, h⟩ := h
          refine j_if_eq O (tgt := 70) dX5_behindSum_62 (by decide) c20 h (fun h => ?_) (fun h => ?_)
          · refine j_iconst O dX5_behindSum_70 ?_
            exact (J.sub [0, 1] rfl <| wk_X5_behindSum_71 O hr hm  _ _ _  _ h)
          · refine j_bipush (m := 24) O dX5_behindSum_65 bi_24 ?_
            refine j_goto O (tgt := 71) dX5_behindSum_67 (by decide) ?_
            exact (J.sub [0, 1] rfl <| wk_X5_behindSum_71 O hr hm  _ _ _  _ h)
        · refine j_bipush (m := 23) O dX5_behindSum_51 bi_23 ?_
          refine j_goto O (tgt := 71) dX5_behindSum_53 (by decide) ?_
          exact (J.sub [0, 1] rfl <| wk_X5_behindSum_71 O hr hm  _ _ _  _ h)
      · refine j_bipush (m := 22) O dX5_behindSum_37 bi_22 ?_
        refine j_goto O (tgt := 71) dX5_behindSum_39 (by decide) ?_
        exact (J.sub [0, 1] rfl <| wk_X5_behindSum_71 O hr hm  _ _ _  _ h)
    · refine j_bipush (m := 21) O dX5_behindSum_23 bi_21 ?_
      refine j_goto O (tgt := 71) dX5_behindSum_25 (by decide) ?_
      exact (J.sub [0, 1] rfl <| wk_X5_behindSum_71 O hr hm  _ _ _  _ h)
  · refine j_bipush (m := 20) O dX5_behindSum_9 bi_20 ?_
    refine j_goto O (tgt := 71) dX5_behindSum_11 (by decide) ?_
    exact (J.sub [0, 1] rfl <| wk_X5_behindSum_71 O hr hm  _ _ _  _ h)
theorem hy_X5_behindTest : (yX5_behindTest.cls = "DowryBoxesModel" ∧ yX5_behindTest.cls ≠ "java/lang/invoke/MethodHandle" ∧ yX5_behindTest.cls ≠ "java/lang/invoke/VarHandle" ∧ (parseMethodDescriptor yX5_behindTest.desc).map (fun d => d.parameters.length) = some 0) := by decide +kernel
theorem wk_X5_behindTest_66 {x : Cx} (O : OK x "DowryBoxesModel" cX5_behindTest 4) (hr : (xM x).sig.returnType = some .int) (hm : xn x = 2) {Q : Int → Wd → Prop} (this : Nat) (s0 : Int) (s1 : Nat) (w : Wd) (h : wp_X5_behindTest_66 Q this s0 s1 w) : J x (TI x Q) w 0 0 66 [(0, .ref (adG (xG x) (this)))] [vI (s0), .ref (adG (xG x) (s1))] := by
  unfold wp_X5_behindTest_66 at h
  refine j_iconst O dX5_behindTest_66 ?_
  obtain ⟨e2, h⟩ := h
  refine fin_V O ⟨Nat.zero_le _, Nat.zero_le _⟩ (run_V (As := [vI (s0), vI (0)]) (st := []) O (mt_X5_emit (xl x) (xG x) _ _ _ _ _ h) e2 cfX5.1 q1994 q1996 qs82 q131 q1997 hy_X5_emit (Nat.le_of_ble_eq_true rfl) (Nat.le_of_ble_eq_true rfl) ⟨Nat.zero_le _, Nat.zero_le _⟩ rfl (Nat.le_of_ble_eq_true rfl) dX5_behindTest_67) (fun w1 h => ?_)
  refine j_aload_n O 0 0 dX5_behindTest_70 rfl rfl ?_
  obtain ⟨e4, h⟩ := h
  refine fin_V O ⟨Nat.zero_le _, Nat.zero_le _⟩ (run_V (As := []) (st := []) O (mt_X5_next (xl x) (xG x) _ _ _ h) e4 cfX5.1 q1930 q1932 qs69 q131 q1933 hy_X5_next (Nat.le_of_ble_eq_true rfl) (Nat.le_of_ble_eq_true rfl) ⟨Nat.zero_le _, Nat.zero_le _⟩ rfl (Nat.le_of_ble_eq_true rfl) dX5_behindTest_71) (fun w3 h => ?_)
  refine j_iconst O dX5_behindTest_74 ?_
  exact j_iret O hr dX5_behindTest_75 h
theorem wk_X5_behindTest_47 {x : Cx} (O : OK x "DowryBoxesModel" cX5_behindTest 4) (hr : (xM x).sig.returnType = some .int) (hm : xn x = 2) {Q : Int → Wd → Prop} (this : Nat) (x1 : Int) (s0 : Int) (s1 : Nat) (w : Wd) (h : wp_X5_behindTest_47 Q this x1 s0 s1 w) : J x (TI x Q) w 0 0 47 [(0, .ref (adG (xG x) (this))), (1, vI (x1))] [vI (s0), .ref (adG (xG x) (s1))] := by
  unfold wp_X5_behindTest_47 at h
  refine j_aload_n O 0 0 dX5_behindTest_47 rfl rfl ?_
  refine j_getI O cfX5 23 (Nat.le_of_ble_eq_true rfl) (.inl rfl) q1591 dX5_behindTest_48 h (fun v1 h => ?_)
  obtain ⟨e3, h⟩ := h
  refine fin_V O ⟨Nat.zero_le _, Nat.zero_le _⟩ (run_V (As := [vI (s0), vI (v1)]) (st := []) O (mt_X5_push (xl x) (xG x) _ _ _ _ _ h) e3 cfX5.1 q1965 q1967 qs75 q131 q1968 hy_X5_push (Nat.le_of_ble_eq_true rfl) (Nat.le_of_ble_eq_true rfl) ⟨Nat.zero_le _, Nat.zero_le _⟩ rfl (Nat.le_of_ble_eq_true rfl) dX5_behindTest_51) (fun w2 h => ?_)
  refine j_aload_n O 0 0 dX5_behindTest_54 rfl rfl ?_
  refine j_iload_n O 1 1 dX5_behindTest_55 rfl rfl ?_
  obtain ⟨c4, h⟩ := h
  refine j_if_eq O (tgt := 64) dX5_behindTest_56 (by decide) c4 h (fun h => ?_) (fun h => ?_)
  · refine j_bipush (m := 30) O dX5_behindTest_64 bi_30 ?_
    exact (J.sub [0] rfl <| wk_X5_behindTest_66 O hr hm  _ _ _  _ h)
  · refine j_bipush (m := 29) O dX5_behindTest_59 bi_29 ?_
    refine j_goto O (tgt := 66) dX5_behindTest_61 (by decide) ?_
    exact (J.sub [0] rfl <| wk_X5_behindTest_66 O hr hm  _ _ _  _ h)
theorem wk_X5_behindTest_32 {x : Cx} (O : OK x "DowryBoxesModel" cX5_behindTest 4) (hr : (xM x).sig.returnType = some .int) (hm : xn x = 2) {Q : Int → Wd → Prop} (this : Nat) (x1 : Int) (s0 : Int) (s1 : Nat) (w : Wd) (h : wp_X5_behindTest_32 Q this x1 s0 s1 w) : J x (TI x Q) w 0 0 32 [(0, .ref (adG (xG x) (this))), (1, vI (x1))] [vI (s0), .ref (adG (xG x) (s1))] := by
  unfold wp_X5_behindTest_32 at h
  obtain ⟨e2, h⟩ := h
  refine fin_V O ⟨Nat.zero_le _, Nat.zero_le _⟩ (run_V (As := [vI (s0)]) (st := []) O (mt_X5_settle (xl x) (xG x) _ _ _ _ h) e2 cfX5.1 q2010 q2012 qs85 q131 q2013 hy_X5_settle (Nat.le_of_ble_eq_true rfl) (Nat.le_of_ble_eq_true rfl) ⟨Nat.zero_le _, Nat.zero_le _⟩ rfl (Nat.le_of_ble_eq_true rfl) dX5_behindTest_32) (fun w1 h => ?_)
  refine j_aload_n O 0 0 dX5_behindTest_35 rfl rfl ?_
  refine j_iload_n O 1 1 dX5_behindTest_36 rfl rfl ?_
  obtain ⟨c3, h⟩ := h
  refine j_if_eq O (tgt := 45) dX5_behindTest_37 (by decide) c3 h (fun h => ?_) (fun h => ?_)
  · refine j_bipush (m := 30) O dX5_behindTest_45 bi_30 ?_
    exact (J.sub [0, 1] rfl <| wk_X5_behindTest_47 O hr hm  _ _ _ _  _ h)
  · refine j_bipush (m := 29) O dX5_behindTest_40 bi_29 ?_
    refine j_goto O (tgt := 47) dX5_behindTest_42 (by decide) ?_
    exact (J.sub [0, 1] rfl <| wk_X5_behindTest_47 O hr hm  _ _ _ _  _ h)
theorem wk_X5_behindTest_22 {x : Cx} (O : OK x "DowryBoxesModel" cX5_behindTest 4) (hr : (xM x).sig.returnType = some .int) (hm : xn x = 2) {Q : Int → Wd → Prop} (this : Nat) (x1 : Int) (w : Wd) (h : wp_X5_behindTest_22 Q this x1 w) : J x (TI x Q) w 0 0 22 [(0, .ref (adG (xG x) (this))), (1, vI (x1))] [] := by
  unfold wp_X5_behindTest_22 at h
  refine j_aload_n O 0 0 dX5_behindTest_22 rfl rfl ?_
  refine j_iload_n O 1 1 dX5_behindTest_23 rfl rfl ?_
  obtain ⟨c1, h⟩ := h
  refine j_if_eq O (tgt := 31) dX5_behindTest_24 (by decide) c1 h (fun h => ?_) (fun h => ?_)
  · refine j_iconst O dX5_behindTest_31 ?_
    exact (J.sub [0, 1] rfl <| wk_X5_behindTest_32 O hr hm  _ _ _ _  _ h)
  · refine j_iconst O dX5_behindTest_27 ?_
    refine j_goto O (tgt := 32) dX5_behindTest_28 (by decide) ?_
    exact (J.sub [0, 1] rfl <| wk_X5_behindTest_32 O hr hm  _ _ _ _  _ h)
theorem mt_X5_behindTest (l : Launch) (G : GW) (this : Nat) (w : Wd) (Q : Int → Wd → Prop) (h : wp_X5_behindTest this w Q) : MI l G yX5_behindTest cX5_behindTest 2 (.int) 4 0 0 [.ref (adG G (this))] w Q := by
  refine met_I (fun G => [.ref (adG G (this))]) (by decide) (fun G => Nat.le_of_ble_eq_true rfl) (fun x O hl hm hr => ?_)
  subst hl
  have O : OK x "DowryBoxesModel" cX5_behindTest 4 := O
  have h : wp_X5_behindTest this w Q := h
  unfold wp_X5_behindTest at h
  show J x (TI x Q) w 0 0 0 [(0, .ref (adG (xG x) (this)))] []
  refine j_aload_n O 0 0 dX5_behindTest_0 rfl rfl ?_
  refine j_ldc2 (m := 1476) O dX5_behindTest_1 q2029 l2_1476 ?_
  obtain ⟨e3, h⟩ := h
  refine fin_I O ⟨Nat.zero_le _, Nat.zero_le _⟩ (run_V (As := [vL (1476)]) (st := []) O (mt_X5_isWord (xl x) (xG x) _ _ _ _ h) e3 cfX5.1 q1948 q1950 qs71 q131 q1951 hy_X5_isWord (Nat.le_of_ble_eq_true rfl) (Nat.le_of_ble_eq_true rfl) ⟨Nat.zero_le _, Nat.zero_le _⟩ rfl (Nat.le_of_ble_eq_true rfl) dX5_behindTest_4) (fun r1 w2 h => ?_)
  refine j_istore_n (L' := [(1, vI (r1)), (0, .ref (adG (xG x) (this)))]) O 1 dX5_behindTest_7 rfl (by rw [hm]; decide) rfl ?_
  refine j_iload_n O 0 1 dX5_behindTest_8 rfl rfl ?_
  obtain ⟨c4, h⟩ := h
  refine j_if_ne O (tgt := 22) dX5_behindTest_9 (by decide) c4 h (fun h => ?_) (fun h => ?_)
  · exact (J.sub [1, 0] rfl <| wk_X5_behindTest_22 O hr hm  _ _  _ h)
  · refine j_aload_n O 1 0 dX5_behindTest_12 rfl rfl ?_
    refine j_ldc2 (m := 498) O dX5_behindTest_13 q2030 l2_498 ?_
    obtain ⟨e7, h⟩ := h
    refine fin_I O ⟨Nat.zero_le _, Nat.zero_le _⟩ (run_V (As := [vL (498)]) (st := []) O (mt_X5_isWord (xl x) (xG x) _ _ _ _ h) e7 cfX5.1 q1948 q1950 qs71 q131 q1951 hy_X5_isWord (Nat.le_of_ble_eq_true rfl) (Nat.le_of_ble_eq_true rfl) ⟨Nat.zero_le _, Nat.zero_le _⟩ rfl (Nat.le_of_ble_eq_true rfl) dX5_behindTest_16) (fun r5 w6 h => ?_)
    obtain ⟨c8, h⟩ := h
    refine j_if_eq O (tgt := 76) dX5_behindTest_19 (by decide) c8 h (fun h => ?_) (fun h => ?_)
    · refine j_aload_n O 1 0 dX5_behindTest_76 rfl rfl ?_
      obtain ⟨e11, h⟩ := h
      refine fin_I O ⟨Nat.zero_le _, Nat.zero_le _⟩ (run_V (As := []) (st := []) O (mt_X5_inner (xl x) (xG x) _ _ _ h) e11 cfX5.1 q2014 q2016 qs86 q131 q2017 hy_X5_inner (Nat.le_of_ble_eq_true rfl) (Nat.le_of_ble_eq_true rfl) ⟨Nat.zero_le _, Nat.zero_le _⟩ rfl (Nat.le_of_ble_eq_true rfl) dX5_behindTest_77) (fun r9 w10 h => ?_)
      refine j_iconst O dX5_behindTest_80 ?_
      obtain ⟨c12, h⟩ := h
      refine j_icmp_ne O (tgt := 86) dX5_behindTest_81 (by decide) c12 (by decide) h (fun h => ?_) (fun h => ?_)
      · refine j_aload_n O 1 0 dX5_behindTest_86 rfl rfl ?_
        refine j_aload_n O 1 0 dX5_behindTest_87 rfl rfl ?_
        refine j_bipush (m := 41) O dX5_behindTest_88 bi_41 ?_
        obtain ⟨e15, h⟩ := h
        refine fin_I O ⟨Nat.zero_le _, Nat.zero_le _⟩ (run_V (As := [vI (41)]) (st := [.ref (adG (xG x) (this))]) O (mt_X5_isSign (xl x) (xG x) _ _ _ _ h) e15 cfX5.1 q1969 q1971 qs76 q131 q1972 hy_X5_isSign (Nat.le_of_ble_eq_true rfl) (Nat.le_of_ble_eq_true rfl) ⟨Nat.zero_le _, Nat.zero_le _⟩ rfl (Nat.le_of_ble_eq_true rfl) dX5_behindTest_90) (fun r13 w14 h => ?_)
        obtain ⟨e17, h⟩ := h
        refine fin_V O ⟨Nat.zero_le _, Nat.zero_le _⟩ (run_V (As := [vI (r13)]) (st := []) O (mt_X5_must (xl x) (xG x) _ _ _ _ h) e17 cfX5.1 q1952 q1954 qs72 q131 q1955 hy_X5_must (Nat.le_of_ble_eq_true rfl) (Nat.le_of_ble_eq_true rfl) ⟨Nat.zero_le _, Nat.zero_le _⟩ rfl (Nat.le_of_ble_eq_true rfl) dX5_behindTest_93) (fun w16 h => ?_)
        refine j_aload_n O 1 0 dX5_behindTest_96 rfl rfl ?_
        refine j_getI O cfX5 19 (Nat.le_of_ble_eq_true rfl) (.inr (.inl rfl)) q1587 dX5_behindTest_97 h (fun v18 h => ?_)
        obtain ⟨c19, h⟩ := h
        refine j_if_ne O (tgt := 128) dX5_behindTest_100 (by decide) c19 h (fun h => ?_) (fun h => ?_)
        · refine j_iconst O dX5_behindTest_128 ?_
          exact j_iret O hr dX5_behindTest_129 h
        · refine j_aload_n O 1 0 dX5_behindTest_103 rfl rfl ?_
          refine j_iconst O dX5_behindTest_104 ?_
          obtain ⟨e21, h⟩ := h
          refine fin_V O ⟨Nat.zero_le _, Nat.zero_le _⟩ (run_V (As := [vI (1)]) (st := []) O (mt_X5_settle (xl x) (xG x) _ _ _ _ h) e21 cfX5.1 q2010 q2012 qs85 q131 q2013 hy_X5_settle (Nat.le_of_ble_eq_true rfl) (Nat.le_of_ble_eq_true rfl) ⟨Nat.zero_le _, Nat.zero_le _⟩ rfl (Nat.le_of_ble_eq_true rfl) dX5_behindTest_105) (fun w20 h => ?_)
          refine j_aload_n O 1 0 dX5_behindTest_108 rfl rfl ?_
          refine j_dup O dX5_behindTest_109 rfl ?_
          refine j_getI O cfX5 29 (Nat.le_of_ble_eq_true rfl) (.inl rfl) q1597 dX5_behindTest_110 h (fun v22 h => ?_)
          refine j_iconst O dX5_behindTest_113 ?_
          refine j_isub O dX5_behindTest_114 ?_
          refine j_putI O cfX5 29 (Nat.le_of_ble_eq_true rfl) rfl q1597 rfl dX5_behindTest_115 h (fun w23 h => ?_)
          refine j_aload_n O 1 0 dX5_behindTest_118 rfl rfl ?_
          refine j_dup O dX5_behindTest_119 rfl ?_
          refine j_getI O cfX5 30 (Nat.le_of_ble_eq_true rfl) (.inl rfl) q1598 dX5_behindTest_120 h (fun v24 h => ?_)
          refine j_iconst O dX5_behindTest_123 ?_
          refine j_isub O dX5_behindTest_124 ?_
          refine j_putI O cfX5 30 (Nat.le_of_ble_eq_true rfl) rfl q1598 rfl dX5_behindTest_125 h (fun w25 h => ?_)
          refine j_iconst O dX5_behindTest_128 ?_
          exact j_iret O hr dX5_behindTest_129 h
      · refine j_iconst O dX5_behindTest_84 ?_
        exact j_iret O hr dX5_behindTest_85 h
    · exact (J.sub [1, 0] rfl <| wk_X5_behindTest_22 O hr hm  _ _  _ h)
theorem hy_X5_readExpression : (yX5_readExpression.cls = "DowryBoxesModel" ∧ yX5_readExpression.cls ≠ "java/lang/invoke/MethodHandle" ∧ yX5_readExpression.cls ≠ "java/lang/invoke/VarHandle" ∧ (parseMethodDescriptor yX5_readExpression.desc).map (fun d => d.parameters.length) = some 1) := by decide +kernel
theorem wk_X5_readExpression_72 {x : Cx} (O : OK x "DowryBoxesModel" cX5_readExpression 7) (hr : (xM x).sig.returnType = none) (hm : xn x = 3) {Q : Wd → Prop} (K20 : Int → Wd → Prop) (X20 : Wd → Prop) (this : Nat) (x1 : Int) (s0 : Int) (hK20 : ∀ (y2 : Int) (w : Wd), K20 y2 w → J x (TV x Q) w 0 0 20 [(0, .ref (adG (xG x) (this))), (1, vI (x1)), (2, vI (y2))] []) (hX20 : ∀  (w : Wd), X20  w → J x (TV x Q) w 0 0 76 [(0, .ref (adG (xG x) (this)))] []) (w : Wd) (h : wp_X5_readExpression_72 Q K20 X20 this x1 s0 w) : J x (TV x Q) w 0 0 72 [(0, .ref (adG (xG x) (this))), (1, vI (x1))] [vI (s0)] := by
  unfold wp_X5_readExpression_72 at h
  refine j_istore_n (L' := [(2, vI (s0)), (0, .ref (adG (xG x) (this))), (1, vI (x1))]) O 2 dX5_readExpression_72 rfl (by rw [hm]; decide) rfl ?_
  refine j_goto O (tgt := 20) dX5_readExpression_73 (by decide) ?_
  exact (J.sub [1, 2, 0] rfl <| hK20 _ _ h)
theorem wk_X5_readExpression_20 {x : Cx} (O : OK x "DowryBoxesModel" cX5_readExpression 7) (hr : (xM x).sig.returnType = none) (hm : xn x = 3) {Q : Wd → Prop} (X20 : Wd → Prop) (this : Nat) (x1 : Int) (hX20 : ∀  (w : Wd), X20  w → J x (TV x Q) w 0 0 76 [(0, .ref (adG (xG x) (this)))] []) : ∀ (n : Nat) (x2 : Int) (w : Wd), wp_X5_readExpression_20 Q X20 this x1 n x2 w → J x (TV x Q) w 0 0 20 [(0, .ref (adG (xG x) (this))), (1, vI (x1)), (2, vI (x2))] [] := by
  intro n
  induction n with
  | zero => intro x2 w h; exact False.elim h
  | succ n ih =>
    intro x2 w h
    rw [wp_X5_readExpression_20] at h
    refine j_aload_n O 0 0 dX5_readExpression_20 rfl rfl ?_
    refine j_getI O cfX5 19 (Nat.le_of_ble_eq_true rfl) (.inr (.inl rfl)) q1587 dX5_readExpression_21 h (fun v1 h => ?_)
    obtain ⟨c2, h⟩ := h
    refine j_if_ne O (tgt := 76) dX5_readExpression_24 (by decide) c2 h (fun h => ?_) (fun h => ?_)
    · exact (J.sub [0] rfl <| hX20  _ h)
    · refine j_iload_n O 2 2 dX5_readExpression_27 rfl rfl ?_
      refine j_iconst O dX5_readExpression_28 ?_
      obtain ⟨c3, h⟩ := h
      refine j_icmp_eq O (tgt := 76) dX5_readExpression_29 (by decide) c3 (by decide) h (fun h => ?_) (fun h => ?_)
      · exact (J.sub [0] rfl <| hX20  _ h)
      · refine j_iload_n O 2 2 dX5_readExpression_32 rfl rfl ?_
        obtain ⟨c4, h⟩ := h
        refine j_if_ne O (tgt := 43) dX5_readExpression_33 (by decide) c4 h (fun h => ?_) (fun h => ?_)
        · refine j_iload_n O 2 2 dX5_readExpression_43 rfl rfl ?_
          refine j_iconst O dX5_readExpression_44 ?_
          obtain ⟨c5, h⟩ := h
          refine j_icmp_ne O (tgt := 55) dX5_readExpression_45 (by decide) c5 (by decide) h (fun h => ?_) (fun h => ?_)
          · refine j_iload_n O 2 2 dX5_readExpression_55 rfl rfl ?_
            refine j_iconst O dX5_readExpression_56 ?_
            obtain ⟨c6, h⟩ := h
            refine j_icmp_ne O (tgt := 68) dX5_readExpression_57 (by decide) c6 (by decide) h (fun h => ?_) (fun h => ?_)
            · refine j_aload_n O 0 0 dX5_readExpression_68 rfl rfl ?_
              obtain ⟨e9, h⟩ := h
              refine fin_I O ⟨Nat.zero_le _, Nat.zero_le _⟩ (run_V (As := []) (st := []) O (mt_X5_behindTest (xl x) (xG x) _ _ _ h) e9 cfX5.1 q2025 q2027 qs88 q131 q2028 hy_X5_behindTest (Nat.le_of_ble_eq_true rfl) (Nat.le_of_ble_eq_true rfl) ⟨Nat.zero_le _, Nat.zero_le _⟩ rfl (Nat.le_of_ble_eq_true rfl) dX5_readExpression_69) (fun r7 w8 h => ?_)
              exact (J.sub [0, 1] rfl <| wk_X5_readExpression_72 O hr hm _ _ _ _ _ ih hX20 _ h)
            · refine j_aload_n O 0 0 dX5_readExpression_60 rfl rfl ?_
              refine j_iload_n O 1 1 dX5_readExpression_61 rfl rfl ?_
              obtain ⟨e12, h⟩ := h
              refine fin_I O ⟨Nat.zero_le _, Nat.zero_le _⟩ (run_V (As := [vI (x1)]) (st := []) O (mt_X5_behindSum (xl x) (xG x) _ _ _ _ h) e12 cfX5.1 q2003 q2005 qs84 q131 q2006 hy_X5_behindSum (Nat.le_of_ble_eq_true rfl) (Nat.le_of_ble_eq_true rfl) ⟨Nat.zero_le _, Nat.zero_le _⟩ rfl (Nat.le_of_ble_eq_true rfl) dX5_readExpression_62) (fun r10 w11 h => ?_)
              refine j_goto O (tgt := 72) dX5_readExpression_65 (by decide) ?_
              exact (J.sub [0, 1] rfl <| wk_X5_readExpression_72 O hr hm _ _ _ _ _ ih hX20 _ h)
          · refine j_aload_n O 0 0 dX5_readExpression_48 rfl rfl ?_
            obtain ⟨e15, h⟩ := h
            refine fin_I O ⟨Nat.zero_le _, Nat.zero_le _⟩ (run_V (As := []) (st := []) O (mt_X5_readPart (xl x) (xG x) _ _ _ h) e15 cfX5.1 q1977 q1979 qs78 q131 q1980 hy_X5_readPart (Nat.le_of_ble_eq_true rfl) (Nat.le_of_ble_eq_true rfl) ⟨Nat.zero_le _, Nat.zero_le _⟩ rfl (Nat.le_of_ble_eq_true rfl) dX5_readExpression_49) (fun r13 w14 h => ?_)
            refine j_goto O (tgt := 72) dX5_readExpression_52 (by decide) ?_
            exact (J.sub [0, 1] rfl <| wk_X5_readExpression_72 O hr hm _ _ _ _ _ ih hX20 _ h)
        · refine j_aload_n O 0 0 dX5_readExpression_36 rfl rfl ?_
          obtain ⟨e18, h⟩ := h
          refine fin_I O ⟨Nat.zero_le _, Nat.zero_le _⟩ (run_V (As := []) (st := []) O (mt_X5_readPlain (xl x) (xG x) _ _ _ h) e18 cfX5.1 q1960 q1962 qs74 q131 q1963 hy_X5_readPlain (Nat.le_of_ble_eq_true rfl) (Nat.le_of_ble_eq_true rfl) ⟨Nat.zero_le _, Nat.zero_le _⟩ rfl (Nat.le_of_ble_eq_true rfl) dX5_readExpression_37) (fun r16 w17 h => ?_)
          refine j_goto O (tgt := 72) dX5_readExpression_40 (by decide) ?_
          exact (J.sub [0, 1] rfl <| wk_X5_readExpression_72 O hr hm _ _ _ _ _ ih hX20 _ h)
theorem wk_X5_readExpression_76 {x : Cx} (O : OK x "DowryBoxesModel" cX5_readExpression 7) (hr : (xM x).sig.returnType = none) (hm : xn x = 3) {Q : Wd → Prop} (this : Nat) (w : Wd) (h : wp_X5_readExpression_76 Q this w) : J x (TV x Q) w 0 0 76 [(0, .ref (adG (xG x) (this)))] [] := by
  unfold wp_X5_readExpression_76 at h
  refine j_aload_n O 0 0 dX5_readExpression_76 rfl rfl ?_
  refine j_iconst O dX5_readExpression_77 ?_
  obtain ⟨e2, h⟩ := h
  refine fin_V O ⟨Nat.zero_le _, Nat.zero_le _⟩ (run_V (As := [vI (1)]) (st := []) O (mt_X5_settle (xl x) (xG x) _ _ _ _ h) e2 cfX5.1 q2010 q2012 qs85 q131 q2013 hy_X5_settle (Nat.le_of_ble_eq_true rfl) (Nat.le_of_ble_eq_true rfl) ⟨Nat.zero_le _, Nat.zero_le _⟩ rfl (Nat.le_of_ble_eq_true rfl) dX5_readExpression_78) (fun w1 h => ?_)
  exact j_vret O hr dX5_readExpression_81 h
theorem wk_X5_readExpression_19 {x : Cx} (O : OK x "DowryBoxesModel" cX5_readExpression 7) (hr : (xM x).sig.returnType = none) (hm : xn x = 3) {Q : Wd → Prop} (this : Nat) (x1 : Int) (s0 : Int) (w : Wd) (h : wp_X5_readExpression_19 Q this x1 s0 w) : J x (TV x Q) w 0 0 19 [(0, .ref (adG (xG x) (this))), (1, vI (x1))] [vI (s0)] := by
  unfold wp_X5_readExpression_19 at h
  refine j_istore_n (L' := [(2, vI (s0)), (0, .ref (adG (xG x) (this))), (1, vI (x1))]) O 2 dX5_readExpression_19 rfl (by rw [hm]; decide) rfl ?_
  refine (J.sub [1, 2, 0] rfl <| wk_X5_readExpression_20 O hr hm _ _ _ (fun w1 h => ?_) FU _ _ h)
  exact (J.sub [0] rfl <| wk_X5_readExpression_76 O hr hm  _  _ h)
theorem mt_X5_readExpression (l : Launch) (G : GW) (this : Nat) (p1 : Int) (w : Wd) (Q : Wd → Prop) (h : wp_X5_readExpression this p1 w Q) : MV l G yX5_readExpression cX5_readExpression 3 7 0 0 [.ref (adG G (this)), vI (p1)] w Q := by
  refine met_V (fun G => [.ref (adG G (this)), vI (p1)]) (by decide) (fun G => Nat.le_of_ble_eq_true rfl) (fun x O hl hm hr _ => ?_)
  subst hl
  have O : OK x "DowryBoxesModel" cX5_readExpression 7 := O
  have h : wp_X5_readExpression this p1 w Q := h
  unfold wp_X5_readExpression at h
  show J x (TV x Q) w 0 0 0 [(0, .ref (adG (xG x) (this))), (1, vI (p1))] []
  refine j_aload_n O 0 0 dX5_readExpression_0 rfl rfl ?_
  refine j_iconst O dX5_readExpression_1 ?_
  refine j_putI O cfX5 29 (Nat.le_of_ble_eq_true rfl) rfl q1597 rfl dX5_readExpression_2 h (fun w1 h => ?_)
  refine j_aload_n O 0 0 dX5_readExpression_5 rfl rfl ?_
  refine j_iconst O dX5_readExpression_6 ?_
  refine j_putI O cfX5 30 (Nat.le_of_ble_eq_true rfl) rfl q1598 rfl dX5_readExpression_7 h (fun w2 h => ?_)
  refine j_iload_n O 1 1 dX5_readExpression_10 rfl rfl ?_
  obtain ⟨c3, h⟩ := h
  refine j_if_eq O (tgt := 18) dX5_readExpression_11 (by decide) c3 h (fun h => ?_) (fun h => ?_)
  · refine j_iconst O dX5_readExpression_18 ?_
    exact (J.sub [0, 1] rfl <| wk_X5_readExpression_19 O hr hm  _ _ _  _ h)
  · refine j_iconst O dX5_readExpression_14 ?_
    refine j_goto O (tgt := 19) dX5_readExpression_15 (by decide) ?_
    exact (J.sub [0, 1] rfl <| wk_X5_readExpression_19 O hr hm  _ _ _  _ h)
theorem hy_X5_readSum : (yX5_readSum.cls = "DowryBoxesModel" ∧ yX5_readSum.cls ≠ "java/lang/invoke/MethodHandle" ∧ yX5_readSum.cls ≠ "java/lang/invoke/VarHandle" ∧ (parseMethodDescriptor yX5_readSum.desc).map (fun d => d.parameters.length) = some 1) := by decide +kernel
theorem wk_X5_readSum_22 {x : Cx} (O : OK x "DowryBoxesModel" cX5_readSum 8) (hr : (xM x).sig.returnType = none) (hm : xn x = 2) {Q : Wd → Prop} (this : Nat) (x1 : Int) (w : Wd) (h : wp_X5_readSum_22 Q this x1 w) : J x (TV x Q) w 0 0 22 [(0, .ref (adG (xG x) (this))), (1, vI (x1))] [] := by
  unfold wp_X5_readSum_22 at h
  refine j_aload_n O 0 0 dX5_readSum_22 rfl rfl ?_
  refine j_getA O cfX5 54 (Nat.le_of_ble_eq_true rfl) ⟨_, rfl⟩ q1622 dX5_readSum_23 h (fun k1 h => ?_)
  refine j_iload_n O 1 1 dX5_readSum_26 rfl rfl ?_
  refine j_iconst O dX5_readSum_27 ?_
  refine j_iadd O dX5_readSum_28 ?_
  refine j_aload_n O 0 0 dX5_readSum_29 rfl rfl ?_
  refine j_getI O cfX5 23 (Nat.le_of_ble_eq_true rfl) (.inl rfl) q1591 dX5_readSum_30 h (fun v2 h => ?_)
  refine j_iast O dX5_readSum_33 h (fun w3 h => ?_)
  exact j_vret O hr dX5_readSum_34 h
theorem mt_X5_readSum (l : Launch) (G : GW) (this : Nat) (p1 : Int) (w : Wd) (Q : Wd → Prop) (h : wp_X5_readSum this p1 w Q) : MV l G yX5_readSum cX5_readSum 2 8 0 0 [.ref (adG G (this)), vI (p1)] w Q := by
  refine met_V (fun G => [.ref (adG G (this)), vI (p1)]) (by decide) (fun G => Nat.le_of_ble_eq_true rfl) (fun x O hl hm hr _ => ?_)
  subst hl
  have O : OK x "DowryBoxesModel" cX5_readSum 8 := O
  have h : wp_X5_readSum this p1 w Q := h
  unfold wp_X5_readSum at h
  show J x (TV x Q) w 0 0 0 [(0, .ref (adG (xG x) (this))), (1, vI (p1))] []
  refine j_aload_n O 0 0 dX5_readSum_0 rfl rfl ?_
  refine j_getA O cfX5 54 (Nat.le_of_ble_eq_true rfl) ⟨_, rfl⟩ q1622 dX5_readSum_1 h (fun k1 h => ?_)
  refine j_iload_n O 1 1 dX5_readSum_4 rfl rfl ?_
  refine j_aload_n O 0 0 dX5_readSum_5 rfl rfl ?_
  refine j_getI O cfX5 23 (Nat.le_of_ble_eq_true rfl) (.inl rfl) q1591 dX5_readSum_6 h (fun v2 h => ?_)
  refine j_iast O dX5_readSum_9 h (fun w3 h => ?_)
  refine j_aload_n O 0 0 dX5_readSum_10 rfl rfl ?_
  refine j_getI O cfX5 19 (Nat.le_of_ble_eq_true rfl) (.inr (.inl rfl)) q1587 dX5_readSum_11 h (fun v4 h => ?_)
  obtain ⟨c5, h⟩ := h
  refine j_if_ne O (tgt := 22) dX5_readSum_14 (by decide) c5 h (fun h => ?_) (fun h => ?_)
  · exact (J.sub [0, 1] rfl <| wk_X5_readSum_22 O hr hm  _ _  _ h)
  · refine j_aload_n O 0 0 dX5_readSum_17 rfl rfl ?_
    refine j_iconst O dX5_readSum_18 ?_
    obtain ⟨e7, h⟩ := h
    refine fin_V O ⟨Nat.zero_le _, Nat.zero_le _⟩ (run_V (As := [vI (0)]) (st := []) O (mt_X5_readExpression (xl x) (xG x) _ _ _ _ h) e7 cfX5.1 q1956 q1958 qs73 q131 q1959 hy_X5_readExpression (Nat.le_of_ble_eq_true rfl) (Nat.le_of_ble_eq_true rfl) ⟨Nat.zero_le _, Nat.zero_le _⟩ rfl (Nat.le_of_ble_eq_true rfl) dX5_readSum_19) (fun w6 h => ?_)
    exact (J.sub [0, 1] rfl <| wk_X5_readSum_22 O hr hm  _ _  _ h)
theorem hy_X5_readOrder : (yX5_readOrder.cls = "DowryBoxesModel" ∧ yX5_readOrder.cls ≠ "java/lang/invoke/MethodHandle" ∧ yX5_readOrder.cls ≠ "java/lang/invoke/VarHandle" ∧ (parseMethodDescriptor yX5_readOrder.desc).map (fun d => d.parameters.length) = some 0) := by decide +kernel
theorem wk_X5_readOrder_27 {x : Cx} (O : OK x "DowryBoxesModel" cX5_readOrder 9) (hr : (xM x).sig.returnType = none) (hm : xn x = 4) {Q : Wd → Prop} (K4 : Int → Int → Wd → Prop) (X4 : Int → Wd → Prop) (this : Nat) (x2 : Int) (s0 : Int) (hK4 : ∀ (y1 : Int) (y2 : Int) (w : Wd), K4 y1 y2 w → J x (TV x Q) w 0 0 4 [(0, .ref (adG (xG x) (this))), (1, vI (y1)), (2, vI (y2))] []) (hX4 : ∀ (y1 : Int) (w : Wd), X4 y1 w → J x (TV x Q) w 0 0 34 [(0, .ref (adG (xG x) (this))), (1, vI (y1))] []) (w : Wd) (h : wp_X5_readOrder_27 Q K4 X4 this x2 s0 w) : J x (TV x Q) w 0 0 27 [(0, .ref (adG (xG x) (this))), (2, vI (x2))] [vI (s0)] := by
  unfold wp_X5_readOrder_27 at h
  refine j_istore_n (L' := [(1, vI (s0)), (0, .ref (adG (xG x) (this))), (2, vI (x2))]) O 1 dX5_readOrder_27 rfl (by rw [hm]; decide) rfl ?_
  refine j_iinc (L' := [(2, vI (x2 + 1)), (1, vI (s0)), (0, .ref (adG (xG x) (this)))]) O 2 dX5_readOrder_28 rfl (by rw [hm]; decide) rfl ?_
  refine j_goto O (tgt := 4) dX5_readOrder_31 (by decide) ?_
  exact (J.sub [2, 1, 0] rfl <| hK4 _ _ _ h)
theorem wk_X5_readOrder_4 {x : Cx} (O : OK x "DowryBoxesModel" cX5_readOrder 9) (hr : (xM x).sig.returnType = none) (hm : xn x = 4) {Q : Wd → Prop} (X4 : Int → Wd → Prop) (this : Nat) (hX4 : ∀ (y1 : Int) (w : Wd), X4 y1 w → J x (TV x Q) w 0 0 34 [(0, .ref (adG (xG x) (this))), (1, vI (y1))] []) : ∀ (n : Nat) (x1 : Int) (x2 : Int) (w : Wd), wp_X5_readOrder_4 Q X4 this n x1 x2 w → J x (TV x Q) w 0 0 4 [(0, .ref (adG (xG x) (this))), (1, vI (x1)), (2, vI (x2))] [] := by
  intro n
  induction n with
  | zero => intro x1 x2 w h; exact False.elim h
  | succ n ih =>
    intro x1 x2 w h
    rw [wp_X5_readOrder_4] at h
    refine j_iload_n O 2 2 dX5_readOrder_4 rfl rfl ?_
    refine j_iconst O dX5_readOrder_5 ?_
    obtain ⟨c1, h⟩ := h
    refine j_icmp_ge O (tgt := 34) dX5_readOrder_6 (by decide) c1 (by decide) h (fun h => ?_) (fun h => ?_)
    · exact (J.sub [0, 1] rfl <| hX4 _ _ h)
    · refine j_aload_n O 0 0 dX5_readOrder_9 rfl rfl ?_
      refine j_aload_n O 0 0 dX5_readOrder_10 rfl rfl ?_
      refine j_getA O cfX5 52 (Nat.le_of_ble_eq_true rfl) ⟨_, rfl⟩ q1620 dX5_readOrder_11 h (fun k2 h => ?_)
      refine j_iload_n O 2 2 dX5_readOrder_14 rfl rfl ?_
      refine j_lald O dX5_readOrder_15 h (fun v3 h => ?_)
      obtain ⟨e6, h⟩ := h
      refine fin_I O ⟨Nat.zero_le _, Nat.zero_le _⟩ (run_V (As := [vL (v3)]) (st := []) O (mt_X5_isWord (xl x) (xG x) _ _ _ _ h) e6 cfX5.1 q1948 q1950 qs71 q131 q1951 hy_X5_isWord (Nat.le_of_ble_eq_true rfl) (Nat.le_of_ble_eq_true rfl) ⟨Nat.zero_le _, Nat.zero_le _⟩ rfl (Nat.le_of_ble_eq_true rfl) dX5_readOrder_16) (fun r4 w5 h => ?_)
      obtain ⟨c7, h⟩ := h
      refine j_if_eq O (tgt := 26) dX5_readOrder_19 (by decide) c7 h (fun h => ?_) (fun h => ?_)
      · refine j_iload_n O 1 1 dX5_readOrder_26 rfl rfl ?_
        exact (J.sub [0, 2] rfl <| wk_X5_readOrder_27 O hr hm _ _ _ _ _ ih hX4 _ h)
      · refine j_iload_n O 2 2 dX5_readOrder_22 rfl rfl ?_
        refine j_goto O (tgt := 27) dX5_readOrder_23 (by decide) ?_
        exact (J.sub [0, 2] rfl <| wk_X5_readOrder_27 O hr hm _ _ _ _ _ ih hX4 _ h)
theorem wk_X5_readOrder_85 {x : Cx} (O : OK x "DowryBoxesModel" cX5_readOrder 9) (hr : (xM x).sig.returnType = none) (hm : xn x = 4) {Q : Wd → Prop} (X85 : Wd → Prop) (this : Nat) (x1 : Int) (x2 : Int) (hX85 : ∀  (w : Wd), X85  w → J x (TV x Q) w 0 0 106 [(0, .ref (adG (xG x) (this))), (1, vI (x1)), (2, vI (x2))] []) : ∀ (n : Nat) (x3 : Int) (w : Wd), wp_X5_readOrder_85 Q X85 this x1 x2 n x3 w → J x (TV x Q) w 0 0 85 [(0, .ref (adG (xG x) (this))), (1, vI (x1)), (2, vI (x2)), (3, vI (x3))] [] := by
  intro n
  induction n with
  | zero => intro x3 w h; exact False.elim h
  | succ n ih =>
    intro x3 w h
    rw [wp_X5_readOrder_85] at h
    refine j_iload_n O 3 3 dX5_readOrder_85 rfl rfl ?_
    refine j_bipush (m := 10) O dX5_readOrder_86 bi_10 ?_
    obtain ⟨c1, h⟩ := h
    refine j_icmp_ge O (tgt := 106) dX5_readOrder_88 (by decide) c1 (by decide) h (fun h => ?_) (fun h => ?_)
    · exact (J.sub [0, 1, 2] rfl <| hX85  _ h)
    · refine j_aload_n O 0 0 dX5_readOrder_91 rfl rfl ?_
      refine j_getA O cfX5 54 (Nat.le_of_ble_eq_true rfl) ⟨_, rfl⟩ q1622 dX5_readOrder_92 h (fun k2 h => ?_)
      refine j_iload_n O 2 2 dX5_readOrder_95 rfl rfl ?_
      refine j_iload_n O 3 3 dX5_readOrder_96 rfl rfl ?_
      refine j_iadd O dX5_readOrder_97 ?_
      refine j_iconst O dX5_readOrder_98 ?_
      refine j_iast O dX5_readOrder_99 h (fun w3 h => ?_)
      refine j_iinc (L' := [(3, vI (x3 + 1)), (0, .ref (adG (xG x) (this))), (1, vI (x1)), (2, vI (x2))]) O 3 dX5_readOrder_100 rfl (by rw [hm]; decide) rfl ?_
      refine j_goto O (tgt := 85) dX5_readOrder_103 (by decide) ?_
      exact (J.sub [1, 2, 3, 0] rfl <| ih _ _ h)
theorem wk_X5_readOrder_240 {x : Cx} (O : OK x "DowryBoxesModel" cX5_readOrder 9) (hr : (xM x).sig.returnType = none) (hm : xn x = 4) {Q : Wd → Prop} (this : Nat) (x2 : Int) (w : Wd) (h : wp_X5_readOrder_240 Q this x2 w) : J x (TV x Q) w 0 0 240 [(0, .ref (adG (xG x) (this))), (2, vI (x2))] [] := by
  unfold wp_X5_readOrder_240 at h
  refine j_aload_n O 0 0 dX5_readOrder_240 rfl rfl ?_
  refine j_getA O cfX5 54 (Nat.le_of_ble_eq_true rfl) ⟨_, rfl⟩ q1622 dX5_readOrder_241 h (fun k1 h => ?_)
  refine j_iload_n O 1 2 dX5_readOrder_244 rfl rfl ?_
  refine j_bipush (m := 8) O dX5_readOrder_245 bi_8 ?_
  refine j_iadd O dX5_readOrder_247 ?_
  refine j_aload_n O 0 0 dX5_readOrder_248 rfl rfl ?_
  refine j_getI O cfX5 23 (Nat.le_of_ble_eq_true rfl) (.inl rfl) q1591 dX5_readOrder_249 h (fun v2 h => ?_)
  refine j_iast O dX5_readOrder_252 h (fun w3 h => ?_)
  exact j_vret O hr dX5_readOrder_253 h
theorem wk_X5_readOrder_201 {x : Cx} (O : OK x "DowryBoxesModel" cX5_readOrder 9) (hr : (xM x).sig.returnType = none) (hm : xn x = 4) {Q : Wd → Prop} (this : Nat) (x2 : Int) (w : Wd) (h : wp_X5_readOrder_201 Q this x2 w) : J x (TV x Q) w 0 0 201 [(0, .ref (adG (xG x) (this))), (2, vI (x2))] [] := by
  unfold wp_X5_readOrder_201 at h
  refine j_aload_n O 0 0 dX5_readOrder_201 rfl rfl ?_
  refine j_getA O cfX5 54 (Nat.le_of_ble_eq_true rfl) ⟨_, rfl⟩ q1622 dX5_readOrder_202 h (fun k1 h => ?_)
  refine j_iload_n O 1 2 dX5_readOrder_205 rfl rfl ?_
  refine j_bipush (m := 7) O dX5_readOrder_206 bi_7 ?_
  refine j_iadd O dX5_readOrder_208 ?_
  refine j_aload_n O 0 0 dX5_readOrder_209 rfl rfl ?_
  refine j_getI O cfX5 23 (Nat.le_of_ble_eq_true rfl) (.inl rfl) q1591 dX5_readOrder_210 h (fun v2 h => ?_)
  refine j_iast O dX5_readOrder_213 h (fun w3 h => ?_)
  refine j_aload_n O 0 0 dX5_readOrder_214 rfl rfl ?_
  refine j_getI O cfX5 19 (Nat.le_of_ble_eq_true rfl) (.inr (.inl rfl)) q1587 dX5_readOrder_215 h (fun v4 h => ?_)
  obtain ⟨c5, h⟩ := h
  refine j_if_ne O (tgt := 240) dX5_readOrder_218 (by decide) c5 h (fun h => ?_) (fun h => ?_)
  · exact (J.sub [0, 1] rfl <| wk_X5_readOrder_240 O hr hm  _ _  _ h)
  · refine j_aload_n O 0 0 dX5_readOrder_221 rfl rfl ?_
    refine j_ldc2 (m := 294) O dX5_readOrder_222 q2031 l2_294 ?_
    obtain ⟨e8, h⟩ := h
    refine fin_I O ⟨Nat.zero_le _, Nat.zero_le _⟩ (run_V (As := [vL (294)]) (st := []) O (mt_X5_isWord (xl x) (xG x) _ _ _ _ h) e8 cfX5.1 q1948 q1950 qs71 q131 q1951 hy_X5_isWord (Nat.le_of_ble_eq_true rfl) (Nat.le_of_ble_eq_true rfl) ⟨Nat.zero_le _, Nat.zero_le _⟩ rfl (Nat.le_of_ble_eq_true rfl) dX5_readOrder_225) (fun r6 w7 h => ?_)
    obtain ⟨c9, h⟩ := h
    refine j_if_eq O (tgt := 240) dX5_readOrder_228 (by decide) c9 h (fun h => ?_) (fun h => ?_)
    · exact (J.sub [0, 1] rfl <| wk_X5_readOrder_240 O hr hm  _ _  _ h)
    · refine j_aload_n O 0 0 dX5_readOrder_231 rfl rfl ?_
      obtain ⟨e11, h⟩ := h
      refine fin_V O ⟨Nat.zero_le _, Nat.zero_le _⟩ (run_V (As := []) (st := []) O (mt_X5_next (xl x) (xG x) _ _ _ h) e11 cfX5.1 q1930 q1932 qs69 q131 q1933 hy_X5_next (Nat.le_of_ble_eq_true rfl) (Nat.le_of_ble_eq_true rfl) ⟨Nat.zero_le _, Nat.zero_le _⟩ rfl (Nat.le_of_ble_eq_true rfl) dX5_readOrder_232) (fun w10 h => ?_)
      refine j_aload_n O 0 0 dX5_readOrder_235 rfl rfl ?_
      refine j_iconst O dX5_readOrder_236 ?_
      obtain ⟨e13, h⟩ := h
      refine fin_V O ⟨Nat.zero_le _, Nat.zero_le _⟩ (run_V (As := [vI (1)]) (st := []) O (mt_X5_readExpression (xl x) (xG x) _ _ _ _ h) e13 cfX5.1 q1956 q1958 qs73 q131 q1959 hy_X5_readExpression (Nat.le_of_ble_eq_true rfl) (Nat.le_of_ble_eq_true rfl) ⟨Nat.zero_le _, Nat.zero_le _⟩ rfl (Nat.le_of_ble_eq_true rfl) dX5_readOrder_237) (fun w12 h => ?_)
      exact (J.sub [0, 1] rfl <| wk_X5_readOrder_240 O hr hm  _ _  _ h)
theorem wk_X5_readOrder_153 {x : Cx} (O : OK x "DowryBoxesModel" cX5_readOrder 9) (hr : (xM x).sig.returnType = none) (hm : xn x = 4) {Q : Wd → Prop} (this : Nat) (x2 : Int) (w : Wd) (h : wp_X5_readOrder_153 Q this x2 w) : J x (TV x Q) w 0 0 153 [(0, .ref (adG (xG x) (this))), (2, vI (x2))] [] := by
  unfold wp_X5_readOrder_153 at h
  refine j_aload_n O 0 0 dX5_readOrder_153 rfl rfl ?_
  refine j_getA O cfX5 54 (Nat.le_of_ble_eq_true rfl) ⟨_, rfl⟩ q1622 dX5_readOrder_154 h (fun k1 h => ?_)
  refine j_iload_n O 1 2 dX5_readOrder_157 rfl rfl ?_
  refine j_bipush (m := 9) O dX5_readOrder_158 bi_9 ?_
  refine j_iadd O dX5_readOrder_160 ?_
  refine j_iconst O dX5_readOrder_161 ?_
  refine j_iast O dX5_readOrder_162 h (fun w2 h => ?_)
  refine j_aload_n O 0 0 dX5_readOrder_163 rfl rfl ?_
  refine j_getI O cfX5 19 (Nat.le_of_ble_eq_true rfl) (.inr (.inl rfl)) q1587 dX5_readOrder_164 h (fun v3 h => ?_)
  obtain ⟨c4, h⟩ := h
  refine j_if_ne O (tgt := 201) dX5_readOrder_167 (by decide) c4 h (fun h => ?_) (fun h => ?_)
  · exact (J.sub [0, 1] rfl <| wk_X5_readOrder_201 O hr hm  _ _  _ h)
  · refine j_aload_n O 0 0 dX5_readOrder_170 rfl rfl ?_
    refine j_ldc2 (m := 21279923) O dX5_readOrder_171 q2225 l2_21279923 ?_
    obtain ⟨e7, h⟩ := h
    refine fin_I O ⟨Nat.zero_le _, Nat.zero_le _⟩ (run_V (As := [vL (21279923)]) (st := []) O (mt_X5_isWord (xl x) (xG x) _ _ _ _ h) e7 cfX5.1 q1948 q1950 qs71 q131 q1951 hy_X5_isWord (Nat.le_of_ble_eq_true rfl) (Nat.le_of_ble_eq_true rfl) ⟨Nat.zero_le _, Nat.zero_le _⟩ rfl (Nat.le_of_ble_eq_true rfl) dX5_readOrder_174) (fun r5 w6 h => ?_)
    obtain ⟨c8, h⟩ := h
    refine j_if_eq O (tgt := 201) dX5_readOrder_177 (by decide) c8 h (fun h => ?_) (fun h => ?_)
    · exact (J.sub [0, 1] rfl <| wk_X5_readOrder_201 O hr hm  _ _  _ h)
    · refine j_aload_n O 0 0 dX5_readOrder_180 rfl rfl ?_
      obtain ⟨e10, h⟩ := h
      refine fin_V O ⟨Nat.zero_le _, Nat.zero_le _⟩ (run_V (As := []) (st := []) O (mt_X5_next (xl x) (xG x) _ _ _ h) e10 cfX5.1 q1930 q1932 qs69 q131 q1933 hy_X5_next (Nat.le_of_ble_eq_true rfl) (Nat.le_of_ble_eq_true rfl) ⟨Nat.zero_le _, Nat.zero_le _⟩ rfl (Nat.le_of_ble_eq_true rfl) dX5_readOrder_181) (fun w9 h => ?_)
      refine j_aload_n O 0 0 dX5_readOrder_184 rfl rfl ?_
      refine j_getA O cfX5 54 (Nat.le_of_ble_eq_true rfl) ⟨_, rfl⟩ q1622 dX5_readOrder_185 h (fun k11 h => ?_)
      refine j_iload_n O 1 2 dX5_readOrder_188 rfl rfl ?_
      refine j_bipush (m := 9) O dX5_readOrder_189 bi_9 ?_
      refine j_iadd O dX5_readOrder_191 ?_
      refine j_aload_n O 0 0 dX5_readOrder_192 rfl rfl ?_
      refine j_lconst (m := 1) O dX5_readOrder_193 lc_1 ?_
      refine j_ldc2 (m := 20) O dX5_readOrder_194 q1787 l2_20 ?_
      obtain ⟨e14, h⟩ := h
      refine fin_I O ⟨Nat.zero_le _, Nat.zero_le _⟩ (run_V (As := [vL (1), vL (20)]) (st := [vI (x2 + 9), .ref (adG (xG x) (k11))]) O (mt_X5_number (xl x) (xG x) _ _ _ _ _ h) e14 cfX5.1 q1999 q2001 qs83 q131 q2002 hy_X5_number (Nat.le_of_ble_eq_true rfl) (Nat.le_of_ble_eq_true rfl) ⟨Nat.zero_le _, Nat.zero_le _⟩ rfl (Nat.le_of_ble_eq_true rfl) dX5_readOrder_197) (fun r12 w13 h => ?_)
      refine j_iast O dX5_readOrder_200 h (fun w15 h => ?_)
      exact (J.sub [0, 1] rfl <| wk_X5_readOrder_201 O hr hm  _ _  _ h)
theorem wk_X5_readOrder_137 {x : Cx} (O : OK x "DowryBoxesModel" cX5_readOrder 9) (hr : (xM x).sig.returnType = none) (hm : xn x = 4) {Q : Wd → Prop} (this : Nat) (x1 : Int) (x2 : Int) (w : Wd) (h : wp_X5_readOrder_137 Q this x1 x2 w) : J x (TV x Q) w 0 0 137 [(0, .ref (adG (xG x) (this))), (1, vI (x1)), (2, vI (x2))] [] := by
  unfold wp_X5_readOrder_137 at h
  refine j_iload_n O 1 1 dX5_readOrder_137 rfl rfl ?_
  obtain ⟨c1, h⟩ := h
  refine j_if_ne O (tgt := 153) dX5_readOrder_138 (by decide) c1 h (fun h => ?_) (fun h => ?_)
  · exact (J.sub [0, 2] rfl <| wk_X5_readOrder_153 O hr hm  _ _  _ h)
  · refine j_aload_n O 0 0 dX5_readOrder_141 rfl rfl ?_
    refine j_iconst O dX5_readOrder_142 ?_
    obtain ⟨e3, h⟩ := h
    refine fin_V O ⟨Nat.zero_le _, Nat.zero_le _⟩ (run_V (As := [vI (1)]) (st := []) O (mt_X5_mustJoin (xl x) (xG x) _ _ _ _ h) e3 cfX5.1 q2221 q2223 qs113 q131 q2224 hy_X5_mustJoin (Nat.le_of_ble_eq_true rfl) (Nat.le_of_ble_eq_true rfl) ⟨Nat.zero_le _, Nat.zero_le _⟩ rfl (Nat.le_of_ble_eq_true rfl) dX5_readOrder_143) (fun w2 h => ?_)
    refine j_aload_n O 0 0 dX5_readOrder_146 rfl rfl ?_
    refine j_iload_n O 2 2 dX5_readOrder_147 rfl rfl ?_
    refine j_iconst O dX5_readOrder_148 ?_
    refine j_iadd O dX5_readOrder_149 ?_
    obtain ⟨e5, h⟩ := h
    refine fin_V O ⟨Nat.zero_le _, Nat.zero_le _⟩ (run_V (As := [vI ((x2 + 5))]) (st := []) O (mt_X5_readSum (xl x) (xG x) _ _ _ _ h) e5 cfX5.1 q2217 q2219 qs112 q131 q2220 hy_X5_readSum (Nat.le_of_ble_eq_true rfl) (Nat.le_of_ble_eq_true rfl) ⟨Nat.zero_le _, Nat.zero_le _⟩ rfl (Nat.le_of_ble_eq_true rfl) dX5_readOrder_150) (fun w4 h => ?_)
    exact (J.sub [0, 2] rfl <| wk_X5_readOrder_153 O hr hm  _ _  _ h)
theorem wk_X5_readOrder_54 {x : Cx} (O : OK x "DowryBoxesModel" cX5_readOrder 9) (hr : (xM x).sig.returnType = none) (hm : xn x = 4) {Q : Wd → Prop} (this : Nat) (x1 : Int) (s0 : Int) (s1 : Nat) (w : Wd) (h : wp_X5_readOrder_54 Q this x1 s0 s1 w) : J x (TV x Q) w 0 0 54 [(0, .ref (adG (xG x) (this))), (1, vI (x1))] [vI (s0), .ref (adG (xG x) (s1))] := by
  unfold wp_X5_readOrder_54 at h
  obtain ⟨e2, h⟩ := h
  refine fin_V O ⟨Nat.zero_le _, Nat.zero_le _⟩ (run_V (As := [vI (s0)]) (st := []) O (mt_X5_must (xl x) (xG x) _ _ _ _ h) e2 cfX5.1 q1952 q1954 qs72 q131 q1955 hy_X5_must (Nat.le_of_ble_eq_true rfl) (Nat.le_of_ble_eq_true rfl) ⟨Nat.zero_le _, Nat.zero_le _⟩ rfl (Nat.le_of_ble_eq_true rfl) dX5_readOrder_54) (fun w1 h => ?_)
  refine j_aload_n O 0 0 dX5_readOrder_57 rfl rfl ?_
  refine j_getI O cfX5 19 (Nat.le_of_ble_eq_true rfl) (.inr (.inl rfl)) q1587 dX5_readOrder_58 h (fun v3 h => ?_)
  obtain ⟨c4, h⟩ := h
  refine j_if_eq O (tgt := 65) dX5_readOrder_61 (by decide) c4 h (fun h => ?_) (fun h => ?_)
  · refine j_bipush (m := 10) O dX5_readOrder_65 bi_10 ?_
    refine j_aload_n O 0 0 dX5_readOrder_67 rfl rfl ?_
    refine j_getI O cfX5 21 (Nat.le_of_ble_eq_true rfl) (.inl rfl) q1589 dX5_readOrder_68 h (fun v5 h => ?_)
    refine j_imul O dX5_readOrder_71 ?_
    refine j_istore_n (L' := [(2, vI (10 * v5)), (0, .ref (adG (xG x) (this))), (1, vI (x1))]) O 2 dX5_readOrder_72 rfl (by rw [hm]; decide) rfl ?_
    refine j_aload_n O 1 0 dX5_readOrder_73 rfl rfl ?_
    refine j_dup O dX5_readOrder_74 rfl ?_
    refine j_getI O cfX5 21 (Nat.le_of_ble_eq_true rfl) (.inl rfl) q1589 dX5_readOrder_75 h (fun v6 h => ?_)
    refine j_iconst O dX5_readOrder_78 ?_
    refine j_iadd O dX5_readOrder_79 ?_
    refine j_putI O cfX5 21 (Nat.le_of_ble_eq_true rfl) rfl q1589 rfl dX5_readOrder_80 h (fun w7 h => ?_)
    refine j_iconst O dX5_readOrder_83 ?_
    refine j_istore_n (L' := [(3, vI (0)), (2, vI (10 * v5)), (0, .ref (adG (xG x) (this))), (1, vI (x1))]) O 3 dX5_readOrder_84 rfl (by rw [hm]; decide) rfl ?_
    refine (J.sub [2, 3, 1, 0] rfl <| wk_X5_readOrder_85 O hr hm _ _ _ _ (fun w8 h => ?_) FU _ _ h)
    refine j_aload_n O 0 0 dX5_readOrder_106 rfl rfl ?_
    refine j_getA O cfX5 54 (Nat.le_of_ble_eq_true rfl) ⟨_, rfl⟩ q1622 dX5_readOrder_107 h (fun k9 h => ?_)
    refine j_iload_n O 2 2 dX5_readOrder_110 rfl rfl ?_
    refine j_iload_n O 1 1 dX5_readOrder_111 rfl rfl ?_
    refine j_iast O dX5_readOrder_112 h (fun w10 h => ?_)
    refine j_iload_n O 1 1 dX5_readOrder_113 rfl rfl ?_
    refine j_iconst O dX5_readOrder_114 ?_
    obtain ⟨c11, h⟩ := h
    refine j_icmp_eq O (tgt := 137) dX5_readOrder_115 (by decide) c11 (by decide) h (fun h => ?_) (fun h => ?_)
    · exact (J.sub [0, 1, 2] rfl <| wk_X5_readOrder_137 O hr hm  _ _ _  _ h)
    · refine j_aload_n O 0 0 dX5_readOrder_118 rfl rfl ?_
      refine j_iload_n O 2 2 dX5_readOrder_119 rfl rfl ?_
      refine j_iconst O dX5_readOrder_120 ?_
      refine j_iadd O dX5_readOrder_121 ?_
      obtain ⟨e13, h⟩ := h
      refine fin_V O ⟨Nat.zero_le _, Nat.zero_le _⟩ (run_V (As := [vI (((10 * v5) + 1))]) (st := []) O (mt_X5_readSum (xl x) (xG x) _ _ _ _ h) e13 cfX5.1 q2217 q2219 qs112 q131 q2220 hy_X5_readSum (Nat.le_of_ble_eq_true rfl) (Nat.le_of_ble_eq_true rfl) ⟨Nat.zero_le _, Nat.zero_le _⟩ rfl (Nat.le_of_ble_eq_true rfl) dX5_readOrder_122) (fun w12 h => ?_)
      refine j_aload_n O 0 0 dX5_readOrder_125 rfl rfl ?_
      refine j_iload_n O 1 1 dX5_readOrder_126 rfl rfl ?_
      obtain ⟨e15, h⟩ := h
      refine fin_V O ⟨Nat.zero_le _, Nat.zero_le _⟩ (run_V (As := [vI (x1)]) (st := []) O (mt_X5_mustJoin (xl x) (xG x) _ _ _ _ h) e15 cfX5.1 q2221 q2223 qs113 q131 q2224 hy_X5_mustJoin (Nat.le_of_ble_eq_true rfl) (Nat.le_of_ble_eq_true rfl) ⟨Nat.zero_le _, Nat.zero_le _⟩ rfl (Nat.le_of_ble_eq_true rfl) dX5_readOrder_127) (fun w14 h => ?_)
      refine j_aload_n O 0 0 dX5_readOrder_130 rfl rfl ?_
      refine j_iload_n O 2 2 dX5_readOrder_131 rfl rfl ?_
      refine j_iconst O dX5_readOrder_132 ?_
      refine j_iadd O dX5_readOrder_133 ?_
      obtain ⟨e17, h⟩ := h
      refine fin_V O ⟨Nat.zero_le _, Nat.zero_le _⟩ (run_V (As := [vI (((10 * v5) + 3))]) (st := []) O (mt_X5_readSum (xl x) (xG x) _ _ _ _ h) e17 cfX5.1 q2217 q2219 qs112 q131 q2220 hy_X5_readSum (Nat.le_of_ble_eq_true rfl) (Nat.le_of_ble_eq_true rfl) ⟨Nat.zero_le _, Nat.zero_le _⟩ rfl (Nat.le_of_ble_eq_true rfl) dX5_readOrder_134) (fun w16 h => ?_)
      exact (J.sub [0, 1, 2] rfl <| wk_X5_readOrder_137 O hr hm  _ _ _  _ h)
  · exact j_vret O hr dX5_readOrder_64 h
theorem wk_X5_readOrder_53 {x : Cx} (O : OK x "DowryBoxesModel" cX5_readOrder 9) (hr : (xM x).sig.returnType = none) (hm : xn x = 4) {Q : Wd → Prop} (this : Nat) (x1 : Int) (s0 : Nat) (w : Wd) (h : wp_X5_readOrder_53 Q this x1 s0 w) : J x (TV x Q) w 0 0 53 [(0, .ref (adG (xG x) (this))), (1, vI (x1))] [.ref (adG (xG x) (s0))] := by
  unfold wp_X5_readOrder_53 at h
  refine j_iconst O dX5_readOrder_53 ?_
  exact (J.sub [0, 1] rfl <| wk_X5_readOrder_54 O hr hm  _ _ _ _  _ h)
theorem mt_X5_readOrder (l : Launch) (G : GW) (this : Nat) (w : Wd) (Q : Wd → Prop) (h : wp_X5_readOrder this w Q) : MV l G yX5_readOrder cX5_readOrder 4 9 0 0 [.ref (adG G (this))] w Q := by
  refine met_V (fun G => [.ref (adG G (this))]) (by decide) (fun G => Nat.le_of_ble_eq_true rfl) (fun x O hl hm hr _ => ?_)
  subst hl
  have O : OK x "DowryBoxesModel" cX5_readOrder 9 := O
  have h : wp_X5_readOrder this w Q := h
  unfold wp_X5_readOrder at h
  show J x (TV x Q) w 0 0 0 [(0, .ref (adG (xG x) (this)))] []
  refine j_iconst O dX5_readOrder_0 ?_
  refine j_istore_n (L' := [(1, vI ((-1))), (0, .ref (adG (xG x) (this)))]) O 1 dX5_readOrder_1 rfl (by rw [hm]; decide) rfl ?_
  refine j_iconst O dX5_readOrder_2 ?_
  refine j_istore_n (L' := [(2, vI (0)), (1, vI ((-1))), (0, .ref (adG (xG x) (this)))]) O 2 dX5_readOrder_3 rfl (by rw [hm]; decide) rfl ?_
  refine (J.sub [2, 1, 0] rfl <| wk_X5_readOrder_4 O hr hm _ _ (fun z1 w2 h => ?_) FU _ _ _ h)
  refine j_aload_n O 0 0 dX5_readOrder_34 rfl rfl ?_
  refine j_iload_n O 1 1 dX5_readOrder_35 rfl rfl ?_
  refine j_iconst O dX5_readOrder_36 ?_
  obtain ⟨c3, h⟩ := h
  refine j_icmp_eq O (tgt := 53) dX5_readOrder_37 (by decide) c3 (by decide) h (fun h => ?_) (fun h => ?_)
  · exact (J.sub [0, 1] rfl <| wk_X5_readOrder_53 O hr hm  _ _ _  _ h)
  · refine j_aload_n O 0 0 dX5_readOrder_40 rfl rfl ?_
    refine j_getI O cfX5 21 (Nat.le_of_ble_eq_true rfl) (.inl rfl) q1589 dX5_readOrder_41 h (fun v4 h => ?_)
    refine j_bipush (m := 12) O dX5_readOrder_44 bi_12 ?_
    obtain ⟨c5, h⟩ := h
    refine j_icmp_ge O (tgt := 53) dX5_readOrder_46 (by decide) c5 (by decide) h (fun h => ?_) (fun h => ?_)
    · exact (J.sub [0, 1] rfl <| wk_X5_readOrder_53 O hr hm  _ _ _  _ h)
    · refine j_iconst O dX5_readOrder_49 ?_
      refine j_goto O (tgt := 54) dX5_readOrder_50 (by decide) ?_
      exact (J.sub [0, 1] rfl <| wk_X5_readOrder_54 O hr hm  _ _ _ _  _ h)
theorem hy_X5_begin : (yX5_begin.cls = "DowryBoxesModel" ∧ yX5_begin.cls ≠ "java/lang/invoke/MethodHandle" ∧ yX5_begin.cls ≠ "java/lang/invoke/VarHandle" ∧ (parseMethodDescriptor yX5_begin.desc).map (fun d => d.parameters.length) = some 0) := by decide +kernel
theorem mt_X5_begin (l : Launch) (G : GW) (this : Nat) (w : Wd) (Q : Wd → Prop) (h : wp_X5_begin this w Q) : MV l G yX5_begin cX5_begin 1 3 0 0 [.ref (adG G (this))] w Q := by
  refine met_V (fun G => [.ref (adG G (this))]) (by decide) (fun G => Nat.le_of_ble_eq_true rfl) (fun x O hl hm hr _ => ?_)
  subst hl
  have O : OK x "DowryBoxesModel" cX5_begin 3 := O
  have h : wp_X5_begin this w Q := h
  unfold wp_X5_begin at h
  show J x (TV x Q) w 0 0 0 [(0, .ref (adG (xG x) (this)))] []
  refine j_aload_n O 0 0 dX5_begin_0 rfl rfl ?_
  refine j_iconst O dX5_begin_1 ?_
  refine j_putI O cfX5 15 (Nat.le_of_ble_eq_true rfl) rfl q1583 rfl dX5_begin_2 h (fun w1 h => ?_)
  refine j_aload_n O 0 0 dX5_begin_5 rfl rfl ?_
  refine j_iconst O dX5_begin_6 ?_
  refine j_putZ O cfX5 19 (Nat.le_of_ble_eq_true rfl) rfl q1587 rfl dX5_begin_7 h (fun w2 h => ?_)
  refine j_aload_n O 0 0 dX5_begin_10 rfl rfl ?_
  refine j_iconst O dX5_begin_11 ?_
  refine j_putI O cfX5 18 (Nat.le_of_ble_eq_true rfl) rfl q1586 rfl dX5_begin_12 h (fun w3 h => ?_)
  refine j_aload_n O 0 0 dX5_begin_15 rfl rfl ?_
  obtain ⟨e5, h⟩ := h
  refine fin_V O ⟨Nat.zero_le _, Nat.zero_le _⟩ (run_V (As := []) (st := []) O (mt_X5_next (xl x) (xG x) _ _ _ h) e5 cfX5.1 q1930 q1932 qs69 q131 q1933 hy_X5_next (Nat.le_of_ble_eq_true rfl) (Nat.le_of_ble_eq_true rfl) ⟨Nat.zero_le _, Nat.zero_le _⟩ rfl (Nat.le_of_ble_eq_true rfl) dX5_begin_16) (fun w4 h => ?_)
  exact j_vret O hr dX5_begin_19 h
theorem hy_X5_beginText : (yX5_beginText.cls = "DowryBoxesModel" ∧ yX5_beginText.cls ≠ "java/lang/invoke/MethodHandle" ∧ yX5_beginText.cls ≠ "java/lang/invoke/VarHandle" ∧ (parseMethodDescriptor yX5_beginText.desc).map (fun d => d.parameters.length) = some 1) := by decide +kernel
theorem mt_X5_beginText (l : Launch) (G : GW) (this : Nat) (p1 : Int) (w : Wd) (Q : Wd → Prop) (h : wp_X5_beginText this p1 w Q) : MV l G yX5_beginText cX5_beginText 2 4 0 0 [.ref (adG G (this)), vI (p1)] w Q := by
  refine met_V (fun G => [.ref (adG G (this)), vI (p1)]) (by decide) (fun G => Nat.le_of_ble_eq_true rfl) (fun x O hl hm hr _ => ?_)
  subst hl
  have O : OK x "DowryBoxesModel" cX5_beginText 4 := O
  have h : wp_X5_beginText this p1 w Q := h
  unfold wp_X5_beginText at h
  show J x (TV x Q) w 0 0 0 [(0, .ref (adG (xG x) (this))), (1, vI (p1))] []
  refine j_aload_n O 0 0 dX5_beginText_0 rfl rfl ?_
  refine j_iload_n O 1 1 dX5_beginText_1 rfl rfl ?_
  refine j_putZ O cfX5 20 (Nat.le_of_ble_eq_true rfl) rfl q1588 rfl dX5_beginText_2 h (fun w1 h => ?_)
  refine j_aload_n O 0 0 dX5_beginText_5 rfl rfl ?_
  obtain ⟨e3, h⟩ := h
  refine fin_V O ⟨Nat.zero_le _, Nat.zero_le _⟩ (run_V (As := []) (st := []) O (mt_X5_begin (xl x) (xG x) _ _ _ h) e3 cfX5.1 q1926 q1928 qs68 q131 q1929 hy_X5_begin (Nat.le_of_ble_eq_true rfl) (Nat.le_of_ble_eq_true rfl) ⟨Nat.zero_le _, Nat.zero_le _⟩ rfl (Nat.le_of_ble_eq_true rfl) dX5_beginText_6) (fun w2 h => ?_)
  refine j_aload_n O 0 0 dX5_beginText_9 rfl rfl ?_
  refine j_iconst O dX5_beginText_10 ?_
  refine j_putI O cfX5 21 (Nat.le_of_ble_eq_true rfl) rfl q1589 rfl dX5_beginText_11 h (fun w4 h => ?_)
  refine j_aload_n O 0 0 dX5_beginText_14 rfl rfl ?_
  refine j_iconst O dX5_beginText_15 ?_
  refine j_putI O cfX5 23 (Nat.le_of_ble_eq_true rfl) rfl q1591 rfl dX5_beginText_16 h (fun w5 h => ?_)
  refine j_aload_n O 0 0 dX5_beginText_19 rfl rfl ?_
  refine j_iconst O dX5_beginText_20 ?_
  refine j_putI O cfX5 26 (Nat.le_of_ble_eq_true rfl) rfl q1594 rfl dX5_beginText_21 h (fun w6 h => ?_)
  exact j_vret O hr dX5_beginText_24 h
theorem hy_X5_endText : (yX5_endText.cls = "DowryBoxesModel" ∧ yX5_endText.cls ≠ "java/lang/invoke/MethodHandle" ∧ yX5_endText.cls ≠ "java/lang/invoke/VarHandle" ∧ (parseMethodDescriptor yX5_endText.desc).map (fun d => d.parameters.length) = some 0) := by decide +kernel
theorem wk_X5_endText_19 {x : Cx} (O : OK x "DowryBoxesModel" cX5_endText 4) (hr : (xM x).sig.returnType = none) (hm : xn x = 1) {Q : Wd → Prop} (this : Nat) (w : Wd) (h : wp_X5_endText_19 Q this w) : J x (TV x Q) w 0 0 19 [(0, .ref (adG (xG x) (this)))] [] := by
  unfold wp_X5_endText_19 at h
  refine j_aload_n O 0 0 dX5_endText_19 rfl rfl ?_
  refine j_iconst O dX5_endText_20 ?_
  refine j_putZ O cfX5 20 (Nat.le_of_ble_eq_true rfl) rfl q1588 rfl dX5_endText_21 h (fun w1 h => ?_)
  refine j_aload_n O 0 0 dX5_endText_24 rfl rfl ?_
  refine j_iconst O dX5_endText_25 ?_
  refine j_putI O cfX5 13 (Nat.le_of_ble_eq_true rfl) rfl q1581 rfl dX5_endText_26 h (fun w2 h => ?_)
  exact j_vret O hr dX5_endText_29 h
theorem mt_X5_endText (l : Launch) (G : GW) (this : Nat) (w : Wd) (Q : Wd → Prop) (h : wp_X5_endText this w Q) : MV l G yX5_endText cX5_endText 1 4 0 0 [.ref (adG G (this))] w Q := by
  refine met_V (fun G => [.ref (adG G (this))]) (by decide) (fun G => Nat.le_of_ble_eq_true rfl) (fun x O hl hm hr _ => ?_)
  subst hl
  have O : OK x "DowryBoxesModel" cX5_endText 4 := O
  have h : wp_X5_endText this w Q := h
  unfold wp_X5_endText at h
  show J x (TV x Q) w 0 0 0 [(0, .ref (adG (xG x) (this)))] []
  refine j_aload_n O 0 0 dX5_endText_0 rfl rfl ?_
  refine j_getI O cfX5 19 (Nat.le_of_ble_eq_true rfl) (.inr (.inl rfl)) q1587 dX5_endText_1 h (fun v1 h => ?_)
  obtain ⟨c2, h⟩ := h
  refine j_if_ne O (tgt := 19) dX5_endText_4 (by decide) c2 h (fun h => ?_) (fun h => ?_)
  · exact (J.sub [0] rfl <| wk_X5_endText_19 O hr hm  _  _ h)
  · refine j_aload_n O 0 0 dX5_endText_7 rfl rfl ?_
    refine j_getI O cfX5 16 (Nat.le_of_ble_eq_true rfl) (.inl rfl) q1584 dX5_endText_8 h (fun v3 h => ?_)
    obtain ⟨c4, h⟩ := h
    refine j_if_eq O (tgt := 19) dX5_endText_11 (by decide) c4 h (fun h => ?_) (fun h => ?_)
    · exact (J.sub [0] rfl <| wk_X5_endText_19 O hr hm  _  _ h)
    · refine j_aload_n O 0 0 dX5_endText_14 rfl rfl ?_
      refine j_iconst O dX5_endText_15 ?_
      obtain ⟨e6, h⟩ := h
      refine fin_V O ⟨Nat.zero_le _, Nat.zero_le _⟩ (run_V (As := [vI (0)]) (st := []) O (mt_X5_must (xl x) (xG x) _ _ _ _ h) e6 cfX5.1 q1952 q1954 qs72 q131 q1955 hy_X5_must (Nat.le_of_ble_eq_true rfl) (Nat.le_of_ble_eq_true rfl) ⟨Nat.zero_le _, Nat.zero_le _⟩ rfl (Nat.le_of_ble_eq_true rfl) dX5_endText_16) (fun w5 h => ?_)
      exact (J.sub [0] rfl <| wk_X5_endText_19 O hr hm  _  _ h)
theorem hy_X5_orders : (yX5_orders.cls = "DowryBoxesModel" ∧ yX5_orders.cls ≠ "java/lang/invoke/MethodHandle" ∧ yX5_orders.cls ≠ "java/lang/invoke/VarHandle" ∧ (parseMethodDescriptor yX5_orders.desc).map (fun d => d.parameters.length) = some 0) := by decide +kernel
theorem wk_X5_orders_19 {x : Cx} (O : OK x "DowryBoxesModel" cX5_orders 11) (hr : (xM x).sig.returnType = some .int) (hm : xn x = 4) {Q : Int → Wd → Prop} (X19 : Wd → Prop) (this : Nat) (hX19 : ∀  (w : Wd), X19  w → J x (TI x Q) w 0 0 46 [(0, .ref (adG (xG x) (this)))] []) : ∀ (n : Nat) (w : Wd), wp_X5_orders_19 Q X19 this n w → J x (TI x Q) w 0 0 19 [(0, .ref (adG (xG x) (this)))] [] := by
  intro n
  induction n with
  | zero => intro w h; exact False.elim h
  | succ n ih =>
    intro w h
    rw [wp_X5_orders_19] at h
    refine j_aload_n O 0 0 dX5_orders_19 rfl rfl ?_
    refine j_getI O cfX5 19 (Nat.le_of_ble_eq_true rfl) (.inr (.inl rfl)) q1587 dX5_orders_20 h (fun v1 h => ?_)
    obtain ⟨c2, h⟩ := h
    refine j_if_ne O (tgt := 46) dX5_orders_23 (by decide) c2 h (fun h => ?_) (fun h => ?_)
    · exact (J.sub [0] rfl <| hX19  _ h)
    · refine j_aload_n O 0 0 dX5_orders_26 rfl rfl ?_
      refine j_bipush (m := 59) O dX5_orders_27 bi_59 ?_
      obtain ⟨e5, h⟩ := h
      refine fin_I O ⟨Nat.zero_le _, Nat.zero_le _⟩ (run_V (As := [vI (59)]) (st := []) O (mt_X5_isSign (xl x) (xG x) _ _ _ _ h) e5 cfX5.1 q1969 q1971 qs76 q131 q1972 hy_X5_isSign (Nat.le_of_ble_eq_true rfl) (Nat.le_of_ble_eq_true rfl) ⟨Nat.zero_le _, Nat.zero_le _⟩ rfl (Nat.le_of_ble_eq_true rfl) dX5_orders_29) (fun r3 w4 h => ?_)
      obtain ⟨c6, h⟩ := h
      refine j_if_eq O (tgt := 46) dX5_orders_32 (by decide) c6 h (fun h => ?_) (fun h => ?_)
      · exact (J.sub [0] rfl <| hX19  _ h)
      · refine j_aload_n O 0 0 dX5_orders_35 rfl rfl ?_
        obtain ⟨e8, h⟩ := h
        refine fin_V O ⟨Nat.zero_le _, Nat.zero_le _⟩ (run_V (As := []) (st := []) O (mt_X5_next (xl x) (xG x) _ _ _ h) e8 cfX5.1 q1930 q1932 qs69 q131 q1933 hy_X5_next (Nat.le_of_ble_eq_true rfl) (Nat.le_of_ble_eq_true rfl) ⟨Nat.zero_le _, Nat.zero_le _⟩ rfl (Nat.le_of_ble_eq_true rfl) dX5_orders_36) (fun w7 h => ?_)
        refine j_aload_n O 0 0 dX5_orders_39 rfl rfl ?_
        obtain ⟨e10, h⟩ := h
        refine fin_V O ⟨Nat.zero_le _, Nat.zero_le _⟩ (run_V (As := []) (st := []) O (mt_X5_readOrder (xl x) (xG x) _ _ _ h) e10 cfX5.1 q2213 q2215 qs111 q131 q2216 hy_X5_readOrder (Nat.le_of_ble_eq_true rfl) (Nat.le_of_ble_eq_true rfl) ⟨Nat.zero_le _, Nat.zero_le _⟩ rfl (Nat.le_of_ble_eq_true rfl) dX5_orders_40) (fun w9 h => ?_)
        refine j_goto O (tgt := 19) dX5_orders_43 (by decide) ?_
        exact (J.sub [0] rfl <| ih  _ h)
theorem wk_X5_orders_77 {x : Cx} (O : OK x "DowryBoxesModel" cX5_orders 11) (hr : (xM x).sig.returnType = some .int) (hm : xn x = 4) {Q : Int → Wd → Prop} (X77 : Wd → Prop) (this : Nat) (x1 : Int) (hX77 : ∀  (w : Wd), X77  w → J x (TI x Q) w 0 0 102 [(0, .ref (adG (xG x) (this))), (1, vI (x1))] []) : ∀ (n : Nat) (x2 : Int) (w : Wd), wp_X5_orders_77 Q X77 this x1 n x2 w → J x (TI x Q) w 0 0 77 [(0, .ref (adG (xG x) (this))), (1, vI (x1)), (2, vI (x2))] [] := by
  intro n
  induction n with
  | zero => intro x2 w h; exact False.elim h
  | succ n ih =>
    intro x2 w h
    rw [wp_X5_orders_77] at h
    refine j_iload_n O 2 2 dX5_orders_77 rfl rfl ?_
    refine j_sipush (m := 1200) O dX5_orders_78 si_1200 ?_
    obtain ⟨c1, h⟩ := h
    refine j_icmp_ge O (tgt := 102) dX5_orders_81 (by decide) c1 (by decide) h (fun h => ?_) (fun h => ?_)
    · exact (J.sub [0, 1] rfl <| hX77  _ h)
    · refine j_aload_n O 0 0 dX5_orders_84 rfl rfl ?_
      refine j_getA O cfX5 9 (Nat.le_of_ble_eq_true rfl) ⟨_, rfl⟩ q1577 dX5_orders_85 h (fun k2 h => ?_)
      refine j_iload_n O 2 2 dX5_orders_88 rfl rfl ?_
      refine j_aload_n O 0 0 dX5_orders_89 rfl rfl ?_
      refine j_getA O cfX5 6 (Nat.le_of_ble_eq_true rfl) ⟨_, rfl⟩ q1574 dX5_orders_90 h (fun k3 h => ?_)
      refine j_iload_n O 2 2 dX5_orders_93 rfl rfl ?_
      refine j_iald O dX5_orders_94 h (fun v4 h => ?_)
      refine j_iast O dX5_orders_95 h (fun w5 h => ?_)
      refine j_iinc (L' := [(2, vI (x2 + 1)), (0, .ref (adG (xG x) (this))), (1, vI (x1))]) O 2 dX5_orders_96 rfl (by rw [hm]; decide) rfl ?_
      refine j_goto O (tgt := 77) dX5_orders_99 (by decide) ?_
      exact (J.sub [1, 2, 0] rfl <| ih _ _ h)
theorem wk_X5_orders_104 {x : Cx} (O : OK x "DowryBoxesModel" cX5_orders 11) (hr : (xM x).sig.returnType = some .int) (hm : xn x = 4) {Q : Int → Wd → Prop} (X104 : Wd → Prop) (this : Nat) (x1 : Int) (hX104 : ∀  (w : Wd), X104  w → J x (TI x Q) w 0 0 128 [(0, .ref (adG (xG x) (this))), (1, vI (x1))] []) : ∀ (n : Nat) (x2 : Int) (w : Wd), wp_X5_orders_104 Q X104 this x1 n x2 w → J x (TI x Q) w 0 0 104 [(0, .ref (adG (xG x) (this))), (1, vI (x1)), (2, vI (x2))] [] := by
  intro n
  induction n with
  | zero => intro x2 w h; exact False.elim h
  | succ n ih =>
    intro x2 w h
    rw [wp_X5_orders_104] at h
    refine j_iload_n O 2 2 dX5_orders_104 rfl rfl ?_
    refine j_bipush (m := 16) O dX5_orders_105 bi_16 ?_
    obtain ⟨c1, h⟩ := h
    refine j_icmp_ge O (tgt := 128) dX5_orders_107 (by decide) c1 (by decide) h (fun h => ?_) (fun h => ?_)
    · exact (J.sub [0, 1] rfl <| hX104  _ h)
    · refine j_aload_n O 0 0 dX5_orders_110 rfl rfl ?_
      refine j_getA O cfX5 10 (Nat.le_of_ble_eq_true rfl) ⟨_, rfl⟩ q1578 dX5_orders_111 h (fun k2 h => ?_)
      refine j_iload_n O 2 2 dX5_orders_114 rfl rfl ?_
      refine j_aload_n O 0 0 dX5_orders_115 rfl rfl ?_
      refine j_getA O cfX5 7 (Nat.le_of_ble_eq_true rfl) ⟨_, rfl⟩ q1575 dX5_orders_116 h (fun k3 h => ?_)
      refine j_iload_n O 2 2 dX5_orders_119 rfl rfl ?_
      refine j_iald O dX5_orders_120 h (fun v4 h => ?_)
      refine j_iast O dX5_orders_121 h (fun w5 h => ?_)
      refine j_iinc (L' := [(2, vI (x2 + 1)), (0, .ref (adG (xG x) (this))), (1, vI (x1))]) O 2 dX5_orders_122 rfl (by rw [hm]; decide) rfl ?_
      refine j_goto O (tgt := 104) dX5_orders_125 (by decide) ?_
      exact (J.sub [1, 2, 0] rfl <| ih _ _ h)
theorem wk_X5_orders_150 {x : Cx} (O : OK x "DowryBoxesModel" cX5_orders 11) (hr : (xM x).sig.returnType = some .int) (hm : xn x = 4) {Q : Int → Wd → Prop} (K140 : Int → Wd → Prop) (X140 : Wd → Prop) (X150 : Wd → Prop) (this : Nat) (x1 : Int) (x2 : Int) (hK140 : ∀ (y2 : Int) (w : Wd), K140 y2 w → J x (TI x Q) w 0 0 140 [(0, .ref (adG (xG x) (this))), (1, vI (x1)), (2, vI (y2))] []) (hX140 : ∀  (w : Wd), X140  w → J x (TI x Q) w 0 0 206 [(0, .ref (adG (xG x) (this)))] []) (hX150 : ∀  (w : Wd), X150  w → J x (TI x Q) w 0 0 200 [(0, .ref (adG (xG x) (this))), (1, vI (x1)), (2, vI (x2))] []) : ∀ (n : Nat) (x3 : Int) (w : Wd), wp_X5_orders_150 Q K140 X140 X150 this x1 x2 n x3 w → J x (TI x Q) w 0 0 150 [(0, .ref (adG (xG x) (this))), (1, vI (x1)), (2, vI (x2)), (3, vI (x3))] [] := by
  intro n
  induction n with
  | zero => intro x3 w h; exact False.elim h
  | succ n ih =>
    intro x3 w h
    rw [wp_X5_orders_150] at h
    refine j_iload_n O 3 3 dX5_orders_150 rfl rfl ?_
    refine j_aload_n O 0 0 dX5_orders_151 rfl rfl ?_
    refine j_getA O cfX5 54 (Nat.le_of_ble_eq_true rfl) ⟨_, rfl⟩ q1622 dX5_orders_152 h (fun k1 h => ?_)
    refine j_bipush (m := 10) O dX5_orders_155 bi_10 ?_
    refine j_iload_n O 2 2 dX5_orders_157 rfl rfl ?_
    refine j_imul O dX5_orders_158 ?_
    refine j_bipush (m := 9) O dX5_orders_159 bi_9 ?_
    refine j_iadd O dX5_orders_161 ?_
    refine j_iald O dX5_orders_162 h (fun v2 h => ?_)
    obtain ⟨c3, h⟩ := h
    obtain ⟨c4, h⟩ := h
    refine j_icmp_ge O (tgt := 200) dX5_orders_163 (by decide) c3 c4 h (fun h => ?_) (fun h => ?_)
    · exact (J.sub [0, 1, 2] rfl <| hX150  _ h)
    · refine j_aload_n O 0 0 dX5_orders_166 rfl rfl ?_
      refine j_bipush (m := 10) O dX5_orders_167 bi_10 ?_
      refine j_iload_n O 2 2 dX5_orders_169 rfl rfl ?_
      refine j_imul O dX5_orders_170 ?_
      obtain ⟨e7, h⟩ := h
      refine fin_I O ⟨Nat.zero_le _, Nat.zero_le _⟩ (run_V (As := [vI ((10 * x2))]) (st := []) O (mt_X5_run (xl x) (xG x) _ _ _ _ h) e7 cfX5.1 q2226 q2228 qs114 q131 q2229 hy_X5_run (Nat.le_of_ble_eq_true rfl) (Nat.le_of_ble_eq_true rfl) ⟨Nat.zero_le _, Nat.zero_le _⟩ rfl (Nat.le_of_ble_eq_true rfl) dX5_orders_171) (fun r5 w6 h => ?_)
      obtain ⟨c8, h⟩ := h
      refine j_if_ge O (tgt := 194) dX5_orders_174 (by decide) c8 h (fun h => ?_) (fun h => ?_)
      · refine j_iinc (L' := [(3, vI (x3 + 1)), (0, .ref (adG (xG x) (this))), (1, vI (x1)), (2, vI (x2))]) O 3 dX5_orders_194 rfl (by rw [hm]; decide) rfl ?_
        refine j_goto O (tgt := 150) dX5_orders_197 (by decide) ?_
        exact (J.sub [1, 2, 3, 0] rfl <| ih _ _ h)
      · refine j_aload_n O 0 0 dX5_orders_177 rfl rfl ?_
        refine j_iload_n O 1 1 dX5_orders_178 rfl rfl ?_
        obtain ⟨e10, h⟩ := h
        refine fin_V O ⟨Nat.zero_le _, Nat.zero_le _⟩ (run_V (As := [vI (x1)]) (st := []) O (mt_X5_giveBack (xl x) (xG x) _ _ _ _ h) e10 cfX5.1 q2242 q2244 qs118 q131 q2245 hy_X5_giveBack (Nat.le_of_ble_eq_true rfl) (Nat.le_of_ble_eq_true rfl) ⟨Nat.zero_le _, Nat.zero_le _⟩ rfl (Nat.le_of_ble_eq_true rfl) dX5_orders_179) (fun w9 h => ?_)
        refine j_aload_n O 0 0 dX5_orders_182 rfl rfl ?_
        refine j_iload_n O 2 2 dX5_orders_183 rfl rfl ?_
        refine j_putI O cfX5 57 (Nat.le_of_ble_eq_true rfl) rfl q1625 rfl dX5_orders_184 h (fun w11 h => ?_)
        refine j_aload_n O 0 0 dX5_orders_187 rfl rfl ?_
        refine j_bipush (m := (-3)) O dX5_orders_188 bi_m3 ?_
        obtain ⟨e14, h⟩ := h
        refine fin_I O ⟨Nat.zero_le _, Nat.zero_le _⟩ (run_V (As := [vI (((-3)))]) (st := []) O (mt_X5_tell (xl x) (xG x) _ _ _ _ h) e14 cfX5.1 q1760 q1762 qs48 q131 q1763 hy_X5_tell (Nat.le_of_ble_eq_true rfl) (Nat.le_of_ble_eq_true rfl) ⟨Nat.zero_le _, Nat.zero_le _⟩ rfl (Nat.le_of_ble_eq_true rfl) dX5_orders_190) (fun r12 w13 h => ?_)
        exact j_iret O hr dX5_orders_193 h
theorem wk_X5_orders_140 {x : Cx} (O : OK x "DowryBoxesModel" cX5_orders 11) (hr : (xM x).sig.returnType = some .int) (hm : xn x = 4) {Q : Int → Wd → Prop} (X140 : Wd → Prop) (this : Nat) (x1 : Int) (hX140 : ∀  (w : Wd), X140  w → J x (TI x Q) w 0 0 206 [(0, .ref (adG (xG x) (this)))] []) : ∀ (n : Nat) (x2 : Int) (w : Wd), wp_X5_orders_140 Q X140 this x1 n x2 w → J x (TI x Q) w 0 0 140 [(0, .ref (adG (xG x) (this))), (1, vI (x1)), (2, vI (x2))] [] := by
  intro n
  induction n with
  | zero => intro x2 w h; exact False.elim h
  | succ n ih =>
    intro x2 w h
    rw [wp_X5_orders_140] at h
    refine j_iload_n O 2 2 dX5_orders_140 rfl rfl ?_
    refine j_aload_n O 0 0 dX5_orders_141 rfl rfl ?_
    refine j_getI O cfX5 21 (Nat.le_of_ble_eq_true rfl) (.inl rfl) q1589 dX5_orders_142 h (fun v1 h => ?_)
    obtain ⟨c2, h⟩ := h
    obtain ⟨c3, h⟩ := h
    refine j_icmp_ge O (tgt := 206) dX5_orders_145 (by decide) c2 c3 h (fun h => ?_) (fun h => ?_)
    · exact (J.sub [0] rfl <| hX140  _ h)
    · refine j_iconst O dX5_orders_148 ?_
      refine j_istore_n (L' := [(3, vI (0)), (0, .ref (adG (xG x) (this))), (1, vI (x1)), (2, vI (x2))]) O 3 dX5_orders_149 rfl (by rw [hm]; decide) rfl ?_
      refine (J.sub [1, 2, 3, 0] rfl <| wk_X5_orders_150 O hr hm _ _ _ _ _ _ ih hX140 (fun w4 h => ?_) FU _ _ h)
      refine j_iinc (L' := [(2, vI (x2 + 1)), (0, .ref (adG (xG x) (this))), (1, vI (x1))]) O 2 dX5_orders_200 rfl (by rw [hm]; decide) rfl ?_
      refine j_goto O (tgt := 140) dX5_orders_203 (by decide) ?_
      exact (J.sub [1, 2, 0] rfl <| ih _ _ h)
theorem wk_X5_orders_46 {x : Cx} (O : OK x "DowryBoxesModel" cX5_orders 11) (hr : (xM x).sig.returnType = some .int) (hm : xn x = 4) {Q : Int → Wd → Prop} (this : Nat) (w : Wd) (h : wp_X5_orders_46 Q this w) : J x (TI x Q) w 0 0 46 [(0, .ref (adG (xG x) (this)))] [] := by
  unfold wp_X5_orders_46 at h
  refine j_aload_n O 0 0 dX5_orders_46 rfl rfl ?_
  obtain ⟨e2, h⟩ := h
  refine fin_V O ⟨Nat.zero_le _, Nat.zero_le _⟩ (run_V (As := []) (st := []) O (mt_X5_endText (xl x) (xG x) _ _ _ h) e2 cfX5.1 q2032 q2034 qs89 q131 q2035 hy_X5_endText (Nat.le_of_ble_eq_true rfl) (Nat.le_of_ble_eq_true rfl) ⟨Nat.zero_le _, Nat.zero_le _⟩ rfl (Nat.le_of_ble_eq_true rfl) dX5_orders_47) (fun w1 h => ?_)
  refine j_aload_n O 0 0 dX5_orders_50 rfl rfl ?_
  refine j_getI O cfX5 19 (Nat.le_of_ble_eq_true rfl) (.inr (.inl rfl)) q1587 dX5_orders_51 h (fun v3 h => ?_)
  obtain ⟨c4, h⟩ := h
  refine j_if_eq O (tgt := 64) dX5_orders_54 (by decide) c4 h (fun h => ?_) (fun h => ?_)
  · refine j_aload_n O 0 0 dX5_orders_64 rfl rfl ?_
    refine j_bipush (m := 17) O dX5_orders_65 bi_17 ?_
    obtain ⟨e6, h⟩ := h
    refine fin_V O ⟨Nat.zero_le _, Nat.zero_le _⟩ (run_V (As := [vI (17)]) (st := []) O (mt_X5_keepAll (xl x) (xG x) _ _ _ _ h) e6 cfX5.1 q2063 q2065 qs94 q131 q2066 hy_X5_keepAll (Nat.le_of_ble_eq_true rfl) (Nat.le_of_ble_eq_true rfl) ⟨Nat.zero_le _, Nat.zero_le _⟩ rfl (Nat.le_of_ble_eq_true rfl) dX5_orders_67) (fun w5 h => ?_)
    refine j_aload_n O 0 0 dX5_orders_70 rfl rfl ?_
    refine j_getI O cfX5 8 (Nat.le_of_ble_eq_true rfl) (.inl rfl) q1576 dX5_orders_71 h (fun v7 h => ?_)
    refine j_istore_n (L' := [(1, vI (v7)), (0, .ref (adG (xG x) (this)))]) O 1 dX5_orders_74 rfl (by rw [hm]; decide) rfl ?_
    refine j_iconst O dX5_orders_75 ?_
    refine j_istore_n (L' := [(2, vI (0)), (1, vI (v7)), (0, .ref (adG (xG x) (this)))]) O 2 dX5_orders_76 rfl (by rw [hm]; decide) rfl ?_
    refine (J.sub [2, 1, 0] rfl <| wk_X5_orders_77 O hr hm _ _ _ (fun w8 h => ?_) FU _ _ h)
    refine j_iconst O dX5_orders_102 ?_
    refine j_istore_n (L' := [(2, vI (0)), (0, .ref (adG (xG x) (this))), (1, vI (v7))]) O 2 dX5_orders_103 rfl (by rw [hm]; decide) rfl ?_
    refine (J.sub [1, 2, 0] rfl <| wk_X5_orders_104 O hr hm _ _ _ (fun w9 h => ?_) FU _ _ h)
    refine j_aload_n O 0 0 dX5_orders_128 rfl rfl ?_
    refine j_iconst O dX5_orders_129 ?_
    refine j_putI O cfX5 55 (Nat.le_of_ble_eq_true rfl) rfl q1623 rfl dX5_orders_130 h (fun w10 h => ?_)
    refine j_aload_n O 0 0 dX5_orders_133 rfl rfl ?_
    refine j_iconst O dX5_orders_134 ?_
    refine j_putI O cfX5 56 (Nat.le_of_ble_eq_true rfl) rfl q1624 rfl dX5_orders_135 h (fun w11 h => ?_)
    refine j_iconst O dX5_orders_138 ?_
    refine j_istore_n (L' := [(2, vI (0)), (0, .ref (adG (xG x) (this))), (1, vI (v7))]) O 2 dX5_orders_139 rfl (by rw [hm]; decide) rfl ?_
    refine (J.sub [1, 2, 0] rfl <| wk_X5_orders_140 O hr hm _ _ _ (fun w12 h => ?_) FU _ _ h)
    refine j_aload_n O 0 0 dX5_orders_206 rfl rfl ?_
    refine j_aload_n O 0 0 dX5_orders_207 rfl rfl ?_
    refine j_getI O cfX5 55 (Nat.le_of_ble_eq_true rfl) (.inl rfl) q1623 dX5_orders_208 h (fun v13 h => ?_)
    obtain ⟨e16, h⟩ := h
    refine fin_I O ⟨Nat.zero_le _, Nat.zero_le _⟩ (run_V (As := [vI (v13)]) (st := []) O (mt_X5_tell (xl x) (xG x) _ _ _ _ h) e16 cfX5.1 q1760 q1762 qs48 q131 q1763 hy_X5_tell (Nat.le_of_ble_eq_true rfl) (Nat.le_of_ble_eq_true rfl) ⟨Nat.zero_le _, Nat.zero_le _⟩ rfl (Nat.le_of_ble_eq_true rfl) dX5_orders_211) (fun r14 w15 h => ?_)
    exact j_iret O hr dX5_orders_214 h
  · refine j_aload_n O 0 0 dX5_orders_57 rfl rfl ?_
    refine j_bipush (m := (-6)) O dX5_orders_58 bi_m6 ?_
    obtain ⟨e19, h⟩ := h
    refine fin_I O ⟨Nat.zero_le _, Nat.zero_le _⟩ (run_V (As := [vI (((-6)))]) (st := []) O (mt_X5_tell (xl x) (xG x) _ _ _ _ h) e19 cfX5.1 q1760 q1762 qs48 q131 q1763 hy_X5_tell (Nat.le_of_ble_eq_true rfl) (Nat.le_of_ble_eq_true rfl) ⟨Nat.zero_le _, Nat.zero_le _⟩ rfl (Nat.le_of_ble_eq_true rfl) dX5_orders_60) (fun r17 w18 h => ?_)
    exact j_iret O hr dX5_orders_63 h
theorem mt_X5_orders (l : Launch) (G : GW) (this : Nat) (w : Wd) (Q : Int → Wd → Prop) (h : wp_X5_orders this w Q) : MI l G yX5_orders cX5_orders 4 (.int) 11 0 0 [.ref (adG G (this))] w Q := by
  refine met_I (fun G => [.ref (adG G (this))]) (by decide) (fun G => Nat.le_of_ble_eq_true rfl) (fun x O hl hm hr => ?_)
  subst hl
  have O : OK x "DowryBoxesModel" cX5_orders 11 := O
  have h : wp_X5_orders this w Q := h
  unfold wp_X5_orders at h
  show J x (TI x Q) w 0 0 0 [(0, .ref (adG (xG x) (this)))] []
  refine j_aload_n O 0 0 dX5_orders_0 rfl rfl ?_
  refine j_iconst O dX5_orders_1 ?_
  refine j_putI O cfX5 0 (Nat.le_of_ble_eq_true rfl) rfl q1568 rfl dX5_orders_2 h (fun w1 h => ?_)
  refine j_aload_n O 0 0 dX5_orders_5 rfl rfl ?_
  refine j_iconst O dX5_orders_6 ?_
  refine j_putI O cfX5 57 (Nat.le_of_ble_eq_true rfl) rfl q1625 rfl dX5_orders_7 h (fun w2 h => ?_)
  refine j_aload_n O 0 0 dX5_orders_10 rfl rfl ?_
  refine j_iconst O dX5_orders_11 ?_
  obtain ⟨e4, h⟩ := h
  refine fin_V O ⟨Nat.zero_le _, Nat.zero_le _⟩ (run_V (As := [vI (1)]) (st := []) O (mt_X5_beginText (xl x) (xG x) _ _ _ _ h) e4 cfX5.1 q1922 q1924 qs67 q131 q1925 hy_X5_beginText (Nat.le_of_ble_eq_true rfl) (Nat.le_of_ble_eq_true rfl) ⟨Nat.zero_le _, Nat.zero_le _⟩ rfl (Nat.le_of_ble_eq_true rfl) dX5_orders_12) (fun w3 h => ?_)
  refine j_aload_n O 0 0 dX5_orders_15 rfl rfl ?_
  obtain ⟨e6, h⟩ := h
  refine fin_V O ⟨Nat.zero_le _, Nat.zero_le _⟩ (run_V (As := []) (st := []) O (mt_X5_readOrder (xl x) (xG x) _ _ _ h) e6 cfX5.1 q2213 q2215 qs111 q131 q2216 hy_X5_readOrder (Nat.le_of_ble_eq_true rfl) (Nat.le_of_ble_eq_true rfl) ⟨Nat.zero_le _, Nat.zero_le _⟩ rfl (Nat.le_of_ble_eq_true rfl) dX5_orders_16) (fun w5 h => ?_)
  refine (J.sub [0] rfl <| wk_X5_orders_19 O hr hm _ _ (fun w7 h => ?_) FU  _ h)
  exact (J.sub [0] rfl <| wk_X5_orders_46 O hr hm  _  _ h)
theorem hy_X5_isLaw : (yX5_isLaw.cls = "DowryBoxesModel" ∧ yX5_isLaw.cls ≠ "java/lang/invoke/MethodHandle" ∧ yX5_isLaw.cls ≠ "java/lang/invoke/VarHandle" ∧ (parseMethodDescriptor yX5_isLaw.desc).map (fun d => d.parameters.length) = some 1) := by decide +kernel
theorem wk_X5_isLaw_23 {x : Cx} (O : OK x "DowryBoxesModel" cX5_isLaw 2) (hr : (xM x).sig.returnType = some .boolean) (hm : xn x = 2) {Q : Int → Wd → Prop} (w : Wd) (h : wp_X5_isLaw_23 Q w) : J x (TI x Q) w 0 0 23 [] [] := by
  unfold wp_X5_isLaw_23 at h
  refine j_iconst O dX5_isLaw_23 ?_
  refine j_goto O (tgt := 28) dX5_isLaw_24 (by decide) ?_
  exact j_zret O hr dX5_isLaw_28 h
theorem mt_X5_isLaw (l : Launch) (G : GW) (this : Nat) (p1 : Int) (w : Wd) (Q : Int → Wd → Prop) (h : wp_X5_isLaw this p1 w Q) : MI l G yX5_isLaw cX5_isLaw 2 (.boolean) 2 0 0 [.ref (adG G (this)), vI (p1)] w Q := by
  refine met_I (fun G => [.ref (adG G (this)), vI (p1)]) (by decide) (fun G => Nat.le_of_ble_eq_true rfl) (fun x O hl hm hr => ?_)
  subst hl
  have O : OK x "DowryBoxesModel" cX5_isLaw 2 := O
  have h : wp_X5_isLaw this p1 w Q := h
  unfold wp_X5_isLaw at h
  show J x (TI x Q) w 0 0 0 [(0, .ref (adG (xG x) (this))), (1, vI (p1))] []
  refine j_iload_n O 1 1 dX5_isLaw_0 rfl rfl ?_
  refine j_iconst O dX5_isLaw_1 ?_
  obtain ⟨c1, h⟩ := h
  refine j_icmp_eq O (tgt := 23) dX5_isLaw_2 (by decide) c1 (by decide) h (fun h => ?_) (fun h => ?_)
  · exact (J.sub [] rfl <| wk_X5_isLaw_23 O hr hm    _ h)
  · refine j_iload_n O 1 1 dX5_isLaw_5 rfl rfl ?_
    refine j_i2l O dX5_isLaw_6 h (fun h => ?_)
    refine j_lconst (m := 0) O dX5_isLaw_7 lc_0 ?_
    refine j_aload_n O 0 0 dX5_isLaw_8 rfl rfl ?_
    refine j_getA O cfX5 3 (Nat.le_of_ble_eq_true rfl) ⟨_, rfl⟩ q1571 dX5_isLaw_9 h (fun k2 h => ?_)
    refine j_iconst O dX5_isLaw_12 ?_
    refine j_iald O dX5_isLaw_13 h (fun v3 h => ?_)
    refine j_i2l O dX5_isLaw_14 h (fun h => ?_)
    refine j_lconst (m := 1) O dX5_isLaw_15 lc_1 ?_
    refine j_lsub O dX5_isLaw_16 ?_
    refine fin_I O ⟨Nat.zero_le _, Nat.zero_le _⟩ (run_S (As := [vL (p1), vL (0), vL ((v3 - 1))]) (st := []) O (mt_X5_in (xl x) (xG x) _ _ _ _ _ h) q1772 q1773 q131 q1774 hy_X5_in.2 (Nat.le_of_ble_eq_true rfl) (Nat.le_of_ble_eq_true rfl) ⟨Nat.zero_le _, Nat.zero_le _⟩ rfl (Nat.le_of_ble_eq_true rfl) dX5_isLaw_17) (fun r4 w5 h => ?_)
    obtain ⟨c6, h⟩ := h
    refine j_if_eq O (tgt := 27) dX5_isLaw_20 (by decide) c6 h (fun h => ?_) (fun h => ?_)
    · refine j_iconst O dX5_isLaw_27 ?_
      exact j_zret O hr dX5_isLaw_28 h
    · exact (J.sub [] rfl <| wk_X5_isLaw_23 O hr hm    _ h)
theorem hy_X5_compare : (yX5_compare.cls = "DowryBoxesModel" ∧ yX5_compare.cls ≠ "java/lang/invoke/MethodHandle" ∧ yX5_compare.cls ≠ "java/lang/invoke/VarHandle" ∧ (parseMethodDescriptor yX5_compare.desc).map (fun d => d.parameters.length) = some 1) := by decide +kernel
theorem wk_X5_compare_34 {x : Cx} (O : OK x "DowryBoxesModel" cX5_compare 7) (hr : (xM x).sig.returnType = some .int) (hm : xn x = 5) {Q : Int → Wd → Prop} (X34 : Int → Wd → Prop) (this : Nat) (x2 : Int) (hX34 : ∀ (y3 : Int) (w : Wd), X34 y3 w → J x (TI x Q) w 0 0 60 [(0, .ref (adG (xG x) (this))), (2, vI (x2)), (3, vI (y3))] []) : ∀ (n : Nat) (x3 : Int) (x4 : Int) (w : Wd), wp_X5_compare_34 Q X34 this x2 n x3 x4 w → J x (TI x Q) w 0 0 34 [(0, .ref (adG (xG x) (this))), (2, vI (x2)), (3, vI (x3)), (4, vI (x4))] [] := by
  intro n
  induction n with
  | zero => intro x3 x4 w h; exact False.elim h
  | succ n ih =>
    intro x3 x4 w h
    rw [wp_X5_compare_34] at h
    refine j_iload O 3 dX5_compare_34 rfl ?_
    refine j_aload_n O 0 0 dX5_compare_36 rfl rfl ?_
    refine j_getA O cfX5 3 (Nat.le_of_ble_eq_true rfl) ⟨_, rfl⟩ q1571 dX5_compare_37 h (fun k1 h => ?_)
    refine j_iconst O dX5_compare_40 ?_
    refine j_iald O dX5_compare_41 h (fun v2 h => ?_)
    obtain ⟨c3, h⟩ := h
    obtain ⟨c4, h⟩ := h
    refine j_icmp_ge O (tgt := 60) dX5_compare_42 (by decide) c3 c4 h (fun h => ?_) (fun h => ?_)
    · exact (J.sub [0, 1, 2] rfl <| hX34 _ _ h)
    · refine j_iload_n O 2 3 dX5_compare_45 rfl rfl ?_
      refine j_aload_n O 0 0 dX5_compare_46 rfl rfl ?_
      refine j_iload O 3 dX5_compare_47 rfl ?_
      obtain ⟨e7, h⟩ := h
      refine fin_I O ⟨Nat.zero_le _, Nat.zero_le _⟩ (run_V (As := [vI (x4)]) (st := [vI (x3)]) O (mt_X5_lastsOf (xl x) (xG x) _ _ _ _ h) e7 cfX5.1 q1808 q1810 qs54 q131 q1811 hy_X5_lastsOf (Nat.le_of_ble_eq_true rfl) (Nat.le_of_ble_eq_true rfl) ⟨Nat.zero_le _, Nat.zero_le _⟩ rfl (Nat.le_of_ble_eq_true rfl) dX5_compare_49) (fun r5 w6 h => ?_)
      refine j_iadd O dX5_compare_52 ?_
      refine j_istore_n (L' := [(3, vI (x3 + r5)), (0, .ref (adG (xG x) (this))), (2, vI (x2)), (4, vI (x4))]) O 3 dX5_compare_53 rfl (by rw [hm]; decide) rfl ?_
      refine j_iinc (L' := [(4, vI (x4 + 1)), (3, vI (x3 + r5)), (0, .ref (adG (xG x) (this))), (2, vI (x2))]) O 3 dX5_compare_54 rfl (by rw [hm]; decide) rfl ?_
      refine j_goto O (tgt := 34) dX5_compare_57 (by decide) ?_
      exact (J.sub [2, 3, 1, 0] rfl <| ih _ _ _ h)
theorem mt_X5_compare (l : Launch) (G : GW) (this : Nat) (p1 : Int) (w : Wd) (Q : Int → Wd → Prop) (h : wp_X5_compare this p1 w Q) : MI l G yX5_compare cX5_compare 5 (.int) 7 0 0 [.ref (adG G (this)), vI (p1)] w Q := by
  refine met_I (fun G => [.ref (adG G (this)), vI (p1)]) (by decide) (fun G => Nat.le_of_ble_eq_true rfl) (fun x O hl hm hr => ?_)
  subst hl
  have O : OK x "DowryBoxesModel" cX5_compare 7 := O
  have h : wp_X5_compare this p1 w Q := h
  unfold wp_X5_compare at h
  show J x (TI x Q) w 0 0 0 [(0, .ref (adG (xG x) (this))), (1, vI (p1))] []
  refine j_aload_n O 0 0 dX5_compare_0 rfl rfl ?_
  refine j_iconst O dX5_compare_1 ?_
  refine j_putI O cfX5 0 (Nat.le_of_ble_eq_true rfl) rfl q1568 rfl dX5_compare_2 h (fun w1 h => ?_)
  refine j_aload_n O 0 0 dX5_compare_5 rfl rfl ?_
  refine j_iload_n O 1 1 dX5_compare_6 rfl rfl ?_
  obtain ⟨e4, h⟩ := h
  refine fin_I O ⟨Nat.zero_le _, Nat.zero_le _⟩ (run_V (As := [vI (p1)]) (st := []) O (mt_X5_isLaw (xl x) (xG x) _ _ _ _ h) e4 cfX5.1 q2040 q2042 qs90 q131 q2043 hy_X5_isLaw (Nat.le_of_ble_eq_true rfl) (Nat.le_of_ble_eq_true rfl) ⟨Nat.zero_le _, Nat.zero_le _⟩ rfl (Nat.le_of_ble_eq_true rfl) dX5_compare_7) (fun r2 w3 h => ?_)
  obtain ⟨c5, h⟩ := h
  refine j_if_ne O (tgt := 15) dX5_compare_10 (by decide) c5 h (fun h => ?_) (fun h => ?_)
  · refine j_aload_n O 0 0 dX5_compare_15 rfl rfl ?_
    refine j_getA O cfX5 3 (Nat.le_of_ble_eq_true rfl) ⟨_, rfl⟩ q1571 dX5_compare_16 h (fun k6 h => ?_)
    refine j_iconst O dX5_compare_19 ?_
    refine j_iald O dX5_compare_20 h (fun v7 h => ?_)
    refine j_istore_n (L' := [(2, vI (v7)), (0, .ref (adG (xG x) (this))), (1, vI (p1))]) O 2 dX5_compare_21 rfl (by rw [hm]; decide) rfl ?_
    refine j_aload_n O 1 0 dX5_compare_22 rfl rfl ?_
    refine j_getA O cfX5 3 (Nat.le_of_ble_eq_true rfl) ⟨_, rfl⟩ q1571 dX5_compare_23 h (fun k8 h => ?_)
    refine j_iconst O dX5_compare_26 ?_
    refine j_iload_n O 2 1 dX5_compare_27 rfl rfl ?_
    refine j_iast O dX5_compare_28 h (fun w9 h => ?_)
    refine j_iconst O dX5_compare_29 ?_
    refine j_istore_n (L' := [(3, vI (0)), (2, vI (v7)), (0, .ref (adG (xG x) (this))), (1, vI (p1))]) O 3 dX5_compare_30 rfl (by rw [hm]; decide) rfl ?_
    refine j_iconst O dX5_compare_31 ?_
    refine j_istore (L' := [(4, vI (0)), (3, vI (0)), (2, vI (v7)), (0, .ref (adG (xG x) (this))), (1, vI (p1))]) O dX5_compare_32 (by rw [hm]; decide) rfl ?_
    refine (J.sub [3, 2, 1, 0] rfl <| wk_X5_compare_34 O hr hm _ _ _ (fun z10 w11 h => ?_) FU _ _ _ h)
    refine j_aload_n O 0 0 dX5_compare_60 rfl rfl ?_
    refine j_getA O cfX5 3 (Nat.le_of_ble_eq_true rfl) ⟨_, rfl⟩ q1571 dX5_compare_61 h (fun k12 h => ?_)
    refine j_iconst O dX5_compare_64 ?_
    refine j_iload_n O 1 2 dX5_compare_65 rfl rfl ?_
    refine j_iast O dX5_compare_66 h (fun w13 h => ?_)
    refine j_iload_n O 2 3 dX5_compare_67 rfl rfl ?_
    exact j_iret O hr dX5_compare_68 h
  · refine j_iconst O dX5_compare_13 ?_
    exact j_iret O hr dX5_compare_14 h
theorem hy_X5_stands : (yX5_stands.cls = "DowryBoxesModel" ∧ yX5_stands.cls ≠ "java/lang/invoke/MethodHandle" ∧ yX5_stands.cls ≠ "java/lang/invoke/VarHandle" ∧ (parseMethodDescriptor yX5_stands.desc).map (fun d => d.parameters.length) = some 2) := by decide +kernel
theorem wk_X5_stands_62 {x : Cx} (O : OK x "DowryBoxesModel" cX5_stands 3) (hr : (xM x).sig.returnType = some .long) (hm : xn x = 8) {Q : Int → Wd → Prop} (K31 : Int → Wd → Prop) (X31 : Wd → Prop) (this : Nat) (x1 : Int) (x2 : Int) (x3 : Int) (s0 : Int) (s1 : Int) (s2 : Nat) (hK31 : ∀ (y3 : Int) (w : Wd), K31 y3 w → J x (TL x Q) w 0 0 31 [(0, .ref (adG (xG x) (this))), (1, vI (x1)), (2, vI (x2)), (3, vI (y3))] []) (hX31 : ∀  (w : Wd), X31  w → J x (TL x Q) w 0 0 69 [(0, .ref (adG (xG x) (this))), (2, vI (x2))] []) (w : Wd) (h : wp_X5_stands_62 Q K31 X31 this x1 x2 x3 s0 s1 s2 w) : J x (TL x Q) w 0 0 62 [(0, .ref (adG (xG x) (this))), (1, vI (x1)), (2, vI (x2)), (3, vI (x3))] [vL (s0), vI (s1), .ref (adG (xG x) (s2))] := by
  unfold wp_X5_stands_62 at h
  refine j_last O dX5_stands_62 h (fun w1 h => ?_)
  refine j_iinc (L' := [(3, vI (x3 + 1)), (0, .ref (adG (xG x) (this))), (1, vI (x1)), (2, vI (x2))]) O 3 dX5_stands_63 rfl (by rw [hm]; decide) rfl ?_
  refine j_goto O (tgt := 31) dX5_stands_66 (by decide) ?_
  exact (J.sub [1, 2, 3, 0] rfl <| hK31 _ _ h)
theorem wk_X5_stands_31 {x : Cx} (O : OK x "DowryBoxesModel" cX5_stands 3) (hr : (xM x).sig.returnType = some .long) (hm : xn x = 8) {Q : Int → Wd → Prop} (X31 : Wd → Prop) (this : Nat) (x1 : Int) (x2 : Int) (hX31 : ∀  (w : Wd), X31  w → J x (TL x Q) w 0 0 69 [(0, .ref (adG (xG x) (this))), (2, vI (x2))] []) : ∀ (n : Nat) (x3 : Int) (w : Wd), wp_X5_stands_31 Q X31 this x1 x2 n x3 w → J x (TL x Q) w 0 0 31 [(0, .ref (adG (xG x) (this))), (1, vI (x1)), (2, vI (x2)), (3, vI (x3))] [] := by
  intro n
  induction n with
  | zero => intro x3 w h; exact False.elim h
  | succ n ih =>
    intro x3 w h
    rw [wp_X5_stands_31] at h
    refine j_iload_n O 3 3 dX5_stands_31 rfl rfl ?_
    refine j_bipush (m := 21) O dX5_stands_32 bi_21 ?_
    obtain ⟨c1, h⟩ := h
    refine j_icmp_ge O (tgt := 69) dX5_stands_34 (by decide) c1 (by decide) h (fun h => ?_) (fun h => ?_)
    · exact (J.sub [0, 2] rfl <| hX31  _ h)
    · refine j_aload_n O 0 0 dX5_stands_37 rfl rfl ?_
      refine j_getA O cfX5 51 (Nat.le_of_ble_eq_true rfl) ⟨_, rfl⟩ q1619 dX5_stands_38 h (fun k2 h => ?_)
      refine j_iload_n O 3 3 dX5_stands_41 rfl rfl ?_
      refine j_iload_n O 3 3 dX5_stands_42 rfl rfl ?_
      refine j_aload_n O 0 0 dX5_stands_43 rfl rfl ?_
      refine j_getA O cfX5 3 (Nat.le_of_ble_eq_true rfl) ⟨_, rfl⟩ q1571 dX5_stands_44 h (fun k3 h => ?_)
      refine j_bipush (m := 62) O dX5_stands_47 bi_62 ?_
      refine j_iload_n O 1 1 dX5_stands_49 rfl rfl ?_
      refine j_iadd O dX5_stands_50 ?_
      refine j_iald O dX5_stands_51 h (fun v4 h => ?_)
      obtain ⟨c5, h⟩ := h
      obtain ⟨c6, h⟩ := h
      refine j_icmp_ne O (tgt := 61) dX5_stands_52 (by decide) c5 c6 h (fun h => ?_) (fun h => ?_)
      · refine j_lconst (m := 0) O dX5_stands_61 lc_0 ?_
        exact (J.sub [0, 1, 2, 3] rfl <| wk_X5_stands_62 O hr hm _ _ _ _ _ _ _ _ _ ih hX31 _ h)
      · refine j_ldc2 (m := 1000000000000) O dX5_stands_55 q2204 l2_1000000000000 ?_
        refine j_goto O (tgt := 62) dX5_stands_58 (by decide) ?_
        exact (J.sub [0, 1, 2, 3] rfl <| wk_X5_stands_62 O hr hm _ _ _ _ _ _ _ _ _ ih hX31 _ h)
theorem wk_X5_stands_89 {x : Cx} (O : OK x "DowryBoxesModel" cX5_stands 3) (hr : (xM x).sig.returnType = some .long) (hm : xn x = 8) {Q : Int → Wd → Prop} (K80 : Int → Wd → Prop) (X80 : Wd → Prop) (X89 : Wd → Prop) (this : Nat) (x2 : Int) (x3 : Int) (x4 : Int) (hK80 : ∀ (y4 : Int) (w : Wd), K80 y4 w → J x (TL x Q) w 0 0 80 [(0, .ref (adG (xG x) (this))), (2, vI (x2)), (3, vI (x3)), (4, vI (y4))] []) (hX80 : ∀  (w : Wd), X80  w → J x (TL x Q) w 0 0 157 [(0, .ref (adG (xG x) (this)))] []) (hX89 : ∀  (w : Wd), X89  w → J x (TL x Q) w 0 0 151 [(0, .ref (adG (xG x) (this))), (2, vI (x2)), (3, vI (x3)), (4, vI (x4))] []) : ∀ (n : Nat) (x5 : Int) (w : Wd), wp_X5_stands_89 Q K80 X80 X89 this x2 x3 x4 n x5 w → J x (TL x Q) w 0 0 89 [(0, .ref (adG (xG x) (this))), (2, vI (x2)), (3, vI (x3)), (4, vI (x4)), (5, vI (x5))] [] := by
  intro n
  induction n with
  | zero => intro x5 w h; exact False.elim h
  | succ n ih =>
    intro x5 w h
    rw [wp_X5_stands_89] at h
    refine j_iload O 4 dX5_stands_89 rfl ?_
    refine j_bipush (m := 21) O dX5_stands_91 bi_21 ?_
    obtain ⟨c1, h⟩ := h
    refine j_icmp_ge O (tgt := 151) dX5_stands_93 (by decide) c1 (by decide) h (fun h => ?_) (fun h => ?_)
    · exact (J.sub [0, 1, 2, 3] rfl <| hX89  _ h)
    · refine j_aload_n O 0 0 dX5_stands_96 rfl rfl ?_
      refine j_getA O cfX5 51 (Nat.le_of_ble_eq_true rfl) ⟨_, rfl⟩ q1619 dX5_stands_97 h (fun k2 h => ?_)
      refine j_iload O 4 dX5_stands_100 rfl ?_
      refine j_lald O dX5_stands_102 h (fun v3 h => ?_)
      refine j_lstore (L' := [(6, vL (v3)), (0, .ref (adG (xG x) (this))), (2, vI (x2)), (3, vI (x3)), (4, vI (x4)), (5, vI (x5))]) O dX5_stands_103 (by rw [hm]; decide) rfl ?_
      refine j_aload_n O 1 0 dX5_stands_105 rfl rfl ?_
      refine j_getA O cfX5 51 (Nat.le_of_ble_eq_true rfl) ⟨_, rfl⟩ q1619 dX5_stands_106 h (fun k4 h => ?_)
      refine j_iload O 5 dX5_stands_109 rfl ?_
      refine j_lload O 0 dX5_stands_111 rfl ?_
      refine j_bipush (m := 10) O dX5_stands_113 bi_10 ?_
      refine j_iload_n O 3 3 dX5_stands_115 rfl rfl ?_
      refine j_isub O dX5_stands_116 ?_
      refine j_i2l O dX5_stands_117 h (fun h => ?_)
      refine j_lmul O dX5_stands_118 ?_
      refine j_ldc2 (m := 10) O dX5_stands_119 q1892 l2_10 ?_
      refine j_ldiv O dX5_stands_122 h (fun h => ?_)
      refine j_last O dX5_stands_123 h (fun w5 h => ?_)
      refine j_aload_n O 1 0 dX5_stands_124 rfl rfl ?_
      refine j_getA O cfX5 51 (Nat.le_of_ble_eq_true rfl) ⟨_, rfl⟩ q1619 dX5_stands_125 h (fun k6 h => ?_)
      refine j_iload O 5 dX5_stands_128 rfl ?_
      refine j_iconst O dX5_stands_130 ?_
      refine j_isub O dX5_stands_131 ?_
      refine j_dup2_11 O dX5_stands_132 rfl rfl ?_
      refine j_lald O dX5_stands_133 h (fun v7 h => ?_)
      refine j_lload O 0 dX5_stands_134 rfl ?_
      refine j_iload_n O 3 3 dX5_stands_136 rfl rfl ?_
      refine j_i2l O dX5_stands_137 h (fun h => ?_)
      refine j_lmul O dX5_stands_138 ?_
      refine j_ldc2 (m := 10) O dX5_stands_139 q1892 l2_10 ?_
      refine j_ldiv O dX5_stands_142 h (fun h => ?_)
      refine j_ladd O dX5_stands_143 ?_
      refine j_last O dX5_stands_144 h (fun w8 h => ?_)
      refine j_iinc (L' := [(5, vI (x5 + 1)), (6, vL (v3)), (0, .ref (adG (xG x) (this))), (2, vI (x2)), (3, vI (x3)), (4, vI (x4))]) O 5 dX5_stands_145 rfl (by rw [hm]; decide) rfl ?_
      refine j_goto O (tgt := 89) dX5_stands_148 (by decide) ?_
      exact (J.sub [2, 3, 4, 5, 0] rfl <| ih _ _ h)
theorem wk_X5_stands_80 {x : Cx} (O : OK x "DowryBoxesModel" cX5_stands 3) (hr : (xM x).sig.returnType = some .long) (hm : xn x = 8) {Q : Int → Wd → Prop} (X80 : Wd → Prop) (this : Nat) (x2 : Int) (x3 : Int) (hX80 : ∀  (w : Wd), X80  w → J x (TL x Q) w 0 0 157 [(0, .ref (adG (xG x) (this)))] []) : ∀ (n : Nat) (x4 : Int) (w : Wd), wp_X5_stands_80 Q X80 this x2 x3 n x4 w → J x (TL x Q) w 0 0 80 [(0, .ref (adG (xG x) (this))), (2, vI (x2)), (3, vI (x3)), (4, vI (x4))] [] := by
  intro n
  induction n with
  | zero => intro x4 w h; exact False.elim h
  | succ n ih =>
    intro x4 w h
    rw [wp_X5_stands_80] at h
    refine j_iload O 3 dX5_stands_80 rfl ?_
    refine j_iload_n O 1 2 dX5_stands_82 rfl rfl ?_
    obtain ⟨c1, h⟩ := h
    obtain ⟨c2, h⟩ := h
    refine j_icmp_ge O (tgt := 157) dX5_stands_83 (by decide) c1 c2 h (fun h => ?_) (fun h => ?_)
    · exact (J.sub [0] rfl <| hX80  _ h)
    · refine j_iconst O dX5_stands_86 ?_
      refine j_istore (L' := [(5, vI (1)), (0, .ref (adG (xG x) (this))), (2, vI (x2)), (3, vI (x3)), (4, vI (x4))]) O dX5_stands_87 (by rw [hm]; decide) rfl ?_
      refine (J.sub [1, 2, 3, 4, 0] rfl <| wk_X5_stands_89 O hr hm _ _ _ _ _ _ _ ih hX80 (fun w3 h => ?_) FU _ _ h)
      refine j_iinc (L' := [(4, vI (x4 + 1)), (0, .ref (adG (xG x) (this))), (2, vI (x2)), (3, vI (x3))]) O 3 dX5_stands_151 rfl (by rw [hm]; decide) rfl ?_
      refine j_goto O (tgt := 80) dX5_stands_154 (by decide) ?_
      exact (J.sub [1, 2, 3, 0] rfl <| ih _ _ h)
theorem wk_X5_stands_163 {x : Cx} (O : OK x "DowryBoxesModel" cX5_stands 3) (hr : (xM x).sig.returnType = some .long) (hm : xn x = 8) {Q : Int → Wd → Prop} (this : Nat) : ∀ (n : Nat) (x4 : Int) (x6 : Int) (w : Wd), wp_X5_stands_163 Q this n x4 x6 w → J x (TL x Q) w 0 0 163 [(0, .ref (adG (xG x) (this))), (4, vL (x4)), (6, vI (x6))] [] := by
  intro n
  induction n with
  | zero => intro x4 x6 w h; exact False.elim h
  | succ n ih =>
    intro x4 x6 w h
    rw [wp_X5_stands_163] at h
    refine j_iload O 2 dX5_stands_163 rfl ?_
    refine j_bipush (m := 21) O dX5_stands_165 bi_21 ?_
    obtain ⟨c1, h⟩ := h
    refine j_icmp_ge O (tgt := 188) dX5_stands_167 (by decide) c1 (by decide) h (fun h => ?_) (fun h => ?_)
    · refine j_lload O 1 dX5_stands_188 rfl ?_
      exact j_lret O hr dX5_stands_190 h
    · refine j_lload O 1 dX5_stands_170 rfl ?_
      refine j_aload_n O 0 0 dX5_stands_172 rfl rfl ?_
      refine j_getA O cfX5 51 (Nat.le_of_ble_eq_true rfl) ⟨_, rfl⟩ q1619 dX5_stands_173 h (fun k2 h => ?_)
      refine j_iload O 2 dX5_stands_176 rfl ?_
      refine j_lald O dX5_stands_178 h (fun v3 h => ?_)
      refine j_ladd O dX5_stands_179 ?_
      refine j_lstore (L' := [(4, vL (x4 + v3)), (0, .ref (adG (xG x) (this))), (6, vI (x6))]) O dX5_stands_180 (by rw [hm]; decide) rfl ?_
      refine j_iinc (L' := [(6, vI (x6 + 1)), (4, vL (x4 + v3)), (0, .ref (adG (xG x) (this)))]) O 2 dX5_stands_182 rfl (by rw [hm]; decide) rfl ?_
      refine j_goto O (tgt := 163) dX5_stands_185 (by decide) ?_
      exact (J.sub [2, 1, 0] rfl <| ih _ _ _ h)
theorem mt_X5_stands (l : Launch) (G : GW) (this : Nat) (p1 : Int) (p2 : Int) (w : Wd) (Q : Int → Wd → Prop) (h : wp_X5_stands this p1 p2 w Q) : ML l G yX5_stands cX5_stands 8 3 0 0 [.ref (adG G (this)), vI (p1), vI (p2)] w Q := by
  refine met_L (fun G => [.ref (adG G (this)), vI (p1), vI (p2)]) (by decide) (fun G => Nat.le_of_ble_eq_true rfl) (fun x O hl hm hr => ?_)
  subst hl
  have O : OK x "DowryBoxesModel" cX5_stands 3 := O
  have h : wp_X5_stands this p1 p2 w Q := h
  unfold wp_X5_stands at h
  show J x (TL x Q) w 0 0 0 [(0, .ref (adG (xG x) (this))), (1, vI (p1)), (2, vI (p2))] []
  refine j_aload_n O 0 0 dX5_stands_0 rfl rfl ?_
  refine j_iconst O dX5_stands_1 ?_
  refine j_putI O cfX5 0 (Nat.le_of_ble_eq_true rfl) rfl q1568 rfl dX5_stands_2 h (fun w1 h => ?_)
  refine j_aload_n O 0 0 dX5_stands_5 rfl rfl ?_
  refine j_iload_n O 1 1 dX5_stands_6 rfl rfl ?_
  obtain ⟨e4, h⟩ := h
  refine fin_I O ⟨Nat.zero_le _, Nat.zero_le _⟩ (run_V (As := [vI (p1)]) (st := []) O (mt_X5_isBox (xl x) (xG x) _ _ _ _ h) e4 cfX5.1 q1792 q1794 qs51 q131 q1795 hy_X5_isBox (Nat.le_of_ble_eq_true rfl) (Nat.le_of_ble_eq_true rfl) ⟨Nat.zero_le _, Nat.zero_le _⟩ rfl (Nat.le_of_ble_eq_true rfl) dX5_stands_7) (fun r2 w3 h => ?_)
  obtain ⟨c5, h⟩ := h
  refine j_if_eq O (tgt := 25) dX5_stands_10 (by decide) c5 h (fun h => ?_) (fun h => ?_)
  · refine j_ldc2 (m := (-1)) O dX5_stands_25 q1816 l2_m1 ?_
    exact j_lret O hr dX5_stands_28 h
  · refine j_iload_n O 2 2 dX5_stands_13 rfl rfl ?_
    refine j_i2l O dX5_stands_14 h (fun h => ?_)
    refine j_lconst (m := 0) O dX5_stands_15 lc_0 ?_
    refine j_ldc2 (m := 60) O dX5_stands_16 q1862 l2_60 ?_
    refine fin_I O ⟨Nat.zero_le _, Nat.zero_le _⟩ (run_S (As := [vL (p2), vL (0), vL (60)]) (st := []) O (mt_X5_in (xl x) (xG x) _ _ _ _ _ h) q1772 q1773 q131 q1774 hy_X5_in.2 (Nat.le_of_ble_eq_true rfl) (Nat.le_of_ble_eq_true rfl) ⟨Nat.zero_le _, Nat.zero_le _⟩ rfl (Nat.le_of_ble_eq_true rfl) dX5_stands_19) (fun r6 w7 h => ?_)
    obtain ⟨c8, h⟩ := h
    refine j_if_ne O (tgt := 29) dX5_stands_22 (by decide) c8 h (fun h => ?_) (fun h => ?_)
    · refine j_iconst O dX5_stands_29 ?_
      refine j_istore_n (L' := [(3, vI (0)), (0, .ref (adG (xG x) (this))), (1, vI (p1)), (2, vI (p2))]) O 3 dX5_stands_30 rfl (by rw [hm]; decide) rfl ?_
      refine (J.sub [1, 2, 3, 0] rfl <| wk_X5_stands_31 O hr hm _ _ _ _ (fun w9 h => ?_) FU _ _ h)
      refine j_aload_n O 0 0 dX5_stands_69 rfl rfl ?_
      refine j_getA O cfX5 3 (Nat.le_of_ble_eq_true rfl) ⟨_, rfl⟩ q1571 dX5_stands_70 h (fun k10 h => ?_)
      refine j_bipush (m := 6) O dX5_stands_73 bi_6 ?_
      refine j_iald O dX5_stands_75 h (fun v11 h => ?_)
      refine j_istore_n (L' := [(3, vI (v11)), (0, .ref (adG (xG x) (this))), (2, vI (p2))]) O 3 dX5_stands_76 rfl (by rw [hm]; decide) rfl ?_
      refine j_iconst O dX5_stands_77 ?_
      refine j_istore (L' := [(4, vI (0)), (3, vI (v11)), (0, .ref (adG (xG x) (this))), (2, vI (p2))]) O dX5_stands_78 (by rw [hm]; decide) rfl ?_
      refine (J.sub [2, 3, 1, 0] rfl <| wk_X5_stands_80 O hr hm _ _ _ _ (fun w12 h => ?_) FU _ _ h)
      refine j_lconst (m := 0) O dX5_stands_157 lc_0 ?_
      refine j_lstore (L' := [(4, vL (0)), (0, .ref (adG (xG x) (this)))]) O dX5_stands_158 (by rw [hm]; decide) rfl ?_
      refine j_iconst O dX5_stands_160 ?_
      refine j_istore (L' := [(6, vI (1)), (4, vL (0)), (0, .ref (adG (xG x) (this)))]) O dX5_stands_161 (by rw [hm]; decide) rfl ?_
      exact (J.sub [2, 1, 0] rfl <| wk_X5_stands_163 O hr hm  _  FU _ _ _ h)
    · refine j_ldc2 (m := (-1)) O dX5_stands_25 q1816 l2_m1 ?_
      exact j_lret O hr dX5_stands_28 h
theorem hy_X5_ends : (yX5_ends.cls = "DowryBoxesModel" ∧ yX5_ends.cls ≠ "java/lang/invoke/MethodHandle" ∧ yX5_ends.cls ≠ "java/lang/invoke/VarHandle" ∧ (parseMethodDescriptor yX5_ends.desc).map (fun d => d.parameters.length) = some 1) := by decide +kernel
theorem wk_X5_ends_67 {x : Cx} (O : OK x "DowryBoxesModel" cX5_ends 2) (hr : (xM x).sig.returnType = some .int) (hm : xn x = 4) {Q : Int → Wd → Prop} (K23 : Int → Int → Wd → Prop) (this : Nat) (x1 : Int) (x3 : Int) (s0 : Int) (s1 : Int) (hK23 : ∀ (y2 : Int) (y3 : Int) (w : Wd), K23 y2 y3 w → J x (TI x Q) w 0 0 23 [(0, .ref (adG (xG x) (this))), (1, vI (x1)), (2, vI (y2)), (3, vI (y3))] []) (w : Wd) (h : wp_X5_ends_67 Q K23 this x1 x3 s0 s1 w) : J x (TI x Q) w 0 0 67 [(0, .ref (adG (xG x) (this))), (1, vI (x1)), (3, vI (x3))] [vI (s0), vI (s1)] := by
  unfold wp_X5_ends_67 at h
  refine j_ior O dX5_ends_67 ?_
  refine j_istore_n (L' := [(2, vI (ior s1 s0)), (0, .ref (adG (xG x) (this))), (1, vI (x1)), (3, vI (x3))]) O 2 dX5_ends_68 rfl (by rw [hm]; decide) rfl ?_
  refine j_iinc (L' := [(3, vI (x3 + 1)), (2, vI (ior s1 s0)), (0, .ref (adG (xG x) (this))), (1, vI (x1))]) O 3 dX5_ends_69 rfl (by rw [hm]; decide) rfl ?_
  refine j_goto O (tgt := 23) dX5_ends_72 (by decide) ?_
  exact (J.sub [2, 3, 1, 0] rfl <| hK23 _ _ _ h)
theorem wk_X5_ends_66 {x : Cx} (O : OK x "DowryBoxesModel" cX5_ends 2) (hr : (xM x).sig.returnType = some .int) (hm : xn x = 4) {Q : Int → Wd → Prop} (K23 : Int → Int → Wd → Prop) (this : Nat) (x1 : Int) (x3 : Int) (s0 : Int) (hK23 : ∀ (y2 : Int) (y3 : Int) (w : Wd), K23 y2 y3 w → J x (TI x Q) w 0 0 23 [(0, .ref (adG (xG x) (this))), (1, vI (x1)), (2, vI (y2)), (3, vI (y3))] []) (w : Wd) (h : wp_X5_ends_66 Q K23 this x1 x3 s0 w) : J x (TI x Q) w 0 0 66 [(0, .ref (adG (xG x) (this))), (1, vI (x1)), (3, vI (x3))] [vI (s0)] := by
  unfold wp_X5_ends_66 at h
  refine j_iconst O dX5_ends_66 ?_
  exact (J.sub [0, 1, 2] rfl <| wk_X5_ends_67 O hr hm _ _ _ _ _ _ hK23 _ h)
theorem wk_X5_ends_23 {x : Cx} (O : OK x "DowryBoxesModel" cX5_ends 2) (hr : (xM x).sig.returnType = some .int) (hm : xn x = 4) {Q : Int → Wd → Prop} (this : Nat) (x1 : Int) : ∀ (n : Nat) (x2 : Int) (x3 : Int) (w : Wd), wp_X5_ends_23 Q this x1 n x2 x3 w → J x (TI x Q) w 0 0 23 [(0, .ref (adG (xG x) (this))), (1, vI (x1)), (2, vI (x2)), (3, vI (x3))] [] := by
  intro n
  induction n with
  | zero => intro x2 x3 w h; exact False.elim h
  | succ n ih =>
    intro x2 x3 w h
    rw [wp_X5_ends_23] at h
    refine j_iload_n O 3 3 dX5_ends_23 rfl rfl ?_
    refine j_aload_n O 0 0 dX5_ends_24 rfl rfl ?_
    refine j_getA O cfX5 3 (Nat.le_of_ble_eq_true rfl) ⟨_, rfl⟩ q1571 dX5_ends_25 h (fun k1 h => ?_)
    refine j_iconst O dX5_ends_28 ?_
    refine j_iald O dX5_ends_29 h (fun v2 h => ?_)
    obtain ⟨c3, h⟩ := h
    obtain ⟨c4, h⟩ := h
    refine j_icmp_ge O (tgt := 75) dX5_ends_30 (by decide) c3 c4 h (fun h => ?_) (fun h => ?_)
    · refine j_iload_n O 2 2 dX5_ends_75 rfl rfl ?_
      exact j_iret O hr dX5_ends_76 h
    · refine j_iload_n O 2 2 dX5_ends_33 rfl rfl ?_
      refine j_aload_n O 0 0 dX5_ends_34 rfl rfl ?_
      refine j_getA O cfX5 3 (Nat.le_of_ble_eq_true rfl) ⟨_, rfl⟩ q1571 dX5_ends_35 h (fun k5 h => ?_)
      refine j_bipush (m := 68) O dX5_ends_38 bi_68 ?_
      refine j_iload_n O 3 3 dX5_ends_40 rfl rfl ?_
      refine j_iadd O dX5_ends_41 ?_
      refine j_iald O dX5_ends_42 h (fun v6 h => ?_)
      refine j_iconst O dX5_ends_43 ?_
      obtain ⟨c7, h⟩ := h
      refine j_icmp_eq O (tgt := 66) dX5_ends_44 (by decide) c7 (by decide) h (fun h => ?_) (fun h => ?_)
      · exact (J.sub [0, 1, 3] rfl <| wk_X5_ends_66 O hr hm _ _ _ _ _ ih _ h)
      · refine j_aload_n O 0 0 dX5_ends_47 rfl rfl ?_
        refine j_getA O cfX5 3 (Nat.le_of_ble_eq_true rfl) ⟨_, rfl⟩ q1571 dX5_ends_48 h (fun k8 h => ?_)
        refine j_bipush (m := 74) O dX5_ends_51 bi_74 ?_
        refine j_iload_n O 3 3 dX5_ends_53 rfl rfl ?_
        refine j_iadd O dX5_ends_54 ?_
        refine j_iald O dX5_ends_55 h (fun v9 h => ?_)
        refine j_iload_n O 1 1 dX5_ends_56 rfl rfl ?_
        obtain ⟨c10, h⟩ := h
        obtain ⟨c11, h⟩ := h
        refine j_icmp_le O (tgt := 66) dX5_ends_57 (by decide) c10 c11 h (fun h => ?_) (fun h => ?_)
        · exact (J.sub [0, 1, 3] rfl <| wk_X5_ends_66 O hr hm _ _ _ _ _ ih _ h)
        · refine j_iconst O dX5_ends_60 ?_
          refine j_iload_n O 3 3 dX5_ends_61 rfl rfl ?_
          refine j_ishl O dX5_ends_62 ?_
          refine j_goto O (tgt := 67) dX5_ends_63 (by decide) ?_
          exact (J.sub [0, 1, 3] rfl <| wk_X5_ends_67 O hr hm _ _ _ _ _ _ ih _ h)
theorem mt_X5_ends (l : Launch) (G : GW) (this : Nat) (p1 : Int) (w : Wd) (Q : Int → Wd → Prop) (h : wp_X5_ends this p1 w Q) : MI l G yX5_ends cX5_ends 4 (.int) 2 0 0 [.ref (adG G (this)), vI (p1)] w Q := by
  refine met_I (fun G => [.ref (adG G (this)), vI (p1)]) (by decide) (fun G => Nat.le_of_ble_eq_true rfl) (fun x O hl hm hr => ?_)
  subst hl
  have O : OK x "DowryBoxesModel" cX5_ends 2 := O
  have h : wp_X5_ends this p1 w Q := h
  unfold wp_X5_ends at h
  show J x (TI x Q) w 0 0 0 [(0, .ref (adG (xG x) (this))), (1, vI (p1))] []
  refine j_aload_n O 0 0 dX5_ends_0 rfl rfl ?_
  refine j_iconst O dX5_ends_1 ?_
  refine j_putI O cfX5 0 (Nat.le_of_ble_eq_true rfl) rfl q1568 rfl dX5_ends_2 h (fun w1 h => ?_)
  refine j_iload_n O 1 1 dX5_ends_5 rfl rfl ?_
  refine j_i2l O dX5_ends_6 h (fun h => ?_)
  refine j_lconst (m := 0) O dX5_ends_7 lc_0 ?_
  refine j_ldc2 (m := 60) O dX5_ends_8 q1862 l2_60 ?_
  refine fin_I O ⟨Nat.zero_le _, Nat.zero_le _⟩ (run_S (As := [vL (p1), vL (0), vL (60)]) (st := []) O (mt_X5_in (xl x) (xG x) _ _ _ _ _ h) q1772 q1773 q131 q1774 hy_X5_in.2 (Nat.le_of_ble_eq_true rfl) (Nat.le_of_ble_eq_true rfl) ⟨Nat.zero_le _, Nat.zero_le _⟩ rfl (Nat.le_of_ble_eq_true rfl) dX5_ends_11) (fun r2 w3 h => ?_)
  obtain ⟨c4, h⟩ := h
  refine j_if_ne O (tgt := 19) dX5_ends_14 (by decide) c4 h (fun h => ?_) (fun h => ?_)
  · refine j_iconst O dX5_ends_19 ?_
    refine j_istore_n (L' := [(2, vI (0)), (0, .ref (adG (xG x) (this))), (1, vI (p1))]) O 2 dX5_ends_20 rfl (by rw [hm]; decide) rfl ?_
    refine j_iconst O dX5_ends_21 ?_
    refine j_istore_n (L' := [(3, vI (0)), (2, vI (0)), (0, .ref (adG (xG x) (this))), (1, vI (p1))]) O 3 dX5_ends_22 rfl (by rw [hm]; decide) rfl ?_
    exact (J.sub [2, 3, 1, 0] rfl <| wk_X5_ends_23 O hr hm  _ _  FU _ _ _ h)
  · refine j_iconst O dX5_ends_17 ?_
    exact j_iret O hr dX5_ends_18 h
theorem hy_X5_again : (yX5_again.cls = "DowryBoxesModel" ∧ yX5_again.cls ≠ "java/lang/invoke/MethodHandle" ∧ yX5_again.cls ≠ "java/lang/invoke/VarHandle" ∧ (parseMethodDescriptor yX5_again.desc).map (fun d => d.parameters.length) = some 2) := by decide +kernel
theorem wk_X5_again_83 {x : Cx} (O : OK x "DowryBoxesModel" cX5_again 3) (hr : (xM x).sig.returnType = some .int) (hm : xn x = 7) {Q : Int → Wd → Prop} (K23 : Int → Int → Int → Wd → Prop) (X23 : Int → Int → Wd → Prop) (K36 : Int → Int → Int → Wd → Prop) (X36 : Int → Int → Wd → Prop) (this : Nat) (x1 : Int) (x2 : Int) (x3 : Int) (x4 : Int) (x5 : Int) (x6 : Int) (hK23 : ∀ (y3 : Int) (y4 : Int) (y5 : Int) (w : Wd), K23 y3 y4 y5 w → J x (TI x Q) w 0 0 23 [(0, .ref (adG (xG x) (this))), (1, vI (x1)), (2, vI (x2)), (3, vI (y3)), (4, vI (y4)), (5, vI (y5))] []) (hX23 : ∀ (y3 : Int) (y4 : Int) (w : Wd), X23 y3 y4 w → J x (TI x Q) w 0 0 95 [(2, vI (x2)), (3, vI (y3)), (4, vI (y4))] []) (hK36 : ∀ (y3 : Int) (y4 : Int) (y6 : Int) (w : Wd), K36 y3 y4 y6 w → J x (TI x Q) w 0 0 36 [(0, .ref (adG (xG x) (this))), (1, vI (x1)), (2, vI (x2)), (3, vI (y3)), (4, vI (y4)), (5, vI (x5)), (6, vI (y6))] []) (hX36 : ∀ (y3 : Int) (y4 : Int) (w : Wd), X36 y3 y4 w → J x (TI x Q) w 0 0 89 [(0, .ref (adG (xG x) (this))), (1, vI (x1)), (2, vI (x2)), (3, vI (y3)), (4, vI (y4)), (5, vI (x5))] []) (w : Wd) (h : wp_X5_again_83 Q K23 X23 K36 X36 this x1 x2 x3 x4 x5 x6 w) : J x (TI x Q) w 0 0 83 [(0, .ref (adG (xG x) (this))), (1, vI (x1)), (2, vI (x2)), (3, vI (x3)), (4, vI (x4)), (5, vI (x5)), (6, vI (x6))] [] := by
  unfold wp_X5_again_83 at h
  refine j_iinc (L' := [(6, vI (x6 + 1)), (0, .ref (adG (xG x) (this))), (1, vI (x1)), (2, vI (x2)), (3, vI (x3)), (4, vI (x4)), (5, vI (x5))]) O 6 dX5_again_83 rfl (by rw [hm]; decide) rfl ?_
  refine j_goto O (tgt := 36) dX5_again_86 (by decide) ?_
  exact (J.sub [1, 2, 3, 4, 5, 6, 0] rfl <| hK36 _ _ _ _ h)
theorem wk_X5_again_78 {x : Cx} (O : OK x "DowryBoxesModel" cX5_again 3) (hr : (xM x).sig.returnType = some .int) (hm : xn x = 7) {Q : Int → Wd → Prop} (K23 : Int → Int → Int → Wd → Prop) (X23 : Int → Int → Wd → Prop) (K36 : Int → Int → Int → Wd → Prop) (X36 : Int → Int → Wd → Prop) (this : Nat) (x1 : Int) (x2 : Int) (x3 : Int) (x5 : Int) (x6 : Int) (s0 : Int) (hK23 : ∀ (y3 : Int) (y4 : Int) (y5 : Int) (w : Wd), K23 y3 y4 y5 w → J x (TI x Q) w 0 0 23 [(0, .ref (adG (xG x) (this))), (1, vI (x1)), (2, vI (x2)), (3, vI (y3)), (4, vI (y4)), (5, vI (y5))] []) (hX23 : ∀ (y3 : Int) (y4 : Int) (w : Wd), X23 y3 y4 w → J x (TI x Q) w 0 0 95 [(2, vI (x2)), (3, vI (y3)), (4, vI (y4))] []) (hK36 : ∀ (y3 : Int) (y4 : Int) (y6 : Int) (w : Wd), K36 y3 y4 y6 w → J x (TI x Q) w 0 0 36 [(0, .ref (adG (xG x) (this))), (1, vI (x1)), (2, vI (x2)), (3, vI (y3)), (4, vI (y4)), (5, vI (x5)), (6, vI (y6))] []) (hX36 : ∀ (y3 : Int) (y4 : Int) (w : Wd), X36 y3 y4 w → J x (TI x Q) w 0 0 89 [(0, .ref (adG (xG x) (this))), (1, vI (x1)), (2, vI (x2)), (3, vI (y3)), (4, vI (y4)), (5, vI (x5))] []) (w : Wd) (h : wp_X5_again_78 Q K23 X23 K36 X36 this x1 x2 x3 x5 x6 s0 w) : J x (TI x Q) w 0 0 78 [(0, .ref (adG (xG x) (this))), (1, vI (x1)), (2, vI (x2)), (3, vI (x3)), (5, vI (x5)), (6, vI (x6))] [vI (s0)] := by
  unfold wp_X5_again_78 at h
  refine j_istore (L' := [(4, vI (s0)), (0, .ref (adG (xG x) (this))), (1, vI (x1)), (2, vI (x2)), (3, vI (x3)), (5, vI (x5)), (6, vI (x6))]) O dX5_again_78 (by rw [hm]; decide) rfl ?_
  refine j_iinc (L' := [(3, vI (x3 + 1)), (4, vI (s0)), (0, .ref (adG (xG x) (this))), (1, vI (x1)), (2, vI (x2)), (5, vI (x5)), (6, vI (x6))]) O 4 dX5_again_80 rfl (by rw [hm]; decide) rfl ?_
  exact (J.sub [2, 3, 4, 0, 1, 5, 6] rfl <| wk_X5_again_83 O hr hm _ _ _ _ _ _ _ _ _ _ _ hK23 hX23 hK36 hX36 _ h)
theorem wk_X5_again_36 {x : Cx} (O : OK x "DowryBoxesModel" cX5_again 3) (hr : (xM x).sig.returnType = some .int) (hm : xn x = 7) {Q : Int → Wd → Prop} (K23 : Int → Int → Int → Wd → Prop) (X23 : Int → Int → Wd → Prop) (X36 : Int → Int → Wd → Prop) (this : Nat) (x1 : Int) (x2 : Int) (x5 : Int) (hK23 : ∀ (y3 : Int) (y4 : Int) (y5 : Int) (w : Wd), K23 y3 y4 y5 w → J x (TI x Q) w 0 0 23 [(0, .ref (adG (xG x) (this))), (1, vI (x1)), (2, vI (x2)), (3, vI (y3)), (4, vI (y4)), (5, vI (y5))] []) (hX23 : ∀ (y3 : Int) (y4 : Int) (w : Wd), X23 y3 y4 w → J x (TI x Q) w 0 0 95 [(2, vI (x2)), (3, vI (y3)), (4, vI (y4))] []) (hX36 : ∀ (y3 : Int) (y4 : Int) (w : Wd), X36 y3 y4 w → J x (TI x Q) w 0 0 89 [(0, .ref (adG (xG x) (this))), (1, vI (x1)), (2, vI (x2)), (3, vI (y3)), (4, vI (y4)), (5, vI (x5))] []) : ∀ (n : Nat) (x3 : Int) (x4 : Int) (x6 : Int) (w : Wd), wp_X5_again_36 Q K23 X23 X36 this x1 x2 x5 n x3 x4 x6 w → J x (TI x Q) w 0 0 36 [(0, .ref (adG (xG x) (this))), (1, vI (x1)), (2, vI (x2)), (3, vI (x3)), (4, vI (x4)), (5, vI (x5)), (6, vI (x6))] [] := by
  intro n
  induction n with
  | zero => intro x3 x4 x6 w h; exact False.elim h
  | succ n ih =>
    intro x3 x4 x6 w h
    rw [wp_X5_again_36] at h
    refine j_iload O 6 dX5_again_36 rfl ?_
    refine j_bipush (m := 8) O dX5_again_38 bi_8 ?_
    obtain ⟨c1, h⟩ := h
    refine j_icmp_ge O (tgt := 89) dX5_again_40 (by decide) c1 (by decide) h (fun h => ?_) (fun h => ?_)
    · exact (J.sub [0, 1, 2, 3, 4, 5] rfl <| hX36 _ _ _ h)
    · refine j_aload_n O 0 0 dX5_again_43 rfl rfl ?_
      refine j_iload_n O 1 1 dX5_again_44 rfl rfl ?_
      refine j_iload O 5 dX5_again_45 rfl ?_
      obtain ⟨e4, h⟩ := h
      refine fin_I O ⟨Nat.zero_le _, Nat.zero_le _⟩ (run_V (As := [vI (x1), vI (x5)]) (st := []) O (mt_X5_notesAt (xl x) (xG x) _ _ _ _ _ h) e4 cfX5.1 q1801 q1803 qs53 q131 q1804 hy_X5_notesAt (Nat.le_of_ble_eq_true rfl) (Nat.le_of_ble_eq_true rfl) ⟨Nat.zero_le _, Nat.zero_le _⟩ rfl (Nat.le_of_ble_eq_true rfl) dX5_again_47) (fun r2 w3 h => ?_)
      refine j_aload_n O 0 0 dX5_again_50 rfl rfl ?_
      refine j_iload_n O 1 1 dX5_again_51 rfl rfl ?_
      refine j_iload O 6 dX5_again_52 rfl ?_
      obtain ⟨e7, h⟩ := h
      refine fin_I O ⟨Nat.zero_le _, Nat.zero_le _⟩ (run_V (As := [vI (x1), vI (x6)]) (st := [vI (r2)]) O (mt_X5_notesAt (xl x) (xG x) _ _ _ _ _ h) e7 cfX5.1 q1801 q1803 qs53 q131 q1804 hy_X5_notesAt (Nat.le_of_ble_eq_true rfl) (Nat.le_of_ble_eq_true rfl) ⟨Nat.zero_le _, Nat.zero_le _⟩ rfl (Nat.le_of_ble_eq_true rfl) dX5_again_54) (fun r5 w6 h => ?_)
      obtain ⟨c8, h⟩ := h
      obtain ⟨c9, h⟩ := h
      refine j_icmp_ne O (tgt := 83) dX5_again_57 (by decide) c8 c9 h (fun h => ?_) (fun h => ?_)
      · exact (J.sub [0, 1, 2, 3, 4, 5, 6] rfl <| wk_X5_again_83 O hr hm _ _ _ _ _ _ _ _ _ _ _ hK23 hX23 ih hX36 _ h)
      · refine j_iload_n O 3 3 dX5_again_60 rfl rfl ?_
        refine j_iload_n O 2 2 dX5_again_61 rfl rfl ?_
        obtain ⟨c10, h⟩ := h
        obtain ⟨c11, h⟩ := h
        refine j_icmp_ne O (tgt := 76) dX5_again_62 (by decide) c10 c11 h (fun h => ?_) (fun h => ?_)
        · refine j_iload O 4 dX5_again_76 rfl ?_
          exact (J.sub [0, 1, 2, 3, 5, 6] rfl <| wk_X5_again_78 O hr hm _ _ _ _ _ _ _ _ _ _ _ hK23 hX23 ih hX36 _ h)
        · refine j_bipush (m := 10) O dX5_again_65 bi_10 ?_
          refine j_iload O 5 dX5_again_67 rfl ?_
          refine j_imul O dX5_again_69 ?_
          refine j_iload O 6 dX5_again_70 rfl ?_
          refine j_iadd O dX5_again_72 ?_
          refine j_goto O (tgt := 78) dX5_again_73 (by decide) ?_
          exact (J.sub [0, 1, 2, 3, 5, 6] rfl <| wk_X5_again_78 O hr hm _ _ _ _ _ _ _ _ _ _ _ hK23 hX23 ih hX36 _ h)
theorem wk_X5_again_23 {x : Cx} (O : OK x "DowryBoxesModel" cX5_again 3) (hr : (xM x).sig.returnType = some .int) (hm : xn x = 7) {Q : Int → Wd → Prop} (X23 : Int → Int → Wd → Prop) (this : Nat) (x1 : Int) (x2 : Int) (hX23 : ∀ (y3 : Int) (y4 : Int) (w : Wd), X23 y3 y4 w → J x (TI x Q) w 0 0 95 [(2, vI (x2)), (3, vI (y3)), (4, vI (y4))] []) : ∀ (n : Nat) (x3 : Int) (x4 : Int) (x5 : Int) (w : Wd), wp_X5_again_23 Q X23 this x1 x2 n x3 x4 x5 w → J x (TI x Q) w 0 0 23 [(0, .ref (adG (xG x) (this))), (1, vI (x1)), (2, vI (x2)), (3, vI (x3)), (4, vI (x4)), (5, vI (x5))] [] := by
  intro n
  induction n with
  | zero => intro x3 x4 x5 w h; exact False.elim h
  | succ n ih =>
    intro x3 x4 x5 w h
    rw [wp_X5_again_23] at h
    refine j_iload O 5 dX5_again_23 rfl ?_
    refine j_bipush (m := 8) O dX5_again_25 bi_8 ?_
    obtain ⟨c1, h⟩ := h
    refine j_icmp_ge O (tgt := 95) dX5_again_27 (by decide) c1 (by decide) h (fun h => ?_) (fun h => ?_)
    · exact (J.sub [2, 3, 4] rfl <| hX23 _ _ _ h)
    · refine j_iload O 5 dX5_again_30 rfl ?_
      refine j_iconst O dX5_again_32 ?_
      refine j_iadd O dX5_again_33 ?_
      refine j_istore (L' := [(6, vI (x5 + 1)), (0, .ref (adG (xG x) (this))), (1, vI (x1)), (2, vI (x2)), (3, vI (x3)), (4, vI (x4)), (5, vI (x5))]) O dX5_again_34 (by rw [hm]; decide) rfl ?_
      refine (J.sub [1, 2, 3, 4, 5, 6, 0] rfl <| wk_X5_again_36 O hr hm _ _ _ _ _ _ _ ih hX23 (fun z2 z3 w4 h => ?_) FU _ _ _ _ h)
      refine j_iinc (L' := [(5, vI (x5 + 1)), (0, .ref (adG (xG x) (this))), (1, vI (x1)), (2, vI (x2)), (3, vI (z2)), (4, vI (z3))]) O 5 dX5_again_89 rfl (by rw [hm]; decide) rfl ?_
      refine j_goto O (tgt := 23) dX5_again_92 (by decide) ?_
      exact (J.sub [1, 2, 3, 4, 5, 0] rfl <| ih _ _ _ _ h)
theorem mt_X5_again (l : Launch) (G : GW) (this : Nat) (p1 : Int) (p2 : Int) (w : Wd) (Q : Int → Wd → Prop) (h : wp_X5_again this p1 p2 w Q) : MI l G yX5_again cX5_again 7 (.int) 3 0 0 [.ref (adG G (this)), vI (p1), vI (p2)] w Q := by
  refine met_I (fun G => [.ref (adG G (this)), vI (p1), vI (p2)]) (by decide) (fun G => Nat.le_of_ble_eq_true rfl) (fun x O hl hm hr => ?_)
  subst hl
  have O : OK x "DowryBoxesModel" cX5_again 3 := O
  have h : wp_X5_again this p1 p2 w Q := h
  unfold wp_X5_again at h
  show J x (TI x Q) w 0 0 0 [(0, .ref (adG (xG x) (this))), (1, vI (p1)), (2, vI (p2))] []
  refine j_aload_n O 0 0 dX5_again_0 rfl rfl ?_
  refine j_iconst O dX5_again_1 ?_
  refine j_putI O cfX5 0 (Nat.le_of_ble_eq_true rfl) rfl q1568 rfl dX5_again_2 h (fun w1 h => ?_)
  refine j_aload_n O 0 0 dX5_again_5 rfl rfl ?_
  refine j_iload_n O 1 1 dX5_again_6 rfl rfl ?_
  obtain ⟨e4, h⟩ := h
  refine fin_I O ⟨Nat.zero_le _, Nat.zero_le _⟩ (run_V (As := [vI (p1)]) (st := []) O (mt_X5_isBox (xl x) (xG x) _ _ _ _ h) e4 cfX5.1 q1792 q1794 qs51 q131 q1795 hy_X5_isBox (Nat.le_of_ble_eq_true rfl) (Nat.le_of_ble_eq_true rfl) ⟨Nat.zero_le _, Nat.zero_le _⟩ rfl (Nat.le_of_ble_eq_true rfl) dX5_again_7) (fun r2 w3 h => ?_)
  obtain ⟨c5, h⟩ := h
  refine j_if_ne O (tgt := 15) dX5_again_10 (by decide) c5 h (fun h => ?_) (fun h => ?_)
  · refine j_iconst O dX5_again_15 ?_
    refine j_istore_n (L' := [(3, vI (0)), (0, .ref (adG (xG x) (this))), (1, vI (p1)), (2, vI (p2))]) O 3 dX5_again_16 rfl (by rw [hm]; decide) rfl ?_
    refine j_iconst O dX5_again_17 ?_
    refine j_istore (L' := [(4, vI ((-1))), (3, vI (0)), (0, .ref (adG (xG x) (this))), (1, vI (p1)), (2, vI (p2))]) O dX5_again_18 (by rw [hm]; decide) rfl ?_
    refine j_iconst O dX5_again_20 ?_
    refine j_istore (L' := [(5, vI (0)), (4, vI ((-1))), (3, vI (0)), (0, .ref (adG (xG x) (this))), (1, vI (p1)), (2, vI (p2))]) O dX5_again_21 (by rw [hm]; decide) rfl ?_
    refine (J.sub [3, 4, 5, 2, 1, 0] rfl <| wk_X5_again_23 O hr hm _ _ _ _ (fun z6 z7 w8 h => ?_) FU _ _ _ _ h)
    refine j_iload_n O 0 2 dX5_again_95 rfl rfl ?_
    refine j_iconst O dX5_again_96 ?_
    obtain ⟨c9, h⟩ := h
    refine j_icmp_ne O (tgt := 104) dX5_again_97 (by decide) c9 (by decide) h (fun h => ?_) (fun h => ?_)
    · refine j_iload O 2 dX5_again_104 rfl ?_
      exact j_iret O hr dX5_again_106 h
    · refine j_iload_n O 1 3 dX5_again_100 rfl rfl ?_
      refine j_goto O (tgt := 106) dX5_again_101 (by decide) ?_
      exact j_iret O hr dX5_again_106 h
  · refine j_iconst O dX5_again_13 ?_
    exact j_iret O hr dX5_again_14 h
theorem hy_X5_leastOf : (yX5_leastOf.cls = "DowryBoxesModel" ∧ yX5_leastOf.cls ≠ "java/lang/invoke/MethodHandle" ∧ yX5_leastOf.cls ≠ "java/lang/invoke/VarHandle" ∧ (parseMethodDescriptor yX5_leastOf.desc).map (fun d => d.parameters.length) = some 2) := by decide +kernel
theorem wk_X5_leastOf_30 {x : Cx} (O : OK x "DowryBoxesModel" cX5_leastOf 1) (hr : (xM x).sig.returnType = some .int) (hm : xn x = 5) {Q : Int → Wd → Prop} (K5 : Int → Wd → Prop) (X5 : Wd → Prop) (this : Nat) (x2 : Int) (x3 : Int) (x4 : Int) (s0 : Int) (s1 : Int) (s2 : Nat) (hK5 : ∀ (y4 : Int) (w : Wd), K5 y4 w → J x (TI x Q) w 0 0 5 [(0, .ref (adG (xG x) (this))), (2, vI (x2)), (3, vI (x3)), (4, vI (y4))] []) (hX5 : ∀  (w : Wd), X5  w → J x (TI x Q) w 0 0 37 [(0, .ref (adG (xG x) (this))), (2, vI (x2)), (3, vI (x3))] []) (w : Wd) (h : wp_X5_leastOf_30 Q K5 X5 this x2 x3 x4 s0 s1 s2 w) : J x (TI x Q) w 0 0 30 [(0, .ref (adG (xG x) (this))), (2, vI (x2)), (3, vI (x3)), (4, vI (x4))] [vI (s0), vI (s1), .ref (adG (xG x) (s2))] := by
  unfold wp_X5_leastOf_30 at h
  refine j_iast O dX5_leastOf_30 h (fun w1 h => ?_)
  refine j_iinc (L' := [(4, vI (x4 + 1)), (0, .ref (adG (xG x) (this))), (2, vI (x2)), (3, vI (x3))]) O 3 dX5_leastOf_31 rfl (by rw [hm]; decide) rfl ?_
  refine j_goto O (tgt := 5) dX5_leastOf_34 (by decide) ?_
  exact (J.sub [1, 2, 3, 0] rfl <| hK5 _ _ h)
theorem wk_X5_leastOf_5 {x : Cx} (O : OK x "DowryBoxesModel" cX5_leastOf 1) (hr : (xM x).sig.returnType = some .int) (hm : xn x = 5) {Q : Int → Wd → Prop} (X5 : Wd → Prop) (this : Nat) (x2 : Int) (x3 : Int) (hX5 : ∀  (w : Wd), X5  w → J x (TI x Q) w 0 0 37 [(0, .ref (adG (xG x) (this))), (2, vI (x2)), (3, vI (x3))] []) : ∀ (n : Nat) (x4 : Int) (w : Wd), wp_X5_leastOf_5 Q X5 this x2 x3 n x4 w → J x (TI x Q) w 0 0 5 [(0, .ref (adG (xG x) (this))), (2, vI (x2)), (3, vI (x3)), (4, vI (x4))] [] := by
  intro n
  induction n with
  | zero => intro x4 w h; exact False.elim h
  | succ n ih =>
    intro x4 w h
    rw [wp_X5_leastOf_5] at h
    refine j_iload O 3 dX5_leastOf_5 rfl ?_
    refine j_iconst O dX5_leastOf_7 ?_
    obtain ⟨c1, h⟩ := h
    refine j_icmp_ge O (tgt := 37) dX5_leastOf_8 (by decide) c1 (by decide) h (fun h => ?_) (fun h => ?_)
    · exact (J.sub [0, 1, 2] rfl <| hX5  _ h)
    · refine j_aload_n O 0 0 dX5_leastOf_11 rfl rfl ?_
      refine j_getA O cfX5 49 (Nat.le_of_ble_eq_true rfl) ⟨_, rfl⟩ q1617 dX5_leastOf_12 h (fun k2 h => ?_)
      refine j_iload O 3 dX5_leastOf_15 rfl ?_
      refine j_iload O 3 dX5_leastOf_17 rfl ?_
      refine j_iload_n O 1 2 dX5_leastOf_19 rfl rfl ?_
      obtain ⟨c3, h⟩ := h
      obtain ⟨c4, h⟩ := h
      refine j_icmp_ge O (tgt := 27) dX5_leastOf_20 (by decide) c3 c4 h (fun h => ?_) (fun h => ?_)
      · refine j_ldcw (m := 100000000) O dX5_leastOf_27 q2115 ld_100000000 ?_
        exact (J.sub [0, 1, 2, 3] rfl <| wk_X5_leastOf_30 O hr hm _ _ _ _ _ _ _ _ _ ih hX5 _ h)
      · refine j_iconst O dX5_leastOf_23 ?_
        refine j_goto O (tgt := 30) dX5_leastOf_24 (by decide) ?_
        exact (J.sub [0, 1, 2, 3] rfl <| wk_X5_leastOf_30 O hr hm _ _ _ _ _ _ _ _ _ ih hX5 _ h)
theorem wk_X5_leastOf_47 {x : Cx} (O : OK x "DowryBoxesModel" cX5_leastOf 1) (hr : (xM x).sig.returnType = some .int) (hm : xn x = 5) {Q : Int → Wd → Prop} (X47 : Wd → Prop) (this : Nat) (x2 : Int) (hX47 : ∀  (w : Wd), X47  w → J x (TI x Q) w 0 0 80 [(0, .ref (adG (xG x) (this)))] []) : ∀ (n : Nat) (x3 : Int) (x4 : Int) (w : Wd), wp_X5_leastOf_47 Q X47 this x2 n x3 x4 w → J x (TI x Q) w 0 0 47 [(0, .ref (adG (xG x) (this))), (2, vI (x2)), (3, vI (x3)), (4, vI (x4))] [] := by
  intro n
  induction n with
  | zero => intro x3 x4 w h; exact False.elim h
  | succ n ih =>
    intro x3 x4 w h
    rw [wp_X5_leastOf_47] at h
    refine j_iload O 3 dX5_leastOf_47 rfl ?_
    obtain ⟨c1, h⟩ := h
    refine j_if_lt O (tgt := 80) dX5_leastOf_49 (by decide) c1 h (fun h => ?_) (fun h => ?_)
    · exact (J.sub [0] rfl <| hX47  _ h)
    · refine j_aload_n O 0 0 dX5_leastOf_52 rfl rfl ?_
      refine j_getA O cfX5 49 (Nat.le_of_ble_eq_true rfl) ⟨_, rfl⟩ q1617 dX5_leastOf_53 h (fun k2 h => ?_)
      refine j_iload_n O 2 3 dX5_leastOf_56 rfl rfl ?_
      refine j_iload_n O 1 2 dX5_leastOf_57 rfl rfl ?_
      refine j_irem O dX5_leastOf_58 h (fun h => ?_)
      refine j_dup2_11 O dX5_leastOf_59 rfl rfl ?_
      refine j_iald O dX5_leastOf_60 h (fun v3 h => ?_)
      refine j_aload_n O 0 0 dX5_leastOf_61 rfl rfl ?_
      refine j_getA O cfX5 50 (Nat.le_of_ble_eq_true rfl) ⟨_, rfl⟩ q1618 dX5_leastOf_62 h (fun k4 h => ?_)
      refine j_iload O 3 dX5_leastOf_65 rfl ?_
      refine j_iald O dX5_leastOf_67 h (fun v5 h => ?_)
      refine j_iadd O dX5_leastOf_68 ?_
      refine j_iast O dX5_leastOf_69 h (fun w6 h => ?_)
      refine j_iload_n O 2 3 dX5_leastOf_70 rfl rfl ?_
      refine j_iload_n O 1 2 dX5_leastOf_71 rfl rfl ?_
      refine j_idiv O dX5_leastOf_72 h (fun h => ?_)
      refine j_istore_n (L' := [(3, vI (Int.tdiv x3 x2)), (0, .ref (adG (xG x) (this))), (2, vI (x2)), (4, vI (x4))]) O 3 dX5_leastOf_73 rfl (by rw [hm]; decide) rfl ?_
      refine j_iinc (L' := [(4, vI (x4 + (-1))), (3, vI (Int.tdiv x3 x2)), (0, .ref (adG (xG x) (this))), (2, vI (x2))]) O 3 dX5_leastOf_74 rfl (by rw [hm]; decide) rfl ?_
      refine j_goto O (tgt := 47) dX5_leastOf_77 (by decide) ?_
      exact (J.sub [2, 3, 1, 0] rfl <| ih _ _ _ h)
theorem wk_X5_leastOf_110 {x : Cx} (O : OK x "DowryBoxesModel" cX5_leastOf 1) (hr : (xM x).sig.returnType = some .int) (hm : xn x = 5) {Q : Int → Wd → Prop} (this : Nat) (s0 : Int) (w : Wd) (h : wp_X5_leastOf_110 Q this s0 w) : J x (TI x Q) w 0 0 110 [(0, .ref (adG (xG x) (this)))] [vI (s0)] := by
  unfold wp_X5_leastOf_110 at h
  refine j_istore (L' := [(4, vI (s0)), (0, .ref (adG (xG x) (this)))]) O dX5_leastOf_110 (by rw [hm]; decide) rfl ?_
  refine j_iload O 0 dX5_leastOf_112 rfl ?_
  refine j_aload_n O 1 0 dX5_leastOf_114 rfl rfl ?_
  refine j_getA O cfX5 49 (Nat.le_of_ble_eq_true rfl) ⟨_, rfl⟩ q1617 dX5_leastOf_115 h (fun k1 h => ?_)
  refine j_iconst O dX5_leastOf_118 ?_
  refine j_iald O dX5_leastOf_119 h (fun v2 h => ?_)
  obtain ⟨c3, h⟩ := h
  obtain ⟨c4, h⟩ := h
  refine j_icmp_ge O (tgt := 128) dX5_leastOf_120 (by decide) c3 c4 h (fun h => ?_) (fun h => ?_)
  · refine j_aload_n O 1 0 dX5_leastOf_128 rfl rfl ?_
    refine j_getA O cfX5 49 (Nat.le_of_ble_eq_true rfl) ⟨_, rfl⟩ q1617 dX5_leastOf_129 h (fun k5 h => ?_)
    refine j_iconst O dX5_leastOf_132 ?_
    refine j_iald O dX5_leastOf_133 h (fun v6 h => ?_)
    exact j_iret O hr dX5_leastOf_134 h
  · refine j_iload O 0 dX5_leastOf_123 rfl ?_
    refine j_goto O (tgt := 134) dX5_leastOf_125 (by decide) ?_
    exact j_iret O hr dX5_leastOf_134 h
theorem mt_X5_leastOf (l : Launch) (G : GW) (this : Nat) (p1 : Int) (p2 : Int) (w : Wd) (Q : Int → Wd → Prop) (h : wp_X5_leastOf this p1 p2 w Q) : MI l G yX5_leastOf cX5_leastOf 5 (.int) 1 0 0 [.ref (adG G (this)), vI (p1), vI (p2)] w Q := by
  refine met_I (fun G => [.ref (adG G (this)), vI (p1), vI (p2)]) (by decide) (fun G => Nat.le_of_ble_eq_true rfl) (fun x O hl hm hr => ?_)
  subst hl
  have O : OK x "DowryBoxesModel" cX5_leastOf 1 := O
  have h : wp_X5_leastOf this p1 p2 w Q := h
  unfold wp_X5_leastOf at h
  show J x (TI x Q) w 0 0 0 [(0, .ref (adG (xG x) (this))), (1, vI (p1)), (2, vI (p2))] []
  refine j_iload_n O 1 1 dX5_leastOf_0 rfl rfl ?_
  refine j_istore_n (L' := [(3, vI (p1)), (0, .ref (adG (xG x) (this))), (1, vI (p1)), (2, vI (p2))]) O 3 dX5_leastOf_1 rfl (by rw [hm]; decide) rfl ?_
  refine j_iconst O dX5_leastOf_2 ?_
  refine j_istore (L' := [(4, vI (0)), (3, vI (p1)), (0, .ref (adG (xG x) (this))), (1, vI (p1)), (2, vI (p2))]) O dX5_leastOf_3 (by rw [hm]; decide) rfl ?_
  refine (J.sub [2, 4, 1, 0] rfl <| wk_X5_leastOf_5 O hr hm _ _ _ _ (fun w1 h => ?_) FU _ _ h)
  refine j_aload_n O 0 0 dX5_leastOf_37 rfl rfl ?_
  refine j_getA O cfX5 3 (Nat.le_of_ble_eq_true rfl) ⟨_, rfl⟩ q1571 dX5_leastOf_38 h (fun k2 h => ?_)
  refine j_iconst O dX5_leastOf_41 ?_
  refine j_iald O dX5_leastOf_42 h (fun v3 h => ?_)
  refine j_iconst O dX5_leastOf_43 ?_
  refine j_isub O dX5_leastOf_44 ?_
  refine j_istore (L' := [(4, vI (v3 - 1)), (0, .ref (adG (xG x) (this))), (2, vI (p2)), (3, vI (p1))]) O dX5_leastOf_45 (by rw [hm]; decide) rfl ?_
  refine (J.sub [1, 2, 3, 0] rfl <| wk_X5_leastOf_47 O hr hm _ _ _ (fun w4 h => ?_) FU _ _ _ h)
  refine j_aload_n O 0 0 dX5_leastOf_80 rfl rfl ?_
  refine j_getA O cfX5 49 (Nat.le_of_ble_eq_true rfl) ⟨_, rfl⟩ q1617 dX5_leastOf_81 h (fun k5 h => ?_)
  refine j_iconst O dX5_leastOf_84 ?_
  refine j_iald O dX5_leastOf_85 h (fun v6 h => ?_)
  refine j_aload_n O 0 0 dX5_leastOf_86 rfl rfl ?_
  refine j_getA O cfX5 49 (Nat.le_of_ble_eq_true rfl) ⟨_, rfl⟩ q1617 dX5_leastOf_87 h (fun k7 h => ?_)
  refine j_iconst O dX5_leastOf_90 ?_
  refine j_iald O dX5_leastOf_91 h (fun v8 h => ?_)
  obtain ⟨c9, h⟩ := h
  obtain ⟨c10, h⟩ := h
  refine j_icmp_ge O (tgt := 104) dX5_leastOf_92 (by decide) c9 c10 h (fun h => ?_) (fun h => ?_)
  · refine j_aload_n O 0 0 dX5_leastOf_104 rfl rfl ?_
    refine j_getA O cfX5 49 (Nat.le_of_ble_eq_true rfl) ⟨_, rfl⟩ q1617 dX5_leastOf_105 h (fun k11 h => ?_)
    refine j_iconst O dX5_leastOf_108 ?_
    refine j_iald O dX5_leastOf_109 h (fun v12 h => ?_)
    exact (J.sub [0] rfl <| wk_X5_leastOf_110 O hr hm  _ _  _ h)
  · refine j_aload_n O 0 0 dX5_leastOf_95 rfl rfl ?_
    refine j_getA O cfX5 49 (Nat.le_of_ble_eq_true rfl) ⟨_, rfl⟩ q1617 dX5_leastOf_96 h (fun k13 h => ?_)
    refine j_iconst O dX5_leastOf_99 ?_
    refine j_iald O dX5_leastOf_100 h (fun v14 h => ?_)
    refine j_goto O (tgt := 110) dX5_leastOf_101 (by decide) ?_
    exact (J.sub [0] rfl <| wk_X5_leastOf_110 O hr hm  _ _  _ h)
theorem hy_X5_shares : (yX5_shares.cls = "DowryBoxesModel" ∧ yX5_shares.cls ≠ "java/lang/invoke/MethodHandle" ∧ yX5_shares.cls ≠ "java/lang/invoke/VarHandle" ∧ (parseMethodDescriptor yX5_shares.desc).map (fun d => d.parameters.length) = some 2) := by decide +kernel
theorem wk_X5_shares_40 {x : Cx} (O : OK x "DowryBoxesModel" cX5_shares 7) (hr : (xM x).sig.returnType = some .int) (hm : xn x = 8) {Q : Int → Wd → Prop} (X40 : Int → Wd → Prop) (this : Nat) (x1 : Int) (x2 : Int) (hX40 : ∀ (y3 : Int) (w : Wd), X40 y3 w → J x (TI x Q) w 0 0 74 [(0, .ref (adG (xG x) (this))), (1, vI (x1)), (2, vI (x2)), (3, vI (y3))] []) : ∀ (n : Nat) (x3 : Int) (x4 : Int) (w : Wd), wp_X5_shares_40 Q X40 this x1 x2 n x3 x4 w → J x (TI x Q) w 0 0 40 [(0, .ref (adG (xG x) (this))), (1, vI (x1)), (2, vI (x2)), (3, vI (x3)), (4, vI (x4))] [] := by
  intro n
  induction n with
  | zero => intro x3 x4 w h; exact False.elim h
  | succ n ih =>
    intro x3 x4 w h
    rw [wp_X5_shares_40] at h
    refine j_iload O 4 dX5_shares_40 rfl ?_
    refine j_aload_n O 0 0 dX5_shares_42 rfl rfl ?_
    refine j_getA O cfX5 3 (Nat.le_of_ble_eq_true rfl) ⟨_, rfl⟩ q1571 dX5_shares_43 h (fun k1 h => ?_)
    refine j_iconst O dX5_shares_46 ?_
    refine j_iald O dX5_shares_47 h (fun v2 h => ?_)
    obtain ⟨c3, h⟩ := h
    obtain ⟨c4, h⟩ := h
    refine j_icmp_ge O (tgt := 74) dX5_shares_48 (by decide) c3 c4 h (fun h => ?_) (fun h => ?_)
    · exact (J.sub [0, 1, 2, 3] rfl <| hX40 _ _ h)
    · refine j_aload_n O 0 0 dX5_shares_51 rfl rfl ?_
      refine j_getA O cfX5 50 (Nat.le_of_ble_eq_true rfl) ⟨_, rfl⟩ q1618 dX5_shares_52 h (fun k5 h => ?_)
      refine j_iload O 4 dX5_shares_55 rfl ?_
      refine j_aload_n O 0 0 dX5_shares_57 rfl rfl ?_
      refine j_iload O 4 dX5_shares_58 rfl ?_
      obtain ⟨e8, h⟩ := h
      refine fin_I O ⟨Nat.zero_le _, Nat.zero_le _⟩ (run_V (As := [vI (x4)]) (st := [vI (x4), .ref (adG (xG x) (k5))]) O (mt_X5_lastsOf (xl x) (xG x) _ _ _ _ h) e8 cfX5.1 q1808 q1810 qs54 q131 q1811 hy_X5_lastsOf (Nat.le_of_ble_eq_true rfl) (Nat.le_of_ble_eq_true rfl) ⟨Nat.zero_le _, Nat.zero_le _⟩ rfl (Nat.le_of_ble_eq_true rfl) dX5_shares_60) (fun r6 w7 h => ?_)
      refine j_iast O dX5_shares_63 h (fun w9 h => ?_)
      refine j_iload_n O 3 3 dX5_shares_64 rfl rfl ?_
      refine j_iload_n O 1 1 dX5_shares_65 rfl rfl ?_
      refine j_imul O dX5_shares_66 ?_
      refine j_istore_n (L' := [(3, vI (x3 * x1)), (0, .ref (adG (xG x) (this))), (1, vI (x1)), (2, vI (x2)), (4, vI (x4))]) O 3 dX5_shares_67 rfl (by rw [hm]; decide) rfl ?_
      refine j_iinc (L' := [(4, vI (x4 + 1)), (3, vI (x3 * x1)), (0, .ref (adG (xG x) (this))), (1, vI (x1)), (2, vI (x2))]) O 4 dX5_shares_68 rfl (by rw [hm]; decide) rfl ?_
      refine j_goto O (tgt := 40) dX5_shares_71 (by decide) ?_
      exact (J.sub [2, 3, 4, 1, 0] rfl <| ih _ _ _ h)
theorem wk_X5_shares_128 {x : Cx} (O : OK x "DowryBoxesModel" cX5_shares 7) (hr : (xM x).sig.returnType = some .int) (hm : xn x = 8) {Q : Int → Wd → Prop} (K83 : Int → Int → Int → Wd → Prop) (X83 : Int → Int → Wd → Prop) (this : Nat) (x1 : Int) (x2 : Int) (x3 : Int) (x5 : Int) (x6 : Int) (s0 : Int) (hK83 : ∀ (y4 : Int) (y5 : Int) (y6 : Int) (w : Wd), K83 y4 y5 y6 w → J x (TI x Q) w 0 0 83 [(0, .ref (adG (xG x) (this))), (1, vI (x1)), (2, vI (x2)), (3, vI (x3)), (4, vI (y4)), (5, vI (y5)), (6, vI (y6))] []) (hX83 : ∀ (y4 : Int) (y5 : Int) (w : Wd), X83 y4 y5 w → J x (TI x Q) w 0 0 136 [(0, .ref (adG (xG x) (this))), (1, vI (x1)), (2, vI (x2)), (4, vI (y4)), (5, vI (y5))] []) (w : Wd) (h : wp_X5_shares_128 Q K83 X83 this x1 x2 x3 x5 x6 s0 w) : J x (TI x Q) w 0 0 128 [(0, .ref (adG (xG x) (this))), (1, vI (x1)), (2, vI (x2)), (3, vI (x3)), (5, vI (x5)), (6, vI (x6))] [vI (s0)] := by
  unfold wp_X5_shares_128 at h
  refine j_istore (L' := [(4, vI (s0)), (0, .ref (adG (xG x) (this))), (1, vI (x1)), (2, vI (x2)), (3, vI (x3)), (5, vI (x5)), (6, vI (x6))]) O dX5_shares_128 (by rw [hm]; decide) rfl ?_
  refine j_iinc (L' := [(6, vI (x6 + 1)), (4, vI (s0)), (0, .ref (adG (xG x) (this))), (1, vI (x1)), (2, vI (x2)), (3, vI (x3)), (5, vI (x5))]) O 6 dX5_shares_130 rfl (by rw [hm]; decide) rfl ?_
  refine j_goto O (tgt := 83) dX5_shares_133 (by decide) ?_
  exact (J.sub [2, 3, 4, 5, 1, 6, 0] rfl <| hK83 _ _ _ _ h)
theorem wk_X5_shares_112 {x : Cx} (O : OK x "DowryBoxesModel" cX5_shares 7) (hr : (xM x).sig.returnType = some .int) (hm : xn x = 8) {Q : Int → Wd → Prop} (K83 : Int → Int → Int → Wd → Prop) (X83 : Int → Int → Wd → Prop) (this : Nat) (x1 : Int) (x2 : Int) (x3 : Int) (x4 : Int) (x6 : Int) (x7 : Int) (s0 : Int) (hK83 : ∀ (y4 : Int) (y5 : Int) (y6 : Int) (w : Wd), K83 y4 y5 y6 w → J x (TI x Q) w 0 0 83 [(0, .ref (adG (xG x) (this))), (1, vI (x1)), (2, vI (x2)), (3, vI (x3)), (4, vI (y4)), (5, vI (y5)), (6, vI (y6))] []) (hX83 : ∀ (y4 : Int) (y5 : Int) (w : Wd), X83 y4 y5 w → J x (TI x Q) w 0 0 136 [(0, .ref (adG (xG x) (this))), (1, vI (x1)), (2, vI (x2)), (4, vI (y4)), (5, vI (y5))] []) (w : Wd) (h : wp_X5_shares_112 Q K83 X83 this x1 x2 x3 x4 x6 x7 s0 w) : J x (TI x Q) w 0 0 112 [(0, .ref (adG (xG x) (this))), (1, vI (x1)), (2, vI (x2)), (3, vI (x3)), (4, vI (x4)), (6, vI (x6)), (7, vI (x7))] [vI (s0)] := by
  unfold wp_X5_shares_112 at h
  refine j_istore (L' := [(5, vI (s0)), (0, .ref (adG (xG x) (this))), (1, vI (x1)), (2, vI (x2)), (3, vI (x3)), (4, vI (x4)), (6, vI (x6)), (7, vI (x7))]) O dX5_shares_112 (by rw [hm]; decide) rfl ?_
  refine j_iload O 7 dX5_shares_114 rfl ?_
  refine j_iload O 5 dX5_shares_116 rfl ?_
  obtain ⟨c1, h⟩ := h
  obtain ⟨c2, h⟩ := h
  refine j_icmp_le O (tgt := 126) dX5_shares_118 (by decide) c1 c2 h (fun h => ?_) (fun h => ?_)
  · refine j_iload O 5 dX5_shares_126 rfl ?_
    exact (J.sub [1, 2, 3, 4, 0, 6] rfl <| wk_X5_shares_128 O hr hm _ _ _ _ _ _ _ _ _ hK83 hX83 _ h)
  · refine j_iload O 7 dX5_shares_121 rfl ?_
    refine j_goto O (tgt := 128) dX5_shares_123 (by decide) ?_
    exact (J.sub [1, 2, 3, 4, 0, 6] rfl <| wk_X5_shares_128 O hr hm _ _ _ _ _ _ _ _ _ hK83 hX83 _ h)
theorem wk_X5_shares_83 {x : Cx} (O : OK x "DowryBoxesModel" cX5_shares 7) (hr : (xM x).sig.returnType = some .int) (hm : xn x = 8) {Q : Int → Wd → Prop} (X83 : Int → Int → Wd → Prop) (this : Nat) (x1 : Int) (x2 : Int) (x3 : Int) (hX83 : ∀ (y4 : Int) (y5 : Int) (w : Wd), X83 y4 y5 w → J x (TI x Q) w 0 0 136 [(0, .ref (adG (xG x) (this))), (1, vI (x1)), (2, vI (x2)), (4, vI (y4)), (5, vI (y5))] []) : ∀ (n : Nat) (x4 : Int) (x5 : Int) (x6 : Int) (w : Wd), wp_X5_shares_83 Q X83 this x1 x2 x3 n x4 x5 x6 w → J x (TI x Q) w 0 0 83 [(0, .ref (adG (xG x) (this))), (1, vI (x1)), (2, vI (x2)), (3, vI (x3)), (4, vI (x4)), (5, vI (x5)), (6, vI (x6))] [] := by
  intro n
  induction n with
  | zero => intro x4 x5 x6 w h; exact False.elim h
  | succ n ih =>
    intro x4 x5 x6 w h
    rw [wp_X5_shares_83] at h
    refine j_iload O 6 dX5_shares_83 rfl ?_
    refine j_iload_n O 3 3 dX5_shares_85 rfl rfl ?_
    obtain ⟨c1, h⟩ := h
    obtain ⟨c2, h⟩ := h
    refine j_icmp_ge O (tgt := 136) dX5_shares_86 (by decide) c1 c2 h (fun h => ?_) (fun h => ?_)
    · exact (J.sub [0, 1, 2, 4, 5] rfl <| hX83 _ _ _ h)
    · refine j_aload_n O 0 0 dX5_shares_89 rfl rfl ?_
      refine j_iload O 6 dX5_shares_90 rfl ?_
      refine j_iload_n O 1 1 dX5_shares_92 rfl rfl ?_
      obtain ⟨e5, h⟩ := h
      refine fin_I O ⟨Nat.zero_le _, Nat.zero_le _⟩ (run_V (As := [vI (x6), vI (x1)]) (st := []) O (mt_X5_leastOf (xl x) (xG x) _ _ _ _ _ h) e5 cfX5.1 q2188 q2190 qs110 q131 q2191 hy_X5_leastOf (Nat.le_of_ble_eq_true rfl) (Nat.le_of_ble_eq_true rfl) ⟨Nat.zero_le _, Nat.zero_le _⟩ rfl (Nat.le_of_ble_eq_true rfl) dX5_shares_93) (fun r3 w4 h => ?_)
      refine j_istore (L' := [(7, vI (r3)), (0, .ref (adG (xG x) (this))), (1, vI (x1)), (2, vI (x2)), (3, vI (x3)), (4, vI (x4)), (5, vI (x5)), (6, vI (x6))]) O dX5_shares_96 (by rw [hm]; decide) rfl ?_
      refine j_iload O 0 dX5_shares_98 rfl ?_
      refine j_iload O 5 dX5_shares_100 rfl ?_
      obtain ⟨c6, h⟩ := h
      obtain ⟨c7, h⟩ := h
      refine j_icmp_le O (tgt := 110) dX5_shares_102 (by decide) c6 c7 h (fun h => ?_) (fun h => ?_)
      · refine j_iload O 6 dX5_shares_110 rfl ?_
        exact (J.sub [1, 2, 3, 4, 5, 7, 0] rfl <| wk_X5_shares_112 O hr hm _ _ _ _ _ _ _ _ _ _ ih hX83 _ h)
      · refine j_iload O 7 dX5_shares_105 rfl ?_
        refine j_goto O (tgt := 112) dX5_shares_107 (by decide) ?_
        exact (J.sub [1, 2, 3, 4, 5, 7, 0] rfl <| wk_X5_shares_112 O hr hm _ _ _ _ _ _ _ _ _ _ ih hX83 _ h)
theorem wk_X5_shares_153 {x : Cx} (O : OK x "DowryBoxesModel" cX5_shares 7) (hr : (xM x).sig.returnType = some .int) (hm : xn x = 8) {Q : Int → Wd → Prop} (x1 : Int) (x2 : Int) : ∀ (n : Nat) (x5 : Int) (x6 : Int) (w : Wd), wp_X5_shares_153 Q x1 x2 n x5 x6 w → J x (TI x Q) w 0 0 153 [(1, vI (x1)), (2, vI (x2)), (5, vI (x5)), (6, vI (x6))] [] := by
  intro n
  induction n with
  | zero => intro x5 x6 w h; exact False.elim h
  | succ n ih =>
    intro x5 x6 w h
    rw [wp_X5_shares_153] at h
    refine j_iload O 3 dX5_shares_153 rfl ?_
    refine j_iload_n O 1 2 dX5_shares_155 rfl rfl ?_
    refine j_iconst O dX5_shares_156 ?_
    refine j_isub O dX5_shares_157 ?_
    obtain ⟨c1, h⟩ := h
    obtain ⟨c2, h⟩ := h
    refine j_icmp_le O (tgt := 173) dX5_shares_158 (by decide) c1 c2 h (fun h => ?_) (fun h => ?_)
    · refine j_iload O 2 dX5_shares_173 rfl ?_
      refine j_iload_n O 0 1 dX5_shares_175 rfl rfl ?_
      refine j_irem O dX5_shares_176 h (fun h => ?_)
      exact j_iret O hr dX5_shares_177 h
    · refine j_iload O 2 dX5_shares_161 rfl ?_
      refine j_iload_n O 0 1 dX5_shares_163 rfl rfl ?_
      refine j_idiv O dX5_shares_164 h (fun h => ?_)
      refine j_istore (L' := [(5, vI (Int.tdiv x5 x1)), (1, vI (x1)), (2, vI (x2)), (6, vI (x6))]) O dX5_shares_165 (by rw [hm]; decide) rfl ?_
      refine j_iinc (L' := [(6, vI (x6 + (-1))), (5, vI (Int.tdiv x5 x1)), (1, vI (x1)), (2, vI (x2))]) O 3 dX5_shares_167 rfl (by rw [hm]; decide) rfl ?_
      refine j_goto O (tgt := 153) dX5_shares_170 (by decide) ?_
      exact (J.sub [2, 3, 1, 0] rfl <| ih _ _ _ h)
theorem mt_X5_shares (l : Launch) (G : GW) (this : Nat) (p1 : Int) (p2 : Int) (w : Wd) (Q : Int → Wd → Prop) (h : wp_X5_shares this p1 p2 w Q) : MI l G yX5_shares cX5_shares 8 (.int) 7 0 0 [.ref (adG G (this)), vI (p1), vI (p2)] w Q := by
  refine met_I (fun G => [.ref (adG G (this)), vI (p1), vI (p2)]) (by decide) (fun G => Nat.le_of_ble_eq_true rfl) (fun x O hl hm hr => ?_)
  subst hl
  have O : OK x "DowryBoxesModel" cX5_shares 7 := O
  have h : wp_X5_shares this p1 p2 w Q := h
  unfold wp_X5_shares at h
  show J x (TI x Q) w 0 0 0 [(0, .ref (adG (xG x) (this))), (1, vI (p1)), (2, vI (p2))] []
  refine j_aload_n O 0 0 dX5_shares_0 rfl rfl ?_
  refine j_iconst O dX5_shares_1 ?_
  refine j_putI O cfX5 0 (Nat.le_of_ble_eq_true rfl) rfl q1568 rfl dX5_shares_2 h (fun w1 h => ?_)
  refine j_iload_n O 1 1 dX5_shares_5 rfl rfl ?_
  refine j_i2l O dX5_shares_6 h (fun h => ?_)
  refine j_lconst (m := 1) O dX5_shares_7 lc_1 ?_
  refine j_ldc2 (m := 3) O dX5_shares_8 q2187 l2_3 ?_
  refine fin_I O ⟨Nat.zero_le _, Nat.zero_le _⟩ (run_S (As := [vL (p1), vL (1), vL (3)]) (st := []) O (mt_X5_in (xl x) (xG x) _ _ _ _ _ h) q1772 q1773 q131 q1774 hy_X5_in.2 (Nat.le_of_ble_eq_true rfl) (Nat.le_of_ble_eq_true rfl) ⟨Nat.zero_le _, Nat.zero_le _⟩ rfl (Nat.le_of_ble_eq_true rfl) dX5_shares_11) (fun r2 w3 h => ?_)
  obtain ⟨c4, h⟩ := h
  refine j_if_eq O (tgt := 33) dX5_shares_14 (by decide) c4 h (fun h => ?_) (fun h => ?_)
  · refine j_iconst O dX5_shares_33 ?_
    exact j_iret O hr dX5_shares_34 h
  · refine j_iload_n O 2 2 dX5_shares_17 rfl rfl ?_
    refine j_i2l O dX5_shares_18 h (fun h => ?_)
    refine j_lconst (m := 0) O dX5_shares_19 lc_0 ?_
    refine j_aload_n O 0 0 dX5_shares_20 rfl rfl ?_
    refine j_getA O cfX5 3 (Nat.le_of_ble_eq_true rfl) ⟨_, rfl⟩ q1571 dX5_shares_21 h (fun k5 h => ?_)
    refine j_iconst O dX5_shares_24 ?_
    refine j_iald O dX5_shares_25 h (fun v6 h => ?_)
    refine j_i2l O dX5_shares_26 h (fun h => ?_)
    refine fin_I O ⟨Nat.zero_le _, Nat.zero_le _⟩ (run_S (As := [vL (p2), vL (0), vL (v6)]) (st := []) O (mt_X5_in (xl x) (xG x) _ _ _ _ _ h) q1772 q1773 q131 q1774 hy_X5_in.2 (Nat.le_of_ble_eq_true rfl) (Nat.le_of_ble_eq_true rfl) ⟨Nat.zero_le _, Nat.zero_le _⟩ rfl (Nat.le_of_ble_eq_true rfl) dX5_shares_27) (fun r7 w8 h => ?_)
    obtain ⟨c9, h⟩ := h
    refine j_if_ne O (tgt := 35) dX5_shares_30 (by decide) c9 h (fun h => ?_) (fun h => ?_)
    · refine j_iconst O dX5_shares_35 ?_
      refine j_istore_n (L' := [(3, vI (1)), (0, .ref (adG (xG x) (this))), (1, vI (p1)), (2, vI (p2))]) O 3 dX5_shares_36 rfl (by rw [hm]; decide) rfl ?_
      refine j_iconst O dX5_shares_37 ?_
      refine j_istore (L' := [(4, vI (0)), (3, vI (1)), (0, .ref (adG (xG x) (this))), (1, vI (p1)), (2, vI (p2))]) O dX5_shares_38 (by rw [hm]; decide) rfl ?_
      refine (J.sub [2, 3, 4, 1, 0] rfl <| wk_X5_shares_40 O hr hm _ _ _ _ (fun z10 w11 h => ?_) FU _ _ _ h)
      refine j_iconst O dX5_shares_74 ?_
      refine j_istore (L' := [(4, vI ((-1))), (0, .ref (adG (xG x) (this))), (1, vI (p1)), (2, vI (p2)), (3, vI (z10))]) O dX5_shares_75 (by rw [hm]; decide) rfl ?_
      refine j_iconst O dX5_shares_77 ?_
      refine j_istore (L' := [(5, vI (0)), (4, vI ((-1))), (0, .ref (adG (xG x) (this))), (1, vI (p1)), (2, vI (p2)), (3, vI (z10))]) O dX5_shares_78 (by rw [hm]; decide) rfl ?_
      refine j_iconst O dX5_shares_80 ?_
      refine j_istore (L' := [(6, vI (0)), (5, vI (0)), (4, vI ((-1))), (0, .ref (adG (xG x) (this))), (1, vI (p1)), (2, vI (p2)), (3, vI (z10))]) O dX5_shares_81 (by rw [hm]; decide) rfl ?_
      refine (J.sub [3, 4, 5, 6, 2, 1, 0] rfl <| wk_X5_shares_83 O hr hm _ _ _ _ _ (fun z12 z13 w14 h => ?_) FU _ _ _ _ h)
      refine j_iload_n O 2 2 dX5_shares_136 rfl rfl ?_
      obtain ⟨c15, h⟩ := h
      refine j_if_ne O (tgt := 143) dX5_shares_137 (by decide) c15 h (fun h => ?_) (fun h => ?_)
      · refine j_aload_n O 0 0 dX5_shares_143 rfl rfl ?_
        refine j_getA O cfX5 3 (Nat.le_of_ble_eq_true rfl) ⟨_, rfl⟩ q1571 dX5_shares_144 h (fun k16 h => ?_)
        refine j_iconst O dX5_shares_147 ?_
        refine j_iald O dX5_shares_148 h (fun v17 h => ?_)
        refine j_iconst O dX5_shares_149 ?_
        refine j_isub O dX5_shares_150 ?_
        refine j_istore (L' := [(6, vI (v17 - 1)), (0, .ref (adG (xG x) (this))), (1, vI (p1)), (2, vI (p2)), (4, vI (z12)), (5, vI (z13))]) O dX5_shares_151 (by rw [hm]; decide) rfl ?_
        exact (J.sub [2, 3, 5, 0] rfl <| wk_X5_shares_153 O hr hm  _ _  FU _ _ _ h)
      · refine j_iload O 3 dX5_shares_140 rfl ?_
        exact j_iret O hr dX5_shares_142 h
    · refine j_iconst O dX5_shares_33 ?_
      exact j_iret O hr dX5_shares_34 h
theorem hy_X5_areTwo : (yX5_areTwo.cls = "DowryBoxesModel" ∧ yX5_areTwo.cls ≠ "java/lang/invoke/MethodHandle" ∧ yX5_areTwo.cls ≠ "java/lang/invoke/VarHandle" ∧ (parseMethodDescriptor yX5_areTwo.desc).map (fun d => d.parameters.length) = some 2) := by decide +kernel
theorem mt_X5_areTwo (l : Launch) (G : GW) (this : Nat) (p1 : Int) (p2 : Int) (w : Wd) (Q : Int → Wd → Prop) (h : wp_X5_areTwo this p1 p2 w Q) : MI l G yX5_areTwo cX5_areTwo 3 (.boolean) 3 0 0 [.ref (adG G (this)), vI (p1), vI (p2)] w Q := by
  refine met_I (fun G => [.ref (adG G (this)), vI (p1), vI (p2)]) (by decide) (fun G => Nat.le_of_ble_eq_true rfl) (fun x O hl hm hr => ?_)
  subst hl
  have O : OK x "DowryBoxesModel" cX5_areTwo 3 := O
  have h : wp_X5_areTwo this p1 p2 w Q := h
  unfold wp_X5_areTwo at h
  show J x (TI x Q) w 0 0 0 [(0, .ref (adG (xG x) (this))), (1, vI (p1)), (2, vI (p2))] []
  refine j_aload_n O 0 0 dX5_areTwo_0 rfl rfl ?_
  refine j_iload_n O 1 1 dX5_areTwo_1 rfl rfl ?_
  obtain ⟨e3, h⟩ := h
  refine fin_I O ⟨Nat.zero_le _, Nat.zero_le _⟩ (run_V (As := [vI (p1)]) (st := []) O (mt_X5_isBox (xl x) (xG x) _ _ _ _ h) e3 cfX5.1 q1792 q1794 qs51 q131 q1795 hy_X5_isBox (Nat.le_of_ble_eq_true rfl) (Nat.le_of_ble_eq_true rfl) ⟨Nat.zero_le _, Nat.zero_le _⟩ rfl (Nat.le_of_ble_eq_true rfl) dX5_areTwo_2) (fun r1 w2 h => ?_)
  obtain ⟨c4, h⟩ := h
  refine j_if_eq O (tgt := 25) dX5_areTwo_5 (by decide) c4 h (fun h => ?_) (fun h => ?_)
  · refine j_iconst O dX5_areTwo_25 ?_
    exact j_zret O hr dX5_areTwo_26 h
  · refine j_aload_n O 0 0 dX5_areTwo_8 rfl rfl ?_
    refine j_iload_n O 2 2 dX5_areTwo_9 rfl rfl ?_
    obtain ⟨e7, h⟩ := h
    refine fin_I O ⟨Nat.zero_le _, Nat.zero_le _⟩ (run_V (As := [vI (p2)]) (st := []) O (mt_X5_isBox (xl x) (xG x) _ _ _ _ h) e7 cfX5.1 q1792 q1794 qs51 q131 q1795 hy_X5_isBox (Nat.le_of_ble_eq_true rfl) (Nat.le_of_ble_eq_true rfl) ⟨Nat.zero_le _, Nat.zero_le _⟩ rfl (Nat.le_of_ble_eq_true rfl) dX5_areTwo_10) (fun r5 w6 h => ?_)
    obtain ⟨c8, h⟩ := h
    refine j_if_eq O (tgt := 25) dX5_areTwo_13 (by decide) c8 h (fun h => ?_) (fun h => ?_)
    · refine j_iconst O dX5_areTwo_25 ?_
      exact j_zret O hr dX5_areTwo_26 h
    · refine j_iload_n O 1 1 dX5_areTwo_16 rfl rfl ?_
      refine j_iload_n O 2 2 dX5_areTwo_17 rfl rfl ?_
      obtain ⟨c9, h⟩ := h
      obtain ⟨c10, h⟩ := h
      refine j_icmp_eq O (tgt := 25) dX5_areTwo_18 (by decide) c9 c10 h (fun h => ?_) (fun h => ?_)
      · refine j_iconst O dX5_areTwo_25 ?_
        exact j_zret O hr dX5_areTwo_26 h
      · refine j_iconst O dX5_areTwo_21 ?_
        refine j_goto O (tgt := 26) dX5_areTwo_22 (by decide) ?_
        exact j_zret O hr dX5_areTwo_26 h
theorem hy_X5_layClash : (yX5_layClash.cls = "DowryBoxesModel" ∧ yX5_layClash.cls ≠ "java/lang/invoke/MethodHandle" ∧ yX5_layClash.cls ≠ "java/lang/invoke/VarHandle" ∧ (parseMethodDescriptor yX5_layClash.desc).map (fun d => d.parameters.length) = some 3) := by decide +kernel
theorem wk_X5_layClash_6 {x : Cx} (O : OK x "DowryBoxesModel" cX5_layClash 2) (hr : (xM x).sig.returnType = some .int) (hm : xn x = 10) {Q : Int → Wd → Prop} (X6 : Wd → Prop) (this : Nat) (x1 : Int) (x2 : Int) (x3 : Int) (x4 : Int) (hX6 : ∀  (w : Wd), X6  w → J x (TI x Q) w 0 0 27 [(0, .ref (adG (xG x) (this))), (1, vI (x1)), (2, vI (x2)), (3, vI (x3)), (4, vI (x4))] []) : ∀ (n : Nat) (x5 : Int) (w : Wd), wp_X5_layClash_6 Q X6 this x1 x2 x3 x4 n x5 w → J x (TI x Q) w 0 0 6 [(0, .ref (adG (xG x) (this))), (1, vI (x1)), (2, vI (x2)), (3, vI (x3)), (4, vI (x4)), (5, vI (x5))] [] := by
  intro n
  induction n with
  | zero => intro x5 w h; exact False.elim h
  | succ n ih =>
    intro x5 w h
    rw [wp_X5_layClash_6] at h
    refine j_iload O 5 dX5_layClash_6 rfl ?_
    refine j_bipush (m := 8) O dX5_layClash_8 bi_8 ?_
    obtain ⟨c1, h⟩ := h
    refine j_icmp_ge O (tgt := 27) dX5_layClash_10 (by decide) c1 (by decide) h (fun h => ?_) (fun h => ?_)
    · exact (J.sub [0, 1, 2, 3, 4] rfl <| hX6  _ h)
    · refine j_aload_n O 0 0 dX5_layClash_13 rfl rfl ?_
      refine j_getA O cfX5 48 (Nat.le_of_ble_eq_true rfl) ⟨_, rfl⟩ q1616 dX5_layClash_14 h (fun k2 h => ?_)
      refine j_iload O 5 dX5_layClash_17 rfl ?_
      refine j_iconst O dX5_layClash_19 ?_
      refine j_iast O dX5_layClash_20 h (fun w3 h => ?_)
      refine j_iinc (L' := [(5, vI (x5 + 1)), (0, .ref (adG (xG x) (this))), (1, vI (x1)), (2, vI (x2)), (3, vI (x3)), (4, vI (x4))]) O 5 dX5_layClash_21 rfl (by rw [hm]; decide) rfl ?_
      refine j_goto O (tgt := 6) dX5_layClash_24 (by decide) ?_
      exact (J.sub [1, 2, 3, 4, 5, 0] rfl <| ih _ _ h)
theorem wk_X5_layClash_100 {x : Cx} (O : OK x "DowryBoxesModel" cX5_layClash 2) (hr : (xM x).sig.returnType = some .int) (hm : xn x = 10) {Q : Int → Wd → Prop} (K30 : Int → Int → Wd → Prop) (K63 : Int → Int → Wd → Prop) (X63 : Int → Wd → Prop) (this : Nat) (x1 : Int) (x2 : Int) (x3 : Int) (x4 : Int) (x5 : Int) (x6 : Int) (x7 : Int) (x8 : Int) (s0 : Int) (hK30 : ∀ (y4 : Int) (y5 : Int) (w : Wd), K30 y4 y5 w → J x (TI x Q) w 0 0 30 [(0, .ref (adG (xG x) (this))), (1, vI (x1)), (2, vI (x2)), (3, vI (x3)), (4, vI (y4)), (5, vI (y5))] []) (hK63 : ∀ (y4 : Int) (y8 : Int) (w : Wd), K63 y4 y8 w → J x (TI x Q) w 0 0 63 [(0, .ref (adG (xG x) (this))), (1, vI (x1)), (2, vI (x2)), (3, vI (x3)), (4, vI (y4)), (5, vI (x5)), (6, vI (x6)), (7, vI (x7)), (8, vI (y8))] []) (hX63 : ∀ (y4 : Int) (w : Wd), X63 y4 w → J x (TI x Q) w 0 0 130 [(0, .ref (adG (xG x) (this))), (1, vI (x1)), (2, vI (x2)), (3, vI (x3)), (4, vI (y4)), (5, vI (x5))] []) (w : Wd) (h : wp_X5_layClash_100 Q K30 K63 X63 this x1 x2 x3 x4 x5 x6 x7 x8 s0 w) : J x (TI x Q) w 0 0 100 [(0, .ref (adG (xG x) (this))), (1, vI (x1)), (2, vI (x2)), (3, vI (x3)), (4, vI (x4)), (5, vI (x5)), (6, vI (x6)), (7, vI (x7)), (8, vI (x8))] [vI (s0)] := by
  unfold wp_X5_layClash_100 at h
  refine j_istore (L' := [(9, vI (s0)), (0, .ref (adG (xG x) (this))), (1, vI (x1)), (2, vI (x2)), (3, vI (x3)), (4, vI (x4)), (5, vI (x5)), (6, vI (x6)), (7, vI (x7)), (8, vI (x8))]) O dX5_layClash_100 (by rw [hm]; decide) rfl ?_
  refine j_iload O 5 dX5_layClash_102 rfl ?_
  refine j_iload O 0 dX5_layClash_104 rfl ?_
  refine fin_I O ⟨Nat.zero_le _, Nat.zero_le _⟩ (run_S (As := [vI (s0)]) (st := [vI (x4)]) O (mt_X5_ones (xl x) (xG x) _ _ _ h) q1805 q1806 q131 q1807 hy_X5_ones.2 (Nat.le_of_ble_eq_true rfl) (Nat.le_of_ble_eq_true rfl) ⟨Nat.zero_le _, Nat.zero_le _⟩ rfl (Nat.le_of_ble_eq_true rfl) dX5_layClash_106) (fun r1 w2 h => ?_)
  refine j_iadd O dX5_layClash_109 ?_
  refine j_istore (L' := [(4, vI (x4 + r1)), (9, vI (s0)), (0, .ref (adG (xG x) (this))), (1, vI (x1)), (2, vI (x2)), (3, vI (x3)), (5, vI (x5)), (6, vI (x6)), (7, vI (x7)), (8, vI (x8))]) O dX5_layClash_110 (by rw [hm]; decide) rfl ?_
  refine j_aload_n O 2 0 dX5_layClash_112 rfl rfl ?_
  refine j_getA O cfX5 48 (Nat.le_of_ble_eq_true rfl) ⟨_, rfl⟩ q1616 dX5_layClash_113 h (fun k3 h => ?_)
  refine j_iload O 9 dX5_layClash_116 rfl ?_
  refine j_dup2_11 O dX5_layClash_118 rfl rfl ?_
  refine j_iald O dX5_layClash_119 h (fun v4 h => ?_)
  refine j_iload O 1 dX5_layClash_120 rfl ?_
  refine j_ior O dX5_layClash_122 ?_
  refine j_iast O dX5_layClash_123 h (fun w5 h => ?_)
  refine j_iinc (L' := [(8, vI (x8 + 1)), (4, vI (x4 + r1)), (9, vI (s0)), (0, .ref (adG (xG x) (this))), (1, vI (x1)), (2, vI (x2)), (3, vI (x3)), (5, vI (x5)), (6, vI (x6)), (7, vI (x7))]) O 9 dX5_layClash_124 rfl (by rw [hm]; decide) rfl ?_
  refine j_goto O (tgt := 63) dX5_layClash_127 (by decide) ?_
  exact (J.sub [3, 4, 5, 6, 1, 7, 8, 9, 0] rfl <| hK63 _ _ _ h)
theorem wk_X5_layClash_63 {x : Cx} (O : OK x "DowryBoxesModel" cX5_layClash 2) (hr : (xM x).sig.returnType = some .int) (hm : xn x = 10) {Q : Int → Wd → Prop} (K30 : Int → Int → Wd → Prop) (X63 : Int → Wd → Prop) (this : Nat) (x1 : Int) (x2 : Int) (x3 : Int) (x5 : Int) (x6 : Int) (x7 : Int) (hK30 : ∀ (y4 : Int) (y5 : Int) (w : Wd), K30 y4 y5 w → J x (TI x Q) w 0 0 30 [(0, .ref (adG (xG x) (this))), (1, vI (x1)), (2, vI (x2)), (3, vI (x3)), (4, vI (y4)), (5, vI (y5))] []) (hX63 : ∀ (y4 : Int) (w : Wd), X63 y4 w → J x (TI x Q) w 0 0 130 [(0, .ref (adG (xG x) (this))), (1, vI (x1)), (2, vI (x2)), (3, vI (x3)), (4, vI (y4)), (5, vI (x5))] []) : ∀ (n : Nat) (x4 : Int) (x8 : Int) (w : Wd), wp_X5_layClash_63 Q K30 X63 this x1 x2 x3 x5 x6 x7 n x4 x8 w → J x (TI x Q) w 0 0 63 [(0, .ref (adG (xG x) (this))), (1, vI (x1)), (2, vI (x2)), (3, vI (x3)), (4, vI (x4)), (5, vI (x5)), (6, vI (x6)), (7, vI (x7)), (8, vI (x8))] [] := by
  intro n
  induction n with
  | zero => intro x4 x8 w h; exact False.elim h
  | succ n ih =>
    intro x4 x8 w h
    rw [wp_X5_layClash_63] at h
    refine j_iload O 8 dX5_layClash_63 rfl ?_
    refine j_bipush (m := 8) O dX5_layClash_65 bi_8 ?_
    obtain ⟨c1, h⟩ := h
    refine j_icmp_ge O (tgt := 130) dX5_layClash_67 (by decide) c1 (by decide) h (fun h => ?_) (fun h => ?_)
    · exact (J.sub [0, 1, 2, 3, 4, 5] rfl <| hX63 _ _ h)
    · refine j_iload O 6 dX5_layClash_70 rfl ?_
      refine j_iload O 8 dX5_layClash_72 rfl ?_
      refine fin_I O ⟨Nat.zero_le _, Nat.zero_le _⟩ (run_S (As := [vI (x6), vI (x8)]) (st := []) O (mt_X5_is (xl x) (xG x) _ _ _ _ h) q2056 q2057 q131 q2058 hy_X5_is.2 (Nat.le_of_ble_eq_true rfl) (Nat.le_of_ble_eq_true rfl) ⟨Nat.zero_le _, Nat.zero_le _⟩ rfl (Nat.le_of_ble_eq_true rfl) dX5_layClash_74) (fun r2 w3 h => ?_)
      obtain ⟨c4, h⟩ := h
      refine j_if_eq O (tgt := 99) dX5_layClash_77 (by decide) c4 h (fun h => ?_) (fun h => ?_)
      · refine j_iconst O dX5_layClash_99 ?_
        exact (J.sub [0, 1, 2, 3, 4, 5, 6, 7, 8] rfl <| wk_X5_layClash_100 O hr hm _ _ _ _ _ _ _ _ _ _ _ _ _ hK30 ih hX63 _ h)
      · refine j_iload O 7 dX5_layClash_80 rfl ?_
        refine j_iconst O dX5_layClash_82 ?_
        refine j_iload O 8 dX5_layClash_83 rfl ?_
        refine j_iconst O dX5_layClash_85 ?_
        refine j_iadd O dX5_layClash_86 ?_
        refine j_ishl O dX5_layClash_87 ?_
        refine j_iconst O dX5_layClash_88 ?_
        refine j_iload O 8 dX5_layClash_89 rfl ?_
        refine j_ishl O dX5_layClash_91 ?_
        refine j_iconst O dX5_layClash_92 ?_
        refine j_ishr O dX5_layClash_93 ?_
        refine j_ior O dX5_layClash_94 ?_
        refine j_iand O dX5_layClash_95 ?_
        refine j_goto O (tgt := 100) dX5_layClash_96 (by decide) ?_
        exact (J.sub [0, 1, 2, 3, 4, 5, 6, 7, 8] rfl <| wk_X5_layClash_100 O hr hm _ _ _ _ _ _ _ _ _ _ _ _ _ hK30 ih hX63 _ h)
theorem wk_X5_layClash_30 {x : Cx} (O : OK x "DowryBoxesModel" cX5_layClash 2) (hr : (xM x).sig.returnType = some .int) (hm : xn x = 10) {Q : Int → Wd → Prop} (this : Nat) (x1 : Int) (x2 : Int) (x3 : Int) : ∀ (n : Nat) (x4 : Int) (x5 : Int) (w : Wd), wp_X5_layClash_30 Q this x1 x2 x3 n x4 x5 w → J x (TI x Q) w 0 0 30 [(0, .ref (adG (xG x) (this))), (1, vI (x1)), (2, vI (x2)), (3, vI (x3)), (4, vI (x4)), (5, vI (x5))] [] := by
  intro n
  induction n with
  | zero => intro x4 x5 w h; exact False.elim h
  | succ n ih =>
    intro x4 x5 w h
    rw [wp_X5_layClash_30] at h
    refine j_iload O 5 dX5_layClash_30 rfl ?_
    refine j_bipush (m := 8) O dX5_layClash_32 bi_8 ?_
    obtain ⟨c1, h⟩ := h
    refine j_icmp_ge O (tgt := 136) dX5_layClash_34 (by decide) c1 (by decide) h (fun h => ?_) (fun h => ?_)
    · refine j_iload O 4 dX5_layClash_136 rfl ?_
      exact j_iret O hr dX5_layClash_138 h
    · refine j_aload_n O 0 0 dX5_layClash_37 rfl rfl ?_
      refine j_iload_n O 1 1 dX5_layClash_38 rfl rfl ?_
      refine j_iload O 5 dX5_layClash_39 rfl ?_
      obtain ⟨e4, h⟩ := h
      refine fin_I O ⟨Nat.zero_le _, Nat.zero_le _⟩ (run_V (As := [vI (x1), vI (x5)]) (st := []) O (mt_X5_notesAt (xl x) (xG x) _ _ _ _ _ h) e4 cfX5.1 q1801 q1803 qs53 q131 q1804 hy_X5_notesAt (Nat.le_of_ble_eq_true rfl) (Nat.le_of_ble_eq_true rfl) ⟨Nat.zero_le _, Nat.zero_le _⟩ rfl (Nat.le_of_ble_eq_true rfl) dX5_layClash_41) (fun r2 w3 h => ?_)
      refine j_istore (L' := [(6, vI (r2)), (0, .ref (adG (xG x) (this))), (1, vI (x1)), (2, vI (x2)), (3, vI (x3)), (4, vI (x4)), (5, vI (x5))]) O dX5_layClash_44 (by rw [hm]; decide) rfl ?_
      refine j_aload_n O 1 0 dX5_layClash_46 rfl rfl ?_
      refine j_iload_n O 3 2 dX5_layClash_47 rfl rfl ?_
      refine j_iload O 6 dX5_layClash_48 rfl ?_
      refine j_iload_n O 4 3 dX5_layClash_50 rfl rfl ?_
      refine j_iadd O dX5_layClash_51 ?_
      refine j_bipush (m := 8) O dX5_layClash_52 bi_8 ?_
      refine j_irem O dX5_layClash_54 h (fun h => ?_)
      obtain ⟨e7, h⟩ := h
      refine fin_I O ⟨Nat.zero_le _, Nat.zero_le _⟩ (run_V (As := [vI (x2), vI ((Int.tmod (x5 + x3) 8))]) (st := []) O (mt_X5_notesAt (xl x) (xG x) _ _ _ _ _ h) e7 cfX5.1 q1801 q1803 qs53 q131 q1804 hy_X5_notesAt (Nat.le_of_ble_eq_true rfl) (Nat.le_of_ble_eq_true rfl) ⟨Nat.zero_le _, Nat.zero_le _⟩ rfl (Nat.le_of_ble_eq_true rfl) dX5_layClash_55) (fun r5 w6 h => ?_)
      refine j_istore (L' := [(7, vI (r5)), (6, vI (r2)), (0, .ref (adG (xG x) (this))), (1, vI (x1)), (2, vI (x2)), (3, vI (x3)), (4, vI (x4)), (5, vI (x5))]) O dX5_layClash_58 (by rw [hm]; decide) rfl ?_
      refine j_iconst O dX5_layClash_60 ?_
      refine j_istore (L' := [(8, vI (0)), (7, vI (r5)), (6, vI (r2)), (0, .ref (adG (xG x) (this))), (1, vI (x1)), (2, vI (x2)), (3, vI (x3)), (4, vI (x4)), (5, vI (x5))]) O dX5_layClash_61 (by rw [hm]; decide) rfl ?_
      refine (J.sub [3, 4, 5, 6, 7, 8, 2, 1, 0] rfl <| wk_X5_layClash_63 O hr hm _ _ _ _ _ _ _ _ _ ih (fun z8 w9 h => ?_) FU _ _ _ h)
      refine j_iinc (L' := [(5, vI (x5 + 1)), (0, .ref (adG (xG x) (this))), (1, vI (x1)), (2, vI (x2)), (3, vI (x3)), (4, vI (z8))]) O 5 dX5_layClash_130 rfl (by rw [hm]; decide) rfl ?_
      refine j_goto O (tgt := 30) dX5_layClash_133 (by decide) ?_
      exact (J.sub [1, 2, 3, 4, 5, 0] rfl <| ih _ _ _ h)
theorem mt_X5_layClash (l : Launch) (G : GW) (this : Nat) (p1 : Int) (p2 : Int) (p3 : Int) (w : Wd) (Q : Int → Wd → Prop) (h : wp_X5_layClash this p1 p2 p3 w Q) : MI l G yX5_layClash cX5_layClash 10 (.int) 2 0 0 [.ref (adG G (this)), vI (p1), vI (p2), vI (p3)] w Q := by
  refine met_I (fun G => [.ref (adG G (this)), vI (p1), vI (p2), vI (p3)]) (by decide) (fun G => Nat.le_of_ble_eq_true rfl) (fun x O hl hm hr => ?_)
  subst hl
  have O : OK x "DowryBoxesModel" cX5_layClash 2 := O
  have h : wp_X5_layClash this p1 p2 p3 w Q := h
  unfold wp_X5_layClash at h
  show J x (TI x Q) w 0 0 0 [(0, .ref (adG (xG x) (this))), (1, vI (p1)), (2, vI (p2)), (3, vI (p3))] []
  refine j_iconst O dX5_layClash_0 ?_
  refine j_istore (L' := [(4, vI (0)), (0, .ref (adG (xG x) (this))), (1, vI (p1)), (2, vI (p2)), (3, vI (p3))]) O dX5_layClash_1 (by rw [hm]; decide) rfl ?_
  refine j_iconst O dX5_layClash_3 ?_
  refine j_istore (L' := [(5, vI (0)), (4, vI (0)), (0, .ref (adG (xG x) (this))), (1, vI (p1)), (2, vI (p2)), (3, vI (p3))]) O dX5_layClash_4 (by rw [hm]; decide) rfl ?_
  refine (J.sub [2, 3, 4, 5, 1, 0] rfl <| wk_X5_layClash_6 O hr hm _ _ _ _ _ _ (fun w1 h => ?_) FU _ _ h)
  refine j_iconst O dX5_layClash_27 ?_
  refine j_istore (L' := [(5, vI (0)), (0, .ref (adG (xG x) (this))), (1, vI (p1)), (2, vI (p2)), (3, vI (p3)), (4, vI (0))]) O dX5_layClash_28 (by rw [hm]; decide) rfl ?_
  exact (J.sub [1, 2, 3, 4, 5, 0] rfl <| wk_X5_layClash_30 O hr hm  _ _ _ _  FU _ _ _ h)
theorem hy_X5_filed : (yX5_filed.cls = "DowryBoxesModel" ∧ yX5_filed.cls ≠ "java/lang/invoke/MethodHandle" ∧ yX5_filed.cls ≠ "java/lang/invoke/VarHandle" ∧ (parseMethodDescriptor yX5_filed.desc).map (fun d => d.parameters.length) = some 4) := by decide +kernel
theorem wk_X5_filed_102 {x : Cx} (O : OK x "DowryBoxesModel" cX5_filed 4) (hr : (xM x).sig.returnType = some .int) (hm : xn x = 11) {Q : Int → Wd → Prop} (K58 : Int → Int → Int → Int → Wd → Prop) (X58 : Int → Int → Int → Wd → Prop) (K72 : Int → Int → Wd → Prop) (X72 : Int → Wd → Prop) (this : Nat) (x4 : Int) (x5 : Int) (x6 : Int) (x7 : Int) (x8 : Int) (x10 : Int) (s0 : Int) (s1 : Int) (hK58 : ∀ (y5 : Int) (y6 : Int) (y7 : Int) (y8 : Int) (w : Wd), K58 y5 y6 y7 y8 w → J x (TI x Q) w 0 0 58 [(0, .ref (adG (xG x) (this))), (4, vI (x4)), (5, vI (y5)), (6, vI (y6)), (7, vI (y7)), (8, vI (y8))] []) (hX58 : ∀ (y5 : Int) (y6 : Int) (y7 : Int) (w : Wd), X58 y5 y6 y7 w → J x (TI x Q) w 0 0 191 [(4, vI (x4)), (5, vI (y5)), (6, vI (y6)), (7, vI (y7))] []) (hK72 : ∀ (y9 : Int) (y10 : Int) (w : Wd), K72 y9 y10 w → J x (TI x Q) w 0 0 72 [(0, .ref (adG (xG x) (this))), (4, vI (x4)), (5, vI (x5)), (6, vI (x6)), (7, vI (x7)), (8, vI (x8)), (9, vI (y9)), (10, vI (y10))] []) (hX72 : ∀ (y9 : Int) (w : Wd), X72 y9 w → J x (TI x Q) w 0 0 111 [(0, .ref (adG (xG x) (this))), (4, vI (x4)), (5, vI (x5)), (6, vI (x6)), (7, vI (x7)), (8, vI (x8)), (9, vI (y9))] []) (w : Wd) (h : wp_X5_filed_102 Q K58 X58 K72 X72 this x4 x5 x6 x7 x8 x10 s0 s1 w) : J x (TI x Q) w 0 0 102 [(0, .ref (adG (xG x) (this))), (4, vI (x4)), (5, vI (x5)), (6, vI (x6)), (7, vI (x7)), (8, vI (x8)), (10, vI (x10))] [vI (s0), vI (s1)] := by
  unfold wp_X5_filed_102 at h
  refine j_ior O dX5_filed_102 ?_
  refine j_istore (L' := [(9, vI (ior s1 s0)), (0, .ref (adG (xG x) (this))), (4, vI (x4)), (5, vI (x5)), (6, vI (x6)), (7, vI (x7)), (8, vI (x8)), (10, vI (x10))]) O dX5_filed_103 (by rw [hm]; decide) rfl ?_
  refine j_iinc (L' := [(10, vI (x10 + 1)), (9, vI (ior s1 s0)), (0, .ref (adG (xG x) (this))), (4, vI (x4)), (5, vI (x5)), (6, vI (x6)), (7, vI (x7)), (8, vI (x8))]) O 7 dX5_filed_105 rfl (by rw [hm]; decide) rfl ?_
  refine j_goto O (tgt := 72) dX5_filed_108 (by decide) ?_
  exact (J.sub [2, 3, 4, 5, 6, 7, 1, 0] rfl <| hK72 _ _ _ h)
theorem wk_X5_filed_72 {x : Cx} (O : OK x "DowryBoxesModel" cX5_filed 4) (hr : (xM x).sig.returnType = some .int) (hm : xn x = 11) {Q : Int → Wd → Prop} (K58 : Int → Int → Int → Int → Wd → Prop) (X58 : Int → Int → Int → Wd → Prop) (X72 : Int → Wd → Prop) (this : Nat) (x4 : Int) (x5 : Int) (x6 : Int) (x7 : Int) (x8 : Int) (hK58 : ∀ (y5 : Int) (y6 : Int) (y7 : Int) (y8 : Int) (w : Wd), K58 y5 y6 y7 y8 w → J x (TI x Q) w 0 0 58 [(0, .ref (adG (xG x) (this))), (4, vI (x4)), (5, vI (y5)), (6, vI (y6)), (7, vI (y7)), (8, vI (y8))] []) (hX58 : ∀ (y5 : Int) (y6 : Int) (y7 : Int) (w : Wd), X58 y5 y6 y7 w → J x (TI x Q) w 0 0 191 [(4, vI (x4)), (5, vI (y5)), (6, vI (y6)), (7, vI (y7))] []) (hX72 : ∀ (y9 : Int) (w : Wd), X72 y9 w → J x (TI x Q) w 0 0 111 [(0, .ref (adG (xG x) (this))), (4, vI (x4)), (5, vI (x5)), (6, vI (x6)), (7, vI (x7)), (8, vI (x8)), (9, vI (y9))] []) : ∀ (n : Nat) (x9 : Int) (x10 : Int) (w : Wd), wp_X5_filed_72 Q K58 X58 X72 this x4 x5 x6 x7 x8 n x9 x10 w → J x (TI x Q) w 0 0 72 [(0, .ref (adG (xG x) (this))), (4, vI (x4)), (5, vI (x5)), (6, vI (x6)), (7, vI (x7)), (8, vI (x8)), (9, vI (x9)), (10, vI (x10))] [] := by
  intro n
  induction n with
  | zero => intro x9 x10 w h; exact False.elim h
  | succ n ih =>
    intro x9 x10 w h
    rw [wp_X5_filed_72] at h
    refine j_iload O 7 dX5_filed_72 rfl ?_
    refine j_bipush (m := 8) O dX5_filed_74 bi_8 ?_
    obtain ⟨c1, h⟩ := h
    refine j_icmp_ge O (tgt := 111) dX5_filed_76 (by decide) c1 (by decide) h (fun h => ?_) (fun h => ?_)
    · exact (J.sub [0, 1, 2, 3, 4, 5, 6] rfl <| hX72 _ _ h)
    · refine j_iload O 6 dX5_filed_79 rfl ?_
      refine j_iload O 5 dX5_filed_81 rfl ?_
      refine j_iload O 7 dX5_filed_83 rfl ?_
      refine fin_I O ⟨Nat.zero_le _, Nat.zero_le _⟩ (run_S (As := [vI (x8), vI (x10)]) (st := [vI (x9)]) O (mt_X5_is (xl x) (xG x) _ _ _ _ h) q2056 q2057 q131 q2058 hy_X5_is.2 (Nat.le_of_ble_eq_true rfl) (Nat.le_of_ble_eq_true rfl) ⟨Nat.zero_le _, Nat.zero_le _⟩ rfl (Nat.le_of_ble_eq_true rfl) dX5_filed_85) (fun r2 w3 h => ?_)
      obtain ⟨c4, h⟩ := h
      refine j_if_eq O (tgt := 95) dX5_filed_88 (by decide) c4 h (fun h => ?_) (fun h => ?_)
      · refine j_aload_n O 0 0 dX5_filed_95 rfl rfl ?_
        refine j_getA O cfX5 48 (Nat.le_of_ble_eq_true rfl) ⟨_, rfl⟩ q1616 dX5_filed_96 h (fun k5 h => ?_)
        refine j_iload O 7 dX5_filed_99 rfl ?_
        refine j_iald O dX5_filed_101 h (fun v6 h => ?_)
        exact (J.sub [0, 1, 2, 3, 4, 5, 7] rfl <| wk_X5_filed_102 O hr hm _ _ _ _ _ _ _ _ _ _ _ _ _ hK58 hX58 ih hX72 _ h)
      · refine j_iconst O dX5_filed_91 ?_
        refine j_goto O (tgt := 102) dX5_filed_92 (by decide) ?_
        exact (J.sub [0, 1, 2, 3, 4, 5, 7] rfl <| wk_X5_filed_102 O hr hm _ _ _ _ _ _ _ _ _ _ _ _ _ hK58 hX58 ih hX72 _ h)
theorem wk_X5_filed_183 {x : Cx} (O : OK x "DowryBoxesModel" cX5_filed 4) (hr : (xM x).sig.returnType = some .int) (hm : xn x = 11) {Q : Int → Wd → Prop} (K58 : Int → Int → Int → Int → Wd → Prop) (X58 : Int → Int → Int → Wd → Prop) (this : Nat) (x4 : Int) (x6 : Int) (x7 : Int) (x8 : Int) (s0 : Int) (hK58 : ∀ (y5 : Int) (y6 : Int) (y7 : Int) (y8 : Int) (w : Wd), K58 y5 y6 y7 y8 w → J x (TI x Q) w 0 0 58 [(0, .ref (adG (xG x) (this))), (4, vI (x4)), (5, vI (y5)), (6, vI (y6)), (7, vI (y7)), (8, vI (y8))] []) (hX58 : ∀ (y5 : Int) (y6 : Int) (y7 : Int) (w : Wd), X58 y5 y6 y7 w → J x (TI x Q) w 0 0 191 [(4, vI (x4)), (5, vI (y5)), (6, vI (y6)), (7, vI (y7))] []) (w : Wd) (h : wp_X5_filed_183 Q K58 X58 this x4 x6 x7 x8 s0 w) : J x (TI x Q) w 0 0 183 [(0, .ref (adG (xG x) (this))), (4, vI (x4)), (6, vI (x6)), (7, vI (x7)), (8, vI (x8))] [vI (s0)] := by
  unfold wp_X5_filed_183 at h
  refine j_istore (L' := [(5, vI (s0)), (0, .ref (adG (xG x) (this))), (4, vI (x4)), (6, vI (x6)), (7, vI (x7)), (8, vI (x8))]) O dX5_filed_183 (by rw [hm]; decide) rfl ?_
  refine j_iinc (L' := [(8, vI (x8 + 1)), (5, vI (s0)), (0, .ref (adG (xG x) (this))), (4, vI (x4)), (6, vI (x6)), (7, vI (x7))]) O 5 dX5_filed_185 rfl (by rw [hm]; decide) rfl ?_
  refine j_goto O (tgt := 58) dX5_filed_188 (by decide) ?_
  exact (J.sub [2, 3, 1, 4, 5, 0] rfl <| hK58 _ _ _ _ _ h)
theorem wk_X5_filed_160 {x : Cx} (O : OK x "DowryBoxesModel" cX5_filed 4) (hr : (xM x).sig.returnType = some .int) (hm : xn x = 11) {Q : Int → Wd → Prop} (K58 : Int → Int → Int → Int → Wd → Prop) (X58 : Int → Int → Int → Wd → Prop) (this : Nat) (x4 : Int) (x5 : Int) (x6 : Int) (x8 : Int) (x9 : Int) (x10 : Int) (s0 : Int) (hK58 : ∀ (y5 : Int) (y6 : Int) (y7 : Int) (y8 : Int) (w : Wd), K58 y5 y6 y7 y8 w → J x (TI x Q) w 0 0 58 [(0, .ref (adG (xG x) (this))), (4, vI (x4)), (5, vI (y5)), (6, vI (y6)), (7, vI (y7)), (8, vI (y8))] []) (hX58 : ∀ (y5 : Int) (y6 : Int) (y7 : Int) (w : Wd), X58 y5 y6 y7 w → J x (TI x Q) w 0 0 191 [(4, vI (x4)), (5, vI (y5)), (6, vI (y6)), (7, vI (y7))] []) (w : Wd) (h : wp_X5_filed_160 Q K58 X58 this x4 x5 x6 x8 x9 x10 s0 w) : J x (TI x Q) w 0 0 160 [(0, .ref (adG (xG x) (this))), (4, vI (x4)), (5, vI (x5)), (6, vI (x6)), (8, vI (x8)), (9, vI (x9)), (10, vI (x10))] [vI (s0)] := by
  unfold wp_X5_filed_160 at h
  refine j_istore (L' := [(7, vI (s0)), (0, .ref (adG (xG x) (this))), (4, vI (x4)), (5, vI (x5)), (6, vI (x6)), (8, vI (x8)), (9, vI (x9)), (10, vI (x10))]) O dX5_filed_160 (by rw [hm]; decide) rfl ?_
  refine j_iload O 7 dX5_filed_162 rfl ?_
  obtain ⟨c1, h⟩ := h
  refine j_if_eq O (tgt := 181) dX5_filed_164 (by decide) c1 h (fun h => ?_) (fun h => ?_)
  · refine j_iload O 3 dX5_filed_181 rfl ?_
    exact (J.sub [1, 2, 4, 0, 5] rfl <| wk_X5_filed_183 O hr hm _ _ _ _ _ _ _ _ hK58 hX58 _ h)
  · refine j_iload O 5 dX5_filed_167 rfl ?_
    refine fin_I O ⟨Nat.zero_le _, Nat.zero_le _⟩ (run_S (As := [vI (x8)]) (st := []) O (mt_X5_ones (xl x) (xG x) _ _ _ h) q1805 q1806 q131 q1807 hy_X5_ones.2 (Nat.le_of_ble_eq_true rfl) (Nat.le_of_ble_eq_true rfl) ⟨Nat.zero_le _, Nat.zero_le _⟩ rfl (Nat.le_of_ble_eq_true rfl) dX5_filed_169) (fun r2 w3 h => ?_)
    refine j_iload O 6 dX5_filed_172 rfl ?_
    refine fin_I O ⟨Nat.zero_le _, Nat.zero_le _⟩ (run_S (As := [vI (x9)]) (st := [vI (r2)]) O (mt_X5_ones (xl x) (xG x) _ _ _ h) q1805 q1806 q131 q1807 hy_X5_ones.2 (Nat.le_of_ble_eq_true rfl) (Nat.le_of_ble_eq_true rfl) ⟨Nat.zero_le _, Nat.zero_le _⟩ rfl (Nat.le_of_ble_eq_true rfl) dX5_filed_174) (fun r4 w5 h => ?_)
    refine j_iadd O dX5_filed_177 ?_
    refine j_goto O (tgt := 183) dX5_filed_178 (by decide) ?_
    exact (J.sub [1, 2, 4, 0, 5] rfl <| wk_X5_filed_183 O hr hm _ _ _ _ _ _ _ _ hK58 hX58 _ h)
theorem wk_X5_filed_146 {x : Cx} (O : OK x "DowryBoxesModel" cX5_filed 4) (hr : (xM x).sig.returnType = some .int) (hm : xn x = 11) {Q : Int → Wd → Prop} (K58 : Int → Int → Int → Int → Wd → Prop) (X58 : Int → Int → Int → Wd → Prop) (this : Nat) (x4 : Int) (x5 : Int) (x7 : Int) (x8 : Int) (x9 : Int) (x10 : Int) (s0 : Int) (hK58 : ∀ (y5 : Int) (y6 : Int) (y7 : Int) (y8 : Int) (w : Wd), K58 y5 y6 y7 y8 w → J x (TI x Q) w 0 0 58 [(0, .ref (adG (xG x) (this))), (4, vI (x4)), (5, vI (y5)), (6, vI (y6)), (7, vI (y7)), (8, vI (y8))] []) (hX58 : ∀ (y5 : Int) (y6 : Int) (y7 : Int) (w : Wd), X58 y5 y6 y7 w → J x (TI x Q) w 0 0 191 [(4, vI (x4)), (5, vI (y5)), (6, vI (y6)), (7, vI (y7))] []) (w : Wd) (h : wp_X5_filed_146 Q K58 X58 this x4 x5 x7 x8 x9 x10 s0 w) : J x (TI x Q) w 0 0 146 [(0, .ref (adG (xG x) (this))), (4, vI (x4)), (5, vI (x5)), (7, vI (x7)), (8, vI (x8)), (9, vI (x9)), (10, vI (x10))] [vI (s0)] := by
  unfold wp_X5_filed_146 at h
  refine j_istore (L' := [(6, vI (s0)), (0, .ref (adG (xG x) (this))), (4, vI (x4)), (5, vI (x5)), (7, vI (x7)), (8, vI (x8)), (9, vI (x9)), (10, vI (x10))]) O dX5_filed_146 (by rw [hm]; decide) rfl ?_
  refine j_iload O 7 dX5_filed_148 rfl ?_
  obtain ⟨c1, h⟩ := h
  refine j_if_eq O (tgt := 158) dX5_filed_150 (by decide) c1 h (fun h => ?_) (fun h => ?_)
  · refine j_iload O 4 dX5_filed_158 rfl ?_
    exact (J.sub [1, 2, 3, 0, 5, 6, 7] rfl <| wk_X5_filed_160 O hr hm _ _ _ _ _ _ _ _ _ _ hK58 hX58 _ h)
  · refine j_iload O 6 dX5_filed_153 rfl ?_
    refine j_goto O (tgt := 160) dX5_filed_155 (by decide) ?_
    exact (J.sub [1, 2, 3, 0, 5, 6, 7] rfl <| wk_X5_filed_160 O hr hm _ _ _ _ _ _ _ _ _ _ hK58 hX58 _ h)
theorem wk_X5_filed_132 {x : Cx} (O : OK x "DowryBoxesModel" cX5_filed 4) (hr : (xM x).sig.returnType = some .int) (hm : xn x = 11) {Q : Int → Wd → Prop} (K58 : Int → Int → Int → Int → Wd → Prop) (X58 : Int → Int → Int → Wd → Prop) (this : Nat) (x4 : Int) (x5 : Int) (x6 : Int) (x7 : Int) (x8 : Int) (x9 : Int) (s0 : Int) (hK58 : ∀ (y5 : Int) (y6 : Int) (y7 : Int) (y8 : Int) (w : Wd), K58 y5 y6 y7 y8 w → J x (TI x Q) w 0 0 58 [(0, .ref (adG (xG x) (this))), (4, vI (x4)), (5, vI (y5)), (6, vI (y6)), (7, vI (y7)), (8, vI (y8))] []) (hX58 : ∀ (y5 : Int) (y6 : Int) (y7 : Int) (w : Wd), X58 y5 y6 y7 w → J x (TI x Q) w 0 0 191 [(4, vI (x4)), (5, vI (y5)), (6, vI (y6)), (7, vI (y7))] []) (w : Wd) (h : wp_X5_filed_132 Q K58 X58 this x4 x5 x6 x7 x8 x9 s0 w) : J x (TI x Q) w 0 0 132 [(0, .ref (adG (xG x) (this))), (4, vI (x4)), (5, vI (x5)), (6, vI (x6)), (7, vI (x7)), (8, vI (x8)), (9, vI (x9))] [vI (s0)] := by
  unfold wp_X5_filed_132 at h
  refine j_istore (L' := [(10, vI (s0)), (0, .ref (adG (xG x) (this))), (4, vI (x4)), (5, vI (x5)), (6, vI (x6)), (7, vI (x7)), (8, vI (x8)), (9, vI (x9))]) O dX5_filed_132 (by rw [hm]; decide) rfl ?_
  refine j_iload O 0 dX5_filed_134 rfl ?_
  obtain ⟨c1, h⟩ := h
  refine j_if_eq O (tgt := 144) dX5_filed_136 (by decide) c1 h (fun h => ?_) (fun h => ?_)
  · refine j_iload O 4 dX5_filed_144 rfl ?_
    exact (J.sub [1, 2, 3, 5, 6, 7, 0] rfl <| wk_X5_filed_146 O hr hm _ _ _ _ _ _ _ _ _ _ hK58 hX58 _ h)
  · refine j_iload O 6 dX5_filed_139 rfl ?_
    refine j_goto O (tgt := 146) dX5_filed_141 (by decide) ?_
    exact (J.sub [1, 2, 3, 5, 6, 7, 0] rfl <| wk_X5_filed_146 O hr hm _ _ _ _ _ _ _ _ _ _ hK58 hX58 _ h)
theorem wk_X5_filed_58 {x : Cx} (O : OK x "DowryBoxesModel" cX5_filed 4) (hr : (xM x).sig.returnType = some .int) (hm : xn x = 11) {Q : Int → Wd → Prop} (X58 : Int → Int → Int → Wd → Prop) (this : Nat) (x4 : Int) (hX58 : ∀ (y5 : Int) (y6 : Int) (y7 : Int) (w : Wd), X58 y5 y6 y7 w → J x (TI x Q) w 0 0 191 [(4, vI (x4)), (5, vI (y5)), (6, vI (y6)), (7, vI (y7))] []) : ∀ (n : Nat) (x5 : Int) (x6 : Int) (x7 : Int) (x8 : Int) (w : Wd), wp_X5_filed_58 Q X58 this x4 n x5 x6 x7 x8 w → J x (TI x Q) w 0 0 58 [(0, .ref (adG (xG x) (this))), (4, vI (x4)), (5, vI (x5)), (6, vI (x6)), (7, vI (x7)), (8, vI (x8))] [] := by
  intro n
  induction n with
  | zero => intro x5 x6 x7 x8 w h; exact False.elim h
  | succ n ih =>
    intro x5 x6 x7 x8 w h
    rw [wp_X5_filed_58] at h
    refine j_iload O 5 dX5_filed_58 rfl ?_
    refine j_sipush (m := 256) O dX5_filed_60 si_256 ?_
    obtain ⟨c1, h⟩ := h
    refine j_icmp_ge O (tgt := 191) dX5_filed_63 (by decide) c1 (by decide) h (fun h => ?_) (fun h => ?_)
    · exact (J.sub [1, 2, 3, 4] rfl <| hX58 _ _ _ _ h)
    · refine j_iconst O dX5_filed_66 ?_
      refine j_istore (L' := [(9, vI (0)), (0, .ref (adG (xG x) (this))), (4, vI (x4)), (5, vI (x5)), (6, vI (x6)), (7, vI (x7)), (8, vI (x8))]) O dX5_filed_67 (by rw [hm]; decide) rfl ?_
      refine j_iconst O dX5_filed_69 ?_
      refine j_istore (L' := [(10, vI (0)), (9, vI (0)), (0, .ref (adG (xG x) (this))), (4, vI (x4)), (5, vI (x5)), (6, vI (x6)), (7, vI (x7)), (8, vI (x8))]) O dX5_filed_70 (by rw [hm]; decide) rfl ?_
      refine (J.sub [2, 3, 4, 5, 6, 7, 1, 0] rfl <| wk_X5_filed_72 O hr hm _ _ _ _ _ _ _ _ _ ih hX58 (fun z2 w3 h => ?_) FU _ _ _ h)
      refine j_iload O 5 dX5_filed_111 rfl ?_
      refine fin_I O ⟨Nat.zero_le _, Nat.zero_le _⟩ (run_S (As := [vI (x8)]) (st := []) O (mt_X5_ones (xl x) (xG x) _ _ _ h) q1805 q1806 q131 q1807 hy_X5_ones.2 (Nat.le_of_ble_eq_true rfl) (Nat.le_of_ble_eq_true rfl) ⟨Nat.zero_le _, Nat.zero_le _⟩ rfl (Nat.le_of_ble_eq_true rfl) dX5_filed_113) (fun r4 w5 h => ?_)
      refine j_iload O 6 dX5_filed_116 rfl ?_
      refine fin_I O ⟨Nat.zero_le _, Nat.zero_le _⟩ (run_S (As := [vI (z2)]) (st := [vI (r4)]) O (mt_X5_ones (xl x) (xG x) _ _ _ h) q1805 q1806 q131 q1807 hy_X5_ones.2 (Nat.le_of_ble_eq_true rfl) (Nat.le_of_ble_eq_true rfl) ⟨Nat.zero_le _, Nat.zero_le _⟩ rfl (Nat.le_of_ble_eq_true rfl) dX5_filed_118) (fun r6 w7 h => ?_)
      refine j_iadd O dX5_filed_121 ?_
      refine j_iload O 2 dX5_filed_122 rfl ?_
      obtain ⟨c8, h⟩ := h
      obtain ⟨c9, h⟩ := h
      refine j_icmp_ge O (tgt := 131) dX5_filed_124 (by decide) c8 c9 h (fun h => ?_) (fun h => ?_)
      · refine j_iconst O dX5_filed_131 ?_
        exact (J.sub [0, 1, 2, 3, 4, 5, 6] rfl <| wk_X5_filed_132 O hr hm _ _ _ _ _ _ _ _ _ _ ih hX58 _ h)
      · refine j_iconst O dX5_filed_127 ?_
        refine j_goto O (tgt := 132) dX5_filed_128 (by decide) ?_
        exact (J.sub [0, 1, 2, 3, 4, 5, 6] rfl <| wk_X5_filed_132 O hr hm _ _ _ _ _ _ _ _ _ _ ih hX58 _ h)
theorem mt_X5_filed (l : Launch) (G : GW) (this : Nat) (p1 : Int) (p2 : Int) (p3 : Int) (p4 : Int) (w : Wd) (Q : Int → Wd → Prop) (h : wp_X5_filed this p1 p2 p3 p4 w Q) : MI l G yX5_filed cX5_filed 11 (.int) 4 0 0 [.ref (adG G (this)), vI (p1), vI (p2), vI (p3), vI (p4)] w Q := by
  refine met_I (fun G => [.ref (adG G (this)), vI (p1), vI (p2), vI (p3), vI (p4)]) (by decide) (fun G => Nat.le_of_ble_eq_true rfl) (fun x O hl hm hr => ?_)
  subst hl
  have O : OK x "DowryBoxesModel" cX5_filed 4 := O
  have h : wp_X5_filed this p1 p2 p3 p4 w Q := h
  unfold wp_X5_filed at h
  show J x (TI x Q) w 0 0 0 [(0, .ref (adG (xG x) (this))), (1, vI (p1)), (2, vI (p2)), (3, vI (p3)), (4, vI (p4))] []
  refine j_aload_n O 0 0 dX5_filed_0 rfl rfl ?_
  refine j_iconst O dX5_filed_1 ?_
  refine j_putI O cfX5 0 (Nat.le_of_ble_eq_true rfl) rfl q1568 rfl dX5_filed_2 h (fun w1 h => ?_)
  refine j_aload_n O 0 0 dX5_filed_5 rfl rfl ?_
  refine j_iload_n O 1 1 dX5_filed_6 rfl rfl ?_
  refine j_iload_n O 2 2 dX5_filed_7 rfl rfl ?_
  obtain ⟨e4, h⟩ := h
  refine fin_I O ⟨Nat.zero_le _, Nat.zero_le _⟩ (run_V (As := [vI (p1), vI (p2)]) (st := []) O (mt_X5_areTwo (xl x) (xG x) _ _ _ _ _ h) e4 cfX5.1 q2166 q2168 qs108 q131 q2169 hy_X5_areTwo (Nat.le_of_ble_eq_true rfl) (Nat.le_of_ble_eq_true rfl) ⟨Nat.zero_le _, Nat.zero_le _⟩ rfl (Nat.le_of_ble_eq_true rfl) dX5_filed_8) (fun r2 w3 h => ?_)
  obtain ⟨c5, h⟩ := h
  refine j_if_eq O (tgt := 34) dX5_filed_11 (by decide) c5 h (fun h => ?_) (fun h => ?_)
  · refine j_iconst O dX5_filed_34 ?_
    exact j_iret O hr dX5_filed_35 h
  · refine j_iload_n O 3 3 dX5_filed_14 rfl rfl ?_
    refine fin_I O ⟨Nat.zero_le _, Nat.zero_le _⟩ (run_S (As := [vI (p3)]) (st := []) O (mt_X5_isBar (xl x) (xG x) _ _ _ h) q1846 q1847 q131 q1848 hy_X5_isBar.2 (Nat.le_of_ble_eq_true rfl) (Nat.le_of_ble_eq_true rfl) ⟨Nat.zero_le _, Nat.zero_le _⟩ rfl (Nat.le_of_ble_eq_true rfl) dX5_filed_15) (fun r6 w7 h => ?_)
    obtain ⟨c8, h⟩ := h
    refine j_if_eq O (tgt := 34) dX5_filed_18 (by decide) c8 h (fun h => ?_) (fun h => ?_)
    · refine j_iconst O dX5_filed_34 ?_
      exact j_iret O hr dX5_filed_35 h
    · refine j_iload O 4 dX5_filed_21 rfl ?_
      refine j_i2l O dX5_filed_23 h (fun h => ?_)
      refine j_lconst (m := 0) O dX5_filed_24 lc_0 ?_
      refine j_ldc2 (m := 2) O dX5_filed_25 q2182 l2_2 ?_
      refine fin_I O ⟨Nat.zero_le _, Nat.zero_le _⟩ (run_S (As := [vL (p4), vL (0), vL (2)]) (st := []) O (mt_X5_in (xl x) (xG x) _ _ _ _ _ h) q1772 q1773 q131 q1774 hy_X5_in.2 (Nat.le_of_ble_eq_true rfl) (Nat.le_of_ble_eq_true rfl) ⟨Nat.zero_le _, Nat.zero_le _⟩ rfl (Nat.le_of_ble_eq_true rfl) dX5_filed_28) (fun r9 w10 h => ?_)
      obtain ⟨c11, h⟩ := h
      refine j_if_ne O (tgt := 36) dX5_filed_31 (by decide) c11 h (fun h => ?_) (fun h => ?_)
      · refine j_aload_n O 0 0 dX5_filed_36 rfl rfl ?_
        refine j_iload_n O 1 1 dX5_filed_37 rfl rfl ?_
        refine j_iload_n O 2 2 dX5_filed_38 rfl rfl ?_
        refine j_iload_n O 3 3 dX5_filed_39 rfl rfl ?_
        obtain ⟨e14, h⟩ := h
        refine fin_I O ⟨Nat.zero_le _, Nat.zero_le _⟩ (run_V (As := [vI (p1), vI (p2), vI (p3)]) (st := []) O (mt_X5_layClash (xl x) (xG x) _ _ _ _ _ _ h) e14 cfX5.1 q2170 q2172 qs109 q131 q2173 hy_X5_layClash (Nat.le_of_ble_eq_true rfl) (Nat.le_of_ble_eq_true rfl) ⟨Nat.zero_le _, Nat.zero_le _⟩ rfl (Nat.le_of_ble_eq_true rfl) dX5_filed_40) (fun r12 w13 h => ?_)
        refine j_pop O dX5_filed_43 rfl ?_
        refine j_ldcw (m := 100000000) O dX5_filed_44 q2115 ld_100000000 ?_
        refine j_istore (L' := [(5, vI (100000000)), (0, .ref (adG (xG x) (this))), (1, vI (p1)), (2, vI (p2)), (3, vI (p3)), (4, vI (p4))]) O dX5_filed_47 (by rw [hm]; decide) rfl ?_
        refine j_iconst O dX5_filed_49 ?_
        refine j_istore (L' := [(6, vI (0)), (5, vI (100000000)), (0, .ref (adG (xG x) (this))), (1, vI (p1)), (2, vI (p2)), (3, vI (p3)), (4, vI (p4))]) O dX5_filed_50 (by rw [hm]; decide) rfl ?_
        refine j_iconst O dX5_filed_52 ?_
        refine j_istore (L' := [(7, vI (0)), (6, vI (0)), (5, vI (100000000)), (0, .ref (adG (xG x) (this))), (1, vI (p1)), (2, vI (p2)), (3, vI (p3)), (4, vI (p4))]) O dX5_filed_53 (by rw [hm]; decide) rfl ?_
        refine j_iconst O dX5_filed_55 ?_
        refine j_istore (L' := [(8, vI (0)), (7, vI (0)), (6, vI (0)), (5, vI (100000000)), (0, .ref (adG (xG x) (this))), (1, vI (p1)), (2, vI (p2)), (3, vI (p3)), (4, vI (p4))]) O dX5_filed_56 (by rw [hm]; decide) rfl ?_
        refine (J.sub [4, 8, 3, 2, 1, 0] rfl <| wk_X5_filed_58 O hr hm _ _ _ (fun z15 z16 z17 w18 h => ?_) FU _ _ _ _ _ h)
        refine j_iload O 0 dX5_filed_191 rfl ?_
        obtain ⟨c19, h⟩ := h
        refine j_if_ne O (tgt := 201) dX5_filed_193 (by decide) c19 h (fun h => ?_) (fun h => ?_)
        · refine j_iload O 0 dX5_filed_201 rfl ?_
          refine j_iconst O dX5_filed_203 ?_
          obtain ⟨c20, h⟩ := h
          refine j_icmp_ne O (tgt := 212) dX5_filed_204 (by decide) c20 (by decide) h (fun h => ?_) (fun h => ?_)
          · refine j_iload O 3 dX5_filed_212 rfl ?_
            exact j_iret O hr dX5_filed_214 h
          · refine j_iload O 2 dX5_filed_207 rfl ?_
            refine j_goto O (tgt := 214) dX5_filed_209 (by decide) ?_
            exact j_iret O hr dX5_filed_214 h
        · refine j_iload O 1 dX5_filed_196 rfl ?_
          refine j_goto O (tgt := 214) dX5_filed_198 (by decide) ?_
          exact j_iret O hr dX5_filed_214 h
      · refine j_iconst O dX5_filed_34 ?_
        exact j_iret O hr dX5_filed_35 h
theorem hy_X5_best : (yX5_best.cls = "DowryBoxesModel" ∧ yX5_best.cls ≠ "java/lang/invoke/MethodHandle" ∧ yX5_best.cls ≠ "java/lang/invoke/VarHandle" ∧ (parseMethodDescriptor yX5_best.desc).map (fun d => d.parameters.length) = some 3) := by decide +kernel
theorem wk_X5_best_84 {x : Cx} (O : OK x "DowryBoxesModel" cX5_best 4) (hr : (xM x).sig.returnType = some .int) (hm : xn x = 8) {Q : Int → Wd → Prop} (K37 : Int → Int → Int → Wd → Prop) (X37 : Int → Int → Wd → Prop) (this : Nat) (x1 : Int) (x2 : Int) (x3 : Int) (x5 : Int) (x6 : Int) (s0 : Int) (hK37 : ∀ (y4 : Int) (y5 : Int) (y6 : Int) (w : Wd), K37 y4 y5 y6 w → J x (TI x Q) w 0 0 37 [(0, .ref (adG (xG x) (this))), (1, vI (x1)), (2, vI (x2)), (3, vI (x3)), (4, vI (y4)), (5, vI (y5)), (6, vI (y6))] []) (hX37 : ∀ (y4 : Int) (y5 : Int) (w : Wd), X37 y4 y5 w → J x (TI x Q) w 0 0 92 [(3, vI (x3)), (4, vI (y4)), (5, vI (y5))] []) (w : Wd) (h : wp_X5_best_84 Q K37 X37 this x1 x2 x3 x5 x6 s0 w) : J x (TI x Q) w 0 0 84 [(0, .ref (adG (xG x) (this))), (1, vI (x1)), (2, vI (x2)), (3, vI (x3)), (5, vI (x5)), (6, vI (x6))] [vI (s0)] := by
  unfold wp_X5_best_84 at h
  refine j_istore (L' := [(4, vI (s0)), (0, .ref (adG (xG x) (this))), (1, vI (x1)), (2, vI (x2)), (3, vI (x3)), (5, vI (x5)), (6, vI (x6))]) O dX5_best_84 (by rw [hm]; decide) rfl ?_
  refine j_iinc (L' := [(6, vI (x6 + 1)), (4, vI (s0)), (0, .ref (adG (xG x) (this))), (1, vI (x1)), (2, vI (x2)), (3, vI (x3)), (5, vI (x5))]) O 6 dX5_best_86 rfl (by rw [hm]; decide) rfl ?_
  refine j_goto O (tgt := 37) dX5_best_89 (by decide) ?_
  exact (J.sub [2, 3, 4, 5, 1, 6, 0] rfl <| hK37 _ _ _ _ h)
theorem wk_X5_best_68 {x : Cx} (O : OK x "DowryBoxesModel" cX5_best 4) (hr : (xM x).sig.returnType = some .int) (hm : xn x = 8) {Q : Int → Wd → Prop} (K37 : Int → Int → Int → Wd → Prop) (X37 : Int → Int → Wd → Prop) (this : Nat) (x1 : Int) (x2 : Int) (x3 : Int) (x4 : Int) (x6 : Int) (x7 : Int) (s0 : Int) (hK37 : ∀ (y4 : Int) (y5 : Int) (y6 : Int) (w : Wd), K37 y4 y5 y6 w → J x (TI x Q) w 0 0 37 [(0, .ref (adG (xG x) (this))), (1, vI (x1)), (2, vI (x2)), (3, vI (x3)), (4, vI (y4)), (5, vI (y5)), (6, vI (y6))] []) (hX37 : ∀ (y4 : Int) (y5 : Int) (w : Wd), X37 y4 y5 w → J x (TI x Q) w 0 0 92 [(3, vI (x3)), (4, vI (y4)), (5, vI (y5))] []) (w : Wd) (h : wp_X5_best_68 Q K37 X37 this x1 x2 x3 x4 x6 x7 s0 w) : J x (TI x Q) w 0 0 68 [(0, .ref (adG (xG x) (this))), (1, vI (x1)), (2, vI (x2)), (3, vI (x3)), (4, vI (x4)), (6, vI (x6)), (7, vI (x7))] [vI (s0)] := by
  unfold wp_X5_best_68 at h
  refine j_istore (L' := [(5, vI (s0)), (0, .ref (adG (xG x) (this))), (1, vI (x1)), (2, vI (x2)), (3, vI (x3)), (4, vI (x4)), (6, vI (x6)), (7, vI (x7))]) O dX5_best_68 (by rw [hm]; decide) rfl ?_
  refine j_iload O 7 dX5_best_70 rfl ?_
  refine j_iload O 5 dX5_best_72 rfl ?_
  obtain ⟨c1, h⟩ := h
  obtain ⟨c2, h⟩ := h
  refine j_icmp_ge O (tgt := 82) dX5_best_74 (by decide) c1 c2 h (fun h => ?_) (fun h => ?_)
  · refine j_iload O 5 dX5_best_82 rfl ?_
    exact (J.sub [1, 2, 3, 4, 0, 6] rfl <| wk_X5_best_84 O hr hm _ _ _ _ _ _ _ _ _ hK37 hX37 _ h)
  · refine j_iload O 7 dX5_best_77 rfl ?_
    refine j_goto O (tgt := 84) dX5_best_79 (by decide) ?_
    exact (J.sub [1, 2, 3, 4, 0, 6] rfl <| wk_X5_best_84 O hr hm _ _ _ _ _ _ _ _ _ hK37 hX37 _ h)
theorem wk_X5_best_37 {x : Cx} (O : OK x "DowryBoxesModel" cX5_best 4) (hr : (xM x).sig.returnType = some .int) (hm : xn x = 8) {Q : Int → Wd → Prop} (X37 : Int → Int → Wd → Prop) (this : Nat) (x1 : Int) (x2 : Int) (x3 : Int) (hX37 : ∀ (y4 : Int) (y5 : Int) (w : Wd), X37 y4 y5 w → J x (TI x Q) w 0 0 92 [(3, vI (x3)), (4, vI (y4)), (5, vI (y5))] []) : ∀ (n : Nat) (x4 : Int) (x5 : Int) (x6 : Int) (w : Wd), wp_X5_best_37 Q X37 this x1 x2 x3 n x4 x5 x6 w → J x (TI x Q) w 0 0 37 [(0, .ref (adG (xG x) (this))), (1, vI (x1)), (2, vI (x2)), (3, vI (x3)), (4, vI (x4)), (5, vI (x5)), (6, vI (x6))] [] := by
  intro n
  induction n with
  | zero => intro x4 x5 x6 w h; exact False.elim h
  | succ n ih =>
    intro x4 x5 x6 w h
    rw [wp_X5_best_37] at h
    refine j_iload O 6 dX5_best_37 rfl ?_
    refine j_bipush (m := 8) O dX5_best_39 bi_8 ?_
    obtain ⟨c1, h⟩ := h
    refine j_icmp_ge O (tgt := 92) dX5_best_41 (by decide) c1 (by decide) h (fun h => ?_) (fun h => ?_)
    · exact (J.sub [3, 4, 5] rfl <| hX37 _ _ _ h)
    · refine j_aload_n O 0 0 dX5_best_44 rfl rfl ?_
      refine j_iload_n O 1 1 dX5_best_45 rfl rfl ?_
      refine j_iload_n O 2 2 dX5_best_46 rfl rfl ?_
      refine j_iload O 6 dX5_best_47 rfl ?_
      obtain ⟨e4, h⟩ := h
      refine fin_I O ⟨Nat.zero_le _, Nat.zero_le _⟩ (run_V (As := [vI (x1), vI (x2), vI (x6)]) (st := []) O (mt_X5_layClash (xl x) (xG x) _ _ _ _ _ _ h) e4 cfX5.1 q2170 q2172 qs109 q131 q2173 hy_X5_layClash (Nat.le_of_ble_eq_true rfl) (Nat.le_of_ble_eq_true rfl) ⟨Nat.zero_le _, Nat.zero_le _⟩ rfl (Nat.le_of_ble_eq_true rfl) dX5_best_49) (fun r2 w3 h => ?_)
      refine j_istore (L' := [(7, vI (r2)), (0, .ref (adG (xG x) (this))), (1, vI (x1)), (2, vI (x2)), (3, vI (x3)), (4, vI (x4)), (5, vI (x5)), (6, vI (x6))]) O dX5_best_52 (by rw [hm]; decide) rfl ?_
      refine j_iload O 0 dX5_best_54 rfl ?_
      refine j_iload O 5 dX5_best_56 rfl ?_
      obtain ⟨c5, h⟩ := h
      obtain ⟨c6, h⟩ := h
      refine j_icmp_ge O (tgt := 66) dX5_best_58 (by decide) c5 c6 h (fun h => ?_) (fun h => ?_)
      · refine j_iload O 6 dX5_best_66 rfl ?_
        exact (J.sub [1, 2, 3, 4, 5, 7, 0] rfl <| wk_X5_best_68 O hr hm _ _ _ _ _ _ _ _ _ _ ih hX37 _ h)
      · refine j_iload O 7 dX5_best_61 rfl ?_
        refine j_goto O (tgt := 68) dX5_best_63 (by decide) ?_
        exact (J.sub [1, 2, 3, 4, 5, 7, 0] rfl <| wk_X5_best_68 O hr hm _ _ _ _ _ _ _ _ _ _ ih hX37 _ h)
theorem mt_X5_best (l : Launch) (G : GW) (this : Nat) (p1 : Int) (p2 : Int) (p3 : Int) (w : Wd) (Q : Int → Wd → Prop) (h : wp_X5_best this p1 p2 p3 w Q) : MI l G yX5_best cX5_best 8 (.int) 4 0 0 [.ref (adG G (this)), vI (p1), vI (p2), vI (p3)] w Q := by
  refine met_I (fun G => [.ref (adG G (this)), vI (p1), vI (p2), vI (p3)]) (by decide) (fun G => Nat.le_of_ble_eq_true rfl) (fun x O hl hm hr => ?_)
  subst hl
  have O : OK x "DowryBoxesModel" cX5_best 4 := O
  have h : wp_X5_best this p1 p2 p3 w Q := h
  unfold wp_X5_best at h
  show J x (TI x Q) w 0 0 0 [(0, .ref (adG (xG x) (this))), (1, vI (p1)), (2, vI (p2)), (3, vI (p3))] []
  refine j_aload_n O 0 0 dX5_best_0 rfl rfl ?_
  refine j_iconst O dX5_best_1 ?_
  refine j_putI O cfX5 0 (Nat.le_of_ble_eq_true rfl) rfl q1568 rfl dX5_best_2 h (fun w1 h => ?_)
  refine j_aload_n O 0 0 dX5_best_5 rfl rfl ?_
  refine j_iload_n O 1 1 dX5_best_6 rfl rfl ?_
  refine j_iload_n O 2 2 dX5_best_7 rfl rfl ?_
  obtain ⟨e4, h⟩ := h
  refine fin_I O ⟨Nat.zero_le _, Nat.zero_le _⟩ (run_V (As := [vI (p1), vI (p2)]) (st := []) O (mt_X5_areTwo (xl x) (xG x) _ _ _ _ _ h) e4 cfX5.1 q2166 q2168 qs108 q131 q2169 hy_X5_areTwo (Nat.le_of_ble_eq_true rfl) (Nat.le_of_ble_eq_true rfl) ⟨Nat.zero_le _, Nat.zero_le _⟩ rfl (Nat.le_of_ble_eq_true rfl) dX5_best_8) (fun r2 w3 h => ?_)
  obtain ⟨c5, h⟩ := h
  refine j_if_eq O (tgt := 24) dX5_best_11 (by decide) c5 h (fun h => ?_) (fun h => ?_)
  · refine j_iconst O dX5_best_24 ?_
    exact j_iret O hr dX5_best_25 h
  · refine j_iload_n O 3 3 dX5_best_14 rfl rfl ?_
    refine j_i2l O dX5_best_15 h (fun h => ?_)
    refine j_lconst (m := 0) O dX5_best_16 lc_0 ?_
    refine j_lconst (m := 1) O dX5_best_17 lc_1 ?_
    refine fin_I O ⟨Nat.zero_le _, Nat.zero_le _⟩ (run_S (As := [vL (p3), vL (0), vL (1)]) (st := []) O (mt_X5_in (xl x) (xG x) _ _ _ _ _ h) q1772 q1773 q131 q1774 hy_X5_in.2 (Nat.le_of_ble_eq_true rfl) (Nat.le_of_ble_eq_true rfl) ⟨Nat.zero_le _, Nat.zero_le _⟩ rfl (Nat.le_of_ble_eq_true rfl) dX5_best_18) (fun r6 w7 h => ?_)
    obtain ⟨c8, h⟩ := h
    refine j_if_ne O (tgt := 26) dX5_best_21 (by decide) c8 h (fun h => ?_) (fun h => ?_)
    · refine j_ldcw (m := 100000000) O dX5_best_26 q2115 ld_100000000 ?_
      refine j_istore (L' := [(4, vI (100000000)), (0, .ref (adG (xG x) (this))), (1, vI (p1)), (2, vI (p2)), (3, vI (p3))]) O dX5_best_29 (by rw [hm]; decide) rfl ?_
      refine j_iconst O dX5_best_31 ?_
      refine j_istore (L' := [(5, vI ((-1))), (4, vI (100000000)), (0, .ref (adG (xG x) (this))), (1, vI (p1)), (2, vI (p2)), (3, vI (p3))]) O dX5_best_32 (by rw [hm]; decide) rfl ?_
      refine j_iconst O dX5_best_34 ?_
      refine j_istore (L' := [(6, vI (0)), (5, vI ((-1))), (4, vI (100000000)), (0, .ref (adG (xG x) (this))), (1, vI (p1)), (2, vI (p2)), (3, vI (p3))]) O dX5_best_35 (by rw [hm]; decide) rfl ?_
      refine (J.sub [3, 4, 5, 6, 2, 1, 0] rfl <| wk_X5_best_37 O hr hm _ _ _ _ _ (fun z9 z10 w11 h => ?_) FU _ _ _ _ h)
      refine j_iload_n O 0 3 dX5_best_92 rfl rfl ?_
      obtain ⟨c12, h⟩ := h
      refine j_if_ne O (tgt := 101) dX5_best_93 (by decide) c12 h (fun h => ?_) (fun h => ?_)
      · refine j_iload O 1 dX5_best_101 rfl ?_
        exact j_iret O hr dX5_best_103 h
      · refine j_iload O 2 dX5_best_96 rfl ?_
        refine j_goto O (tgt := 103) dX5_best_98 (by decide) ?_
        exact j_iret O hr dX5_best_103 h
    · refine j_iconst O dX5_best_24 ?_
      exact j_iret O hr dX5_best_25 h
theorem hy_X5_clash : (yX5_clash.cls = "DowryBoxesModel" ∧ yX5_clash.cls ≠ "java/lang/invoke/MethodHandle" ∧ yX5_clash.cls ≠ "java/lang/invoke/VarHandle" ∧ (parseMethodDescriptor yX5_clash.desc).map (fun d => d.parameters.length) = some 3) := by decide +kernel
theorem mt_X5_clash (l : Launch) (G : GW) (this : Nat) (p1 : Int) (p2 : Int) (p3 : Int) (w : Wd) (Q : Int → Wd → Prop) (h : wp_X5_clash this p1 p2 p3 w Q) : MI l G yX5_clash cX5_clash 4 (.int) 4 0 0 [.ref (adG G (this)), vI (p1), vI (p2), vI (p3)] w Q := by
  refine met_I (fun G => [.ref (adG G (this)), vI (p1), vI (p2), vI (p3)]) (by decide) (fun G => Nat.le_of_ble_eq_true rfl) (fun x O hl hm hr => ?_)
  subst hl
  have O : OK x "DowryBoxesModel" cX5_clash 4 := O
  have h : wp_X5_clash this p1 p2 p3 w Q := h
  unfold wp_X5_clash at h
  show J x (TI x Q) w 0 0 0 [(0, .ref (adG (xG x) (this))), (1, vI (p1)), (2, vI (p2)), (3, vI (p3))] []
  refine j_aload_n O 0 0 dX5_clash_0 rfl rfl ?_
  refine j_iconst O dX5_clash_1 ?_
  refine j_putI O cfX5 0 (Nat.le_of_ble_eq_true rfl) rfl q1568 rfl dX5_clash_2 h (fun w1 h => ?_)
  refine j_aload_n O 0 0 dX5_clash_5 rfl rfl ?_
  refine j_iload_n O 1 1 dX5_clash_6 rfl rfl ?_
  refine j_iload_n O 2 2 dX5_clash_7 rfl rfl ?_
  obtain ⟨e4, h⟩ := h
  refine fin_I O ⟨Nat.zero_le _, Nat.zero_le _⟩ (run_V (As := [vI (p1), vI (p2)]) (st := []) O (mt_X5_areTwo (xl x) (xG x) _ _ _ _ _ h) e4 cfX5.1 q2166 q2168 qs108 q131 q2169 hy_X5_areTwo (Nat.le_of_ble_eq_true rfl) (Nat.le_of_ble_eq_true rfl) ⟨Nat.zero_le _, Nat.zero_le _⟩ rfl (Nat.le_of_ble_eq_true rfl) dX5_clash_8) (fun r2 w3 h => ?_)
  obtain ⟨c5, h⟩ := h
  refine j_if_eq O (tgt := 31) dX5_clash_11 (by decide) c5 h (fun h => ?_) (fun h => ?_)
  · refine j_iconst O dX5_clash_31 ?_
    exact j_iret O hr dX5_clash_32 h
  · refine j_iload_n O 3 3 dX5_clash_14 rfl rfl ?_
    refine fin_I O ⟨Nat.zero_le _, Nat.zero_le _⟩ (run_S (As := [vI (p3)]) (st := []) O (mt_X5_isBar (xl x) (xG x) _ _ _ h) q1846 q1847 q131 q1848 hy_X5_isBar.2 (Nat.le_of_ble_eq_true rfl) (Nat.le_of_ble_eq_true rfl) ⟨Nat.zero_le _, Nat.zero_le _⟩ rfl (Nat.le_of_ble_eq_true rfl) dX5_clash_15) (fun r6 w7 h => ?_)
    obtain ⟨c8, h⟩ := h
    refine j_if_eq O (tgt := 31) dX5_clash_18 (by decide) c8 h (fun h => ?_) (fun h => ?_)
    · refine j_iconst O dX5_clash_31 ?_
      exact j_iret O hr dX5_clash_32 h
    · refine j_aload_n O 0 0 dX5_clash_21 rfl rfl ?_
      refine j_iload_n O 1 1 dX5_clash_22 rfl rfl ?_
      refine j_iload_n O 2 2 dX5_clash_23 rfl rfl ?_
      refine j_iload_n O 3 3 dX5_clash_24 rfl rfl ?_
      obtain ⟨e11, h⟩ := h
      refine fin_I O ⟨Nat.zero_le _, Nat.zero_le _⟩ (run_V (As := [vI (p1), vI (p2), vI (p3)]) (st := []) O (mt_X5_layClash (xl x) (xG x) _ _ _ _ _ _ h) e11 cfX5.1 q2170 q2172 qs109 q131 q2173 hy_X5_layClash (Nat.le_of_ble_eq_true rfl) (Nat.le_of_ble_eq_true rfl) ⟨Nat.zero_le _, Nat.zero_le _⟩ rfl (Nat.le_of_ble_eq_true rfl) dX5_clash_25) (fun r9 w10 h => ?_)
      refine j_goto O (tgt := 32) dX5_clash_28 (by decide) ?_
      exact j_iret O hr dX5_clash_32 h
theorem hy_X5_leastNext : (yX5_leastNext.cls = "DowryBoxesModel" ∧ yX5_leastNext.cls ≠ "java/lang/invoke/MethodHandle" ∧ yX5_leastNext.cls ≠ "java/lang/invoke/VarHandle" ∧ (parseMethodDescriptor yX5_leastNext.desc).map (fun d => d.parameters.length) = some 3) := by decide +kernel
theorem wk_X5_leastNext_64 {x : Cx} (O : OK x "DowryBoxesModel" cX5_leastNext 2) (hr : (xM x).sig.returnType = some .int) (hm : xn x = 6) {Q : Int → Wd → Prop} (K8 : Int → Int → Wd → Prop) (this : Nat) (x1 : Int) (x2 : Int) (x3 : Int) (x4 : Int) (x5 : Int) (hK8 : ∀ (y4 : Int) (y5 : Int) (w : Wd), K8 y4 y5 w → J x (TI x Q) w 0 0 8 [(0, .ref (adG (xG x) (this))), (1, vI (x1)), (2, vI (x2)), (3, vI (x3)), (4, vI (y4)), (5, vI (y5))] []) (w : Wd) (h : wp_X5_leastNext_64 Q K8 this x1 x2 x3 x4 x5 w) : J x (TI x Q) w 0 0 64 [(0, .ref (adG (xG x) (this))), (1, vI (x1)), (2, vI (x2)), (3, vI (x3)), (4, vI (x4)), (5, vI (x5))] [] := by
  unfold wp_X5_leastNext_64 at h
  refine j_iinc (L' := [(5, vI (x5 + 1)), (0, .ref (adG (xG x) (this))), (1, vI (x1)), (2, vI (x2)), (3, vI (x3)), (4, vI (x4))]) O 5 dX5_leastNext_64 rfl (by rw [hm]; decide) rfl ?_
  refine j_goto O (tgt := 8) dX5_leastNext_67 (by decide) ?_
  exact (J.sub [1, 2, 3, 4, 5, 0] rfl <| hK8 _ _ _ h)
theorem wk_X5_leastNext_8 {x : Cx} (O : OK x "DowryBoxesModel" cX5_leastNext 2) (hr : (xM x).sig.returnType = some .int) (hm : xn x = 6) {Q : Int → Wd → Prop} (this : Nat) (x1 : Int) (x2 : Int) (x3 : Int) : ∀ (n : Nat) (x4 : Int) (x5 : Int) (w : Wd), wp_X5_leastNext_8 Q this x1 x2 x3 n x4 x5 w → J x (TI x Q) w 0 0 8 [(0, .ref (adG (xG x) (this))), (1, vI (x1)), (2, vI (x2)), (3, vI (x3)), (4, vI (x4)), (5, vI (x5))] [] := by
  intro n
  induction n with
  | zero => intro x4 x5 w h; exact False.elim h
  | succ n ih =>
    intro x4 x5 w h
    rw [wp_X5_leastNext_8] at h
    refine j_iload O 5 dX5_leastNext_8 rfl ?_
    refine j_sipush (m := 256) O dX5_leastNext_10 si_256 ?_
    obtain ⟨c1, h⟩ := h
    refine j_icmp_ge O (tgt := 70) dX5_leastNext_13 (by decide) c1 (by decide) h (fun h => ?_) (fun h => ?_)
    · refine j_iload O 4 dX5_leastNext_70 rfl ?_
      exact j_iret O hr dX5_leastNext_72 h
    · refine j_iload_n O 2 2 dX5_leastNext_16 rfl rfl ?_
      refine j_iload O 5 dX5_leastNext_17 rfl ?_
      refine j_ixor O dX5_leastNext_19 ?_
      refine fin_I O ⟨Nat.zero_le _, Nat.zero_le _⟩ (run_S (As := [vI ((ixo x2 x5))]) (st := []) O (mt_X5_ones (xl x) (xG x) _ _ _ h) q1805 q1806 q131 q1807 hy_X5_ones.2 (Nat.le_of_ble_eq_true rfl) (Nat.le_of_ble_eq_true rfl) ⟨Nat.zero_le _, Nat.zero_le _⟩ rfl (Nat.le_of_ble_eq_true rfl) dX5_leastNext_20) (fun r2 w3 h => ?_)
      refine j_iload_n O 3 3 dX5_leastNext_23 rfl rfl ?_
      obtain ⟨c4, h⟩ := h
      obtain ⟨c5, h⟩ := h
      refine j_icmp_gt O (tgt := 64) dX5_leastNext_24 (by decide) c4 c5 h (fun h => ?_) (fun h => ?_)
      · exact (J.sub [0, 1, 2, 3, 4, 5] rfl <| wk_X5_leastNext_64 O hr hm _ _ _ _ _ _ _ ih _ h)
      · refine j_aload_n O 0 0 dX5_leastNext_27 rfl rfl ?_
        refine j_getA O cfX5 47 (Nat.le_of_ble_eq_true rfl) ⟨_, rfl⟩ q1615 dX5_leastNext_28 h (fun k6 h => ?_)
        refine j_sipush (m := 256) O dX5_leastNext_31 si_256 ?_
        refine j_iload_n O 1 1 dX5_leastNext_34 rfl rfl ?_
        refine j_iconst O dX5_leastNext_35 ?_
        refine j_iadd O dX5_leastNext_36 ?_
        refine j_imul O dX5_leastNext_37 ?_
        refine j_iload O 5 dX5_leastNext_38 rfl ?_
        refine j_iadd O dX5_leastNext_40 ?_
        refine j_iald O dX5_leastNext_41 h (fun v7 h => ?_)
        refine j_iload O 4 dX5_leastNext_42 rfl ?_
        obtain ⟨c8, h⟩ := h
        obtain ⟨c9, h⟩ := h
        refine j_icmp_ge O (tgt := 64) dX5_leastNext_44 (by decide) c8 c9 h (fun h => ?_) (fun h => ?_)
        · exact (J.sub [0, 1, 2, 3, 4, 5] rfl <| wk_X5_leastNext_64 O hr hm _ _ _ _ _ _ _ ih _ h)
        · refine j_aload_n O 0 0 dX5_leastNext_47 rfl rfl ?_
          refine j_getA O cfX5 47 (Nat.le_of_ble_eq_true rfl) ⟨_, rfl⟩ q1615 dX5_leastNext_48 h (fun k10 h => ?_)
          refine j_sipush (m := 256) O dX5_leastNext_51 si_256 ?_
          refine j_iload_n O 1 1 dX5_leastNext_54 rfl rfl ?_
          refine j_iconst O dX5_leastNext_55 ?_
          refine j_iadd O dX5_leastNext_56 ?_
          refine j_imul O dX5_leastNext_57 ?_
          refine j_iload O 5 dX5_leastNext_58 rfl ?_
          refine j_iadd O dX5_leastNext_60 ?_
          refine j_iald O dX5_leastNext_61 h (fun v11 h => ?_)
          refine j_istore (L' := [(4, vI (v11)), (0, .ref (adG (xG x) (this))), (1, vI (x1)), (2, vI (x2)), (3, vI (x3)), (5, vI (x5))]) O dX5_leastNext_62 (by rw [hm]; decide) rfl ?_
          exact (J.sub [1, 2, 3, 4, 0, 5] rfl <| wk_X5_leastNext_64 O hr hm _ _ _ _ _ _ _ ih _ h)
theorem mt_X5_leastNext (l : Launch) (G : GW) (this : Nat) (p1 : Int) (p2 : Int) (p3 : Int) (w : Wd) (Q : Int → Wd → Prop) (h : wp_X5_leastNext this p1 p2 p3 w Q) : MI l G yX5_leastNext cX5_leastNext 6 (.int) 2 0 0 [.ref (adG G (this)), vI (p1), vI (p2), vI (p3)] w Q := by
  refine met_I (fun G => [.ref (adG G (this)), vI (p1), vI (p2), vI (p3)]) (by decide) (fun G => Nat.le_of_ble_eq_true rfl) (fun x O hl hm hr => ?_)
  subst hl
  have O : OK x "DowryBoxesModel" cX5_leastNext 2 := O
  have h : wp_X5_leastNext this p1 p2 p3 w Q := h
  unfold wp_X5_leastNext at h
  show J x (TI x Q) w 0 0 0 [(0, .ref (adG (xG x) (this))), (1, vI (p1)), (2, vI (p2)), (3, vI (p3))] []
  refine j_ldcw (m := 100000000) O dX5_leastNext_0 q2115 ld_100000000 ?_
  refine j_istore (L' := [(4, vI (100000000)), (0, .ref (adG (xG x) (this))), (1, vI (p1)), (2, vI (p2)), (3, vI (p3))]) O dX5_leastNext_3 (by rw [hm]; decide) rfl ?_
  refine j_iconst O dX5_leastNext_5 ?_
  refine j_istore (L' := [(5, vI (0)), (4, vI (100000000)), (0, .ref (adG (xG x) (this))), (1, vI (p1)), (2, vI (p2)), (3, vI (p3))]) O dX5_leastNext_6 (by rw [hm]; decide) rfl ?_
  exact (J.sub [2, 3, 4, 5, 1, 0] rfl <| wk_X5_leastNext_8 O hr hm  _ _ _ _  FU _ _ _ h)
theorem hy_X5_layMore : (yX5_layMore.cls = "DowryBoxesModel" ∧ yX5_layMore.cls ≠ "java/lang/invoke/MethodHandle" ∧ yX5_layMore.cls ≠ "java/lang/invoke/VarHandle" ∧ (parseMethodDescriptor yX5_layMore.desc).map (fun d => d.parameters.length) = some 2) := by decide +kernel
theorem wk_X5_layMore_103 {x : Cx} (O : OK x "DowryBoxesModel" cX5_layMore 3) (hr : (xM x).sig.returnType = none) (hm : xn x = 6) {Q : Wd → Prop} (K3 : Int → Wd → Prop) (K26 : Int → Wd → Prop) (X26 : Wd → Prop) (this : Nat) (x1 : Int) (x2 : Int) (x3 : Int) (x4 : Int) (x5 : Int) (hK3 : ∀ (y3 : Int) (w : Wd), K3 y3 w → J x (TV x Q) w 0 0 3 [(0, .ref (adG (xG x) (this))), (1, vI (x1)), (2, vI (x2)), (3, vI (y3))] []) (hK26 : ∀ (y5 : Int) (w : Wd), K26 y5 w → J x (TV x Q) w 0 0 26 [(0, .ref (adG (xG x) (this))), (1, vI (x1)), (2, vI (x2)), (3, vI (x3)), (4, vI (x4)), (5, vI (y5))] []) (hX26 : ∀  (w : Wd), X26  w → J x (TV x Q) w 0 0 109 [(0, .ref (adG (xG x) (this))), (1, vI (x1)), (2, vI (x2)), (3, vI (x3))] []) (w : Wd) (h : wp_X5_layMore_103 Q K3 K26 X26 this x1 x2 x3 x4 x5 w) : J x (TV x Q) w 0 0 103 [(0, .ref (adG (xG x) (this))), (1, vI (x1)), (2, vI (x2)), (3, vI (x3)), (4, vI (x4)), (5, vI (x5))] [] := by
  unfold wp_X5_layMore_103 at h
  refine j_iinc (L' := [(5, vI (x5 + 1)), (0, .ref (adG (xG x) (this))), (1, vI (x1)), (2, vI (x2)), (3, vI (x3)), (4, vI (x4))]) O 5 dX5_layMore_103 rfl (by rw [hm]; decide) rfl ?_
  refine j_goto O (tgt := 26) dX5_layMore_106 (by decide) ?_
  exact (J.sub [1, 2, 3, 4, 5, 0] rfl <| hK26 _ _ h)
theorem wk_X5_layMore_101 {x : Cx} (O : OK x "DowryBoxesModel" cX5_layMore 3) (hr : (xM x).sig.returnType = none) (hm : xn x = 6) {Q : Wd → Prop} (K3 : Int → Wd → Prop) (K26 : Int → Wd → Prop) (X26 : Wd → Prop) (this : Nat) (x1 : Int) (x2 : Int) (x3 : Int) (x4 : Int) (x5 : Int) (s0 : Int) (s1 : Int) (s2 : Int) (s3 : Nat) (hK3 : ∀ (y3 : Int) (w : Wd), K3 y3 w → J x (TV x Q) w 0 0 3 [(0, .ref (adG (xG x) (this))), (1, vI (x1)), (2, vI (x2)), (3, vI (y3))] []) (hK26 : ∀ (y5 : Int) (w : Wd), K26 y5 w → J x (TV x Q) w 0 0 26 [(0, .ref (adG (xG x) (this))), (1, vI (x1)), (2, vI (x2)), (3, vI (x3)), (4, vI (x4)), (5, vI (y5))] []) (hX26 : ∀  (w : Wd), X26  w → J x (TV x Q) w 0 0 109 [(0, .ref (adG (xG x) (this))), (1, vI (x1)), (2, vI (x2)), (3, vI (x3))] []) (w : Wd) (h : wp_X5_layMore_101 Q K3 K26 X26 this x1 x2 x3 x4 x5 s0 s1 s2 s3 w) : J x (TV x Q) w 0 0 101 [(0, .ref (adG (xG x) (this))), (1, vI (x1)), (2, vI (x2)), (3, vI (x3)), (4, vI (x4)), (5, vI (x5))] [vI (s0), vI (s1), vI (s2), .ref (adG (xG x) (s3))] := by
  unfold wp_X5_layMore_101 at h
  refine j_iadd O dX5_layMore_101 ?_
  refine j_iast O dX5_layMore_102 h (fun w1 h => ?_)
  exact (J.sub [0, 1, 2, 3, 4, 5] rfl <| wk_X5_layMore_103 O hr hm _ _ _ _ _ _ _ _ _ hK3 hK26 hX26 _ h)
theorem wk_X5_layMore_26 {x : Cx} (O : OK x "DowryBoxesModel" cX5_layMore 3) (hr : (xM x).sig.returnType = none) (hm : xn x = 6) {Q : Wd → Prop} (K3 : Int → Wd → Prop) (X26 : Wd → Prop) (this : Nat) (x1 : Int) (x2 : Int) (x3 : Int) (x4 : Int) (hK3 : ∀ (y3 : Int) (w : Wd), K3 y3 w → J x (TV x Q) w 0 0 3 [(0, .ref (adG (xG x) (this))), (1, vI (x1)), (2, vI (x2)), (3, vI (y3))] []) (hX26 : ∀  (w : Wd), X26  w → J x (TV x Q) w 0 0 109 [(0, .ref (adG (xG x) (this))), (1, vI (x1)), (2, vI (x2)), (3, vI (x3))] []) : ∀ (n : Nat) (x5 : Int) (w : Wd), wp_X5_layMore_26 Q K3 X26 this x1 x2 x3 x4 n x5 w → J x (TV x Q) w 0 0 26 [(0, .ref (adG (xG x) (this))), (1, vI (x1)), (2, vI (x2)), (3, vI (x3)), (4, vI (x4)), (5, vI (x5))] [] := by
  intro n
  induction n with
  | zero => intro x5 w h; exact False.elim h
  | succ n ih =>
    intro x5 w h
    rw [wp_X5_layMore_26] at h
    refine j_iload O 5 dX5_layMore_26 rfl ?_
    refine j_sipush (m := 256) O dX5_layMore_28 si_256 ?_
    obtain ⟨c1, h⟩ := h
    refine j_icmp_ge O (tgt := 109) dX5_layMore_31 (by decide) c1 (by decide) h (fun h => ?_) (fun h => ?_)
    · exact (J.sub [0, 1, 2, 3] rfl <| hX26  _ h)
    · refine j_aload_n O 0 0 dX5_layMore_34 rfl rfl ?_
      refine j_getA O cfX5 47 (Nat.le_of_ble_eq_true rfl) ⟨_, rfl⟩ q1615 dX5_layMore_35 h (fun k2 h => ?_)
      refine j_sipush (m := 256) O dX5_layMore_38 si_256 ?_
      refine j_iload_n O 3 3 dX5_layMore_41 rfl rfl ?_
      refine j_imul O dX5_layMore_42 ?_
      refine j_iload O 5 dX5_layMore_43 rfl ?_
      refine j_iadd O dX5_layMore_45 ?_
      refine j_ldcw (m := 100000000) O dX5_layMore_46 q2115 ld_100000000 ?_
      refine j_iast O dX5_layMore_49 h (fun w3 h => ?_)
      refine j_iload O 5 dX5_layMore_50 rfl ?_
      refine j_iload O 4 dX5_layMore_52 rfl ?_
      refine j_iand O dX5_layMore_54 ?_
      refine j_iload O 4 dX5_layMore_55 rfl ?_
      obtain ⟨c4, h⟩ := h
      obtain ⟨c5, h⟩ := h
      refine j_icmp_ne O (tgt := 103) dX5_layMore_57 (by decide) c4 c5 h (fun h => ?_) (fun h => ?_)
      · exact (J.sub [0, 1, 2, 3, 4, 5] rfl <| wk_X5_layMore_103 O hr hm _ _ _ _ _ _ _ _ _ hK3 ih hX26 _ h)
      · refine j_aload_n O 0 0 dX5_layMore_60 rfl rfl ?_
        refine j_getA O cfX5 47 (Nat.le_of_ble_eq_true rfl) ⟨_, rfl⟩ q1615 dX5_layMore_61 h (fun k6 h => ?_)
        refine j_sipush (m := 256) O dX5_layMore_64 si_256 ?_
        refine j_iload_n O 3 3 dX5_layMore_67 rfl rfl ?_
        refine j_imul O dX5_layMore_68 ?_
        refine j_iload O 5 dX5_layMore_69 rfl ?_
        refine j_iadd O dX5_layMore_71 ?_
        refine j_iload O 5 dX5_layMore_72 rfl ?_
        refine fin_I O ⟨Nat.zero_le _, Nat.zero_le _⟩ (run_S (As := [vI (x5)]) (st := [vI ((256 * x3) + x5), .ref (adG (xG x) (k6))]) O (mt_X5_ones (xl x) (xG x) _ _ _ h) q1805 q1806 q131 q1807 hy_X5_ones.2 (Nat.le_of_ble_eq_true rfl) (Nat.le_of_ble_eq_true rfl) ⟨Nat.zero_le _, Nat.zero_le _⟩ rfl (Nat.le_of_ble_eq_true rfl) dX5_layMore_74) (fun r7 w8 h => ?_)
        refine j_iload O 4 dX5_layMore_77 rfl ?_
        refine fin_I O ⟨Nat.zero_le _, Nat.zero_le _⟩ (run_S (As := [vI (x4)]) (st := [vI (r7), vI ((256 * x3) + x5), .ref (adG (xG x) (k6))]) O (mt_X5_ones (xl x) (xG x) _ _ _ h) q1805 q1806 q131 q1807 hy_X5_ones.2 (Nat.le_of_ble_eq_true rfl) (Nat.le_of_ble_eq_true rfl) ⟨Nat.zero_le _, Nat.zero_le _⟩ rfl (Nat.le_of_ble_eq_true rfl) dX5_layMore_79) (fun r9 w10 h => ?_)
        refine j_isub O dX5_layMore_82 ?_
        refine j_iload_n O 3 3 dX5_layMore_83 rfl rfl ?_
        refine j_bipush (m := 7) O dX5_layMore_84 bi_7 ?_
        obtain ⟨c11, h⟩ := h
        refine j_icmp_ne O (tgt := 93) dX5_layMore_86 (by decide) c11 (by decide) h (fun h => ?_) (fun h => ?_)
        · refine j_aload_n O 0 0 dX5_layMore_93 rfl rfl ?_
          refine j_iload_n O 3 3 dX5_layMore_94 rfl rfl ?_
          refine j_iload O 5 dX5_layMore_95 rfl ?_
          refine j_iload_n O 2 2 dX5_layMore_97 rfl rfl ?_
          obtain ⟨e14, h⟩ := h
          refine fin_I O ⟨Nat.zero_le _, Nat.zero_le _⟩ (run_V (As := [vI (x3), vI (x5), vI (x2)]) (st := [vI (r7 - r9), vI ((256 * x3) + x5), .ref (adG (xG x) (k6))]) O (mt_X5_leastNext (xl x) (xG x) _ _ _ _ _ _ h) e14 cfX5.1 q2158 q2160 qs107 q131 q2161 hy_X5_leastNext (Nat.le_of_ble_eq_true rfl) (Nat.le_of_ble_eq_true rfl) ⟨Nat.zero_le _, Nat.zero_le _⟩ rfl (Nat.le_of_ble_eq_true rfl) dX5_layMore_98) (fun r12 w13 h => ?_)
          exact (J.sub [0, 1, 2, 3, 4, 5] rfl <| wk_X5_layMore_101 O hr hm _ _ _ _ _ _ _ _ _ _ _ _ _ hK3 ih hX26 _ h)
        · refine j_iconst O dX5_layMore_89 ?_
          refine j_goto O (tgt := 101) dX5_layMore_90 (by decide) ?_
          exact (J.sub [0, 1, 2, 3, 4, 5] rfl <| wk_X5_layMore_101 O hr hm _ _ _ _ _ _ _ _ _ _ _ _ _ hK3 ih hX26 _ h)
theorem wk_X5_layMore_3 {x : Cx} (O : OK x "DowryBoxesModel" cX5_layMore 3) (hr : (xM x).sig.returnType = none) (hm : xn x = 6) {Q : Wd → Prop} (this : Nat) (x1 : Int) (x2 : Int) : ∀ (n : Nat) (x3 : Int) (w : Wd), wp_X5_layMore_3 Q this x1 x2 n x3 w → J x (TV x Q) w 0 0 3 [(0, .ref (adG (xG x) (this))), (1, vI (x1)), (2, vI (x2)), (3, vI (x3))] [] := by
  intro n
  induction n with
  | zero => intro x3 w h; exact False.elim h
  | succ n ih =>
    intro x3 w h
    rw [wp_X5_layMore_3] at h
    refine j_iload_n O 3 3 dX5_layMore_3 rfl rfl ?_
    obtain ⟨c1, h⟩ := h
    refine j_if_lt O (tgt := 115) dX5_layMore_4 (by decide) c1 h (fun h => ?_) (fun h => ?_)
    · exact j_vret O hr dX5_layMore_115 h
    · refine j_aload_n O 0 0 dX5_layMore_7 rfl rfl ?_
      refine j_getA O cfX5 3 (Nat.le_of_ble_eq_true rfl) ⟨_, rfl⟩ q1571 dX5_layMore_8 h (fun k2 h => ?_)
      refine j_bipush (m := 8) O dX5_layMore_11 bi_8 ?_
      refine j_bipush (m := 8) O dX5_layMore_13 bi_8 ?_
      refine j_iload_n O 1 1 dX5_layMore_15 rfl rfl ?_
      refine j_imul O dX5_layMore_16 ?_
      refine j_iadd O dX5_layMore_17 ?_
      refine j_iload_n O 3 3 dX5_layMore_18 rfl rfl ?_
      refine j_iadd O dX5_layMore_19 ?_
      refine j_iald O dX5_layMore_20 h (fun v3 h => ?_)
      refine j_istore (L' := [(4, vI (v3)), (0, .ref (adG (xG x) (this))), (1, vI (x1)), (2, vI (x2)), (3, vI (x3))]) O dX5_layMore_21 (by rw [hm]; decide) rfl ?_
      refine j_iconst O dX5_layMore_23 ?_
      refine j_istore (L' := [(5, vI (0)), (4, vI (v3)), (0, .ref (adG (xG x) (this))), (1, vI (x1)), (2, vI (x2)), (3, vI (x3))]) O dX5_layMore_24 (by rw [hm]; decide) rfl ?_
      refine (J.sub [2, 3, 4, 5, 1, 0] rfl <| wk_X5_layMore_26 O hr hm _ _ _ _ _ _ _ ih (fun w4 h => ?_) FU _ _ h)
      refine j_iinc (L' := [(3, vI (x3 + (-1))), (0, .ref (adG (xG x) (this))), (1, vI (x1)), (2, vI (x2))]) O 3 dX5_layMore_109 rfl (by rw [hm]; decide) rfl ?_
      refine j_goto O (tgt := 3) dX5_layMore_112 (by decide) ?_
      exact (J.sub [1, 2, 3, 0] rfl <| ih _ _ h)
theorem mt_X5_layMore (l : Launch) (G : GW) (this : Nat) (p1 : Int) (p2 : Int) (w : Wd) (Q : Wd → Prop) (h : wp_X5_layMore this p1 p2 w Q) : MV l G yX5_layMore cX5_layMore 6 3 0 0 [.ref (adG G (this)), vI (p1), vI (p2)] w Q := by
  refine met_V (fun G => [.ref (adG G (this)), vI (p1), vI (p2)]) (by decide) (fun G => Nat.le_of_ble_eq_true rfl) (fun x O hl hm hr _ => ?_)
  subst hl
  have O : OK x "DowryBoxesModel" cX5_layMore 3 := O
  have h : wp_X5_layMore this p1 p2 w Q := h
  unfold wp_X5_layMore at h
  show J x (TV x Q) w 0 0 0 [(0, .ref (adG (xG x) (this))), (1, vI (p1)), (2, vI (p2))] []
  refine j_bipush (m := 7) O dX5_layMore_0 bi_7 ?_
  refine j_istore_n (L' := [(3, vI (7)), (0, .ref (adG (xG x) (this))), (1, vI (p1)), (2, vI (p2))]) O 3 dX5_layMore_2 rfl (by rw [hm]; decide) rfl ?_
  exact (J.sub [1, 2, 3, 0] rfl <| wk_X5_layMore_3 O hr hm  _ _ _  FU _ _ h)
theorem hy_X5_keep : (yX5_keep.cls = "DowryBoxesModel" ∧ yX5_keep.cls ≠ "java/lang/invoke/MethodHandle" ∧ yX5_keep.cls ≠ "java/lang/invoke/VarHandle" ∧ (parseMethodDescriptor yX5_keep.desc).map (fun d => d.parameters.length) = some 3) := by decide +kernel
theorem wk_X5_keep_85 {x : Cx} (O : OK x "DowryBoxesModel" cX5_keep 4) (hr : (xM x).sig.returnType = some .int) (hm : xn x = 9) {Q : Int → Wd → Prop} (K53 : Int → Int → Wd → Prop) (X53 : Int → Wd → Prop) (this : Nat) (x1 : Int) (x2 : Int) (x3 : Int) (x5 : Int) (s0 : Int) (hK53 : ∀ (y4 : Int) (y5 : Int) (w : Wd), K53 y4 y5 w → J x (TI x Q) w 0 0 53 [(0, .ref (adG (xG x) (this))), (1, vI (x1)), (2, vI (x2)), (3, vI (x3)), (4, vI (y4)), (5, vI (y5))] []) (hX53 : ∀ (y4 : Int) (w : Wd), X53 y4 w → J x (TI x Q) w 0 0 93 [(0, .ref (adG (xG x) (this))), (1, vI (x1)), (2, vI (x2)), (3, vI (x3)), (4, vI (y4))] []) (w : Wd) (h : wp_X5_keep_85 Q K53 X53 this x1 x2 x3 x5 s0 w) : J x (TI x Q) w 0 0 85 [(0, .ref (adG (xG x) (this))), (1, vI (x1)), (2, vI (x2)), (3, vI (x3)), (5, vI (x5))] [vI (s0)] := by
  unfold wp_X5_keep_85 at h
  refine j_istore (L' := [(4, vI (s0)), (0, .ref (adG (xG x) (this))), (1, vI (x1)), (2, vI (x2)), (3, vI (x3)), (5, vI (x5))]) O dX5_keep_85 (by rw [hm]; decide) rfl ?_
  refine j_iinc (L' := [(5, vI (x5 + 1)), (4, vI (s0)), (0, .ref (adG (xG x) (this))), (1, vI (x1)), (2, vI (x2)), (3, vI (x3))]) O 5 dX5_keep_87 rfl (by rw [hm]; decide) rfl ?_
  refine j_goto O (tgt := 53) dX5_keep_90 (by decide) ?_
  exact (J.sub [2, 3, 4, 5, 1, 0] rfl <| hK53 _ _ _ h)
theorem wk_X5_keep_53 {x : Cx} (O : OK x "DowryBoxesModel" cX5_keep 4) (hr : (xM x).sig.returnType = some .int) (hm : xn x = 9) {Q : Int → Wd → Prop} (X53 : Int → Wd → Prop) (this : Nat) (x1 : Int) (x2 : Int) (x3 : Int) (hX53 : ∀ (y4 : Int) (w : Wd), X53 y4 w → J x (TI x Q) w 0 0 93 [(0, .ref (adG (xG x) (this))), (1, vI (x1)), (2, vI (x2)), (3, vI (x3)), (4, vI (y4))] []) : ∀ (n : Nat) (x4 : Int) (x5 : Int) (w : Wd), wp_X5_keep_53 Q X53 this x1 x2 x3 n x4 x5 w → J x (TI x Q) w 0 0 53 [(0, .ref (adG (xG x) (this))), (1, vI (x1)), (2, vI (x2)), (3, vI (x3)), (4, vI (x4)), (5, vI (x5))] [] := by
  intro n
  induction n with
  | zero => intro x4 x5 w h; exact False.elim h
  | succ n ih =>
    intro x4 x5 w h
    rw [wp_X5_keep_53] at h
    refine j_iload O 5 dX5_keep_53 rfl ?_
    refine j_sipush (m := 256) O dX5_keep_55 si_256 ?_
    obtain ⟨c1, h⟩ := h
    refine j_icmp_ge O (tgt := 93) dX5_keep_58 (by decide) c1 (by decide) h (fun h => ?_) (fun h => ?_)
    · exact (J.sub [0, 1, 2, 3, 4] rfl <| hX53 _ _ h)
    · refine j_aload_n O 0 0 dX5_keep_61 rfl rfl ?_
      refine j_getA O cfX5 47 (Nat.le_of_ble_eq_true rfl) ⟨_, rfl⟩ q1615 dX5_keep_62 h (fun k2 h => ?_)
      refine j_iload O 5 dX5_keep_65 rfl ?_
      refine j_iald O dX5_keep_67 h (fun v3 h => ?_)
      refine j_iload O 4 dX5_keep_68 rfl ?_
      obtain ⟨c4, h⟩ := h
      obtain ⟨c5, h⟩ := h
      refine j_icmp_ge O (tgt := 83) dX5_keep_70 (by decide) c4 c5 h (fun h => ?_) (fun h => ?_)
      · refine j_iload O 4 dX5_keep_83 rfl ?_
        exact (J.sub [0, 1, 2, 3, 5] rfl <| wk_X5_keep_85 O hr hm _ _ _ _ _ _ _ _ ih hX53 _ h)
      · refine j_aload_n O 0 0 dX5_keep_73 rfl rfl ?_
        refine j_getA O cfX5 47 (Nat.le_of_ble_eq_true rfl) ⟨_, rfl⟩ q1615 dX5_keep_74 h (fun k6 h => ?_)
        refine j_iload O 5 dX5_keep_77 rfl ?_
        refine j_iald O dX5_keep_79 h (fun v7 h => ?_)
        refine j_goto O (tgt := 85) dX5_keep_80 (by decide) ?_
        exact (J.sub [0, 1, 2, 3, 5] rfl <| wk_X5_keep_85 O hr hm _ _ _ _ _ _ _ _ ih hX53 _ h)
theorem wk_X5_keep_148 {x : Cx} (O : OK x "DowryBoxesModel" cX5_keep 4) (hr : (xM x).sig.returnType = some .int) (hm : xn x = 9) {Q : Int → Wd → Prop} (K103 : Int → Int → Int → Int → Wd → Prop) (K112 : Int → Wd → Prop) (X112 : Int → Wd → Prop) (this : Nat) (x1 : Int) (x2 : Int) (x3 : Int) (x4 : Int) (x6 : Int) (x7 : Int) (x8 : Int) (hK103 : ∀ (y4 : Int) (y5 : Int) (y6 : Int) (y7 : Int) (w : Wd), K103 y4 y5 y6 y7 w → J x (TI x Q) w 0 0 103 [(0, .ref (adG (xG x) (this))), (1, vI (x1)), (2, vI (x2)), (3, vI (x3)), (4, vI (y4)), (5, vI (y5)), (6, vI (y6)), (7, vI (y7))] []) (hK112 : ∀ (y8 : Int) (w : Wd), K112 y8 w → J x (TI x Q) w 0 0 112 [(0, .ref (adG (xG x) (this))), (1, vI (x1)), (2, vI (x2)), (3, vI (x3)), (4, vI (x4)), (6, vI (x6)), (7, vI (x7)), (8, vI (y8))] []) (hX112 : ∀ (y8 : Int) (w : Wd), X112 y8 w → J x (TI x Q) w 0 0 154 [(0, .ref (adG (xG x) (this))), (1, vI (x1)), (2, vI (x2)), (3, vI (x3)), (4, vI (x4)), (7, vI (x7)), (8, vI (y8))] []) (w : Wd) (h : wp_X5_keep_148 Q K103 K112 X112 this x1 x2 x3 x4 x6 x7 x8 w) : J x (TI x Q) w 0 0 148 [(0, .ref (adG (xG x) (this))), (1, vI (x1)), (2, vI (x2)), (3, vI (x3)), (4, vI (x4)), (6, vI (x6)), (7, vI (x7)), (8, vI (x8))] [] := by
  unfold wp_X5_keep_148 at h
  refine j_iinc (L' := [(8, vI (x8 + 1)), (0, .ref (adG (xG x) (this))), (1, vI (x1)), (2, vI (x2)), (3, vI (x3)), (4, vI (x4)), (6, vI (x6)), (7, vI (x7))]) O 7 dX5_keep_148 rfl (by rw [hm]; decide) rfl ?_
  refine j_goto O (tgt := 112) dX5_keep_151 (by decide) ?_
  exact (J.sub [1, 2, 3, 4, 5, 6, 7, 0] rfl <| hK112 _ _ h)
theorem wk_X5_keep_112 {x : Cx} (O : OK x "DowryBoxesModel" cX5_keep 4) (hr : (xM x).sig.returnType = some .int) (hm : xn x = 9) {Q : Int → Wd → Prop} (K103 : Int → Int → Int → Int → Wd → Prop) (X112 : Int → Wd → Prop) (this : Nat) (x1 : Int) (x2 : Int) (x3 : Int) (x4 : Int) (x6 : Int) (x7 : Int) (hK103 : ∀ (y4 : Int) (y5 : Int) (y6 : Int) (y7 : Int) (w : Wd), K103 y4 y5 y6 y7 w → J x (TI x Q) w 0 0 103 [(0, .ref (adG (xG x) (this))), (1, vI (x1)), (2, vI (x2)), (3, vI (x3)), (4, vI (y4)), (5, vI (y5)), (6, vI (y6)), (7, vI (y7))] []) (hX112 : ∀ (y8 : Int) (w : Wd), X112 y8 w → J x (TI x Q) w 0 0 154 [(0, .ref (adG (xG x) (this))), (1, vI (x1)), (2, vI (x2)), (3, vI (x3)), (4, vI (x4)), (7, vI (x7)), (8, vI (y8))] []) : ∀ (n : Nat) (x8 : Int) (w : Wd), wp_X5_keep_112 Q K103 X112 this x1 x2 x3 x4 x6 x7 n x8 w → J x (TI x Q) w 0 0 112 [(0, .ref (adG (xG x) (this))), (1, vI (x1)), (2, vI (x2)), (3, vI (x3)), (4, vI (x4)), (6, vI (x6)), (7, vI (x7)), (8, vI (x8))] [] := by
  intro n
  induction n with
  | zero => intro x8 w h; exact False.elim h
  | succ n ih =>
    intro x8 w h
    rw [wp_X5_keep_112] at h
    refine j_aload_n O 0 0 dX5_keep_112 rfl rfl ?_
    refine j_getA O cfX5 47 (Nat.le_of_ble_eq_true rfl) ⟨_, rfl⟩ q1615 dX5_keep_113 h (fun k1 h => ?_)
    refine j_sipush (m := 256) O dX5_keep_116 si_256 ?_
    refine j_iload O 6 dX5_keep_119 rfl ?_
    refine j_imul O dX5_keep_121 ?_
    refine j_iload O 7 dX5_keep_122 rfl ?_
    refine j_iadd O dX5_keep_124 ?_
    refine j_iald O dX5_keep_125 h (fun v2 h => ?_)
    refine j_iload O 4 dX5_keep_126 rfl ?_
    obtain ⟨c3, h⟩ := h
    obtain ⟨c4, h⟩ := h
    refine j_icmp_ne O (tgt := 148) dX5_keep_128 (by decide) c3 c4 h (fun h => ?_) (fun h => ?_)
    · exact (J.sub [0, 1, 2, 3, 4, 5, 6, 7] rfl <| wk_X5_keep_148 O hr hm _ _ _ _ _ _ _ _ _ _ _ hK103 ih hX112 _ h)
    · refine j_iload O 6 dX5_keep_131 rfl ?_
      obtain ⟨c5, h⟩ := h
      refine j_if_le O (tgt := 154) dX5_keep_133 (by decide) c5 h (fun h => ?_) (fun h => ?_)
      · exact (J.sub [0, 1, 2, 3, 4, 6, 7] rfl <| hX112 _ _ h)
      · refine j_iload O 5 dX5_keep_136 rfl ?_
        refine j_iload O 7 dX5_keep_138 rfl ?_
        refine j_ixor O dX5_keep_140 ?_
        refine fin_I O ⟨Nat.zero_le _, Nat.zero_le _⟩ (run_S (As := [vI ((ixo x6 x8))]) (st := []) O (mt_X5_ones (xl x) (xG x) _ _ _ h) q1805 q1806 q131 q1807 hy_X5_ones.2 (Nat.le_of_ble_eq_true rfl) (Nat.le_of_ble_eq_true rfl) ⟨Nat.zero_le _, Nat.zero_le _⟩ rfl (Nat.le_of_ble_eq_true rfl) dX5_keep_141) (fun r6 w7 h => ?_)
        refine j_iload_n O 2 2 dX5_keep_144 rfl rfl ?_
        obtain ⟨c8, h⟩ := h
        obtain ⟨c9, h⟩ := h
        refine j_icmp_le O (tgt := 154) dX5_keep_145 (by decide) c8 c9 h (fun h => ?_) (fun h => ?_)
        · exact (J.sub [0, 1, 2, 3, 4, 6, 7] rfl <| hX112 _ _ h)
        · exact (J.sub [0, 1, 2, 3, 4, 5, 6, 7] rfl <| wk_X5_keep_148 O hr hm _ _ _ _ _ _ _ _ _ _ _ hK103 ih hX112 _ h)
theorem wk_X5_keep_154 {x : Cx} (O : OK x "DowryBoxesModel" cX5_keep 4) (hr : (xM x).sig.returnType = some .int) (hm : xn x = 9) {Q : Int → Wd → Prop} (K103 : Int → Int → Int → Int → Wd → Prop) (this : Nat) (x1 : Int) (x2 : Int) (x3 : Int) (x4 : Int) (x7 : Int) (x8 : Int) (hK103 : ∀ (y4 : Int) (y5 : Int) (y6 : Int) (y7 : Int) (w : Wd), K103 y4 y5 y6 y7 w → J x (TI x Q) w 0 0 103 [(0, .ref (adG (xG x) (this))), (1, vI (x1)), (2, vI (x2)), (3, vI (x3)), (4, vI (y4)), (5, vI (y5)), (6, vI (y6)), (7, vI (y7))] []) (w : Wd) (h : wp_X5_keep_154 Q K103 this x1 x2 x3 x4 x7 x8 w) : J x (TI x Q) w 0 0 154 [(0, .ref (adG (xG x) (this))), (1, vI (x1)), (2, vI (x2)), (3, vI (x3)), (4, vI (x4)), (7, vI (x7)), (8, vI (x8))] [] := by
  unfold wp_X5_keep_154 at h
  refine j_iload O 4 dX5_keep_154 rfl ?_
  refine j_iload O 6 dX5_keep_156 rfl ?_
  refine fin_I O ⟨Nat.zero_le _, Nat.zero_le _⟩ (run_S (As := [vI (x8)]) (st := [vI (x4)]) O (mt_X5_ones (xl x) (xG x) _ _ _ h) q1805 q1806 q131 q1807 hy_X5_ones.2 (Nat.le_of_ble_eq_true rfl) (Nat.le_of_ble_eq_true rfl) ⟨Nat.zero_le _, Nat.zero_le _⟩ rfl (Nat.le_of_ble_eq_true rfl) dX5_keep_158) (fun r1 w2 h => ?_)
  refine j_aload_n O 0 0 dX5_keep_161 rfl rfl ?_
  refine j_getA O cfX5 3 (Nat.le_of_ble_eq_true rfl) ⟨_, rfl⟩ q1571 dX5_keep_162 h (fun k3 h => ?_)
  refine j_bipush (m := 8) O dX5_keep_165 bi_8 ?_
  refine j_bipush (m := 8) O dX5_keep_167 bi_8 ?_
  refine j_iload_n O 1 1 dX5_keep_169 rfl rfl ?_
  refine j_imul O dX5_keep_170 ?_
  refine j_iadd O dX5_keep_171 ?_
  refine j_iload O 5 dX5_keep_172 rfl ?_
  refine j_iadd O dX5_keep_174 ?_
  refine j_iald O dX5_keep_175 h (fun v4 h => ?_)
  refine fin_I O ⟨Nat.zero_le _, Nat.zero_le _⟩ (run_S (As := [vI (v4)]) (st := [vI (r1), vI (x4)]) O (mt_X5_ones (xl x) (xG x) _ _ _ h) q1805 q1806 q131 q1807 hy_X5_ones.2 (Nat.le_of_ble_eq_true rfl) (Nat.le_of_ble_eq_true rfl) ⟨Nat.zero_le _, Nat.zero_le _⟩ rfl (Nat.le_of_ble_eq_true rfl) dX5_keep_176) (fun r5 w6 h => ?_)
  refine j_isub O dX5_keep_179 ?_
  refine j_isub O dX5_keep_180 ?_
  refine j_istore (L' := [(4, vI (x4 - (r1 - r5))), (0, .ref (adG (xG x) (this))), (1, vI (x1)), (2, vI (x2)), (3, vI (x3)), (7, vI (x7)), (8, vI (x8))]) O dX5_keep_181 (by rw [hm]; decide) rfl ?_
  refine j_iload O 6 dX5_keep_183 rfl ?_
  refine j_istore (L' := [(6, vI (x8)), (4, vI (x4 - (r1 - r5))), (0, .ref (adG (xG x) (this))), (1, vI (x1)), (2, vI (x2)), (3, vI (x3)), (7, vI (x7)), (8, vI (x8))]) O dX5_keep_185 (by rw [hm]; decide) rfl ?_
  refine j_iload O 7 dX5_keep_187 rfl ?_
  refine j_istore (L' := [(5, vI (x8)), (6, vI (x8)), (4, vI (x4 - (r1 - r5))), (0, .ref (adG (xG x) (this))), (1, vI (x1)), (2, vI (x2)), (3, vI (x3)), (7, vI (x7)), (8, vI (x8))]) O dX5_keep_189 (by rw [hm]; decide) rfl ?_
  refine j_iinc (L' := [(7, vI (x7 + 1)), (5, vI (x8)), (6, vI (x8)), (4, vI (x4 - (r1 - r5))), (0, .ref (adG (xG x) (this))), (1, vI (x1)), (2, vI (x2)), (3, vI (x3)), (8, vI (x8))]) O 7 dX5_keep_191 rfl (by rw [hm]; decide) rfl ?_
  refine j_goto O (tgt := 103) dX5_keep_194 (by decide) ?_
  exact (J.sub [4, 5, 6, 7, 3, 1, 2, 0] rfl <| hK103 _ _ _ _ _ h)
theorem wk_X5_keep_103 {x : Cx} (O : OK x "DowryBoxesModel" cX5_keep 4) (hr : (xM x).sig.returnType = some .int) (hm : xn x = 9) {Q : Int → Wd → Prop} (this : Nat) (x1 : Int) (x2 : Int) (x3 : Int) : ∀ (n : Nat) (x4 : Int) (x5 : Int) (x6 : Int) (x7 : Int) (w : Wd), wp_X5_keep_103 Q this x1 x2 x3 n x4 x5 x6 x7 w → J x (TI x Q) w 0 0 103 [(0, .ref (adG (xG x) (this))), (1, vI (x1)), (2, vI (x2)), (3, vI (x3)), (4, vI (x4)), (5, vI (x5)), (6, vI (x6)), (7, vI (x7))] [] := by
  intro n
  induction n with
  | zero => intro x4 x5 x6 x7 w h; exact False.elim h
  | succ n ih =>
    intro x4 x5 x6 x7 w h
    rw [wp_X5_keep_103] at h
    refine j_iload O 7 dX5_keep_103 rfl ?_
    refine j_iload_n O 3 3 dX5_keep_105 rfl rfl ?_
    obtain ⟨c1, h⟩ := h
    obtain ⟨c2, h⟩ := h
    refine j_icmp_gt O (tgt := 197) dX5_keep_106 (by decide) c1 c2 h (fun h => ?_) (fun h => ?_)
    · refine j_iload O 5 dX5_keep_197 rfl ?_
      exact j_iret O hr dX5_keep_199 h
    · refine j_iconst O dX5_keep_109 ?_
      refine j_istore (L' := [(8, vI (0)), (0, .ref (adG (xG x) (this))), (1, vI (x1)), (2, vI (x2)), (3, vI (x3)), (4, vI (x4)), (5, vI (x5)), (6, vI (x6)), (7, vI (x7))]) O dX5_keep_110 (by rw [hm]; decide) rfl ?_
      refine (J.sub [1, 2, 3, 4, 5, 7, 8, 0] rfl <| wk_X5_keep_112 O hr hm _ _ _ _ _ _ _ _ _ ih (fun z3 w4 h => ?_) FU _ _ h)
      exact (J.sub [0, 1, 2, 3, 4, 5, 6] rfl <| wk_X5_keep_154 O hr hm _ _ _ _ _ _ _ _ ih _ h)
theorem wk_X5_keep_39 {x : Cx} (O : OK x "DowryBoxesModel" cX5_keep 4) (hr : (xM x).sig.returnType = some .int) (hm : xn x = 9) {Q : Int → Wd → Prop} (this : Nat) (x1 : Int) (x2 : Int) (x3 : Int) (w : Wd) (h : wp_X5_keep_39 Q this x1 x2 x3 w) : J x (TI x Q) w 0 0 39 [(0, .ref (adG (xG x) (this))), (1, vI (x1)), (2, vI (x2)), (3, vI (x3))] [] := by
  unfold wp_X5_keep_39 at h
  refine j_aload_n O 0 0 dX5_keep_39 rfl rfl ?_
  refine j_iload_n O 1 1 dX5_keep_40 rfl rfl ?_
  refine j_iload_n O 2 2 dX5_keep_41 rfl rfl ?_
  obtain ⟨e2, h⟩ := h
  refine fin_V O ⟨Nat.zero_le _, Nat.zero_le _⟩ (run_V (As := [vI (x1), vI (x2)]) (st := []) O (mt_X5_layMore (xl x) (xG x) _ _ _ _ _ h) e2 cfX5.1 q2154 q2156 qs106 q131 q2157 hy_X5_layMore (Nat.le_of_ble_eq_true rfl) (Nat.le_of_ble_eq_true rfl) ⟨Nat.zero_le _, Nat.zero_le _⟩ rfl (Nat.le_of_ble_eq_true rfl) dX5_keep_42) (fun w1 h => ?_)
  refine j_ldcw (m := 100000000) O dX5_keep_45 q2115 ld_100000000 ?_
  refine j_istore (L' := [(4, vI (100000000)), (0, .ref (adG (xG x) (this))), (1, vI (x1)), (2, vI (x2)), (3, vI (x3))]) O dX5_keep_48 (by rw [hm]; decide) rfl ?_
  refine j_iconst O dX5_keep_50 ?_
  refine j_istore (L' := [(5, vI (0)), (4, vI (100000000)), (0, .ref (adG (xG x) (this))), (1, vI (x1)), (2, vI (x2)), (3, vI (x3))]) O dX5_keep_51 (by rw [hm]; decide) rfl ?_
  refine (J.sub [2, 3, 4, 5, 1, 0] rfl <| wk_X5_keep_53 O hr hm _ _ _ _ _ (fun z3 w4 h => ?_) FU _ _ _ h)
  refine j_iload O 4 dX5_keep_93 rfl ?_
  refine j_istore (L' := [(5, vI (z3)), (0, .ref (adG (xG x) (this))), (1, vI (x1)), (2, vI (x2)), (3, vI (x3)), (4, vI (z3))]) O dX5_keep_95 (by rw [hm]; decide) rfl ?_
  refine j_iconst O dX5_keep_97 ?_
  refine j_istore (L' := [(6, vI (0)), (5, vI (z3)), (0, .ref (adG (xG x) (this))), (1, vI (x1)), (2, vI (x2)), (3, vI (x3)), (4, vI (z3))]) O dX5_keep_98 (by rw [hm]; decide) rfl ?_
  refine j_iconst O dX5_keep_100 ?_
  refine j_istore (L' := [(7, vI (0)), (6, vI (0)), (5, vI (z3)), (0, .ref (adG (xG x) (this))), (1, vI (x1)), (2, vI (x2)), (3, vI (x3)), (4, vI (z3))]) O dX5_keep_101 (by rw [hm]; decide) rfl ?_
  exact (J.sub [3, 4, 5, 6, 7, 2, 1, 0] rfl <| wk_X5_keep_103 O hr hm  _ _ _ _  FU _ _ _ _ _ h)
theorem mt_X5_keep (l : Launch) (G : GW) (this : Nat) (p1 : Int) (p2 : Int) (p3 : Int) (w : Wd) (Q : Int → Wd → Prop) (h : wp_X5_keep this p1 p2 p3 w Q) : MI l G yX5_keep cX5_keep 9 (.int) 4 0 0 [.ref (adG G (this)), vI (p1), vI (p2), vI (p3)] w Q := by
  refine met_I (fun G => [.ref (adG G (this)), vI (p1), vI (p2), vI (p3)]) (by decide) (fun G => Nat.le_of_ble_eq_true rfl) (fun x O hl hm hr => ?_)
  subst hl
  have O : OK x "DowryBoxesModel" cX5_keep 4 := O
  have h : wp_X5_keep this p1 p2 p3 w Q := h
  unfold wp_X5_keep at h
  show J x (TI x Q) w 0 0 0 [(0, .ref (adG (xG x) (this))), (1, vI (p1)), (2, vI (p2)), (3, vI (p3))] []
  refine j_aload_n O 0 0 dX5_keep_0 rfl rfl ?_
  refine j_iconst O dX5_keep_1 ?_
  refine j_putI O cfX5 0 (Nat.le_of_ble_eq_true rfl) rfl q1568 rfl dX5_keep_2 h (fun w1 h => ?_)
  refine j_aload_n O 0 0 dX5_keep_5 rfl rfl ?_
  refine j_iload_n O 1 1 dX5_keep_6 rfl rfl ?_
  obtain ⟨e4, h⟩ := h
  refine fin_I O ⟨Nat.zero_le _, Nat.zero_le _⟩ (run_V (As := [vI (p1)]) (st := []) O (mt_X5_isBox (xl x) (xG x) _ _ _ _ h) e4 cfX5.1 q1792 q1794 qs51 q131 q1795 hy_X5_isBox (Nat.le_of_ble_eq_true rfl) (Nat.le_of_ble_eq_true rfl) ⟨Nat.zero_le _, Nat.zero_le _⟩ rfl (Nat.le_of_ble_eq_true rfl) dX5_keep_7) (fun r2 w3 h => ?_)
  obtain ⟨c5, h⟩ := h
  refine j_if_eq O (tgt := 37) dX5_keep_10 (by decide) c5 h (fun h => ?_) (fun h => ?_)
  · refine j_iconst O dX5_keep_37 ?_
    exact j_iret O hr dX5_keep_38 h
  · refine j_iload_n O 2 2 dX5_keep_13 rfl rfl ?_
    refine j_i2l O dX5_keep_14 h (fun h => ?_)
    refine j_lconst (m := 0) O dX5_keep_15 lc_0 ?_
    refine j_ldc2 (m := 8) O dX5_keep_16 q2153 l2_8 ?_
    refine fin_I O ⟨Nat.zero_le _, Nat.zero_le _⟩ (run_S (As := [vL (p2), vL (0), vL (8)]) (st := []) O (mt_X5_in (xl x) (xG x) _ _ _ _ _ h) q1772 q1773 q131 q1774 hy_X5_in.2 (Nat.le_of_ble_eq_true rfl) (Nat.le_of_ble_eq_true rfl) ⟨Nat.zero_le _, Nat.zero_le _⟩ rfl (Nat.le_of_ble_eq_true rfl) dX5_keep_19) (fun r6 w7 h => ?_)
    obtain ⟨c8, h⟩ := h
    refine j_if_eq O (tgt := 37) dX5_keep_22 (by decide) c8 h (fun h => ?_) (fun h => ?_)
    · refine j_iconst O dX5_keep_37 ?_
      exact j_iret O hr dX5_keep_38 h
    · refine j_iload_n O 3 3 dX5_keep_25 rfl rfl ?_
      refine j_iconst O dX5_keep_26 ?_
      obtain ⟨c9, h⟩ := h
      refine j_icmp_eq O (tgt := 39) dX5_keep_27 (by decide) c9 (by decide) h (fun h => ?_) (fun h => ?_)
      · exact (J.sub [0, 1, 2, 3] rfl <| wk_X5_keep_39 O hr hm  _ _ _ _  _ h)
      · refine j_iload_n O 3 3 dX5_keep_30 rfl rfl ?_
        refine fin_I O ⟨Nat.zero_le _, Nat.zero_le _⟩ (run_S (As := [vI (p3)]) (st := []) O (mt_X5_isBar (xl x) (xG x) _ _ _ h) q1846 q1847 q131 q1848 hy_X5_isBar.2 (Nat.le_of_ble_eq_true rfl) (Nat.le_of_ble_eq_true rfl) ⟨Nat.zero_le _, Nat.zero_le _⟩ rfl (Nat.le_of_ble_eq_true rfl) dX5_keep_31) (fun r10 w11 h => ?_)
        obtain ⟨c12, h⟩ := h
        refine j_if_ne O (tgt := 39) dX5_keep_34 (by decide) c12 h (fun h => ?_) (fun h => ?_)
        · exact (J.sub [0, 1, 2, 3] rfl <| wk_X5_keep_39 O hr hm  _ _ _ _  _ h)
        · refine j_iconst O dX5_keep_37 ?_
          exact j_iret O hr dX5_keep_38 h
