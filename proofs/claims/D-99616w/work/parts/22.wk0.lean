/-! the walks of the reference, by program -/
set_option maxRecDepth 100000
theorem hy_X5_status : (yX5_status.cls = "DowryBoxesModel" ∧ yX5_status.cls ≠ "java/lang/invoke/MethodHandle" ∧ yX5_status.cls ≠ "java/lang/invoke/VarHandle" ∧ (parseMethodDescriptor yX5_status.desc).map (fun d => d.parameters.length) = some 0) := by decide +kernel
theorem mt_X5_status (l : Launch) (G : GW) (this : Nat) (w : Wd) (Q : Int → Wd → Prop) (h : wp_X5_status this w Q) : MI l G yX5_status cX5_status 1 (.int) 1 0 0 [.ref (adG G (this))] w Q := by
  refine met_I (fun G => [.ref (adG G (this))]) (by decide) (fun G => Nat.le_of_ble_eq_true rfl) (fun x O hl hm hr => ?_)
  subst hl
  have O : OK x "DowryBoxesModel" cX5_status 1 := O
  have h : wp_X5_status this w Q := h
  unfold wp_X5_status at h
  show J x (TI x Q) w 0 0 0 [(0, .ref (adG (xG x) (this)))] []
  refine j_aload_n O 0 0 dX5_status_0 rfl rfl ?_
  refine j_iconst O dX5_status_1 ?_
  refine j_putI O cfX5 0 (Nat.le_of_ble_eq_true rfl) rfl q1568 rfl dX5_status_2 h (fun w1 h => ?_)
  refine j_aload_n O 0 0 dX5_status_5 rfl rfl ?_
  refine j_getI O cfX5 1 (Nat.le_of_ble_eq_true rfl) (.inl rfl) q1569 dX5_status_6 h (fun v2 h => ?_)
  exact j_iret O hr dX5_status_9 h
theorem hy_X5_couples : (yX5_couples.cls = "DowryBoxesModel" ∧ yX5_couples.cls ≠ "java/lang/invoke/MethodHandle" ∧ yX5_couples.cls ≠ "java/lang/invoke/VarHandle" ∧ (parseMethodDescriptor yX5_couples.desc).map (fun d => d.parameters.length) = some 0) := by decide +kernel
theorem wk_X5_couples_33 {x : Cx} (O : OK x "DowryBoxesModel" cX5_couples 1) (hr : (xM x).sig.returnType = some .int) (hm : xn x = 3) {Q : Int → Wd → Prop} (K4 : Int → Int → Wd → Prop) (this : Nat) (x2 : Int) (s0 : Int) (s1 : Int) (hK4 : ∀ (y1 : Int) (y2 : Int) (w : Wd), K4 y1 y2 w → J x (TI x Q) w 0 0 4 [(0, .ref (adG (xG x) (this))), (1, vI (y1)), (2, vI (y2))] []) (w : Wd) (h : wp_X5_couples_33 Q K4 this x2 s0 s1 w) : J x (TI x Q) w 0 0 33 [(0, .ref (adG (xG x) (this))), (2, vI (x2))] [vI (s0), vI (s1)] := by
  unfold wp_X5_couples_33 at h
  refine j_iadd O dX5_couples_33 ?_
  refine j_istore_n (L' := [(1, vI (s1 + s0)), (0, .ref (adG (xG x) (this))), (2, vI (x2))]) O 1 dX5_couples_34 rfl (by rw [hm]; decide) rfl ?_
  refine j_iinc (L' := [(2, vI (x2 + 1)), (1, vI (s1 + s0)), (0, .ref (adG (xG x) (this)))]) O 2 dX5_couples_35 rfl (by rw [hm]; decide) rfl ?_
  refine j_goto O (tgt := 4) dX5_couples_38 (by decide) ?_
  exact (J.sub [2, 1, 0] rfl <| hK4 _ _ _ h)
theorem wk_X5_couples_4 {x : Cx} (O : OK x "DowryBoxesModel" cX5_couples 1) (hr : (xM x).sig.returnType = some .int) (hm : xn x = 3) {Q : Int → Wd → Prop} (this : Nat) : ∀ (n : Nat) (x1 : Int) (x2 : Int) (w : Wd), wp_X5_couples_4 Q this n x1 x2 w → J x (TI x Q) w 0 0 4 [(0, .ref (adG (xG x) (this))), (1, vI (x1)), (2, vI (x2))] [] := by
  intro n
  induction n with
  | zero => intro x1 x2 w h; exact False.elim h
  | succ n ih =>
    intro x1 x2 w h
    rw [wp_X5_couples_4] at h
    refine j_iload_n O 2 2 dX5_couples_4 rfl rfl ?_
    refine j_aload_n O 0 0 dX5_couples_5 rfl rfl ?_
    refine j_getA O cfX5 3 (Nat.le_of_ble_eq_true rfl) ⟨_, rfl⟩ q1571 dX5_couples_6 h (fun k1 h => ?_)
    refine j_iconst O dX5_couples_9 ?_
    refine j_iald O dX5_couples_10 h (fun v2 h => ?_)
    obtain ⟨c3, h⟩ := h
    obtain ⟨c4, h⟩ := h
    refine j_icmp_ge O (tgt := 41) dX5_couples_11 (by decide) c3 c4 h (fun h => ?_) (fun h => ?_)
    · refine j_iload_n O 1 1 dX5_couples_41 rfl rfl ?_
      exact j_iret O hr dX5_couples_42 h
    · refine j_iload_n O 1 1 dX5_couples_14 rfl rfl ?_
      refine j_aload_n O 0 0 dX5_couples_15 rfl rfl ?_
      refine j_getA O cfX5 3 (Nat.le_of_ble_eq_true rfl) ⟨_, rfl⟩ q1571 dX5_couples_16 h (fun k5 h => ?_)
      refine j_bipush (m := 68) O dX5_couples_19 bi_68 ?_
      refine j_iload_n O 2 2 dX5_couples_21 rfl rfl ?_
      refine j_iadd O dX5_couples_22 ?_
      refine j_iald O dX5_couples_23 h (fun v6 h => ?_)
      refine j_iconst O dX5_couples_24 ?_
      obtain ⟨c7, h⟩ := h
      refine j_icmp_ne O (tgt := 32) dX5_couples_25 (by decide) c7 (by decide) h (fun h => ?_) (fun h => ?_)
      · refine j_iconst O dX5_couples_32 ?_
        exact (J.sub [0, 2] rfl <| wk_X5_couples_33 O hr hm _ _ _ _ _ ih _ h)
      · refine j_iconst O dX5_couples_28 ?_
        refine j_goto O (tgt := 33) dX5_couples_29 (by decide) ?_
        exact (J.sub [0, 2] rfl <| wk_X5_couples_33 O hr hm _ _ _ _ _ ih _ h)
theorem mt_X5_couples (l : Launch) (G : GW) (this : Nat) (w : Wd) (Q : Int → Wd → Prop) (h : wp_X5_couples this w Q) : MI l G yX5_couples cX5_couples 3 (.int) 1 0 0 [.ref (adG G (this))] w Q := by
  refine met_I (fun G => [.ref (adG G (this))]) (by decide) (fun G => Nat.le_of_ble_eq_true rfl) (fun x O hl hm hr => ?_)
  subst hl
  have O : OK x "DowryBoxesModel" cX5_couples 1 := O
  have h : wp_X5_couples this w Q := h
  unfold wp_X5_couples at h
  show J x (TI x Q) w 0 0 0 [(0, .ref (adG (xG x) (this)))] []
  refine j_iconst O dX5_couples_0 ?_
  refine j_istore_n (L' := [(1, vI (0)), (0, .ref (adG (xG x) (this)))]) O 1 dX5_couples_1 rfl (by rw [hm]; decide) rfl ?_
  refine j_iconst O dX5_couples_2 ?_
  refine j_istore_n (L' := [(2, vI (0)), (1, vI (0)), (0, .ref (adG (xG x) (this)))]) O 2 dX5_couples_3 rfl (by rw [hm]; decide) rfl ?_
  exact (J.sub [2, 1, 0] rfl <| wk_X5_couples_4 O hr hm  _  FU _ _ _ h)
theorem hy_X5_in : (yX5_in.cls = "DowryBoxesModel" ∧ yX5_in.cls ≠ "java/lang/invoke/MethodHandle" ∧ yX5_in.cls ≠ "java/lang/invoke/VarHandle" ∧ (parseMethodDescriptor yX5_in.desc).map (fun d => d.parameters.length) = some 3) := by decide +kernel
theorem mt_X5_in (l : Launch) (G : GW) (p1 : Int) (p2 : Int) (p3 : Int) (w : Wd) (Q : Int → Wd → Prop) (h : wp_X5_in p1 p2 p3 w Q) : MI l G yX5_in cX5_in 6 (.boolean) 1 0 0 [vL (p1), vL (p2), vL (p3)] w Q := by
  refine met_I (fun G => [vL (p1), vL (p2), vL (p3)]) (by decide) (fun G => Nat.le_of_ble_eq_true rfl) (fun x O hl hm hr => ?_)
  subst hl
  have O : OK x "DowryBoxesModel" cX5_in 1 := O
  have h : wp_X5_in p1 p2 p3 w Q := h
  unfold wp_X5_in at h
  show J x (TI x Q) w 0 0 0 [(0, vL (p1)), (2, vL (p2)), (4, vL (p3))] []
  refine j_lload_n O 0 0 dX5_in_0 rfl rfl ?_
  refine j_lload_n O 1 2 dX5_in_1 rfl rfl ?_
  obtain ⟨c1, h⟩ := h
  obtain ⟨c2, h⟩ := h
  refine j_lcif_lt O (tgt := 17) dX5_in_2 rfl dX5_in_3 (by decide) c1 c2 h (fun h => ?_) (fun h => ?_)
  · refine j_iconst O dX5_in_17 ?_
    exact j_zret O hr dX5_in_18 h
  · refine j_lload_n O 0 0 dX5_in_6 rfl rfl ?_
    refine j_lload O 2 dX5_in_7 rfl ?_
    obtain ⟨c3, h⟩ := h
    obtain ⟨c4, h⟩ := h
    refine j_lcif_gt O (tgt := 17) dX5_in_9 rfl dX5_in_10 (by decide) c3 c4 h (fun h => ?_) (fun h => ?_)
    · refine j_iconst O dX5_in_17 ?_
      exact j_zret O hr dX5_in_18 h
    · refine j_iconst O dX5_in_13 ?_
      refine j_goto O (tgt := 18) dX5_in_14 (by decide) ?_
      exact j_zret O hr dX5_in_18 h
theorem hy_X5_count : (yX5_count.cls = "DowryBoxesModel" ∧ yX5_count.cls ≠ "java/lang/invoke/MethodHandle" ∧ yX5_count.cls ≠ "java/lang/invoke/VarHandle" ∧ (parseMethodDescriptor yX5_count.desc).map (fun d => d.parameters.length) = some 1) := by decide +kernel
theorem mt_X5_count (l : Launch) (G : GW) (this : Nat) (p1 : Int) (w : Wd) (Q : Int → Wd → Prop) (h : wp_X5_count this p1 w Q) : MI l G yX5_count cX5_count 2 (.int) 2 0 0 [.ref (adG G (this)), vI (p1)] w Q := by
  refine met_I (fun G => [.ref (adG G (this)), vI (p1)]) (by decide) (fun G => Nat.le_of_ble_eq_true rfl) (fun x O hl hm hr => ?_)
  subst hl
  have O : OK x "DowryBoxesModel" cX5_count 2 := O
  have h : wp_X5_count this p1 w Q := h
  unfold wp_X5_count at h
  show J x (TI x Q) w 0 0 0 [(0, .ref (adG (xG x) (this))), (1, vI (p1))] []
  refine j_aload_n O 0 0 dX5_count_0 rfl rfl ?_
  refine j_iconst O dX5_count_1 ?_
  refine j_putI O cfX5 0 (Nat.le_of_ble_eq_true rfl) rfl q1568 rfl dX5_count_2 h (fun w1 h => ?_)
  refine j_iload_n O 1 1 dX5_count_5 rfl rfl ?_
  obtain ⟨ca, h⟩ := h
  rcases Classical.em (p1 = 0) with e0 | e0
  · have h := h.1 e0
    refine j_tableIn O (tgt := 72) dX5_count_6 ca (by omega) (by omega) (by rw [e0]; rfl) (by decide) ?_
    refine j_aload_n O 0 0 dX5_count_72 rfl rfl ?_
    refine j_getA O cfX5 3 (Nat.le_of_ble_eq_true rfl) ⟨_, rfl⟩ q1571 dX5_count_73 h (fun k2 h => ?_)
    refine j_iconst O dX5_count_76 ?_
    refine j_iald O dX5_count_77 h (fun v3 h => ?_)
    exact j_iret O hr dX5_count_78 h
  have h := h.2 e0
  rcases Classical.em (p1 = 1) with e1 | e1
  · have h := h.1 e1
    refine j_tableIn O (tgt := 79) dX5_count_6 ca (by omega) (by omega) (by rw [e1]; rfl) (by decide) ?_
    refine j_aload_n O 0 0 dX5_count_79 rfl rfl ?_
    refine j_getA O cfX5 3 (Nat.le_of_ble_eq_true rfl) ⟨_, rfl⟩ q1571 dX5_count_80 h (fun k4 h => ?_)
    refine j_iconst O dX5_count_83 ?_
    refine j_iald O dX5_count_84 h (fun v5 h => ?_)
    exact j_iret O hr dX5_count_85 h
  have h := h.2 e1
  rcases Classical.em (p1 = 2) with e2 | e2
  · have h := h.1 e2
    refine j_tableIn O (tgt := 86) dX5_count_6 ca (by omega) (by omega) (by rw [e2]; rfl) (by decide) ?_
    refine j_aload_n O 0 0 dX5_count_86 rfl rfl ?_
    obtain ⟨e8, h⟩ := h
    refine fin_I O ⟨Nat.zero_le _, Nat.zero_le _⟩ (run_V (As := []) (st := []) O (mt_X5_couples (xl x) (xG x) _ _ _ h) e8 cfX5.1 q2230 q2232 qs115 q131 q2233 hy_X5_couples (Nat.le_of_ble_eq_true rfl) (Nat.le_of_ble_eq_true rfl) ⟨Nat.zero_le _, Nat.zero_le _⟩ rfl (Nat.le_of_ble_eq_true rfl) dX5_count_87) (fun r6 w7 h => ?_)
    exact j_iret O hr dX5_count_90 h
  have h := h.2 e2
  rcases Classical.em (p1 = 3) with e3 | e3
  · have h := h.1 e3
    refine j_tableIn O (tgt := 91) dX5_count_6 ca (by omega) (by omega) (by rw [e3]; rfl) (by decide) ?_
    refine j_aload_n O 0 0 dX5_count_91 rfl rfl ?_
    refine j_getA O cfX5 3 (Nat.le_of_ble_eq_true rfl) ⟨_, rfl⟩ q1571 dX5_count_92 h (fun k9 h => ?_)
    refine j_iconst O dX5_count_95 ?_
    refine j_iald O dX5_count_96 h (fun v10 h => ?_)
    exact j_iret O hr dX5_count_97 h
  have h := h.2 e3
  rcases Classical.em (p1 = 4) with e4 | e4
  · have h := h.1 e4
    refine j_tableIn O (tgt := 98) dX5_count_6 ca (by omega) (by omega) (by rw [e4]; rfl) (by decide) ?_
    refine j_aload_n O 0 0 dX5_count_98 rfl rfl ?_
    refine j_getA O cfX5 3 (Nat.le_of_ble_eq_true rfl) ⟨_, rfl⟩ q1571 dX5_count_99 h (fun k11 h => ?_)
    refine j_iconst O dX5_count_102 ?_
    refine j_iald O dX5_count_103 h (fun v12 h => ?_)
    exact j_iret O hr dX5_count_104 h
  have h := h.2 e4
  rcases Classical.em (p1 = 5) with e5 | e5
  · have h := h.1 e5
    refine j_tableIn O (tgt := 105) dX5_count_6 ca (by omega) (by omega) (by rw [e5]; rfl) (by decide) ?_
    refine j_aload_n O 0 0 dX5_count_105 rfl rfl ?_
    refine j_getI O cfX5 8 (Nat.le_of_ble_eq_true rfl) (.inl rfl) q1576 dX5_count_106 h (fun v13 h => ?_)
    exact j_iret O hr dX5_count_109 h
  have h := h.2 e5
  rcases Classical.em (p1 = 6) with e6 | e6
  · have h := h.1 e6
    refine j_tableIn O (tgt := 110) dX5_count_6 ca (by omega) (by omega) (by rw [e6]; rfl) (by decide) ?_
    refine j_aload_n O 0 0 dX5_count_110 rfl rfl ?_
    refine j_getI O cfX5 13 (Nat.le_of_ble_eq_true rfl) (.inl rfl) q1581 dX5_count_111 h (fun v14 h => ?_)
    exact j_iret O hr dX5_count_114 h
  have h := h.2 e6
  rcases Classical.em (p1 = 7) with e7 | e7
  · have h := h.1 e7
    refine j_tableIn O (tgt := 115) dX5_count_6 ca (by omega) (by omega) (by rw [e7]; rfl) (by decide) ?_
    refine j_aload_n O 0 0 dX5_count_115 rfl rfl ?_
    refine j_getA O cfX5 2 (Nat.le_of_ble_eq_true rfl) ⟨_, rfl⟩ q1570 dX5_count_116 h (fun k15 h => ?_)
    refine j_iconst O dX5_count_119 ?_
    refine j_iald O dX5_count_120 h (fun v16 h => ?_)
    exact j_iret O hr dX5_count_121 h
  have h := h.2 e7
  rcases Classical.em (p1 = 8) with e8 | e8
  · have h := h.1 e8
    refine j_tableIn O (tgt := 122) dX5_count_6 ca (by omega) (by omega) (by rw [e8]; rfl) (by decide) ?_
    refine j_aload_n O 0 0 dX5_count_122 rfl rfl ?_
    refine j_getA O cfX5 2 (Nat.le_of_ble_eq_true rfl) ⟨_, rfl⟩ q1570 dX5_count_123 h (fun k17 h => ?_)
    refine j_iconst O dX5_count_126 ?_
    refine j_iald O dX5_count_127 h (fun v18 h => ?_)
    exact j_iret O hr dX5_count_128 h
  have h := h.2 e8
  rcases Classical.em (p1 = 9) with e9 | e9
  · have h := h.1 e9
    refine j_tableIn O (tgt := 129) dX5_count_6 ca (by omega) (by omega) (by rw [e9]; rfl) (by decide) ?_
    refine j_aload_n O 0 0 dX5_count_129 rfl rfl ?_
    refine j_getA O cfX5 2 (Nat.le_of_ble_eq_true rfl) ⟨_, rfl⟩ q1570 dX5_count_130 h (fun k19 h => ?_)
    refine j_iconst O dX5_count_133 ?_
    refine j_iald O dX5_count_134 h (fun v20 h => ?_)
    exact j_iret O hr dX5_count_135 h
  have h := h.2 e9
  rcases Classical.em (p1 = 10) with e10 | e10
  · have h := h.1 e10
    refine j_tableIn O (tgt := 136) dX5_count_6 ca (by omega) (by omega) (by rw [e10]; rfl) (by decide) ?_
    refine j_aload_n O 0 0 dX5_count_136 rfl rfl ?_
    refine j_getA O cfX5 2 (Nat.le_of_ble_eq_true rfl) ⟨_, rfl⟩ q1570 dX5_count_137 h (fun k21 h => ?_)
    refine j_iconst O dX5_count_140 ?_
    refine j_iald O dX5_count_141 h (fun v22 h => ?_)
    exact j_iret O hr dX5_count_142 h
  have h := h.2 e10
  rcases Classical.em (p1 = 11) with e11 | e11
  · have h := h.1 e11
    refine j_tableIn O (tgt := 143) dX5_count_6 ca (by omega) (by omega) (by rw [e11]; rfl) (by decide) ?_
    refine j_aload_n O 0 0 dX5_count_143 rfl rfl ?_
    refine j_getA O cfX5 2 (Nat.le_of_ble_eq_true rfl) ⟨_, rfl⟩ q1570 dX5_count_144 h (fun k23 h => ?_)
    refine j_bipush (m := 6) O dX5_count_147 bi_6 ?_
    refine j_iald O dX5_count_149 h (fun v24 h => ?_)
    exact j_iret O hr dX5_count_150 h
  have h := h.2 e11
  rcases Classical.em (p1 = 12) with e12 | e12
  · have h := h.1 e12
    refine j_tableIn O (tgt := 151) dX5_count_6 ca (by omega) (by omega) (by rw [e12]; rfl) (by decide) ?_
    refine j_aload_n O 0 0 dX5_count_151 rfl rfl ?_
    refine j_getA O cfX5 3 (Nat.le_of_ble_eq_true rfl) ⟨_, rfl⟩ q1571 dX5_count_152 h (fun k25 h => ?_)
    refine j_iconst O dX5_count_155 ?_
    refine j_iald O dX5_count_156 h (fun v26 h => ?_)
    exact j_iret O hr dX5_count_157 h
  have h := h.2 e12
  refine j_tableOut O (tgt := 158) dX5_count_6 ca (by omega) (by decide) ?_
  refine j_iload_n O 1 1 dX5_count_158 rfl rfl ?_
  refine j_i2l O dX5_count_159 h (fun h => ?_)
  refine j_ldc2 (m := 13) O dX5_count_160 q2269 l2_13 ?_
  refine j_ldc2 (m := 15) O dX5_count_163 q2270 l2_15 ?_
  refine fin_I O ⟨Nat.zero_le _, Nat.zero_le _⟩ (run_S (As := [vL (p1), vL (13), vL (15)]) (st := []) O (mt_X5_in (xl x) (xG x) _ _ _ _ _ h) q1772 q1773 q131 q1774 hy_X5_in.2 (Nat.le_of_ble_eq_true rfl) (Nat.le_of_ble_eq_true rfl) ⟨Nat.zero_le _, Nat.zero_le _⟩ rfl (Nat.le_of_ble_eq_true rfl) dX5_count_166) (fun r27 w28 h => ?_)
  obtain ⟨c29, h⟩ := h
  refine j_if_eq O (tgt := 186) dX5_count_169 (by decide) c29 h (fun h => ?_) (fun h => ?_)
  · refine j_iconst O dX5_count_186 ?_
    exact j_iret O hr dX5_count_187 h
  · refine j_aload_n O 0 0 dX5_count_172 rfl rfl ?_
    refine j_getA O cfX5 3 (Nat.le_of_ble_eq_true rfl) ⟨_, rfl⟩ q1571 dX5_count_173 h (fun k30 h => ?_)
    refine j_iconst O dX5_count_176 ?_
    refine j_iload_n O 1 1 dX5_count_177 rfl rfl ?_
    refine j_iadd O dX5_count_178 ?_
    refine j_bipush (m := 13) O dX5_count_179 bi_13 ?_
    refine j_isub O dX5_count_181 ?_
    refine j_iald O dX5_count_182 h (fun v31 h => ?_)
    refine j_goto O (tgt := 187) dX5_count_183 (by decide) ?_
    exact j_iret O hr dX5_count_187 h
theorem hy_X5_drawn : (yX5_drawn.cls = "DowryBoxesModel" ∧ yX5_drawn.cls ≠ "java/lang/invoke/MethodHandle" ∧ yX5_drawn.cls ≠ "java/lang/invoke/VarHandle" ∧ (parseMethodDescriptor yX5_drawn.desc).map (fun d => d.parameters.length) = some 2) := by decide +kernel
theorem mt_X5_drawn (l : Launch) (G : GW) (this : Nat) (p1 : Int) (p2 : Int) (w : Wd) (Q : Int → Wd → Prop) (h : wp_X5_drawn this p1 p2 w Q) : MI l G yX5_drawn cX5_drawn 3 (.int) 2 0 0 [.ref (adG G (this)), vI (p1), vI (p2)] w Q := by
  refine met_I (fun G => [.ref (adG G (this)), vI (p1), vI (p2)]) (by decide) (fun G => Nat.le_of_ble_eq_true rfl) (fun x O hl hm hr => ?_)
  subst hl
  have O : OK x "DowryBoxesModel" cX5_drawn 2 := O
  have h : wp_X5_drawn this p1 p2 w Q := h
  unfold wp_X5_drawn at h
  show J x (TI x Q) w 0 0 0 [(0, .ref (adG (xG x) (this))), (1, vI (p1)), (2, vI (p2))] []
  refine j_aload_n O 0 0 dX5_drawn_0 rfl rfl ?_
  refine j_iconst O dX5_drawn_1 ?_
  refine j_putI O cfX5 0 (Nat.le_of_ble_eq_true rfl) rfl q1568 rfl dX5_drawn_2 h (fun w1 h => ?_)
  refine j_iload_n O 1 1 dX5_drawn_5 rfl rfl ?_
  refine j_i2l O dX5_drawn_6 h (fun h => ?_)
  refine j_lconst (m := 0) O dX5_drawn_7 lc_0 ?_
  refine j_aload_n O 0 0 dX5_drawn_8 rfl rfl ?_
  refine j_getI O cfX5 61 (Nat.le_of_ble_eq_true rfl) (.inl rfl) q1629 dX5_drawn_9 h (fun v2 h => ?_)
  refine j_i2l O dX5_drawn_12 h (fun h => ?_)
  refine j_lconst (m := 1) O dX5_drawn_13 lc_1 ?_
  refine j_lsub O dX5_drawn_14 ?_
  refine fin_I O ⟨Nat.zero_le _, Nat.zero_le _⟩ (run_S (As := [vL (p1), vL (0), vL ((v2 - 1))]) (st := []) O (mt_X5_in (xl x) (xG x) _ _ _ _ _ h) q1772 q1773 q131 q1774 hy_X5_in.2 (Nat.le_of_ble_eq_true rfl) (Nat.le_of_ble_eq_true rfl) ⟨Nat.zero_le _, Nat.zero_le _⟩ rfl (Nat.le_of_ble_eq_true rfl) dX5_drawn_15) (fun r3 w4 h => ?_)
  obtain ⟨c5, h⟩ := h
  refine j_if_eq O (tgt := 47) dX5_drawn_18 (by decide) c5 h (fun h => ?_) (fun h => ?_)
  · refine j_iconst O dX5_drawn_47 ?_
    exact j_iret O hr dX5_drawn_48 h
  · refine j_iload_n O 2 2 dX5_drawn_21 rfl rfl ?_
    refine j_i2l O dX5_drawn_22 h (fun h => ?_)
    refine j_lconst (m := 0) O dX5_drawn_23 lc_0 ?_
    refine j_ldc2 (m := 2) O dX5_drawn_24 q2182 l2_2 ?_
    refine fin_I O ⟨Nat.zero_le _, Nat.zero_le _⟩ (run_S (As := [vL (p2), vL (0), vL (2)]) (st := []) O (mt_X5_in (xl x) (xG x) _ _ _ _ _ h) q1772 q1773 q131 q1774 hy_X5_in.2 (Nat.le_of_ble_eq_true rfl) (Nat.le_of_ble_eq_true rfl) ⟨Nat.zero_le _, Nat.zero_le _⟩ rfl (Nat.le_of_ble_eq_true rfl) dX5_drawn_27) (fun r6 w7 h => ?_)
    obtain ⟨c8, h⟩ := h
    refine j_if_eq O (tgt := 47) dX5_drawn_30 (by decide) c8 h (fun h => ?_) (fun h => ?_)
    · refine j_iconst O dX5_drawn_47 ?_
      exact j_iret O hr dX5_drawn_48 h
    · refine j_aload_n O 0 0 dX5_drawn_33 rfl rfl ?_
      refine j_getA O cfX5 60 (Nat.le_of_ble_eq_true rfl) ⟨_, rfl⟩ q1628 dX5_drawn_34 h (fun k9 h => ?_)
      refine j_bipush (m := 6) O dX5_drawn_37 bi_6 ?_
      refine j_iload_n O 2 2 dX5_drawn_39 rfl rfl ?_
      refine j_imul O dX5_drawn_40 ?_
      refine j_iload_n O 1 1 dX5_drawn_41 rfl rfl ?_
      refine j_iadd O dX5_drawn_42 ?_
      refine j_iald O dX5_drawn_43 h (fun v10 h => ?_)
      refine j_goto O (tgt := 48) dX5_drawn_44 (by decide) ?_
      exact j_iret O hr dX5_drawn_48 h
theorem hy_X5_draw : (yX5_draw.cls = "DowryBoxesModel" ∧ yX5_draw.cls ≠ "java/lang/invoke/MethodHandle" ∧ yX5_draw.cls ≠ "java/lang/invoke/VarHandle" ∧ (parseMethodDescriptor yX5_draw.desc).map (fun d => d.parameters.length) = some 1) := by decide +kernel
theorem mt_X5_draw (l : Launch) (G : GW) (this : Nat) (p1 : Int) (w : Wd) (Q : Int → Wd → Prop) (h : wp_X5_draw this p1 w Q) : MI l G yX5_draw cX5_draw 2 (.int) 1 0 0 [.ref (adG G (this)), vI (p1)] w Q := by
  refine met_I (fun G => [.ref (adG G (this)), vI (p1)]) (by decide) (fun G => Nat.le_of_ble_eq_true rfl) (fun x O hl hm hr => ?_)
  subst hl
  have O : OK x "DowryBoxesModel" cX5_draw 1 := O
  have h : wp_X5_draw this p1 w Q := h
  unfold wp_X5_draw at h
  show J x (TI x Q) w 0 0 0 [(0, .ref (adG (xG x) (this))), (1, vI (p1))] []
  refine j_aload_n O 0 0 dX5_draw_0 rfl rfl ?_
  refine j_aload_n O 0 0 dX5_draw_1 rfl rfl ?_
  refine j_getL O cfX5 59 (Nat.le_of_ble_eq_true rfl) rfl q1627 dX5_draw_2 h (fun v1 h => ?_)
  refine j_ldc2 (m := 1103) O dX5_draw_5 q2258 l2_1103 ?_
  refine j_lmul O dX5_draw_8 ?_
  refine j_ldc2 (m := 12345) O dX5_draw_9 q2259 l2_12345 ?_
  refine j_ladd O dX5_draw_12 ?_
  refine j_ldc2 (m := 1000003) O dX5_draw_13 q2260 l2_1000003 ?_
  refine j_lrem O dX5_draw_16 h (fun h => ?_)
  refine j_putL O cfX5 59 (Nat.le_of_ble_eq_true rfl) rfl q1627 rfl dX5_draw_17 h (fun w2 h => ?_)
  refine j_aload_n O 0 0 dX5_draw_20 rfl rfl ?_
  refine j_getL O cfX5 59 (Nat.le_of_ble_eq_true rfl) rfl q1627 dX5_draw_21 h (fun v3 h => ?_)
  refine j_iload_n O 1 1 dX5_draw_24 rfl rfl ?_
  refine j_i2l O dX5_draw_25 h (fun h => ?_)
  refine j_lrem O dX5_draw_26 h (fun h => ?_)
  refine j_l2i O dX5_draw_27 ?_
  exact j_iret O hr dX5_draw_28 h
theorem hy_X5_tell : (yX5_tell.cls = "DowryBoxesModel" ∧ yX5_tell.cls ≠ "java/lang/invoke/MethodHandle" ∧ yX5_tell.cls ≠ "java/lang/invoke/VarHandle" ∧ (parseMethodDescriptor yX5_tell.desc).map (fun d => d.parameters.length) = some 1) := by decide +kernel
theorem wk_X5_tell_10 {x : Cx} (O : OK x "DowryBoxesModel" cX5_tell 1) (hr : (xM x).sig.returnType = some .int) (hm : xn x = 2) {Q : Int → Wd → Prop} (this : Nat) (x1 : Int) (s0 : Int) (s1 : Nat) (w : Wd) (h : wp_X5_tell_10 Q this x1 s0 s1 w) : J x (TI x Q) w 0 0 10 [(0, .ref (adG (xG x) (this))), (1, vI (x1))] [vI (s0), .ref (adG (xG x) (s1))] := by
  unfold wp_X5_tell_10 at h
  refine j_putI O cfX5 1 (Nat.le_of_ble_eq_true rfl) rfl q1569 rfl dX5_tell_10 h (fun w1 h => ?_)
  refine j_iload_n O 1 1 dX5_tell_13 rfl rfl ?_
  obtain ⟨c2, h⟩ := h
  refine j_if_ge O (tgt := 28) dX5_tell_14 (by decide) c2 h (fun h => ?_) (fun h => ?_)
  · refine j_iload_n O 1 1 dX5_tell_28 rfl rfl ?_
    exact j_iret O hr dX5_tell_29 h
  · refine j_aload_n O 0 0 dX5_tell_17 rfl rfl ?_
    refine j_getA O cfX5 2 (Nat.le_of_ble_eq_true rfl) ⟨_, rfl⟩ q1570 dX5_tell_18 h (fun k3 h => ?_)
    refine j_iload_n O 1 1 dX5_tell_21 rfl rfl ?_
    refine j_ineg O dX5_tell_22 ?_
    refine j_dup2_11 O dX5_tell_23 rfl rfl ?_
    refine j_iald O dX5_tell_24 h (fun v4 h => ?_)
    refine j_iconst O dX5_tell_25 ?_
    refine j_iadd O dX5_tell_26 ?_
    refine j_iast O dX5_tell_27 h (fun w5 h => ?_)
    refine j_iload_n O 1 1 dX5_tell_28 rfl rfl ?_
    exact j_iret O hr dX5_tell_29 h
theorem mt_X5_tell (l : Launch) (G : GW) (this : Nat) (p1 : Int) (w : Wd) (Q : Int → Wd → Prop) (h : wp_X5_tell this p1 w Q) : MI l G yX5_tell cX5_tell 2 (.int) 1 0 0 [.ref (adG G (this)), vI (p1)] w Q := by
  refine met_I (fun G => [.ref (adG G (this)), vI (p1)]) (by decide) (fun G => Nat.le_of_ble_eq_true rfl) (fun x O hl hm hr => ?_)
  subst hl
  have O : OK x "DowryBoxesModel" cX5_tell 1 := O
  have h : wp_X5_tell this p1 w Q := h
  unfold wp_X5_tell at h
  show J x (TI x Q) w 0 0 0 [(0, .ref (adG (xG x) (this))), (1, vI (p1))] []
  refine j_aload_n O 0 0 dX5_tell_0 rfl rfl ?_
  refine j_iload_n O 1 1 dX5_tell_1 rfl rfl ?_
  obtain ⟨c1, h⟩ := h
  refine j_if_ge O (tgt := 9) dX5_tell_2 (by decide) c1 h (fun h => ?_) (fun h => ?_)
  · refine j_iconst O dX5_tell_9 ?_
    exact (J.sub [0, 1] rfl <| wk_X5_tell_10 O hr hm  _ _ _ _  _ h)
  · refine j_iload_n O 1 1 dX5_tell_5 rfl rfl ?_
    refine j_goto O (tgt := 10) dX5_tell_6 (by decide) ?_
    exact (J.sub [0, 1] rfl <| wk_X5_tell_10 O hr hm  _ _ _ _  _ h)
theorem hy_X5_keepAll : (yX5_keepAll.cls = "DowryBoxesModel" ∧ yX5_keepAll.cls ≠ "java/lang/invoke/MethodHandle" ∧ yX5_keepAll.cls ≠ "java/lang/invoke/VarHandle" ∧ (parseMethodDescriptor yX5_keepAll.desc).map (fun d => d.parameters.length) = some 1) := by decide +kernel
theorem wk_X5_keepAll_2 {x : Cx} (O : OK x "DowryBoxesModel" cX5_keepAll 1) (hr : (xM x).sig.returnType = none) (hm : xn x = 3) {Q : Wd → Prop} (this : Nat) (x1 : Int) : ∀ (n : Nat) (x2 : Int) (w : Wd), wp_X5_keepAll_2 Q this x1 n x2 w → J x (TV x Q) w 0 0 2 [(0, .ref (adG (xG x) (this))), (1, vI (x1)), (2, vI (x2))] [] := by
  intro n
  induction n with
  | zero => intro x2 w h; exact False.elim h
  | succ n ih =>
    intro x2 w h
    rw [wp_X5_keepAll_2] at h
    refine j_iload_n O 2 2 dX5_keepAll_2 rfl rfl ?_
    refine j_bipush (m := 75) O dX5_keepAll_3 bi_75 ?_
    obtain ⟨c1, h⟩ := h
    refine j_icmp_ge O (tgt := 33) dX5_keepAll_5 (by decide) c1 (by decide) h (fun h => ?_) (fun h => ?_)
    · exact j_vret O hr dX5_keepAll_33 h
    · refine j_aload_n O 0 0 dX5_keepAll_8 rfl rfl ?_
      refine j_getA O cfX5 6 (Nat.le_of_ble_eq_true rfl) ⟨_, rfl⟩ q1574 dX5_keepAll_9 h (fun k2 h => ?_)
      refine j_bipush (m := 75) O dX5_keepAll_12 bi_75 ?_
      refine j_iload_n O 1 1 dX5_keepAll_14 rfl rfl ?_
      refine j_imul O dX5_keepAll_15 ?_
      refine j_iload_n O 2 2 dX5_keepAll_16 rfl rfl ?_
      refine j_iadd O dX5_keepAll_17 ?_
      refine j_aload_n O 0 0 dX5_keepAll_18 rfl rfl ?_
      refine j_getA O cfX5 3 (Nat.le_of_ble_eq_true rfl) ⟨_, rfl⟩ q1571 dX5_keepAll_19 h (fun k3 h => ?_)
      refine j_iconst O dX5_keepAll_22 ?_
      refine j_iload_n O 2 2 dX5_keepAll_23 rfl rfl ?_
      refine j_iadd O dX5_keepAll_24 ?_
      refine j_iald O dX5_keepAll_25 h (fun v4 h => ?_)
      refine j_iast O dX5_keepAll_26 h (fun w5 h => ?_)
      refine j_iinc (L' := [(2, vI (x2 + 1)), (0, .ref (adG (xG x) (this))), (1, vI (x1))]) O 2 dX5_keepAll_27 rfl (by rw [hm]; decide) rfl ?_
      refine j_goto O (tgt := 2) dX5_keepAll_30 (by decide) ?_
      exact (J.sub [1, 2, 0] rfl <| ih _ _ h)
theorem mt_X5_keepAll (l : Launch) (G : GW) (this : Nat) (p1 : Int) (w : Wd) (Q : Wd → Prop) (h : wp_X5_keepAll this p1 w Q) : MV l G yX5_keepAll cX5_keepAll 3 1 0 0 [.ref (adG G (this)), vI (p1)] w Q := by
  refine met_V (fun G => [.ref (adG G (this)), vI (p1)]) (by decide) (fun G => Nat.le_of_ble_eq_true rfl) (fun x O hl hm hr _ => ?_)
  subst hl
  have O : OK x "DowryBoxesModel" cX5_keepAll 1 := O
  have h : wp_X5_keepAll this p1 w Q := h
  unfold wp_X5_keepAll at h
  show J x (TV x Q) w 0 0 0 [(0, .ref (adG (xG x) (this))), (1, vI (p1))] []
  refine j_iconst O dX5_keepAll_0 ?_
  refine j_istore_n (L' := [(2, vI (0)), (0, .ref (adG (xG x) (this))), (1, vI (p1))]) O 2 dX5_keepAll_1 rfl (by rw [hm]; decide) rfl ?_
  exact (J.sub [1, 2, 0] rfl <| wk_X5_keepAll_2 O hr hm  _ _  FU _ _ h)
theorem hy_X5_is : (yX5_is.cls = "DowryBoxesModel" ∧ yX5_is.cls ≠ "java/lang/invoke/MethodHandle" ∧ yX5_is.cls ≠ "java/lang/invoke/VarHandle" ∧ (parseMethodDescriptor yX5_is.desc).map (fun d => d.parameters.length) = some 2) := by decide +kernel
theorem mt_X5_is (l : Launch) (G : GW) (p1 : Int) (p2 : Int) (w : Wd) (Q : Int → Wd → Prop) (h : wp_X5_is p1 p2 w Q) : MI l G yX5_is cX5_is 2 (.boolean) 1 0 0 [vI (p1), vI (p2)] w Q := by
  refine met_I (fun G => [vI (p1), vI (p2)]) (by decide) (fun G => Nat.le_of_ble_eq_true rfl) (fun x O hl hm hr => ?_)
  subst hl
  have O : OK x "DowryBoxesModel" cX5_is 1 := O
  have h : wp_X5_is p1 p2 w Q := h
  unfold wp_X5_is at h
  show J x (TI x Q) w 0 0 0 [(0, vI (p1)), (1, vI (p2))] []
  refine j_iload_n O 0 0 dX5_is_0 rfl rfl ?_
  refine j_iload_n O 1 1 dX5_is_1 rfl rfl ?_
  refine j_ishr O dX5_is_2 ?_
  refine j_iconst O dX5_is_3 ?_
  refine j_iand O dX5_is_4 ?_
  refine j_iconst O dX5_is_5 ?_
  obtain ⟨c1, h⟩ := h
  refine j_icmp_ne O (tgt := 13) dX5_is_6 (by decide) c1 (by decide) h (fun h => ?_) (fun h => ?_)
  · refine j_iconst O dX5_is_13 ?_
    exact j_zret O hr dX5_is_14 h
  · refine j_iconst O dX5_is_9 ?_
    refine j_goto O (tgt := 14) dX5_is_10 (by decide) ?_
    exact j_zret O hr dX5_is_14 h
theorem hy_X5_canPull : (yX5_canPull.cls = "DowryBoxesModel" ∧ yX5_canPull.cls ≠ "java/lang/invoke/MethodHandle" ∧ yX5_canPull.cls ≠ "java/lang/invoke/VarHandle" ∧ (parseMethodDescriptor yX5_canPull.desc).map (fun d => d.parameters.length) = some 3) := by decide +kernel
theorem mt_X5_canPull (l : Launch) (G : GW) (this : Nat) (p1 : Int) (p2 : Int) (p3 : Int) (w : Wd) (Q : Int → Wd → Prop) (h : wp_X5_canPull this p1 p2 p3 w Q) : MI l G yX5_canPull cX5_canPull 4 (.boolean) 2 0 0 [.ref (adG G (this)), vI (p1), vI (p2), vI (p3)] w Q := by
  refine met_I (fun G => [.ref (adG G (this)), vI (p1), vI (p2), vI (p3)]) (by decide) (fun G => Nat.le_of_ble_eq_true rfl) (fun x O hl hm hr => ?_)
  subst hl
  have O : OK x "DowryBoxesModel" cX5_canPull 2 := O
  have h : wp_X5_canPull this p1 p2 p3 w Q := h
  unfold wp_X5_canPull at h
  show J x (TI x Q) w 0 0 0 [(0, .ref (adG (xG x) (this))), (1, vI (p1)), (2, vI (p2)), (3, vI (p3))] []
  refine j_aload_n O 0 0 dX5_canPull_0 rfl rfl ?_
  refine j_getA O cfX5 3 (Nat.le_of_ble_eq_true rfl) ⟨_, rfl⟩ q1571 dX5_canPull_1 h (fun k1 h => ?_)
  refine j_bipush (m := 8) O dX5_canPull_4 bi_8 ?_
  refine j_bipush (m := 8) O dX5_canPull_6 bi_8 ?_
  refine j_iload_n O 3 3 dX5_canPull_8 rfl rfl ?_
  refine j_imul O dX5_canPull_9 ?_
  refine j_iadd O dX5_canPull_10 ?_
  refine j_iload_n O 2 2 dX5_canPull_11 rfl rfl ?_
  refine j_iadd O dX5_canPull_12 ?_
  refine j_iald O dX5_canPull_13 h (fun v2 h => ?_)
  refine j_iload_n O 1 1 dX5_canPull_14 rfl rfl ?_
  refine fin_I O ⟨Nat.zero_le _, Nat.zero_le _⟩ (run_S (As := [vI (v2), vI (p1)]) (st := []) O (mt_X5_is (xl x) (xG x) _ _ _ _ h) q2056 q2057 q131 q2058 hy_X5_is.2 (Nat.le_of_ble_eq_true rfl) (Nat.le_of_ble_eq_true rfl) ⟨Nat.zero_le _, Nat.zero_le _⟩ rfl (Nat.le_of_ble_eq_true rfl) dX5_canPull_15) (fun r3 w4 h => ?_)
  exact j_zret O hr dX5_canPull_18 h
theorem hy_X5_within : (yX5_within.cls = "DowryBoxesModel" ∧ yX5_within.cls ≠ "java/lang/invoke/MethodHandle" ∧ yX5_within.cls ≠ "java/lang/invoke/VarHandle" ∧ (parseMethodDescriptor yX5_within.desc).map (fun d => d.parameters.length) = some 3) := by decide +kernel
theorem mt_X5_within (l : Launch) (G : GW) (p1 : Int) (p2 : Int) (p3 : Int) (w : Wd) (Q : Int → Wd → Prop) (h : wp_X5_within p1 p2 p3 w Q) : MI l G yX5_within cX5_within 4 (.int) 1 0 0 [vL (p1), vI (p2), vI (p3)] w Q := by
  refine met_I (fun G => [vL (p1), vI (p2), vI (p3)]) (by decide) (fun G => Nat.le_of_ble_eq_true rfl) (fun x O hl hm hr => ?_)
  subst hl
  have O : OK x "DowryBoxesModel" cX5_within 1 := O
  have h : wp_X5_within p1 p2 p3 w Q := h
  unfold wp_X5_within at h
  show J x (TI x Q) w 0 0 0 [(0, vL (p1)), (2, vI (p2)), (3, vI (p3))] []
  refine j_lload_n O 0 0 dX5_within_0 rfl rfl ?_
  refine j_iload_n O 1 2 dX5_within_1 rfl rfl ?_
  refine j_i2l O dX5_within_2 h (fun h => ?_)
  obtain ⟨c1, h⟩ := h
  obtain ⟨c2, h⟩ := h
  refine j_lcif_ge O (tgt := 11) dX5_within_3 rfl dX5_within_4 (by decide) c1 c2 h (fun h => ?_) (fun h => ?_)
  · refine j_lload_n O 0 0 dX5_within_11 rfl rfl ?_
    refine j_iload_n O 2 3 dX5_within_12 rfl rfl ?_
    refine j_i2l O dX5_within_13 h (fun h => ?_)
    obtain ⟨c3, h⟩ := h
    obtain ⟨c4, h⟩ := h
    refine j_lcif_le O (tgt := 22) dX5_within_14 rfl dX5_within_15 (by decide) c3 c4 h (fun h => ?_) (fun h => ?_)
    · refine j_lload_n O 0 0 dX5_within_22 rfl rfl ?_
      refine j_l2i O dX5_within_23 ?_
      exact j_iret O hr dX5_within_24 h
    · refine j_iload_n O 2 3 dX5_within_18 rfl rfl ?_
      refine j_goto O (tgt := 24) dX5_within_19 (by decide) ?_
      exact j_iret O hr dX5_within_24 h
  · refine j_iload_n O 1 2 dX5_within_7 rfl rfl ?_
    refine j_goto O (tgt := 24) dX5_within_8 (by decide) ?_
    exact j_iret O hr dX5_within_24 h
theorem hy_X5_notesAt : (yX5_notesAt.cls = "DowryBoxesModel" ∧ yX5_notesAt.cls ≠ "java/lang/invoke/MethodHandle" ∧ yX5_notesAt.cls ≠ "java/lang/invoke/VarHandle" ∧ (parseMethodDescriptor yX5_notesAt.desc).map (fun d => d.parameters.length) = some 2) := by decide +kernel
theorem mt_X5_notesAt (l : Launch) (G : GW) (this : Nat) (p1 : Int) (p2 : Int) (w : Wd) (Q : Int → Wd → Prop) (h : wp_X5_notesAt this p1 p2 w Q) : MI l G yX5_notesAt cX5_notesAt 3 (.int) 1 0 0 [.ref (adG G (this)), vI (p1), vI (p2)] w Q := by
  refine met_I (fun G => [.ref (adG G (this)), vI (p1), vI (p2)]) (by decide) (fun G => Nat.le_of_ble_eq_true rfl) (fun x O hl hm hr => ?_)
  subst hl
  have O : OK x "DowryBoxesModel" cX5_notesAt 1 := O
  have h : wp_X5_notesAt this p1 p2 w Q := h
  unfold wp_X5_notesAt at h
  show J x (TI x Q) w 0 0 0 [(0, .ref (adG (xG x) (this))), (1, vI (p1)), (2, vI (p2))] []
  refine j_aload_n O 0 0 dX5_notesAt_0 rfl rfl ?_
  refine j_getA O cfX5 3 (Nat.le_of_ble_eq_true rfl) ⟨_, rfl⟩ q1571 dX5_notesAt_1 h (fun k1 h => ?_)
  refine j_bipush (m := 8) O dX5_notesAt_4 bi_8 ?_
  refine j_bipush (m := 8) O dX5_notesAt_6 bi_8 ?_
  refine j_iload_n O 1 1 dX5_notesAt_8 rfl rfl ?_
  refine j_imul O dX5_notesAt_9 ?_
  refine j_iadd O dX5_notesAt_10 ?_
  refine j_iload_n O 2 2 dX5_notesAt_11 rfl rfl ?_
  refine j_iadd O dX5_notesAt_12 ?_
  refine j_iald O dX5_notesAt_13 h (fun v2 h => ?_)
  refine j_aload_n O 0 0 dX5_notesAt_14 rfl rfl ?_
  refine j_getA O cfX5 3 (Nat.le_of_ble_eq_true rfl) ⟨_, rfl⟩ q1571 dX5_notesAt_15 h (fun k3 h => ?_)
  refine j_bipush (m := 56) O dX5_notesAt_18 bi_56 ?_
  refine j_iload_n O 1 1 dX5_notesAt_20 rfl rfl ?_
  refine j_iadd O dX5_notesAt_21 ?_
  refine j_iald O dX5_notesAt_22 h (fun v4 h => ?_)
  refine j_iconst O dX5_notesAt_23 ?_
  refine j_ixor O dX5_notesAt_24 ?_
  refine j_iand O dX5_notesAt_25 ?_
  exact j_iret O hr dX5_notesAt_26 h
theorem hy_X5_ones : (yX5_ones.cls = "DowryBoxesModel" ∧ yX5_ones.cls ≠ "java/lang/invoke/MethodHandle" ∧ yX5_ones.cls ≠ "java/lang/invoke/VarHandle" ∧ (parseMethodDescriptor yX5_ones.desc).map (fun d => d.parameters.length) = some 1) := by decide +kernel
theorem wk_X5_ones_4 {x : Cx} (O : OK x "DowryBoxesModel" cX5_ones 1) (hr : (xM x).sig.returnType = some .int) (hm : xn x = 3) {Q : Int → Wd → Prop} (x0 : Int) : ∀ (n : Nat) (x1 : Int) (x2 : Int) (w : Wd), wp_X5_ones_4 Q x0 n x1 x2 w → J x (TI x Q) w 0 0 4 [(0, vI (x0)), (1, vI (x1)), (2, vI (x2))] [] := by
  intro n
  induction n with
  | zero => intro x1 x2 w h; exact False.elim h
  | succ n ih =>
    intro x1 x2 w h
    rw [wp_X5_ones_4] at h
    refine j_iload_n O 2 2 dX5_ones_4 rfl rfl ?_
    refine j_bipush (m := 8) O dX5_ones_5 bi_8 ?_
    obtain ⟨c1, h⟩ := h
    refine j_icmp_ge O (tgt := 24) dX5_ones_7 (by decide) c1 (by decide) h (fun h => ?_) (fun h => ?_)
    · refine j_iload_n O 1 1 dX5_ones_24 rfl rfl ?_
      exact j_iret O hr dX5_ones_25 h
    · refine j_iload_n O 1 1 dX5_ones_10 rfl rfl ?_
      refine j_iload_n O 0 0 dX5_ones_11 rfl rfl ?_
      refine j_iload_n O 2 2 dX5_ones_12 rfl rfl ?_
      refine j_ishr O dX5_ones_13 ?_
      refine j_iconst O dX5_ones_14 ?_
      refine j_iand O dX5_ones_15 ?_
      refine j_iadd O dX5_ones_16 ?_
      refine j_istore_n (L' := [(1, vI (x1 + (ian (isr x0 x2) 1))), (0, vI (x0)), (2, vI (x2))]) O 1 dX5_ones_17 rfl (by rw [hm]; decide) rfl ?_
      refine j_iinc (L' := [(2, vI (x2 + 1)), (1, vI (x1 + (ian (isr x0 x2) 1))), (0, vI (x0))]) O 2 dX5_ones_18 rfl (by rw [hm]; decide) rfl ?_
      refine j_goto O (tgt := 4) dX5_ones_21 (by decide) ?_
      exact (J.sub [2, 1, 0] rfl <| ih _ _ _ h)
theorem mt_X5_ones (l : Launch) (G : GW) (p1 : Int) (w : Wd) (Q : Int → Wd → Prop) (h : wp_X5_ones p1 w Q) : MI l G yX5_ones cX5_ones 3 (.int) 1 0 0 [vI (p1)] w Q := by
  refine met_I (fun G => [vI (p1)]) (by decide) (fun G => Nat.le_of_ble_eq_true rfl) (fun x O hl hm hr => ?_)
  subst hl
  have O : OK x "DowryBoxesModel" cX5_ones 1 := O
  have h : wp_X5_ones p1 w Q := h
  unfold wp_X5_ones at h
  show J x (TI x Q) w 0 0 0 [(0, vI (p1))] []
  refine j_iconst O dX5_ones_0 ?_
  refine j_istore_n (L' := [(1, vI (0)), (0, vI (p1))]) O 1 dX5_ones_1 rfl (by rw [hm]; decide) rfl ?_
  refine j_iconst O dX5_ones_2 ?_
  refine j_istore_n (L' := [(2, vI (0)), (1, vI (0)), (0, vI (p1))]) O 2 dX5_ones_3 rfl (by rw [hm]; decide) rfl ?_
  exact (J.sub [2, 1, 0] rfl <| wk_X5_ones_4 O hr hm  _  FU _ _ _ h)
theorem hy_X5_notesOf : (yX5_notesOf.cls = "DowryBoxesModel" ∧ yX5_notesOf.cls ≠ "java/lang/invoke/MethodHandle" ∧ yX5_notesOf.cls ≠ "java/lang/invoke/VarHandle" ∧ (parseMethodDescriptor yX5_notesOf.desc).map (fun d => d.parameters.length) = some 1) := by decide +kernel
theorem wk_X5_notesOf_4 {x : Cx} (O : OK x "DowryBoxesModel" cX5_notesOf 2) (hr : (xM x).sig.returnType = some .int) (hm : xn x = 4) {Q : Int → Wd → Prop} (this : Nat) (x1 : Int) : ∀ (n : Nat) (x2 : Int) (x3 : Int) (w : Wd), wp_X5_notesOf_4 Q this x1 n x2 x3 w → J x (TI x Q) w 0 0 4 [(0, .ref (adG (xG x) (this))), (1, vI (x1)), (2, vI (x2)), (3, vI (x3))] [] := by
  intro n
  induction n with
  | zero => intro x2 x3 w h; exact False.elim h
  | succ n ih =>
    intro x2 x3 w h
    rw [wp_X5_notesOf_4] at h
    refine j_iload_n O 3 3 dX5_notesOf_4 rfl rfl ?_
    refine j_bipush (m := 8) O dX5_notesOf_5 bi_8 ?_
    obtain ⟨c1, h⟩ := h
    refine j_icmp_ge O (tgt := 28) dX5_notesOf_7 (by decide) c1 (by decide) h (fun h => ?_) (fun h => ?_)
    · refine j_iload_n O 2 2 dX5_notesOf_28 rfl rfl ?_
      exact j_iret O hr dX5_notesOf_29 h
    · refine j_iload_n O 2 2 dX5_notesOf_10 rfl rfl ?_
      refine j_aload_n O 0 0 dX5_notesOf_11 rfl rfl ?_
      refine j_iload_n O 1 1 dX5_notesOf_12 rfl rfl ?_
      refine j_iload_n O 3 3 dX5_notesOf_13 rfl rfl ?_
      obtain ⟨e4, h⟩ := h
      refine fin_I O ⟨Nat.zero_le _, Nat.zero_le _⟩ (run_V (As := [vI (x1), vI (x3)]) (st := [vI (x2)]) O (mt_X5_notesAt (xl x) (xG x) _ _ _ _ _ h) e4 cfX5.1 q1801 q1803 qs53 q131 q1804 hy_X5_notesAt (Nat.le_of_ble_eq_true rfl) (Nat.le_of_ble_eq_true rfl) ⟨Nat.zero_le _, Nat.zero_le _⟩ rfl (Nat.le_of_ble_eq_true rfl) dX5_notesOf_14) (fun r2 w3 h => ?_)
      refine fin_I O ⟨Nat.zero_le _, Nat.zero_le _⟩ (run_S (As := [vI (r2)]) (st := [vI (x2)]) O (mt_X5_ones (xl x) (xG x) _ _ _ h) q1805 q1806 q131 q1807 hy_X5_ones.2 (Nat.le_of_ble_eq_true rfl) (Nat.le_of_ble_eq_true rfl) ⟨Nat.zero_le _, Nat.zero_le _⟩ rfl (Nat.le_of_ble_eq_true rfl) dX5_notesOf_17) (fun r5 w6 h => ?_)
      refine j_iadd O dX5_notesOf_20 ?_
      refine j_istore_n (L' := [(2, vI (x2 + r5)), (0, .ref (adG (xG x) (this))), (1, vI (x1)), (3, vI (x3))]) O 2 dX5_notesOf_21 rfl (by rw [hm]; decide) rfl ?_
      refine j_iinc (L' := [(3, vI (x3 + 1)), (2, vI (x2 + r5)), (0, .ref (adG (xG x) (this))), (1, vI (x1))]) O 3 dX5_notesOf_22 rfl (by rw [hm]; decide) rfl ?_
      refine j_goto O (tgt := 4) dX5_notesOf_25 (by decide) ?_
      exact (J.sub [2, 3, 1, 0] rfl <| ih _ _ _ h)
theorem mt_X5_notesOf (l : Launch) (G : GW) (this : Nat) (p1 : Int) (w : Wd) (Q : Int → Wd → Prop) (h : wp_X5_notesOf this p1 w Q) : MI l G yX5_notesOf cX5_notesOf 4 (.int) 2 0 0 [.ref (adG G (this)), vI (p1)] w Q := by
  refine met_I (fun G => [.ref (adG G (this)), vI (p1)]) (by decide) (fun G => Nat.le_of_ble_eq_true rfl) (fun x O hl hm hr => ?_)
  subst hl
  have O : OK x "DowryBoxesModel" cX5_notesOf 2 := O
  have h : wp_X5_notesOf this p1 w Q := h
  unfold wp_X5_notesOf at h
  show J x (TI x Q) w 0 0 0 [(0, .ref (adG (xG x) (this))), (1, vI (p1))] []
  refine j_iconst O dX5_notesOf_0 ?_
  refine j_istore_n (L' := [(2, vI (0)), (0, .ref (adG (xG x) (this))), (1, vI (p1))]) O 2 dX5_notesOf_1 rfl (by rw [hm]; decide) rfl ?_
  refine j_iconst O dX5_notesOf_2 ?_
  refine j_istore_n (L' := [(3, vI (0)), (2, vI (0)), (0, .ref (adG (xG x) (this))), (1, vI (p1))]) O 3 dX5_notesOf_3 rfl (by rw [hm]; decide) rfl ?_
  exact (J.sub [2, 3, 1, 0] rfl <| wk_X5_notesOf_4 O hr hm  _ _  FU _ _ _ h)
theorem hy_X5_earOf : (yX5_earOf.cls = "DowryBoxesModel" ∧ yX5_earOf.cls ≠ "java/lang/invoke/MethodHandle" ∧ yX5_earOf.cls ≠ "java/lang/invoke/VarHandle" ∧ (parseMethodDescriptor yX5_earOf.desc).map (fun d => d.parameters.length) = some 2) := by decide +kernel
theorem wk_X5_earOf_5 {x : Cx} (O : OK x "DowryBoxesModel" cX5_earOf 2) (hr : (xM x).sig.returnType = some .int) (hm : xn x = 5) {Q : Int → Wd → Prop} (this : Nat) (x1 : Int) (x2 : Int) : ∀ (n : Nat) (x3 : Int) (x4 : Int) (w : Wd), wp_X5_earOf_5 Q this x1 x2 n x3 x4 w → J x (TI x Q) w 0 0 5 [(0, .ref (adG (xG x) (this))), (1, vI (x1)), (2, vI (x2)), (3, vI (x3)), (4, vI (x4))] [] := by
  intro n
  induction n with
  | zero => intro x3 x4 w h; exact False.elim h
  | succ n ih =>
    intro x3 x4 w h
    rw [wp_X5_earOf_5] at h
    refine j_iload O 4 dX5_earOf_5 rfl ?_
    refine j_bipush (m := 8) O dX5_earOf_7 bi_8 ?_
    obtain ⟨c1, h⟩ := h
    refine j_icmp_ge O (tgt := 40) dX5_earOf_9 (by decide) c1 (by decide) h (fun h => ?_) (fun h => ?_)
    · refine j_iload_n O 3 3 dX5_earOf_40 rfl rfl ?_
      exact j_iret O hr dX5_earOf_41 h
    · refine j_iload_n O 3 3 dX5_earOf_12 rfl rfl ?_
      refine j_aload_n O 0 0 dX5_earOf_13 rfl rfl ?_
      refine j_iload_n O 1 1 dX5_earOf_14 rfl rfl ?_
      refine j_iload O 4 dX5_earOf_15 rfl ?_
      obtain ⟨e4, h⟩ := h
      refine fin_I O ⟨Nat.zero_le _, Nat.zero_le _⟩ (run_V (As := [vI (x1), vI (x4)]) (st := [vI (x3)]) O (mt_X5_notesAt (xl x) (xG x) _ _ _ _ _ h) e4 cfX5.1 q1801 q1803 qs53 q131 q1804 hy_X5_notesAt (Nat.le_of_ble_eq_true rfl) (Nat.le_of_ble_eq_true rfl) ⟨Nat.zero_le _, Nat.zero_le _⟩ rfl (Nat.le_of_ble_eq_true rfl) dX5_earOf_17) (fun r2 w3 h => ?_)
      refine j_aload_n O 0 0 dX5_earOf_20 rfl rfl ?_
      refine j_getA O cfX5 3 (Nat.le_of_ble_eq_true rfl) ⟨_, rfl⟩ q1571 dX5_earOf_21 h (fun k5 h => ?_)
      refine j_bipush (m := 80) O dX5_earOf_24 bi_80 ?_
      refine j_iload_n O 2 2 dX5_earOf_26 rfl rfl ?_
      refine j_iadd O dX5_earOf_27 ?_
      refine j_iald O dX5_earOf_28 h (fun v6 h => ?_)
      refine j_ishr O dX5_earOf_29 ?_
      refine j_iconst O dX5_earOf_30 ?_
      refine j_iand O dX5_earOf_31 ?_
      refine j_iadd O dX5_earOf_32 ?_
      refine j_istore_n (L' := [(3, vI (x3 + (ian (isr r2 v6) 1))), (0, .ref (adG (xG x) (this))), (1, vI (x1)), (2, vI (x2)), (4, vI (x4))]) O 3 dX5_earOf_33 rfl (by rw [hm]; decide) rfl ?_
      refine j_iinc (L' := [(4, vI (x4 + 1)), (3, vI (x3 + (ian (isr r2 v6) 1))), (0, .ref (adG (xG x) (this))), (1, vI (x1)), (2, vI (x2))]) O 4 dX5_earOf_34 rfl (by rw [hm]; decide) rfl ?_
      refine j_goto O (tgt := 5) dX5_earOf_37 (by decide) ?_
      exact (J.sub [2, 3, 4, 1, 0] rfl <| ih _ _ _ h)
theorem mt_X5_earOf (l : Launch) (G : GW) (this : Nat) (p1 : Int) (p2 : Int) (w : Wd) (Q : Int → Wd → Prop) (h : wp_X5_earOf this p1 p2 w Q) : MI l G yX5_earOf cX5_earOf 5 (.int) 2 0 0 [.ref (adG G (this)), vI (p1), vI (p2)] w Q := by
  refine met_I (fun G => [.ref (adG G (this)), vI (p1), vI (p2)]) (by decide) (fun G => Nat.le_of_ble_eq_true rfl) (fun x O hl hm hr => ?_)
  subst hl
  have O : OK x "DowryBoxesModel" cX5_earOf 2 := O
  have h : wp_X5_earOf this p1 p2 w Q := h
  unfold wp_X5_earOf at h
  show J x (TI x Q) w 0 0 0 [(0, .ref (adG (xG x) (this))), (1, vI (p1)), (2, vI (p2))] []
  refine j_iconst O dX5_earOf_0 ?_
  refine j_istore_n (L' := [(3, vI (0)), (0, .ref (adG (xG x) (this))), (1, vI (p1)), (2, vI (p2))]) O 3 dX5_earOf_1 rfl (by rw [hm]; decide) rfl ?_
  refine j_iconst O dX5_earOf_2 ?_
  refine j_istore (L' := [(4, vI (0)), (3, vI (0)), (0, .ref (adG (xG x) (this))), (1, vI (p1)), (2, vI (p2))]) O dX5_earOf_3 (by rw [hm]; decide) rfl ?_
  exact (J.sub [2, 3, 4, 1, 0] rfl <| wk_X5_earOf_5 O hr hm  _ _ _  FU _ _ _ h)
theorem hy_X5_isBox : (yX5_isBox.cls = "DowryBoxesModel" ∧ yX5_isBox.cls ≠ "java/lang/invoke/MethodHandle" ∧ yX5_isBox.cls ≠ "java/lang/invoke/VarHandle" ∧ (parseMethodDescriptor yX5_isBox.desc).map (fun d => d.parameters.length) = some 1) := by decide +kernel
theorem mt_X5_isBox (l : Launch) (G : GW) (this : Nat) (p1 : Int) (w : Wd) (Q : Int → Wd → Prop) (h : wp_X5_isBox this p1 w Q) : MI l G yX5_isBox cX5_isBox 2 (.boolean) 2 0 0 [.ref (adG G (this)), vI (p1)] w Q := by
  refine met_I (fun G => [.ref (adG G (this)), vI (p1)]) (by decide) (fun G => Nat.le_of_ble_eq_true rfl) (fun x O hl hm hr => ?_)
  subst hl
  have O : OK x "DowryBoxesModel" cX5_isBox 2 := O
  have h : wp_X5_isBox this p1 w Q := h
  unfold wp_X5_isBox at h
  show J x (TI x Q) w 0 0 0 [(0, .ref (adG (xG x) (this))), (1, vI (p1))] []
  refine j_iload_n O 1 1 dX5_isBox_0 rfl rfl ?_
  refine j_i2l O dX5_isBox_1 h (fun h => ?_)
  refine j_lconst (m := 0) O dX5_isBox_2 lc_0 ?_
  refine j_aload_n O 0 0 dX5_isBox_3 rfl rfl ?_
  refine j_getA O cfX5 3 (Nat.le_of_ble_eq_true rfl) ⟨_, rfl⟩ q1571 dX5_isBox_4 h (fun k1 h => ?_)
  refine j_iconst O dX5_isBox_7 ?_
  refine j_iald O dX5_isBox_8 h (fun v2 h => ?_)
  refine j_i2l O dX5_isBox_9 h (fun h => ?_)
  refine j_lconst (m := 1) O dX5_isBox_10 lc_1 ?_
  refine j_lsub O dX5_isBox_11 ?_
  refine fin_I O ⟨Nat.zero_le _, Nat.zero_le _⟩ (run_S (As := [vL (p1), vL (0), vL ((v2 - 1))]) (st := []) O (mt_X5_in (xl x) (xG x) _ _ _ _ _ h) q1772 q1773 q131 q1774 hy_X5_in.2 (Nat.le_of_ble_eq_true rfl) (Nat.le_of_ble_eq_true rfl) ⟨Nat.zero_le _, Nat.zero_le _⟩ rfl (Nat.le_of_ble_eq_true rfl) dX5_isBox_12) (fun r3 w4 h => ?_)
  exact j_zret O hr dX5_isBox_15 h
theorem hy_X5_reckon : (yX5_reckon.cls = "DowryBoxesModel" ∧ yX5_reckon.cls ≠ "java/lang/invoke/MethodHandle" ∧ yX5_reckon.cls ≠ "java/lang/invoke/VarHandle" ∧ (parseMethodDescriptor yX5_reckon.desc).map (fun d => d.parameters.length) = some 3) := by decide +kernel
theorem wk_X5_reckon_72 {x : Cx} (O : OK x "DowryBoxesModel" cX5_reckon 1) (hr : (xM x).sig.returnType = some .long) (hm : xn x = 6) {Q : Int → Wd → Prop} (this : Nat) (x2 : Int) (x4 : Int) (s0 : Int) (s1 : Nat) (w : Wd) (h : wp_X5_reckon_72 Q this x2 x4 s0 s1 w) : J x (TL x Q) w 0 0 72 [(0, .ref (adG (xG x) (this))), (2, vL (x2)), (4, vL (x4))] [vI (s0), .ref (adG (xG x) (s1))] := by
  unfold wp_X5_reckon_72 at h
  refine j_putZ O cfX5 38 (Nat.le_of_ble_eq_true rfl) rfl q1606 rfl dX5_reckon_72 h (fun w1 h => ?_)
  refine j_aload_n O 0 0 dX5_reckon_75 rfl rfl ?_
  refine j_getI O cfX5 38 (Nat.le_of_ble_eq_true rfl) (.inr (.inl rfl)) q1606 dX5_reckon_76 h (fun v2 h => ?_)
  obtain ⟨c3, h⟩ := h
  refine j_if_eq O (tgt := 86) dX5_reckon_79 (by decide) c3 h (fun h => ?_) (fun h => ?_)
  · refine j_lload_n O 1 2 dX5_reckon_86 rfl rfl ?_
    refine j_lload O 2 dX5_reckon_87 rfl ?_
    refine j_ldiv O dX5_reckon_89 h (fun h => ?_)
    exact j_lret O hr dX5_reckon_90 h
  · refine j_lconst (m := 0) O dX5_reckon_82 lc_0 ?_
    refine j_goto O (tgt := 90) dX5_reckon_83 (by decide) ?_
    exact j_lret O hr dX5_reckon_90 h
theorem wk_X5_reckon_104 {x : Cx} (O : OK x "DowryBoxesModel" cX5_reckon 1) (hr : (xM x).sig.returnType = some .long) (hm : xn x = 6) {Q : Int → Wd → Prop} (this : Nat) (x2 : Int) (x4 : Int) (s0 : Int) (s1 : Nat) (w : Wd) (h : wp_X5_reckon_104 Q this x2 x4 s0 s1 w) : J x (TL x Q) w 0 0 104 [(0, .ref (adG (xG x) (this))), (2, vL (x2)), (4, vL (x4))] [vI (s0), .ref (adG (xG x) (s1))] := by
  unfold wp_X5_reckon_104 at h
  refine j_putZ O cfX5 38 (Nat.le_of_ble_eq_true rfl) rfl q1606 rfl dX5_reckon_104 h (fun w1 h => ?_)
  refine j_aload_n O 0 0 dX5_reckon_107 rfl rfl ?_
  refine j_getI O cfX5 38 (Nat.le_of_ble_eq_true rfl) (.inr (.inl rfl)) q1606 dX5_reckon_108 h (fun v2 h => ?_)
  obtain ⟨c3, h⟩ := h
  refine j_if_eq O (tgt := 118) dX5_reckon_111 (by decide) c3 h (fun h => ?_) (fun h => ?_)
  · refine j_lload_n O 1 2 dX5_reckon_118 rfl rfl ?_
    refine j_lload O 2 dX5_reckon_119 rfl ?_
    refine j_lrem O dX5_reckon_121 h (fun h => ?_)
    exact j_lret O hr dX5_reckon_122 h
  · refine j_lconst (m := 0) O dX5_reckon_114 lc_0 ?_
    refine j_goto O (tgt := 122) dX5_reckon_115 (by decide) ?_
    exact j_lret O hr dX5_reckon_122 h
theorem mt_X5_reckon (l : Launch) (G : GW) (this : Nat) (p1 : Int) (p2 : Int) (p3 : Int) (w : Wd) (Q : Int → Wd → Prop) (h : wp_X5_reckon this p1 p2 p3 w Q) : ML l G yX5_reckon cX5_reckon 6 1 0 0 [.ref (adG G (this)), vI (p1), vL (p2), vL (p3)] w Q := by
  refine met_L (fun G => [.ref (adG G (this)), vI (p1), vL (p2), vL (p3)]) (by decide) (fun G => Nat.le_of_ble_eq_true rfl) (fun x O hl hm hr => ?_)
  subst hl
  have O : OK x "DowryBoxesModel" cX5_reckon 1 := O
  have h : wp_X5_reckon this p1 p2 p3 w Q := h
  unfold wp_X5_reckon at h
  show J x (TL x Q) w 0 0 0 [(0, .ref (adG (xG x) (this))), (1, vI (p1)), (2, vL (p2)), (4, vL (p3))] []
  refine j_iload_n O 1 1 dX5_reckon_0 rfl rfl ?_
  obtain ⟨ca, h⟩ := h
  rcases Classical.em (p1 = 20) with e0 | e0
  · have h := h.1 e0
    refine j_tableIn O (tgt := 44) dX5_reckon_1 ca (by omega) (by omega) (by rw [e0]; rfl) (by decide) ?_
    refine j_lload_n O 2 2 dX5_reckon_44 rfl rfl ?_
    refine j_lload O 3 dX5_reckon_45 rfl ?_
    refine j_ladd O dX5_reckon_47 ?_
    exact j_lret O hr dX5_reckon_48 h
  have h := h.2 e0
  rcases Classical.em (p1 = 21) with e1 | e1
  · have h := h.1 e1
    refine j_tableIn O (tgt := 49) dX5_reckon_1 ca (by omega) (by omega) (by rw [e1]; rfl) (by decide) ?_
    refine j_lload_n O 2 2 dX5_reckon_49 rfl rfl ?_
    refine j_lload O 3 dX5_reckon_50 rfl ?_
    refine j_lsub O dX5_reckon_52 ?_
    exact j_lret O hr dX5_reckon_53 h
  have h := h.2 e1
  rcases Classical.em (p1 = 22) with e2 | e2
  · have h := h.1 e2
    refine j_tableIn O (tgt := 54) dX5_reckon_1 ca (by omega) (by omega) (by rw [e2]; rfl) (by decide) ?_
    refine j_lload_n O 2 2 dX5_reckon_54 rfl rfl ?_
    refine j_lload O 3 dX5_reckon_55 rfl ?_
    refine j_lmul O dX5_reckon_57 ?_
    exact j_lret O hr dX5_reckon_58 h
  have h := h.2 e2
  rcases Classical.em (p1 = 23) with e3 | e3
  · have h := h.1 e3
    refine j_tableIn O (tgt := 59) dX5_reckon_1 ca (by omega) (by omega) (by rw [e3]; rfl) (by decide) ?_
    refine j_aload_n O 0 0 dX5_reckon_59 rfl rfl ?_
    refine j_lload O 3 dX5_reckon_60 rfl ?_
    refine j_lconst (m := 0) O dX5_reckon_62 lc_0 ?_
    obtain ⟨c1, h⟩ := h
    refine j_lcif_ne O (tgt := 71) dX5_reckon_63 rfl dX5_reckon_64 (by decide) c1 (by decide) h (fun h => ?_) (fun h => ?_)
    · refine j_iconst O dX5_reckon_71 ?_
      exact (J.sub [0, 2, 3] rfl <| wk_X5_reckon_72 O hr hm  _ _ _ _ _  _ h)
    · refine j_iconst O dX5_reckon_67 ?_
      refine j_goto O (tgt := 72) dX5_reckon_68 (by decide) ?_
      exact (J.sub [0, 2, 3] rfl <| wk_X5_reckon_72 O hr hm  _ _ _ _ _  _ h)
  have h := h.2 e3
  rcases Classical.em (p1 = 24) with e4 | e4
  · have h := h.1 e4
    refine j_tableIn O (tgt := 91) dX5_reckon_1 ca (by omega) (by omega) (by rw [e4]; rfl) (by decide) ?_
    refine j_aload_n O 0 0 dX5_reckon_91 rfl rfl ?_
    refine j_lload O 3 dX5_reckon_92 rfl ?_
    refine j_lconst (m := 0) O dX5_reckon_94 lc_0 ?_
    obtain ⟨c2, h⟩ := h
    refine j_lcif_ne O (tgt := 103) dX5_reckon_95 rfl dX5_reckon_96 (by decide) c2 (by decide) h (fun h => ?_) (fun h => ?_)
    · refine j_iconst O dX5_reckon_103 ?_
      exact (J.sub [0, 2, 3] rfl <| wk_X5_reckon_104 O hr hm  _ _ _ _ _  _ h)
    · refine j_iconst O dX5_reckon_99 ?_
      refine j_goto O (tgt := 104) dX5_reckon_100 (by decide) ?_
      exact (J.sub [0, 2, 3] rfl <| wk_X5_reckon_104 O hr hm  _ _ _ _ _  _ h)
  have h := h.2 e4
  rcases Classical.em (p1 = 25) with e5 | e5
  · have h := h.1 e5
    refine j_tableIn O (tgt := 123) dX5_reckon_1 ca (by omega) (by omega) (by rw [e5]; rfl) (by decide) ?_
    refine j_lload_n O 2 2 dX5_reckon_123 rfl rfl ?_
    refine j_lload O 3 dX5_reckon_124 rfl ?_
    obtain ⟨c3, h⟩ := h
    obtain ⟨c4, h⟩ := h
    refine j_lcif_ge O (tgt := 134) dX5_reckon_126 rfl dX5_reckon_127 (by decide) c3 c4 h (fun h => ?_) (fun h => ?_)
    · refine j_lconst (m := 0) O dX5_reckon_134 lc_0 ?_
      exact j_lret O hr dX5_reckon_135 h
    · refine j_lconst (m := 1) O dX5_reckon_130 lc_1 ?_
      refine j_goto O (tgt := 135) dX5_reckon_131 (by decide) ?_
      exact j_lret O hr dX5_reckon_135 h
  have h := h.2 e5
  rcases Classical.em (p1 = 26) with e6 | e6
  · have h := h.1 e6
    refine j_tableIn O (tgt := 136) dX5_reckon_1 ca (by omega) (by omega) (by rw [e6]; rfl) (by decide) ?_
    refine j_lload_n O 2 2 dX5_reckon_136 rfl rfl ?_
    refine j_lload O 3 dX5_reckon_137 rfl ?_
    obtain ⟨c5, h⟩ := h
    obtain ⟨c6, h⟩ := h
    refine j_lcif_le O (tgt := 147) dX5_reckon_139 rfl dX5_reckon_140 (by decide) c5 c6 h (fun h => ?_) (fun h => ?_)
    · refine j_lconst (m := 0) O dX5_reckon_147 lc_0 ?_
      exact j_lret O hr dX5_reckon_148 h
    · refine j_lconst (m := 1) O dX5_reckon_143 lc_1 ?_
      refine j_goto O (tgt := 148) dX5_reckon_144 (by decide) ?_
      exact j_lret O hr dX5_reckon_148 h
  have h := h.2 e6
  refine j_tableOut O (tgt := 149) dX5_reckon_1 ca (by omega) (by decide) ?_
  refine j_lload_n O 2 2 dX5_reckon_149 rfl rfl ?_
  refine j_lload O 3 dX5_reckon_150 rfl ?_
  obtain ⟨c7, h⟩ := h
  obtain ⟨c8, h⟩ := h
  refine j_lcif_ne O (tgt := 160) dX5_reckon_152 rfl dX5_reckon_153 (by decide) c7 c8 h (fun h => ?_) (fun h => ?_)
  · refine j_lconst (m := 0) O dX5_reckon_160 lc_0 ?_
    exact j_lret O hr dX5_reckon_161 h
  · refine j_lconst (m := 1) O dX5_reckon_156 lc_1 ?_
    refine j_goto O (tgt := 161) dX5_reckon_157 (by decide) ?_
    exact j_lret O hr dX5_reckon_161 h
theorem hy_X5_reckonAll : (yX5_reckonAll.cls = "DowryBoxesModel" ∧ yX5_reckonAll.cls ≠ "java/lang/invoke/MethodHandle" ∧ yX5_reckonAll.cls ≠ "java/lang/invoke/VarHandle" ∧ (parseMethodDescriptor yX5_reckonAll.desc).map (fun d => d.parameters.length) = some 2) := by decide +kernel
theorem wk_X5_reckonAll_344 {x : Cx} (O : OK x "DowryBoxesModel" cX5_reckonAll 3) (hr : (xM x).sig.returnType = none) (hm : xn x = 7) {Q : Wd → Prop} (K10 : Int → Int → Wd → Prop) (X10 : Int → Wd → Prop) (this : Nat) (x2 : Int) (x3 : Int) (x4 : Int) (hK10 : ∀ (y3 : Int) (y4 : Int) (w : Wd), K10 y3 y4 w → J x (TV x Q) w 0 0 10 [(0, .ref (adG (xG x) (this))), (2, vI (x2)), (3, vI (y3)), (4, vI (y4))] []) (hX10 : ∀ (y3 : Int) (w : Wd), X10 y3 w → J x (TV x Q) w 0 0 347 [(0, .ref (adG (xG x) (this))), (3, vI (y3))] []) (w : Wd) (h : wp_X5_reckonAll_344 Q K10 X10 this x2 x3 x4 w) : J x (TV x Q) w 0 0 344 [(0, .ref (adG (xG x) (this))), (2, vI (x2)), (3, vI (x3)), (4, vI (x4))] [] := by
  unfold wp_X5_reckonAll_344 at h
  refine j_goto O (tgt := 10) dX5_reckonAll_344 (by decide) ?_
  exact (J.sub [0, 1, 2, 3] rfl <| hK10 _ _ _ h)
theorem wk_X5_reckonAll_198 {x : Cx} (O : OK x "DowryBoxesModel" cX5_reckonAll 3) (hr : (xM x).sig.returnType = none) (hm : xn x = 7) {Q : Wd → Prop} (K10 : Int → Int → Wd → Prop) (X10 : Int → Wd → Prop) (this : Nat) (x2 : Int) (x3 : Int) (x4 : Int) (s0 : Int) (s1 : Int) (s2 : Nat) (hK10 : ∀ (y3 : Int) (y4 : Int) (w : Wd), K10 y3 y4 w → J x (TV x Q) w 0 0 10 [(0, .ref (adG (xG x) (this))), (2, vI (x2)), (3, vI (y3)), (4, vI (y4))] []) (hX10 : ∀ (y3 : Int) (w : Wd), X10 y3 w → J x (TV x Q) w 0 0 347 [(0, .ref (adG (xG x) (this))), (3, vI (y3))] []) (w : Wd) (h : wp_X5_reckonAll_198 Q K10 X10 this x2 x3 x4 s0 s1 s2 w) : J x (TV x Q) w 0 0 198 [(0, .ref (adG (xG x) (this))), (2, vI (x2)), (3, vI (x3)), (4, vI (x4))] [vL (s0), vI (s1), .ref (adG (xG x) (s2))] := by
  unfold wp_X5_reckonAll_198 at h
  refine j_last O dX5_reckonAll_198 h (fun w1 h => ?_)
  refine j_iinc (L' := [(3, vI (x3 + 1)), (0, .ref (adG (xG x) (this))), (2, vI (x2)), (4, vI (x4))]) O 2 dX5_reckonAll_199 rfl (by rw [hm]; decide) rfl ?_
  refine j_goto O (tgt := 344) dX5_reckonAll_202 (by decide) ?_
  exact (J.sub [1, 2, 0, 3] rfl <| wk_X5_reckonAll_344 O hr hm _ _ _ _ _ _ hK10 hX10 _ h)
theorem wk_X5_reckonAll_276 {x : Cx} (O : OK x "DowryBoxesModel" cX5_reckonAll 3) (hr : (xM x).sig.returnType = none) (hm : xn x = 7) {Q : Wd → Prop} (K10 : Int → Int → Wd → Prop) (X10 : Int → Wd → Prop) (this : Nat) (x2 : Int) (x3 : Int) (x4 : Int) (s0 : Int) (s1 : Nat) (hK10 : ∀ (y3 : Int) (y4 : Int) (w : Wd), K10 y3 y4 w → J x (TV x Q) w 0 0 10 [(0, .ref (adG (xG x) (this))), (2, vI (x2)), (3, vI (y3)), (4, vI (y4))] []) (hX10 : ∀ (y3 : Int) (w : Wd), X10 y3 w → J x (TV x Q) w 0 0 347 [(0, .ref (adG (xG x) (this))), (3, vI (y3))] []) (w : Wd) (h : wp_X5_reckonAll_276 Q K10 X10 this x2 x3 x4 s0 s1 w) : J x (TV x Q) w 0 0 276 [(0, .ref (adG (xG x) (this))), (2, vI (x2)), (3, vI (x3)), (4, vI (x4))] [vI (s0), .ref (adG (xG x) (s1))] := by
  unfold wp_X5_reckonAll_276 at h
  refine j_putZ O cfX5 38 (Nat.le_of_ble_eq_true rfl) rfl q1606 rfl dX5_reckonAll_276 h (fun w1 h => ?_)
  refine j_goto O (tgt := 344) dX5_reckonAll_279 (by decide) ?_
  exact (J.sub [0, 1, 2, 3] rfl <| wk_X5_reckonAll_344 O hr hm _ _ _ _ _ _ hK10 hX10 _ h)
theorem wk_X5_reckonAll_271 {x : Cx} (O : OK x "DowryBoxesModel" cX5_reckonAll 3) (hr : (xM x).sig.returnType = none) (hm : xn x = 7) {Q : Wd → Prop} (K10 : Int → Int → Wd → Prop) (X10 : Int → Wd → Prop) (this : Nat) (x2 : Int) (x3 : Int) (x4 : Int) (s0 : Nat) (hK10 : ∀ (y3 : Int) (y4 : Int) (w : Wd), K10 y3 y4 w → J x (TV x Q) w 0 0 10 [(0, .ref (adG (xG x) (this))), (2, vI (x2)), (3, vI (y3)), (4, vI (y4))] []) (hX10 : ∀ (y3 : Int) (w : Wd), X10 y3 w → J x (TV x Q) w 0 0 347 [(0, .ref (adG (xG x) (this))), (3, vI (y3))] []) (w : Wd) (h : wp_X5_reckonAll_271 Q K10 X10 this x2 x3 x4 s0 w) : J x (TV x Q) w 0 0 271 [(0, .ref (adG (xG x) (this))), (2, vI (x2)), (3, vI (x3)), (4, vI (x4))] [.ref (adG (xG x) (s0))] := by
  unfold wp_X5_reckonAll_271 at h
  refine j_iconst O dX5_reckonAll_271 ?_
  refine j_goto O (tgt := 276) dX5_reckonAll_272 (by decide) ?_
  exact (J.sub [0, 1, 2, 3] rfl <| wk_X5_reckonAll_276 O hr hm _ _ _ _ _ _ _ _ hK10 hX10 _ h)
theorem wk_X5_reckonAll_330 {x : Cx} (O : OK x "DowryBoxesModel" cX5_reckonAll 3) (hr : (xM x).sig.returnType = none) (hm : xn x = 7) {Q : Wd → Prop} (K10 : Int → Int → Wd → Prop) (X10 : Int → Wd → Prop) (this : Nat) (x2 : Int) (x3 : Int) (x4 : Int) (x6 : Int) (s0 : Int) (s1 : Int) (hK10 : ∀ (y3 : Int) (y4 : Int) (w : Wd), K10 y3 y4 w → J x (TV x Q) w 0 0 10 [(0, .ref (adG (xG x) (this))), (2, vI (x2)), (3, vI (y3)), (4, vI (y4))] []) (hX10 : ∀ (y3 : Int) (w : Wd), X10 y3 w → J x (TV x Q) w 0 0 347 [(0, .ref (adG (xG x) (this))), (3, vI (y3))] []) (w : Wd) (h : wp_X5_reckonAll_330 Q K10 X10 this x2 x3 x4 x6 s0 s1 w) : J x (TV x Q) w 0 0 330 [(0, .ref (adG (xG x) (this))), (2, vI (x2)), (3, vI (x3)), (4, vI (x4)), (6, vI (x6))] [vL (s0), vL (s1)] := by
  unfold wp_X5_reckonAll_330 at h
  obtain ⟨c1, h⟩ := h
  obtain ⟨c2, h⟩ := h
  refine j_lcif_ne O (tgt := 341) dX5_reckonAll_330 rfl dX5_reckonAll_331 (by decide) c1 c2 h (fun h => ?_) (fun h => ?_)
  · refine j_iinc (L' := [(3, vI (x3 + (-1))), (0, .ref (adG (xG x) (this))), (2, vI (x2)), (4, vI (x4)), (6, vI (x6))]) O 2 dX5_reckonAll_341 rfl (by rw [hm]; decide) rfl ?_
    exact (J.sub [1, 2, 0, 3] rfl <| wk_X5_reckonAll_344 O hr hm _ _ _ _ _ _ hK10 hX10 _ h)
  · refine j_iload O 4 dX5_reckonAll_334 rfl ?_
    refine j_istore (L' := [(4, vI (x6)), (0, .ref (adG (xG x) (this))), (2, vI (x2)), (3, vI (x3)), (6, vI (x6))]) O dX5_reckonAll_336 (by rw [hm]; decide) rfl ?_
    refine j_goto O (tgt := 344) dX5_reckonAll_338 (by decide) ?_
    exact (J.sub [1, 2, 3, 0] rfl <| wk_X5_reckonAll_344 O hr hm _ _ _ _ _ _ hK10 hX10 _ h)
theorem wk_X5_reckonAll_95 {x : Cx} (O : OK x "DowryBoxesModel" cX5_reckonAll 3) (hr : (xM x).sig.returnType = none) (hm : xn x = 7) {Q : Wd → Prop} (K10 : Int → Int → Wd → Prop) (X10 : Int → Wd → Prop) (this : Nat) (x2 : Int) (x3 : Int) (x4 : Int) (x5 : Int) (s0 : Int) (hK10 : ∀ (y3 : Int) (y4 : Int) (w : Wd), K10 y3 y4 w → J x (TV x Q) w 0 0 10 [(0, .ref (adG (xG x) (this))), (2, vI (x2)), (3, vI (y3)), (4, vI (y4))] []) (hX10 : ∀ (y3 : Int) (w : Wd), X10 y3 w → J x (TV x Q) w 0 0 347 [(0, .ref (adG (xG x) (this))), (3, vI (y3))] []) (w : Wd) (h : wp_X5_reckonAll_95 Q K10 X10 this x2 x3 x4 x5 s0 w) : J x (TV x Q) w 0 0 95 [(0, .ref (adG (xG x) (this))), (2, vI (x2)), (3, vI (x3)), (4, vI (x4)), (5, vI (x5))] [vI (s0)] := by
  unfold wp_X5_reckonAll_95 at h
  refine j_istore (L' := [(6, vI (s0)), (0, .ref (adG (xG x) (this))), (2, vI (x2)), (3, vI (x3)), (4, vI (x4)), (5, vI (x5))]) O dX5_reckonAll_95 (by rw [hm]; decide) rfl ?_
  refine j_iinc (L' := [(4, vI (x4 + 1)), (6, vI (s0)), (0, .ref (adG (xG x) (this))), (2, vI (x2)), (3, vI (x3)), (5, vI (x5))]) O 4 dX5_reckonAll_97 rfl (by rw [hm]; decide) rfl ?_
  refine j_iload O 5 dX5_reckonAll_100 rfl ?_
  refine j_bipush (m := 20) O dX5_reckonAll_102 bi_20 ?_
  obtain ⟨c1, h⟩ := h
  refine j_icmp_ge O (tgt := 205) dX5_reckonAll_104 (by decide) c1 (by decide) h (fun h => ?_) (fun h => ?_)
  · refine j_iload O 5 dX5_reckonAll_205 rfl ?_
    refine j_bipush (m := 28) O dX5_reckonAll_207 bi_28 ?_
    obtain ⟨c2, h⟩ := h
    refine j_icmp_ge O (tgt := 282) dX5_reckonAll_209 (by decide) c2 (by decide) h (fun h => ?_) (fun h => ?_)
    · refine j_iload O 5 dX5_reckonAll_282 rfl ?_
      refine j_bipush (m := 28) O dX5_reckonAll_284 bi_28 ?_
      obtain ⟨c3, h⟩ := h
      refine j_icmp_ne O (tgt := 310) dX5_reckonAll_286 (by decide) c3 (by decide) h (fun h => ?_) (fun h => ?_)
      · refine j_aload_n O 2 0 dX5_reckonAll_310 rfl rfl ?_
        refine j_getA O cfX5 37 (Nat.le_of_ble_eq_true rfl) ⟨_, rfl⟩ q1605 dX5_reckonAll_311 h (fun k4 h => ?_)
        refine j_iload_n O 4 3 dX5_reckonAll_314 rfl rfl ?_
        refine j_iconst O dX5_reckonAll_315 ?_
        refine j_isub O dX5_reckonAll_316 ?_
        refine j_lald O dX5_reckonAll_317 h (fun v5 h => ?_)
        refine j_iload O 5 dX5_reckonAll_318 rfl ?_
        refine j_bipush (m := 29) O dX5_reckonAll_320 bi_29 ?_
        obtain ⟨c6, h⟩ := h
        refine j_icmp_ne O (tgt := 329) dX5_reckonAll_322 (by decide) c6 (by decide) h (fun h => ?_) (fun h => ?_)
        · refine j_lconst (m := 1) O dX5_reckonAll_329 lc_1 ?_
          exact (J.sub [2, 3, 4, 0, 1] rfl <| wk_X5_reckonAll_330 O hr hm _ _ _ _ _ _ _ _ _ hK10 hX10 _ h)
        · refine j_lconst (m := 0) O dX5_reckonAll_325 lc_0 ?_
          refine j_goto O (tgt := 330) dX5_reckonAll_326 (by decide) ?_
          exact (J.sub [2, 3, 4, 0, 1] rfl <| wk_X5_reckonAll_330 O hr hm _ _ _ _ _ _ _ _ _ hK10 hX10 _ h)
      · refine j_aload_n O 2 0 dX5_reckonAll_289 rfl rfl ?_
        refine j_getA O cfX5 37 (Nat.le_of_ble_eq_true rfl) ⟨_, rfl⟩ q1605 dX5_reckonAll_290 h (fun k7 h => ?_)
        refine j_iload_n O 4 3 dX5_reckonAll_293 rfl rfl ?_
        refine j_iconst O dX5_reckonAll_294 ?_
        refine j_isub O dX5_reckonAll_295 ?_
        refine j_lconst (m := 1) O dX5_reckonAll_296 lc_1 ?_
        refine j_aload_n O 2 0 dX5_reckonAll_297 rfl rfl ?_
        refine j_getA O cfX5 37 (Nat.le_of_ble_eq_true rfl) ⟨_, rfl⟩ q1605 dX5_reckonAll_298 h (fun k8 h => ?_)
        refine j_iload_n O 4 3 dX5_reckonAll_301 rfl rfl ?_
        refine j_iconst O dX5_reckonAll_302 ?_
        refine j_isub O dX5_reckonAll_303 ?_
        refine j_lald O dX5_reckonAll_304 h (fun v9 h => ?_)
        refine j_lsub O dX5_reckonAll_305 ?_
        refine j_last O dX5_reckonAll_306 h (fun w10 h => ?_)
        refine j_goto O (tgt := 344) dX5_reckonAll_307 (by decide) ?_
        exact (J.sub [2, 3, 4, 0] rfl <| wk_X5_reckonAll_344 O hr hm _ _ _ _ _ _ hK10 hX10 _ h)
    · refine j_iinc (L' := [(3, vI (x3 + (-1))), (4, vI (x4 + 1)), (6, vI (s0)), (0, .ref (adG (xG x) (this))), (2, vI (x2)), (5, vI (x5))]) O 4 dX5_reckonAll_212 rfl (by rw [hm]; decide) rfl ?_
      refine j_aload_n O 3 0 dX5_reckonAll_215 rfl rfl ?_
      refine j_getA O cfX5 37 (Nat.le_of_ble_eq_true rfl) ⟨_, rfl⟩ q1605 dX5_reckonAll_216 h (fun k11 h => ?_)
      refine j_iload_n O 0 3 dX5_reckonAll_219 rfl rfl ?_
      refine j_iconst O dX5_reckonAll_220 ?_
      refine j_isub O dX5_reckonAll_221 ?_
      refine j_aload_n O 3 0 dX5_reckonAll_222 rfl rfl ?_
      refine j_iload O 5 dX5_reckonAll_223 rfl ?_
      refine j_aload_n O 3 0 dX5_reckonAll_225 rfl rfl ?_
      refine j_getA O cfX5 37 (Nat.le_of_ble_eq_true rfl) ⟨_, rfl⟩ q1605 dX5_reckonAll_226 h (fun k12 h => ?_)
      refine j_iload_n O 0 3 dX5_reckonAll_229 rfl rfl ?_
      refine j_iconst O dX5_reckonAll_230 ?_
      refine j_isub O dX5_reckonAll_231 ?_
      refine j_lald O dX5_reckonAll_232 h (fun v13 h => ?_)
      refine j_aload_n O 3 0 dX5_reckonAll_233 rfl rfl ?_
      refine j_getA O cfX5 37 (Nat.le_of_ble_eq_true rfl) ⟨_, rfl⟩ q1605 dX5_reckonAll_234 h (fun k14 h => ?_)
      refine j_iload_n O 0 3 dX5_reckonAll_237 rfl rfl ?_
      refine j_lald O dX5_reckonAll_238 h (fun v15 h => ?_)
      obtain ⟨e18, h⟩ := h
      refine fin_L O ⟨Nat.zero_le _, Nat.zero_le _⟩ (run_V (As := [vI (x5), vL (v13), vL (v15)]) (st := [vI ((x3 + (-1)) - 1), .ref (adG (xG x) (k11))]) O (mt_X5_reckon (xl x) (xG x) _ _ _ _ _ _ h) e18 cfX5.1 q1829 q1831 qs59 q131 q1832 hy_X5_reckon (Nat.le_of_ble_eq_true rfl) (Nat.le_of_ble_eq_true rfl) ⟨Nat.zero_le _, Nat.zero_le _⟩ rfl (Nat.le_of_ble_eq_true rfl) dX5_reckonAll_239) (fun r16 w17 h => ?_)
      refine j_last O dX5_reckonAll_242 h (fun w19 h => ?_)
      refine j_aload_n O 3 0 dX5_reckonAll_243 rfl rfl ?_
      refine j_aload_n O 3 0 dX5_reckonAll_244 rfl rfl ?_
      refine j_getI O cfX5 38 (Nat.le_of_ble_eq_true rfl) (.inr (.inl rfl)) q1606 dX5_reckonAll_245 h (fun v20 h => ?_)
      obtain ⟨c21, h⟩ := h
      refine j_if_ne O (tgt := 271) dX5_reckonAll_248 (by decide) c21 h (fun h => ?_) (fun h => ?_)
      · exact (J.sub [3, 4, 0, 1] rfl <| wk_X5_reckonAll_271 O hr hm _ _ _ _ _ _ _ hK10 hX10 _ h)
      · refine j_aload_n O 3 0 dX5_reckonAll_251 rfl rfl ?_
        refine j_getA O cfX5 37 (Nat.le_of_ble_eq_true rfl) ⟨_, rfl⟩ q1605 dX5_reckonAll_252 h (fun k22 h => ?_)
        refine j_iload_n O 0 3 dX5_reckonAll_255 rfl rfl ?_
        refine j_iconst O dX5_reckonAll_256 ?_
        refine j_isub O dX5_reckonAll_257 ?_
        refine j_lald O dX5_reckonAll_258 h (fun v23 h => ?_)
        refine j_ldc2 (m := (-1000000000)) O dX5_reckonAll_259 q1833 l2_m1000000000 ?_
        refine j_ldc2 (m := 1000000000) O dX5_reckonAll_262 q1834 l2_1000000000 ?_
        refine fin_I O ⟨Nat.zero_le _, Nat.zero_le _⟩ (run_S (As := [vL (v23), vL (((-1000000000))), vL (1000000000)]) (st := [.ref (adG (xG x) (this))]) O (mt_X5_in (xl x) (xG x) _ _ _ _ _ h) q1772 q1773 q131 q1774 hy_X5_in.2 (Nat.le_of_ble_eq_true rfl) (Nat.le_of_ble_eq_true rfl) ⟨Nat.zero_le _, Nat.zero_le _⟩ rfl (Nat.le_of_ble_eq_true rfl) dX5_reckonAll_265) (fun r24 w25 h => ?_)
        obtain ⟨c26, h⟩ := h
        refine j_if_ne O (tgt := 275) dX5_reckonAll_268 (by decide) c26 h (fun h => ?_) (fun h => ?_)
        · refine j_iconst O dX5_reckonAll_275 ?_
          exact (J.sub [3, 4, 0, 1] rfl <| wk_X5_reckonAll_276 O hr hm _ _ _ _ _ _ _ _ hK10 hX10 _ h)
        · exact (J.sub [3, 4, 0, 1] rfl <| wk_X5_reckonAll_271 O hr hm _ _ _ _ _ _ _ hK10 hX10 _ h)
  · refine j_aload_n O 2 0 dX5_reckonAll_107 rfl rfl ?_
    refine j_getA O cfX5 37 (Nat.le_of_ble_eq_true rfl) ⟨_, rfl⟩ q1605 dX5_reckonAll_108 h (fun k27 h => ?_)
    refine j_iload_n O 4 3 dX5_reckonAll_111 rfl rfl ?_
    refine j_iload O 5 dX5_reckonAll_112 rfl ?_
    obtain ⟨c28, h⟩ := h
    refine j_if_ne O (tgt := 123) dX5_reckonAll_114 (by decide) c28 h (fun h => ?_) (fun h => ?_)
    · refine j_aload_n O 2 0 dX5_reckonAll_123 rfl rfl ?_
      refine j_getI O cfX5 20 (Nat.le_of_ble_eq_true rfl) (.inr (.inl rfl)) q1588 dX5_reckonAll_124 h (fun v29 h => ?_)
      obtain ⟨c30, h⟩ := h
      refine j_if_ne O (tgt := 140) dX5_reckonAll_127 (by decide) c30 h (fun h => ?_) (fun h => ?_)
      · refine j_iload O 5 dX5_reckonAll_140 rfl ?_
        refine j_iconst O dX5_reckonAll_142 ?_
        obtain ⟨c31, h⟩ := h
        refine j_icmp_ge O (tgt := 156) dX5_reckonAll_143 (by decide) c31 (by decide) h (fun h => ?_) (fun h => ?_)
        · refine j_aload_n O 2 0 dX5_reckonAll_156 rfl rfl ?_
          refine j_iload O 1 dX5_reckonAll_157 rfl ?_
          obtain ⟨e34, h⟩ := h
          refine fin_I O ⟨Nat.zero_le _, Nat.zero_le _⟩ (run_V (As := [vI (s0)]) (st := [vI (x3), .ref (adG (xG x) (k27))]) O (mt_X5_isBox (xl x) (xG x) _ _ _ _ h) e34 cfX5.1 q1792 q1794 qs51 q131 q1795 hy_X5_isBox (Nat.le_of_ble_eq_true rfl) (Nat.le_of_ble_eq_true rfl) ⟨Nat.zero_le _, Nat.zero_le _⟩ rfl (Nat.le_of_ble_eq_true rfl) dX5_reckonAll_159) (fun r32 w33 h => ?_)
          obtain ⟨c35, h⟩ := h
          refine j_if_ne O (tgt := 171) dX5_reckonAll_162 (by decide) c35 h (fun h => ?_) (fun h => ?_)
          · refine j_iload O 5 dX5_reckonAll_171 rfl ?_
            refine j_iconst O dX5_reckonAll_173 ?_
            obtain ⟨c36, h⟩ := h
            refine j_icmp_ne O (tgt := 191) dX5_reckonAll_174 (by decide) c36 (by decide) h (fun h => ?_) (fun h => ?_)
            · refine j_aload_n O 2 0 dX5_reckonAll_191 rfl rfl ?_
              refine j_iload O 1 dX5_reckonAll_192 rfl ?_
              obtain ⟨e39, h⟩ := h
              refine fin_I O ⟨Nat.zero_le _, Nat.zero_le _⟩ (run_V (As := [vI (s0)]) (st := [vI (x3), .ref (adG (xG x) (k27))]) O (mt_X5_notesOf (xl x) (xG x) _ _ _ _ h) e39 cfX5.1 q1797 q1799 qs52 q131 q1800 hy_X5_notesOf (Nat.le_of_ble_eq_true rfl) (Nat.le_of_ble_eq_true rfl) ⟨Nat.zero_le _, Nat.zero_le _⟩ rfl (Nat.le_of_ble_eq_true rfl) dX5_reckonAll_194) (fun r37 w38 h => ?_)
              refine j_i2l O dX5_reckonAll_197 h (fun h => ?_)
              exact (J.sub [2, 3, 4, 0] rfl <| wk_X5_reckonAll_198 O hr hm _ _ _ _ _ _ _ _ _ hK10 hX10 _ h)
            · refine j_aload_n O 2 0 dX5_reckonAll_177 rfl rfl ?_
              refine j_getA O cfX5 3 (Nat.le_of_ble_eq_true rfl) ⟨_, rfl⟩ q1571 dX5_reckonAll_178 h (fun k40 h => ?_)
              refine j_bipush (m := 74) O dX5_reckonAll_181 bi_74 ?_
              refine j_iload O 1 dX5_reckonAll_183 rfl ?_
              refine j_iadd O dX5_reckonAll_185 ?_
              refine j_iald O dX5_reckonAll_186 h (fun v41 h => ?_)
              refine j_i2l O dX5_reckonAll_187 h (fun h => ?_)
              refine j_goto O (tgt := 198) dX5_reckonAll_188 (by decide) ?_
              exact (J.sub [2, 3, 4, 0] rfl <| wk_X5_reckonAll_198 O hr hm _ _ _ _ _ _ _ _ _ hK10 hX10 _ h)
          · refine j_ldc2 (m := (-1)) O dX5_reckonAll_165 q1816 l2_m1 ?_
            refine j_goto O (tgt := 198) dX5_reckonAll_168 (by decide) ?_
            exact (J.sub [2, 3, 4, 0] rfl <| wk_X5_reckonAll_198 O hr hm _ _ _ _ _ _ _ _ _ hK10 hX10 _ h)
        · refine j_aload_n O 2 0 dX5_reckonAll_146 rfl rfl ?_
          refine j_getA O cfX5 36 (Nat.le_of_ble_eq_true rfl) ⟨_, rfl⟩ q1604 dX5_reckonAll_147 h (fun k42 h => ?_)
          refine j_iload O 5 dX5_reckonAll_150 rfl ?_
          refine j_lald O dX5_reckonAll_152 h (fun v43 h => ?_)
          refine j_goto O (tgt := 198) dX5_reckonAll_153 (by decide) ?_
          exact (J.sub [2, 3, 4, 0] rfl <| wk_X5_reckonAll_198 O hr hm _ _ _ _ _ _ _ _ _ hK10 hX10 _ h)
      · refine j_aload_n O 2 0 dX5_reckonAll_130 rfl rfl ?_
        refine j_getA O cfX5 35 (Nat.le_of_ble_eq_true rfl) ⟨_, rfl⟩ q1603 dX5_reckonAll_131 h (fun k44 h => ?_)
        refine j_iload O 5 dX5_reckonAll_134 rfl ?_
        refine j_lald O dX5_reckonAll_136 h (fun v45 h => ?_)
        refine j_goto O (tgt := 198) dX5_reckonAll_137 (by decide) ?_
        exact (J.sub [2, 3, 4, 0] rfl <| wk_X5_reckonAll_198 O hr hm _ _ _ _ _ _ _ _ _ hK10 hX10 _ h)
    · refine j_iload O 1 dX5_reckonAll_117 rfl ?_
      refine j_i2l O dX5_reckonAll_119 h (fun h => ?_)
      refine j_goto O (tgt := 198) dX5_reckonAll_120 (by decide) ?_
      exact (J.sub [2, 3, 4, 0] rfl <| wk_X5_reckonAll_198 O hr hm _ _ _ _ _ _ _ _ _ hK10 hX10 _ h)
theorem wk_X5_reckonAll_57 {x : Cx} (O : OK x "DowryBoxesModel" cX5_reckonAll 3) (hr : (xM x).sig.returnType = none) (hm : xn x = 7) {Q : Wd → Prop} (K10 : Int → Int → Wd → Prop) (X10 : Int → Wd → Prop) (this : Nat) (x2 : Int) (x3 : Int) (x4 : Int) (s0 : Int) (hK10 : ∀ (y3 : Int) (y4 : Int) (w : Wd), K10 y3 y4 w → J x (TV x Q) w 0 0 10 [(0, .ref (adG (xG x) (this))), (2, vI (x2)), (3, vI (y3)), (4, vI (y4))] []) (hX10 : ∀ (y3 : Int) (w : Wd), X10 y3 w → J x (TV x Q) w 0 0 347 [(0, .ref (adG (xG x) (this))), (3, vI (y3))] []) (w : Wd) (h : wp_X5_reckonAll_57 Q K10 X10 this x2 x3 x4 s0 w) : J x (TV x Q) w 0 0 57 [(0, .ref (adG (xG x) (this))), (2, vI (x2)), (3, vI (x3)), (4, vI (x4))] [vI (s0)] := by
  unfold wp_X5_reckonAll_57 at h
  refine j_istore (L' := [(5, vI (s0)), (0, .ref (adG (xG x) (this))), (2, vI (x2)), (3, vI (x3)), (4, vI (x4))]) O dX5_reckonAll_57 (by rw [hm]; decide) rfl ?_
  refine j_aload_n O 1 0 dX5_reckonAll_59 rfl rfl ?_
  refine j_getI O cfX5 20 (Nat.le_of_ble_eq_true rfl) (.inr (.inl rfl)) q1588 dX5_reckonAll_60 h (fun v1 h => ?_)
  obtain ⟨c2, h⟩ := h
  refine j_if_eq O (tgt := 76) dX5_reckonAll_63 (by decide) c2 h (fun h => ?_) (fun h => ?_)
  · refine j_aload_n O 1 0 dX5_reckonAll_76 rfl rfl ?_
    refine j_getA O cfX5 3 (Nat.le_of_ble_eq_true rfl) ⟨_, rfl⟩ q1571 dX5_reckonAll_77 h (fun k3 h => ?_)
    refine j_aload_n O 1 0 dX5_reckonAll_80 rfl rfl ?_
    refine j_getI O cfX5 34 (Nat.le_of_ble_eq_true rfl) (.inl rfl) q1602 dX5_reckonAll_81 h (fun v4 h => ?_)
    refine j_bipush (m := 98) O dX5_reckonAll_84 bi_98 ?_
    refine j_iadd O dX5_reckonAll_86 ?_
    refine j_iconst O dX5_reckonAll_87 ?_
    refine j_iload O 4 dX5_reckonAll_88 rfl ?_
    refine j_imul O dX5_reckonAll_90 ?_
    refine j_iadd O dX5_reckonAll_91 ?_
    refine j_iconst O dX5_reckonAll_92 ?_
    refine j_iadd O dX5_reckonAll_93 ?_
    refine j_iald O dX5_reckonAll_94 h (fun v5 h => ?_)
    exact (J.sub [1, 2, 3, 4, 0] rfl <| wk_X5_reckonAll_95 O hr hm _ _ _ _ _ _ _ _ hK10 hX10 _ h)
  · refine j_aload_n O 1 0 dX5_reckonAll_66 rfl rfl ?_
    refine j_getA O cfX5 25 (Nat.le_of_ble_eq_true rfl) ⟨_, rfl⟩ q1593 dX5_reckonAll_67 h (fun k6 h => ?_)
    refine j_iload O 4 dX5_reckonAll_70 rfl ?_
    refine j_iald O dX5_reckonAll_72 h (fun v7 h => ?_)
    refine j_goto O (tgt := 95) dX5_reckonAll_73 (by decide) ?_
    exact (J.sub [1, 2, 3, 4, 0] rfl <| wk_X5_reckonAll_95 O hr hm _ _ _ _ _ _ _ _ hK10 hX10 _ h)
theorem wk_X5_reckonAll_10 {x : Cx} (O : OK x "DowryBoxesModel" cX5_reckonAll 3) (hr : (xM x).sig.returnType = none) (hm : xn x = 7) {Q : Wd → Prop} (X10 : Int → Wd → Prop) (this : Nat) (x2 : Int) (hX10 : ∀ (y3 : Int) (w : Wd), X10 y3 w → J x (TV x Q) w 0 0 347 [(0, .ref (adG (xG x) (this))), (3, vI (y3))] []) : ∀ (n : Nat) (x3 : Int) (x4 : Int) (w : Wd), wp_X5_reckonAll_10 Q X10 this x2 n x3 x4 w → J x (TV x Q) w 0 0 10 [(0, .ref (adG (xG x) (this))), (2, vI (x2)), (3, vI (x3)), (4, vI (x4))] [] := by
  intro n
  induction n with
  | zero => intro x3 x4 w h; exact False.elim h
  | succ n ih =>
    intro x3 x4 w h
    rw [wp_X5_reckonAll_10] at h
    refine j_iload O 3 dX5_reckonAll_10 rfl ?_
    refine j_iload_n O 1 2 dX5_reckonAll_12 rfl rfl ?_
    obtain ⟨c1, h⟩ := h
    obtain ⟨c2, h⟩ := h
    refine j_icmp_ge O (tgt := 347) dX5_reckonAll_13 (by decide) c1 c2 h (fun h => ?_) (fun h => ?_)
    · exact (J.sub [0, 2] rfl <| hX10 _ _ h)
    · refine j_aload_n O 0 0 dX5_reckonAll_16 rfl rfl ?_
      refine j_getI O cfX5 38 (Nat.le_of_ble_eq_true rfl) (.inr (.inl rfl)) q1606 dX5_reckonAll_17 h (fun v3 h => ?_)
      obtain ⟨c4, h⟩ := h
      refine j_if_ne O (tgt := 347) dX5_reckonAll_20 (by decide) c4 h (fun h => ?_) (fun h => ?_)
      · exact (J.sub [0, 2] rfl <| hX10 _ _ h)
      · refine j_aload_n O 0 0 dX5_reckonAll_23 rfl rfl ?_
        refine j_getI O cfX5 20 (Nat.le_of_ble_eq_true rfl) (.inr (.inl rfl)) q1588 dX5_reckonAll_24 h (fun v5 h => ?_)
        obtain ⟨c6, h⟩ := h
        refine j_if_eq O (tgt := 40) dX5_reckonAll_27 (by decide) c6 h (fun h => ?_) (fun h => ?_)
        · refine j_aload_n O 0 0 dX5_reckonAll_40 rfl rfl ?_
          refine j_getA O cfX5 3 (Nat.le_of_ble_eq_true rfl) ⟨_, rfl⟩ q1571 dX5_reckonAll_41 h (fun k7 h => ?_)
          refine j_aload_n O 0 0 dX5_reckonAll_44 rfl rfl ?_
          refine j_getI O cfX5 34 (Nat.le_of_ble_eq_true rfl) (.inl rfl) q1602 dX5_reckonAll_45 h (fun v8 h => ?_)
          refine j_bipush (m := 98) O dX5_reckonAll_48 bi_98 ?_
          refine j_iadd O dX5_reckonAll_50 ?_
          refine j_iconst O dX5_reckonAll_51 ?_
          refine j_iload O 3 dX5_reckonAll_52 rfl ?_
          refine j_imul O dX5_reckonAll_54 ?_
          refine j_iadd O dX5_reckonAll_55 ?_
          refine j_iald O dX5_reckonAll_56 h (fun v9 h => ?_)
          exact (J.sub [0, 1, 2, 3] rfl <| wk_X5_reckonAll_57 O hr hm _ _ _ _ _ _ _ ih hX10 _ h)
        · refine j_aload_n O 0 0 dX5_reckonAll_30 rfl rfl ?_
          refine j_getA O cfX5 24 (Nat.le_of_ble_eq_true rfl) ⟨_, rfl⟩ q1592 dX5_reckonAll_31 h (fun k10 h => ?_)
          refine j_iload O 3 dX5_reckonAll_34 rfl ?_
          refine j_iald O dX5_reckonAll_36 h (fun v11 h => ?_)
          refine j_goto O (tgt := 57) dX5_reckonAll_37 (by decide) ?_
          exact (J.sub [0, 1, 2, 3] rfl <| wk_X5_reckonAll_57 O hr hm _ _ _ _ _ _ _ ih hX10 _ h)
theorem wk_X5_reckonAll_362 {x : Cx} (O : OK x "DowryBoxesModel" cX5_reckonAll 3) (hr : (xM x).sig.returnType = none) (hm : xn x = 7) {Q : Wd → Prop} (s0 : Int) (s1 : Nat) (w : Wd) (h : wp_X5_reckonAll_362 Q s0 s1 w) : J x (TV x Q) w 0 0 362 [] [vL (s0), .ref (adG (xG x) (s1))] := by
  unfold wp_X5_reckonAll_362 at h
  refine j_putL O cfX5 39 (Nat.le_of_ble_eq_true rfl) rfl q1607 rfl dX5_reckonAll_362 h (fun w1 h => ?_)
  exact j_vret O hr dX5_reckonAll_365 h
theorem wk_X5_reckonAll_347 {x : Cx} (O : OK x "DowryBoxesModel" cX5_reckonAll 3) (hr : (xM x).sig.returnType = none) (hm : xn x = 7) {Q : Wd → Prop} (this : Nat) (x3 : Int) (w : Wd) (h : wp_X5_reckonAll_347 Q this x3 w) : J x (TV x Q) w 0 0 347 [(0, .ref (adG (xG x) (this))), (3, vI (x3))] [] := by
  unfold wp_X5_reckonAll_347 at h
  refine j_aload_n O 0 0 dX5_reckonAll_347 rfl rfl ?_
  refine j_iload_n O 1 3 dX5_reckonAll_348 rfl rfl ?_
  obtain ⟨c1, h⟩ := h
  refine j_if_le O (tgt := 361) dX5_reckonAll_349 (by decide) c1 h (fun h => ?_) (fun h => ?_)
  · refine j_lconst (m := 0) O dX5_reckonAll_361 lc_0 ?_
    exact (J.sub [] rfl <| wk_X5_reckonAll_362 O hr hm  _ _  _ h)
  · refine j_aload_n O 0 0 dX5_reckonAll_352 rfl rfl ?_
    refine j_getA O cfX5 37 (Nat.le_of_ble_eq_true rfl) ⟨_, rfl⟩ q1605 dX5_reckonAll_353 h (fun k2 h => ?_)
    refine j_iconst O dX5_reckonAll_356 ?_
    refine j_lald O dX5_reckonAll_357 h (fun v3 h => ?_)
    refine j_goto O (tgt := 362) dX5_reckonAll_358 (by decide) ?_
    exact (J.sub [] rfl <| wk_X5_reckonAll_362 O hr hm  _ _  _ h)
theorem mt_X5_reckonAll (l : Launch) (G : GW) (this : Nat) (p1 : Int) (p2 : Int) (w : Wd) (Q : Wd → Prop) (h : wp_X5_reckonAll this p1 p2 w Q) : MV l G yX5_reckonAll cX5_reckonAll 7 3 0 0 [.ref (adG G (this)), vI (p1), vI (p2)] w Q := by
  refine met_V (fun G => [.ref (adG G (this)), vI (p1), vI (p2)]) (by decide) (fun G => Nat.le_of_ble_eq_true rfl) (fun x O hl hm hr _ => ?_)
  subst hl
  have O : OK x "DowryBoxesModel" cX5_reckonAll 3 := O
  have h : wp_X5_reckonAll this p1 p2 w Q := h
  unfold wp_X5_reckonAll at h
  show J x (TV x Q) w 0 0 0 [(0, .ref (adG (xG x) (this))), (1, vI (p1)), (2, vI (p2))] []
  refine j_aload_n O 0 0 dX5_reckonAll_0 rfl rfl ?_
  refine j_iconst O dX5_reckonAll_1 ?_
  refine j_putZ O cfX5 38 (Nat.le_of_ble_eq_true rfl) rfl q1606 rfl dX5_reckonAll_2 h (fun w1 h => ?_)
  refine j_iconst O dX5_reckonAll_5 ?_
  refine j_istore_n (L' := [(3, vI (0)), (0, .ref (adG (xG x) (this))), (1, vI (p1)), (2, vI (p2))]) O 3 dX5_reckonAll_6 rfl (by rw [hm]; decide) rfl ?_
  refine j_iload_n O 2 1 dX5_reckonAll_7 rfl rfl ?_
  refine j_istore (L' := [(4, vI (p1)), (3, vI (0)), (0, .ref (adG (xG x) (this))), (1, vI (p1)), (2, vI (p2))]) O dX5_reckonAll_8 (by rw [hm]; decide) rfl ?_
  refine (J.sub [2, 4, 1, 0] rfl <| wk_X5_reckonAll_10 O hr hm _ _ _ (fun z2 w3 h => ?_) FU _ _ _ h)
  exact (J.sub [0, 1] rfl <| wk_X5_reckonAll_347 O hr hm  _ _  _ h)
theorem hy_X5_isSo : (yX5_isSo.cls = "DowryBoxesModel" ∧ yX5_isSo.cls ≠ "java/lang/invoke/MethodHandle" ∧ yX5_isSo.cls ≠ "java/lang/invoke/VarHandle" ∧ (parseMethodDescriptor yX5_isSo.desc).map (fun d => d.parameters.length) = some 1) := by decide +kernel
theorem wk_X5_isSo_59 {x : Cx} (O : OK x "DowryBoxesModel" cX5_isSo 4) (hr : (xM x).sig.returnType = some .boolean) (hm : xn x = 2) {Q : Int → Wd → Prop} (this : Nat) (x1 : Int) (w : Wd) (h : wp_X5_isSo_59 Q this x1 w) : J x (TI x Q) w 0 0 59 [(0, .ref (adG (xG x) (this))), (1, vI (x1))] [] := by
  unfold wp_X5_isSo_59 at h
  refine j_aload_n O 0 0 dX5_isSo_59 rfl rfl ?_
  refine j_getA O cfX5 3 (Nat.le_of_ble_eq_true rfl) ⟨_, rfl⟩ q1571 dX5_isSo_60 h (fun k1 h => ?_)
  refine j_iload_n O 1 1 dX5_isSo_63 rfl rfl ?_
  refine j_iald O dX5_isSo_64 h (fun v2 h => ?_)
  refine j_iconst O dX5_isSo_65 ?_
  obtain ⟨c3, h⟩ := h
  refine j_icmp_eq O (tgt := 110) dX5_isSo_66 (by decide) c3 (by decide) h (fun h => ?_) (fun h => ?_)
  · refine j_iconst O dX5_isSo_110 ?_
    exact j_zret O hr dX5_isSo_111 h
  · refine j_aload_n O 0 0 dX5_isSo_69 rfl rfl ?_
    refine j_aload_n O 0 0 dX5_isSo_70 rfl rfl ?_
    refine j_getA O cfX5 3 (Nat.le_of_ble_eq_true rfl) ⟨_, rfl⟩ q1571 dX5_isSo_71 h (fun k4 h => ?_)
    refine j_iload_n O 1 1 dX5_isSo_74 rfl rfl ?_
    refine j_iconst O dX5_isSo_75 ?_
    refine j_iadd O dX5_isSo_76 ?_
    refine j_iald O dX5_isSo_77 h (fun v5 h => ?_)
    refine j_aload_n O 0 0 dX5_isSo_78 rfl rfl ?_
    refine j_getA O cfX5 3 (Nat.le_of_ble_eq_true rfl) ⟨_, rfl⟩ q1571 dX5_isSo_79 h (fun k6 h => ?_)
    refine j_iload_n O 1 1 dX5_isSo_82 rfl rfl ?_
    refine j_iconst O dX5_isSo_83 ?_
    refine j_iadd O dX5_isSo_84 ?_
    refine j_iald O dX5_isSo_85 h (fun v7 h => ?_)
    obtain ⟨e9, h⟩ := h
    refine fin_V O ⟨Nat.zero_le _, Nat.zero_le _⟩ (run_V (As := [vI (v5), vI (v7)]) (st := []) O (mt_X5_reckonAll (xl x) (xG x) _ _ _ _ _ h) e9 cfX5.1 q1825 q1827 qs58 q131 q1828 hy_X5_reckonAll (Nat.le_of_ble_eq_true rfl) (Nat.le_of_ble_eq_true rfl) ⟨Nat.zero_le _, Nat.zero_le _⟩ rfl (Nat.le_of_ble_eq_true rfl) dX5_isSo_86) (fun w8 h => ?_)
    refine j_aload_n O 0 0 dX5_isSo_89 rfl rfl ?_
    refine j_aload_n O 0 0 dX5_isSo_90 rfl rfl ?_
    refine j_getL O cfX5 39 (Nat.le_of_ble_eq_true rfl) rfl q1607 dX5_isSo_91 h (fun v10 h => ?_)
    refine j_putL O cfX5 40 (Nat.le_of_ble_eq_true rfl) rfl q1608 rfl dX5_isSo_94 h (fun w11 h => ?_)
    refine j_aload_n O 0 0 dX5_isSo_97 rfl rfl ?_
    refine j_getI O cfX5 38 (Nat.le_of_ble_eq_true rfl) (.inr (.inl rfl)) q1606 dX5_isSo_98 h (fun v12 h => ?_)
    obtain ⟨c13, h⟩ := h
    refine j_if_ne O (tgt := 108) dX5_isSo_101 (by decide) c13 h (fun h => ?_) (fun h => ?_)
    · refine j_iconst O dX5_isSo_108 ?_
      exact j_zret O hr dX5_isSo_109 h
    · refine j_iconst O dX5_isSo_104 ?_
      refine j_goto O (tgt := 109) dX5_isSo_105 (by decide) ?_
      exact j_zret O hr dX5_isSo_109 h
theorem mt_X5_isSo (l : Launch) (G : GW) (this : Nat) (p1 : Int) (w : Wd) (Q : Int → Wd → Prop) (h : wp_X5_isSo this p1 w Q) : MI l G yX5_isSo cX5_isSo 2 (.boolean) 4 0 0 [.ref (adG G (this)), vI (p1)] w Q := by
  refine met_I (fun G => [.ref (adG G (this)), vI (p1)]) (by decide) (fun G => Nat.le_of_ble_eq_true rfl) (fun x O hl hm hr => ?_)
  subst hl
  have O : OK x "DowryBoxesModel" cX5_isSo 4 := O
  have h : wp_X5_isSo this p1 w Q := h
  unfold wp_X5_isSo at h
  show J x (TI x Q) w 0 0 0 [(0, .ref (adG (xG x) (this))), (1, vI (p1))] []
  refine j_aload_n O 0 0 dX5_isSo_0 rfl rfl ?_
  refine j_getA O cfX5 3 (Nat.le_of_ble_eq_true rfl) ⟨_, rfl⟩ q1571 dX5_isSo_1 h (fun k1 h => ?_)
  refine j_iload_n O 1 1 dX5_isSo_4 rfl rfl ?_
  refine j_iconst O dX5_isSo_5 ?_
  refine j_iadd O dX5_isSo_6 ?_
  refine j_iald O dX5_isSo_7 h (fun v2 h => ?_)
  refine j_aload_n O 0 0 dX5_isSo_8 rfl rfl ?_
  refine j_getA O cfX5 3 (Nat.le_of_ble_eq_true rfl) ⟨_, rfl⟩ q1571 dX5_isSo_9 h (fun k3 h => ?_)
  refine j_iload_n O 1 1 dX5_isSo_12 rfl rfl ?_
  refine j_bipush (m := 6) O dX5_isSo_13 bi_6 ?_
  refine j_iadd O dX5_isSo_15 ?_
  refine j_iald O dX5_isSo_16 h (fun v4 h => ?_)
  obtain ⟨c5, h⟩ := h
  obtain ⟨c6, h⟩ := h
  refine j_icmp_ge O (tgt := 59) dX5_isSo_17 (by decide) c5 c6 h (fun h => ?_) (fun h => ?_)
  · exact (J.sub [0, 1] rfl <| wk_X5_isSo_59 O hr hm  _ _  _ h)
  · refine j_aload_n O 0 0 dX5_isSo_20 rfl rfl ?_
    refine j_aload_n O 0 0 dX5_isSo_21 rfl rfl ?_
    refine j_getA O cfX5 3 (Nat.le_of_ble_eq_true rfl) ⟨_, rfl⟩ q1571 dX5_isSo_22 h (fun k7 h => ?_)
    refine j_iload_n O 1 1 dX5_isSo_25 rfl rfl ?_
    refine j_iconst O dX5_isSo_26 ?_
    refine j_iadd O dX5_isSo_27 ?_
    refine j_iald O dX5_isSo_28 h (fun v8 h => ?_)
    refine j_aload_n O 0 0 dX5_isSo_29 rfl rfl ?_
    refine j_getA O cfX5 3 (Nat.le_of_ble_eq_true rfl) ⟨_, rfl⟩ q1571 dX5_isSo_30 h (fun k9 h => ?_)
    refine j_iload_n O 1 1 dX5_isSo_33 rfl rfl ?_
    refine j_bipush (m := 6) O dX5_isSo_34 bi_6 ?_
    refine j_iadd O dX5_isSo_36 ?_
    refine j_iald O dX5_isSo_37 h (fun v10 h => ?_)
    obtain ⟨e12, h⟩ := h
    refine fin_V O ⟨Nat.zero_le _, Nat.zero_le _⟩ (run_V (As := [vI (v8), vI (v10)]) (st := []) O (mt_X5_reckonAll (xl x) (xG x) _ _ _ _ _ h) e12 cfX5.1 q1825 q1827 qs58 q131 q1828 hy_X5_reckonAll (Nat.le_of_ble_eq_true rfl) (Nat.le_of_ble_eq_true rfl) ⟨Nat.zero_le _, Nat.zero_le _⟩ rfl (Nat.le_of_ble_eq_true rfl) dX5_isSo_38) (fun w11 h => ?_)
    refine j_aload_n O 0 0 dX5_isSo_41 rfl rfl ?_
    refine j_getI O cfX5 38 (Nat.le_of_ble_eq_true rfl) (.inr (.inl rfl)) q1606 dX5_isSo_42 h (fun v13 h => ?_)
    obtain ⟨c14, h⟩ := h
    refine j_if_ne O (tgt := 57) dX5_isSo_45 (by decide) c14 h (fun h => ?_) (fun h => ?_)
    · refine j_iconst O dX5_isSo_57 ?_
      exact j_zret O hr dX5_isSo_58 h
    · refine j_aload_n O 0 0 dX5_isSo_48 rfl rfl ?_
      refine j_getL O cfX5 39 (Nat.le_of_ble_eq_true rfl) rfl q1607 dX5_isSo_49 h (fun v15 h => ?_)
      refine j_lconst (m := 0) O dX5_isSo_52 lc_0 ?_
      obtain ⟨c16, h⟩ := h
      refine j_lcif_ne O (tgt := 59) dX5_isSo_53 rfl dX5_isSo_54 (by decide) c16 (by decide) h (fun h => ?_) (fun h => ?_)
      · exact (J.sub [0, 1] rfl <| wk_X5_isSo_59 O hr hm  _ _  _ h)
      · refine j_iconst O dX5_isSo_57 ?_
        exact j_zret O hr dX5_isSo_58 h
theorem hy_X5_tells : (yX5_tells.cls = "DowryBoxesModel" ∧ yX5_tells.cls ≠ "java/lang/invoke/MethodHandle" ∧ yX5_tells.cls ≠ "java/lang/invoke/VarHandle" ∧ (parseMethodDescriptor yX5_tells.desc).map (fun d => d.parameters.length) = some 4) := by decide +kernel
theorem wk_X5_tells_247 {x : Cx} (O : OK x "DowryBoxesModel" cX5_tells 5) (hr : (xM x).sig.returnType = some .long) (hm : xn x = 10) {Q : Int → Wd → Prop} (K182 : Int → Int → Wd → Prop) (this : Nat) (x1 : Int) (x6 : Int) (x8 : Int) (hK182 : ∀ (y6 : Int) (y8 : Int) (w : Wd), K182 y6 y8 w → J x (TL x Q) w 0 0 182 [(0, .ref (adG (xG x) (this))), (1, vI (x1)), (6, vL (y6)), (8, vI (y8))] []) (w : Wd) (h : wp_X5_tells_247 Q K182 this x1 x6 x8 w) : J x (TL x Q) w 0 0 247 [(0, .ref (adG (xG x) (this))), (1, vI (x1)), (6, vL (x6)), (8, vI (x8))] [] := by
  unfold wp_X5_tells_247 at h
  refine j_iinc (L' := [(8, vI (x8 + 1)), (0, .ref (adG (xG x) (this))), (1, vI (x1)), (6, vL (x6))]) O 3 dX5_tells_247 rfl (by rw [hm]; decide) rfl ?_
  refine j_goto O (tgt := 182) dX5_tells_250 (by decide) ?_
  exact (J.sub [1, 2, 3, 0] rfl <| hK182 _ _ _ h)
theorem wk_X5_tells_245 {x : Cx} (O : OK x "DowryBoxesModel" cX5_tells 5) (hr : (xM x).sig.returnType = some .long) (hm : xn x = 10) {Q : Int → Wd → Prop} (K182 : Int → Int → Wd → Prop) (this : Nat) (x1 : Int) (x8 : Int) (s0 : Int) (hK182 : ∀ (y6 : Int) (y8 : Int) (w : Wd), K182 y6 y8 w → J x (TL x Q) w 0 0 182 [(0, .ref (adG (xG x) (this))), (1, vI (x1)), (6, vL (y6)), (8, vI (y8))] []) (w : Wd) (h : wp_X5_tells_245 Q K182 this x1 x8 s0 w) : J x (TL x Q) w 0 0 245 [(0, .ref (adG (xG x) (this))), (1, vI (x1)), (8, vI (x8))] [vL (s0)] := by
  unfold wp_X5_tells_245 at h
  refine j_lstore (L' := [(6, vL (s0)), (0, .ref (adG (xG x) (this))), (1, vI (x1)), (8, vI (x8))]) O dX5_tells_245 (by rw [hm]; decide) rfl ?_
  exact (J.sub [1, 2, 0, 3] rfl <| wk_X5_tells_247 O hr hm _ _ _ _ _ hK182 _ h)
theorem wk_X5_tells_182 {x : Cx} (O : OK x "DowryBoxesModel" cX5_tells 5) (hr : (xM x).sig.returnType = some .long) (hm : xn x = 10) {Q : Int → Wd → Prop} (this : Nat) (x1 : Int) : ∀ (n : Nat) (x6 : Int) (x8 : Int) (w : Wd), wp_X5_tells_182 Q this x1 n x6 x8 w → J x (TL x Q) w 0 0 182 [(0, .ref (adG (xG x) (this))), (1, vI (x1)), (6, vL (x6)), (8, vI (x8))] [] := by
  intro n
  induction n with
  | zero => intro x6 x8 w h; exact False.elim h
  | succ n ih =>
    intro x6 x8 w h
    rw [wp_X5_tells_182] at h
    refine j_iload O 3 dX5_tells_182 rfl ?_
    refine j_aload_n O 0 0 dX5_tells_184 rfl rfl ?_
    refine j_getA O cfX5 3 (Nat.le_of_ble_eq_true rfl) ⟨_, rfl⟩ q1571 dX5_tells_185 h (fun k1 h => ?_)
    refine j_aload_n O 0 0 dX5_tells_188 rfl rfl ?_
    refine j_getI O cfX5 34 (Nat.le_of_ble_eq_true rfl) (.inl rfl) q1602 dX5_tells_189 h (fun v2 h => ?_)
    refine j_iconst O dX5_tells_192 ?_
    refine j_iadd O dX5_tells_193 ?_
    refine j_iald O dX5_tells_194 h (fun v3 h => ?_)
    obtain ⟨c4, h⟩ := h
    obtain ⟨c5, h⟩ := h
    refine j_icmp_ge O (tgt := 253) dX5_tells_195 (by decide) c4 c5 h (fun h => ?_) (fun h => ?_)
    · refine j_lload O 2 dX5_tells_253 rfl ?_
      exact j_lret O hr dX5_tells_255 h
    · refine j_aload_n O 0 0 dX5_tells_198 rfl rfl ?_
      refine j_getI O cfX5 34 (Nat.le_of_ble_eq_true rfl) (.inl rfl) q1602 dX5_tells_199 h (fun v6 h => ?_)
      refine j_iconst O dX5_tells_202 ?_
      refine j_iadd O dX5_tells_203 ?_
      refine j_bipush (m := 8) O dX5_tells_204 bi_8 ?_
      refine j_iload O 3 dX5_tells_206 rfl ?_
      refine j_imul O dX5_tells_208 ?_
      refine j_iadd O dX5_tells_209 ?_
      refine j_istore (L' := [(9, vI ((v6 + 2) + (8 * x8))), (0, .ref (adG (xG x) (this))), (1, vI (x1)), (6, vL (x6)), (8, vI (x8))]) O dX5_tells_210 (by rw [hm]; decide) rfl ?_
      refine j_aload_n O 1 0 dX5_tells_212 rfl rfl ?_
      refine j_getA O cfX5 3 (Nat.le_of_ble_eq_true rfl) ⟨_, rfl⟩ q1571 dX5_tells_213 h (fun k7 h => ?_)
      refine j_iload O 0 dX5_tells_216 rfl ?_
      refine j_iald O dX5_tells_218 h (fun v8 h => ?_)
      refine j_iload_n O 2 1 dX5_tells_219 rfl rfl ?_
      obtain ⟨c9, h⟩ := h
      obtain ⟨c10, h⟩ := h
      refine j_icmp_ne O (tgt := 247) dX5_tells_220 (by decide) c9 c10 h (fun h => ?_) (fun h => ?_)
      · exact (J.sub [1, 2, 3, 4] rfl <| wk_X5_tells_247 O hr hm _ _ _ _ _ ih _ h)
      · refine j_aload_n O 1 0 dX5_tells_223 rfl rfl ?_
        refine j_iload O 0 dX5_tells_224 rfl ?_
        obtain ⟨e13, h⟩ := h
        refine fin_I O ⟨Nat.zero_le _, Nat.zero_le _⟩ (run_V (As := [vI (((v6 + 2) + (8 * x8)))]) (st := []) O (mt_X5_isSo (xl x) (xG x) _ _ _ _ h) e13 cfX5.1 q1821 q1823 qs57 q131 q1824 hy_X5_isSo (Nat.le_of_ble_eq_true rfl) (Nat.le_of_ble_eq_true rfl) ⟨Nat.zero_le _, Nat.zero_le _⟩ rfl (Nat.le_of_ble_eq_true rfl) dX5_tells_226) (fun r11 w12 h => ?_)
        obtain ⟨c14, h⟩ := h
        refine j_if_eq O (tgt := 247) dX5_tells_229 (by decide) c14 h (fun h => ?_) (fun h => ?_)
        · exact (J.sub [1, 2, 3, 4] rfl <| wk_X5_tells_247 O hr hm _ _ _ _ _ ih _ h)
        · refine j_iload_n O 2 1 dX5_tells_232 rfl rfl ?_
          refine j_iconst O dX5_tells_233 ?_
          obtain ⟨c15, h⟩ := h
          refine j_icmp_ne O (tgt := 241) dX5_tells_234 (by decide) c15 (by decide) h (fun h => ?_) (fun h => ?_)
          · refine j_aload_n O 1 0 dX5_tells_241 rfl rfl ?_
            refine j_getL O cfX5 40 (Nat.le_of_ble_eq_true rfl) rfl q1608 dX5_tells_242 h (fun v16 h => ?_)
            exact (J.sub [1, 2, 4] rfl <| wk_X5_tells_245 O hr hm _ _ _ _ _ ih _ h)
          · refine j_lconst (m := 1) O dX5_tells_237 lc_1 ?_
            refine j_goto O (tgt := 245) dX5_tells_238 (by decide) ?_
            exact (J.sub [1, 2, 4] rfl <| wk_X5_tells_245 O hr hm _ _ _ _ _ ih _ h)
theorem wk_X5_tells_145 {x : Cx} (O : OK x "DowryBoxesModel" cX5_tells 5) (hr : (xM x).sig.returnType = some .long) (hm : xn x = 10) {Q : Int → Wd → Prop} (this : Nat) (x1 : Int) (x4 : Int) (s0 : Int) (s1 : Int) (s2 : Nat) (w : Wd) (h : wp_X5_tells_145 Q this x1 x4 s0 s1 s2 w) : J x (TL x Q) w 0 0 145 [(0, .ref (adG (xG x) (this))), (1, vI (x1)), (4, vL (x4))] [vL (s0), vI (s1), .ref (adG (xG x) (s2))] := by
  unfold wp_X5_tells_145 at h
  refine j_last O dX5_tells_145 h (fun w1 h => ?_)
  refine j_aload_n O 0 0 dX5_tells_146 rfl rfl ?_
  refine j_getA O cfX5 35 (Nat.le_of_ble_eq_true rfl) ⟨_, rfl⟩ q1603 dX5_tells_147 h (fun k2 h => ?_)
  refine j_bipush (m := 8) O dX5_tells_150 bi_8 ?_
  refine j_aload_n O 0 0 dX5_tells_152 rfl rfl ?_
  refine j_getA O cfX5 3 (Nat.le_of_ble_eq_true rfl) ⟨_, rfl⟩ q1571 dX5_tells_153 h (fun k3 h => ?_)
  refine j_iconst O dX5_tells_156 ?_
  refine j_iald O dX5_tells_157 h (fun v4 h => ?_)
  refine j_i2l O dX5_tells_158 h (fun h => ?_)
  refine j_last O dX5_tells_159 h (fun w5 h => ?_)
  refine j_aload_n O 0 0 dX5_tells_160 rfl rfl ?_
  refine j_getA O cfX5 35 (Nat.le_of_ble_eq_true rfl) ⟨_, rfl⟩ q1603 dX5_tells_161 h (fun k6 h => ?_)
  refine j_bipush (m := 9) O dX5_tells_164 bi_9 ?_
  refine j_aload_n O 0 0 dX5_tells_166 rfl rfl ?_
  refine j_getA O cfX5 3 (Nat.le_of_ble_eq_true rfl) ⟨_, rfl⟩ q1571 dX5_tells_167 h (fun k7 h => ?_)
  refine j_bipush (m := 7) O dX5_tells_170 bi_7 ?_
  refine j_iald O dX5_tells_172 h (fun v8 h => ?_)
  refine j_i2l O dX5_tells_173 h (fun h => ?_)
  refine j_last O dX5_tells_174 h (fun w9 h => ?_)
  refine j_lload O 2 dX5_tells_175 rfl ?_
  refine j_lstore (L' := [(6, vL (x4)), (0, .ref (adG (xG x) (this))), (1, vI (x1)), (4, vL (x4))]) O dX5_tells_177 (by rw [hm]; decide) rfl ?_
  refine j_iconst O dX5_tells_179 ?_
  refine j_istore (L' := [(8, vI (0)), (6, vL (x4)), (0, .ref (adG (xG x) (this))), (1, vI (x1)), (4, vL (x4))]) O dX5_tells_180 (by rw [hm]; decide) rfl ?_
  exact (J.sub [2, 3, 1, 0] rfl <| wk_X5_tells_182 O hr hm  _ _  FU _ _ _ h)
theorem wk_X5_tells_117 {x : Cx} (O : OK x "DowryBoxesModel" cX5_tells 5) (hr : (xM x).sig.returnType = some .long) (hm : xn x = 10) {Q : Int → Wd → Prop} (this : Nat) (x1 : Int) (x3 : Int) (x4 : Int) (s0 : Int) (s1 : Int) (s2 : Nat) (w : Wd) (h : wp_X5_tells_117 Q this x1 x3 x4 s0 s1 s2 w) : J x (TL x Q) w 0 0 117 [(0, .ref (adG (xG x) (this))), (1, vI (x1)), (3, vI (x3)), (4, vL (x4))] [vL (s0), vI (s1), .ref (adG (xG x) (s2))] := by
  unfold wp_X5_tells_117 at h
  refine j_last O dX5_tells_117 h (fun w1 h => ?_)
  refine j_aload_n O 0 0 dX5_tells_118 rfl rfl ?_
  refine j_getA O cfX5 35 (Nat.le_of_ble_eq_true rfl) ⟨_, rfl⟩ q1603 dX5_tells_119 h (fun k2 h => ?_)
  refine j_bipush (m := 7) O dX5_tells_122 bi_7 ?_
  refine j_iload_n O 2 3 dX5_tells_124 rfl rfl ?_
  refine j_iconst O dX5_tells_125 ?_
  obtain ⟨c3, h⟩ := h
  refine j_icmp_ne O (tgt := 135) dX5_tells_126 (by decide) c3 (by decide) h (fun h => ?_) (fun h => ?_)
  · refine j_aload_n O 0 0 dX5_tells_135 rfl rfl ?_
    refine j_getA O cfX5 3 (Nat.le_of_ble_eq_true rfl) ⟨_, rfl⟩ q1571 dX5_tells_136 h (fun k4 h => ?_)
    refine j_bipush (m := 86) O dX5_tells_139 bi_86 ?_
    refine j_iload_n O 2 3 dX5_tells_141 rfl rfl ?_
    refine j_iadd O dX5_tells_142 ?_
    refine j_iald O dX5_tells_143 h (fun v5 h => ?_)
    refine j_i2l O dX5_tells_144 h (fun h => ?_)
    exact (J.sub [0, 1, 3] rfl <| wk_X5_tells_145 O hr hm  _ _ _ _ _ _  _ h)
  · refine j_ldc2 (m := (-1)) O dX5_tells_129 q1816 l2_m1 ?_
    refine j_goto O (tgt := 145) dX5_tells_132 (by decide) ?_
    exact (J.sub [0, 1, 3] rfl <| wk_X5_tells_145 O hr hm  _ _ _ _ _ _  _ h)
theorem mt_X5_tells (l : Launch) (G : GW) (this : Nat) (p1 : Int) (p2 : Int) (p3 : Int) (p4 : Int) (w : Wd) (Q : Int → Wd → Prop) (h : wp_X5_tells this p1 p2 p3 p4 w Q) : ML l G yX5_tells cX5_tells 10 5 0 0 [.ref (adG G (this)), vI (p1), vI (p2), vI (p3), vL (p4)] w Q := by
  refine met_L (fun G => [.ref (adG G (this)), vI (p1), vI (p2), vI (p3), vL (p4)]) (by decide) (fun G => Nat.le_of_ble_eq_true rfl) (fun x O hl hm hr => ?_)
  subst hl
  have O : OK x "DowryBoxesModel" cX5_tells 5 := O
  have h : wp_X5_tells this p1 p2 p3 p4 w Q := h
  unfold wp_X5_tells at h
  show J x (TL x Q) w 0 0 0 [(0, .ref (adG (xG x) (this))), (1, vI (p1)), (2, vI (p2)), (3, vI (p3)), (4, vL (p4))] []
  refine j_aload_n O 0 0 dX5_tells_0 rfl rfl ?_
  refine j_getA O cfX5 3 (Nat.le_of_ble_eq_true rfl) ⟨_, rfl⟩ q1571 dX5_tells_1 h (fun k1 h => ?_)
  refine j_iconst O dX5_tells_4 ?_
  refine j_iald O dX5_tells_5 h (fun v2 h => ?_)
  refine j_iconst O dX5_tells_6 ?_
  obtain ⟨c3, h⟩ := h
  refine j_icmp_ne O (tgt := 13) dX5_tells_7 (by decide) c3 (by decide) h (fun h => ?_) (fun h => ?_)
  · refine j_aload_n O 0 0 dX5_tells_13 rfl rfl ?_
    refine j_bipush (m := 116) O dX5_tells_14 bi_116 ?_
    refine j_sipush (m := 900) O dX5_tells_16 si_900 ?_
    refine j_aload_n O 0 0 dX5_tells_19 rfl rfl ?_
    refine j_getA O cfX5 3 (Nat.le_of_ble_eq_true rfl) ⟨_, rfl⟩ q1571 dX5_tells_20 h (fun k4 h => ?_)
    refine j_iconst O dX5_tells_23 ?_
    refine j_iald O dX5_tells_24 h (fun v5 h => ?_)
    refine j_imul O dX5_tells_25 ?_
    refine j_iadd O dX5_tells_26 ?_
    refine j_putI O cfX5 34 (Nat.le_of_ble_eq_true rfl) rfl q1602 rfl dX5_tells_27 h (fun w6 h => ?_)
    refine j_aload_n O 0 0 dX5_tells_30 rfl rfl ?_
    refine j_getA O cfX5 35 (Nat.le_of_ble_eq_true rfl) ⟨_, rfl⟩ q1603 dX5_tells_31 h (fun k7 h => ?_)
    refine j_iconst O dX5_tells_34 ?_
    refine j_iload_n O 2 2 dX5_tells_35 rfl rfl ?_
    refine j_i2l O dX5_tells_36 h (fun h => ?_)
    refine j_last O dX5_tells_37 h (fun w8 h => ?_)
    refine j_aload_n O 0 0 dX5_tells_38 rfl rfl ?_
    refine j_getA O cfX5 35 (Nat.le_of_ble_eq_true rfl) ⟨_, rfl⟩ q1603 dX5_tells_39 h (fun k9 h => ?_)
    refine j_iconst O dX5_tells_42 ?_
    refine j_aload_n O 0 0 dX5_tells_43 rfl rfl ?_
    refine j_getA O cfX5 3 (Nat.le_of_ble_eq_true rfl) ⟨_, rfl⟩ q1571 dX5_tells_44 h (fun k10 h => ?_)
    refine j_bipush (m := 62) O dX5_tells_47 bi_62 ?_
    refine j_iload_n O 2 2 dX5_tells_49 rfl rfl ?_
    refine j_iadd O dX5_tells_50 ?_
    refine j_iald O dX5_tells_51 h (fun v11 h => ?_)
    refine j_i2l O dX5_tells_52 h (fun h => ?_)
    refine j_last O dX5_tells_53 h (fun w12 h => ?_)
    refine j_aload_n O 0 0 dX5_tells_54 rfl rfl ?_
    refine j_getA O cfX5 35 (Nat.le_of_ble_eq_true rfl) ⟨_, rfl⟩ q1603 dX5_tells_55 h (fun k13 h => ?_)
    refine j_iconst O dX5_tells_58 ?_
    refine j_aload_n O 0 0 dX5_tells_59 rfl rfl ?_
    refine j_iload_n O 2 2 dX5_tells_60 rfl rfl ?_
    obtain ⟨e16, h⟩ := h
    refine fin_I O ⟨Nat.zero_le _, Nat.zero_le _⟩ (run_V (As := [vI (p2)]) (st := [vI (3), .ref (adG (xG x) (k13))]) O (mt_X5_notesOf (xl x) (xG x) _ _ _ _ h) e16 cfX5.1 q1797 q1799 qs52 q131 q1800 hy_X5_notesOf (Nat.le_of_ble_eq_true rfl) (Nat.le_of_ble_eq_true rfl) ⟨Nat.zero_le _, Nat.zero_le _⟩ rfl (Nat.le_of_ble_eq_true rfl) dX5_tells_61) (fun r14 w15 h => ?_)
    refine j_i2l O dX5_tells_64 h (fun h => ?_)
    refine j_last O dX5_tells_65 h (fun w17 h => ?_)
    refine j_aload_n O 0 0 dX5_tells_66 rfl rfl ?_
    refine j_getA O cfX5 35 (Nat.le_of_ble_eq_true rfl) ⟨_, rfl⟩ q1603 dX5_tells_67 h (fun k18 h => ?_)
    refine j_iconst O dX5_tells_70 ?_
    refine j_aload_n O 0 0 dX5_tells_71 rfl rfl ?_
    refine j_getA O cfX5 3 (Nat.le_of_ble_eq_true rfl) ⟨_, rfl⟩ q1571 dX5_tells_72 h (fun k19 h => ?_)
    refine j_bipush (m := 56) O dX5_tells_75 bi_56 ?_
    refine j_iload_n O 2 2 dX5_tells_77 rfl rfl ?_
    refine j_iadd O dX5_tells_78 ?_
    refine j_iald O dX5_tells_79 h (fun v20 h => ?_)
    refine fin_I O ⟨Nat.zero_le _, Nat.zero_le _⟩ (run_S (As := [vI (v20)]) (st := [vI (4), .ref (adG (xG x) (k18))]) O (mt_X5_ones (xl x) (xG x) _ _ _ h) q1805 q1806 q131 q1807 hy_X5_ones.2 (Nat.le_of_ble_eq_true rfl) (Nat.le_of_ble_eq_true rfl) ⟨Nat.zero_le _, Nat.zero_le _⟩ rfl (Nat.le_of_ble_eq_true rfl) dX5_tells_80) (fun r21 w22 h => ?_)
    refine j_i2l O dX5_tells_83 h (fun h => ?_)
    refine j_last O dX5_tells_84 h (fun w23 h => ?_)
    refine j_aload_n O 0 0 dX5_tells_85 rfl rfl ?_
    refine j_getA O cfX5 35 (Nat.le_of_ble_eq_true rfl) ⟨_, rfl⟩ q1603 dX5_tells_86 h (fun k24 h => ?_)
    refine j_iconst O dX5_tells_89 ?_
    refine j_iload_n O 3 3 dX5_tells_90 rfl rfl ?_
    refine j_i2l O dX5_tells_91 h (fun h => ?_)
    refine j_last O dX5_tells_92 h (fun w25 h => ?_)
    refine j_aload_n O 0 0 dX5_tells_93 rfl rfl ?_
    refine j_getA O cfX5 35 (Nat.le_of_ble_eq_true rfl) ⟨_, rfl⟩ q1603 dX5_tells_94 h (fun k26 h => ?_)
    refine j_bipush (m := 6) O dX5_tells_97 bi_6 ?_
    refine j_iload_n O 3 3 dX5_tells_99 rfl rfl ?_
    refine j_iconst O dX5_tells_100 ?_
    obtain ⟨c27, h⟩ := h
    refine j_icmp_ne O (tgt := 110) dX5_tells_101 (by decide) c27 (by decide) h (fun h => ?_) (fun h => ?_)
    · refine j_aload_n O 0 0 dX5_tells_110 rfl rfl ?_
      refine j_iload_n O 2 2 dX5_tells_111 rfl rfl ?_
      refine j_iload_n O 3 3 dX5_tells_112 rfl rfl ?_
      obtain ⟨e30, h⟩ := h
      refine fin_I O ⟨Nat.zero_le _, Nat.zero_le _⟩ (run_V (As := [vI (p2), vI (p3)]) (st := [vI (6), .ref (adG (xG x) (k26))]) O (mt_X5_earOf (xl x) (xG x) _ _ _ _ _ h) e30 cfX5.1 q1817 q1819 qs56 q131 q1820 hy_X5_earOf (Nat.le_of_ble_eq_true rfl) (Nat.le_of_ble_eq_true rfl) ⟨Nat.zero_le _, Nat.zero_le _⟩ rfl (Nat.le_of_ble_eq_true rfl) dX5_tells_113) (fun r28 w29 h => ?_)
      refine j_i2l O dX5_tells_116 h (fun h => ?_)
      exact (J.sub [0, 1, 3, 4] rfl <| wk_X5_tells_117 O hr hm  _ _ _ _ _ _ _  _ h)
    · refine j_ldc2 (m := (-1)) O dX5_tells_104 q1816 l2_m1 ?_
      refine j_goto O (tgt := 117) dX5_tells_107 (by decide) ?_
      exact (J.sub [0, 1, 3, 4] rfl <| wk_X5_tells_117 O hr hm  _ _ _ _ _ _ _  _ h)
  · refine j_lload O 4 dX5_tells_10 rfl ?_
    exact j_lret O hr dX5_tells_12 h
theorem hy_X5_losesOf : (yX5_losesOf.cls = "DowryBoxesModel" ∧ yX5_losesOf.cls ≠ "java/lang/invoke/MethodHandle" ∧ yX5_losesOf.cls ≠ "java/lang/invoke/VarHandle" ∧ (parseMethodDescriptor yX5_losesOf.desc).map (fun d => d.parameters.length) = some 1) := by decide +kernel
theorem mt_X5_losesOf (l : Launch) (G : GW) (this : Nat) (p1 : Int) (w : Wd) (Q : Int → Wd → Prop) (h : wp_X5_losesOf this p1 w Q) : MI l G yX5_losesOf cX5_losesOf 2 (.int) 6 0 0 [.ref (adG G (this)), vI (p1)] w Q := by
  refine met_I (fun G => [.ref (adG G (this)), vI (p1)]) (by decide) (fun G => Nat.le_of_ble_eq_true rfl) (fun x O hl hm hr => ?_)
  subst hl
  have O : OK x "DowryBoxesModel" cX5_losesOf 6 := O
  have h : wp_X5_losesOf this p1 w Q := h
  unfold wp_X5_losesOf at h
  show J x (TI x Q) w 0 0 0 [(0, .ref (adG (xG x) (this))), (1, vI (p1))] []
  refine j_aload_n O 0 0 dX5_losesOf_0 rfl rfl ?_
  refine j_iconst O dX5_losesOf_1 ?_
  refine j_iload_n O 1 1 dX5_losesOf_2 rfl rfl ?_
  refine j_iconst O dX5_losesOf_3 ?_
  refine j_lconst (m := 0) O dX5_losesOf_4 lc_0 ?_
  obtain ⟨e3, h⟩ := h
  refine fin_L O ⟨Nat.zero_le _, Nat.zero_le _⟩ (run_V (As := [vI (2), vI (p1), vI (((-1))), vL (0)]) (st := []) O (mt_X5_tells (xl x) (xG x) _ _ _ _ _ _ _ h) e3 cfX5.1 q1812 q1814 qs55 q131 q1815 hy_X5_tells (Nat.le_of_ble_eq_true rfl) (Nat.le_of_ble_eq_true rfl) ⟨Nat.zero_le _, Nat.zero_le _⟩ rfl (Nat.le_of_ble_eq_true rfl) dX5_losesOf_5) (fun r1 w2 h => ?_)
  refine j_iconst O dX5_losesOf_8 ?_
  refine j_bipush (m := 9) O dX5_losesOf_9 bi_9 ?_
  refine fin_I O ⟨Nat.zero_le _, Nat.zero_le _⟩ (run_S (As := [vL (r1), vI (0), vI (9)]) (st := []) O (mt_X5_within (xl x) (xG x) _ _ _ _ _ h) q1835 q1836 q131 q1837 hy_X5_within.2 (Nat.le_of_ble_eq_true rfl) (Nat.le_of_ble_eq_true rfl) ⟨Nat.zero_le _, Nat.zero_le _⟩ rfl (Nat.le_of_ble_eq_true rfl) dX5_losesOf_11) (fun r4 w5 h => ?_)
  exact j_iret O hr dX5_losesOf_14 h
theorem hy_X5_passIt : (yX5_passIt.cls = "DowryBoxesModel" ∧ yX5_passIt.cls ≠ "java/lang/invoke/MethodHandle" ∧ yX5_passIt.cls ≠ "java/lang/invoke/VarHandle" ∧ (parseMethodDescriptor yX5_passIt.desc).map (fun d => d.parameters.length) = some 0) := by decide +kernel
theorem wk_X5_passIt_2 {x : Cx} (O : OK x "DowryBoxesModel" cX5_passIt 7) (hr : (xM x).sig.returnType = some .int) (hm : xn x = 3) {Q : Int → Wd → Prop} (X2 : Wd → Prop) (this : Nat) (hX2 : ∀  (w : Wd), X2  w → J x (TI x Q) w 0 0 29 [(0, .ref (adG (xG x) (this)))] []) : ∀ (n : Nat) (x1 : Int) (w : Wd), wp_X5_passIt_2 Q X2 this n x1 w → J x (TI x Q) w 0 0 2 [(0, .ref (adG (xG x) (this))), (1, vI (x1))] [] := by
  intro n
  induction n with
  | zero => intro x1 w h; exact False.elim h
  | succ n ih =>
    intro x1 w h
    rw [wp_X5_passIt_2] at h
    refine j_iload_n O 1 1 dX5_passIt_2 rfl rfl ?_
    refine j_aload_n O 0 0 dX5_passIt_3 rfl rfl ?_
    refine j_getA O cfX5 3 (Nat.le_of_ble_eq_true rfl) ⟨_, rfl⟩ q1571 dX5_passIt_4 h (fun k1 h => ?_)
    refine j_iconst O dX5_passIt_7 ?_
    refine j_iald O dX5_passIt_8 h (fun v2 h => ?_)
    obtain ⟨c3, h⟩ := h
    obtain ⟨c4, h⟩ := h
    refine j_icmp_ge O (tgt := 29) dX5_passIt_9 (by decide) c3 c4 h (fun h => ?_) (fun h => ?_)
    · exact (J.sub [0] rfl <| hX2  _ h)
    · refine j_aload_n O 0 0 dX5_passIt_12 rfl rfl ?_
      refine j_getA O cfX5 41 (Nat.le_of_ble_eq_true rfl) ⟨_, rfl⟩ q1609 dX5_passIt_13 h (fun k5 h => ?_)
      refine j_iload_n O 1 1 dX5_passIt_16 rfl rfl ?_
      refine j_aload_n O 0 0 dX5_passIt_17 rfl rfl ?_
      refine j_iload_n O 1 1 dX5_passIt_18 rfl rfl ?_
      obtain ⟨e8, h⟩ := h
      refine fin_I O ⟨Nat.zero_le _, Nat.zero_le _⟩ (run_V (As := [vI (x1)]) (st := [vI (x1), .ref (adG (xG x) (k5))]) O (mt_X5_losesOf (xl x) (xG x) _ _ _ _ h) e8 cfX5.1 q1838 q1840 qs60 q131 q1841 hy_X5_losesOf (Nat.le_of_ble_eq_true rfl) (Nat.le_of_ble_eq_true rfl) ⟨Nat.zero_le _, Nat.zero_le _⟩ rfl (Nat.le_of_ble_eq_true rfl) dX5_passIt_19) (fun r6 w7 h => ?_)
      refine j_iast O dX5_passIt_22 h (fun w9 h => ?_)
      refine j_iinc (L' := [(1, vI (x1 + 1)), (0, .ref (adG (xG x) (this)))]) O 1 dX5_passIt_23 rfl (by rw [hm]; decide) rfl ?_
      refine j_goto O (tgt := 2) dX5_passIt_26 (by decide) ?_
      exact (J.sub [1, 0] rfl <| ih _ _ h)
theorem wk_X5_passIt_155 {x : Cx} (O : OK x "DowryBoxesModel" cX5_passIt 7) (hr : (xM x).sig.returnType = some .int) (hm : xn x = 3) {Q : Int → Wd → Prop} (K33 : Int → Int → Wd → Prop) (X33 : Int → Wd → Prop) (this : Nat) (x1 : Int) (x2 : Int) (hK33 : ∀ (y1 : Int) (y2 : Int) (w : Wd), K33 y1 y2 w → J x (TI x Q) w 0 0 33 [(0, .ref (adG (xG x) (this))), (1, vI (y1)), (2, vI (y2))] []) (hX33 : ∀ (y1 : Int) (w : Wd), X33 y1 w → J x (TI x Q) w 0 0 161 [(0, .ref (adG (xG x) (this))), (1, vI (y1))] []) (w : Wd) (h : wp_X5_passIt_155 Q K33 X33 this x1 x2 w) : J x (TI x Q) w 0 0 155 [(0, .ref (adG (xG x) (this))), (1, vI (x1)), (2, vI (x2))] [] := by
  unfold wp_X5_passIt_155 at h
  refine j_iinc (L' := [(2, vI (x2 + 1)), (0, .ref (adG (xG x) (this))), (1, vI (x1))]) O 2 dX5_passIt_155 rfl (by rw [hm]; decide) rfl ?_
  refine j_goto O (tgt := 33) dX5_passIt_158 (by decide) ?_
  exact (J.sub [1, 2, 0] rfl <| hK33 _ _ _ h)
theorem wk_X5_passIt_154 {x : Cx} (O : OK x "DowryBoxesModel" cX5_passIt 7) (hr : (xM x).sig.returnType = some .int) (hm : xn x = 3) {Q : Int → Wd → Prop} (K33 : Int → Int → Wd → Prop) (X33 : Int → Wd → Prop) (this : Nat) (x1 : Int) (x2 : Int) (s0 : Int) (s1 : Int) (s2 : Nat) (hK33 : ∀ (y1 : Int) (y2 : Int) (w : Wd), K33 y1 y2 w → J x (TI x Q) w 0 0 33 [(0, .ref (adG (xG x) (this))), (1, vI (y1)), (2, vI (y2))] []) (hX33 : ∀ (y1 : Int) (w : Wd), X33 y1 w → J x (TI x Q) w 0 0 161 [(0, .ref (adG (xG x) (this))), (1, vI (y1))] []) (w : Wd) (h : wp_X5_passIt_154 Q K33 X33 this x1 x2 s0 s1 s2 w) : J x (TI x Q) w 0 0 154 [(0, .ref (adG (xG x) (this))), (1, vI (x1)), (2, vI (x2))] [vI (s0), vI (s1), .ref (adG (xG x) (s2))] := by
  unfold wp_X5_passIt_154 at h
  refine j_iast O dX5_passIt_154 h (fun w1 h => ?_)
  exact (J.sub [0, 1, 2] rfl <| wk_X5_passIt_155 O hr hm _ _ _ _ _ hK33 hX33 _ h)
theorem wk_X5_passIt_119 {x : Cx} (O : OK x "DowryBoxesModel" cX5_passIt 7) (hr : (xM x).sig.returnType = some .int) (hm : xn x = 3) {Q : Int → Wd → Prop} (K33 : Int → Int → Wd → Prop) (X33 : Int → Wd → Prop) (this : Nat) (x2 : Int) (s0 : Int) (s1 : Int) (hK33 : ∀ (y1 : Int) (y2 : Int) (w : Wd), K33 y1 y2 w → J x (TI x Q) w 0 0 33 [(0, .ref (adG (xG x) (this))), (1, vI (y1)), (2, vI (y2))] []) (hX33 : ∀ (y1 : Int) (w : Wd), X33 y1 w → J x (TI x Q) w 0 0 161 [(0, .ref (adG (xG x) (this))), (1, vI (y1))] []) (w : Wd) (h : wp_X5_passIt_119 Q K33 X33 this x2 s0 s1 w) : J x (TI x Q) w 0 0 119 [(0, .ref (adG (xG x) (this))), (2, vI (x2))] [vI (s0), vI (s1)] := by
  unfold wp_X5_passIt_119 at h
  refine j_iadd O dX5_passIt_119 ?_
  refine j_istore_n (L' := [(1, vI (s1 + s0)), (0, .ref (adG (xG x) (this))), (2, vI (x2))]) O 1 dX5_passIt_120 rfl (by rw [hm]; decide) rfl ?_
  refine j_aload_n O 1 0 dX5_passIt_121 rfl rfl ?_
  refine j_getA O cfX5 3 (Nat.le_of_ble_eq_true rfl) ⟨_, rfl⟩ q1571 dX5_passIt_122 h (fun k1 h => ?_)
  refine j_bipush (m := 68) O dX5_passIt_125 bi_68 ?_
  refine j_iload_n O 2 2 dX5_passIt_127 rfl rfl ?_
  refine j_iadd O dX5_passIt_128 ?_
  refine j_aload_n O 1 0 dX5_passIt_129 rfl rfl ?_
  refine j_getA O cfX5 3 (Nat.le_of_ble_eq_true rfl) ⟨_, rfl⟩ q1571 dX5_passIt_130 h (fun k2 h => ?_)
  refine j_bipush (m := 74) O dX5_passIt_133 bi_74 ?_
  refine j_iload_n O 2 2 dX5_passIt_135 rfl rfl ?_
  refine j_iadd O dX5_passIt_136 ?_
  refine j_iald O dX5_passIt_137 h (fun v3 h => ?_)
  obtain ⟨c4, h⟩ := h
  refine j_if_ne O (tgt := 145) dX5_passIt_138 (by decide) c4 h (fun h => ?_) (fun h => ?_)
  · refine j_aload_n O 1 0 dX5_passIt_145 rfl rfl ?_
    refine j_getA O cfX5 3 (Nat.le_of_ble_eq_true rfl) ⟨_, rfl⟩ q1571 dX5_passIt_146 h (fun k5 h => ?_)
    refine j_bipush (m := 68) O dX5_passIt_149 bi_68 ?_
    refine j_iload_n O 2 2 dX5_passIt_151 rfl rfl ?_
    refine j_iadd O dX5_passIt_152 ?_
    refine j_iald O dX5_passIt_153 h (fun v6 h => ?_)
    exact (J.sub [1, 0, 2] rfl <| wk_X5_passIt_154 O hr hm _ _ _ _ _ _ _ _ hK33 hX33 _ h)
  · refine j_iconst O dX5_passIt_141 ?_
    refine j_goto O (tgt := 154) dX5_passIt_142 (by decide) ?_
    exact (J.sub [1, 0, 2] rfl <| wk_X5_passIt_154 O hr hm _ _ _ _ _ _ _ _ hK33 hX33 _ h)
theorem wk_X5_passIt_33 {x : Cx} (O : OK x "DowryBoxesModel" cX5_passIt 7) (hr : (xM x).sig.returnType = some .int) (hm : xn x = 3) {Q : Int → Wd → Prop} (X33 : Int → Wd → Prop) (this : Nat) (hX33 : ∀ (y1 : Int) (w : Wd), X33 y1 w → J x (TI x Q) w 0 0 161 [(0, .ref (adG (xG x) (this))), (1, vI (y1))] []) : ∀ (n : Nat) (x1 : Int) (x2 : Int) (w : Wd), wp_X5_passIt_33 Q X33 this n x1 x2 w → J x (TI x Q) w 0 0 33 [(0, .ref (adG (xG x) (this))), (1, vI (x1)), (2, vI (x2))] [] := by
  intro n
  induction n with
  | zero => intro x1 x2 w h; exact False.elim h
  | succ n ih =>
    intro x1 x2 w h
    rw [wp_X5_passIt_33] at h
    refine j_iload_n O 2 2 dX5_passIt_33 rfl rfl ?_
    refine j_aload_n O 0 0 dX5_passIt_34 rfl rfl ?_
    refine j_getA O cfX5 3 (Nat.le_of_ble_eq_true rfl) ⟨_, rfl⟩ q1571 dX5_passIt_35 h (fun k1 h => ?_)
    refine j_iconst O dX5_passIt_38 ?_
    refine j_iald O dX5_passIt_39 h (fun v2 h => ?_)
    obtain ⟨c3, h⟩ := h
    obtain ⟨c4, h⟩ := h
    refine j_icmp_ge O (tgt := 161) dX5_passIt_40 (by decide) c3 c4 h (fun h => ?_) (fun h => ?_)
    · exact (J.sub [0, 1] rfl <| hX33 _ _ h)
    · refine j_aload_n O 0 0 dX5_passIt_43 rfl rfl ?_
      refine j_getA O cfX5 3 (Nat.le_of_ble_eq_true rfl) ⟨_, rfl⟩ q1571 dX5_passIt_44 h (fun k5 h => ?_)
      refine j_bipush (m := 62) O dX5_passIt_47 bi_62 ?_
      refine j_iload_n O 2 2 dX5_passIt_49 rfl rfl ?_
      refine j_iadd O dX5_passIt_50 ?_
      refine j_aload_n O 0 0 dX5_passIt_51 rfl rfl ?_
      refine j_getA O cfX5 3 (Nat.le_of_ble_eq_true rfl) ⟨_, rfl⟩ q1571 dX5_passIt_52 h (fun k6 h => ?_)
      refine j_bipush (m := 62) O dX5_passIt_55 bi_62 ?_
      refine j_iload_n O 2 2 dX5_passIt_57 rfl rfl ?_
      refine j_iadd O dX5_passIt_58 ?_
      refine j_iald O dX5_passIt_59 h (fun v7 h => ?_)
      refine j_aload_n O 0 0 dX5_passIt_60 rfl rfl ?_
      refine j_getA O cfX5 41 (Nat.le_of_ble_eq_true rfl) ⟨_, rfl⟩ q1609 dX5_passIt_61 h (fun k8 h => ?_)
      refine j_iload_n O 2 2 dX5_passIt_64 rfl rfl ?_
      refine j_iald O dX5_passIt_65 h (fun v9 h => ?_)
      refine j_isub O dX5_passIt_66 ?_
      refine j_i2l O dX5_passIt_67 h (fun h => ?_)
      refine j_iconst O dX5_passIt_68 ?_
      refine j_bipush (m := 20) O dX5_passIt_69 bi_20 ?_
      refine fin_I O ⟨Nat.zero_le _, Nat.zero_le _⟩ (run_S (As := [vL ((v7 - v9)), vI (0), vI (20)]) (st := [vI (62 + x2), .ref (adG (xG x) (k5))]) O (mt_X5_within (xl x) (xG x) _ _ _ _ _ h) q1835 q1836 q131 q1837 hy_X5_within.2 (Nat.le_of_ble_eq_true rfl) (Nat.le_of_ble_eq_true rfl) ⟨Nat.zero_le _, Nat.zero_le _⟩ rfl (Nat.le_of_ble_eq_true rfl) dX5_passIt_71) (fun r10 w11 h => ?_)
      refine j_iast O dX5_passIt_74 h (fun w12 h => ?_)
      refine j_aload_n O 0 0 dX5_passIt_75 rfl rfl ?_
      refine j_getA O cfX5 3 (Nat.le_of_ble_eq_true rfl) ⟨_, rfl⟩ q1571 dX5_passIt_76 h (fun k13 h => ?_)
      refine j_bipush (m := 68) O dX5_passIt_79 bi_68 ?_
      refine j_iload_n O 2 2 dX5_passIt_81 rfl rfl ?_
      refine j_iadd O dX5_passIt_82 ?_
      refine j_iald O dX5_passIt_83 h (fun v14 h => ?_)
      refine j_iconst O dX5_passIt_84 ?_
      obtain ⟨c15, h⟩ := h
      refine j_icmp_eq O (tgt := 155) dX5_passIt_85 (by decide) c15 (by decide) h (fun h => ?_) (fun h => ?_)
      · exact (J.sub [0, 1, 2] rfl <| wk_X5_passIt_155 O hr hm _ _ _ _ _ ih hX33 _ h)
      · refine j_aload_n O 0 0 dX5_passIt_88 rfl rfl ?_
        refine j_getA O cfX5 3 (Nat.le_of_ble_eq_true rfl) ⟨_, rfl⟩ q1571 dX5_passIt_89 h (fun k16 h => ?_)
        refine j_bipush (m := 74) O dX5_passIt_92 bi_74 ?_
        refine j_iload_n O 2 2 dX5_passIt_94 rfl rfl ?_
        refine j_iadd O dX5_passIt_95 ?_
        refine j_dup2_11 O dX5_passIt_96 rfl rfl ?_
        refine j_iald O dX5_passIt_97 h (fun v17 h => ?_)
        refine j_iconst O dX5_passIt_98 ?_
        refine j_isub O dX5_passIt_99 ?_
        refine j_iast O dX5_passIt_100 h (fun w18 h => ?_)
        refine j_iload_n O 1 1 dX5_passIt_101 rfl rfl ?_
        refine j_aload_n O 0 0 dX5_passIt_102 rfl rfl ?_
        refine j_getA O cfX5 3 (Nat.le_of_ble_eq_true rfl) ⟨_, rfl⟩ q1571 dX5_passIt_103 h (fun k19 h => ?_)
        refine j_bipush (m := 74) O dX5_passIt_106 bi_74 ?_
        refine j_iload_n O 2 2 dX5_passIt_108 rfl rfl ?_
        refine j_iadd O dX5_passIt_109 ?_
        refine j_iald O dX5_passIt_110 h (fun v20 h => ?_)
        obtain ⟨c21, h⟩ := h
        refine j_if_ne O (tgt := 118) dX5_passIt_111 (by decide) c21 h (fun h => ?_) (fun h => ?_)
        · refine j_iconst O dX5_passIt_118 ?_
          exact (J.sub [0, 2] rfl <| wk_X5_passIt_119 O hr hm _ _ _ _ _ _ ih hX33 _ h)
        · refine j_iconst O dX5_passIt_114 ?_
          refine j_goto O (tgt := 119) dX5_passIt_115 (by decide) ?_
          exact (J.sub [0, 2] rfl <| wk_X5_passIt_119 O hr hm _ _ _ _ _ _ ih hX33 _ h)
theorem mt_X5_passIt (l : Launch) (G : GW) (this : Nat) (w : Wd) (Q : Int → Wd → Prop) (h : wp_X5_passIt this w Q) : MI l G yX5_passIt cX5_passIt 3 (.int) 7 0 0 [.ref (adG G (this))] w Q := by
  refine met_I (fun G => [.ref (adG G (this))]) (by decide) (fun G => Nat.le_of_ble_eq_true rfl) (fun x O hl hm hr => ?_)
  subst hl
  have O : OK x "DowryBoxesModel" cX5_passIt 7 := O
  have h : wp_X5_passIt this w Q := h
  unfold wp_X5_passIt at h
  show J x (TI x Q) w 0 0 0 [(0, .ref (adG (xG x) (this)))] []
  refine j_iconst O dX5_passIt_0 ?_
  refine j_istore_n (L' := [(1, vI (0)), (0, .ref (adG (xG x) (this)))]) O 1 dX5_passIt_1 rfl (by rw [hm]; decide) rfl ?_
  refine (J.sub [1, 0] rfl <| wk_X5_passIt_2 O hr hm _ _ (fun w1 h => ?_) FU _ _ h)
  refine j_iconst O dX5_passIt_29 ?_
  refine j_istore_n (L' := [(1, vI (0)), (0, .ref (adG (xG x) (this)))]) O 1 dX5_passIt_30 rfl (by rw [hm]; decide) rfl ?_
  refine j_iconst O dX5_passIt_31 ?_
  refine j_istore_n (L' := [(2, vI (0)), (1, vI (0)), (0, .ref (adG (xG x) (this)))]) O 2 dX5_passIt_32 rfl (by rw [hm]; decide) rfl ?_
  refine (J.sub [2, 1, 0] rfl <| wk_X5_passIt_33 O hr hm _ _ (fun z2 w3 h => ?_) FU _ _ _ h)
  refine j_aload_n O 0 0 dX5_passIt_161 rfl rfl ?_
  refine j_getA O cfX5 3 (Nat.le_of_ble_eq_true rfl) ⟨_, rfl⟩ q1571 dX5_passIt_162 h (fun k4 h => ?_)
  refine j_iconst O dX5_passIt_165 ?_
  refine j_dup2_11 O dX5_passIt_166 rfl rfl ?_
  refine j_iald O dX5_passIt_167 h (fun v5 h => ?_)
  refine j_iconst O dX5_passIt_168 ?_
  refine j_iadd O dX5_passIt_169 ?_
  refine j_iast O dX5_passIt_170 h (fun w6 h => ?_)
  refine j_iload_n O 1 1 dX5_passIt_171 rfl rfl ?_
  exact j_iret O hr dX5_passIt_172 h
theorem hy_X5_putBack : (yX5_putBack.cls = "DowryBoxesModel" ∧ yX5_putBack.cls ≠ "java/lang/invoke/MethodHandle" ∧ yX5_putBack.cls ≠ "java/lang/invoke/VarHandle" ∧ (parseMethodDescriptor yX5_putBack.desc).map (fun d => d.parameters.length) = some 1) := by decide +kernel
theorem wk_X5_putBack_2 {x : Cx} (O : OK x "DowryBoxesModel" cX5_putBack 1) (hr : (xM x).sig.returnType = none) (hm : xn x = 3) {Q : Wd → Prop} (this : Nat) (x1 : Int) : ∀ (n : Nat) (x2 : Int) (w : Wd), wp_X5_putBack_2 Q this x1 n x2 w → J x (TV x Q) w 0 0 2 [(0, .ref (adG (xG x) (this))), (1, vI (x1)), (2, vI (x2))] [] := by
  intro n
  induction n with
  | zero => intro x2 w h; exact False.elim h
  | succ n ih =>
    intro x2 w h
    rw [wp_X5_putBack_2] at h
    refine j_iload_n O 2 2 dX5_putBack_2 rfl rfl ?_
    refine j_bipush (m := 75) O dX5_putBack_3 bi_75 ?_
    obtain ⟨c1, h⟩ := h
    refine j_icmp_ge O (tgt := 33) dX5_putBack_5 (by decide) c1 (by decide) h (fun h => ?_) (fun h => ?_)
    · exact j_vret O hr dX5_putBack_33 h
    · refine j_aload_n O 0 0 dX5_putBack_8 rfl rfl ?_
      refine j_getA O cfX5 3 (Nat.le_of_ble_eq_true rfl) ⟨_, rfl⟩ q1571 dX5_putBack_9 h (fun k2 h => ?_)
      refine j_iconst O dX5_putBack_12 ?_
      refine j_iload_n O 2 2 dX5_putBack_13 rfl rfl ?_
      refine j_iadd O dX5_putBack_14 ?_
      refine j_aload_n O 0 0 dX5_putBack_15 rfl rfl ?_
      refine j_getA O cfX5 6 (Nat.le_of_ble_eq_true rfl) ⟨_, rfl⟩ q1574 dX5_putBack_16 h (fun k3 h => ?_)
      refine j_bipush (m := 75) O dX5_putBack_19 bi_75 ?_
      refine j_iload_n O 1 1 dX5_putBack_21 rfl rfl ?_
      refine j_imul O dX5_putBack_22 ?_
      refine j_iload_n O 2 2 dX5_putBack_23 rfl rfl ?_
      refine j_iadd O dX5_putBack_24 ?_
      refine j_iald O dX5_putBack_25 h (fun v4 h => ?_)
      refine j_iast O dX5_putBack_26 h (fun w5 h => ?_)
      refine j_iinc (L' := [(2, vI (x2 + 1)), (0, .ref (adG (xG x) (this))), (1, vI (x1))]) O 2 dX5_putBack_27 rfl (by rw [hm]; decide) rfl ?_
      refine j_goto O (tgt := 2) dX5_putBack_30 (by decide) ?_
      exact (J.sub [1, 2, 0] rfl <| ih _ _ h)
theorem mt_X5_putBack (l : Launch) (G : GW) (this : Nat) (p1 : Int) (w : Wd) (Q : Wd → Prop) (h : wp_X5_putBack this p1 w Q) : MV l G yX5_putBack cX5_putBack 3 1 0 0 [.ref (adG G (this)), vI (p1)] w Q := by
  refine met_V (fun G => [.ref (adG G (this)), vI (p1)]) (by decide) (fun G => Nat.le_of_ble_eq_true rfl) (fun x O hl hm hr _ => ?_)
  subst hl
  have O : OK x "DowryBoxesModel" cX5_putBack 1 := O
  have h : wp_X5_putBack this p1 w Q := h
  unfold wp_X5_putBack at h
  show J x (TV x Q) w 0 0 0 [(0, .ref (adG (xG x) (this))), (1, vI (p1))] []
  refine j_iconst O dX5_putBack_0 ?_
  refine j_istore_n (L' := [(2, vI (0)), (0, .ref (adG (xG x) (this))), (1, vI (p1))]) O 2 dX5_putBack_1 rfl (by rw [hm]; decide) rfl ?_
  exact (J.sub [1, 2, 0] rfl <| wk_X5_putBack_2 O hr hm  _ _  FU _ _ h)
theorem hy_X5_generations : (yX5_generations.cls = "DowryBoxesModel" ∧ yX5_generations.cls ≠ "java/lang/invoke/MethodHandle" ∧ yX5_generations.cls ≠ "java/lang/invoke/VarHandle" ∧ (parseMethodDescriptor yX5_generations.desc).map (fun d => d.parameters.length) = some 2) := by decide +kernel
theorem wk_X5_generations_29 {x : Cx} (O : OK x "DowryBoxesModel" cX5_generations 8) (hr : (xM x).sig.returnType = some .int) (hm : xn x = 9) {Q : Int → Wd → Prop} (this : Nat) (w : Wd) (h : wp_X5_generations_29 Q this w) : J x (TI x Q) w 0 0 29 [(0, .ref (adG (xG x) (this)))] [] := by
  unfold wp_X5_generations_29 at h
  refine j_aload_n O 0 0 dX5_generations_29 rfl rfl ?_
  refine j_iconst O dX5_generations_30 ?_
  obtain ⟨e3, h⟩ := h
  refine fin_I O ⟨Nat.zero_le _, Nat.zero_le _⟩ (run_V (As := [vI (((-1)))]) (st := []) O (mt_X5_tell (xl x) (xG x) _ _ _ _ h) e3 cfX5.1 q1760 q1762 qs48 q131 q1763 hy_X5_tell (Nat.le_of_ble_eq_true rfl) (Nat.le_of_ble_eq_true rfl) ⟨Nat.zero_le _, Nat.zero_le _⟩ rfl (Nat.le_of_ble_eq_true rfl) dX5_generations_31) (fun r1 w2 h => ?_)
  exact j_iret O hr dX5_generations_34 h
theorem wk_X5_generations_220 {x : Cx} (O : OK x "DowryBoxesModel" cX5_generations 8) (hr : (xM x).sig.returnType = some .int) (hm : xn x = 9) {Q : Int → Wd → Prop} (K68 : Int → Int → Wd → Prop) (X68 : Int → Wd → Prop) (this : Nat) (x2 : Int) (x3 : Int) (x4 : Int) (hK68 : ∀ (y3 : Int) (y4 : Int) (w : Wd), K68 y3 y4 w → J x (TI x Q) w 0 0 68 [(0, .ref (adG (xG x) (this))), (2, vI (x2)), (3, vI (y3)), (4, vI (y4))] []) (hX68 : ∀ (y3 : Int) (w : Wd), X68 y3 w → J x (TI x Q) w 0 0 233 [(0, .ref (adG (xG x) (this))), (3, vI (y3))] []) (w : Wd) (h : wp_X5_generations_220 Q K68 X68 this x2 x3 x4 w) : J x (TI x Q) w 0 0 220 [(0, .ref (adG (xG x) (this))), (2, vI (x2)), (3, vI (x3)), (4, vI (x4))] [] := by
  unfold wp_X5_generations_220 at h
  refine j_iload_n O 2 3 dX5_generations_220 rfl rfl ?_
  refine j_aload_n O 0 0 dX5_generations_221 rfl rfl ?_
  obtain ⟨e3, h⟩ := h
  refine fin_I O ⟨Nat.zero_le _, Nat.zero_le _⟩ (run_V (As := []) (st := [vI (x3)]) O (mt_X5_passIt (xl x) (xG x) _ _ _ h) e3 cfX5.1 q2091 q2093 qs98 q131 q2094 hy_X5_passIt (Nat.le_of_ble_eq_true rfl) (Nat.le_of_ble_eq_true rfl) ⟨Nat.zero_le _, Nat.zero_le _⟩ rfl (Nat.le_of_ble_eq_true rfl) dX5_generations_222) (fun r1 w2 h => ?_)
  refine j_iadd O dX5_generations_225 ?_
  refine j_istore_n (L' := [(3, vI (x3 + r1)), (0, .ref (adG (xG x) (this))), (2, vI (x2)), (4, vI (x4))]) O 3 dX5_generations_226 rfl (by rw [hm]; decide) rfl ?_
  refine j_iinc (L' := [(4, vI (x4 + 1)), (3, vI (x3 + r1)), (0, .ref (adG (xG x) (this))), (2, vI (x2))]) O 3 dX5_generations_227 rfl (by rw [hm]; decide) rfl ?_
  refine j_goto O (tgt := 68) dX5_generations_230 (by decide) ?_
  exact (J.sub [2, 3, 1, 0] rfl <| hK68 _ _ _ h)
theorem wk_X5_generations_185 {x : Cx} (O : OK x "DowryBoxesModel" cX5_generations 8) (hr : (xM x).sig.returnType = some .int) (hm : xn x = 9) {Q : Int → Wd → Prop} (K68 : Int → Int → Wd → Prop) (X68 : Int → Wd → Prop) (this : Nat) (x2 : Int) (x3 : Int) (x4 : Int) (x5 : Int) (x8 : Int) (hK68 : ∀ (y3 : Int) (y4 : Int) (w : Wd), K68 y3 y4 w → J x (TI x Q) w 0 0 68 [(0, .ref (adG (xG x) (this))), (2, vI (x2)), (3, vI (y3)), (4, vI (y4))] []) (hX68 : ∀ (y3 : Int) (w : Wd), X68 y3 w → J x (TI x Q) w 0 0 233 [(0, .ref (adG (xG x) (this))), (3, vI (y3))] []) (w : Wd) (h : wp_X5_generations_185 Q K68 X68 this x2 x3 x4 x5 x8 w) : J x (TI x Q) w 0 0 185 [(0, .ref (adG (xG x) (this))), (2, vI (x2)), (3, vI (x3)), (4, vI (x4)), (5, vI (x5)), (8, vI (x8))] [] := by
  unfold wp_X5_generations_185 at h
  refine j_iload O 5 dX5_generations_185 rfl ?_
  refine j_iconst O dX5_generations_187 ?_
  obtain ⟨c1, h⟩ := h
  refine j_icmp_ne O (tgt := 220) dX5_generations_188 (by decide) c1 (by decide) h (fun h => ?_) (fun h => ?_)
  · exact (J.sub [0, 1, 2, 3] rfl <| wk_X5_generations_220 O hr hm _ _ _ _ _ _ hK68 hX68 _ h)
  · refine j_aload_n O 0 0 dX5_generations_191 rfl rfl ?_
    refine j_getA O cfX5 3 (Nat.le_of_ble_eq_true rfl) ⟨_, rfl⟩ q1571 dX5_generations_192 h (fun k2 h => ?_)
    refine j_bipush (m := 62) O dX5_generations_195 bi_62 ?_
    refine j_iload O 4 dX5_generations_197 rfl ?_
    refine j_iadd O dX5_generations_199 ?_
    refine j_aload_n O 0 0 dX5_generations_200 rfl rfl ?_
    refine j_getA O cfX5 3 (Nat.le_of_ble_eq_true rfl) ⟨_, rfl⟩ q1571 dX5_generations_201 h (fun k3 h => ?_)
    refine j_bipush (m := 62) O dX5_generations_204 bi_62 ?_
    refine j_iload O 4 dX5_generations_206 rfl ?_
    refine j_iadd O dX5_generations_208 ?_
    refine j_iald O dX5_generations_209 h (fun v4 h => ?_)
    refine j_iconst O dX5_generations_210 ?_
    refine j_isub O dX5_generations_211 ?_
    refine j_i2l O dX5_generations_212 h (fun h => ?_)
    refine j_iconst O dX5_generations_213 ?_
    refine j_bipush (m := 20) O dX5_generations_214 bi_20 ?_
    refine fin_I O ⟨Nat.zero_le _, Nat.zero_le _⟩ (run_S (As := [vL ((v4 - 1)), vI (0), vI (20)]) (st := [vI (62 + x5), .ref (adG (xG x) (k2))]) O (mt_X5_within (xl x) (xG x) _ _ _ _ _ h) q1835 q1836 q131 q1837 hy_X5_within.2 (Nat.le_of_ble_eq_true rfl) (Nat.le_of_ble_eq_true rfl) ⟨Nat.zero_le _, Nat.zero_le _⟩ rfl (Nat.le_of_ble_eq_true rfl) dX5_generations_216) (fun r5 w6 h => ?_)
    refine j_iast O dX5_generations_219 h (fun w7 h => ?_)
    exact (J.sub [0, 1, 2, 3] rfl <| wk_X5_generations_220 O hr hm _ _ _ _ _ _ hK68 hX68 _ h)
theorem wk_X5_generations_162 {x : Cx} (O : OK x "DowryBoxesModel" cX5_generations 8) (hr : (xM x).sig.returnType = some .int) (hm : xn x = 9) {Q : Int → Wd → Prop} (K68 : Int → Int → Wd → Prop) (X68 : Int → Wd → Prop) (this : Nat) (x2 : Int) (x3 : Int) (x4 : Int) (x5 : Int) (x7 : Int) (x8 : Int) (hK68 : ∀ (y3 : Int) (y4 : Int) (w : Wd), K68 y3 y4 w → J x (TI x Q) w 0 0 68 [(0, .ref (adG (xG x) (this))), (2, vI (x2)), (3, vI (y3)), (4, vI (y4))] []) (hX68 : ∀ (y3 : Int) (w : Wd), X68 y3 w → J x (TI x Q) w 0 0 233 [(0, .ref (adG (xG x) (this))), (3, vI (y3))] []) (w : Wd) (h : wp_X5_generations_162 Q K68 X68 this x2 x3 x4 x5 x7 x8 w) : J x (TI x Q) w 0 0 162 [(0, .ref (adG (xG x) (this))), (2, vI (x2)), (3, vI (x3)), (4, vI (x4)), (5, vI (x5)), (7, vI (x7)), (8, vI (x8))] [] := by
  unfold wp_X5_generations_162 at h
  refine j_iload O 6 dX5_generations_162 rfl ?_
  refine j_iconst O dX5_generations_164 ?_
  obtain ⟨c1, h⟩ := h
  refine j_icmp_ne O (tgt := 185) dX5_generations_165 (by decide) c1 (by decide) h (fun h => ?_) (fun h => ?_)
  · exact (J.sub [0, 1, 2, 3, 4, 6] rfl <| wk_X5_generations_185 O hr hm _ _ _ _ _ _ _ _ hK68 hX68 _ h)
  · refine j_aload_n O 0 0 dX5_generations_168 rfl rfl ?_
    refine j_getA O cfX5 3 (Nat.le_of_ble_eq_true rfl) ⟨_, rfl⟩ q1571 dX5_generations_169 h (fun k2 h => ?_)
    refine j_bipush (m := 56) O dX5_generations_172 bi_56 ?_
    refine j_iload O 4 dX5_generations_174 rfl ?_
    refine j_iadd O dX5_generations_176 ?_
    refine j_dup2_11 O dX5_generations_177 rfl rfl ?_
    refine j_iald O dX5_generations_178 h (fun v3 h => ?_)
    refine j_iconst O dX5_generations_179 ?_
    refine j_iload O 5 dX5_generations_180 rfl ?_
    refine j_ishl O dX5_generations_182 ?_
    refine j_ior O dX5_generations_183 ?_
    refine j_iast O dX5_generations_184 h (fun w4 h => ?_)
    exact (J.sub [0, 1, 2, 3, 4, 6] rfl <| wk_X5_generations_185 O hr hm _ _ _ _ _ _ _ _ hK68 hX68 _ h)
theorem wk_X5_generations_68 {x : Cx} (O : OK x "DowryBoxesModel" cX5_generations 8) (hr : (xM x).sig.returnType = some .int) (hm : xn x = 9) {Q : Int → Wd → Prop} (X68 : Int → Wd → Prop) (this : Nat) (x2 : Int) (hX68 : ∀ (y3 : Int) (w : Wd), X68 y3 w → J x (TI x Q) w 0 0 233 [(0, .ref (adG (xG x) (this))), (3, vI (y3))] []) : ∀ (n : Nat) (x3 : Int) (x4 : Int) (w : Wd), wp_X5_generations_68 Q X68 this x2 n x3 x4 w → J x (TI x Q) w 0 0 68 [(0, .ref (adG (xG x) (this))), (2, vI (x2)), (3, vI (x3)), (4, vI (x4))] [] := by
  intro n
  induction n with
  | zero => intro x3 x4 w h; exact False.elim h
  | succ n ih =>
    intro x3 x4 w h
    rw [wp_X5_generations_68] at h
    refine j_iload O 3 dX5_generations_68 rfl ?_
    refine j_iload_n O 1 2 dX5_generations_70 rfl rfl ?_
    obtain ⟨c1, h⟩ := h
    obtain ⟨c2, h⟩ := h
    refine j_icmp_ge O (tgt := 233) dX5_generations_71 (by decide) c1 c2 h (fun h => ?_) (fun h => ?_)
    · exact (J.sub [0, 2] rfl <| hX68 _ _ h)
    · refine j_aload_n O 0 0 dX5_generations_74 rfl rfl ?_
      refine j_getA O cfX5 3 (Nat.le_of_ble_eq_true rfl) ⟨_, rfl⟩ q1571 dX5_generations_75 h (fun k3 h => ?_)
      refine j_iconst O dX5_generations_78 ?_
      refine j_iald O dX5_generations_79 h (fun v4 h => ?_)
      refine j_sipush (m := 999) O dX5_generations_80 si_999 ?_
      obtain ⟨c5, h⟩ := h
      refine j_icmp_ge O (tgt := 233) dX5_generations_83 (by decide) c5 (by decide) h (fun h => ?_) (fun h => ?_)
      · exact (J.sub [0, 2] rfl <| hX68 _ _ h)
      · refine j_aload_n O 0 0 dX5_generations_86 rfl rfl ?_
        refine j_aload_n O 0 0 dX5_generations_87 rfl rfl ?_
        refine j_getA O cfX5 3 (Nat.le_of_ble_eq_true rfl) ⟨_, rfl⟩ q1571 dX5_generations_88 h (fun k6 h => ?_)
        refine j_iconst O dX5_generations_91 ?_
        refine j_iald O dX5_generations_92 h (fun v7 h => ?_)
        obtain ⟨e10, h⟩ := h
        refine fin_I O ⟨Nat.zero_le _, Nat.zero_le _⟩ (run_V (As := [vI (v7)]) (st := []) O (mt_X5_draw (xl x) (xG x) _ _ _ _ h) e10 cfX5.1 q2254 q2256 qs119 q131 q2257 hy_X5_draw (Nat.le_of_ble_eq_true rfl) (Nat.le_of_ble_eq_true rfl) ⟨Nat.zero_le _, Nat.zero_le _⟩ rfl (Nat.le_of_ble_eq_true rfl) dX5_generations_93) (fun r8 w9 h => ?_)
        refine j_istore (L' := [(5, vI (r8)), (0, .ref (adG (xG x) (this))), (2, vI (x2)), (3, vI (x3)), (4, vI (x4))]) O dX5_generations_96 (by rw [hm]; decide) rfl ?_
        refine j_aload_n O 1 0 dX5_generations_98 rfl rfl ?_
        refine j_bipush (m := 8) O dX5_generations_99 bi_8 ?_
        obtain ⟨e13, h⟩ := h
        refine fin_I O ⟨Nat.zero_le _, Nat.zero_le _⟩ (run_V (As := [vI (8)]) (st := []) O (mt_X5_draw (xl x) (xG x) _ _ _ _ h) e13 cfX5.1 q2254 q2256 qs119 q131 q2257 hy_X5_draw (Nat.le_of_ble_eq_true rfl) (Nat.le_of_ble_eq_true rfl) ⟨Nat.zero_le _, Nat.zero_le _⟩ rfl (Nat.le_of_ble_eq_true rfl) dX5_generations_101) (fun r11 w12 h => ?_)
        refine j_istore (L' := [(6, vI (r11)), (5, vI (r8)), (0, .ref (adG (xG x) (this))), (2, vI (x2)), (3, vI (x3)), (4, vI (x4))]) O dX5_generations_104 (by rw [hm]; decide) rfl ?_
        refine j_aload_n O 2 0 dX5_generations_106 rfl rfl ?_
        refine j_bipush (m := 8) O dX5_generations_107 bi_8 ?_
        obtain ⟨e16, h⟩ := h
        refine fin_I O ⟨Nat.zero_le _, Nat.zero_le _⟩ (run_V (As := [vI (8)]) (st := []) O (mt_X5_draw (xl x) (xG x) _ _ _ _ h) e16 cfX5.1 q2254 q2256 qs119 q131 q2257 hy_X5_draw (Nat.le_of_ble_eq_true rfl) (Nat.le_of_ble_eq_true rfl) ⟨Nat.zero_le _, Nat.zero_le _⟩ rfl (Nat.le_of_ble_eq_true rfl) dX5_generations_109) (fun r14 w15 h => ?_)
        refine j_istore (L' := [(7, vI (r14)), (6, vI (r11)), (5, vI (r8)), (0, .ref (adG (xG x) (this))), (2, vI (x2)), (3, vI (x3)), (4, vI (x4))]) O dX5_generations_112 (by rw [hm]; decide) rfl ?_
        refine j_aload_n O 3 0 dX5_generations_114 rfl rfl ?_
        refine j_iconst O dX5_generations_115 ?_
        obtain ⟨e19, h⟩ := h
        refine fin_I O ⟨Nat.zero_le _, Nat.zero_le _⟩ (run_V (As := [vI (3)]) (st := []) O (mt_X5_draw (xl x) (xG x) _ _ _ _ h) e19 cfX5.1 q2254 q2256 qs119 q131 q2257 hy_X5_draw (Nat.le_of_ble_eq_true rfl) (Nat.le_of_ble_eq_true rfl) ⟨Nat.zero_le _, Nat.zero_le _⟩ rfl (Nat.le_of_ble_eq_true rfl) dX5_generations_116) (fun r17 w18 h => ?_)
        refine j_istore (L' := [(8, vI (r17)), (7, vI (r14)), (6, vI (r11)), (5, vI (r8)), (0, .ref (adG (xG x) (this))), (2, vI (x2)), (3, vI (x3)), (4, vI (x4))]) O dX5_generations_119 (by rw [hm]; decide) rfl ?_
        refine j_iload O 0 dX5_generations_121 rfl ?_
        obtain ⟨c20, h⟩ := h
        refine j_if_ne O (tgt := 162) dX5_generations_123 (by decide) c20 h (fun h => ?_) (fun h => ?_)
        · exact (J.sub [4, 5, 6, 7, 3, 1, 0] rfl <| wk_X5_generations_162 O hr hm _ _ _ _ _ _ _ _ _ ih hX68 _ h)
        · refine j_aload_n O 4 0 dX5_generations_126 rfl rfl ?_
          refine j_iload O 1 dX5_generations_127 rfl ?_
          refine j_iload O 2 dX5_generations_129 rfl ?_
          refine j_iload O 3 dX5_generations_131 rfl ?_
          obtain ⟨e23, h⟩ := h
          refine fin_I O ⟨Nat.zero_le _, Nat.zero_le _⟩ (run_V (As := [vI (r14), vI (r11), vI (r8)]) (st := []) O (mt_X5_canPull (xl x) (xG x) _ _ _ _ _ _ h) e23 cfX5.1 q2052 q2054 qs92 q131 q2055 hy_X5_canPull (Nat.le_of_ble_eq_true rfl) (Nat.le_of_ble_eq_true rfl) ⟨Nat.zero_le _, Nat.zero_le _⟩ rfl (Nat.le_of_ble_eq_true rfl) dX5_generations_133) (fun r21 w22 h => ?_)
          obtain ⟨c24, h⟩ := h
          refine j_if_eq O (tgt := 162) dX5_generations_136 (by decide) c24 h (fun h => ?_) (fun h => ?_)
          · exact (J.sub [4, 5, 6, 7, 3, 1, 0] rfl <| wk_X5_generations_162 O hr hm _ _ _ _ _ _ _ _ _ ih hX68 _ h)
          · refine j_aload_n O 4 0 dX5_generations_139 rfl rfl ?_
            refine j_getA O cfX5 3 (Nat.le_of_ble_eq_true rfl) ⟨_, rfl⟩ q1571 dX5_generations_140 h (fun k25 h => ?_)
            refine j_bipush (m := 8) O dX5_generations_143 bi_8 ?_
            refine j_bipush (m := 8) O dX5_generations_145 bi_8 ?_
            refine j_iload O 3 dX5_generations_147 rfl ?_
            refine j_imul O dX5_generations_149 ?_
            refine j_iadd O dX5_generations_150 ?_
            refine j_iload O 2 dX5_generations_151 rfl ?_
            refine j_iadd O dX5_generations_153 ?_
            refine j_dup2_11 O dX5_generations_154 rfl rfl ?_
            refine j_iald O dX5_generations_155 h (fun v26 h => ?_)
            refine j_iconst O dX5_generations_156 ?_
            refine j_iload O 1 dX5_generations_157 rfl ?_
            refine j_ishl O dX5_generations_159 ?_
            refine j_isub O dX5_generations_160 ?_
            refine j_iast O dX5_generations_161 h (fun w27 h => ?_)
            exact (J.sub [4, 5, 6, 7, 3, 1, 0] rfl <| wk_X5_generations_162 O hr hm _ _ _ _ _ _ _ _ _ ih hX68 _ h)
theorem wk_X5_generations_246 {x : Cx} (O : OK x "DowryBoxesModel" cX5_generations 8) (hr : (xM x).sig.returnType = some .int) (hm : xn x = 9) {Q : Int → Wd → Prop} (X246 : Wd → Prop) (this : Nat) (x3 : Int) (hX246 : ∀  (w : Wd), X246  w → J x (TI x Q) w 0 0 314 [(0, .ref (adG (xG x) (this))), (3, vI (x3))] []) : ∀ (n : Nat) (x4 : Int) (w : Wd), wp_X5_generations_246 Q X246 this x3 n x4 w → J x (TI x Q) w 0 0 246 [(0, .ref (adG (xG x) (this))), (3, vI (x3)), (4, vI (x4))] [] := by
  intro n
  induction n with
  | zero => intro x4 w h; exact False.elim h
  | succ n ih =>
    intro x4 w h
    rw [wp_X5_generations_246] at h
    refine j_iload O 2 dX5_generations_246 rfl ?_
    refine j_aload_n O 0 0 dX5_generations_248 rfl rfl ?_
    refine j_getI O cfX5 61 (Nat.le_of_ble_eq_true rfl) (.inl rfl) q1629 dX5_generations_249 h (fun v1 h => ?_)
    obtain ⟨c2, h⟩ := h
    obtain ⟨c3, h⟩ := h
    refine j_icmp_ge O (tgt := 314) dX5_generations_252 (by decide) c2 c3 h (fun h => ?_) (fun h => ?_)
    · exact (J.sub [0, 1] rfl <| hX246  _ h)
    · refine j_aload_n O 0 0 dX5_generations_255 rfl rfl ?_
      refine j_getA O cfX5 60 (Nat.le_of_ble_eq_true rfl) ⟨_, rfl⟩ q1628 dX5_generations_256 h (fun k4 h => ?_)
      refine j_iload O 2 dX5_generations_259 rfl ?_
      refine j_aload_n O 0 0 dX5_generations_261 rfl rfl ?_
      refine j_iload O 2 dX5_generations_262 rfl ?_
      obtain ⟨e7, h⟩ := h
      refine fin_I O ⟨Nat.zero_le _, Nat.zero_le _⟩ (run_V (As := [vI (x4)]) (st := [vI (x4), .ref (adG (xG x) (k4))]) O (mt_X5_notesOf (xl x) (xG x) _ _ _ _ h) e7 cfX5.1 q1797 q1799 qs52 q131 q1800 hy_X5_notesOf (Nat.le_of_ble_eq_true rfl) (Nat.le_of_ble_eq_true rfl) ⟨Nat.zero_le _, Nat.zero_le _⟩ rfl (Nat.le_of_ble_eq_true rfl) dX5_generations_264) (fun r5 w6 h => ?_)
      refine j_iast O dX5_generations_267 h (fun w8 h => ?_)
      refine j_aload_n O 0 0 dX5_generations_268 rfl rfl ?_
      refine j_getA O cfX5 60 (Nat.le_of_ble_eq_true rfl) ⟨_, rfl⟩ q1628 dX5_generations_269 h (fun k9 h => ?_)
      refine j_bipush (m := 6) O dX5_generations_272 bi_6 ?_
      refine j_iload O 2 dX5_generations_274 rfl ?_
      refine j_iadd O dX5_generations_276 ?_
      refine j_aload_n O 0 0 dX5_generations_277 rfl rfl ?_
      refine j_getA O cfX5 3 (Nat.le_of_ble_eq_true rfl) ⟨_, rfl⟩ q1571 dX5_generations_278 h (fun k10 h => ?_)
      refine j_bipush (m := 62) O dX5_generations_281 bi_62 ?_
      refine j_iload O 2 dX5_generations_283 rfl ?_
      refine j_iadd O dX5_generations_285 ?_
      refine j_iald O dX5_generations_286 h (fun v11 h => ?_)
      refine j_iast O dX5_generations_287 h (fun w12 h => ?_)
      refine j_aload_n O 0 0 dX5_generations_288 rfl rfl ?_
      refine j_getA O cfX5 60 (Nat.le_of_ble_eq_true rfl) ⟨_, rfl⟩ q1628 dX5_generations_289 h (fun k13 h => ?_)
      refine j_bipush (m := 12) O dX5_generations_292 bi_12 ?_
      refine j_iload O 2 dX5_generations_294 rfl ?_
      refine j_iadd O dX5_generations_296 ?_
      refine j_aload_n O 0 0 dX5_generations_297 rfl rfl ?_
      refine j_getA O cfX5 3 (Nat.le_of_ble_eq_true rfl) ⟨_, rfl⟩ q1571 dX5_generations_298 h (fun k14 h => ?_)
      refine j_bipush (m := 74) O dX5_generations_301 bi_74 ?_
      refine j_iload O 2 dX5_generations_303 rfl ?_
      refine j_iadd O dX5_generations_305 ?_
      refine j_iald O dX5_generations_306 h (fun v15 h => ?_)
      refine j_iast O dX5_generations_307 h (fun w16 h => ?_)
      refine j_iinc (L' := [(4, vI (x4 + 1)), (0, .ref (adG (xG x) (this))), (3, vI (x3))]) O 2 dX5_generations_308 rfl (by rw [hm]; decide) rfl ?_
      refine j_goto O (tgt := 246) dX5_generations_311 (by decide) ?_
      exact (J.sub [1, 2, 0] rfl <| ih _ _ h)
theorem wk_X5_generations_233 {x : Cx} (O : OK x "DowryBoxesModel" cX5_generations 8) (hr : (xM x).sig.returnType = some .int) (hm : xn x = 9) {Q : Int → Wd → Prop} (this : Nat) (x3 : Int) (w : Wd) (h : wp_X5_generations_233 Q this x3 w) : J x (TI x Q) w 0 0 233 [(0, .ref (adG (xG x) (this))), (3, vI (x3))] [] := by
  unfold wp_X5_generations_233 at h
  refine j_aload_n O 0 0 dX5_generations_233 rfl rfl ?_
  refine j_aload_n O 0 0 dX5_generations_234 rfl rfl ?_
  refine j_getA O cfX5 3 (Nat.le_of_ble_eq_true rfl) ⟨_, rfl⟩ q1571 dX5_generations_235 h (fun k1 h => ?_)
  refine j_iconst O dX5_generations_238 ?_
  refine j_iald O dX5_generations_239 h (fun v2 h => ?_)
  refine j_putI O cfX5 61 (Nat.le_of_ble_eq_true rfl) rfl q1629 rfl dX5_generations_240 h (fun w3 h => ?_)
  refine j_iconst O dX5_generations_243 ?_
  refine j_istore (L' := [(4, vI (0)), (0, .ref (adG (xG x) (this))), (3, vI (x3))]) O dX5_generations_244 (by rw [hm]; decide) rfl ?_
  refine (J.sub [1, 2, 0] rfl <| wk_X5_generations_246 O hr hm _ _ _ (fun w4 h => ?_) FU _ _ h)
  refine j_aload_n O 0 0 dX5_generations_314 rfl rfl ?_
  refine j_bipush (m := 16) O dX5_generations_315 bi_16 ?_
  obtain ⟨e6, h⟩ := h
  refine fin_V O ⟨Nat.zero_le _, Nat.zero_le _⟩ (run_V (As := [vI (16)]) (st := []) O (mt_X5_putBack (xl x) (xG x) _ _ _ _ h) e6 cfX5.1 q1764 q1766 qs49 q131 q1767 hy_X5_putBack (Nat.le_of_ble_eq_true rfl) (Nat.le_of_ble_eq_true rfl) ⟨Nat.zero_le _, Nat.zero_le _⟩ rfl (Nat.le_of_ble_eq_true rfl) dX5_generations_317) (fun w5 h => ?_)
  refine j_aload_n O 0 0 dX5_generations_320 rfl rfl ?_
  refine j_iload_n O 1 3 dX5_generations_321 rfl rfl ?_
  obtain ⟨e9, h⟩ := h
  refine fin_I O ⟨Nat.zero_le _, Nat.zero_le _⟩ (run_V (As := [vI (x3)]) (st := []) O (mt_X5_tell (xl x) (xG x) _ _ _ _ h) e9 cfX5.1 q1760 q1762 qs48 q131 q1763 hy_X5_tell (Nat.le_of_ble_eq_true rfl) (Nat.le_of_ble_eq_true rfl) ⟨Nat.zero_le _, Nat.zero_le _⟩ rfl (Nat.le_of_ble_eq_true rfl) dX5_generations_322) (fun r7 w8 h => ?_)
  exact j_iret O hr dX5_generations_325 h
theorem mt_X5_generations (l : Launch) (G : GW) (this : Nat) (p1 : Int) (p2 : Int) (w : Wd) (Q : Int → Wd → Prop) (h : wp_X5_generations this p1 p2 w Q) : MI l G yX5_generations cX5_generations 9 (.int) 8 0 0 [.ref (adG G (this)), vI (p1), vI (p2)] w Q := by
  refine met_I (fun G => [.ref (adG G (this)), vI (p1), vI (p2)]) (by decide) (fun G => Nat.le_of_ble_eq_true rfl) (fun x O hl hm hr => ?_)
  subst hl
  have O : OK x "DowryBoxesModel" cX5_generations 8 := O
  have h : wp_X5_generations this p1 p2 w Q := h
  unfold wp_X5_generations at h
  show J x (TI x Q) w 0 0 0 [(0, .ref (adG (xG x) (this))), (1, vI (p1)), (2, vI (p2))] []
  refine j_aload_n O 0 0 dX5_generations_0 rfl rfl ?_
  refine j_iconst O dX5_generations_1 ?_
  refine j_putI O cfX5 0 (Nat.le_of_ble_eq_true rfl) rfl q1568 rfl dX5_generations_2 h (fun w1 h => ?_)
  refine j_iload_n O 1 1 dX5_generations_5 rfl rfl ?_
  refine j_i2l O dX5_generations_6 h (fun h => ?_)
  refine j_lconst (m := 0) O dX5_generations_7 lc_0 ?_
  refine j_ldc2 (m := 1000000) O dX5_generations_8 q1942 l2_1000000 ?_
  refine fin_I O ⟨Nat.zero_le _, Nat.zero_le _⟩ (run_S (As := [vL (p1), vL (0), vL (1000000)]) (st := []) O (mt_X5_in (xl x) (xG x) _ _ _ _ _ h) q1772 q1773 q131 q1774 hy_X5_in.2 (Nat.le_of_ble_eq_true rfl) (Nat.le_of_ble_eq_true rfl) ⟨Nat.zero_le _, Nat.zero_le _⟩ rfl (Nat.le_of_ble_eq_true rfl) dX5_generations_11) (fun r2 w3 h => ?_)
  obtain ⟨c4, h⟩ := h
  refine j_if_eq O (tgt := 29) dX5_generations_14 (by decide) c4 h (fun h => ?_) (fun h => ?_)
  · exact (J.sub [0] rfl <| wk_X5_generations_29 O hr hm  _  _ h)
  · refine j_iload_n O 2 2 dX5_generations_17 rfl rfl ?_
    refine j_i2l O dX5_generations_18 h (fun h => ?_)
    refine j_lconst (m := 1) O dX5_generations_19 lc_1 ?_
    refine j_ldc2 (m := 60) O dX5_generations_20 q1862 l2_60 ?_
    refine fin_I O ⟨Nat.zero_le _, Nat.zero_le _⟩ (run_S (As := [vL (p2), vL (1), vL (60)]) (st := []) O (mt_X5_in (xl x) (xG x) _ _ _ _ _ h) q1772 q1773 q131 q1774 hy_X5_in.2 (Nat.le_of_ble_eq_true rfl) (Nat.le_of_ble_eq_true rfl) ⟨Nat.zero_le _, Nat.zero_le _⟩ rfl (Nat.le_of_ble_eq_true rfl) dX5_generations_23) (fun r5 w6 h => ?_)
    obtain ⟨c7, h⟩ := h
    refine j_if_ne O (tgt := 35) dX5_generations_26 (by decide) c7 h (fun h => ?_) (fun h => ?_)
    · refine j_aload_n O 0 0 dX5_generations_35 rfl rfl ?_
      refine j_getA O cfX5 3 (Nat.le_of_ble_eq_true rfl) ⟨_, rfl⟩ q1571 dX5_generations_36 h (fun k8 h => ?_)
      refine j_iconst O dX5_generations_39 ?_
      refine j_iald O dX5_generations_40 h (fun v9 h => ?_)
      obtain ⟨c10, h⟩ := h
      refine j_if_ne O (tgt := 51) dX5_generations_41 (by decide) c10 h (fun h => ?_) (fun h => ?_)
      · refine j_aload_n O 0 0 dX5_generations_51 rfl rfl ?_
        refine j_bipush (m := 16) O dX5_generations_52 bi_16 ?_
        obtain ⟨e12, h⟩ := h
        refine fin_V O ⟨Nat.zero_le _, Nat.zero_le _⟩ (run_V (As := [vI (16)]) (st := []) O (mt_X5_keepAll (xl x) (xG x) _ _ _ _ h) e12 cfX5.1 q2063 q2065 qs94 q131 q2066 hy_X5_keepAll (Nat.le_of_ble_eq_true rfl) (Nat.le_of_ble_eq_true rfl) ⟨Nat.zero_le _, Nat.zero_le _⟩ rfl (Nat.le_of_ble_eq_true rfl) dX5_generations_54) (fun w11 h => ?_)
        refine j_aload_n O 0 0 dX5_generations_57 rfl rfl ?_
        refine j_iload_n O 1 1 dX5_generations_58 rfl rfl ?_
        refine j_i2l O dX5_generations_59 h (fun h => ?_)
        refine j_putL O cfX5 59 (Nat.le_of_ble_eq_true rfl) rfl q1627 rfl dX5_generations_60 h (fun w13 h => ?_)
        refine j_iconst O dX5_generations_63 ?_
        refine j_istore_n (L' := [(3, vI (0)), (0, .ref (adG (xG x) (this))), (1, vI (p1)), (2, vI (p2))]) O 3 dX5_generations_64 rfl (by rw [hm]; decide) rfl ?_
        refine j_iconst O dX5_generations_65 ?_
        refine j_istore (L' := [(4, vI (0)), (3, vI (0)), (0, .ref (adG (xG x) (this))), (1, vI (p1)), (2, vI (p2))]) O dX5_generations_66 (by rw [hm]; decide) rfl ?_
        refine (J.sub [2, 4, 1, 0] rfl <| wk_X5_generations_68 O hr hm _ _ _ (fun z14 w15 h => ?_) FU _ _ _ h)
        exact (J.sub [0, 1] rfl <| wk_X5_generations_233 O hr hm  _ _  _ h)
      · refine j_aload_n O 0 0 dX5_generations_44 rfl rfl ?_
        refine j_bipush (m := (-3)) O dX5_generations_45 bi_m3 ?_
        obtain ⟨e18, h⟩ := h
        refine fin_I O ⟨Nat.zero_le _, Nat.zero_le _⟩ (run_V (As := [vI (((-3)))]) (st := []) O (mt_X5_tell (xl x) (xG x) _ _ _ _ h) e18 cfX5.1 q1760 q1762 qs48 q131 q1763 hy_X5_tell (Nat.le_of_ble_eq_true rfl) (Nat.le_of_ble_eq_true rfl) ⟨Nat.zero_le _, Nat.zero_le _⟩ rfl (Nat.le_of_ble_eq_true rfl) dX5_generations_47) (fun r16 w17 h => ?_)
        exact j_iret O hr dX5_generations_50 h
    · exact (J.sub [0] rfl <| wk_X5_generations_29 O hr hm  _  _ h)
theorem hy_X5_stopped : (yX5_stopped.cls = "DowryBoxesModel" ∧ yX5_stopped.cls ≠ "java/lang/invoke/MethodHandle" ∧ yX5_stopped.cls ≠ "java/lang/invoke/VarHandle" ∧ (parseMethodDescriptor yX5_stopped.desc).map (fun d => d.parameters.length) = some 0) := by decide +kernel
theorem mt_X5_stopped (l : Launch) (G : GW) (this : Nat) (w : Wd) (Q : Int → Wd → Prop) (h : wp_X5_stopped this w Q) : MI l G yX5_stopped cX5_stopped 1 (.int) 1 0 0 [.ref (adG G (this))] w Q := by
  refine met_I (fun G => [.ref (adG G (this))]) (by decide) (fun G => Nat.le_of_ble_eq_true rfl) (fun x O hl hm hr => ?_)
  subst hl
  have O : OK x "DowryBoxesModel" cX5_stopped 1 := O
  have h : wp_X5_stopped this w Q := h
  unfold wp_X5_stopped at h
  show J x (TI x Q) w 0 0 0 [(0, .ref (adG (xG x) (this)))] []
  refine j_aload_n O 0 0 dX5_stopped_0 rfl rfl ?_
  refine j_iconst O dX5_stopped_1 ?_
  refine j_putI O cfX5 0 (Nat.le_of_ble_eq_true rfl) rfl q1568 rfl dX5_stopped_2 h (fun w1 h => ?_)
  refine j_aload_n O 0 0 dX5_stopped_5 rfl rfl ?_
  refine j_getI O cfX5 57 (Nat.le_of_ble_eq_true rfl) (.inl rfl) q1625 dX5_stopped_6 h (fun v2 h => ?_)
  exact j_iret O hr dX5_stopped_9 h
theorem hy_X5_giveBack : (yX5_giveBack.cls = "DowryBoxesModel" ∧ yX5_giveBack.cls ≠ "java/lang/invoke/MethodHandle" ∧ yX5_giveBack.cls ≠ "java/lang/invoke/VarHandle" ∧ (parseMethodDescriptor yX5_giveBack.desc).map (fun d => d.parameters.length) = some 1) := by decide +kernel
theorem wk_X5_giveBack_8 {x : Cx} (O : OK x "DowryBoxesModel" cX5_giveBack 2) (hr : (xM x).sig.returnType = none) (hm : xn x = 3) {Q : Wd → Prop} (X8 : Wd → Prop) (this : Nat) (x1 : Int) (hX8 : ∀  (w : Wd), X8  w → J x (TV x Q) w 0 0 33 [(0, .ref (adG (xG x) (this))), (1, vI (x1))] []) : ∀ (n : Nat) (x2 : Int) (w : Wd), wp_X5_giveBack_8 Q X8 this x1 n x2 w → J x (TV x Q) w 0 0 8 [(0, .ref (adG (xG x) (this))), (1, vI (x1)), (2, vI (x2))] [] := by
  intro n
  induction n with
  | zero => intro x2 w h; exact False.elim h
  | succ n ih =>
    intro x2 w h
    rw [wp_X5_giveBack_8] at h
    refine j_iload_n O 2 2 dX5_giveBack_8 rfl rfl ?_
    refine j_sipush (m := 1200) O dX5_giveBack_9 si_1200 ?_
    obtain ⟨c1, h⟩ := h
    refine j_icmp_ge O (tgt := 33) dX5_giveBack_12 (by decide) c1 (by decide) h (fun h => ?_) (fun h => ?_)
    · exact (J.sub [0, 1] rfl <| hX8  _ h)
    · refine j_aload_n O 0 0 dX5_giveBack_15 rfl rfl ?_
      refine j_getA O cfX5 6 (Nat.le_of_ble_eq_true rfl) ⟨_, rfl⟩ q1574 dX5_giveBack_16 h (fun k2 h => ?_)
      refine j_iload_n O 2 2 dX5_giveBack_19 rfl rfl ?_
      refine j_aload_n O 0 0 dX5_giveBack_20 rfl rfl ?_
      refine j_getA O cfX5 9 (Nat.le_of_ble_eq_true rfl) ⟨_, rfl⟩ q1577 dX5_giveBack_21 h (fun k3 h => ?_)
      refine j_iload_n O 2 2 dX5_giveBack_24 rfl rfl ?_
      refine j_iald O dX5_giveBack_25 h (fun v4 h => ?_)
      refine j_iast O dX5_giveBack_26 h (fun w5 h => ?_)
      refine j_iinc (L' := [(2, vI (x2 + 1)), (0, .ref (adG (xG x) (this))), (1, vI (x1))]) O 2 dX5_giveBack_27 rfl (by rw [hm]; decide) rfl ?_
      refine j_goto O (tgt := 8) dX5_giveBack_30 (by decide) ?_
      exact (J.sub [1, 2, 0] rfl <| ih _ _ h)
theorem wk_X5_giveBack_35 {x : Cx} (O : OK x "DowryBoxesModel" cX5_giveBack 2) (hr : (xM x).sig.returnType = none) (hm : xn x = 3) {Q : Wd → Prop} (X35 : Wd → Prop) (this : Nat) (x1 : Int) (hX35 : ∀  (w : Wd), X35  w → J x (TV x Q) w 0 0 59 [(0, .ref (adG (xG x) (this))), (1, vI (x1))] []) : ∀ (n : Nat) (x2 : Int) (w : Wd), wp_X5_giveBack_35 Q X35 this x1 n x2 w → J x (TV x Q) w 0 0 35 [(0, .ref (adG (xG x) (this))), (1, vI (x1)), (2, vI (x2))] [] := by
  intro n
  induction n with
  | zero => intro x2 w h; exact False.elim h
  | succ n ih =>
    intro x2 w h
    rw [wp_X5_giveBack_35] at h
    refine j_iload_n O 2 2 dX5_giveBack_35 rfl rfl ?_
    refine j_bipush (m := 16) O dX5_giveBack_36 bi_16 ?_
    obtain ⟨c1, h⟩ := h
    refine j_icmp_ge O (tgt := 59) dX5_giveBack_38 (by decide) c1 (by decide) h (fun h => ?_) (fun h => ?_)
    · exact (J.sub [0, 1] rfl <| hX35  _ h)
    · refine j_aload_n O 0 0 dX5_giveBack_41 rfl rfl ?_
      refine j_getA O cfX5 7 (Nat.le_of_ble_eq_true rfl) ⟨_, rfl⟩ q1575 dX5_giveBack_42 h (fun k2 h => ?_)
      refine j_iload_n O 2 2 dX5_giveBack_45 rfl rfl ?_
      refine j_aload_n O 0 0 dX5_giveBack_46 rfl rfl ?_
      refine j_getA O cfX5 10 (Nat.le_of_ble_eq_true rfl) ⟨_, rfl⟩ q1578 dX5_giveBack_47 h (fun k3 h => ?_)
      refine j_iload_n O 2 2 dX5_giveBack_50 rfl rfl ?_
      refine j_iald O dX5_giveBack_51 h (fun v4 h => ?_)
      refine j_iast O dX5_giveBack_52 h (fun w5 h => ?_)
      refine j_iinc (L' := [(2, vI (x2 + 1)), (0, .ref (adG (xG x) (this))), (1, vI (x1))]) O 2 dX5_giveBack_53 rfl (by rw [hm]; decide) rfl ?_
      refine j_goto O (tgt := 35) dX5_giveBack_56 (by decide) ?_
      exact (J.sub [1, 2, 0] rfl <| ih _ _ h)
theorem mt_X5_giveBack (l : Launch) (G : GW) (this : Nat) (p1 : Int) (w : Wd) (Q : Wd → Prop) (h : wp_X5_giveBack this p1 w Q) : MV l G yX5_giveBack cX5_giveBack 3 2 0 0 [.ref (adG G (this)), vI (p1)] w Q := by
  refine met_V (fun G => [.ref (adG G (this)), vI (p1)]) (by decide) (fun G => Nat.le_of_ble_eq_true rfl) (fun x O hl hm hr _ => ?_)
  subst hl
  have O : OK x "DowryBoxesModel" cX5_giveBack 2 := O
  have h : wp_X5_giveBack this p1 w Q := h
  unfold wp_X5_giveBack at h
  show J x (TV x Q) w 0 0 0 [(0, .ref (adG (xG x) (this))), (1, vI (p1))] []
  refine j_aload_n O 0 0 dX5_giveBack_0 rfl rfl ?_
  refine j_bipush (m := 17) O dX5_giveBack_1 bi_17 ?_
  obtain ⟨e2, h⟩ := h
  refine fin_V O ⟨Nat.zero_le _, Nat.zero_le _⟩ (run_V (As := [vI (17)]) (st := []) O (mt_X5_putBack (xl x) (xG x) _ _ _ _ h) e2 cfX5.1 q1764 q1766 qs49 q131 q1767 hy_X5_putBack (Nat.le_of_ble_eq_true rfl) (Nat.le_of_ble_eq_true rfl) ⟨Nat.zero_le _, Nat.zero_le _⟩ rfl (Nat.le_of_ble_eq_true rfl) dX5_giveBack_3) (fun w1 h => ?_)
  refine j_iconst O dX5_giveBack_6 ?_
  refine j_istore_n (L' := [(2, vI (0)), (0, .ref (adG (xG x) (this))), (1, vI (p1))]) O 2 dX5_giveBack_7 rfl (by rw [hm]; decide) rfl ?_
  refine (J.sub [1, 2, 0] rfl <| wk_X5_giveBack_8 O hr hm _ _ _ (fun w3 h => ?_) FU _ _ h)
  refine j_iconst O dX5_giveBack_33 ?_
  refine j_istore_n (L' := [(2, vI (0)), (0, .ref (adG (xG x) (this))), (1, vI (p1))]) O 2 dX5_giveBack_34 rfl (by rw [hm]; decide) rfl ?_
  refine (J.sub [1, 2, 0] rfl <| wk_X5_giveBack_35 O hr hm _ _ _ (fun w4 h => ?_) FU _ _ h)
  refine j_aload_n O 0 0 dX5_giveBack_59 rfl rfl ?_
  refine j_iload_n O 1 1 dX5_giveBack_60 rfl rfl ?_
  refine j_putI O cfX5 8 (Nat.le_of_ble_eq_true rfl) rfl q1576 rfl dX5_giveBack_61 h (fun w5 h => ?_)
  exact j_vret O hr dX5_giveBack_64 h
theorem hy_X5_isTooth : (yX5_isTooth.cls = "DowryBoxesModel" ∧ yX5_isTooth.cls ≠ "java/lang/invoke/MethodHandle" ∧ yX5_isTooth.cls ≠ "java/lang/invoke/VarHandle" ∧ (parseMethodDescriptor yX5_isTooth.desc).map (fun d => d.parameters.length) = some 1) := by decide +kernel
theorem mt_X5_isTooth (l : Launch) (G : GW) (p1 : Int) (w : Wd) (Q : Int → Wd → Prop) (h : wp_X5_isTooth p1 w Q) : MI l G yX5_isTooth cX5_isTooth 1 (.boolean) 2 0 0 [vI (p1)] w Q := by
  refine met_I (fun G => [vI (p1)]) (by decide) (fun G => Nat.le_of_ble_eq_true rfl) (fun x O hl hm hr => ?_)
  subst hl
  have O : OK x "DowryBoxesModel" cX5_isTooth 2 := O
  have h : wp_X5_isTooth p1 w Q := h
  unfold wp_X5_isTooth at h
  show J x (TI x Q) w 0 0 0 [(0, vI (p1))] []
  refine j_iload_n O 0 0 dX5_isTooth_0 rfl rfl ?_
  refine j_i2l O dX5_isTooth_1 h (fun h => ?_)
  refine j_lconst (m := 0) O dX5_isTooth_2 lc_0 ?_
  refine j_ldc2 (m := 7) O dX5_isTooth_3 q1849 l2_7 ?_
  refine fin_I O ⟨Nat.zero_le _, Nat.zero_le _⟩ (run_S (As := [vL (p1), vL (0), vL (7)]) (st := []) O (mt_X5_in (xl x) (xG x) _ _ _ _ _ h) q1772 q1773 q131 q1774 hy_X5_in.2 (Nat.le_of_ble_eq_true rfl) (Nat.le_of_ble_eq_true rfl) ⟨Nat.zero_le _, Nat.zero_le _⟩ rfl (Nat.le_of_ble_eq_true rfl) dX5_isTooth_6) (fun r1 w2 h => ?_)
  exact j_zret O hr dX5_isTooth_9 h
theorem hy_X5_isBar : (yX5_isBar.cls = "DowryBoxesModel" ∧ yX5_isBar.cls ≠ "java/lang/invoke/MethodHandle" ∧ yX5_isBar.cls ≠ "java/lang/invoke/VarHandle" ∧ (parseMethodDescriptor yX5_isBar.desc).map (fun d => d.parameters.length) = some 1) := by decide +kernel
theorem mt_X5_isBar (l : Launch) (G : GW) (p1 : Int) (w : Wd) (Q : Int → Wd → Prop) (h : wp_X5_isBar p1 w Q) : MI l G yX5_isBar cX5_isBar 1 (.boolean) 2 0 0 [vI (p1)] w Q := by
  refine met_I (fun G => [vI (p1)]) (by decide) (fun G => Nat.le_of_ble_eq_true rfl) (fun x O hl hm hr => ?_)
  subst hl
  have O : OK x "DowryBoxesModel" cX5_isBar 2 := O
  have h : wp_X5_isBar p1 w Q := h
  unfold wp_X5_isBar at h
  show J x (TI x Q) w 0 0 0 [(0, vI (p1))] []
  refine j_iload_n O 0 0 dX5_isBar_0 rfl rfl ?_
  refine j_i2l O dX5_isBar_1 h (fun h => ?_)
  refine j_lconst (m := 0) O dX5_isBar_2 lc_0 ?_
  refine j_ldc2 (m := 7) O dX5_isBar_3 q1849 l2_7 ?_
  refine fin_I O ⟨Nat.zero_le _, Nat.zero_le _⟩ (run_S (As := [vL (p1), vL (0), vL (7)]) (st := []) O (mt_X5_in (xl x) (xG x) _ _ _ _ _ h) q1772 q1773 q131 q1774 hy_X5_in.2 (Nat.le_of_ble_eq_true rfl) (Nat.le_of_ble_eq_true rfl) ⟨Nat.zero_le _, Nat.zero_le _⟩ rfl (Nat.le_of_ble_eq_true rfl) dX5_isBar_6) (fun r1 w2 h => ?_)
  exact j_zret O hr dX5_isBar_9 h
theorem hy_X5_remember : (yX5_remember.cls = "DowryBoxesModel" ∧ yX5_remember.cls ≠ "java/lang/invoke/MethodHandle" ∧ yX5_remember.cls ≠ "java/lang/invoke/VarHandle" ∧ (parseMethodDescriptor yX5_remember.desc).map (fun d => d.parameters.length) = some 1) := by decide +kernel
theorem wk_X5_remember_11 {x : Cx} (O : OK x "DowryBoxesModel" cX5_remember 2) (hr : (xM x).sig.returnType = none) (hm : xn x = 3) {Q : Wd → Prop} (X11 : Wd → Prop) (this : Nat) (x1 : Int) (hX11 : ∀  (w : Wd), X11  w → J x (TV x Q) w 0 0 39 [(0, .ref (adG (xG x) (this))), (1, vI (x1))] []) : ∀ (n : Nat) (x2 : Int) (w : Wd), wp_X5_remember_11 Q X11 this x1 n x2 w → J x (TV x Q) w 0 0 11 [(0, .ref (adG (xG x) (this))), (1, vI (x1)), (2, vI (x2))] [] := by
  intro n
  induction n with
  | zero => intro x2 w h; exact False.elim h
  | succ n ih =>
    intro x2 w h
    rw [wp_X5_remember_11] at h
    refine j_iload_n O 2 2 dX5_remember_11 rfl rfl ?_
    refine j_sipush (m := 1125) O dX5_remember_12 si_1125 ?_
    obtain ⟨c1, h⟩ := h
    refine j_icmp_ge O (tgt := 39) dX5_remember_15 (by decide) c1 (by decide) h (fun h => ?_) (fun h => ?_)
    · exact (J.sub [0, 1] rfl <| hX11  _ h)
    · refine j_aload_n O 0 0 dX5_remember_18 rfl rfl ?_
      refine j_getA O cfX5 6 (Nat.le_of_ble_eq_true rfl) ⟨_, rfl⟩ q1574 dX5_remember_19 h (fun k2 h => ?_)
      refine j_iload_n O 2 2 dX5_remember_22 rfl rfl ?_
      refine j_aload_n O 0 0 dX5_remember_23 rfl rfl ?_
      refine j_getA O cfX5 6 (Nat.le_of_ble_eq_true rfl) ⟨_, rfl⟩ q1574 dX5_remember_24 h (fun k3 h => ?_)
      refine j_iload_n O 2 2 dX5_remember_27 rfl rfl ?_
      refine j_bipush (m := 75) O dX5_remember_28 bi_75 ?_
      refine j_iadd O dX5_remember_30 ?_
      refine j_iald O dX5_remember_31 h (fun v4 h => ?_)
      refine j_iast O dX5_remember_32 h (fun w5 h => ?_)
      refine j_iinc (L' := [(2, vI (x2 + 1)), (0, .ref (adG (xG x) (this))), (1, vI (x1))]) O 2 dX5_remember_33 rfl (by rw [hm]; decide) rfl ?_
      refine j_goto O (tgt := 11) dX5_remember_36 (by decide) ?_
      exact (J.sub [1, 2, 0] rfl <| ih _ _ h)
theorem wk_X5_remember_41 {x : Cx} (O : OK x "DowryBoxesModel" cX5_remember 2) (hr : (xM x).sig.returnType = none) (hm : xn x = 3) {Q : Wd → Prop} (X41 : Wd → Prop) (this : Nat) (x1 : Int) (hX41 : ∀  (w : Wd), X41  w → J x (TV x Q) w 0 0 67 [(0, .ref (adG (xG x) (this))), (1, vI (x1))] []) : ∀ (n : Nat) (x2 : Int) (w : Wd), wp_X5_remember_41 Q X41 this x1 n x2 w → J x (TV x Q) w 0 0 41 [(0, .ref (adG (xG x) (this))), (1, vI (x1)), (2, vI (x2))] [] := by
  intro n
  induction n with
  | zero => intro x2 w h; exact False.elim h
  | succ n ih =>
    intro x2 w h
    rw [wp_X5_remember_41] at h
    refine j_iload_n O 2 2 dX5_remember_41 rfl rfl ?_
    refine j_bipush (m := 15) O dX5_remember_42 bi_15 ?_
    obtain ⟨c1, h⟩ := h
    refine j_icmp_ge O (tgt := 67) dX5_remember_44 (by decide) c1 (by decide) h (fun h => ?_) (fun h => ?_)
    · exact (J.sub [0, 1] rfl <| hX41  _ h)
    · refine j_aload_n O 0 0 dX5_remember_47 rfl rfl ?_
      refine j_getA O cfX5 7 (Nat.le_of_ble_eq_true rfl) ⟨_, rfl⟩ q1575 dX5_remember_48 h (fun k2 h => ?_)
      refine j_iload_n O 2 2 dX5_remember_51 rfl rfl ?_
      refine j_aload_n O 0 0 dX5_remember_52 rfl rfl ?_
      refine j_getA O cfX5 7 (Nat.le_of_ble_eq_true rfl) ⟨_, rfl⟩ q1575 dX5_remember_53 h (fun k3 h => ?_)
      refine j_iload_n O 2 2 dX5_remember_56 rfl rfl ?_
      refine j_iconst O dX5_remember_57 ?_
      refine j_iadd O dX5_remember_58 ?_
      refine j_iald O dX5_remember_59 h (fun v4 h => ?_)
      refine j_iast O dX5_remember_60 h (fun w5 h => ?_)
      refine j_iinc (L' := [(2, vI (x2 + 1)), (0, .ref (adG (xG x) (this))), (1, vI (x1))]) O 2 dX5_remember_61 rfl (by rw [hm]; decide) rfl ?_
      refine j_goto O (tgt := 41) dX5_remember_64 (by decide) ?_
      exact (J.sub [1, 2, 0] rfl <| ih _ _ h)
theorem wk_X5_remember_77 {x : Cx} (O : OK x "DowryBoxesModel" cX5_remember 2) (hr : (xM x).sig.returnType = none) (hm : xn x = 3) {Q : Wd → Prop} (this : Nat) (x1 : Int) (w : Wd) (h : wp_X5_remember_77 Q this x1 w) : J x (TV x Q) w 0 0 77 [(0, .ref (adG (xG x) (this))), (1, vI (x1))] [] := by
  unfold wp_X5_remember_77 at h
  refine j_aload_n O 0 0 dX5_remember_77 rfl rfl ?_
  refine j_aload_n O 0 0 dX5_remember_78 rfl rfl ?_
  refine j_getI O cfX5 8 (Nat.le_of_ble_eq_true rfl) (.inl rfl) q1576 dX5_remember_79 h (fun v1 h => ?_)
  obtain ⟨e3, h⟩ := h
  refine fin_V O ⟨Nat.zero_le _, Nat.zero_le _⟩ (run_V (As := [vI (v1)]) (st := []) O (mt_X5_keepAll (xl x) (xG x) _ _ _ _ h) e3 cfX5.1 q2063 q2065 qs94 q131 q2066 hy_X5_keepAll (Nat.le_of_ble_eq_true rfl) (Nat.le_of_ble_eq_true rfl) ⟨Nat.zero_le _, Nat.zero_le _⟩ rfl (Nat.le_of_ble_eq_true rfl) dX5_remember_82) (fun w2 h => ?_)
  refine j_aload_n O 0 0 dX5_remember_85 rfl rfl ?_
  refine j_getA O cfX5 7 (Nat.le_of_ble_eq_true rfl) ⟨_, rfl⟩ q1575 dX5_remember_86 h (fun k4 h => ?_)
  refine j_aload_n O 0 0 dX5_remember_89 rfl rfl ?_
  refine j_getI O cfX5 8 (Nat.le_of_ble_eq_true rfl) (.inl rfl) q1576 dX5_remember_90 h (fun v5 h => ?_)
  refine j_iload_n O 1 1 dX5_remember_93 rfl rfl ?_
  refine j_iast O dX5_remember_94 h (fun w6 h => ?_)
  refine j_aload_n O 0 0 dX5_remember_95 rfl rfl ?_
  refine j_dup O dX5_remember_96 rfl ?_
  refine j_getI O cfX5 8 (Nat.le_of_ble_eq_true rfl) (.inl rfl) q1576 dX5_remember_97 h (fun v7 h => ?_)
  refine j_iconst O dX5_remember_100 ?_
  refine j_iadd O dX5_remember_101 ?_
  refine j_putI O cfX5 8 (Nat.le_of_ble_eq_true rfl) rfl q1576 rfl dX5_remember_102 h (fun w8 h => ?_)
  exact j_vret O hr dX5_remember_105 h
theorem mt_X5_remember (l : Launch) (G : GW) (this : Nat) (p1 : Int) (w : Wd) (Q : Wd → Prop) (h : wp_X5_remember this p1 w Q) : MV l G yX5_remember cX5_remember 3 2 0 0 [.ref (adG G (this)), vI (p1)] w Q := by
  refine met_V (fun G => [.ref (adG G (this)), vI (p1)]) (by decide) (fun G => Nat.le_of_ble_eq_true rfl) (fun x O hl hm hr _ => ?_)
  subst hl
  have O : OK x "DowryBoxesModel" cX5_remember 2 := O
  have h : wp_X5_remember this p1 w Q := h
  unfold wp_X5_remember at h
  show J x (TV x Q) w 0 0 0 [(0, .ref (adG (xG x) (this))), (1, vI (p1))] []
  refine j_aload_n O 0 0 dX5_remember_0 rfl rfl ?_
  refine j_getI O cfX5 8 (Nat.le_of_ble_eq_true rfl) (.inl rfl) q1576 dX5_remember_1 h (fun v1 h => ?_)
  refine j_bipush (m := 16) O dX5_remember_4 bi_16 ?_
  obtain ⟨c2, h⟩ := h
  refine j_icmp_ne O (tgt := 77) dX5_remember_6 (by decide) c2 (by decide) h (fun h => ?_) (fun h => ?_)
  · exact (J.sub [0, 1] rfl <| wk_X5_remember_77 O hr hm  _ _  _ h)
  · refine j_iconst O dX5_remember_9 ?_
    refine j_istore_n (L' := [(2, vI (0)), (0, .ref (adG (xG x) (this))), (1, vI (p1))]) O 2 dX5_remember_10 rfl (by rw [hm]; decide) rfl ?_
    refine (J.sub [1, 2, 0] rfl <| wk_X5_remember_11 O hr hm _ _ _ (fun w3 h => ?_) FU _ _ h)
    refine j_iconst O dX5_remember_39 ?_
    refine j_istore_n (L' := [(2, vI (0)), (0, .ref (adG (xG x) (this))), (1, vI (p1))]) O 2 dX5_remember_40 rfl (by rw [hm]; decide) rfl ?_
    refine (J.sub [1, 2, 0] rfl <| wk_X5_remember_41 O hr hm _ _ _ (fun w4 h => ?_) FU _ _ h)
    refine j_aload_n O 0 0 dX5_remember_67 rfl rfl ?_
    refine j_dup O dX5_remember_68 rfl ?_
    refine j_getI O cfX5 8 (Nat.le_of_ble_eq_true rfl) (.inl rfl) q1576 dX5_remember_69 h (fun v5 h => ?_)
    refine j_iconst O dX5_remember_72 ?_
    refine j_isub O dX5_remember_73 ?_
    refine j_putI O cfX5 8 (Nat.le_of_ble_eq_true rfl) rfl q1576 rfl dX5_remember_74 h (fun w6 h => ?_)
    exact (J.sub [0, 1] rfl <| wk_X5_remember_77 O hr hm  _ _  _ h)
theorem hy_X5_pullNow : (yX5_pullNow.cls = "DowryBoxesModel" ∧ yX5_pullNow.cls ≠ "java/lang/invoke/MethodHandle" ∧ yX5_pullNow.cls ≠ "java/lang/invoke/VarHandle" ∧ (parseMethodDescriptor yX5_pullNow.desc).map (fun d => d.parameters.length) = some 3) := by decide +kernel
theorem mt_X5_pullNow (l : Launch) (G : GW) (this : Nat) (p1 : Int) (p2 : Int) (p3 : Int) (w : Wd) (Q : Int → Wd → Prop) (h : wp_X5_pullNow this p1 p2 p3 w Q) : MI l G yX5_pullNow cX5_pullNow 4 (.int) 3 0 0 [.ref (adG G (this)), vI (p1), vI (p2), vI (p3)] w Q := by
  refine met_I (fun G => [.ref (adG G (this)), vI (p1), vI (p2), vI (p3)]) (by decide) (fun G => Nat.le_of_ble_eq_true rfl) (fun x O hl hm hr => ?_)
  subst hl
  have O : OK x "DowryBoxesModel" cX5_pullNow 3 := O
  have h : wp_X5_pullNow this p1 p2 p3 w Q := h
  unfold wp_X5_pullNow at h
  show J x (TI x Q) w 0 0 0 [(0, .ref (adG (xG x) (this))), (1, vI (p1)), (2, vI (p2)), (3, vI (p3))] []
  refine j_iload_n O 1 1 dX5_pullNow_0 rfl rfl ?_
  refine fin_I O ⟨Nat.zero_le _, Nat.zero_le _⟩ (run_S (As := [vI (p1)]) (st := []) O (mt_X5_isTooth (xl x) (xG x) _ _ _ h) q1859 q1860 q131 q1861 hy_X5_isTooth.2 (Nat.le_of_ble_eq_true rfl) (Nat.le_of_ble_eq_true rfl) ⟨Nat.zero_le _, Nat.zero_le _⟩ rfl (Nat.le_of_ble_eq_true rfl) dX5_pullNow_1) (fun r1 w2 h => ?_)
  obtain ⟨c3, h⟩ := h
  refine j_if_eq O (tgt := 14) dX5_pullNow_4 (by decide) c3 h (fun h => ?_) (fun h => ?_)
  · refine j_iconst O dX5_pullNow_14 ?_
    exact j_iret O hr dX5_pullNow_15 h
  · refine j_iload_n O 2 2 dX5_pullNow_7 rfl rfl ?_
    refine fin_I O ⟨Nat.zero_le _, Nat.zero_le _⟩ (run_S (As := [vI (p2)]) (st := []) O (mt_X5_isBar (xl x) (xG x) _ _ _ h) q1846 q1847 q131 q1848 hy_X5_isBar.2 (Nat.le_of_ble_eq_true rfl) (Nat.le_of_ble_eq_true rfl) ⟨Nat.zero_le _, Nat.zero_le _⟩ rfl (Nat.le_of_ble_eq_true rfl) dX5_pullNow_8) (fun r4 w5 h => ?_)
    obtain ⟨c6, h⟩ := h
    refine j_if_ne O (tgt := 16) dX5_pullNow_11 (by decide) c6 h (fun h => ?_) (fun h => ?_)
    · refine j_aload_n O 0 0 dX5_pullNow_16 rfl rfl ?_
      refine j_iload_n O 3 3 dX5_pullNow_17 rfl rfl ?_
      obtain ⟨e9, h⟩ := h
      refine fin_I O ⟨Nat.zero_le _, Nat.zero_le _⟩ (run_V (As := [vI (p3)]) (st := []) O (mt_X5_isBox (xl x) (xG x) _ _ _ _ h) e9 cfX5.1 q1792 q1794 qs51 q131 q1795 hy_X5_isBox (Nat.le_of_ble_eq_true rfl) (Nat.le_of_ble_eq_true rfl) ⟨Nat.zero_le _, Nat.zero_le _⟩ rfl (Nat.le_of_ble_eq_true rfl) dX5_pullNow_18) (fun r7 w8 h => ?_)
      obtain ⟨c10, h⟩ := h
      refine j_if_ne O (tgt := 27) dX5_pullNow_21 (by decide) c10 h (fun h => ?_) (fun h => ?_)
      · refine j_aload_n O 0 0 dX5_pullNow_27 rfl rfl ?_
        refine j_iload_n O 1 1 dX5_pullNow_28 rfl rfl ?_
        refine j_iload_n O 2 2 dX5_pullNow_29 rfl rfl ?_
        refine j_iload_n O 3 3 dX5_pullNow_30 rfl rfl ?_
        obtain ⟨e13, h⟩ := h
        refine fin_I O ⟨Nat.zero_le _, Nat.zero_le _⟩ (run_V (As := [vI (p1), vI (p2), vI (p3)]) (st := []) O (mt_X5_canPull (xl x) (xG x) _ _ _ _ _ _ h) e13 cfX5.1 q2052 q2054 qs92 q131 q2055 hy_X5_canPull (Nat.le_of_ble_eq_true rfl) (Nat.le_of_ble_eq_true rfl) ⟨Nat.zero_le _, Nat.zero_le _⟩ rfl (Nat.le_of_ble_eq_true rfl) dX5_pullNow_31) (fun r11 w12 h => ?_)
        obtain ⟨c14, h⟩ := h
        refine j_if_ne O (tgt := 40) dX5_pullNow_34 (by decide) c14 h (fun h => ?_) (fun h => ?_)
        · refine j_aload_n O 0 0 dX5_pullNow_40 rfl rfl ?_
          refine j_iconst O dX5_pullNow_41 ?_
          obtain ⟨e16, h⟩ := h
          refine fin_V O ⟨Nat.zero_le _, Nat.zero_le _⟩ (run_V (As := [vI (0)]) (st := []) O (mt_X5_remember (xl x) (xG x) _ _ _ _ h) e16 cfX5.1 q2059 q2061 qs93 q131 q2062 hy_X5_remember (Nat.le_of_ble_eq_true rfl) (Nat.le_of_ble_eq_true rfl) ⟨Nat.zero_le _, Nat.zero_le _⟩ rfl (Nat.le_of_ble_eq_true rfl) dX5_pullNow_42) (fun w15 h => ?_)
          refine j_aload_n O 0 0 dX5_pullNow_45 rfl rfl ?_
          refine j_getA O cfX5 3 (Nat.le_of_ble_eq_true rfl) ⟨_, rfl⟩ q1571 dX5_pullNow_46 h (fun k17 h => ?_)
          refine j_bipush (m := 8) O dX5_pullNow_49 bi_8 ?_
          refine j_bipush (m := 8) O dX5_pullNow_51 bi_8 ?_
          refine j_iload_n O 3 3 dX5_pullNow_53 rfl rfl ?_
          refine j_imul O dX5_pullNow_54 ?_
          refine j_iadd O dX5_pullNow_55 ?_
          refine j_iload_n O 2 2 dX5_pullNow_56 rfl rfl ?_
          refine j_iadd O dX5_pullNow_57 ?_
          refine j_dup2_11 O dX5_pullNow_58 rfl rfl ?_
          refine j_iald O dX5_pullNow_59 h (fun v18 h => ?_)
          refine j_iconst O dX5_pullNow_60 ?_
          refine j_iload_n O 1 1 dX5_pullNow_61 rfl rfl ?_
          refine j_ishl O dX5_pullNow_62 ?_
          refine j_isub O dX5_pullNow_63 ?_
          refine j_iast O dX5_pullNow_64 h (fun w19 h => ?_)
          refine j_aload_n O 0 0 dX5_pullNow_65 rfl rfl ?_
          refine j_iload_n O 3 3 dX5_pullNow_66 rfl rfl ?_
          obtain ⟨e22, h⟩ := h
          refine fin_I O ⟨Nat.zero_le _, Nat.zero_le _⟩ (run_V (As := [vI (p3)]) (st := []) O (mt_X5_notesOf (xl x) (xG x) _ _ _ _ h) e22 cfX5.1 q1797 q1799 qs52 q131 q1800 hy_X5_notesOf (Nat.le_of_ble_eq_true rfl) (Nat.le_of_ble_eq_true rfl) ⟨Nat.zero_le _, Nat.zero_le _⟩ rfl (Nat.le_of_ble_eq_true rfl) dX5_pullNow_67) (fun r20 w21 h => ?_)
          exact j_iret O hr dX5_pullNow_70 h
        · refine j_bipush (m := (-3)) O dX5_pullNow_37 bi_m3 ?_
          exact j_iret O hr dX5_pullNow_39 h
      · refine j_bipush (m := (-2)) O dX5_pullNow_24 bi_m2 ?_
        exact j_iret O hr dX5_pullNow_26 h
    · refine j_iconst O dX5_pullNow_14 ?_
      exact j_iret O hr dX5_pullNow_15 h
theorem hy_X5_snapNow : (yX5_snapNow.cls = "DowryBoxesModel" ∧ yX5_snapNow.cls ≠ "java/lang/invoke/MethodHandle" ∧ yX5_snapNow.cls ≠ "java/lang/invoke/VarHandle" ∧ (parseMethodDescriptor yX5_snapNow.desc).map (fun d => d.parameters.length) = some 2) := by decide +kernel
theorem mt_X5_snapNow (l : Launch) (G : GW) (this : Nat) (p1 : Int) (p2 : Int) (w : Wd) (Q : Int → Wd → Prop) (h : wp_X5_snapNow this p1 p2 w Q) : MI l G yX5_snapNow cX5_snapNow 3 (.int) 3 0 0 [.ref (adG G (this)), vI (p1), vI (p2)] w Q := by
  refine met_I (fun G => [.ref (adG G (this)), vI (p1), vI (p2)]) (by decide) (fun G => Nat.le_of_ble_eq_true rfl) (fun x O hl hm hr => ?_)
  subst hl
  have O : OK x "DowryBoxesModel" cX5_snapNow 3 := O
  have h : wp_X5_snapNow this p1 p2 w Q := h
  unfold wp_X5_snapNow at h
  show J x (TI x Q) w 0 0 0 [(0, .ref (adG (xG x) (this))), (1, vI (p1)), (2, vI (p2))] []
  refine j_iload_n O 1 1 dX5_snapNow_0 rfl rfl ?_
  refine fin_I O ⟨Nat.zero_le _, Nat.zero_le _⟩ (run_S (As := [vI (p1)]) (st := []) O (mt_X5_isTooth (xl x) (xG x) _ _ _ h) q1859 q1860 q131 q1861 hy_X5_isTooth.2 (Nat.le_of_ble_eq_true rfl) (Nat.le_of_ble_eq_true rfl) ⟨Nat.zero_le _, Nat.zero_le _⟩ rfl (Nat.le_of_ble_eq_true rfl) dX5_snapNow_1) (fun r1 w2 h => ?_)
  obtain ⟨c3, h⟩ := h
  refine j_if_ne O (tgt := 9) dX5_snapNow_4 (by decide) c3 h (fun h => ?_) (fun h => ?_)
  · refine j_aload_n O 0 0 dX5_snapNow_9 rfl rfl ?_
    refine j_iload_n O 2 2 dX5_snapNow_10 rfl rfl ?_
    obtain ⟨e6, h⟩ := h
    refine fin_I O ⟨Nat.zero_le _, Nat.zero_le _⟩ (run_V (As := [vI (p2)]) (st := []) O (mt_X5_isBox (xl x) (xG x) _ _ _ _ h) e6 cfX5.1 q1792 q1794 qs51 q131 q1795 hy_X5_isBox (Nat.le_of_ble_eq_true rfl) (Nat.le_of_ble_eq_true rfl) ⟨Nat.zero_le _, Nat.zero_le _⟩ rfl (Nat.le_of_ble_eq_true rfl) dX5_snapNow_11) (fun r4 w5 h => ?_)
    obtain ⟨c7, h⟩ := h
    refine j_if_ne O (tgt := 20) dX5_snapNow_14 (by decide) c7 h (fun h => ?_) (fun h => ?_)
    · refine j_aload_n O 0 0 dX5_snapNow_20 rfl rfl ?_
      refine j_getA O cfX5 3 (Nat.le_of_ble_eq_true rfl) ⟨_, rfl⟩ q1571 dX5_snapNow_21 h (fun k8 h => ?_)
      refine j_bipush (m := 56) O dX5_snapNow_24 bi_56 ?_
      refine j_iload_n O 2 2 dX5_snapNow_26 rfl rfl ?_
      refine j_iadd O dX5_snapNow_27 ?_
      refine j_iald O dX5_snapNow_28 h (fun v9 h => ?_)
      refine j_iload_n O 1 1 dX5_snapNow_29 rfl rfl ?_
      refine fin_I O ⟨Nat.zero_le _, Nat.zero_le _⟩ (run_S (As := [vI (v9), vI (p1)]) (st := []) O (mt_X5_is (xl x) (xG x) _ _ _ _ h) q2056 q2057 q131 q2058 hy_X5_is.2 (Nat.le_of_ble_eq_true rfl) (Nat.le_of_ble_eq_true rfl) ⟨Nat.zero_le _, Nat.zero_le _⟩ rfl (Nat.le_of_ble_eq_true rfl) dX5_snapNow_30) (fun r10 w11 h => ?_)
      obtain ⟨c12, h⟩ := h
      refine j_if_eq O (tgt := 39) dX5_snapNow_33 (by decide) c12 h (fun h => ?_) (fun h => ?_)
      · refine j_aload_n O 0 0 dX5_snapNow_39 rfl rfl ?_
        refine j_iconst O dX5_snapNow_40 ?_
        obtain ⟨e14, h⟩ := h
        refine fin_V O ⟨Nat.zero_le _, Nat.zero_le _⟩ (run_V (As := [vI (1)]) (st := []) O (mt_X5_remember (xl x) (xG x) _ _ _ _ h) e14 cfX5.1 q2059 q2061 qs93 q131 q2062 hy_X5_remember (Nat.le_of_ble_eq_true rfl) (Nat.le_of_ble_eq_true rfl) ⟨Nat.zero_le _, Nat.zero_le _⟩ rfl (Nat.le_of_ble_eq_true rfl) dX5_snapNow_41) (fun w13 h => ?_)
        refine j_aload_n O 0 0 dX5_snapNow_44 rfl rfl ?_
        refine j_getA O cfX5 3 (Nat.le_of_ble_eq_true rfl) ⟨_, rfl⟩ q1571 dX5_snapNow_45 h (fun k15 h => ?_)
        refine j_bipush (m := 56) O dX5_snapNow_48 bi_56 ?_
        refine j_iload_n O 2 2 dX5_snapNow_50 rfl rfl ?_
        refine j_iadd O dX5_snapNow_51 ?_
        refine j_dup2_11 O dX5_snapNow_52 rfl rfl ?_
        refine j_iald O dX5_snapNow_53 h (fun v16 h => ?_)
        refine j_iconst O dX5_snapNow_54 ?_
        refine j_iload_n O 1 1 dX5_snapNow_55 rfl rfl ?_
        refine j_ishl O dX5_snapNow_56 ?_
        refine j_iadd O dX5_snapNow_57 ?_
        refine j_iast O dX5_snapNow_58 h (fun w17 h => ?_)
        refine j_aload_n O 0 0 dX5_snapNow_59 rfl rfl ?_
        refine j_iload_n O 2 2 dX5_snapNow_60 rfl rfl ?_
        obtain ⟨e20, h⟩ := h
        refine fin_I O ⟨Nat.zero_le _, Nat.zero_le _⟩ (run_V (As := [vI (p2)]) (st := []) O (mt_X5_notesOf (xl x) (xG x) _ _ _ _ h) e20 cfX5.1 q1797 q1799 qs52 q131 q1800 hy_X5_notesOf (Nat.le_of_ble_eq_true rfl) (Nat.le_of_ble_eq_true rfl) ⟨Nat.zero_le _, Nat.zero_le _⟩ rfl (Nat.le_of_ble_eq_true rfl) dX5_snapNow_61) (fun r18 w19 h => ?_)
        exact j_iret O hr dX5_snapNow_64 h
      · refine j_bipush (m := (-3)) O dX5_snapNow_36 bi_m3 ?_
        exact j_iret O hr dX5_snapNow_38 h
    · refine j_bipush (m := (-2)) O dX5_snapNow_17 bi_m2 ?_
      exact j_iret O hr dX5_snapNow_19 h
  · refine j_iconst O dX5_snapNow_7 ?_
    exact j_iret O hr dX5_snapNow_8 h
theorem hy_X5_isSuitor : (yX5_isSuitor.cls = "DowryBoxesModel" ∧ yX5_isSuitor.cls ≠ "java/lang/invoke/MethodHandle" ∧ yX5_isSuitor.cls ≠ "java/lang/invoke/VarHandle" ∧ (parseMethodDescriptor yX5_isSuitor.desc).map (fun d => d.parameters.length) = some 1) := by decide +kernel
theorem mt_X5_isSuitor (l : Launch) (G : GW) (this : Nat) (p1 : Int) (w : Wd) (Q : Int → Wd → Prop) (h : wp_X5_isSuitor this p1 w Q) : MI l G yX5_isSuitor cX5_isSuitor 2 (.boolean) 2 0 0 [.ref (adG G (this)), vI (p1)] w Q := by
  refine met_I (fun G => [.ref (adG G (this)), vI (p1)]) (by decide) (fun G => Nat.le_of_ble_eq_true rfl) (fun x O hl hm hr => ?_)
  subst hl
  have O : OK x "DowryBoxesModel" cX5_isSuitor 2 := O
  have h : wp_X5_isSuitor this p1 w Q := h
  unfold wp_X5_isSuitor at h
  show J x (TI x Q) w 0 0 0 [(0, .ref (adG (xG x) (this))), (1, vI (p1))] []
  refine j_iload_n O 1 1 dX5_isSuitor_0 rfl rfl ?_
  refine j_i2l O dX5_isSuitor_1 h (fun h => ?_)
  refine j_lconst (m := 0) O dX5_isSuitor_2 lc_0 ?_
  refine j_aload_n O 0 0 dX5_isSuitor_3 rfl rfl ?_
  refine j_getA O cfX5 3 (Nat.le_of_ble_eq_true rfl) ⟨_, rfl⟩ q1571 dX5_isSuitor_4 h (fun k1 h => ?_)
  refine j_iconst O dX5_isSuitor_7 ?_
  refine j_iald O dX5_isSuitor_8 h (fun v2 h => ?_)
  refine j_i2l O dX5_isSuitor_9 h (fun h => ?_)
  refine j_lconst (m := 1) O dX5_isSuitor_10 lc_1 ?_
  refine j_lsub O dX5_isSuitor_11 ?_
  refine fin_I O ⟨Nat.zero_le _, Nat.zero_le _⟩ (run_S (As := [vL (p1), vL (0), vL ((v2 - 1))]) (st := []) O (mt_X5_in (xl x) (xG x) _ _ _ _ _ h) q1772 q1773 q131 q1774 hy_X5_in.2 (Nat.le_of_ble_eq_true rfl) (Nat.le_of_ble_eq_true rfl) ⟨Nat.zero_le _, Nat.zero_le _⟩ rfl (Nat.le_of_ble_eq_true rfl) dX5_isSuitor_12) (fun r3 w4 h => ?_)
  exact j_zret O hr dX5_isSuitor_15 h
theorem hy_X5_lastsOf : (yX5_lastsOf.cls = "DowryBoxesModel" ∧ yX5_lastsOf.cls ≠ "java/lang/invoke/MethodHandle" ∧ yX5_lastsOf.cls ≠ "java/lang/invoke/VarHandle" ∧ (parseMethodDescriptor yX5_lastsOf.desc).map (fun d => d.parameters.length) = some 1) := by decide +kernel
theorem mt_X5_lastsOf (l : Launch) (G : GW) (this : Nat) (p1 : Int) (w : Wd) (Q : Int → Wd → Prop) (h : wp_X5_lastsOf this p1 w Q) : MI l G yX5_lastsOf cX5_lastsOf 2 (.int) 6 0 0 [.ref (adG G (this)), vI (p1)] w Q := by
  refine met_I (fun G => [.ref (adG G (this)), vI (p1)]) (by decide) (fun G => Nat.le_of_ble_eq_true rfl) (fun x O hl hm hr => ?_)
  subst hl
  have O : OK x "DowryBoxesModel" cX5_lastsOf 6 := O
  have h : wp_X5_lastsOf this p1 w Q := h
  unfold wp_X5_lastsOf at h
  show J x (TI x Q) w 0 0 0 [(0, .ref (adG (xG x) (this))), (1, vI (p1))] []
  refine j_aload_n O 0 0 dX5_lastsOf_0 rfl rfl ?_
  refine j_iconst O dX5_lastsOf_1 ?_
  refine j_iload_n O 1 1 dX5_lastsOf_2 rfl rfl ?_
  refine j_iconst O dX5_lastsOf_3 ?_
  refine j_aload_n O 0 0 dX5_lastsOf_4 rfl rfl ?_
  refine j_getA O cfX5 3 (Nat.le_of_ble_eq_true rfl) ⟨_, rfl⟩ q1571 dX5_lastsOf_5 h (fun k1 h => ?_)
  refine j_bipush (m := 62) O dX5_lastsOf_8 bi_62 ?_
  refine j_iload_n O 1 1 dX5_lastsOf_10 rfl rfl ?_
  refine j_iadd O dX5_lastsOf_11 ?_
  refine j_iald O dX5_lastsOf_12 h (fun v2 h => ?_)
  refine j_aload_n O 0 0 dX5_lastsOf_13 rfl rfl ?_
  refine j_iload_n O 1 1 dX5_lastsOf_14 rfl rfl ?_
  obtain ⟨e5, h⟩ := h
  refine fin_I O ⟨Nat.zero_le _, Nat.zero_le _⟩ (run_V (As := [vI (p1)]) (st := [vI (v2), vI ((-1)), vI (p1), vI (0), .ref (adG (xG x) (this))]) O (mt_X5_notesOf (xl x) (xG x) _ _ _ _ h) e5 cfX5.1 q1797 q1799 qs52 q131 q1800 hy_X5_notesOf (Nat.le_of_ble_eq_true rfl) (Nat.le_of_ble_eq_true rfl) ⟨Nat.zero_le _, Nat.zero_le _⟩ rfl (Nat.le_of_ble_eq_true rfl) dX5_lastsOf_15) (fun r3 w4 h => ?_)
  refine j_iconst O dX5_lastsOf_18 ?_
  refine j_idiv O dX5_lastsOf_19 h (fun h => ?_)
  refine j_iadd O dX5_lastsOf_20 ?_
  refine j_i2l O dX5_lastsOf_21 h (fun h => ?_)
  obtain ⟨e8, h⟩ := h
  refine fin_L O ⟨Nat.zero_le _, Nat.zero_le _⟩ (run_V (As := [vI (0), vI (p1), vI (((-1))), vL ((v2 + (Int.tdiv r3 4)))]) (st := []) O (mt_X5_tells (xl x) (xG x) _ _ _ _ _ _ _ h) e8 cfX5.1 q1812 q1814 qs55 q131 q1815 hy_X5_tells (Nat.le_of_ble_eq_true rfl) (Nat.le_of_ble_eq_true rfl) ⟨Nat.zero_le _, Nat.zero_le _⟩ rfl (Nat.le_of_ble_eq_true rfl) dX5_lastsOf_22) (fun r6 w7 h => ?_)
  refine j_iconst O dX5_lastsOf_25 ?_
  refine j_bipush (m := 60) O dX5_lastsOf_26 bi_60 ?_
  refine fin_I O ⟨Nat.zero_le _, Nat.zero_le _⟩ (run_S (As := [vL (r6), vI (0), vI (60)]) (st := []) O (mt_X5_within (xl x) (xG x) _ _ _ _ _ h) q1835 q1836 q131 q1837 hy_X5_within.2 (Nat.le_of_ble_eq_true rfl) (Nat.le_of_ble_eq_true rfl) ⟨Nat.zero_le _, Nat.zero_le _⟩ rfl (Nat.le_of_ble_eq_true rfl) dX5_lastsOf_28) (fun r9 w10 h => ?_)
  exact j_iret O hr dX5_lastsOf_31 h
theorem hy_X5_boxOf : (yX5_boxOf.cls = "DowryBoxesModel" ∧ yX5_boxOf.cls ≠ "java/lang/invoke/MethodHandle" ∧ yX5_boxOf.cls ≠ "java/lang/invoke/VarHandle" ∧ (parseMethodDescriptor yX5_boxOf.desc).map (fun d => d.parameters.length) = some 1) := by decide +kernel
theorem wk_X5_boxOf_32 {x : Cx} (O : OK x "DowryBoxesModel" cX5_boxOf 1) (hr : (xM x).sig.returnType = some .int) (hm : xn x = 4) {Q : Int → Wd → Prop} (K4 : Int → Int → Wd → Prop) (this : Nat) (x1 : Int) (x3 : Int) (s0 : Int) (hK4 : ∀ (y2 : Int) (y3 : Int) (w : Wd), K4 y2 y3 w → J x (TI x Q) w 0 0 4 [(0, .ref (adG (xG x) (this))), (1, vI (x1)), (2, vI (y2)), (3, vI (y3))] []) (w : Wd) (h : wp_X5_boxOf_32 Q K4 this x1 x3 s0 w) : J x (TI x Q) w 0 0 32 [(0, .ref (adG (xG x) (this))), (1, vI (x1)), (3, vI (x3))] [vI (s0)] := by
  unfold wp_X5_boxOf_32 at h
  refine j_istore_n (L' := [(2, vI (s0)), (0, .ref (adG (xG x) (this))), (1, vI (x1)), (3, vI (x3))]) O 2 dX5_boxOf_32 rfl (by rw [hm]; decide) rfl ?_
  refine j_iinc (L' := [(3, vI (x3 + 1)), (2, vI (s0)), (0, .ref (adG (xG x) (this))), (1, vI (x1))]) O 3 dX5_boxOf_33 rfl (by rw [hm]; decide) rfl ?_
  refine j_goto O (tgt := 4) dX5_boxOf_36 (by decide) ?_
  exact (J.sub [2, 3, 1, 0] rfl <| hK4 _ _ _ h)
theorem wk_X5_boxOf_4 {x : Cx} (O : OK x "DowryBoxesModel" cX5_boxOf 1) (hr : (xM x).sig.returnType = some .int) (hm : xn x = 4) {Q : Int → Wd → Prop} (this : Nat) (x1 : Int) : ∀ (n : Nat) (x2 : Int) (x3 : Int) (w : Wd), wp_X5_boxOf_4 Q this x1 n x2 x3 w → J x (TI x Q) w 0 0 4 [(0, .ref (adG (xG x) (this))), (1, vI (x1)), (2, vI (x2)), (3, vI (x3))] [] := by
  intro n
  induction n with
  | zero => intro x2 x3 w h; exact False.elim h
  | succ n ih =>
    intro x2 x3 w h
    rw [wp_X5_boxOf_4] at h
    refine j_iload_n O 3 3 dX5_boxOf_4 rfl rfl ?_
    refine j_aload_n O 0 0 dX5_boxOf_5 rfl rfl ?_
    refine j_getA O cfX5 3 (Nat.le_of_ble_eq_true rfl) ⟨_, rfl⟩ q1571 dX5_boxOf_6 h (fun k1 h => ?_)
    refine j_iconst O dX5_boxOf_9 ?_
    refine j_iald O dX5_boxOf_10 h (fun v2 h => ?_)
    obtain ⟨c3, h⟩ := h
    obtain ⟨c4, h⟩ := h
    refine j_icmp_ge O (tgt := 39) dX5_boxOf_11 (by decide) c3 c4 h (fun h => ?_) (fun h => ?_)
    · refine j_iload_n O 2 2 dX5_boxOf_39 rfl rfl ?_
      exact j_iret O hr dX5_boxOf_40 h
    · refine j_aload_n O 0 0 dX5_boxOf_14 rfl rfl ?_
      refine j_getA O cfX5 3 (Nat.le_of_ble_eq_true rfl) ⟨_, rfl⟩ q1571 dX5_boxOf_15 h (fun k5 h => ?_)
      refine j_bipush (m := 68) O dX5_boxOf_18 bi_68 ?_
      refine j_iload_n O 3 3 dX5_boxOf_20 rfl rfl ?_
      refine j_iadd O dX5_boxOf_21 ?_
      refine j_iald O dX5_boxOf_22 h (fun v6 h => ?_)
      refine j_iload_n O 1 1 dX5_boxOf_23 rfl rfl ?_
      obtain ⟨c7, h⟩ := h
      obtain ⟨c8, h⟩ := h
      refine j_icmp_ne O (tgt := 31) dX5_boxOf_24 (by decide) c7 c8 h (fun h => ?_) (fun h => ?_)
      · refine j_iload_n O 2 2 dX5_boxOf_31 rfl rfl ?_
        exact (J.sub [0, 1, 3] rfl <| wk_X5_boxOf_32 O hr hm _ _ _ _ _ ih _ h)
      · refine j_iload_n O 3 3 dX5_boxOf_27 rfl rfl ?_
        refine j_goto O (tgt := 32) dX5_boxOf_28 (by decide) ?_
        exact (J.sub [0, 1, 3] rfl <| wk_X5_boxOf_32 O hr hm _ _ _ _ _ ih _ h)
theorem mt_X5_boxOf (l : Launch) (G : GW) (this : Nat) (p1 : Int) (w : Wd) (Q : Int → Wd → Prop) (h : wp_X5_boxOf this p1 w Q) : MI l G yX5_boxOf cX5_boxOf 4 (.int) 1 0 0 [.ref (adG G (this)), vI (p1)] w Q := by
  refine met_I (fun G => [.ref (adG G (this)), vI (p1)]) (by decide) (fun G => Nat.le_of_ble_eq_true rfl) (fun x O hl hm hr => ?_)
  subst hl
  have O : OK x "DowryBoxesModel" cX5_boxOf 1 := O
  have h : wp_X5_boxOf this p1 w Q := h
  unfold wp_X5_boxOf at h
  show J x (TI x Q) w 0 0 0 [(0, .ref (adG (xG x) (this))), (1, vI (p1))] []
  refine j_iconst O dX5_boxOf_0 ?_
  refine j_istore_n (L' := [(2, vI ((-1))), (0, .ref (adG (xG x) (this))), (1, vI (p1))]) O 2 dX5_boxOf_1 rfl (by rw [hm]; decide) rfl ?_
  refine j_iconst O dX5_boxOf_2 ?_
  refine j_istore_n (L' := [(3, vI (0)), (2, vI ((-1))), (0, .ref (adG (xG x) (this))), (1, vI (p1))]) O 3 dX5_boxOf_3 rfl (by rw [hm]; decide) rfl ?_
  exact (J.sub [2, 3, 1, 0] rfl <| wk_X5_boxOf_4 O hr hm  _ _  FU _ _ _ h)
theorem hy_X5_isBarred : (yX5_isBarred.cls = "DowryBoxesModel" ∧ yX5_isBarred.cls ≠ "java/lang/invoke/MethodHandle" ∧ yX5_isBarred.cls ≠ "java/lang/invoke/VarHandle" ∧ (parseMethodDescriptor yX5_isBarred.desc).map (fun d => d.parameters.length) = some 2) := by decide +kernel
theorem mt_X5_isBarred (l : Launch) (G : GW) (this : Nat) (p1 : Int) (p2 : Int) (w : Wd) (Q : Int → Wd → Prop) (h : wp_X5_isBarred this p1 p2 w Q) : MI l G yX5_isBarred cX5_isBarred 3 (.boolean) 6 0 0 [.ref (adG G (this)), vI (p1), vI (p2)] w Q := by
  refine met_I (fun G => [.ref (adG G (this)), vI (p1), vI (p2)]) (by decide) (fun G => Nat.le_of_ble_eq_true rfl) (fun x O hl hm hr => ?_)
  subst hl
  have O : OK x "DowryBoxesModel" cX5_isBarred 6 := O
  have h : wp_X5_isBarred this p1 p2 w Q := h
  unfold wp_X5_isBarred at h
  show J x (TI x Q) w 0 0 0 [(0, .ref (adG (xG x) (this))), (1, vI (p1)), (2, vI (p2))] []
  refine j_aload_n O 0 0 dX5_isBarred_0 rfl rfl ?_
  refine j_iconst O dX5_isBarred_1 ?_
  refine j_iload_n O 1 1 dX5_isBarred_2 rfl rfl ?_
  refine j_iload_n O 2 2 dX5_isBarred_3 rfl rfl ?_
  refine j_lconst (m := 0) O dX5_isBarred_4 lc_0 ?_
  obtain ⟨e3, h⟩ := h
  refine fin_L O ⟨Nat.zero_le _, Nat.zero_le _⟩ (run_V (As := [vI (3), vI (p1), vI (p2), vL (0)]) (st := []) O (mt_X5_tells (xl x) (xG x) _ _ _ _ _ _ _ h) e3 cfX5.1 q1812 q1814 qs55 q131 q1815 hy_X5_tells (Nat.le_of_ble_eq_true rfl) (Nat.le_of_ble_eq_true rfl) ⟨Nat.zero_le _, Nat.zero_le _⟩ rfl (Nat.le_of_ble_eq_true rfl) dX5_isBarred_5) (fun r1 w2 h => ?_)
  refine j_lconst (m := 1) O dX5_isBarred_8 lc_1 ?_
  obtain ⟨c4, h⟩ := h
  refine j_lcif_ne O (tgt := 17) dX5_isBarred_9 rfl dX5_isBarred_10 (by decide) c4 (by decide) h (fun h => ?_) (fun h => ?_)
  · refine j_iconst O dX5_isBarred_17 ?_
    exact j_zret O hr dX5_isBarred_18 h
  · refine j_iconst O dX5_isBarred_13 ?_
    refine j_goto O (tgt := 18) dX5_isBarred_14 (by decide) ?_
    exact j_zret O hr dX5_isBarred_18 h
theorem hy_X5_wedNow : (yX5_wedNow.cls = "DowryBoxesModel" ∧ yX5_wedNow.cls ≠ "java/lang/invoke/MethodHandle" ∧ yX5_wedNow.cls ≠ "java/lang/invoke/VarHandle" ∧ (parseMethodDescriptor yX5_wedNow.desc).map (fun d => d.parameters.length) = some 2) := by decide +kernel
theorem mt_X5_wedNow (l : Launch) (G : GW) (this : Nat) (p1 : Int) (p2 : Int) (w : Wd) (Q : Int → Wd → Prop) (h : wp_X5_wedNow this p1 p2 w Q) : MI l G yX5_wedNow cX5_wedNow 4 (.int) 7 0 0 [.ref (adG G (this)), vI (p1), vI (p2)] w Q := by
  refine met_I (fun G => [.ref (adG G (this)), vI (p1), vI (p2)]) (by decide) (fun G => Nat.le_of_ble_eq_true rfl) (fun x O hl hm hr => ?_)
  subst hl
  have O : OK x "DowryBoxesModel" cX5_wedNow 7 := O
  have h : wp_X5_wedNow this p1 p2 w Q := h
  unfold wp_X5_wedNow at h
  show J x (TI x Q) w 0 0 0 [(0, .ref (adG (xG x) (this))), (1, vI (p1)), (2, vI (p2))] []
  refine j_aload_n O 0 0 dX5_wedNow_0 rfl rfl ?_
  refine j_iload_n O 1 1 dX5_wedNow_1 rfl rfl ?_
  obtain ⟨e3, h⟩ := h
  refine fin_I O ⟨Nat.zero_le _, Nat.zero_le _⟩ (run_V (As := [vI (p1)]) (st := []) O (mt_X5_isBox (xl x) (xG x) _ _ _ _ h) e3 cfX5.1 q1792 q1794 qs51 q131 q1795 hy_X5_isBox (Nat.le_of_ble_eq_true rfl) (Nat.le_of_ble_eq_true rfl) ⟨Nat.zero_le _, Nat.zero_le _⟩ rfl (Nat.le_of_ble_eq_true rfl) dX5_wedNow_2) (fun r1 w2 h => ?_)
  obtain ⟨c4, h⟩ := h
  refine j_if_eq O (tgt := 16) dX5_wedNow_5 (by decide) c4 h (fun h => ?_) (fun h => ?_)
  · refine j_bipush (m := (-2)) O dX5_wedNow_16 bi_m2 ?_
    exact j_iret O hr dX5_wedNow_18 h
  · refine j_aload_n O 0 0 dX5_wedNow_8 rfl rfl ?_
    refine j_iload_n O 2 2 dX5_wedNow_9 rfl rfl ?_
    obtain ⟨e7, h⟩ := h
    refine fin_I O ⟨Nat.zero_le _, Nat.zero_le _⟩ (run_V (As := [vI (p2)]) (st := []) O (mt_X5_isSuitor (xl x) (xG x) _ _ _ _ h) e7 cfX5.1 q1867 q1869 qs62 q131 q1870 hy_X5_isSuitor (Nat.le_of_ble_eq_true rfl) (Nat.le_of_ble_eq_true rfl) ⟨Nat.zero_le _, Nat.zero_le _⟩ rfl (Nat.le_of_ble_eq_true rfl) dX5_wedNow_10) (fun r5 w6 h => ?_)
    obtain ⟨c8, h⟩ := h
    refine j_if_ne O (tgt := 19) dX5_wedNow_13 (by decide) c8 h (fun h => ?_) (fun h => ?_)
    · refine j_aload_n O 0 0 dX5_wedNow_19 rfl rfl ?_
      refine j_iload_n O 1 1 dX5_wedNow_20 rfl rfl ?_
      obtain ⟨e11, h⟩ := h
      refine fin_I O ⟨Nat.zero_le _, Nat.zero_le _⟩ (run_V (As := [vI (p1)]) (st := []) O (mt_X5_lastsOf (xl x) (xG x) _ _ _ _ h) e11 cfX5.1 q1808 q1810 qs54 q131 q1811 hy_X5_lastsOf (Nat.le_of_ble_eq_true rfl) (Nat.le_of_ble_eq_true rfl) ⟨Nat.zero_le _, Nat.zero_le _⟩ rfl (Nat.le_of_ble_eq_true rfl) dX5_wedNow_21) (fun r9 w10 h => ?_)
      refine j_istore_n (L' := [(3, vI (r9)), (0, .ref (adG (xG x) (this))), (1, vI (p1)), (2, vI (p2))]) O 3 dX5_wedNow_24 rfl (by rw [hm]; decide) rfl ?_
      refine j_aload_n O 1 0 dX5_wedNow_25 rfl rfl ?_
      refine j_getA O cfX5 3 (Nat.le_of_ble_eq_true rfl) ⟨_, rfl⟩ q1571 dX5_wedNow_26 h (fun k12 h => ?_)
      refine j_bipush (m := 68) O dX5_wedNow_29 bi_68 ?_
      refine j_iload_n O 2 1 dX5_wedNow_31 rfl rfl ?_
      refine j_iadd O dX5_wedNow_32 ?_
      refine j_iald O dX5_wedNow_33 h (fun v13 h => ?_)
      refine j_iconst O dX5_wedNow_34 ?_
      obtain ⟨c14, h⟩ := h
      refine j_icmp_ne O (tgt := 60) dX5_wedNow_35 (by decide) c14 (by decide) h (fun h => ?_) (fun h => ?_)
      · refine j_bipush (m := (-3)) O dX5_wedNow_60 bi_m3 ?_
        exact j_iret O hr dX5_wedNow_62 h
      · refine j_aload_n O 1 0 dX5_wedNow_38 rfl rfl ?_
        refine j_iload_n O 3 2 dX5_wedNow_39 rfl rfl ?_
        obtain ⟨e17, h⟩ := h
        refine fin_I O ⟨Nat.zero_le _, Nat.zero_le _⟩ (run_V (As := [vI (p2)]) (st := []) O (mt_X5_boxOf (xl x) (xG x) _ _ _ _ h) e17 cfX5.1 q1871 q1873 qs63 q131 q1874 hy_X5_boxOf (Nat.le_of_ble_eq_true rfl) (Nat.le_of_ble_eq_true rfl) ⟨Nat.zero_le _, Nat.zero_le _⟩ rfl (Nat.le_of_ble_eq_true rfl) dX5_wedNow_40) (fun r15 w16 h => ?_)
        refine j_iconst O dX5_wedNow_43 ?_
        obtain ⟨c18, h⟩ := h
        refine j_icmp_ne O (tgt := 60) dX5_wedNow_44 (by decide) c18 (by decide) h (fun h => ?_) (fun h => ?_)
        · refine j_bipush (m := (-3)) O dX5_wedNow_60 bi_m3 ?_
          exact j_iret O hr dX5_wedNow_62 h
        · refine j_aload_n O 1 0 dX5_wedNow_47 rfl rfl ?_
          refine j_iload_n O 2 1 dX5_wedNow_48 rfl rfl ?_
          refine j_iload_n O 3 2 dX5_wedNow_49 rfl rfl ?_
          obtain ⟨e21, h⟩ := h
          refine fin_I O ⟨Nat.zero_le _, Nat.zero_le _⟩ (run_V (As := [vI (p1), vI (p2)]) (st := []) O (mt_X5_isBarred (xl x) (xG x) _ _ _ _ _ h) e21 cfX5.1 q1883 q1885 qs65 q131 q1886 hy_X5_isBarred (Nat.le_of_ble_eq_true rfl) (Nat.le_of_ble_eq_true rfl) ⟨Nat.zero_le _, Nat.zero_le _⟩ rfl (Nat.le_of_ble_eq_true rfl) dX5_wedNow_50) (fun r19 w20 h => ?_)
          obtain ⟨c22, h⟩ := h
          refine j_if_ne O (tgt := 60) dX5_wedNow_53 (by decide) c22 h (fun h => ?_) (fun h => ?_)
          · refine j_bipush (m := (-3)) O dX5_wedNow_60 bi_m3 ?_
            exact j_iret O hr dX5_wedNow_62 h
          · refine j_iload_n O 0 3 dX5_wedNow_56 rfl rfl ?_
            obtain ⟨c23, h⟩ := h
            refine j_if_ne O (tgt := 63) dX5_wedNow_57 (by decide) c23 h (fun h => ?_) (fun h => ?_)
            · refine j_aload_n O 1 0 dX5_wedNow_63 rfl rfl ?_
              refine j_iconst O dX5_wedNow_64 ?_
              obtain ⟨e25, h⟩ := h
              refine fin_V O ⟨Nat.zero_le _, Nat.zero_le _⟩ (run_V (As := [vI (2)]) (st := []) O (mt_X5_remember (xl x) (xG x) _ _ _ _ h) e25 cfX5.1 q2059 q2061 qs93 q131 q2062 hy_X5_remember (Nat.le_of_ble_eq_true rfl) (Nat.le_of_ble_eq_true rfl) ⟨Nat.zero_le _, Nat.zero_le _⟩ rfl (Nat.le_of_ble_eq_true rfl) dX5_wedNow_65) (fun w24 h => ?_)
              refine j_aload_n O 1 0 dX5_wedNow_68 rfl rfl ?_
              refine j_getA O cfX5 3 (Nat.le_of_ble_eq_true rfl) ⟨_, rfl⟩ q1571 dX5_wedNow_69 h (fun k26 h => ?_)
              refine j_bipush (m := 68) O dX5_wedNow_72 bi_68 ?_
              refine j_iload_n O 2 1 dX5_wedNow_74 rfl rfl ?_
              refine j_iadd O dX5_wedNow_75 ?_
              refine j_iload_n O 3 2 dX5_wedNow_76 rfl rfl ?_
              refine j_iast O dX5_wedNow_77 h (fun w27 h => ?_)
              refine j_aload_n O 1 0 dX5_wedNow_78 rfl rfl ?_
              refine j_getA O cfX5 3 (Nat.le_of_ble_eq_true rfl) ⟨_, rfl⟩ q1571 dX5_wedNow_79 h (fun k28 h => ?_)
              refine j_bipush (m := 74) O dX5_wedNow_82 bi_74 ?_
              refine j_iload_n O 2 1 dX5_wedNow_84 rfl rfl ?_
              refine j_iadd O dX5_wedNow_85 ?_
              refine j_iload_n O 0 3 dX5_wedNow_86 rfl rfl ?_
              refine j_iast O dX5_wedNow_87 h (fun w29 h => ?_)
              refine j_iload_n O 0 3 dX5_wedNow_88 rfl rfl ?_
              exact j_iret O hr dX5_wedNow_89 h
            · refine j_bipush (m := (-3)) O dX5_wedNow_60 bi_m3 ?_
              exact j_iret O hr dX5_wedNow_62 h
    · refine j_bipush (m := (-2)) O dX5_wedNow_16 bi_m2 ?_
      exact j_iret O hr dX5_wedNow_18 h
theorem hy_X5_passNow : (yX5_passNow.cls = "DowryBoxesModel" ∧ yX5_passNow.cls ≠ "java/lang/invoke/MethodHandle" ∧ yX5_passNow.cls ≠ "java/lang/invoke/VarHandle" ∧ (parseMethodDescriptor yX5_passNow.desc).map (fun d => d.parameters.length) = some 0) := by decide +kernel
theorem mt_X5_passNow (l : Launch) (G : GW) (this : Nat) (w : Wd) (Q : Int → Wd → Prop) (h : wp_X5_passNow this w Q) : MI l G yX5_passNow cX5_passNow 1 (.int) 8 0 0 [.ref (adG G (this))] w Q := by
  refine met_I (fun G => [.ref (adG G (this))]) (by decide) (fun G => Nat.le_of_ble_eq_true rfl) (fun x O hl hm hr => ?_)
  subst hl
  have O : OK x "DowryBoxesModel" cX5_passNow 8 := O
  have h : wp_X5_passNow this w Q := h
  unfold wp_X5_passNow at h
  show J x (TI x Q) w 0 0 0 [(0, .ref (adG (xG x) (this)))] []
  refine j_aload_n O 0 0 dX5_passNow_0 rfl rfl ?_
  refine j_getA O cfX5 3 (Nat.le_of_ble_eq_true rfl) ⟨_, rfl⟩ q1571 dX5_passNow_1 h (fun k1 h => ?_)
  refine j_iconst O dX5_passNow_4 ?_
  refine j_iald O dX5_passNow_5 h (fun v2 h => ?_)
  refine j_sipush (m := 999) O dX5_passNow_6 si_999 ?_
  obtain ⟨c3, h⟩ := h
  refine j_icmp_ne O (tgt := 15) dX5_passNow_9 (by decide) c3 (by decide) h (fun h => ?_) (fun h => ?_)
  · refine j_aload_n O 0 0 dX5_passNow_15 rfl rfl ?_
    refine j_iconst O dX5_passNow_16 ?_
    obtain ⟨e5, h⟩ := h
    refine fin_V O ⟨Nat.zero_le _, Nat.zero_le _⟩ (run_V (As := [vI (3)]) (st := []) O (mt_X5_remember (xl x) (xG x) _ _ _ _ h) e5 cfX5.1 q2059 q2061 qs93 q131 q2062 hy_X5_remember (Nat.le_of_ble_eq_true rfl) (Nat.le_of_ble_eq_true rfl) ⟨Nat.zero_le _, Nat.zero_le _⟩ rfl (Nat.le_of_ble_eq_true rfl) dX5_passNow_17) (fun w4 h => ?_)
    refine j_aload_n O 0 0 dX5_passNow_20 rfl rfl ?_
    obtain ⟨e8, h⟩ := h
    refine fin_I O ⟨Nat.zero_le _, Nat.zero_le _⟩ (run_V (As := []) (st := []) O (mt_X5_passIt (xl x) (xG x) _ _ _ h) e8 cfX5.1 q2091 q2093 qs98 q131 q2094 hy_X5_passIt (Nat.le_of_ble_eq_true rfl) (Nat.le_of_ble_eq_true rfl) ⟨Nat.zero_le _, Nat.zero_le _⟩ rfl (Nat.le_of_ble_eq_true rfl) dX5_passNow_21) (fun r6 w7 h => ?_)
    refine j_pop O dX5_passNow_24 rfl ?_
    refine j_aload_n O 0 0 dX5_passNow_25 rfl rfl ?_
    refine j_getA O cfX5 3 (Nat.le_of_ble_eq_true rfl) ⟨_, rfl⟩ q1571 dX5_passNow_26 h (fun k9 h => ?_)
    refine j_iconst O dX5_passNow_29 ?_
    refine j_iald O dX5_passNow_30 h (fun v10 h => ?_)
    exact j_iret O hr dX5_passNow_31 h
  · refine j_bipush (m := (-3)) O dX5_passNow_12 bi_m3 ?_
    exact j_iret O hr dX5_passNow_14 h
theorem hy_X5_act : (yX5_act.cls = "DowryBoxesModel" ∧ yX5_act.cls ≠ "java/lang/invoke/MethodHandle" ∧ yX5_act.cls ≠ "java/lang/invoke/VarHandle" ∧ (parseMethodDescriptor yX5_act.desc).map (fun d => d.parameters.length) = some 4) := by decide +kernel
theorem mt_X5_act (l : Launch) (G : GW) (this : Nat) (p1 : Int) (p2 : Int) (p3 : Int) (p4 : Int) (w : Wd) (Q : Int → Wd → Prop) (h : wp_X5_act this p1 p2 p3 p4 w Q) : MI l G yX5_act cX5_act 5 (.int) 9 0 0 [.ref (adG G (this)), vI (p1), vI (p2), vI (p3), vI (p4)] w Q := by
  refine met_I (fun G => [.ref (adG G (this)), vI (p1), vI (p2), vI (p3), vI (p4)]) (by decide) (fun G => Nat.le_of_ble_eq_true rfl) (fun x O hl hm hr => ?_)
  subst hl
  have O : OK x "DowryBoxesModel" cX5_act 9 := O
  have h : wp_X5_act this p1 p2 p3 p4 w Q := h
  unfold wp_X5_act at h
  show J x (TI x Q) w 0 0 0 [(0, .ref (adG (xG x) (this))), (1, vI (p1)), (2, vI (p2)), (3, vI (p3)), (4, vI (p4))] []
  refine j_iload_n O 1 1 dX5_act_0 rfl rfl ?_
  obtain ⟨ca, h⟩ := h
  rcases Classical.em (p1 = 0) with e0 | e0
  · have h := h.1 e0
    refine j_tableIn O (tgt := 28) dX5_act_1 ca (by omega) (by omega) (by rw [e0]; rfl) (by decide) ?_
    refine j_aload_n O 0 0 dX5_act_28 rfl rfl ?_
    refine j_iload_n O 2 2 dX5_act_29 rfl rfl ?_
    refine j_iload_n O 3 3 dX5_act_30 rfl rfl ?_
    refine j_iload O 4 dX5_act_31 rfl ?_
    obtain ⟨e3, h⟩ := h
    refine fin_I O ⟨Nat.zero_le _, Nat.zero_le _⟩ (run_V (As := [vI (p2), vI (p3), vI (p4)]) (st := []) O (mt_X5_pullNow (xl x) (xG x) _ _ _ _ _ _ h) e3 cfX5.1 q2048 q2050 qs91 q131 q2051 hy_X5_pullNow (Nat.le_of_ble_eq_true rfl) (Nat.le_of_ble_eq_true rfl) ⟨Nat.zero_le _, Nat.zero_le _⟩ rfl (Nat.le_of_ble_eq_true rfl) dX5_act_33) (fun r1 w2 h => ?_)
    exact j_iret O hr dX5_act_36 h
  have h := h.2 e0
  rcases Classical.em (p1 = 1) with e1 | e1
  · have h := h.1 e1
    refine j_tableIn O (tgt := 37) dX5_act_1 ca (by omega) (by omega) (by rw [e1]; rfl) (by decide) ?_
    refine j_aload_n O 0 0 dX5_act_37 rfl rfl ?_
    refine j_iload_n O 2 2 dX5_act_38 rfl rfl ?_
    refine j_iload_n O 3 3 dX5_act_39 rfl rfl ?_
    obtain ⟨e6, h⟩ := h
    refine fin_I O ⟨Nat.zero_le _, Nat.zero_le _⟩ (run_V (As := [vI (p2), vI (p3)]) (st := []) O (mt_X5_snapNow (xl x) (xG x) _ _ _ _ _ h) e6 cfX5.1 q2071 q2073 qs95 q131 q2074 hy_X5_snapNow (Nat.le_of_ble_eq_true rfl) (Nat.le_of_ble_eq_true rfl) ⟨Nat.zero_le _, Nat.zero_le _⟩ rfl (Nat.le_of_ble_eq_true rfl) dX5_act_40) (fun r4 w5 h => ?_)
    exact j_iret O hr dX5_act_43 h
  have h := h.2 e1
  rcases Classical.em (p1 = 2) with e2 | e2
  · have h := h.1 e2
    refine j_tableIn O (tgt := 44) dX5_act_1 ca (by omega) (by omega) (by rw [e2]; rfl) (by decide) ?_
    refine j_aload_n O 0 0 dX5_act_44 rfl rfl ?_
    refine j_iload_n O 2 2 dX5_act_45 rfl rfl ?_
    refine j_iload_n O 3 3 dX5_act_46 rfl rfl ?_
    obtain ⟨e9, h⟩ := h
    refine fin_I O ⟨Nat.zero_le _, Nat.zero_le _⟩ (run_V (As := [vI (p2), vI (p3)]) (st := []) O (mt_X5_wedNow (xl x) (xG x) _ _ _ _ _ h) e9 cfX5.1 q2079 q2081 qs96 q131 q2082 hy_X5_wedNow (Nat.le_of_ble_eq_true rfl) (Nat.le_of_ble_eq_true rfl) ⟨Nat.zero_le _, Nat.zero_le _⟩ rfl (Nat.le_of_ble_eq_true rfl) dX5_act_47) (fun r7 w8 h => ?_)
    exact j_iret O hr dX5_act_50 h
  have h := h.2 e2
  refine j_tableOut O (tgt := 51) dX5_act_1 ca (by omega) (by decide) ?_
  refine j_aload_n O 0 0 dX5_act_51 rfl rfl ?_
  obtain ⟨e12, h⟩ := h
  refine fin_I O ⟨Nat.zero_le _, Nat.zero_le _⟩ (run_V (As := []) (st := []) O (mt_X5_passNow (xl x) (xG x) _ _ _ h) e12 cfX5.1 q2087 q2089 qs97 q131 q2090 hy_X5_passNow (Nat.le_of_ble_eq_true rfl) (Nat.le_of_ble_eq_true rfl) ⟨Nat.zero_le _, Nat.zero_le _⟩ rfl (Nat.le_of_ble_eq_true rfl) dX5_act_52) (fun r10 w11 h => ?_)
  exact j_iret O hr dX5_act_55 h
theorem hy_X5_sumOf : (yX5_sumOf.cls = "DowryBoxesModel" ∧ yX5_sumOf.cls ≠ "java/lang/invoke/MethodHandle" ∧ yX5_sumOf.cls ≠ "java/lang/invoke/VarHandle" ∧ (parseMethodDescriptor yX5_sumOf.desc).map (fun d => d.parameters.length) = some 1) := by decide +kernel
theorem mt_X5_sumOf (l : Launch) (G : GW) (this : Nat) (p1 : Int) (w : Wd) (Q : Int → Wd → Prop) (h : wp_X5_sumOf this p1 w Q) : MI l G yX5_sumOf cX5_sumOf 2 (.int) 4 0 0 [.ref (adG G (this)), vI (p1)] w Q := by
  refine met_I (fun G => [.ref (adG G (this)), vI (p1)]) (by decide) (fun G => Nat.le_of_ble_eq_true rfl) (fun x O hl hm hr => ?_)
  subst hl
  have O : OK x "DowryBoxesModel" cX5_sumOf 4 := O
  have h : wp_X5_sumOf this p1 w Q := h
  unfold wp_X5_sumOf at h
  show J x (TI x Q) w 0 0 0 [(0, .ref (adG (xG x) (this))), (1, vI (p1))] []
  refine j_aload_n O 0 0 dX5_sumOf_0 rfl rfl ?_
  refine j_getI O cfX5 58 (Nat.le_of_ble_eq_true rfl) (.inr (.inl rfl)) q1626 dX5_sumOf_1 h (fun v1 h => ?_)
  obtain ⟨c2, h⟩ := h
  refine j_if_ne O (tgt := 24) dX5_sumOf_4 (by decide) c2 h (fun h => ?_) (fun h => ?_)
  · refine j_iconst O dX5_sumOf_24 ?_
    exact j_iret O hr dX5_sumOf_25 h
  · refine j_aload_n O 0 0 dX5_sumOf_7 rfl rfl ?_
    refine j_getA O cfX5 54 (Nat.le_of_ble_eq_true rfl) ⟨_, rfl⟩ q1622 dX5_sumOf_8 h (fun k3 h => ?_)
    refine j_iload_n O 1 1 dX5_sumOf_11 rfl rfl ?_
    refine j_iald O dX5_sumOf_12 h (fun v4 h => ?_)
    refine j_aload_n O 0 0 dX5_sumOf_13 rfl rfl ?_
    refine j_getA O cfX5 54 (Nat.le_of_ble_eq_true rfl) ⟨_, rfl⟩ q1622 dX5_sumOf_14 h (fun k5 h => ?_)
    refine j_iload_n O 1 1 dX5_sumOf_17 rfl rfl ?_
    refine j_iconst O dX5_sumOf_18 ?_
    refine j_iadd O dX5_sumOf_19 ?_
    refine j_iald O dX5_sumOf_20 h (fun v6 h => ?_)
    obtain ⟨c7, h⟩ := h
    obtain ⟨c8, h⟩ := h
    refine j_icmp_ne O (tgt := 26) dX5_sumOf_21 (by decide) c7 c8 h (fun h => ?_) (fun h => ?_)
    · refine j_aload_n O 0 0 dX5_sumOf_26 rfl rfl ?_
      refine j_iconst O dX5_sumOf_27 ?_
      refine j_putZ O cfX5 20 (Nat.le_of_ble_eq_true rfl) rfl q1588 rfl dX5_sumOf_28 h (fun w9 h => ?_)
      refine j_aload_n O 0 0 dX5_sumOf_31 rfl rfl ?_
      refine j_aload_n O 0 0 dX5_sumOf_32 rfl rfl ?_
      refine j_getA O cfX5 54 (Nat.le_of_ble_eq_true rfl) ⟨_, rfl⟩ q1622 dX5_sumOf_33 h (fun k10 h => ?_)
      refine j_iload_n O 1 1 dX5_sumOf_36 rfl rfl ?_
      refine j_iald O dX5_sumOf_37 h (fun v11 h => ?_)
      refine j_aload_n O 0 0 dX5_sumOf_38 rfl rfl ?_
      refine j_getA O cfX5 54 (Nat.le_of_ble_eq_true rfl) ⟨_, rfl⟩ q1622 dX5_sumOf_39 h (fun k12 h => ?_)
      refine j_iload_n O 1 1 dX5_sumOf_42 rfl rfl ?_
      refine j_iconst O dX5_sumOf_43 ?_
      refine j_iadd O dX5_sumOf_44 ?_
      refine j_iald O dX5_sumOf_45 h (fun v13 h => ?_)
      obtain ⟨e15, h⟩ := h
      refine fin_V O ⟨Nat.zero_le _, Nat.zero_le _⟩ (run_V (As := [vI (v11), vI (v13)]) (st := []) O (mt_X5_reckonAll (xl x) (xG x) _ _ _ _ _ h) e15 cfX5.1 q1825 q1827 qs58 q131 q1828 hy_X5_reckonAll (Nat.le_of_ble_eq_true rfl) (Nat.le_of_ble_eq_true rfl) ⟨Nat.zero_le _, Nat.zero_le _⟩ rfl (Nat.le_of_ble_eq_true rfl) dX5_sumOf_46) (fun w14 h => ?_)
      refine j_aload_n O 0 0 dX5_sumOf_49 rfl rfl ?_
      refine j_iconst O dX5_sumOf_50 ?_
      refine j_putZ O cfX5 20 (Nat.le_of_ble_eq_true rfl) rfl q1588 rfl dX5_sumOf_51 h (fun w16 h => ?_)
      refine j_aload_n O 0 0 dX5_sumOf_54 rfl rfl ?_
      refine j_aload_n O 0 0 dX5_sumOf_55 rfl rfl ?_
      refine j_getI O cfX5 38 (Nat.le_of_ble_eq_true rfl) (.inr (.inl rfl)) q1606 dX5_sumOf_56 h (fun v17 h => ?_)
      refine j_putZ O cfX5 58 (Nat.le_of_ble_eq_true rfl) rfl q1626 rfl dX5_sumOf_59 h (fun w18 h => ?_)
      refine j_aload_n O 0 0 dX5_sumOf_62 rfl rfl ?_
      refine j_getL O cfX5 39 (Nat.le_of_ble_eq_true rfl) rfl q1607 dX5_sumOf_63 h (fun v19 h => ?_)
      refine j_l2i O dX5_sumOf_66 ?_
      exact j_iret O hr dX5_sumOf_67 h
    · refine j_iconst O dX5_sumOf_24 ?_
      exact j_iret O hr dX5_sumOf_25 h
theorem hy_X5_run : (yX5_run.cls = "DowryBoxesModel" ∧ yX5_run.cls ≠ "java/lang/invoke/MethodHandle" ∧ yX5_run.cls ≠ "java/lang/invoke/VarHandle" ∧ (parseMethodDescriptor yX5_run.desc).map (fun d => d.parameters.length) = some 1) := by decide +kernel
theorem wk_X5_run_173 {x : Cx} (O : OK x "DowryBoxesModel" cX5_run 10) (hr : (xM x).sig.returnType = some .int) (hm : xn x = 6) {Q : Int → Wd → Prop} (this : Nat) (s0 : Int) (s1 : Nat) (w : Wd) (h : wp_X5_run_173 Q this s0 s1 w) : J x (TI x Q) w 0 0 173 [(0, .ref (adG (xG x) (this)))] [vI (s0), .ref (adG (xG x) (s1))] := by
  unfold wp_X5_run_173 at h
  refine j_putI O cfX5 56 (Nat.le_of_ble_eq_true rfl) rfl q1624 rfl dX5_run_173 h (fun w1 h => ?_)
  refine j_aload_n O 0 0 dX5_run_176 rfl rfl ?_
  refine j_dup O dX5_run_177 rfl ?_
  refine j_getI O cfX5 55 (Nat.le_of_ble_eq_true rfl) (.inl rfl) q1623 dX5_run_178 h (fun v2 h => ?_)
  refine j_iconst O dX5_run_181 ?_
  refine j_iadd O dX5_run_182 ?_
  refine j_putI O cfX5 55 (Nat.le_of_ble_eq_true rfl) rfl q1623 rfl dX5_run_183 h (fun w3 h => ?_)
  refine j_iconst O dX5_run_186 ?_
  exact j_iret O hr dX5_run_187 h
theorem wk_X5_run_94 {x : Cx} (O : OK x "DowryBoxesModel" cX5_run 10) (hr : (xM x).sig.returnType = some .int) (hm : xn x = 6) {Q : Int → Wd → Prop} (this : Nat) (x1 : Int) (w : Wd) (h : wp_X5_run_94 Q this x1 w) : J x (TI x Q) w 0 0 94 [(0, .ref (adG (xG x) (this))), (1, vI (x1))] [] := by
  unfold wp_X5_run_94 at h
  refine j_aload_n O 0 0 dX5_run_94 rfl rfl ?_
  refine j_iload_n O 1 1 dX5_run_95 rfl rfl ?_
  refine j_iconst O dX5_run_96 ?_
  refine j_iadd O dX5_run_97 ?_
  obtain ⟨e3, h⟩ := h
  refine fin_I O ⟨Nat.zero_le _, Nat.zero_le _⟩ (run_V (As := [vI ((x1 + 1))]) (st := []) O (mt_X5_sumOf (xl x) (xG x) _ _ _ _ h) e3 cfX5.1 q2234 q2236 qs116 q131 q2237 hy_X5_sumOf (Nat.le_of_ble_eq_true rfl) (Nat.le_of_ble_eq_true rfl) ⟨Nat.zero_le _, Nat.zero_le _⟩ rfl (Nat.le_of_ble_eq_true rfl) dX5_run_98) (fun r1 w2 h => ?_)
  refine j_istore_n (L' := [(2, vI (r1)), (0, .ref (adG (xG x) (this))), (1, vI (x1))]) O 2 dX5_run_101 rfl (by rw [hm]; decide) rfl ?_
  refine j_aload_n O 1 0 dX5_run_102 rfl rfl ?_
  refine j_iload_n O 2 1 dX5_run_103 rfl rfl ?_
  refine j_iconst O dX5_run_104 ?_
  refine j_iadd O dX5_run_105 ?_
  obtain ⟨e6, h⟩ := h
  refine fin_I O ⟨Nat.zero_le _, Nat.zero_le _⟩ (run_V (As := [vI ((x1 + 3))]) (st := []) O (mt_X5_sumOf (xl x) (xG x) _ _ _ _ h) e6 cfX5.1 q2234 q2236 qs116 q131 q2237 hy_X5_sumOf (Nat.le_of_ble_eq_true rfl) (Nat.le_of_ble_eq_true rfl) ⟨Nat.zero_le _, Nat.zero_le _⟩ rfl (Nat.le_of_ble_eq_true rfl) dX5_run_106) (fun r4 w5 h => ?_)
  refine j_istore_n (L' := [(3, vI (r4)), (2, vI (r1)), (0, .ref (adG (xG x) (this))), (1, vI (x1))]) O 3 dX5_run_109 rfl (by rw [hm]; decide) rfl ?_
  refine j_aload_n O 2 0 dX5_run_110 rfl rfl ?_
  refine j_iload_n O 3 1 dX5_run_111 rfl rfl ?_
  refine j_iconst O dX5_run_112 ?_
  refine j_iadd O dX5_run_113 ?_
  obtain ⟨e9, h⟩ := h
  refine fin_I O ⟨Nat.zero_le _, Nat.zero_le _⟩ (run_V (As := [vI ((x1 + 5))]) (st := []) O (mt_X5_sumOf (xl x) (xG x) _ _ _ _ h) e9 cfX5.1 q2234 q2236 qs116 q131 q2237 hy_X5_sumOf (Nat.le_of_ble_eq_true rfl) (Nat.le_of_ble_eq_true rfl) ⟨Nat.zero_le _, Nat.zero_le _⟩ rfl (Nat.le_of_ble_eq_true rfl) dX5_run_114) (fun r7 w8 h => ?_)
  refine j_istore (L' := [(4, vI (r7)), (3, vI (r4)), (2, vI (r1)), (0, .ref (adG (xG x) (this))), (1, vI (x1))]) O dX5_run_117 (by rw [hm]; decide) rfl ?_
  refine j_aload_n O 3 0 dX5_run_119 rfl rfl ?_
  refine j_getI O cfX5 58 (Nat.le_of_ble_eq_true rfl) (.inr (.inl rfl)) q1626 dX5_run_120 h (fun v10 h => ?_)
  obtain ⟨c11, h⟩ := h
  refine j_if_eq O (tgt := 129) dX5_run_123 (by decide) c11 h (fun h => ?_) (fun h => ?_)
  · refine j_aload_n O 3 0 dX5_run_129 rfl rfl ?_
    refine j_aload_n O 3 0 dX5_run_130 rfl rfl ?_
    refine j_getA O cfX5 54 (Nat.le_of_ble_eq_true rfl) ⟨_, rfl⟩ q1622 dX5_run_131 h (fun k12 h => ?_)
    refine j_iload_n O 4 1 dX5_run_134 rfl rfl ?_
    refine j_iald O dX5_run_135 h (fun v13 h => ?_)
    refine j_iload_n O 2 2 dX5_run_136 rfl rfl ?_
    refine j_iload_n O 1 3 dX5_run_137 rfl rfl ?_
    refine j_iload O 0 dX5_run_138 rfl ?_
    obtain ⟨e16, h⟩ := h
    refine fin_I O ⟨Nat.zero_le _, Nat.zero_le _⟩ (run_V (As := [vI (v13), vI (r1), vI (r4), vI (r7)]) (st := []) O (mt_X5_act (xl x) (xG x) _ _ _ _ _ _ _ h) e16 cfX5.1 q2238 q2240 qs117 q131 q2241 hy_X5_act (Nat.le_of_ble_eq_true rfl) (Nat.le_of_ble_eq_true rfl) ⟨Nat.zero_le _, Nat.zero_le _⟩ rfl (Nat.le_of_ble_eq_true rfl) dX5_run_140) (fun r14 w15 h => ?_)
    refine j_istore (L' := [(5, vI (r14)), (4, vI (r7)), (3, vI (r4)), (2, vI (r1)), (0, .ref (adG (xG x) (this))), (1, vI (x1))]) O dX5_run_143 (by rw [hm]; decide) rfl ?_
    refine j_iload O 0 dX5_run_145 rfl ?_
    obtain ⟨c17, h⟩ := h
    refine j_if_ge O (tgt := 153) dX5_run_147 (by decide) c17 h (fun h => ?_) (fun h => ?_)
    · refine j_aload_n O 4 0 dX5_run_153 rfl rfl ?_
      refine j_aload_n O 4 0 dX5_run_154 rfl rfl ?_
      refine j_getA O cfX5 54 (Nat.le_of_ble_eq_true rfl) ⟨_, rfl⟩ q1622 dX5_run_155 h (fun k18 h => ?_)
      refine j_iload_n O 5 1 dX5_run_158 rfl rfl ?_
      refine j_iald O dX5_run_159 h (fun v19 h => ?_)
      refine j_iconst O dX5_run_160 ?_
      obtain ⟨c20, h⟩ := h
      refine j_icmp_ne O (tgt := 169) dX5_run_161 (by decide) c20 (by decide) h (fun h => ?_) (fun h => ?_)
      · refine j_aload_n O 4 0 dX5_run_169 rfl rfl ?_
        refine j_getI O cfX5 56 (Nat.le_of_ble_eq_true rfl) (.inl rfl) q1624 dX5_run_170 h (fun v21 h => ?_)
        exact (J.sub [4] rfl <| wk_X5_run_173 O hr hm  _ _ _  _ h)
      · refine j_iload O 0 dX5_run_164 rfl ?_
        refine j_goto O (tgt := 173) dX5_run_166 (by decide) ?_
        exact (J.sub [4] rfl <| wk_X5_run_173 O hr hm  _ _ _  _ h)
    · refine j_bipush (m := (-3)) O dX5_run_150 bi_m3 ?_
      exact j_iret O hr dX5_run_152 h
  · refine j_bipush (m := (-3)) O dX5_run_126 bi_m3 ?_
    exact j_iret O hr dX5_run_128 h
theorem mt_X5_run (l : Launch) (G : GW) (this : Nat) (p1 : Int) (w : Wd) (Q : Int → Wd → Prop) (h : wp_X5_run this p1 w Q) : MI l G yX5_run cX5_run 6 (.int) 10 0 0 [.ref (adG G (this)), vI (p1)] w Q := by
  refine met_I (fun G => [.ref (adG G (this)), vI (p1)]) (by decide) (fun G => Nat.le_of_ble_eq_true rfl) (fun x O hl hm hr => ?_)
  subst hl
  have O : OK x "DowryBoxesModel" cX5_run 10 := O
  have h : wp_X5_run this p1 w Q := h
  unfold wp_X5_run at h
  show J x (TI x Q) w 0 0 0 [(0, .ref (adG (xG x) (this))), (1, vI (p1))] []
  refine j_aload_n O 0 0 dX5_run_0 rfl rfl ?_
  refine j_getA O cfX5 36 (Nat.le_of_ble_eq_true rfl) ⟨_, rfl⟩ q1604 dX5_run_1 h (fun k1 h => ?_)
  refine j_iconst O dX5_run_4 ?_
  refine j_aload_n O 0 0 dX5_run_5 rfl rfl ?_
  refine j_getA O cfX5 3 (Nat.le_of_ble_eq_true rfl) ⟨_, rfl⟩ q1571 dX5_run_6 h (fun k2 h => ?_)
  refine j_iconst O dX5_run_9 ?_
  refine j_iald O dX5_run_10 h (fun v3 h => ?_)
  refine j_i2l O dX5_run_11 h (fun h => ?_)
  refine j_last O dX5_run_12 h (fun w4 h => ?_)
  refine j_aload_n O 0 0 dX5_run_13 rfl rfl ?_
  refine j_getA O cfX5 36 (Nat.le_of_ble_eq_true rfl) ⟨_, rfl⟩ q1604 dX5_run_14 h (fun k5 h => ?_)
  refine j_iconst O dX5_run_17 ?_
  refine j_aload_n O 0 0 dX5_run_18 rfl rfl ?_
  refine j_getI O cfX5 55 (Nat.le_of_ble_eq_true rfl) (.inl rfl) q1623 dX5_run_19 h (fun v6 h => ?_)
  refine j_i2l O dX5_run_22 h (fun h => ?_)
  refine j_last O dX5_run_23 h (fun w7 h => ?_)
  refine j_aload_n O 0 0 dX5_run_24 rfl rfl ?_
  refine j_getA O cfX5 36 (Nat.le_of_ble_eq_true rfl) ⟨_, rfl⟩ q1604 dX5_run_25 h (fun k8 h => ?_)
  refine j_iconst O dX5_run_28 ?_
  refine j_aload_n O 0 0 dX5_run_29 rfl rfl ?_
  refine j_getI O cfX5 56 (Nat.le_of_ble_eq_true rfl) (.inl rfl) q1624 dX5_run_30 h (fun v9 h => ?_)
  refine j_i2l O dX5_run_33 h (fun h => ?_)
  refine j_last O dX5_run_34 h (fun w10 h => ?_)
  refine j_aload_n O 0 0 dX5_run_35 rfl rfl ?_
  refine j_getA O cfX5 36 (Nat.le_of_ble_eq_true rfl) ⟨_, rfl⟩ q1604 dX5_run_36 h (fun k11 h => ?_)
  refine j_iconst O dX5_run_39 ?_
  refine j_aload_n O 0 0 dX5_run_40 rfl rfl ?_
  obtain ⟨e14, h⟩ := h
  refine fin_I O ⟨Nat.zero_le _, Nat.zero_le _⟩ (run_V (As := []) (st := [vI (4), .ref (adG (xG x) (k11))]) O (mt_X5_couples (xl x) (xG x) _ _ _ h) e14 cfX5.1 q2230 q2232 qs115 q131 q2233 hy_X5_couples (Nat.le_of_ble_eq_true rfl) (Nat.le_of_ble_eq_true rfl) ⟨Nat.zero_le _, Nat.zero_le _⟩ rfl (Nat.le_of_ble_eq_true rfl) dX5_run_41) (fun r12 w13 h => ?_)
  refine j_i2l O dX5_run_44 h (fun h => ?_)
  refine j_last O dX5_run_45 h (fun w15 h => ?_)
  refine j_aload_n O 0 0 dX5_run_46 rfl rfl ?_
  refine j_iconst O dX5_run_47 ?_
  refine j_putZ O cfX5 58 (Nat.le_of_ble_eq_true rfl) rfl q1626 rfl dX5_run_48 h (fun w16 h => ?_)
  refine j_aload_n O 0 0 dX5_run_51 rfl rfl ?_
  refine j_getA O cfX5 54 (Nat.le_of_ble_eq_true rfl) ⟨_, rfl⟩ q1622 dX5_run_52 h (fun k17 h => ?_)
  refine j_iload_n O 1 1 dX5_run_55 rfl rfl ?_
  refine j_bipush (m := 7) O dX5_run_56 bi_7 ?_
  refine j_iadd O dX5_run_58 ?_
  refine j_iald O dX5_run_59 h (fun v18 h => ?_)
  refine j_aload_n O 0 0 dX5_run_60 rfl rfl ?_
  refine j_getA O cfX5 54 (Nat.le_of_ble_eq_true rfl) ⟨_, rfl⟩ q1622 dX5_run_61 h (fun k19 h => ?_)
  refine j_iload_n O 1 1 dX5_run_64 rfl rfl ?_
  refine j_bipush (m := 8) O dX5_run_65 bi_8 ?_
  refine j_iadd O dX5_run_67 ?_
  refine j_iald O dX5_run_68 h (fun v20 h => ?_)
  obtain ⟨c21, h⟩ := h
  obtain ⟨c22, h⟩ := h
  refine j_icmp_ge O (tgt := 94) dX5_run_69 (by decide) c21 c22 h (fun h => ?_) (fun h => ?_)
  · exact (J.sub [0, 1] rfl <| wk_X5_run_94 O hr hm  _ _  _ h)
  · refine j_aload_n O 0 0 dX5_run_72 rfl rfl ?_
    refine j_iload_n O 1 1 dX5_run_73 rfl rfl ?_
    refine j_bipush (m := 7) O dX5_run_74 bi_7 ?_
    refine j_iadd O dX5_run_76 ?_
    obtain ⟨e25, h⟩ := h
    refine fin_I O ⟨Nat.zero_le _, Nat.zero_le _⟩ (run_V (As := [vI ((p1 + 7))]) (st := []) O (mt_X5_sumOf (xl x) (xG x) _ _ _ _ h) e25 cfX5.1 q2234 q2236 qs116 q131 q2237 hy_X5_sumOf (Nat.le_of_ble_eq_true rfl) (Nat.le_of_ble_eq_true rfl) ⟨Nat.zero_le _, Nat.zero_le _⟩ rfl (Nat.le_of_ble_eq_true rfl) dX5_run_77) (fun r23 w24 h => ?_)
    refine j_istore_n (L' := [(2, vI (r23)), (0, .ref (adG (xG x) (this))), (1, vI (p1))]) O 2 dX5_run_80 rfl (by rw [hm]; decide) rfl ?_
    refine j_aload_n O 1 0 dX5_run_81 rfl rfl ?_
    refine j_getI O cfX5 58 (Nat.le_of_ble_eq_true rfl) (.inr (.inl rfl)) q1626 dX5_run_82 h (fun v26 h => ?_)
    obtain ⟨c27, h⟩ := h
    refine j_if_ne O (tgt := 92) dX5_run_85 (by decide) c27 h (fun h => ?_) (fun h => ?_)
    · refine j_iconst O dX5_run_92 ?_
      exact j_iret O hr dX5_run_93 h
    · refine j_iload_n O 0 2 dX5_run_88 rfl rfl ?_
      obtain ⟨c28, h⟩ := h
      refine j_if_ne O (tgt := 94) dX5_run_89 (by decide) c28 h (fun h => ?_) (fun h => ?_)
      · exact (J.sub [1, 2] rfl <| wk_X5_run_94 O hr hm  _ _  _ h)
      · refine j_iconst O dX5_run_92 ?_
        exact j_iret O hr dX5_run_93 h
theorem hy_X5_isWord : (yX5_isWord.cls = "DowryBoxesModel" ∧ yX5_isWord.cls ≠ "java/lang/invoke/MethodHandle" ∧ yX5_isWord.cls ≠ "java/lang/invoke/VarHandle" ∧ (parseMethodDescriptor yX5_isWord.desc).map (fun d => d.parameters.length) = some 1) := by decide +kernel
theorem mt_X5_isWord (l : Launch) (G : GW) (this : Nat) (p1 : Int) (w : Wd) (Q : Int → Wd → Prop) (h : wp_X5_isWord this p1 w Q) : MI l G yX5_isWord cX5_isWord 3 (.boolean) 1 0 0 [.ref (adG G (this)), vL (p1)] w Q := by
  refine met_I (fun G => [.ref (adG G (this)), vL (p1)]) (by decide) (fun G => Nat.le_of_ble_eq_true rfl) (fun x O hl hm hr => ?_)
  subst hl
  have O : OK x "DowryBoxesModel" cX5_isWord 1 := O
  have h : wp_X5_isWord this p1 w Q := h
  unfold wp_X5_isWord at h
  show J x (TI x Q) w 0 0 0 [(0, .ref (adG (xG x) (this))), (1, vL (p1))] []
  refine j_aload_n O 0 0 dX5_isWord_0 rfl rfl ?_
  refine j_getI O cfX5 16 (Nat.le_of_ble_eq_true rfl) (.inl rfl) q1584 dX5_isWord_1 h (fun v1 h => ?_)
  refine j_iconst O dX5_isWord_4 ?_
  obtain ⟨c2, h⟩ := h
  refine j_icmp_ne O (tgt := 21) dX5_isWord_5 (by decide) c2 (by decide) h (fun h => ?_) (fun h => ?_)
  · refine j_iconst O dX5_isWord_21 ?_
    exact j_zret O hr dX5_isWord_22 h
  · refine j_aload_n O 0 0 dX5_isWord_8 rfl rfl ?_
    refine j_getL O cfX5 17 (Nat.le_of_ble_eq_true rfl) rfl q1585 dX5_isWord_9 h (fun v3 h => ?_)
    refine j_lload_n O 1 1 dX5_isWord_12 rfl rfl ?_
    obtain ⟨c4, h⟩ := h
    obtain ⟨c5, h⟩ := h
    refine j_lcif_ne O (tgt := 21) dX5_isWord_13 rfl dX5_isWord_14 (by decide) c4 c5 h (fun h => ?_) (fun h => ?_)
    · refine j_iconst O dX5_isWord_21 ?_
      exact j_zret O hr dX5_isWord_22 h
    · refine j_iconst O dX5_isWord_17 ?_
      refine j_goto O (tgt := 22) dX5_isWord_18 (by decide) ?_
      exact j_zret O hr dX5_isWord_22 h
theorem hy_X5_isSmall : (yX5_isSmall.cls = "DowryBoxesModel" ∧ yX5_isSmall.cls ≠ "java/lang/invoke/MethodHandle" ∧ yX5_isSmall.cls ≠ "java/lang/invoke/VarHandle" ∧ (parseMethodDescriptor yX5_isSmall.desc).map (fun d => d.parameters.length) = some 1) := by decide +kernel
theorem mt_X5_isSmall (l : Launch) (G : GW) (p1 : Int) (w : Wd) (Q : Int → Wd → Prop) (h : wp_X5_isSmall p1 w Q) : MI l G yX5_isSmall cX5_isSmall 1 (.boolean) 1 0 0 [vI (p1)] w Q := by
  refine met_I (fun G => [vI (p1)]) (by decide) (fun G => Nat.le_of_ble_eq_true rfl) (fun x O hl hm hr => ?_)
  subst hl
  have O : OK x "DowryBoxesModel" cX5_isSmall 1 := O
  have h : wp_X5_isSmall p1 w Q := h
  unfold wp_X5_isSmall at h
  show J x (TI x Q) w 0 0 0 [(0, vI (p1))] []
  refine j_iload_n O 0 0 dX5_isSmall_0 rfl rfl ?_
  refine j_bipush (m := 97) O dX5_isSmall_1 bi_97 ?_
  obtain ⟨c1, h⟩ := h
  refine j_icmp_lt O (tgt := 16) dX5_isSmall_3 (by decide) c1 (by decide) h (fun h => ?_) (fun h => ?_)
  · refine j_iconst O dX5_isSmall_16 ?_
    exact j_zret O hr dX5_isSmall_17 h
  · refine j_iload_n O 0 0 dX5_isSmall_6 rfl rfl ?_
    refine j_bipush (m := 122) O dX5_isSmall_7 bi_122 ?_
    obtain ⟨c2, h⟩ := h
    refine j_icmp_gt O (tgt := 16) dX5_isSmall_9 (by decide) c2 (by decide) h (fun h => ?_) (fun h => ?_)
    · refine j_iconst O dX5_isSmall_16 ?_
      exact j_zret O hr dX5_isSmall_17 h
    · refine j_iconst O dX5_isSmall_12 ?_
      refine j_goto O (tgt := 17) dX5_isSmall_13 (by decide) ?_
      exact j_zret O hr dX5_isSmall_17 h
theorem hy_X5_isDigit : (yX5_isDigit.cls = "DowryBoxesModel" ∧ yX5_isDigit.cls ≠ "java/lang/invoke/MethodHandle" ∧ yX5_isDigit.cls ≠ "java/lang/invoke/VarHandle" ∧ (parseMethodDescriptor yX5_isDigit.desc).map (fun d => d.parameters.length) = some 1) := by decide +kernel
theorem mt_X5_isDigit (l : Launch) (G : GW) (p1 : Int) (w : Wd) (Q : Int → Wd → Prop) (h : wp_X5_isDigit p1 w Q) : MI l G yX5_isDigit cX5_isDigit 1 (.boolean) 1 0 0 [vI (p1)] w Q := by
  refine met_I (fun G => [vI (p1)]) (by decide) (fun G => Nat.le_of_ble_eq_true rfl) (fun x O hl hm hr => ?_)
  subst hl
  have O : OK x "DowryBoxesModel" cX5_isDigit 1 := O
  have h : wp_X5_isDigit p1 w Q := h
  unfold wp_X5_isDigit at h
  show J x (TI x Q) w 0 0 0 [(0, vI (p1))] []
  refine j_iload_n O 0 0 dX5_isDigit_0 rfl rfl ?_
  refine j_bipush (m := 48) O dX5_isDigit_1 bi_48 ?_
  obtain ⟨c1, h⟩ := h
  refine j_icmp_lt O (tgt := 16) dX5_isDigit_3 (by decide) c1 (by decide) h (fun h => ?_) (fun h => ?_)
  · refine j_iconst O dX5_isDigit_16 ?_
    exact j_zret O hr dX5_isDigit_17 h
  · refine j_iload_n O 0 0 dX5_isDigit_6 rfl rfl ?_
    refine j_bipush (m := 57) O dX5_isDigit_7 bi_57 ?_
    obtain ⟨c2, h⟩ := h
    refine j_icmp_gt O (tgt := 16) dX5_isDigit_9 (by decide) c2 (by decide) h (fun h => ?_) (fun h => ?_)
    · refine j_iconst O dX5_isDigit_16 ?_
      exact j_zret O hr dX5_isDigit_17 h
    · refine j_iconst O dX5_isDigit_12 ?_
      refine j_goto O (tgt := 17) dX5_isDigit_13 (by decide) ?_
      exact j_zret O hr dX5_isDigit_17 h
theorem hy_X5_next : (yX5_next.cls = "DowryBoxesModel" ∧ yX5_next.cls ≠ "java/lang/invoke/MethodHandle" ∧ yX5_next.cls ≠ "java/lang/invoke/VarHandle" ∧ (parseMethodDescriptor yX5_next.desc).map (fun d => d.parameters.length) = some 0) := by decide +kernel
theorem wk_X5_next_8 {x : Cx} (O : OK x "DowryBoxesModel" cX5_next 2) (hr : (xM x).sig.returnType = none) (hm : xn x = 1) {Q : Wd → Prop} (X8 : Wd → Prop) (this : Nat) (hX8 : ∀  (w : Wd), X8  w → J x (TV x Q) w 0 0 46 [(0, .ref (adG (xG x) (this)))] []) : ∀ (n : Nat) (w : Wd), wp_X5_next_8 Q X8 this n w → J x (TV x Q) w 0 0 8 [(0, .ref (adG (xG x) (this)))] [] := by
  intro n
  induction n with
  | zero => intro w h; exact False.elim h
  | succ n ih =>
    intro w h
    rw [wp_X5_next_8] at h
    refine j_aload_n O 0 0 dX5_next_8 rfl rfl ?_
    refine j_getI O cfX5 14 (Nat.le_of_ble_eq_true rfl) (.inl rfl) q1582 dX5_next_9 h (fun v1 h => ?_)
    refine j_aload_n O 0 0 dX5_next_12 rfl rfl ?_
    refine j_getI O cfX5 13 (Nat.le_of_ble_eq_true rfl) (.inl rfl) q1581 dX5_next_13 h (fun v2 h => ?_)
    obtain ⟨c3, h⟩ := h
    obtain ⟨c4, h⟩ := h
    refine j_icmp_ge O (tgt := 46) dX5_next_16 (by decide) c3 c4 h (fun h => ?_) (fun h => ?_)
    · exact (J.sub [0] rfl <| hX8  _ h)
    · refine j_aload_n O 0 0 dX5_next_19 rfl rfl ?_
      refine j_getA O cfX5 12 (Nat.le_of_ble_eq_true rfl) ⟨_, rfl⟩ q1580 dX5_next_20 h (fun k5 h => ?_)
      refine j_aload_n O 0 0 dX5_next_23 rfl rfl ?_
      refine j_getI O cfX5 14 (Nat.le_of_ble_eq_true rfl) (.inl rfl) q1582 dX5_next_24 h (fun v6 h => ?_)
      refine j_iald O dX5_next_27 h (fun v7 h => ?_)
      refine j_bipush (m := 32) O dX5_next_28 bi_32 ?_
      obtain ⟨c8, h⟩ := h
      refine j_icmp_ne O (tgt := 46) dX5_next_30 (by decide) c8 (by decide) h (fun h => ?_) (fun h => ?_)
      · exact (J.sub [0] rfl <| hX8  _ h)
      · refine j_aload_n O 0 0 dX5_next_33 rfl rfl ?_
        refine j_dup O dX5_next_34 rfl ?_
        refine j_getI O cfX5 14 (Nat.le_of_ble_eq_true rfl) (.inl rfl) q1582 dX5_next_35 h (fun v9 h => ?_)
        refine j_iconst O dX5_next_38 ?_
        refine j_iadd O dX5_next_39 ?_
        refine j_putI O cfX5 14 (Nat.le_of_ble_eq_true rfl) rfl q1582 rfl dX5_next_40 h (fun w10 h => ?_)
        refine j_goto O (tgt := 8) dX5_next_43 (by decide) ?_
        exact (J.sub [0] rfl <| ih  _ h)
theorem wk_X5_next_227 {x : Cx} (O : OK x "DowryBoxesModel" cX5_next 2) (hr : (xM x).sig.returnType = none) (hm : xn x = 1) {Q : Wd → Prop} (K149 : Wd → Prop) (X149 : Wd → Prop) (this : Nat) (s0 : Int) (s1 : Nat) (hK149 : ∀  (w : Wd), K149  w → J x (TV x Q) w 0 0 149 [(0, .ref (adG (xG x) (this)))] []) (hX149 : ∀  (w : Wd), X149  w → J x (TV x Q) w 0 0 243 [(0, .ref (adG (xG x) (this)))] []) (w : Wd) (h : wp_X5_next_227 Q K149 X149 this s0 s1 w) : J x (TV x Q) w 0 0 227 [(0, .ref (adG (xG x) (this)))] [vL (s0), .ref (adG (xG x) (s1))] := by
  unfold wp_X5_next_227 at h
  refine j_putL O cfX5 17 (Nat.le_of_ble_eq_true rfl) rfl q1585 rfl dX5_next_227 h (fun w1 h => ?_)
  refine j_aload_n O 0 0 dX5_next_230 rfl rfl ?_
  refine j_dup O dX5_next_231 rfl ?_
  refine j_getI O cfX5 15 (Nat.le_of_ble_eq_true rfl) (.inl rfl) q1583 dX5_next_232 h (fun v2 h => ?_)
  refine j_iconst O dX5_next_235 ?_
  refine j_iadd O dX5_next_236 ?_
  refine j_putI O cfX5 15 (Nat.le_of_ble_eq_true rfl) rfl q1583 rfl dX5_next_237 h (fun w3 h => ?_)
  refine j_goto O (tgt := 149) dX5_next_240 (by decide) ?_
  exact (J.sub [0] rfl <| hK149  _ h)
theorem wk_X5_next_149 {x : Cx} (O : OK x "DowryBoxesModel" cX5_next 2) (hr : (xM x).sig.returnType = none) (hm : xn x = 1) {Q : Wd → Prop} (X149 : Wd → Prop) (this : Nat) (hX149 : ∀  (w : Wd), X149  w → J x (TV x Q) w 0 0 243 [(0, .ref (adG (xG x) (this)))] []) : ∀ (n : Nat) (w : Wd), wp_X5_next_149 Q X149 this n w → J x (TV x Q) w 0 0 149 [(0, .ref (adG (xG x) (this)))] [] := by
  intro n
  induction n with
  | zero => intro w h; exact False.elim h
  | succ n ih =>
    intro w h
    rw [wp_X5_next_149] at h
    refine j_aload_n O 0 0 dX5_next_149 rfl rfl ?_
    refine j_getI O cfX5 16 (Nat.le_of_ble_eq_true rfl) (.inl rfl) q1584 dX5_next_150 h (fun v1 h => ?_)
    refine j_iconst O dX5_next_153 ?_
    obtain ⟨c2, h⟩ := h
    refine j_icmp_ne O (tgt := 243) dX5_next_154 (by decide) c2 (by decide) h (fun h => ?_) (fun h => ?_)
    · exact (J.sub [0] rfl <| hX149  _ h)
    · refine j_aload_n O 0 0 dX5_next_157 rfl rfl ?_
      refine j_getI O cfX5 15 (Nat.le_of_ble_eq_true rfl) (.inl rfl) q1583 dX5_next_158 h (fun v3 h => ?_)
      refine j_aload_n O 0 0 dX5_next_161 rfl rfl ?_
      refine j_getI O cfX5 13 (Nat.le_of_ble_eq_true rfl) (.inl rfl) q1581 dX5_next_162 h (fun v4 h => ?_)
      obtain ⟨c5, h⟩ := h
      obtain ⟨c6, h⟩ := h
      refine j_icmp_ge O (tgt := 243) dX5_next_165 (by decide) c5 c6 h (fun h => ?_) (fun h => ?_)
      · exact (J.sub [0] rfl <| hX149  _ h)
      · refine j_aload_n O 0 0 dX5_next_168 rfl rfl ?_
        refine j_getA O cfX5 12 (Nat.le_of_ble_eq_true rfl) ⟨_, rfl⟩ q1580 dX5_next_169 h (fun k7 h => ?_)
        refine j_aload_n O 0 0 dX5_next_172 rfl rfl ?_
        refine j_getI O cfX5 15 (Nat.le_of_ble_eq_true rfl) (.inl rfl) q1583 dX5_next_173 h (fun v8 h => ?_)
        refine j_iald O dX5_next_176 h (fun v9 h => ?_)
        refine fin_I O ⟨Nat.zero_le _, Nat.zero_le _⟩ (run_S (As := [vI (v9)]) (st := []) O (mt_X5_isSmall (xl x) (xG x) _ _ _ h) q1934 q1935 q131 q1936 hy_X5_isSmall.2 (Nat.le_of_ble_eq_true rfl) (Nat.le_of_ble_eq_true rfl) ⟨Nat.zero_le _, Nat.zero_le _⟩ rfl (Nat.le_of_ble_eq_true rfl) dX5_next_177) (fun r10 w11 h => ?_)
        obtain ⟨c12, h⟩ := h
        refine j_if_eq O (tgt := 243) dX5_next_180 (by decide) c12 h (fun h => ?_) (fun h => ?_)
        · exact (J.sub [0] rfl <| hX149  _ h)
        · refine j_aload_n O 0 0 dX5_next_183 rfl rfl ?_
          refine j_aload_n O 0 0 dX5_next_184 rfl rfl ?_
          refine j_getI O cfX5 15 (Nat.le_of_ble_eq_true rfl) (.inl rfl) q1583 dX5_next_185 h (fun v13 h => ?_)
          refine j_aload_n O 0 0 dX5_next_188 rfl rfl ?_
          refine j_getI O cfX5 14 (Nat.le_of_ble_eq_true rfl) (.inl rfl) q1582 dX5_next_189 h (fun v14 h => ?_)
          refine j_isub O dX5_next_192 ?_
          refine j_bipush (m := 10) O dX5_next_193 bi_10 ?_
          obtain ⟨c15, h⟩ := h
          refine j_icmp_ge O (tgt := 224) dX5_next_195 (by decide) c15 (by decide) h (fun h => ?_) (fun h => ?_)
          · refine j_ldc2 (m := (-1)) O dX5_next_224 q1816 l2_m1 ?_
            exact (J.sub [0] rfl <| wk_X5_next_227 O hr hm _ _ _ _ _ ih hX149 _ h)
          · refine j_aload_n O 0 0 dX5_next_198 rfl rfl ?_
            refine j_getL O cfX5 17 (Nat.le_of_ble_eq_true rfl) rfl q1585 dX5_next_199 h (fun v16 h => ?_)
            refine j_ldc2 (m := 32) O dX5_next_202 q1940 l2_32 ?_
            refine j_lmul O dX5_next_205 ?_
            refine j_aload_n O 0 0 dX5_next_206 rfl rfl ?_
            refine j_getA O cfX5 12 (Nat.le_of_ble_eq_true rfl) ⟨_, rfl⟩ q1580 dX5_next_207 h (fun k17 h => ?_)
            refine j_aload_n O 0 0 dX5_next_210 rfl rfl ?_
            refine j_getI O cfX5 15 (Nat.le_of_ble_eq_true rfl) (.inl rfl) q1583 dX5_next_211 h (fun v18 h => ?_)
            refine j_iald O dX5_next_214 h (fun v19 h => ?_)
            refine j_i2l O dX5_next_215 h (fun h => ?_)
            refine j_ladd O dX5_next_216 ?_
            refine j_ldc2 (m := 96) O dX5_next_217 q1941 l2_96 ?_
            refine j_lsub O dX5_next_220 ?_
            refine j_goto O (tgt := 227) dX5_next_221 (by decide) ?_
            exact (J.sub [0] rfl <| wk_X5_next_227 O hr hm _ _ _ _ _ ih hX149 _ h)
theorem wk_X5_next_319 {x : Cx} (O : OK x "DowryBoxesModel" cX5_next 2) (hr : (xM x).sig.returnType = none) (hm : xn x = 1) {Q : Wd → Prop} (K243 : Wd → Prop) (this : Nat) (s0 : Int) (s1 : Nat) (hK243 : ∀  (w : Wd), K243  w → J x (TV x Q) w 0 0 243 [(0, .ref (adG (xG x) (this)))] []) (w : Wd) (h : wp_X5_next_319 Q K243 this s0 s1 w) : J x (TV x Q) w 0 0 319 [(0, .ref (adG (xG x) (this)))] [vL (s0), .ref (adG (xG x) (s1))] := by
  unfold wp_X5_next_319 at h
  refine j_putL O cfX5 17 (Nat.le_of_ble_eq_true rfl) rfl q1585 rfl dX5_next_319 h (fun w1 h => ?_)
  refine j_aload_n O 0 0 dX5_next_322 rfl rfl ?_
  refine j_dup O dX5_next_323 rfl ?_
  refine j_getI O cfX5 15 (Nat.le_of_ble_eq_true rfl) (.inl rfl) q1583 dX5_next_324 h (fun v2 h => ?_)
  refine j_iconst O dX5_next_327 ?_
  refine j_iadd O dX5_next_328 ?_
  refine j_putI O cfX5 15 (Nat.le_of_ble_eq_true rfl) rfl q1583 rfl dX5_next_329 h (fun w3 h => ?_)
  refine j_goto O (tgt := 243) dX5_next_332 (by decide) ?_
  exact (J.sub [0] rfl <| hK243  _ h)
theorem wk_X5_next_243 {x : Cx} (O : OK x "DowryBoxesModel" cX5_next 2) (hr : (xM x).sig.returnType = none) (hm : xn x = 1) {Q : Wd → Prop} (this : Nat) : ∀ (n : Nat) (w : Wd), wp_X5_next_243 Q this n w → J x (TV x Q) w 0 0 243 [(0, .ref (adG (xG x) (this)))] [] := by
  intro n
  induction n with
  | zero => intro w h; exact False.elim h
  | succ n ih =>
    intro w h
    rw [wp_X5_next_243] at h
    refine j_aload_n O 0 0 dX5_next_243 rfl rfl ?_
    refine j_getI O cfX5 16 (Nat.le_of_ble_eq_true rfl) (.inl rfl) q1584 dX5_next_244 h (fun v1 h => ?_)
    refine j_iconst O dX5_next_247 ?_
    obtain ⟨c2, h⟩ := h
    refine j_icmp_ne O (tgt := 335) dX5_next_248 (by decide) c2 (by decide) h (fun h => ?_) (fun h => ?_)
    · exact j_vret O hr dX5_next_335 h
    · refine j_aload_n O 0 0 dX5_next_251 rfl rfl ?_
      refine j_getI O cfX5 15 (Nat.le_of_ble_eq_true rfl) (.inl rfl) q1583 dX5_next_252 h (fun v3 h => ?_)
      refine j_aload_n O 0 0 dX5_next_255 rfl rfl ?_
      refine j_getI O cfX5 13 (Nat.le_of_ble_eq_true rfl) (.inl rfl) q1581 dX5_next_256 h (fun v4 h => ?_)
      obtain ⟨c5, h⟩ := h
      obtain ⟨c6, h⟩ := h
      refine j_icmp_ge O (tgt := 335) dX5_next_259 (by decide) c5 c6 h (fun h => ?_) (fun h => ?_)
      · exact j_vret O hr dX5_next_335 h
      · refine j_aload_n O 0 0 dX5_next_262 rfl rfl ?_
        refine j_getA O cfX5 12 (Nat.le_of_ble_eq_true rfl) ⟨_, rfl⟩ q1580 dX5_next_263 h (fun k7 h => ?_)
        refine j_aload_n O 0 0 dX5_next_266 rfl rfl ?_
        refine j_getI O cfX5 15 (Nat.le_of_ble_eq_true rfl) (.inl rfl) q1583 dX5_next_267 h (fun v8 h => ?_)
        refine j_iald O dX5_next_270 h (fun v9 h => ?_)
        refine fin_I O ⟨Nat.zero_le _, Nat.zero_le _⟩ (run_S (As := [vI (v9)]) (st := []) O (mt_X5_isDigit (xl x) (xG x) _ _ _ h) q1937 q1938 q131 q1939 hy_X5_isDigit.2 (Nat.le_of_ble_eq_true rfl) (Nat.le_of_ble_eq_true rfl) ⟨Nat.zero_le _, Nat.zero_le _⟩ rfl (Nat.le_of_ble_eq_true rfl) dX5_next_271) (fun r10 w11 h => ?_)
        obtain ⟨c12, h⟩ := h
        refine j_if_eq O (tgt := 335) dX5_next_274 (by decide) c12 h (fun h => ?_) (fun h => ?_)
        · exact j_vret O hr dX5_next_335 h
        · refine j_aload_n O 0 0 dX5_next_277 rfl rfl ?_
          refine j_aload_n O 0 0 dX5_next_278 rfl rfl ?_
          refine j_getL O cfX5 17 (Nat.le_of_ble_eq_true rfl) rfl q1585 dX5_next_279 h (fun v13 h => ?_)
          refine j_ldc2 (m := 1000000) O dX5_next_282 q1942 l2_1000000 ?_
          obtain ⟨c14, h⟩ := h
          refine j_lcif_le O (tgt := 296) dX5_next_285 rfl dX5_next_286 (by decide) c14 (by decide) h (fun h => ?_) (fun h => ?_)
          · refine j_aload_n O 0 0 dX5_next_296 rfl rfl ?_
            refine j_getL O cfX5 17 (Nat.le_of_ble_eq_true rfl) rfl q1585 dX5_next_297 h (fun v15 h => ?_)
            refine j_ldc2 (m := 10) O dX5_next_300 q1892 l2_10 ?_
            refine j_lmul O dX5_next_303 ?_
            refine j_aload_n O 0 0 dX5_next_304 rfl rfl ?_
            refine j_getA O cfX5 12 (Nat.le_of_ble_eq_true rfl) ⟨_, rfl⟩ q1580 dX5_next_305 h (fun k16 h => ?_)
            refine j_aload_n O 0 0 dX5_next_308 rfl rfl ?_
            refine j_getI O cfX5 15 (Nat.le_of_ble_eq_true rfl) (.inl rfl) q1583 dX5_next_309 h (fun v17 h => ?_)
            refine j_iald O dX5_next_312 h (fun v18 h => ?_)
            refine j_i2l O dX5_next_313 h (fun h => ?_)
            refine j_ladd O dX5_next_314 ?_
            refine j_ldc2 (m := 48) O dX5_next_315 q1943 l2_48 ?_
            refine j_lsub O dX5_next_318 ?_
            exact (J.sub [0] rfl <| wk_X5_next_319 O hr hm _ _ _ _ ih _ h)
          · refine j_aload_n O 0 0 dX5_next_289 rfl rfl ?_
            refine j_getL O cfX5 17 (Nat.le_of_ble_eq_true rfl) rfl q1585 dX5_next_290 h (fun v19 h => ?_)
            refine j_goto O (tgt := 319) dX5_next_293 (by decide) ?_
            exact (J.sub [0] rfl <| wk_X5_next_319 O hr hm _ _ _ _ ih _ h)
theorem wk_X5_next_114 {x : Cx} (O : OK x "DowryBoxesModel" cX5_next 2) (hr : (xM x).sig.returnType = none) (hm : xn x = 1) {Q : Wd → Prop} (this : Nat) (s0 : Int) (s1 : Nat) (w : Wd) (h : wp_X5_next_114 Q this s0 s1 w) : J x (TV x Q) w 0 0 114 [(0, .ref (adG (xG x) (this)))] [vI (s0), .ref (adG (xG x) (s1))] := by
  unfold wp_X5_next_114 at h
  refine j_putI O cfX5 16 (Nat.le_of_ble_eq_true rfl) rfl q1584 rfl dX5_next_114 h (fun w1 h => ?_)
  refine j_aload_n O 0 0 dX5_next_117 rfl rfl ?_
  refine j_getI O cfX5 16 (Nat.le_of_ble_eq_true rfl) (.inl rfl) q1584 dX5_next_118 h (fun v2 h => ?_)
  refine j_iconst O dX5_next_121 ?_
  obtain ⟨c3, h⟩ := h
  refine j_icmp_ne O (tgt := 149) dX5_next_122 (by decide) c3 (by decide) h (fun h => ?_) (fun h => ?_)
  · refine (J.sub [0] rfl <| wk_X5_next_149 O hr hm _ _ (fun w4 h => ?_) FU  _ h)
    exact (J.sub [0] rfl <| wk_X5_next_243 O hr hm  _  FU  _ h)
  · refine j_aload_n O 0 0 dX5_next_125 rfl rfl ?_
    refine j_aload_n O 0 0 dX5_next_126 rfl rfl ?_
    refine j_getA O cfX5 12 (Nat.le_of_ble_eq_true rfl) ⟨_, rfl⟩ q1580 dX5_next_127 h (fun k5 h => ?_)
    refine j_aload_n O 0 0 dX5_next_130 rfl rfl ?_
    refine j_getI O cfX5 14 (Nat.le_of_ble_eq_true rfl) (.inl rfl) q1582 dX5_next_131 h (fun v6 h => ?_)
    refine j_iald O dX5_next_134 h (fun v7 h => ?_)
    refine j_i2l O dX5_next_135 h (fun h => ?_)
    refine j_putL O cfX5 17 (Nat.le_of_ble_eq_true rfl) rfl q1585 rfl dX5_next_136 h (fun w8 h => ?_)
    refine j_aload_n O 0 0 dX5_next_139 rfl rfl ?_
    refine j_dup O dX5_next_140 rfl ?_
    refine j_getI O cfX5 15 (Nat.le_of_ble_eq_true rfl) (.inl rfl) q1583 dX5_next_141 h (fun v9 h => ?_)
    refine j_iconst O dX5_next_144 ?_
    refine j_iadd O dX5_next_145 ?_
    refine j_putI O cfX5 15 (Nat.le_of_ble_eq_true rfl) rfl q1583 rfl dX5_next_146 h (fun w10 h => ?_)
    refine (J.sub [0] rfl <| wk_X5_next_149 O hr hm _ _ (fun w11 h => ?_) FU  _ h)
    exact (J.sub [0] rfl <| wk_X5_next_243 O hr hm  _  FU  _ h)
theorem wk_X5_next_46 {x : Cx} (O : OK x "DowryBoxesModel" cX5_next 2) (hr : (xM x).sig.returnType = none) (hm : xn x = 1) {Q : Wd → Prop} (this : Nat) (w : Wd) (h : wp_X5_next_46 Q this w) : J x (TV x Q) w 0 0 46 [(0, .ref (adG (xG x) (this)))] [] := by
  unfold wp_X5_next_46 at h
  refine j_aload_n O 0 0 dX5_next_46 rfl rfl ?_
  refine j_aload_n O 0 0 dX5_next_47 rfl rfl ?_
  refine j_getI O cfX5 14 (Nat.le_of_ble_eq_true rfl) (.inl rfl) q1582 dX5_next_48 h (fun v1 h => ?_)
  refine j_putI O cfX5 15 (Nat.le_of_ble_eq_true rfl) rfl q1583 rfl dX5_next_51 h (fun w2 h => ?_)
  refine j_aload_n O 0 0 dX5_next_54 rfl rfl ?_
  refine j_lconst (m := 0) O dX5_next_55 lc_0 ?_
  refine j_putL O cfX5 17 (Nat.le_of_ble_eq_true rfl) rfl q1585 rfl dX5_next_56 h (fun w3 h => ?_)
  refine j_aload_n O 0 0 dX5_next_59 rfl rfl ?_
  refine j_aload_n O 0 0 dX5_next_60 rfl rfl ?_
  refine j_getI O cfX5 14 (Nat.le_of_ble_eq_true rfl) (.inl rfl) q1582 dX5_next_61 h (fun v4 h => ?_)
  refine j_aload_n O 0 0 dX5_next_64 rfl rfl ?_
  refine j_getI O cfX5 13 (Nat.le_of_ble_eq_true rfl) (.inl rfl) q1581 dX5_next_65 h (fun v5 h => ?_)
  obtain ⟨c6, h⟩ := h
  obtain ⟨c7, h⟩ := h
  refine j_icmp_ne O (tgt := 75) dX5_next_68 (by decide) c6 c7 h (fun h => ?_) (fun h => ?_)
  · refine j_aload_n O 0 0 dX5_next_75 rfl rfl ?_
    refine j_getA O cfX5 12 (Nat.le_of_ble_eq_true rfl) ⟨_, rfl⟩ q1580 dX5_next_76 h (fun k8 h => ?_)
    refine j_aload_n O 0 0 dX5_next_79 rfl rfl ?_
    refine j_getI O cfX5 14 (Nat.le_of_ble_eq_true rfl) (.inl rfl) q1582 dX5_next_80 h (fun v9 h => ?_)
    refine j_iald O dX5_next_83 h (fun v10 h => ?_)
    refine fin_I O ⟨Nat.zero_le _, Nat.zero_le _⟩ (run_S (As := [vI (v10)]) (st := [.ref (adG (xG x) (this))]) O (mt_X5_isSmall (xl x) (xG x) _ _ _ h) q1934 q1935 q131 q1936 hy_X5_isSmall.2 (Nat.le_of_ble_eq_true rfl) (Nat.le_of_ble_eq_true rfl) ⟨Nat.zero_le _, Nat.zero_le _⟩ rfl (Nat.le_of_ble_eq_true rfl) dX5_next_84) (fun r11 w12 h => ?_)
    obtain ⟨c13, h⟩ := h
    refine j_if_eq O (tgt := 94) dX5_next_87 (by decide) c13 h (fun h => ?_) (fun h => ?_)
    · refine j_aload_n O 0 0 dX5_next_94 rfl rfl ?_
      refine j_getA O cfX5 12 (Nat.le_of_ble_eq_true rfl) ⟨_, rfl⟩ q1580 dX5_next_95 h (fun k14 h => ?_)
      refine j_aload_n O 0 0 dX5_next_98 rfl rfl ?_
      refine j_getI O cfX5 14 (Nat.le_of_ble_eq_true rfl) (.inl rfl) q1582 dX5_next_99 h (fun v15 h => ?_)
      refine j_iald O dX5_next_102 h (fun v16 h => ?_)
      refine fin_I O ⟨Nat.zero_le _, Nat.zero_le _⟩ (run_S (As := [vI (v16)]) (st := [.ref (adG (xG x) (this))]) O (mt_X5_isDigit (xl x) (xG x) _ _ _ h) q1937 q1938 q131 q1939 hy_X5_isDigit.2 (Nat.le_of_ble_eq_true rfl) (Nat.le_of_ble_eq_true rfl) ⟨Nat.zero_le _, Nat.zero_le _⟩ rfl (Nat.le_of_ble_eq_true rfl) dX5_next_103) (fun r17 w18 h => ?_)
      obtain ⟨c19, h⟩ := h
      refine j_if_eq O (tgt := 113) dX5_next_106 (by decide) c19 h (fun h => ?_) (fun h => ?_)
      · refine j_iconst O dX5_next_113 ?_
        exact (J.sub [0] rfl <| wk_X5_next_114 O hr hm  _ _ _  _ h)
      · refine j_iconst O dX5_next_109 ?_
        refine j_goto O (tgt := 114) dX5_next_110 (by decide) ?_
        exact (J.sub [0] rfl <| wk_X5_next_114 O hr hm  _ _ _  _ h)
    · refine j_iconst O dX5_next_90 ?_
      refine j_goto O (tgt := 114) dX5_next_91 (by decide) ?_
      exact (J.sub [0] rfl <| wk_X5_next_114 O hr hm  _ _ _  _ h)
  · refine j_iconst O dX5_next_71 ?_
    refine j_goto O (tgt := 114) dX5_next_72 (by decide) ?_
    exact (J.sub [0] rfl <| wk_X5_next_114 O hr hm  _ _ _  _ h)
theorem mt_X5_next (l : Launch) (G : GW) (this : Nat) (w : Wd) (Q : Wd → Prop) (h : wp_X5_next this w Q) : MV l G yX5_next cX5_next 1 2 0 0 [.ref (adG G (this))] w Q := by
  refine met_V (fun G => [.ref (adG G (this))]) (by decide) (fun G => Nat.le_of_ble_eq_true rfl) (fun x O hl hm hr _ => ?_)
  subst hl
  have O : OK x "DowryBoxesModel" cX5_next 2 := O
  have h : wp_X5_next this w Q := h
  unfold wp_X5_next at h
  show J x (TV x Q) w 0 0 0 [(0, .ref (adG (xG x) (this)))] []
  refine j_aload_n O 0 0 dX5_next_0 rfl rfl ?_
  refine j_aload_n O 0 0 dX5_next_1 rfl rfl ?_
  refine j_getI O cfX5 15 (Nat.le_of_ble_eq_true rfl) (.inl rfl) q1583 dX5_next_2 h (fun v1 h => ?_)
  refine j_putI O cfX5 14 (Nat.le_of_ble_eq_true rfl) rfl q1582 rfl dX5_next_5 h (fun w2 h => ?_)
  refine (J.sub [0] rfl <| wk_X5_next_8 O hr hm _ _ (fun w3 h => ?_) FU  _ h)
  exact (J.sub [0] rfl <| wk_X5_next_46 O hr hm  _  _ h)
theorem hy_X5_must : (yX5_must.cls = "DowryBoxesModel" ∧ yX5_must.cls ≠ "java/lang/invoke/MethodHandle" ∧ yX5_must.cls ≠ "java/lang/invoke/VarHandle" ∧ (parseMethodDescriptor yX5_must.desc).map (fun d => d.parameters.length) = some 1) := by decide +kernel
theorem wk_X5_must_24 {x : Cx} (O : OK x "DowryBoxesModel" cX5_must 3) (hr : (xM x).sig.returnType = none) (hm : xn x = 2) {Q : Wd → Prop} (this : Nat) (w : Wd) (h : wp_X5_must_24 Q this w) : J x (TV x Q) w 0 0 24 [(0, .ref (adG (xG x) (this)))] [] := by
  unfold wp_X5_must_24 at h
  refine j_aload_n O 0 0 dX5_must_24 rfl rfl ?_
  refine j_getI O cfX5 19 (Nat.le_of_ble_eq_true rfl) (.inr (.inl rfl)) q1587 dX5_must_25 h (fun v1 h => ?_)
  obtain ⟨c2, h⟩ := h
  refine j_if_ne O (tgt := 35) dX5_must_28 (by decide) c2 h (fun h => ?_) (fun h => ?_)
  · exact j_vret O hr dX5_must_35 h
  · refine j_aload_n O 0 0 dX5_must_31 rfl rfl ?_
    obtain ⟨e4, h⟩ := h
    refine fin_V O ⟨Nat.zero_le _, Nat.zero_le _⟩ (run_V (As := []) (st := []) O (mt_X5_next (xl x) (xG x) _ _ _ h) e4 cfX5.1 q1930 q1932 qs69 q131 q1933 hy_X5_next (Nat.le_of_ble_eq_true rfl) (Nat.le_of_ble_eq_true rfl) ⟨Nat.zero_le _, Nat.zero_le _⟩ rfl (Nat.le_of_ble_eq_true rfl) dX5_must_32) (fun w3 h => ?_)
    exact j_vret O hr dX5_must_35 h
theorem mt_X5_must (l : Launch) (G : GW) (this : Nat) (p1 : Int) (w : Wd) (Q : Wd → Prop) (h : wp_X5_must this p1 w Q) : MV l G yX5_must cX5_must 2 3 0 0 [.ref (adG G (this)), vI (p1)] w Q := by
  refine met_V (fun G => [.ref (adG G (this)), vI (p1)]) (by decide) (fun G => Nat.le_of_ble_eq_true rfl) (fun x O hl hm hr _ => ?_)
  subst hl
  have O : OK x "DowryBoxesModel" cX5_must 3 := O
  have h : wp_X5_must this p1 w Q := h
  unfold wp_X5_must at h
  show J x (TV x Q) w 0 0 0 [(0, .ref (adG (xG x) (this))), (1, vI (p1))] []
  refine j_aload_n O 0 0 dX5_must_0 rfl rfl ?_
  refine j_getI O cfX5 19 (Nat.le_of_ble_eq_true rfl) (.inr (.inl rfl)) q1587 dX5_must_1 h (fun v1 h => ?_)
  obtain ⟨c2, h⟩ := h
  refine j_if_ne O (tgt := 24) dX5_must_4 (by decide) c2 h (fun h => ?_) (fun h => ?_)
  · exact (J.sub [0] rfl <| wk_X5_must_24 O hr hm  _  _ h)
  · refine j_iload_n O 1 1 dX5_must_7 rfl rfl ?_
    obtain ⟨c3, h⟩ := h
    refine j_if_ne O (tgt := 24) dX5_must_8 (by decide) c3 h (fun h => ?_) (fun h => ?_)
    · exact (J.sub [0] rfl <| wk_X5_must_24 O hr hm  _  _ h)
    · refine j_aload_n O 0 0 dX5_must_11 rfl rfl ?_
      refine j_iconst O dX5_must_12 ?_
      refine j_putZ O cfX5 19 (Nat.le_of_ble_eq_true rfl) rfl q1587 rfl dX5_must_13 h (fun w4 h => ?_)
      refine j_aload_n O 0 0 dX5_must_16 rfl rfl ?_
      refine j_aload_n O 0 0 dX5_must_17 rfl rfl ?_
      refine j_getI O cfX5 14 (Nat.le_of_ble_eq_true rfl) (.inl rfl) q1582 dX5_must_18 h (fun v5 h => ?_)
      refine j_putI O cfX5 18 (Nat.le_of_ble_eq_true rfl) rfl q1586 rfl dX5_must_21 h (fun w6 h => ?_)
      exact (J.sub [0] rfl <| wk_X5_must_24 O hr hm  _  _ h)
theorem hy_X5_mustJoin : (yX5_mustJoin.cls = "DowryBoxesModel" ∧ yX5_mustJoin.cls ≠ "java/lang/invoke/MethodHandle" ∧ yX5_mustJoin.cls ≠ "java/lang/invoke/VarHandle" ∧ (parseMethodDescriptor yX5_mustJoin.desc).map (fun d => d.parameters.length) = some 1) := by decide +kernel
theorem mt_X5_mustJoin (l : Launch) (G : GW) (this : Nat) (p1 : Int) (w : Wd) (Q : Wd → Prop) (h : wp_X5_mustJoin this p1 w Q) : MV l G yX5_mustJoin cX5_mustJoin 2 4 0 0 [.ref (adG G (this)), vI (p1)] w Q := by
  refine met_V (fun G => [.ref (adG G (this)), vI (p1)]) (by decide) (fun G => Nat.le_of_ble_eq_true rfl) (fun x O hl hm hr _ => ?_)
  subst hl
  have O : OK x "DowryBoxesModel" cX5_mustJoin 4 := O
  have h : wp_X5_mustJoin this p1 w Q := h
  unfold wp_X5_mustJoin at h
  show J x (TV x Q) w 0 0 0 [(0, .ref (adG (xG x) (this))), (1, vI (p1))] []
  refine j_aload_n O 0 0 dX5_mustJoin_0 rfl rfl ?_
  refine j_getI O cfX5 19 (Nat.le_of_ble_eq_true rfl) (.inr (.inl rfl)) q1587 dX5_mustJoin_1 h (fun v1 h => ?_)
  obtain ⟨c2, h⟩ := h
  refine j_if_ne O (tgt := 21) dX5_mustJoin_4 (by decide) c2 h (fun h => ?_) (fun h => ?_)
  · exact j_vret O hr dX5_mustJoin_21 h
  · refine j_aload_n O 0 0 dX5_mustJoin_7 rfl rfl ?_
    refine j_aload_n O 0 0 dX5_mustJoin_8 rfl rfl ?_
    refine j_aload_n O 0 0 dX5_mustJoin_9 rfl rfl ?_
    refine j_getA O cfX5 53 (Nat.le_of_ble_eq_true rfl) ⟨_, rfl⟩ q1621 dX5_mustJoin_10 h (fun k3 h => ?_)
    refine j_iload_n O 1 1 dX5_mustJoin_13 rfl rfl ?_
    refine j_lald O dX5_mustJoin_14 h (fun v4 h => ?_)
    obtain ⟨e7, h⟩ := h
    refine fin_I O ⟨Nat.zero_le _, Nat.zero_le _⟩ (run_V (As := [vL (v4)]) (st := [.ref (adG (xG x) (this))]) O (mt_X5_isWord (xl x) (xG x) _ _ _ _ h) e7 cfX5.1 q1948 q1950 qs71 q131 q1951 hy_X5_isWord (Nat.le_of_ble_eq_true rfl) (Nat.le_of_ble_eq_true rfl) ⟨Nat.zero_le _, Nat.zero_le _⟩ rfl (Nat.le_of_ble_eq_true rfl) dX5_mustJoin_15) (fun r5 w6 h => ?_)
    obtain ⟨e9, h⟩ := h
    refine fin_V O ⟨Nat.zero_le _, Nat.zero_le _⟩ (run_V (As := [vI (r5)]) (st := []) O (mt_X5_must (xl x) (xG x) _ _ _ _ h) e9 cfX5.1 q1952 q1954 qs72 q131 q1955 hy_X5_must (Nat.le_of_ble_eq_true rfl) (Nat.le_of_ble_eq_true rfl) ⟨Nat.zero_le _, Nat.zero_le _⟩ rfl (Nat.le_of_ble_eq_true rfl) dX5_mustJoin_18) (fun w8 h => ?_)
    exact j_vret O hr dX5_mustJoin_21 h
theorem hy_X5_push : (yX5_push.cls = "DowryBoxesModel" ∧ yX5_push.cls ≠ "java/lang/invoke/MethodHandle" ∧ yX5_push.cls ≠ "java/lang/invoke/VarHandle" ∧ (parseMethodDescriptor yX5_push.desc).map (fun d => d.parameters.length) = some 2) := by decide +kernel
theorem mt_X5_push (l : Launch) (G : GW) (this : Nat) (p1 : Int) (p2 : Int) (w : Wd) (Q : Wd → Prop) (h : wp_X5_push this p1 p2 w Q) : MV l G yX5_push cX5_push 3 1 0 0 [.ref (adG G (this)), vI (p1), vI (p2)] w Q := by
  refine met_V (fun G => [.ref (adG G (this)), vI (p1), vI (p2)]) (by decide) (fun G => Nat.le_of_ble_eq_true rfl) (fun x O hl hm hr _ => ?_)
  subst hl
  have O : OK x "DowryBoxesModel" cX5_push 1 := O
  have h : wp_X5_push this p1 p2 w Q := h
  unfold wp_X5_push at h
  show J x (TV x Q) w 0 0 0 [(0, .ref (adG (xG x) (this))), (1, vI (p1)), (2, vI (p2))] []
  refine j_aload_n O 0 0 dX5_push_0 rfl rfl ?_
  refine j_getA O cfX5 27 (Nat.le_of_ble_eq_true rfl) ⟨_, rfl⟩ q1595 dX5_push_1 h (fun k1 h => ?_)
  refine j_aload_n O 0 0 dX5_push_4 rfl rfl ?_
  refine j_getI O cfX5 29 (Nat.le_of_ble_eq_true rfl) (.inl rfl) q1597 dX5_push_5 h (fun v2 h => ?_)
  refine j_iload_n O 1 1 dX5_push_8 rfl rfl ?_
  refine j_iast O dX5_push_9 h (fun w3 h => ?_)
  refine j_aload_n O 0 0 dX5_push_10 rfl rfl ?_
  refine j_getA O cfX5 28 (Nat.le_of_ble_eq_true rfl) ⟨_, rfl⟩ q1596 dX5_push_11 h (fun k4 h => ?_)
  refine j_aload_n O 0 0 dX5_push_14 rfl rfl ?_
  refine j_getI O cfX5 29 (Nat.le_of_ble_eq_true rfl) (.inl rfl) q1597 dX5_push_15 h (fun v5 h => ?_)
  refine j_iload_n O 2 2 dX5_push_18 rfl rfl ?_
  refine j_iast O dX5_push_19 h (fun w6 h => ?_)
  refine j_aload_n O 0 0 dX5_push_20 rfl rfl ?_
  refine j_dup O dX5_push_21 rfl ?_
  refine j_getI O cfX5 29 (Nat.le_of_ble_eq_true rfl) (.inl rfl) q1597 dX5_push_22 h (fun v7 h => ?_)
  refine j_iconst O dX5_push_25 ?_
  refine j_iadd O dX5_push_26 ?_
  refine j_putI O cfX5 29 (Nat.le_of_ble_eq_true rfl) rfl q1597 rfl dX5_push_27 h (fun w8 h => ?_)
  exact j_vret O hr dX5_push_30 h
theorem hy_X5_isSign : (yX5_isSign.cls = "DowryBoxesModel" ∧ yX5_isSign.cls ≠ "java/lang/invoke/MethodHandle" ∧ yX5_isSign.cls ≠ "java/lang/invoke/VarHandle" ∧ (parseMethodDescriptor yX5_isSign.desc).map (fun d => d.parameters.length) = some 1) := by decide +kernel
theorem mt_X5_isSign (l : Launch) (G : GW) (this : Nat) (p1 : Int) (w : Wd) (Q : Int → Wd → Prop) (h : wp_X5_isSign this p1 w Q) : MI l G yX5_isSign cX5_isSign 2 (.boolean) 1 0 0 [.ref (adG G (this)), vI (p1)] w Q := by
  refine met_I (fun G => [.ref (adG G (this)), vI (p1)]) (by decide) (fun G => Nat.le_of_ble_eq_true rfl) (fun x O hl hm hr => ?_)
  subst hl
  have O : OK x "DowryBoxesModel" cX5_isSign 1 := O
  have h : wp_X5_isSign this p1 w Q := h
  unfold wp_X5_isSign at h
  show J x (TI x Q) w 0 0 0 [(0, .ref (adG (xG x) (this))), (1, vI (p1))] []
  refine j_aload_n O 0 0 dX5_isSign_0 rfl rfl ?_
  refine j_getI O cfX5 16 (Nat.le_of_ble_eq_true rfl) (.inl rfl) q1584 dX5_isSign_1 h (fun v1 h => ?_)
  refine j_iconst O dX5_isSign_4 ?_
  obtain ⟨c2, h⟩ := h
  refine j_icmp_ne O (tgt := 22) dX5_isSign_5 (by decide) c2 (by decide) h (fun h => ?_) (fun h => ?_)
  · refine j_iconst O dX5_isSign_22 ?_
    exact j_zret O hr dX5_isSign_23 h
  · refine j_aload_n O 0 0 dX5_isSign_8 rfl rfl ?_
    refine j_getL O cfX5 17 (Nat.le_of_ble_eq_true rfl) rfl q1585 dX5_isSign_9 h (fun v3 h => ?_)
    refine j_iload_n O 1 1 dX5_isSign_12 rfl rfl ?_
    refine j_i2l O dX5_isSign_13 h (fun h => ?_)
    obtain ⟨c4, h⟩ := h
    obtain ⟨c5, h⟩ := h
    refine j_lcif_ne O (tgt := 22) dX5_isSign_14 rfl dX5_isSign_15 (by decide) c4 c5 h (fun h => ?_) (fun h => ?_)
    · refine j_iconst O dX5_isSign_22 ?_
      exact j_zret O hr dX5_isSign_23 h
    · refine j_iconst O dX5_isSign_18 ?_
      refine j_goto O (tgt := 23) dX5_isSign_19 (by decide) ?_
      exact j_zret O hr dX5_isSign_23 h
theorem hy_X5_openBracket : (yX5_openBracket.cls = "DowryBoxesModel" ∧ yX5_openBracket.cls ≠ "java/lang/invoke/MethodHandle" ∧ yX5_openBracket.cls ≠ "java/lang/invoke/VarHandle" ∧ (parseMethodDescriptor yX5_openBracket.desc).map (fun d => d.parameters.length) = some 1) := by decide +kernel
theorem wk_X5_openBracket_15 {x : Cx} (O : OK x "DowryBoxesModel" cX5_openBracket 4) (hr : (xM x).sig.returnType = none) (hm : xn x = 2) {Q : Wd → Prop} (this : Nat) (x1 : Int) (s0 : Int) (s1 : Nat) (w : Wd) (h : wp_X5_openBracket_15 Q this x1 s0 s1 w) : J x (TV x Q) w 0 0 15 [(0, .ref (adG (xG x) (this))), (1, vI (x1))] [vI (s0), .ref (adG (xG x) (s1))] := by
  unfold wp_X5_openBracket_15 at h
  obtain ⟨e2, h⟩ := h
  refine fin_V O ⟨Nat.zero_le _, Nat.zero_le _⟩ (run_V (As := [vI (s0)]) (st := []) O (mt_X5_must (xl x) (xG x) _ _ _ _ h) e2 cfX5.1 q1952 q1954 qs72 q131 q1955 hy_X5_must (Nat.le_of_ble_eq_true rfl) (Nat.le_of_ble_eq_true rfl) ⟨Nat.zero_le _, Nat.zero_le _⟩ rfl (Nat.le_of_ble_eq_true rfl) dX5_openBracket_15) (fun w1 h => ?_)
  refine j_aload_n O 0 0 dX5_openBracket_18 rfl rfl ?_
  refine j_getI O cfX5 19 (Nat.le_of_ble_eq_true rfl) (.inr (.inl rfl)) q1587 dX5_openBracket_19 h (fun v3 h => ?_)
  obtain ⟨c4, h⟩ := h
  refine j_if_ne O (tgt := 41) dX5_openBracket_22 (by decide) c4 h (fun h => ?_) (fun h => ?_)
  · exact j_vret O hr dX5_openBracket_41 h
  · refine j_aload_n O 0 0 dX5_openBracket_25 rfl rfl ?_
    refine j_dup O dX5_openBracket_26 rfl ?_
    refine j_getI O cfX5 30 (Nat.le_of_ble_eq_true rfl) (.inl rfl) q1598 dX5_openBracket_27 h (fun v5 h => ?_)
    refine j_iconst O dX5_openBracket_30 ?_
    refine j_iadd O dX5_openBracket_31 ?_
    refine j_putI O cfX5 30 (Nat.le_of_ble_eq_true rfl) rfl q1598 rfl dX5_openBracket_32 h (fun w6 h => ?_)
    refine j_aload_n O 0 0 dX5_openBracket_35 rfl rfl ?_
    refine j_iload_n O 1 1 dX5_openBracket_36 rfl rfl ?_
    refine j_iconst O dX5_openBracket_37 ?_
    obtain ⟨e8, h⟩ := h
    refine fin_V O ⟨Nat.zero_le _, Nat.zero_le _⟩ (run_V (As := [vI (x1), vI (0)]) (st := []) O (mt_X5_push (xl x) (xG x) _ _ _ _ _ h) e8 cfX5.1 q1965 q1967 qs75 q131 q1968 hy_X5_push (Nat.le_of_ble_eq_true rfl) (Nat.le_of_ble_eq_true rfl) ⟨Nat.zero_le _, Nat.zero_le _⟩ rfl (Nat.le_of_ble_eq_true rfl) dX5_openBracket_38) (fun w7 h => ?_)
    exact j_vret O hr dX5_openBracket_41 h
theorem mt_X5_openBracket (l : Launch) (G : GW) (this : Nat) (p1 : Int) (w : Wd) (Q : Wd → Prop) (h : wp_X5_openBracket this p1 w Q) : MV l G yX5_openBracket cX5_openBracket 2 4 0 0 [.ref (adG G (this)), vI (p1)] w Q := by
  refine met_V (fun G => [.ref (adG G (this)), vI (p1)]) (by decide) (fun G => Nat.le_of_ble_eq_true rfl) (fun x O hl hm hr _ => ?_)
  subst hl
  have O : OK x "DowryBoxesModel" cX5_openBracket 4 := O
  have h : wp_X5_openBracket this p1 w Q := h
  unfold wp_X5_openBracket at h
  show J x (TV x Q) w 0 0 0 [(0, .ref (adG (xG x) (this))), (1, vI (p1))] []
  refine j_aload_n O 0 0 dX5_openBracket_0 rfl rfl ?_
  refine j_aload_n O 0 0 dX5_openBracket_1 rfl rfl ?_
  refine j_getI O cfX5 30 (Nat.le_of_ble_eq_true rfl) (.inl rfl) q1598 dX5_openBracket_2 h (fun v1 h => ?_)
  refine j_bipush (m := 8) O dX5_openBracket_5 bi_8 ?_
  obtain ⟨c2, h⟩ := h
  refine j_icmp_ge O (tgt := 14) dX5_openBracket_7 (by decide) c2 (by decide) h (fun h => ?_) (fun h => ?_)
  · refine j_iconst O dX5_openBracket_14 ?_
    exact (J.sub [0, 1] rfl <| wk_X5_openBracket_15 O hr hm  _ _ _ _  _ h)
  · refine j_iconst O dX5_openBracket_10 ?_
    refine j_goto O (tgt := 15) dX5_openBracket_11 (by decide) ?_
    exact (J.sub [0, 1] rfl <| wk_X5_openBracket_15 O hr hm  _ _ _ _  _ h)
theorem hy_X5_orderPartAt : (yX5_orderPartAt.cls = "DowryBoxesModel" ∧ yX5_orderPartAt.cls ≠ "java/lang/invoke/MethodHandle" ∧ yX5_orderPartAt.cls ≠ "java/lang/invoke/VarHandle" ∧ (parseMethodDescriptor yX5_orderPartAt.desc).map (fun d => d.parameters.length) = some 0) := by decide +kernel
theorem wk_X5_orderPartAt_30 {x : Cx} (O : OK x "DowryBoxesModel" cX5_orderPartAt 2) (hr : (xM x).sig.returnType = some .int) (hm : xn x = 3) {Q : Int → Wd → Prop} (K4 : Int → Int → Wd → Prop) (this : Nat) (x2 : Int) (s0 : Int) (hK4 : ∀ (y1 : Int) (y2 : Int) (w : Wd), K4 y1 y2 w → J x (TI x Q) w 0 0 4 [(0, .ref (adG (xG x) (this))), (1, vI (y1)), (2, vI (y2))] []) (w : Wd) (h : wp_X5_orderPartAt_30 Q K4 this x2 s0 w) : J x (TI x Q) w 0 0 30 [(0, .ref (adG (xG x) (this))), (2, vI (x2))] [vI (s0)] := by
  unfold wp_X5_orderPartAt_30 at h
  refine j_istore_n (L' := [(1, vI (s0)), (0, .ref (adG (xG x) (this))), (2, vI (x2))]) O 1 dX5_orderPartAt_30 rfl (by rw [hm]; decide) rfl ?_
  refine j_iinc (L' := [(2, vI (x2 + 1)), (1, vI (s0)), (0, .ref (adG (xG x) (this)))]) O 2 dX5_orderPartAt_31 rfl (by rw [hm]; decide) rfl ?_
  refine j_goto O (tgt := 4) dX5_orderPartAt_34 (by decide) ?_
  exact (J.sub [2, 1, 0] rfl <| hK4 _ _ _ h)
theorem wk_X5_orderPartAt_4 {x : Cx} (O : OK x "DowryBoxesModel" cX5_orderPartAt 2) (hr : (xM x).sig.returnType = some .int) (hm : xn x = 3) {Q : Int → Wd → Prop} (this : Nat) : ∀ (n : Nat) (x1 : Int) (x2 : Int) (w : Wd), wp_X5_orderPartAt_4 Q this n x1 x2 w → J x (TI x Q) w 0 0 4 [(0, .ref (adG (xG x) (this))), (1, vI (x1)), (2, vI (x2))] [] := by
  intro n
  induction n with
  | zero => intro x1 x2 w h; exact False.elim h
  | succ n ih =>
    intro x1 x2 w h
    rw [wp_X5_orderPartAt_4] at h
    refine j_iload_n O 2 2 dX5_orderPartAt_4 rfl rfl ?_
    refine j_bipush (m := 6) O dX5_orderPartAt_5 bi_6 ?_
    obtain ⟨c1, h⟩ := h
    refine j_icmp_ge O (tgt := 37) dX5_orderPartAt_7 (by decide) c1 (by decide) h (fun h => ?_) (fun h => ?_)
    · refine j_iload_n O 1 1 dX5_orderPartAt_37 rfl rfl ?_
      exact j_iret O hr dX5_orderPartAt_38 h
    · refine j_aload_n O 0 0 dX5_orderPartAt_10 rfl rfl ?_
      refine j_aload_n O 0 0 dX5_orderPartAt_11 rfl rfl ?_
      refine j_getA O cfX5 32 (Nat.le_of_ble_eq_true rfl) ⟨_, rfl⟩ q1600 dX5_orderPartAt_12 h (fun k2 h => ?_)
      refine j_iload_n O 2 2 dX5_orderPartAt_15 rfl rfl ?_
      refine j_lald O dX5_orderPartAt_16 h (fun v3 h => ?_)
      obtain ⟨e6, h⟩ := h
      refine fin_I O ⟨Nat.zero_le _, Nat.zero_le _⟩ (run_V (As := [vL (v3)]) (st := []) O (mt_X5_isWord (xl x) (xG x) _ _ _ _ h) e6 cfX5.1 q1948 q1950 qs71 q131 q1951 hy_X5_isWord (Nat.le_of_ble_eq_true rfl) (Nat.le_of_ble_eq_true rfl) ⟨Nat.zero_le _, Nat.zero_le _⟩ rfl (Nat.le_of_ble_eq_true rfl) dX5_orderPartAt_17) (fun r4 w5 h => ?_)
      obtain ⟨c7, h⟩ := h
      refine j_if_eq O (tgt := 29) dX5_orderPartAt_20 (by decide) c7 h (fun h => ?_) (fun h => ?_)
      · refine j_iload_n O 1 1 dX5_orderPartAt_29 rfl rfl ?_
        exact (J.sub [0, 2] rfl <| wk_X5_orderPartAt_30 O hr hm _ _ _ _ ih _ h)
      · refine j_iload_n O 2 2 dX5_orderPartAt_23 rfl rfl ?_
        refine j_iconst O dX5_orderPartAt_24 ?_
        refine j_iadd O dX5_orderPartAt_25 ?_
        refine j_goto O (tgt := 30) dX5_orderPartAt_26 (by decide) ?_
        exact (J.sub [0, 2] rfl <| wk_X5_orderPartAt_30 O hr hm _ _ _ _ ih _ h)
theorem mt_X5_orderPartAt (l : Launch) (G : GW) (this : Nat) (w : Wd) (Q : Int → Wd → Prop) (h : wp_X5_orderPartAt this w Q) : MI l G yX5_orderPartAt cX5_orderPartAt 3 (.int) 2 0 0 [.ref (adG G (this))] w Q := by
  refine met_I (fun G => [.ref (adG G (this))]) (by decide) (fun G => Nat.le_of_ble_eq_true rfl) (fun x O hl hm hr => ?_)
  subst hl
  have O : OK x "DowryBoxesModel" cX5_orderPartAt 2 := O
  have h : wp_X5_orderPartAt this w Q := h
  unfold wp_X5_orderPartAt at h
  show J x (TI x Q) w 0 0 0 [(0, .ref (adG (xG x) (this)))] []
  refine j_iconst O dX5_orderPartAt_0 ?_
  refine j_istore_n (L' := [(1, vI ((-1))), (0, .ref (adG (xG x) (this)))]) O 1 dX5_orderPartAt_1 rfl (by rw [hm]; decide) rfl ?_
  refine j_iconst O dX5_orderPartAt_2 ?_
  refine j_istore_n (L' := [(2, vI (0)), (1, vI ((-1))), (0, .ref (adG (xG x) (this)))]) O 2 dX5_orderPartAt_3 rfl (by rw [hm]; decide) rfl ?_
  exact (J.sub [2, 1, 0] rfl <| wk_X5_orderPartAt_4 O hr hm  _  FU _ _ _ h)
theorem hy_X5_partAt : (yX5_partAt.cls = "DowryBoxesModel" ∧ yX5_partAt.cls ≠ "java/lang/invoke/MethodHandle" ∧ yX5_partAt.cls ≠ "java/lang/invoke/VarHandle" ∧ (parseMethodDescriptor yX5_partAt.desc).map (fun d => d.parameters.length) = some 0) := by decide +kernel
theorem wk_X5_partAt_30 {x : Cx} (O : OK x "DowryBoxesModel" cX5_partAt 2) (hr : (xM x).sig.returnType = some .int) (hm : xn x = 3) {Q : Int → Wd → Prop} (K4 : Int → Int → Wd → Prop) (this : Nat) (x2 : Int) (s0 : Int) (hK4 : ∀ (y1 : Int) (y2 : Int) (w : Wd), K4 y1 y2 w → J x (TI x Q) w 0 0 4 [(0, .ref (adG (xG x) (this))), (1, vI (y1)), (2, vI (y2))] []) (w : Wd) (h : wp_X5_partAt_30 Q K4 this x2 s0 w) : J x (TI x Q) w 0 0 30 [(0, .ref (adG (xG x) (this))), (2, vI (x2))] [vI (s0)] := by
  unfold wp_X5_partAt_30 at h
  refine j_istore_n (L' := [(1, vI (s0)), (0, .ref (adG (xG x) (this))), (2, vI (x2))]) O 1 dX5_partAt_30 rfl (by rw [hm]; decide) rfl ?_
  refine j_iinc (L' := [(2, vI (x2 + 1)), (1, vI (s0)), (0, .ref (adG (xG x) (this)))]) O 2 dX5_partAt_31 rfl (by rw [hm]; decide) rfl ?_
  refine j_goto O (tgt := 4) dX5_partAt_34 (by decide) ?_
  exact (J.sub [2, 1, 0] rfl <| hK4 _ _ _ h)
theorem wk_X5_partAt_4 {x : Cx} (O : OK x "DowryBoxesModel" cX5_partAt 2) (hr : (xM x).sig.returnType = some .int) (hm : xn x = 3) {Q : Int → Wd → Prop} (this : Nat) : ∀ (n : Nat) (x1 : Int) (x2 : Int) (w : Wd), wp_X5_partAt_4 Q this n x1 x2 w → J x (TI x Q) w 0 0 4 [(0, .ref (adG (xG x) (this))), (1, vI (x1)), (2, vI (x2))] [] := by
  intro n
  induction n with
  | zero => intro x1 x2 w h; exact False.elim h
  | succ n ih =>
    intro x1 x2 w h
    rw [wp_X5_partAt_4] at h
    refine j_iload_n O 2 2 dX5_partAt_4 rfl rfl ?_
    refine j_bipush (m := 9) O dX5_partAt_5 bi_9 ?_
    obtain ⟨c1, h⟩ := h
    refine j_icmp_ge O (tgt := 37) dX5_partAt_7 (by decide) c1 (by decide) h (fun h => ?_) (fun h => ?_)
    · refine j_iload_n O 1 1 dX5_partAt_37 rfl rfl ?_
      exact j_iret O hr dX5_partAt_38 h
    · refine j_aload_n O 0 0 dX5_partAt_10 rfl rfl ?_
      refine j_aload_n O 0 0 dX5_partAt_11 rfl rfl ?_
      refine j_getA O cfX5 31 (Nat.le_of_ble_eq_true rfl) ⟨_, rfl⟩ q1599 dX5_partAt_12 h (fun k2 h => ?_)
      refine j_iload_n O 2 2 dX5_partAt_15 rfl rfl ?_
      refine j_lald O dX5_partAt_16 h (fun v3 h => ?_)
      obtain ⟨e6, h⟩ := h
      refine fin_I O ⟨Nat.zero_le _, Nat.zero_le _⟩ (run_V (As := [vL (v3)]) (st := []) O (mt_X5_isWord (xl x) (xG x) _ _ _ _ h) e6 cfX5.1 q1948 q1950 qs71 q131 q1951 hy_X5_isWord (Nat.le_of_ble_eq_true rfl) (Nat.le_of_ble_eq_true rfl) ⟨Nat.zero_le _, Nat.zero_le _⟩ rfl (Nat.le_of_ble_eq_true rfl) dX5_partAt_17) (fun r4 w5 h => ?_)
      obtain ⟨c7, h⟩ := h
      refine j_if_eq O (tgt := 29) dX5_partAt_20 (by decide) c7 h (fun h => ?_) (fun h => ?_)
      · refine j_iload_n O 1 1 dX5_partAt_29 rfl rfl ?_
        exact (J.sub [0, 2] rfl <| wk_X5_partAt_30 O hr hm _ _ _ _ ih _ h)
      · refine j_iload_n O 2 2 dX5_partAt_23 rfl rfl ?_
        refine j_iconst O dX5_partAt_24 ?_
        refine j_iadd O dX5_partAt_25 ?_
        refine j_goto O (tgt := 30) dX5_partAt_26 (by decide) ?_
        exact (J.sub [0, 2] rfl <| wk_X5_partAt_30 O hr hm _ _ _ _ ih _ h)
theorem mt_X5_partAt (l : Launch) (G : GW) (this : Nat) (w : Wd) (Q : Int → Wd → Prop) (h : wp_X5_partAt this w Q) : MI l G yX5_partAt cX5_partAt 3 (.int) 2 0 0 [.ref (adG G (this))] w Q := by
  refine met_I (fun G => [.ref (adG G (this))]) (by decide) (fun G => Nat.le_of_ble_eq_true rfl) (fun x O hl hm hr => ?_)
  subst hl
  have O : OK x "DowryBoxesModel" cX5_partAt 2 := O
  have h : wp_X5_partAt this w Q := h
  unfold wp_X5_partAt at h
  show J x (TI x Q) w 0 0 0 [(0, .ref (adG (xG x) (this)))] []
  refine j_iconst O dX5_partAt_0 ?_
  refine j_istore_n (L' := [(1, vI ((-1))), (0, .ref (adG (xG x) (this)))]) O 1 dX5_partAt_1 rfl (by rw [hm]; decide) rfl ?_
  refine j_iconst O dX5_partAt_2 ?_
  refine j_istore_n (L' := [(2, vI (0)), (1, vI ((-1))), (0, .ref (adG (xG x) (this)))]) O 2 dX5_partAt_3 rfl (by rw [hm]; decide) rfl ?_
  exact (J.sub [2, 1, 0] rfl <| wk_X5_partAt_4 O hr hm  _  FU _ _ _ h)
theorem hy_X5_emit : (yX5_emit.cls = "DowryBoxesModel" ∧ yX5_emit.cls ≠ "java/lang/invoke/MethodHandle" ∧ yX5_emit.cls ≠ "java/lang/invoke/VarHandle" ∧ (parseMethodDescriptor yX5_emit.desc).map (fun d => d.parameters.length) = some 2) := by decide +kernel
theorem mt_X5_emit (l : Launch) (G : GW) (this : Nat) (p1 : Int) (p2 : Int) (w : Wd) (Q : Wd → Prop) (h : wp_X5_emit this p1 p2 w Q) : MV l G yX5_emit cX5_emit 3 1 0 0 [.ref (adG G (this)), vI (p1), vI (p2)] w Q := by
  refine met_V (fun G => [.ref (adG G (this)), vI (p1), vI (p2)]) (by decide) (fun G => Nat.le_of_ble_eq_true rfl) (fun x O hl hm hr _ => ?_)
  subst hl
  have O : OK x "DowryBoxesModel" cX5_emit 1 := O
  have h : wp_X5_emit this p1 p2 w Q := h
  unfold wp_X5_emit at h
  show J x (TV x Q) w 0 0 0 [(0, .ref (adG (xG x) (this))), (1, vI (p1)), (2, vI (p2))] []
  refine j_aload_n O 0 0 dX5_emit_0 rfl rfl ?_
  refine j_getA O cfX5 24 (Nat.le_of_ble_eq_true rfl) ⟨_, rfl⟩ q1592 dX5_emit_1 h (fun k1 h => ?_)
  refine j_aload_n O 0 0 dX5_emit_4 rfl rfl ?_
  refine j_getI O cfX5 23 (Nat.le_of_ble_eq_true rfl) (.inl rfl) q1591 dX5_emit_5 h (fun v2 h => ?_)
  refine j_iload_n O 1 1 dX5_emit_8 rfl rfl ?_
  refine j_iast O dX5_emit_9 h (fun w3 h => ?_)
  refine j_aload_n O 0 0 dX5_emit_10 rfl rfl ?_
  refine j_getA O cfX5 25 (Nat.le_of_ble_eq_true rfl) ⟨_, rfl⟩ q1593 dX5_emit_11 h (fun k4 h => ?_)
  refine j_aload_n O 0 0 dX5_emit_14 rfl rfl ?_
  refine j_getI O cfX5 23 (Nat.le_of_ble_eq_true rfl) (.inl rfl) q1591 dX5_emit_15 h (fun v5 h => ?_)
  refine j_iload_n O 2 2 dX5_emit_18 rfl rfl ?_
  refine j_iast O dX5_emit_19 h (fun w6 h => ?_)
  refine j_aload_n O 0 0 dX5_emit_20 rfl rfl ?_
  refine j_dup O dX5_emit_21 rfl ?_
  refine j_getI O cfX5 23 (Nat.le_of_ble_eq_true rfl) (.inl rfl) q1591 dX5_emit_22 h (fun v7 h => ?_)
  refine j_iconst O dX5_emit_25 ?_
  refine j_iadd O dX5_emit_26 ?_
  refine j_putI O cfX5 23 (Nat.le_of_ble_eq_true rfl) rfl q1591 rfl dX5_emit_27 h (fun w8 h => ?_)
  exact j_vret O hr dX5_emit_30 h
theorem hy_X5_leaf : (yX5_leaf.cls = "DowryBoxesModel" ∧ yX5_leaf.cls ≠ "java/lang/invoke/MethodHandle" ∧ yX5_leaf.cls ≠ "java/lang/invoke/VarHandle" ∧ (parseMethodDescriptor yX5_leaf.desc).map (fun d => d.parameters.length) = some 3) := by decide +kernel
theorem wk_X5_leaf_19 {x : Cx} (O : OK x "DowryBoxesModel" cX5_leaf 4) (hr : (xM x).sig.returnType = none) (hm : xn x = 4) {Q : Wd → Prop} (this : Nat) (x2 : Int) (x3 : Int) (s0 : Int) (s1 : Nat) (w : Wd) (h : wp_X5_leaf_19 Q this x2 x3 s0 s1 w) : J x (TV x Q) w 0 0 19 [(0, .ref (adG (xG x) (this))), (2, vI (x2)), (3, vI (x3))] [vI (s0), .ref (adG (xG x) (s1))] := by
  unfold wp_X5_leaf_19 at h
  obtain ⟨e2, h⟩ := h
  refine fin_V O ⟨Nat.zero_le _, Nat.zero_le _⟩ (run_V (As := [vI (s0)]) (st := []) O (mt_X5_must (xl x) (xG x) _ _ _ _ h) e2 cfX5.1 q1952 q1954 qs72 q131 q1955 hy_X5_must (Nat.le_of_ble_eq_true rfl) (Nat.le_of_ble_eq_true rfl) ⟨Nat.zero_le _, Nat.zero_le _⟩ rfl (Nat.le_of_ble_eq_true rfl) dX5_leaf_19) (fun w1 h => ?_)
  refine j_aload_n O 0 0 dX5_leaf_22 rfl rfl ?_
  refine j_getI O cfX5 19 (Nat.le_of_ble_eq_true rfl) (.inr (.inl rfl)) q1587 dX5_leaf_23 h (fun v3 h => ?_)
  obtain ⟨c4, h⟩ := h
  refine j_if_ne O (tgt := 45) dX5_leaf_26 (by decide) c4 h (fun h => ?_) (fun h => ?_)
  · exact j_vret O hr dX5_leaf_45 h
  · refine j_aload_n O 0 0 dX5_leaf_29 rfl rfl ?_
    refine j_iload_n O 1 2 dX5_leaf_30 rfl rfl ?_
    refine j_iload_n O 2 3 dX5_leaf_31 rfl rfl ?_
    obtain ⟨e6, h⟩ := h
    refine fin_V O ⟨Nat.zero_le _, Nat.zero_le _⟩ (run_V (As := [vI (x2), vI (x3)]) (st := []) O (mt_X5_emit (xl x) (xG x) _ _ _ _ _ h) e6 cfX5.1 q1994 q1996 qs82 q131 q1997 hy_X5_emit (Nat.le_of_ble_eq_true rfl) (Nat.le_of_ble_eq_true rfl) ⟨Nat.zero_le _, Nat.zero_le _⟩ rfl (Nat.le_of_ble_eq_true rfl) dX5_leaf_32) (fun w5 h => ?_)
    refine j_aload_n O 0 0 dX5_leaf_35 rfl rfl ?_
    refine j_dup O dX5_leaf_36 rfl ?_
    refine j_getI O cfX5 26 (Nat.le_of_ble_eq_true rfl) (.inl rfl) q1594 dX5_leaf_37 h (fun v7 h => ?_)
    refine j_iconst O dX5_leaf_40 ?_
    refine j_iadd O dX5_leaf_41 ?_
    refine j_putI O cfX5 26 (Nat.le_of_ble_eq_true rfl) rfl q1594 rfl dX5_leaf_42 h (fun w8 h => ?_)
    exact j_vret O hr dX5_leaf_45 h
theorem wk_X5_leaf_18 {x : Cx} (O : OK x "DowryBoxesModel" cX5_leaf 4) (hr : (xM x).sig.returnType = none) (hm : xn x = 4) {Q : Wd → Prop} (this : Nat) (x2 : Int) (x3 : Int) (s0 : Nat) (w : Wd) (h : wp_X5_leaf_18 Q this x2 x3 s0 w) : J x (TV x Q) w 0 0 18 [(0, .ref (adG (xG x) (this))), (2, vI (x2)), (3, vI (x3))] [.ref (adG (xG x) (s0))] := by
  unfold wp_X5_leaf_18 at h
  refine j_iconst O dX5_leaf_18 ?_
  exact (J.sub [0, 1, 2] rfl <| wk_X5_leaf_19 O hr hm  _ _ _ _ _  _ h)
theorem mt_X5_leaf (l : Launch) (G : GW) (this : Nat) (p1 : Int) (p2 : Int) (p3 : Int) (w : Wd) (Q : Wd → Prop) (h : wp_X5_leaf this p1 p2 p3 w Q) : MV l G yX5_leaf cX5_leaf 4 4 0 0 [.ref (adG G (this)), vI (p1), vI (p2), vI (p3)] w Q := by
  refine met_V (fun G => [.ref (adG G (this)), vI (p1), vI (p2), vI (p3)]) (by decide) (fun G => Nat.le_of_ble_eq_true rfl) (fun x O hl hm hr _ => ?_)
  subst hl
  have O : OK x "DowryBoxesModel" cX5_leaf 4 := O
  have h : wp_X5_leaf this p1 p2 p3 w Q := h
  unfold wp_X5_leaf at h
  show J x (TV x Q) w 0 0 0 [(0, .ref (adG (xG x) (this))), (1, vI (p1)), (2, vI (p2)), (3, vI (p3))] []
  refine j_aload_n O 0 0 dX5_leaf_0 rfl rfl ?_
  refine j_iload_n O 1 1 dX5_leaf_1 rfl rfl ?_
  obtain ⟨c1, h⟩ := h
  refine j_if_eq O (tgt := 18) dX5_leaf_2 (by decide) c1 h (fun h => ?_) (fun h => ?_)
  · exact (J.sub [0, 2, 3] rfl <| wk_X5_leaf_18 O hr hm  _ _ _ _  _ h)
  · refine j_aload_n O 0 0 dX5_leaf_5 rfl rfl ?_
    refine j_getI O cfX5 26 (Nat.le_of_ble_eq_true rfl) (.inl rfl) q1594 dX5_leaf_6 h (fun v2 h => ?_)
    refine j_bipush (m := 50) O dX5_leaf_9 bi_50 ?_
    obtain ⟨c3, h⟩ := h
    refine j_icmp_ge O (tgt := 18) dX5_leaf_11 (by decide) c3 (by decide) h (fun h => ?_) (fun h => ?_)
    · exact (J.sub [0, 2, 3] rfl <| wk_X5_leaf_18 O hr hm  _ _ _ _  _ h)
    · refine j_iconst O dX5_leaf_14 ?_
      refine j_goto O (tgt := 19) dX5_leaf_15 (by decide) ?_
      exact (J.sub [0, 2, 3] rfl <| wk_X5_leaf_19 O hr hm  _ _ _ _ _  _ h)
theorem hy_X5_number : (yX5_number.cls = "DowryBoxesModel" ∧ yX5_number.cls ≠ "java/lang/invoke/MethodHandle" ∧ yX5_number.cls ≠ "java/lang/invoke/VarHandle" ∧ (parseMethodDescriptor yX5_number.desc).map (fun d => d.parameters.length) = some 2) := by decide +kernel
theorem wk_X5_number_33 {x : Cx} (O : OK x "DowryBoxesModel" cX5_number 4) (hr : (xM x).sig.returnType = some .int) (hm : xn x = 6) {Q : Int → Wd → Prop} (x5 : Int) (s0 : Int) (s1 : Nat) (w : Wd) (h : wp_X5_number_33 Q x5 s0 s1 w) : J x (TI x Q) w 0 0 33 [(5, vI (x5))] [vI (s0), .ref (adG (xG x) (s1))] := by
  unfold wp_X5_number_33 at h
  obtain ⟨e2, h⟩ := h
  refine fin_V O ⟨Nat.zero_le _, Nat.zero_le _⟩ (run_V (As := [vI (s0)]) (st := []) O (mt_X5_must (xl x) (xG x) _ _ _ _ h) e2 cfX5.1 q1952 q1954 qs72 q131 q1955 hy_X5_must (Nat.le_of_ble_eq_true rfl) (Nat.le_of_ble_eq_true rfl) ⟨Nat.zero_le _, Nat.zero_le _⟩ rfl (Nat.le_of_ble_eq_true rfl) dX5_number_33) (fun w1 h => ?_)
  refine j_iload O 0 dX5_number_36 rfl ?_
  exact j_iret O hr dX5_number_38 h
theorem wk_X5_number_32 {x : Cx} (O : OK x "DowryBoxesModel" cX5_number 4) (hr : (xM x).sig.returnType = some .int) (hm : xn x = 6) {Q : Int → Wd → Prop} (x5 : Int) (s0 : Nat) (w : Wd) (h : wp_X5_number_32 Q x5 s0 w) : J x (TI x Q) w 0 0 32 [(5, vI (x5))] [.ref (adG (xG x) (s0))] := by
  unfold wp_X5_number_32 at h
  refine j_iconst O dX5_number_32 ?_
  exact (J.sub [0] rfl <| wk_X5_number_33 O hr hm  _ _ _  _ h)
theorem mt_X5_number (l : Launch) (G : GW) (this : Nat) (p1 : Int) (p2 : Int) (w : Wd) (Q : Int → Wd → Prop) (h : wp_X5_number this p1 p2 w Q) : MI l G yX5_number cX5_number 6 (.int) 4 0 0 [.ref (adG G (this)), vL (p1), vL (p2)] w Q := by
  refine met_I (fun G => [.ref (adG G (this)), vL (p1), vL (p2)]) (by decide) (fun G => Nat.le_of_ble_eq_true rfl) (fun x O hl hm hr => ?_)
  subst hl
  have O : OK x "DowryBoxesModel" cX5_number 4 := O
  have h : wp_X5_number this p1 p2 w Q := h
  unfold wp_X5_number at h
  show J x (TI x Q) w 0 0 0 [(0, .ref (adG (xG x) (this))), (1, vL (p1)), (3, vL (p2))] []
  refine j_aload_n O 0 0 dX5_number_0 rfl rfl ?_
  refine j_getL O cfX5 17 (Nat.le_of_ble_eq_true rfl) rfl q1585 dX5_number_1 h (fun v1 h => ?_)
  refine j_l2i O dX5_number_4 ?_
  refine j_istore (L' := [(5, vI (v1)), (0, .ref (adG (xG x) (this))), (1, vL (p1)), (3, vL (p2))]) O dX5_number_5 (by rw [hm]; decide) rfl ?_
  refine j_aload_n O 1 0 dX5_number_7 rfl rfl ?_
  refine j_aload_n O 1 0 dX5_number_8 rfl rfl ?_
  refine j_getI O cfX5 16 (Nat.le_of_ble_eq_true rfl) (.inl rfl) q1584 dX5_number_9 h (fun v2 h => ?_)
  refine j_iconst O dX5_number_12 ?_
  obtain ⟨c3, h⟩ := h
  refine j_icmp_ne O (tgt := 32) dX5_number_13 (by decide) c3 (by decide) h (fun h => ?_) (fun h => ?_)
  · exact (J.sub [0] rfl <| wk_X5_number_32 O hr hm  _ _  _ h)
  · refine j_aload_n O 1 0 dX5_number_16 rfl rfl ?_
    refine j_getL O cfX5 17 (Nat.le_of_ble_eq_true rfl) rfl q1585 dX5_number_17 h (fun v4 h => ?_)
    refine j_lload_n O 2 1 dX5_number_20 rfl rfl ?_
    refine j_lload_n O 3 3 dX5_number_21 rfl rfl ?_
    refine fin_I O ⟨Nat.zero_le _, Nat.zero_le _⟩ (run_S (As := [vL (v4), vL (p1), vL (p2)]) (st := [.ref (adG (xG x) (this))]) O (mt_X5_in (xl x) (xG x) _ _ _ _ _ h) q1772 q1773 q131 q1774 hy_X5_in.2 (Nat.le_of_ble_eq_true rfl) (Nat.le_of_ble_eq_true rfl) ⟨Nat.zero_le _, Nat.zero_le _⟩ rfl (Nat.le_of_ble_eq_true rfl) dX5_number_22) (fun r5 w6 h => ?_)
    obtain ⟨c7, h⟩ := h
    refine j_if_eq O (tgt := 32) dX5_number_25 (by decide) c7 h (fun h => ?_) (fun h => ?_)
    · exact (J.sub [0] rfl <| wk_X5_number_32 O hr hm  _ _  _ h)
    · refine j_iconst O dX5_number_28 ?_
      refine j_goto O (tgt := 33) dX5_number_29 (by decide) ?_
      exact (J.sub [0] rfl <| wk_X5_number_33 O hr hm  _ _ _  _ h)
