/-! the walks of the component, by program -/
set_option maxRecDepth 100000
theorem hy_X0_status : (yX0_status.cls = "DowryBoxes" ∧ yX0_status.cls ≠ "java/lang/invoke/MethodHandle" ∧ yX0_status.cls ≠ "java/lang/invoke/VarHandle" ∧ (parseMethodDescriptor yX0_status.desc).map (fun d => d.parameters.length) = some 0) := by decide +kernel
theorem mt_X0_status (l : Launch) (G : GW) (this : Nat) (w : Wd) (Q : Int → Wd → Prop) (h : wp_X0_status this w Q) : MI l G yX0_status cX0_status 1 (.int) 1 0 0 [.ref (adG G (this))] w Q := by
  refine met_I (fun G => [.ref (adG G (this))]) (by decide) (fun G => Nat.le_of_ble_eq_true rfl) (fun x O hl hm hr => ?_)
  subst hl
  have O : OK x "DowryBoxes" cX0_status 1 := O
  have h : wp_X0_status this w Q := h
  unfold wp_X0_status at h
  show J x (TI x Q) w 0 0 0 [(0, .ref (adG (xG x) (this)))] []
  refine j_aload_n O 0 0 dX0_status_0 rfl rfl ?_
  refine j_getI O cfX0 0 (Nat.le_of_ble_eq_true rfl) (.inl rfl) q358 dX0_status_1 h (fun v1 h => ?_)
  exact j_iret O hr dX0_status_4 h
theorem hy_X0_table : (yX0_table.cls = "DowryBoxes" ∧ yX0_table.cls ≠ "java/lang/invoke/MethodHandle" ∧ yX0_table.cls ≠ "java/lang/invoke/VarHandle" ∧ (parseMethodDescriptor yX0_table.desc).map (fun d => d.parameters.length) = some 0) := by decide +kernel
theorem mt_X0_table (l : Launch) (G : GW) (this : Nat) (w : Wd) (Q : Option Nat → Wd → Prop) (h : wp_X0_table this w Q) : MR l G yX0_table cX0_table 1 (.object "DowryBoxes$Table") 1 0 0 [.ref (adG G (this))] w Q := by
  refine met_R (fun G => [.ref (adG G (this))]) (by decide) (fun G => Nat.le_of_ble_eq_true rfl) (fun x O hl hm hr => ?_)
  subst hl
  have O : OK x "DowryBoxes" cX0_table 1 := O
  have h : wp_X0_table this w Q := h
  unfold wp_X0_table at h
  show J x (TR x Q) w 0 0 0 [(0, .ref (adG (xG x) (this)))] []
  refine j_aload_n O 0 0 dX0_table_0 rfl rfl ?_
  refine j_getR O cfX0 2 (Nat.le_of_ble_eq_true rfl) ⟨_, rfl⟩ q360 dX0_table_1 h (fun o1 h => ?_)
  obtain ⟨k2, e_k2, g_k2⟩ := h
  subst e_k2
  have h := g_k2
  refine j_getRN O cfX1 0 (Nat.le_of_ble_eq_true rfl) ⟨_, rfl⟩ (lw_n q232 rfl) dX0_table_4 h (fun o3 h => ?_)
  exact j_aret (v := o3) O hr (.inl ⟨_, rfl⟩) dX0_table_7 h
theorem hy_X2_isWed : (yX2_isWed.cls = "DowryBoxes$Table" ∧ yX2_isWed.cls ≠ "java/lang/invoke/MethodHandle" ∧ yX2_isWed.cls ≠ "java/lang/invoke/VarHandle" ∧ (parseMethodDescriptor yX2_isWed.desc).map (fun d => d.parameters.length) = some 1) := by decide +kernel
theorem mt_X2_isWed (l : Launch) (G : GW) (this : Nat) (p1 : Int) (w : Wd) (Q : Int → Wd → Prop) (h : wp_X2_isWed this p1 w Q) : MI l G yX2_isWed cX2_isWed 2 (.boolean) 1 0 0 [.ref (adG G (this)), vI (p1)] w Q := by
  refine met_I (fun G => [.ref (adG G (this)), vI (p1)]) (by decide) (fun G => Nat.le_of_ble_eq_true rfl) (fun x O hl hm hr => ?_)
  subst hl
  have O : OK x "DowryBoxes$Table" cX2_isWed 1 := O
  have h : wp_X2_isWed this p1 w Q := h
  unfold wp_X2_isWed at h
  show J x (TI x Q) w 0 0 0 [(0, .ref (adG (xG x) (this))), (1, vI (p1))] []
  refine j_aload_n O 0 0 dX2_isWed_0 rfl rfl ?_
  refine j_getA O cfX2 3 (Nat.le_of_ble_eq_true rfl) ⟨_, rfl⟩ q183 dX2_isWed_1 h (fun k1 h => ?_)
  refine j_iload_n O 1 1 dX2_isWed_4 rfl rfl ?_
  refine j_iald O dX2_isWed_5 h (fun v2 h => ?_)
  refine j_iconst O dX2_isWed_6 ?_
  obtain ⟨c3, h⟩ := h
  refine j_icmp_eq O (tgt := 14) dX2_isWed_7 (by decide) c3 (by decide) h (fun h => ?_) (fun h => ?_)
  · refine j_iconst O dX2_isWed_14 ?_
    exact j_zret O hr dX2_isWed_15 h
  · refine j_iconst O dX2_isWed_10 ?_
    refine j_goto O (tgt := 15) dX2_isWed_11 (by decide) ?_
    exact j_zret O hr dX2_isWed_15 h
theorem hy_X0_couples : (yX0_couples.cls = "DowryBoxes" ∧ yX0_couples.cls ≠ "java/lang/invoke/MethodHandle" ∧ yX0_couples.cls ≠ "java/lang/invoke/VarHandle" ∧ (parseMethodDescriptor yX0_couples.desc).map (fun d => d.parameters.length) = some 1) := by decide +kernel
theorem wk_X0_couples_29 {x : Cx} (O : OK x "DowryBoxes" cX0_couples 2) (hr : (xM x).sig.returnType = some .int) (hm : xn x = 4) {Q : Int → Wd → Prop} (K4 : Int → Int → Wd → Prop) (this : Nat) (x1 : Option Nat) (x3 : Int) (s0 : Int) (s1 : Int) (hK4 : ∀ (y2 : Int) (y3 : Int) (w : Wd), K4 y2 y3 w → J x (TI x Q) w 0 0 4 [(0, .ref (adG (xG x) (this))), (1, vR (xG x) (x1)), (2, vI (y2)), (3, vI (y3))] []) (w : Wd) (h : wp_X0_couples_29 Q K4 this x1 x3 s0 s1 w) : J x (TI x Q) w 0 0 29 [(0, .ref (adG (xG x) (this))), (1, vR (xG x) (x1)), (3, vI (x3))] [vI (s0), vI (s1)] := by
  unfold wp_X0_couples_29 at h
  refine j_iadd O dX0_couples_29 ?_
  refine j_istore_n (L' := [(2, vI (s1 + s0)), (0, .ref (adG (xG x) (this))), (1, vR (xG x) (x1)), (3, vI (x3))]) O 2 dX0_couples_30 rfl (by rw [hm]; decide) (by cases x1 <;> rfl) ?_
  refine j_iinc (L' := [(3, vI (x3 + 1)), (2, vI (s1 + s0)), (0, .ref (adG (xG x) (this))), (1, vR (xG x) (x1))]) O 3 dX0_couples_31 rfl (by rw [hm]; decide) rfl ?_
  refine j_goto O (tgt := 4) dX0_couples_34 (by decide) ?_
  exact (J.sub [2, 3, 1, 0] rfl <| hK4 _ _ _ h)
theorem wk_X0_couples_4 {x : Cx} (O : OK x "DowryBoxes" cX0_couples 2) (hr : (xM x).sig.returnType = some .int) (hm : xn x = 4) {Q : Int → Wd → Prop} (this : Nat) (x1 : Option Nat) : ∀ (n : Nat) (x2 : Int) (x3 : Int) (w : Wd), wp_X0_couples_4 Q this x1 n x2 x3 w → J x (TI x Q) w 0 0 4 [(0, .ref (adG (xG x) (this))), (1, vR (xG x) (x1)), (2, vI (x2)), (3, vI (x3))] [] := by
  intro n
  induction n with
  | zero => intro x2 x3 w h; exact False.elim h
  | succ n ih =>
    intro x2 x3 w h
    rw [wp_X0_couples_4] at h
    refine j_iload_n O 3 3 dX0_couples_4 rfl rfl ?_
    refine j_aload_n O 0 0 dX0_couples_5 rfl rfl ?_
    refine j_getR O cfX0 2 (Nat.le_of_ble_eq_true rfl) ⟨_, rfl⟩ q360 dX0_couples_6 h (fun o1 h => ?_)
    obtain ⟨k2, e_k2, g_k2⟩ := h
    subst e_k2
    have h := g_k2
    refine j_getIN O cfX1 5 (Nat.le_of_ble_eq_true rfl) (.inl rfl) (lw_n q242 rfl) dX0_couples_9 h (fun v3 h => ?_)
    obtain ⟨c4, h⟩ := h
    obtain ⟨c5, h⟩ := h
    refine j_icmp_ge O (tgt := 37) dX0_couples_12 (by decide) c4 c5 h (fun h => ?_) (fun h => ?_)
    · refine j_iload_n O 2 2 dX0_couples_37 rfl rfl ?_
      exact j_iret O hr dX0_couples_38 h
    · refine j_iload_n O 2 2 dX0_couples_15 rfl rfl ?_
      refine j_aloadq_n O 1 1 dX0_couples_16 rfl rfl ?_
      refine j_iload_n O 3 3 dX0_couples_17 rfl rfl ?_
      obtain ⟨k6, e_k6, g_k6⟩ := h
      subst e_k6
      have h := g_k6
      obtain ⟨e9, h⟩ := h
      refine fin_I O ⟨Nat.zero_le _, Nat.zero_le _⟩ (run_V (As := [vI (x3)]) (st := [vI (x2)]) O (mt_X2_isWed (xl x) (xG x) _ _ _ _ h) e9 cfX2.1 q1310 q1311 q1312 q123 q1313 hy_X2_isWed (Nat.le_of_ble_eq_true rfl) (Nat.le_of_ble_eq_true rfl) ⟨Nat.zero_le _, Nat.zero_le _⟩ rfl (Nat.le_of_ble_eq_true rfl) dX0_couples_18) (fun r7 w8 h => ?_)
      obtain ⟨c10, h⟩ := h
      refine j_if_eq O (tgt := 28) dX0_couples_21 (by decide) c10 h (fun h => ?_) (fun h => ?_)
      · refine j_iconst O dX0_couples_28 ?_
        exact (J.sub [0, 1, 3] rfl <| wk_X0_couples_29 O hr hm _ _ _ _ _ _ ih _ h)
      · refine j_iconst O dX0_couples_24 ?_
        refine j_goto O (tgt := 29) dX0_couples_25 (by decide) ?_
        exact (J.sub [0, 1, 3] rfl <| wk_X0_couples_29 O hr hm _ _ _ _ _ _ ih _ h)
theorem mt_X0_couples (l : Launch) (G : GW) (this : Nat) (p1 : Option Nat) (w : Wd) (Q : Int → Wd → Prop) (h : wp_X0_couples this p1 w Q) : MI l G yX0_couples cX0_couples 4 (.int) 2 0 0 [.ref (adG G (this)), vR G (p1)] w Q := by
  refine met_I (fun G => [.ref (adG G (this)), vR G (p1)]) (by decide) (fun G => by cases p1 <;> exact Nat.le_of_ble_eq_true rfl) (fun x O hl hm hr => ?_)
  subst hl
  have O : OK x "DowryBoxes" cX0_couples 2 := O
  have h : wp_X0_couples this p1 w Q := h
  unfold wp_X0_couples at h
  rw [show lv_args 0 [.ref (adG (xG x) (this)), vR (xG x) (p1)] = [(0, .ref (adG (xG x) (this))), (1, vR (xG x) (p1))] from by cases p1 <;> rfl]
  show J x (TI x Q) w 0 0 0 [(0, .ref (adG (xG x) (this))), (1, vR (xG x) (p1))] []
  refine j_iconst O dX0_couples_0 ?_
  refine j_istore_n (L' := [(2, vI (0)), (0, .ref (adG (xG x) (this))), (1, vR (xG x) (p1))]) O 2 dX0_couples_1 rfl (by rw [hm]; decide) (by cases p1 <;> rfl) ?_
  refine j_iconst O dX0_couples_2 ?_
  refine j_istore_n (L' := [(3, vI (0)), (2, vI (0)), (0, .ref (adG (xG x) (this))), (1, vR (xG x) (p1))]) O 3 dX0_couples_3 rfl (by rw [hm]; decide) rfl ?_
  exact (J.sub [2, 3, 1, 0] rfl <| wk_X0_couples_4 O hr hm  _ _  FU _ _ _ h)
theorem hy_J2_size : (yJ2_size.cls = "java/util/ArrayList" ∧ yJ2_size.cls ≠ "java/lang/invoke/MethodHandle" ∧ yJ2_size.cls ≠ "java/lang/invoke/VarHandle" ∧ (parseMethodDescriptor yJ2_size.desc).map (fun d => d.parameters.length) = some 0) := by decide +kernel
theorem mt_J2_size (l : Launch) (G : GW) (this : Nat) (w : Wd) (Q : Int → Wd → Prop) (h : wp_J2_size this w Q) : MI l G yJ2_size cJ2_size 1 (.int) 1 0 0 [.ref (adG G (this))] w Q := by
  refine met_I (fun G => [.ref (adG G (this))]) (by decide) (fun G => Nat.le_of_ble_eq_true rfl) (fun x O hl hm hr => ?_)
  subst hl
  have O : OK x "java/util/ArrayList" cJ2_size 1 := O
  have h : wp_J2_size this w Q := h
  unfold wp_J2_size at h
  show J x (TI x Q) w 0 0 0 [(0, .ref (adG (xG x) (this)))] []
  refine j_aload_n O 0 0 dJ2_size_0 rfl rfl ?_
  refine j_getI O cfJ2 2 (Nat.le_of_ble_eq_true rfl) (.inl rfl) q220 dJ2_size_1 h (fun v1 h => ?_)
  exact j_iret O hr dJ2_size_4 h
theorem hy_X0_count : (yX0_count.cls = "DowryBoxes" ∧ yX0_count.cls ≠ "java/lang/invoke/MethodHandle" ∧ yX0_count.cls ≠ "java/lang/invoke/VarHandle" ∧ (parseMethodDescriptor yX0_count.desc).map (fun d => d.parameters.length) = some 1) := by decide +kernel
theorem wk_X0_count_134 {x : Cx} (O : OK x "DowryBoxes" cX0_count 3) (hr : (xM x).sig.returnType = some .int) (hm : xn x = 2) {Q : Int → Wd → Prop} (this : Nat) (x1 : Int) (w : Wd) (h : wp_X0_count_134 Q this x1 w) : J x (TI x Q) w 0 0 134 [(0, .ref (adG (xG x) (this))), (1, vI (x1))] [] := by
  unfold wp_X0_count_134 at h
  refine j_aload_n O 0 0 dX0_count_134 rfl rfl ?_
  refine j_getA O cfX0 1 (Nat.le_of_ble_eq_true rfl) ⟨_, rfl⟩ q359 dX0_count_135 h (fun k1 h => ?_)
  refine j_iload_n O 1 1 dX0_count_138 rfl rfl ?_
  refine j_bipush (m := 6) O dX0_count_139 bi_6 ?_
  refine j_isub O dX0_count_141 ?_
  refine j_iald O dX0_count_142 h (fun v2 h => ?_)
  exact j_iret O hr dX0_count_143 h
theorem wk_X0_count_144 {x : Cx} (O : OK x "DowryBoxes" cX0_count 3) (hr : (xM x).sig.returnType = some .int) (hm : xn x = 2) {Q : Int → Wd → Prop} (this : Nat) (x1 : Int) (w : Wd) (h : wp_X0_count_144 Q this x1 w) : J x (TI x Q) w 0 0 144 [(0, .ref (adG (xG x) (this))), (1, vI (x1))] [] := by
  unfold wp_X0_count_144 at h
  refine j_aload_n O 0 0 dX0_count_144 rfl rfl ?_
  refine j_getA O cfX0 1 (Nat.le_of_ble_eq_true rfl) ⟨_, rfl⟩ q359 dX0_count_145 h (fun k1 h => ?_)
  refine j_iload_n O 1 1 dX0_count_148 rfl rfl ?_
  refine j_iconst O dX0_count_149 ?_
  refine j_isub O dX0_count_150 ?_
  refine j_iald O dX0_count_151 h (fun v2 h => ?_)
  exact j_iret O hr dX0_count_152 h
theorem mt_X0_count (l : Launch) (G : GW) (this : Nat) (p1 : Int) (w : Wd) (Q : Int → Wd → Prop) (h : wp_X0_count this p1 w Q) : MI l G yX0_count cX0_count 2 (.int) 3 0 0 [.ref (adG G (this)), vI (p1)] w Q := by
  refine met_I (fun G => [.ref (adG G (this)), vI (p1)]) (by decide) (fun G => Nat.le_of_ble_eq_true rfl) (fun x O hl hm hr => ?_)
  subst hl
  have O : OK x "DowryBoxes" cX0_count 3 := O
  have h : wp_X0_count this p1 w Q := h
  unfold wp_X0_count at h
  show J x (TI x Q) w 0 0 0 [(0, .ref (adG (xG x) (this))), (1, vI (p1))] []
  refine j_iload_n O 1 1 dX0_count_0 rfl rfl ?_
  obtain ⟨ca, h⟩ := h
  rcases Classical.em (p1 = 0) with e0 | e0
  · have h := h.1 e0
    refine j_tableIn O (tgt := 80) dX0_count_1 ca (by omega) (by omega) (by rw [e0]; rfl) (by decide) ?_
    refine j_aload_n O 0 0 dX0_count_80 rfl rfl ?_
    refine j_getR O cfX0 2 (Nat.le_of_ble_eq_true rfl) ⟨_, rfl⟩ q360 dX0_count_81 h (fun o1 h => ?_)
    obtain ⟨k2, e_k2, g_k2⟩ := h
    subst e_k2
    have h := g_k2
    refine j_getIN O cfX1 5 (Nat.le_of_ble_eq_true rfl) (.inl rfl) (lw_n q242 rfl) dX0_count_84 h (fun v3 h => ?_)
    exact j_iret O hr dX0_count_87 h
  have h := h.2 e0
  rcases Classical.em (p1 = 1) with e1 | e1
  · have h := h.1 e1
    refine j_tableIn O (tgt := 88) dX0_count_1 ca (by omega) (by omega) (by rw [e1]; rfl) (by decide) ?_
    refine j_aload_n O 0 0 dX0_count_88 rfl rfl ?_
    refine j_getR O cfX0 2 (Nat.le_of_ble_eq_true rfl) ⟨_, rfl⟩ q360 dX0_count_89 h (fun o4 h => ?_)
    obtain ⟨k5, e_k5, g_k5⟩ := h
    subst e_k5
    have h := g_k5
    refine j_getIN O cfX1 6 (Nat.le_of_ble_eq_true rfl) (.inl rfl) (lw_n q244 rfl) dX0_count_92 h (fun v6 h => ?_)
    exact j_iret O hr dX0_count_95 h
  have h := h.2 e1
  rcases Classical.em (p1 = 2) with e2 | e2
  · have h := h.1 e2
    refine j_tableIn O (tgt := 96) dX0_count_1 ca (by omega) (by omega) (by rw [e2]; rfl) (by decide) ?_
    refine j_aload_n O 0 0 dX0_count_96 rfl rfl ?_
    refine j_aload_n O 0 0 dX0_count_97 rfl rfl ?_
    obtain ⟨e9, h⟩ := h
    refine fin_R O ⟨Nat.zero_le _, Nat.zero_le _⟩ (run_V (As := []) (st := [.ref (adG (xG x) (this))]) O (mt_X0_table (xl x) (xG x) _ _ _ h) e9 cfX0.1 q574 q576 qs5 q121 q577 hy_X0_table (Nat.le_of_ble_eq_true rfl) (Nat.le_of_ble_eq_true rfl) ⟨Nat.zero_le _, Nat.zero_le _⟩ rfl (Nat.le_of_ble_eq_true rfl) dX0_count_98) (fun o7 w8 h => ?_)
    obtain ⟨e12, h⟩ := h
    refine fin_I O ⟨Nat.zero_le _, Nat.zero_le _⟩ (run_V (As := [vR (xG x) (o7)]) (st := []) O (mt_X0_couples (xl x) (xG x) _ _ _ _ h) e12 cfX0.1 q1492 q1494 qs44 q121 q1495 hy_X0_couples (Nat.le_of_ble_eq_true rfl) (Nat.le_of_ble_eq_true rfl) ⟨Nat.zero_le _, Nat.zero_le _⟩ rfl (Nat.le_of_ble_eq_true rfl) dX0_count_101) (fun r10 w11 h => ?_)
    exact j_iret O hr dX0_count_104 h
  have h := h.2 e2
  rcases Classical.em (p1 = 3) with e3 | e3
  · have h := h.1 e3
    refine j_tableIn O (tgt := 105) dX0_count_1 ca (by omega) (by omega) (by rw [e3]; rfl) (by decide) ?_
    refine j_aload_n O 0 0 dX0_count_105 rfl rfl ?_
    refine j_getR O cfX0 2 (Nat.le_of_ble_eq_true rfl) ⟨_, rfl⟩ q360 dX0_count_106 h (fun o13 h => ?_)
    obtain ⟨k14, e_k14, g_k14⟩ := h
    subst e_k14
    have h := g_k14
    refine j_getIN O cfX1 7 (Nat.le_of_ble_eq_true rfl) (.inl rfl) (lw_n q246 rfl) dX0_count_109 h (fun v15 h => ?_)
    exact j_iret O hr dX0_count_112 h
  have h := h.2 e3
  rcases Classical.em (p1 = 4) with e4 | e4
  · have h := h.1 e4
    refine j_tableIn O (tgt := 113) dX0_count_1 ca (by omega) (by omega) (by rw [e4]; rfl) (by decide) ?_
    refine j_aload_n O 0 0 dX0_count_113 rfl rfl ?_
    refine j_getR O cfX0 2 (Nat.le_of_ble_eq_true rfl) ⟨_, rfl⟩ q360 dX0_count_114 h (fun o16 h => ?_)
    obtain ⟨k17, e_k17, g_k17⟩ := h
    subst e_k17
    have h := g_k17
    refine j_getRN O cfX1 4 (Nat.le_of_ble_eq_true rfl) ⟨_, rfl⟩ (lw_n q240 rfl) dX0_count_117 h (fun o18 h => ?_)
    obtain ⟨k19, e_k19, g_k19⟩ := h
    subst e_k19
    have h := g_k19
    obtain ⟨e22, h⟩ := h
    refine fin_I O ⟨Nat.zero_le _, Nat.zero_le _⟩ (run_V (As := []) (st := []) O (mt_J2_size (xl x) (xG x) _ _ _ h) e22 cfJ2.1 q777 q648 q649 q126 q650 hy_J2_size (Nat.le_of_ble_eq_true rfl) (Nat.le_of_ble_eq_true rfl) ⟨Nat.zero_le _, Nat.zero_le _⟩ rfl (Nat.le_of_ble_eq_true rfl) dX0_count_120) (fun r20 w21 h => ?_)
    exact j_iret O hr dX0_count_123 h
  have h := h.2 e4
  rcases Classical.em (p1 = 5) with e5 | e5
  · have h := h.1 e5
    refine j_tableIn O (tgt := 124) dX0_count_1 ca (by omega) (by omega) (by rw [e5]; rfl) (by decide) ?_
    refine j_aload_n O 0 0 dX0_count_124 rfl rfl ?_
    refine j_getI O cfX0 15 (Nat.le_of_ble_eq_true rfl) (.inl rfl) q373 dX0_count_125 h (fun v23 h => ?_)
    exact j_iret O hr dX0_count_128 h
  have h := h.2 e5
  rcases Classical.em (p1 = 6) with e6 | e6
  · have h := h.1 e6
    refine j_tableIn O (tgt := 129) dX0_count_1 ca (by omega) (by omega) (by rw [e6]; rfl) (by decide) ?_
    refine j_aload_n O 0 0 dX0_count_129 rfl rfl ?_
    refine j_getI O cfX0 11 (Nat.le_of_ble_eq_true rfl) (.inl rfl) q369 dX0_count_130 h (fun v24 h => ?_)
    exact j_iret O hr dX0_count_133 h
  have h := h.2 e6
  rcases Classical.em (p1 = 7) with e7 | e7
  · have h := h.1 e7
    refine j_tableIn O (tgt := 134) dX0_count_1 ca (by omega) (by omega) (by rw [e7]; rfl) (by decide) ?_
    exact (J.sub [0, 1] rfl <| wk_X0_count_134 O hr hm  _ _  _ h)
  have h := h.2 e7
  rcases Classical.em (p1 = 8) with e8 | e8
  · have h := h.1 e8
    refine j_tableIn O (tgt := 134) dX0_count_1 ca (by omega) (by omega) (by rw [e8]; rfl) (by decide) ?_
    exact (J.sub [0, 1] rfl <| wk_X0_count_134 O hr hm  _ _  _ h)
  have h := h.2 e8
  rcases Classical.em (p1 = 9) with e9 | e9
  · have h := h.1 e9
    refine j_tableIn O (tgt := 134) dX0_count_1 ca (by omega) (by omega) (by rw [e9]; rfl) (by decide) ?_
    exact (J.sub [0, 1] rfl <| wk_X0_count_134 O hr hm  _ _  _ h)
  have h := h.2 e9
  rcases Classical.em (p1 = 10) with e10 | e10
  · have h := h.1 e10
    refine j_tableIn O (tgt := 144) dX0_count_1 ca (by omega) (by omega) (by rw [e10]; rfl) (by decide) ?_
    exact (J.sub [0, 1] rfl <| wk_X0_count_144 O hr hm  _ _  _ h)
  have h := h.2 e10
  rcases Classical.em (p1 = 11) with e11 | e11
  · have h := h.1 e11
    refine j_tableIn O (tgt := 144) dX0_count_1 ca (by omega) (by omega) (by rw [e11]; rfl) (by decide) ?_
    exact (J.sub [0, 1] rfl <| wk_X0_count_144 O hr hm  _ _  _ h)
  have h := h.2 e11
  rcases Classical.em (p1 = 12) with e12 | e12
  · have h := h.1 e12
    refine j_tableIn O (tgt := 153) dX0_count_1 ca (by omega) (by omega) (by rw [e12]; rfl) (by decide) ?_
    refine j_aload_n O 0 0 dX0_count_153 rfl rfl ?_
    refine j_getR O cfX0 2 (Nat.le_of_ble_eq_true rfl) ⟨_, rfl⟩ q360 dX0_count_154 h (fun o25 h => ?_)
    obtain ⟨k26, e_k26, g_k26⟩ := h
    subst e_k26
    have h := g_k26
    refine j_getIN O cfX1 10 (Nat.le_of_ble_eq_true rfl) (.inl rfl) (lw_n q252 rfl) dX0_count_157 h (fun v27 h => ?_)
    exact j_iret O hr dX0_count_160 h
  have h := h.2 e12
  rcases Classical.em (p1 = 13) with e13 | e13
  · have h := h.1 e13
    refine j_tableIn O (tgt := 161) dX0_count_1 ca (by omega) (by omega) (by rw [e13]; rfl) (by decide) ?_
    refine j_aload_n O 0 0 dX0_count_161 rfl rfl ?_
    obtain ⟨e30, h⟩ := h
    refine fin_R O ⟨Nat.zero_le _, Nat.zero_le _⟩ (run_V (As := []) (st := []) O (mt_X0_table (xl x) (xG x) _ _ _ h) e30 cfX0.1 q574 q576 qs5 q121 q577 hy_X0_table (Nat.le_of_ble_eq_true rfl) (Nat.le_of_ble_eq_true rfl) ⟨Nat.zero_le _, Nat.zero_le _⟩ rfl (Nat.le_of_ble_eq_true rfl) dX0_count_162) (fun o28 w29 h => ?_)
    obtain ⟨k31, e_k31, g_k31⟩ := h
    subst e_k31
    have h := g_k31
    refine j_getIN O cfX2 5 (Nat.le_of_ble_eq_true rfl) (.inl rfl) (lw_n q188 rfl) dX0_count_165 h (fun v32 h => ?_)
    exact j_iret O hr dX0_count_168 h
  have h := h.2 e13
  rcases Classical.em (p1 = 14) with e14 | e14
  · have h := h.1 e14
    refine j_tableIn O (tgt := 169) dX0_count_1 ca (by omega) (by omega) (by rw [e14]; rfl) (by decide) ?_
    refine j_aload_n O 0 0 dX0_count_169 rfl rfl ?_
    refine j_getR O cfX0 2 (Nat.le_of_ble_eq_true rfl) ⟨_, rfl⟩ q360 dX0_count_170 h (fun o33 h => ?_)
    obtain ⟨k34, e_k34, g_k34⟩ := h
    subst e_k34
    have h := g_k34
    refine j_getIN O cfX1 8 (Nat.le_of_ble_eq_true rfl) (.inl rfl) (lw_n q248 rfl) dX0_count_173 h (fun v35 h => ?_)
    exact j_iret O hr dX0_count_176 h
  have h := h.2 e14
  rcases Classical.em (p1 = 15) with e15 | e15
  · have h := h.1 e15
    refine j_tableIn O (tgt := 177) dX0_count_1 ca (by omega) (by omega) (by rw [e15]; rfl) (by decide) ?_
    refine j_aload_n O 0 0 dX0_count_177 rfl rfl ?_
    refine j_getR O cfX0 2 (Nat.le_of_ble_eq_true rfl) ⟨_, rfl⟩ q360 dX0_count_178 h (fun o36 h => ?_)
    obtain ⟨k37, e_k37, g_k37⟩ := h
    subst e_k37
    have h := g_k37
    refine j_getIN O cfX1 9 (Nat.le_of_ble_eq_true rfl) (.inl rfl) (lw_n q250 rfl) dX0_count_181 h (fun v38 h => ?_)
    exact j_iret O hr dX0_count_184 h
  have h := h.2 e15
  refine j_tableOut O (tgt := 185) dX0_count_1 ca (by omega) (by decide) ?_
  refine j_iconst O dX0_count_185 ?_
  exact j_iret O hr dX0_count_186 h
theorem hy_X0_in : (yX0_in.cls = "DowryBoxes" ∧ yX0_in.cls ≠ "java/lang/invoke/MethodHandle" ∧ yX0_in.cls ≠ "java/lang/invoke/VarHandle" ∧ (parseMethodDescriptor yX0_in.desc).map (fun d => d.parameters.length) = some 3) := by decide +kernel
theorem mt_X0_in (l : Launch) (G : GW) (p1 : Int) (p2 : Int) (p3 : Int) (w : Wd) (Q : Int → Wd → Prop) (h : wp_X0_in p1 p2 p3 w Q) : MI l G yX0_in cX0_in 3 (.boolean) 1 0 0 [vI (p1), vI (p2), vI (p3)] w Q := by
  refine met_I (fun G => [vI (p1), vI (p2), vI (p3)]) (by decide) (fun G => Nat.le_of_ble_eq_true rfl) (fun x O hl hm hr => ?_)
  subst hl
  have O : OK x "DowryBoxes" cX0_in 1 := O
  have h : wp_X0_in p1 p2 p3 w Q := h
  unfold wp_X0_in at h
  show J x (TI x Q) w 0 0 0 [(0, vI (p1)), (1, vI (p2)), (2, vI (p3))] []
  refine j_iload_n O 0 0 dX0_in_0 rfl rfl ?_
  refine j_iload_n O 1 1 dX0_in_1 rfl rfl ?_
  obtain ⟨c1, h⟩ := h
  obtain ⟨c2, h⟩ := h
  refine j_icmp_lt O (tgt := 14) dX0_in_2 (by decide) c1 c2 h (fun h => ?_) (fun h => ?_)
  · refine j_iconst O dX0_in_14 ?_
    exact j_zret O hr dX0_in_15 h
  · refine j_iload_n O 0 0 dX0_in_5 rfl rfl ?_
    refine j_iload_n O 2 2 dX0_in_6 rfl rfl ?_
    obtain ⟨c3, h⟩ := h
    obtain ⟨c4, h⟩ := h
    refine j_icmp_gt O (tgt := 14) dX0_in_7 (by decide) c3 c4 h (fun h => ?_) (fun h => ?_)
    · refine j_iconst O dX0_in_14 ?_
      exact j_zret O hr dX0_in_15 h
    · refine j_iconst O dX0_in_10 ?_
      refine j_goto O (tgt := 15) dX0_in_11 (by decide) ?_
      exact j_zret O hr dX0_in_15 h
theorem hy_X2_pinsAt : (yX2_pinsAt.cls = "DowryBoxes$Table" ∧ yX2_pinsAt.cls ≠ "java/lang/invoke/MethodHandle" ∧ yX2_pinsAt.cls ≠ "java/lang/invoke/VarHandle" ∧ (parseMethodDescriptor yX2_pinsAt.desc).map (fun d => d.parameters.length) = some 2) := by decide +kernel
theorem mt_X2_pinsAt (l : Launch) (G : GW) (this : Nat) (p1 : Int) (p2 : Int) (w : Wd) (Q : Int → Wd → Prop) (h : wp_X2_pinsAt this p1 p2 w Q) : MI l G yX2_pinsAt cX2_pinsAt 3 (.int) 1 0 0 [.ref (adG G (this)), vI (p1), vI (p2)] w Q := by
  refine met_I (fun G => [.ref (adG G (this)), vI (p1), vI (p2)]) (by decide) (fun G => Nat.le_of_ble_eq_true rfl) (fun x O hl hm hr => ?_)
  subst hl
  have O : OK x "DowryBoxes$Table" cX2_pinsAt 1 := O
  have h : wp_X2_pinsAt this p1 p2 w Q := h
  unfold wp_X2_pinsAt at h
  show J x (TI x Q) w 0 0 0 [(0, .ref (adG (xG x) (this))), (1, vI (p1)), (2, vI (p2))] []
  refine j_aload_n O 0 0 dX2_pinsAt_0 rfl rfl ?_
  refine j_getA O cfX2 0 (Nat.le_of_ble_eq_true rfl) ⟨_, rfl⟩ q177 dX2_pinsAt_1 h (fun k1 h => ?_)
  refine j_bipush (m := 8) O dX2_pinsAt_4 bi_8 ?_
  refine j_iload_n O 1 1 dX2_pinsAt_6 rfl rfl ?_
  refine j_imul O dX2_pinsAt_7 ?_
  refine j_iload_n O 2 2 dX2_pinsAt_8 rfl rfl ?_
  refine j_iadd O dX2_pinsAt_9 ?_
  refine j_iald O dX2_pinsAt_10 h (fun v2 h => ?_)
  exact j_iret O hr dX2_pinsAt_11 h
theorem hy_X2_notesAt : (yX2_notesAt.cls = "DowryBoxes$Table" ∧ yX2_notesAt.cls ≠ "java/lang/invoke/MethodHandle" ∧ yX2_notesAt.cls ≠ "java/lang/invoke/VarHandle" ∧ (parseMethodDescriptor yX2_notesAt.desc).map (fun d => d.parameters.length) = some 2) := by decide +kernel
theorem mt_X2_notesAt (l : Launch) (G : GW) (this : Nat) (p1 : Int) (p2 : Int) (w : Wd) (Q : Int → Wd → Prop) (h : wp_X2_notesAt this p1 p2 w Q) : MI l G yX2_notesAt cX2_notesAt 3 (.int) 2 0 0 [.ref (adG G (this)), vI (p1), vI (p2)] w Q := by
  refine met_I (fun G => [.ref (adG G (this)), vI (p1), vI (p2)]) (by decide) (fun G => Nat.le_of_ble_eq_true rfl) (fun x O hl hm hr => ?_)
  subst hl
  have O : OK x "DowryBoxes$Table" cX2_notesAt 2 := O
  have h : wp_X2_notesAt this p1 p2 w Q := h
  unfold wp_X2_notesAt at h
  show J x (TI x Q) w 0 0 0 [(0, .ref (adG (xG x) (this))), (1, vI (p1)), (2, vI (p2))] []
  refine j_aload_n O 0 0 dX2_notesAt_0 rfl rfl ?_
  refine j_iload_n O 1 1 dX2_notesAt_1 rfl rfl ?_
  refine j_iload_n O 2 2 dX2_notesAt_2 rfl rfl ?_
  obtain ⟨e3, h⟩ := h
  refine fin_I O ⟨Nat.zero_le _, Nat.zero_le _⟩ (run_V (As := [vI (p1), vI (p2)]) (st := []) O (mt_X2_pinsAt (xl x) (xG x) _ _ _ _ _ h) e3 cfX2.1 q598 q587 q588 q123 q589 hy_X2_pinsAt (Nat.le_of_ble_eq_true rfl) (Nat.le_of_ble_eq_true rfl) ⟨Nat.zero_le _, Nat.zero_le _⟩ rfl (Nat.le_of_ble_eq_true rfl) dX2_notesAt_3) (fun r1 w2 h => ?_)
  refine j_aload_n O 0 0 dX2_notesAt_6 rfl rfl ?_
  refine j_getA O cfX2 1 (Nat.le_of_ble_eq_true rfl) ⟨_, rfl⟩ q179 dX2_notesAt_7 h (fun k4 h => ?_)
  refine j_iload_n O 1 1 dX2_notesAt_10 rfl rfl ?_
  refine j_iald O dX2_notesAt_11 h (fun v5 h => ?_)
  refine j_iconst O dX2_notesAt_12 ?_
  refine j_ixor O dX2_notesAt_13 ?_
  refine j_iand O dX2_notesAt_14 ?_
  exact j_iret O hr dX2_notesAt_15 h
theorem hy_J5_bitCount : (yJ5_bitCount.cls = "java/lang/Integer" ∧ yJ5_bitCount.cls ≠ "java/lang/invoke/MethodHandle" ∧ yJ5_bitCount.cls ≠ "java/lang/invoke/VarHandle" ∧ (parseMethodDescriptor yJ5_bitCount.desc).map (fun d => d.parameters.length) = some 1) := by decide +kernel
theorem mt_J5_bitCount (l : Launch) (G : GW) (p1 : Int) (w : Wd) (Q : Int → Wd → Prop) (h : wp_J5_bitCount p1 w Q) : MI l G yJ5_bitCount cJ5_bitCount 1 (.int) 1 0 0 [vI (p1)] w Q := by
  refine met_I (fun G => [vI (p1)]) (by decide) (fun G => Nat.le_of_ble_eq_true rfl) (fun x O hl hm hr => ?_)
  subst hl
  have O : OK x "java/lang/Integer" cJ5_bitCount 1 := O
  have h : wp_J5_bitCount p1 w Q := h
  unfold wp_J5_bitCount at h
  show J x (TI x Q) w 0 0 0 [(0, vI (p1))] []
  refine j_iload_n O 0 0 dJ5_bitCount_0 rfl rfl ?_
  refine j_iload_n O 0 0 dJ5_bitCount_1 rfl rfl ?_
  refine j_iconst O dJ5_bitCount_2 ?_
  refine j_iushr' O dJ5_bitCount_3 ?_
  refine j_ldcw (m := 1431655765) O dJ5_bitCount_4 q605 ld_1431655765 ?_
  refine j_iand O dJ5_bitCount_7 ?_
  refine j_isub O dJ5_bitCount_8 ?_
  refine j_istore_n (L' := [(0, vI (p1 - (ian (ius p1 1) 1431655765)))]) O 0 dJ5_bitCount_9 rfl (by rw [hm]; decide) rfl ?_
  refine j_iload_n O 0 0 dJ5_bitCount_10 rfl rfl ?_
  refine j_ldcw (m := 858993459) O dJ5_bitCount_11 q606 ld_858993459 ?_
  refine j_iand O dJ5_bitCount_14 ?_
  refine j_iload_n O 0 0 dJ5_bitCount_15 rfl rfl ?_
  refine j_iconst O dJ5_bitCount_16 ?_
  refine j_iushr' O dJ5_bitCount_17 ?_
  refine j_ldcw (m := 858993459) O dJ5_bitCount_18 q606 ld_858993459 ?_
  refine j_iand O dJ5_bitCount_21 ?_
  refine j_iadd O dJ5_bitCount_22 ?_
  refine j_istore_n (L' := [(0, vI ((ian (p1 - (ian (ius p1 1) 1431655765)) 858993459) + (ian (ius (p1 - (ian (ius p1 1) 1431655765)) 2) 858993459)))]) O 0 dJ5_bitCount_23 rfl (by rw [hm]; decide) rfl ?_
  refine j_iload_n O 0 0 dJ5_bitCount_24 rfl rfl ?_
  refine j_iload_n O 0 0 dJ5_bitCount_25 rfl rfl ?_
  refine j_iconst O dJ5_bitCount_26 ?_
  refine j_iushr' O dJ5_bitCount_27 ?_
  refine j_iadd O dJ5_bitCount_28 ?_
  refine j_ldcw (m := 252645135) O dJ5_bitCount_29 q607 ld_252645135 ?_
  refine j_iand O dJ5_bitCount_32 ?_
  refine j_istore_n (L' := [(0, vI (ian (((ian (p1 - (ian (ius p1 1) 1431655765)) 858993459) + (ian (ius (p1 - (ian (ius p1 1) 1431655765)) 2) 858993459)) + (ius ((ian (p1 - (ian (ius p1 1) 1431655765)) 858993459) + (ian (ius (p1 - (ian (ius p1 1) 1431655765)) 2) 858993459)) 4)) 252645135))]) O 0 dJ5_bitCount_33 rfl (by rw [hm]; decide) rfl ?_
  refine j_iload_n O 0 0 dJ5_bitCount_34 rfl rfl ?_
  refine j_iload_n O 0 0 dJ5_bitCount_35 rfl rfl ?_
  refine j_bipush (m := 8) O dJ5_bitCount_36 bi_8 ?_
  refine j_iushr' O dJ5_bitCount_38 ?_
  refine j_iadd O dJ5_bitCount_39 ?_
  refine j_istore_n (L' := [(0, vI ((ian (((ian (p1 - (ian (ius p1 1) 1431655765)) 858993459) + (ian (ius (p1 - (ian (ius p1 1) 1431655765)) 2) 858993459)) + (ius ((ian (p1 - (ian (ius p1 1) 1431655765)) 858993459) + (ian (ius (p1 - (ian (ius p1 1) 1431655765)) 2) 858993459)) 4)) 252645135) + (ius (ian (((ian (p1 - (ian (ius p1 1) 1431655765)) 858993459) + (ian (ius (p1 - (ian (ius p1 1) 1431655765)) 2) 858993459)) + (ius ((ian (p1 - (ian (ius p1 1) 1431655765)) 858993459) + (ian (ius (p1 - (ian (ius p1 1) 1431655765)) 2) 858993459)) 4)) 252645135) 8)))]) O 0 dJ5_bitCount_40 rfl (by rw [hm]; decide) rfl ?_
  refine j_iload_n O 0 0 dJ5_bitCount_41 rfl rfl ?_
  refine j_iload_n O 0 0 dJ5_bitCount_42 rfl rfl ?_
  refine j_bipush (m := 16) O dJ5_bitCount_43 bi_16 ?_
  refine j_iushr' O dJ5_bitCount_45 ?_
  refine j_iadd O dJ5_bitCount_46 ?_
  refine j_istore_n (L' := [(0, vI (((ian (((ian (p1 - (ian (ius p1 1) 1431655765)) 858993459) + (ian (ius (p1 - (ian (ius p1 1) 1431655765)) 2) 858993459)) + (ius ((ian (p1 - (ian (ius p1 1) 1431655765)) 858993459) + (ian (ius (p1 - (ian (ius p1 1) 1431655765)) 2) 858993459)) 4)) 252645135) + (ius (ian (((ian (p1 - (ian (ius p1 1) 1431655765)) 858993459) + (ian (ius (p1 - (ian (ius p1 1) 1431655765)) 2) 858993459)) + (ius ((ian (p1 - (ian (ius p1 1) 1431655765)) 858993459) + (ian (ius (p1 - (ian (ius p1 1) 1431655765)) 2) 858993459)) 4)) 252645135) 8)) + (ius ((ian (((ian (p1 - (ian (ius p1 1) 1431655765)) 858993459) + (ian (ius (p1 - (ian (ius p1 1) 1431655765)) 2) 858993459)) + (ius ((ian (p1 - (ian (ius p1 1) 1431655765)) 858993459) + (ian (ius (p1 - (ian (ius p1 1) 1431655765)) 2) 858993459)) 4)) 252645135) + (ius (ian (((ian (p1 - (ian (ius p1 1) 1431655765)) 858993459) + (ian (ius (p1 - (ian (ius p1 1) 1431655765)) 2) 858993459)) + (ius ((ian (p1 - (ian (ius p1 1) 1431655765)) 858993459) + (ian (ius (p1 - (ian (ius p1 1) 1431655765)) 2) 858993459)) 4)) 252645135) 8)) 16)))]) O 0 dJ5_bitCount_47 rfl (by rw [hm]; decide) rfl ?_
  refine j_iload_n O 0 0 dJ5_bitCount_48 rfl rfl ?_
  refine j_bipush (m := 63) O dJ5_bitCount_49 bi_63 ?_
  refine j_iand O dJ5_bitCount_51 ?_
  exact j_iret O hr dJ5_bitCount_52 h
theorem hy_X0_ones : (yX0_ones.cls = "DowryBoxes" ∧ yX0_ones.cls ≠ "java/lang/invoke/MethodHandle" ∧ yX0_ones.cls ≠ "java/lang/invoke/VarHandle" ∧ (parseMethodDescriptor yX0_ones.desc).map (fun d => d.parameters.length) = some 1) := by decide +kernel
theorem mt_X0_ones (l : Launch) (G : GW) (p1 : Int) (w : Wd) (Q : Int → Wd → Prop) (h : wp_X0_ones p1 w Q) : MI l G yX0_ones cX0_ones 1 (.int) 2 0 0 [vI (p1)] w Q := by
  refine met_I (fun G => [vI (p1)]) (by decide) (fun G => Nat.le_of_ble_eq_true rfl) (fun x O hl hm hr => ?_)
  subst hl
  have O : OK x "DowryBoxes" cX0_ones 2 := O
  have h : wp_X0_ones p1 w Q := h
  unfold wp_X0_ones at h
  show J x (TI x Q) w 0 0 0 [(0, vI (p1))] []
  refine j_iload_n O 0 0 dX0_ones_0 rfl rfl ?_
  refine fin_I O ⟨Nat.zero_le _, Nat.zero_le _⟩ (run_S (As := [vI (p1)]) (st := []) O (mt_J5_bitCount (xl x) (xG x) _ _ _ h) q602 q603 q132 q604 hy_J5_bitCount.2 (Nat.le_of_ble_eq_true rfl) (Nat.le_of_ble_eq_true rfl) ⟨Nat.zero_le _, Nat.zero_le _⟩ rfl (Nat.le_of_ble_eq_true rfl) dX0_ones_1) (fun r1 w2 h => ?_)
  exact j_iret O hr dX0_ones_4 h
theorem hy_X2_notes : (yX2_notes.cls = "DowryBoxes$Table" ∧ yX2_notes.cls ≠ "java/lang/invoke/MethodHandle" ∧ yX2_notes.cls ≠ "java/lang/invoke/VarHandle" ∧ (parseMethodDescriptor yX2_notes.desc).map (fun d => d.parameters.length) = some 1) := by decide +kernel
theorem wk_X2_notes_4 {x : Cx} (O : OK x "DowryBoxes$Table" cX2_notes 3) (hr : (xM x).sig.returnType = some .int) (hm : xn x = 4) {Q : Int → Wd → Prop} (this : Nat) (x1 : Int) : ∀ (n : Nat) (x2 : Int) (x3 : Int) (w : Wd), wp_X2_notes_4 Q this x1 n x2 x3 w → J x (TI x Q) w 0 0 4 [(0, .ref (adG (xG x) (this))), (1, vI (x1)), (2, vI (x2)), (3, vI (x3))] [] := by
  intro n
  induction n with
  | zero => intro x2 x3 w h; exact False.elim h
  | succ n ih =>
    intro x2 x3 w h
    rw [wp_X2_notes_4] at h
    refine j_iload_n O 3 3 dX2_notes_4 rfl rfl ?_
    refine j_bipush (m := 8) O dX2_notes_5 bi_8 ?_
    obtain ⟨c1, h⟩ := h
    refine j_icmp_ge O (tgt := 28) dX2_notes_7 (by decide) c1 (by decide) h (fun h => ?_) (fun h => ?_)
    · refine j_iload_n O 2 2 dX2_notes_28 rfl rfl ?_
      exact j_iret O hr dX2_notes_29 h
    · refine j_iload_n O 2 2 dX2_notes_10 rfl rfl ?_
      refine j_aload_n O 0 0 dX2_notes_11 rfl rfl ?_
      refine j_iload_n O 1 1 dX2_notes_12 rfl rfl ?_
      refine j_iload_n O 3 3 dX2_notes_13 rfl rfl ?_
      obtain ⟨e4, h⟩ := h
      refine fin_I O ⟨Nat.zero_le _, Nat.zero_le _⟩ (run_V (As := [vI (x1), vI (x3)]) (st := [vI (x2)]) O (mt_X2_notesAt (xl x) (xG x) _ _ _ _ _ h) e4 cfX2.1 q594 q595 q596 q123 q597 hy_X2_notesAt (Nat.le_of_ble_eq_true rfl) (Nat.le_of_ble_eq_true rfl) ⟨Nat.zero_le _, Nat.zero_le _⟩ rfl (Nat.le_of_ble_eq_true rfl) dX2_notes_14) (fun r2 w3 h => ?_)
      refine fin_I O ⟨Nat.zero_le _, Nat.zero_le _⟩ (run_SN (As := [vI (r2)]) (st := [vI (x2)]) O (mt_X0_ones (xl x) (xG x) _ _ _ h) (lw_n q599 rfl) q600 q121 q601 hy_X0_ones.2 (Nat.le_of_ble_eq_true rfl) (Nat.le_of_ble_eq_true rfl) ⟨Nat.zero_le _, Nat.zero_le _⟩ rfl (Nat.le_of_ble_eq_true rfl) dX2_notes_17) (fun r5 w6 h => ?_)
      refine j_iadd O dX2_notes_20 ?_
      refine j_istore_n (L' := [(2, vI (x2 + r5)), (0, .ref (adG (xG x) (this))), (1, vI (x1)), (3, vI (x3))]) O 2 dX2_notes_21 rfl (by rw [hm]; decide) rfl ?_
      refine j_iinc (L' := [(3, vI (x3 + 1)), (2, vI (x2 + r5)), (0, .ref (adG (xG x) (this))), (1, vI (x1))]) O 3 dX2_notes_22 rfl (by rw [hm]; decide) rfl ?_
      refine j_goto O (tgt := 4) dX2_notes_25 (by decide) ?_
      exact (J.sub [2, 3, 1, 0] rfl <| ih _ _ _ h)
theorem mt_X2_notes (l : Launch) (G : GW) (this : Nat) (p1 : Int) (w : Wd) (Q : Int → Wd → Prop) (h : wp_X2_notes this p1 w Q) : MI l G yX2_notes cX2_notes 4 (.int) 3 0 0 [.ref (adG G (this)), vI (p1)] w Q := by
  refine met_I (fun G => [.ref (adG G (this)), vI (p1)]) (by decide) (fun G => Nat.le_of_ble_eq_true rfl) (fun x O hl hm hr => ?_)
  subst hl
  have O : OK x "DowryBoxes$Table" cX2_notes 3 := O
  have h : wp_X2_notes this p1 w Q := h
  unfold wp_X2_notes at h
  show J x (TI x Q) w 0 0 0 [(0, .ref (adG (xG x) (this))), (1, vI (p1))] []
  refine j_iconst O dX2_notes_0 ?_
  refine j_istore_n (L' := [(2, vI (0)), (0, .ref (adG (xG x) (this))), (1, vI (p1))]) O 2 dX2_notes_1 rfl (by rw [hm]; decide) rfl ?_
  refine j_iconst O dX2_notes_2 ?_
  refine j_istore_n (L' := [(3, vI (0)), (2, vI (0)), (0, .ref (adG (xG x) (this))), (1, vI (p1))]) O 3 dX2_notes_3 rfl (by rw [hm]; decide) rfl ?_
  exact (J.sub [2, 3, 1, 0] rfl <| wk_X2_notes_4 O hr hm  _ _  FU _ _ _ h)
theorem hy_X0_drawn : (yX0_drawn.cls = "DowryBoxes" ∧ yX0_drawn.cls ≠ "java/lang/invoke/MethodHandle" ∧ yX0_drawn.cls ≠ "java/lang/invoke/VarHandle" ∧ (parseMethodDescriptor yX0_drawn.desc).map (fun d => d.parameters.length) = some 2) := by decide +kernel
theorem mt_X0_drawn (l : Launch) (G : GW) (this : Nat) (p1 : Int) (p2 : Int) (w : Wd) (Q : Int → Wd → Prop) (h : wp_X0_drawn this p1 p2 w Q) : MI l G yX0_drawn cX0_drawn 3 (.int) 4 0 0 [.ref (adG G (this)), vI (p1), vI (p2)] w Q := by
  refine met_I (fun G => [.ref (adG G (this)), vI (p1), vI (p2)]) (by decide) (fun G => Nat.le_of_ble_eq_true rfl) (fun x O hl hm hr => ?_)
  subst hl
  have O : OK x "DowryBoxes" cX0_drawn 4 := O
  have h : wp_X0_drawn this p1 p2 w Q := h
  unfold wp_X0_drawn at h
  show J x (TI x Q) w 0 0 0 [(0, .ref (adG (xG x) (this))), (1, vI (p1)), (2, vI (p2))] []
  refine j_aload_n O 0 0 dX0_drawn_0 rfl rfl ?_
  refine j_getI O cfX0 32 (Nat.le_of_ble_eq_true rfl) (.inl rfl) q390 dX0_drawn_1 h (fun v1 h => ?_)
  refine j_iconst O dX0_drawn_4 ?_
  obtain ⟨c2, h⟩ := h
  refine j_icmp_eq O (tgt := 22) dX0_drawn_5 (by decide) c2 (by decide) h (fun h => ?_) (fun h => ?_)
  · refine j_iconst O dX0_drawn_22 ?_
    exact j_iret O hr dX0_drawn_23 h
  · refine j_iload_n O 1 1 dX0_drawn_8 rfl rfl ?_
    refine j_iconst O dX0_drawn_9 ?_
    refine j_aload_n O 0 0 dX0_drawn_10 rfl rfl ?_
    refine j_getI O cfX0 32 (Nat.le_of_ble_eq_true rfl) (.inl rfl) q390 dX0_drawn_11 h (fun v3 h => ?_)
    refine j_iconst O dX0_drawn_14 ?_
    refine j_isub O dX0_drawn_15 ?_
    refine fin_I O ⟨Nat.zero_le _, Nat.zero_le _⟩ (run_S (As := [vI (p1), vI (0), vI ((v3 - 1))]) (st := []) O (mt_X0_in (xl x) (xG x) _ _ _ _ _ h) q465 q466 q121 q467 hy_X0_in.2 (Nat.le_of_ble_eq_true rfl) (Nat.le_of_ble_eq_true rfl) ⟨Nat.zero_le _, Nat.zero_le _⟩ rfl (Nat.le_of_ble_eq_true rfl) dX0_drawn_16) (fun r4 w5 h => ?_)
    obtain ⟨c6, h⟩ := h
    refine j_if_ne O (tgt := 24) dX0_drawn_19 (by decide) c6 h (fun h => ?_) (fun h => ?_)
    · refine j_iload_n O 2 2 dX0_drawn_24 rfl rfl ?_
      obtain ⟨ca, h⟩ := h
      rcases Classical.em (p2 = 0) with e0 | e0
      · have h := h.1 e0
        refine j_tableIn O (tgt := 52) dX0_drawn_25 ca (by omega) (by omega) (by rw [e0]; rfl) (by decide) ?_
        refine j_aload_n O 0 0 dX0_drawn_52 rfl rfl ?_
        refine j_getR O cfX0 31 (Nat.le_of_ble_eq_true rfl) ⟨_, rfl⟩ q389 dX0_drawn_53 h (fun o7 h => ?_)
        refine j_iload_n O 1 1 dX0_drawn_56 rfl rfl ?_
        obtain ⟨k8, e_k8, g_k8⟩ := h
        subst e_k8
        have h := g_k8
        obtain ⟨e11, h⟩ := h
        refine fin_I O ⟨Nat.zero_le _, Nat.zero_le _⟩ (run_V (As := [vI (p1)]) (st := []) O (mt_X2_notes (xl x) (xG x) _ _ _ _ h) e11 cfX2.1 q590 q591 q592 q123 q593 hy_X2_notes (Nat.le_of_ble_eq_true rfl) (Nat.le_of_ble_eq_true rfl) ⟨Nat.zero_le _, Nat.zero_le _⟩ rfl (Nat.le_of_ble_eq_true rfl) dX0_drawn_57) (fun r9 w10 h => ?_)
        exact j_iret O hr dX0_drawn_60 h
      have h := h.2 e0
      rcases Classical.em (p2 = 1) with e1 | e1
      · have h := h.1 e1
        refine j_tableIn O (tgt := 61) dX0_drawn_25 ca (by omega) (by omega) (by rw [e1]; rfl) (by decide) ?_
        refine j_aload_n O 0 0 dX0_drawn_61 rfl rfl ?_
        refine j_getR O cfX0 31 (Nat.le_of_ble_eq_true rfl) ⟨_, rfl⟩ q389 dX0_drawn_62 h (fun o12 h => ?_)
        obtain ⟨k13, e_k13, g_k13⟩ := h
        subst e_k13
        have h := g_k13
        refine j_getAN O cfX2 2 (Nat.le_of_ble_eq_true rfl) ⟨_, rfl⟩ (lw_n q182 rfl) dX0_drawn_65 h (fun k14 h => ?_)
        refine j_iload_n O 1 1 dX0_drawn_68 rfl rfl ?_
        refine j_iald O dX0_drawn_69 h (fun v15 h => ?_)
        exact j_iret O hr dX0_drawn_70 h
      have h := h.2 e1
      rcases Classical.em (p2 = 2) with e2 | e2
      · have h := h.1 e2
        refine j_tableIn O (tgt := 71) dX0_drawn_25 ca (by omega) (by omega) (by rw [e2]; rfl) (by decide) ?_
        refine j_aload_n O 0 0 dX0_drawn_71 rfl rfl ?_
        refine j_getR O cfX0 31 (Nat.le_of_ble_eq_true rfl) ⟨_, rfl⟩ q389 dX0_drawn_72 h (fun o16 h => ?_)
        obtain ⟨k17, e_k17, g_k17⟩ := h
        subst e_k17
        have h := g_k17
        refine j_getAN O cfX2 4 (Nat.le_of_ble_eq_true rfl) ⟨_, rfl⟩ (lw_n q186 rfl) dX0_drawn_75 h (fun k18 h => ?_)
        refine j_iload_n O 1 1 dX0_drawn_78 rfl rfl ?_
        refine j_iald O dX0_drawn_79 h (fun v19 h => ?_)
        exact j_iret O hr dX0_drawn_80 h
      have h := h.2 e2
      refine j_tableOut O (tgt := 81) dX0_drawn_25 ca (by omega) (by decide) ?_
      refine j_iconst O dX0_drawn_81 ?_
      exact j_iret O hr dX0_drawn_82 h
    · refine j_iconst O dX0_drawn_22 ?_
      exact j_iret O hr dX0_drawn_23 h
theorem hy_X0_draw : (yX0_draw.cls = "DowryBoxes" ∧ yX0_draw.cls ≠ "java/lang/invoke/MethodHandle" ∧ yX0_draw.cls ≠ "java/lang/invoke/VarHandle" ∧ (parseMethodDescriptor yX0_draw.desc).map (fun d => d.parameters.length) = some 1) := by decide +kernel
theorem mt_X0_draw (l : Launch) (G : GW) (this : Nat) (p1 : Int) (w : Wd) (Q : Int → Wd → Prop) (h : wp_X0_draw this p1 w Q) : MI l G yX0_draw cX0_draw 2 (.int) 1 0 0 [.ref (adG G (this)), vI (p1)] w Q := by
  refine met_I (fun G => [.ref (adG G (this)), vI (p1)]) (by decide) (fun G => Nat.le_of_ble_eq_true rfl) (fun x O hl hm hr => ?_)
  subst hl
  have O : OK x "DowryBoxes" cX0_draw 1 := O
  have h : wp_X0_draw this p1 w Q := h
  unfold wp_X0_draw at h
  show J x (TI x Q) w 0 0 0 [(0, .ref (adG (xG x) (this))), (1, vI (p1))] []
  refine j_aload_n O 0 0 dX0_draw_0 rfl rfl ?_
  refine j_aload_n O 0 0 dX0_draw_1 rfl rfl ?_
  refine j_getI O cfX0 33 (Nat.le_of_ble_eq_true rfl) (.inl rfl) q391 dX0_draw_2 h (fun v1 h => ?_)
  refine j_i2l O dX0_draw_5 h (fun h => ?_)
  refine j_ldc2 (m := 1103) O dX0_draw_6 q1523 l2_1103 ?_
  refine j_lmul O dX0_draw_9 ?_
  refine j_ldc2 (m := 12345) O dX0_draw_10 q1524 l2_12345 ?_
  refine j_ladd O dX0_draw_13 ?_
  refine j_ldc2 (m := 1000003) O dX0_draw_14 q1525 l2_1000003 ?_
  refine j_lrem O dX0_draw_17 h (fun h => ?_)
  refine j_l2i O dX0_draw_18 ?_
  refine j_putI O cfX0 33 (Nat.le_of_ble_eq_true rfl) rfl q391 rfl dX0_draw_19 h (fun w2 h => ?_)
  refine j_aload_n O 0 0 dX0_draw_22 rfl rfl ?_
  refine j_getI O cfX0 33 (Nat.le_of_ble_eq_true rfl) (.inl rfl) q391 dX0_draw_23 h (fun v3 h => ?_)
  refine j_iload_n O 1 1 dX0_draw_26 rfl rfl ?_
  refine j_irem O dX0_draw_27 h (fun h => ?_)
  exact j_iret O hr dX0_draw_28 h
theorem hy_X0_refuse : (yX0_refuse.cls = "DowryBoxes" ∧ yX0_refuse.cls ≠ "java/lang/invoke/MethodHandle" ∧ yX0_refuse.cls ≠ "java/lang/invoke/VarHandle" ∧ (parseMethodDescriptor yX0_refuse.desc).map (fun d => d.parameters.length) = some 1) := by decide +kernel
theorem mt_X0_refuse (l : Launch) (G : GW) (this : Nat) (p1 : Int) (w : Wd) (Q : Int → Wd → Prop) (h : wp_X0_refuse this p1 w Q) : MI l G yX0_refuse cX0_refuse 2 (.int) 1 0 0 [.ref (adG G (this)), vI (p1)] w Q := by
  refine met_I (fun G => [.ref (adG G (this)), vI (p1)]) (by decide) (fun G => Nat.le_of_ble_eq_true rfl) (fun x O hl hm hr => ?_)
  subst hl
  have O : OK x "DowryBoxes" cX0_refuse 1 := O
  have h : wp_X0_refuse this p1 w Q := h
  unfold wp_X0_refuse at h
  show J x (TI x Q) w 0 0 0 [(0, .ref (adG (xG x) (this))), (1, vI (p1))] []
  refine j_aload_n O 0 0 dX0_refuse_0 rfl rfl ?_
  refine j_iload_n O 1 1 dX0_refuse_1 rfl rfl ?_
  refine j_putI O cfX0 0 (Nat.le_of_ble_eq_true rfl) rfl q358 rfl dX0_refuse_2 h (fun w1 h => ?_)
  refine j_aload_n O 0 0 dX0_refuse_5 rfl rfl ?_
  refine j_getA O cfX0 1 (Nat.le_of_ble_eq_true rfl) ⟨_, rfl⟩ q359 dX0_refuse_6 h (fun k2 h => ?_)
  refine j_iload_n O 1 1 dX0_refuse_9 rfl rfl ?_
  refine j_ineg O dX0_refuse_10 ?_
  refine j_dup2_11 O dX0_refuse_11 rfl rfl ?_
  refine j_iald O dX0_refuse_12 h (fun v3 h => ?_)
  refine j_iconst O dX0_refuse_13 ?_
  refine j_iadd O dX0_refuse_14 ?_
  refine j_iast O dX0_refuse_15 h (fun w4 h => ?_)
  refine j_iload_n O 1 1 dX0_refuse_16 rfl rfl ?_
  exact j_iret O hr dX0_refuse_17 h
theorem hy_X2_rows : (yX2_rows.cls = "DowryBoxes$Table" ∧ yX2_rows.cls ≠ "java/lang/invoke/MethodHandle" ∧ yX2_rows.cls ≠ "java/lang/invoke/VarHandle" ∧ (parseMethodDescriptor yX2_rows.desc).map (fun d => d.parameters.length) = some 2) := by decide +kernel
theorem mt_X2_rows (l : Launch) (G : GW) (p1 : Option Nat) (p2 : Option Nat) (w : Wd) (Q : Wd → Prop) (h : wp_X2_rows p1 p2 w Q) : MV l G yX2_rows cX2_rows 2 1 0 0 [vR G (p1), vR G (p2)] w Q := by
  refine met_V (fun G => [vR G (p1), vR G (p2)]) (by decide) (fun G => by cases p1 <;> cases p2 <;> exact Nat.le_of_ble_eq_true rfl) (fun x O hl hm hr _ => ?_)
  subst hl
  have O : OK x "DowryBoxes$Table" cX2_rows 1 := O
  have h : wp_X2_rows p1 p2 w Q := h
  unfold wp_X2_rows at h
  rw [show lv_args 0 [vR (xG x) (p1), vR (xG x) (p2)] = [(0, vR (xG x) (p1)), (1, vR (xG x) (p2))] from by cases p1 <;> cases p2 <;> rfl]
  show J x (TV x Q) w 0 0 0 [(0, vR (xG x) (p1)), (1, vR (xG x) (p2))] []
  refine j_aloadq_n O 1 1 dX2_rows_0 rfl rfl ?_
  refine j_iconst O dX2_rows_1 ?_
  refine j_aloadq_n O 0 0 dX2_rows_2 rfl rfl ?_
  refine j_iconst O dX2_rows_3 ?_
  refine j_aloadq_n O 0 0 dX2_rows_4 rfl rfl ?_
  obtain ⟨k1, e_k1, g_k1⟩ := h
  subst e_k1
  have h := g_k1
  refine j_alen O dX2_rows_5 h (fun v2 h => ?_)
  obtain ⟨k3, e_k3, g_k3⟩ := h
  subst e_k3
  have h := g_k3
  refine j_copyI O q483 (Nat.le_of_ble_eq_true rfl) (Nat.le_of_ble_eq_true rfl) dX2_rows_6 h (fun w4 h => ?_)
  exact j_vret O hr dX2_rows_9 h
theorem hy_X2_takes : (yX2_takes.cls = "DowryBoxes$Table" ∧ yX2_takes.cls ≠ "java/lang/invoke/MethodHandle" ∧ yX2_takes.cls ≠ "java/lang/invoke/VarHandle" ∧ (parseMethodDescriptor yX2_takes.desc).map (fun d => d.parameters.length) = some 1) := by decide +kernel
theorem mt_X2_takes (l : Launch) (G : GW) (this : Nat) (p1 : Option Nat) (w : Wd) (Q : Wd → Prop) (h : wp_X2_takes this p1 w Q) : MV l G yX2_takes cX2_takes 2 2 0 0 [.ref (adG G (this)), vR G (p1)] w Q := by
  refine met_V (fun G => [.ref (adG G (this)), vR G (p1)]) (by decide) (fun G => by cases p1 <;> exact Nat.le_of_ble_eq_true rfl) (fun x O hl hm hr _ => ?_)
  subst hl
  have O : OK x "DowryBoxes$Table" cX2_takes 2 := O
  have h : wp_X2_takes this p1 w Q := h
  unfold wp_X2_takes at h
  rw [show lv_args 0 [.ref (adG (xG x) (this)), vR (xG x) (p1)] = [(0, .ref (adG (xG x) (this))), (1, vR (xG x) (p1))] from by cases p1 <;> rfl]
  show J x (TV x Q) w 0 0 0 [(0, .ref (adG (xG x) (this))), (1, vR (xG x) (p1))] []
  refine j_aload_n O 0 0 dX2_takes_0 rfl rfl ?_
  refine j_getA O cfX2 0 (Nat.le_of_ble_eq_true rfl) ⟨_, rfl⟩ q177 dX2_takes_1 h (fun k1 h => ?_)
  refine j_aloadq_n O 1 1 dX2_takes_4 rfl rfl ?_
  obtain ⟨k2, e_k2, g_k2⟩ := h
  subst e_k2
  have h := g_k2
  refine j_getA O cfX2 0 (Nat.le_of_ble_eq_true rfl) ⟨_, rfl⟩ q177 dX2_takes_5 h (fun k3 h => ?_)
  refine fin_V O ⟨Nat.zero_le _, Nat.zero_le _⟩ (run_S (As := [vR (xG x) ((some k1)), vR (xG x) ((some k3))]) (st := []) O (mt_X2_rows (xl x) (xG x) _ _ _ _ h) q480 q481 q123 q482 hy_X2_rows.2 (Nat.le_of_ble_eq_true rfl) (Nat.le_of_ble_eq_true rfl) ⟨Nat.zero_le _, Nat.zero_le _⟩ rfl (Nat.le_of_ble_eq_true rfl) dX2_takes_8) (fun w4 h => ?_)
  refine j_aload_n O 0 0 dX2_takes_11 rfl rfl ?_
  refine j_getA O cfX2 1 (Nat.le_of_ble_eq_true rfl) ⟨_, rfl⟩ q179 dX2_takes_12 h (fun k5 h => ?_)
  refine j_aloadq_n O 1 1 dX2_takes_15 rfl rfl ?_
  refine j_getA O cfX2 1 (Nat.le_of_ble_eq_true rfl) ⟨_, rfl⟩ q179 dX2_takes_16 h (fun k6 h => ?_)
  refine fin_V O ⟨Nat.zero_le _, Nat.zero_le _⟩ (run_S (As := [vR (xG x) ((some k5)), vR (xG x) ((some k6))]) (st := []) O (mt_X2_rows (xl x) (xG x) _ _ _ _ h) q480 q481 q123 q482 hy_X2_rows.2 (Nat.le_of_ble_eq_true rfl) (Nat.le_of_ble_eq_true rfl) ⟨Nat.zero_le _, Nat.zero_le _⟩ rfl (Nat.le_of_ble_eq_true rfl) dX2_takes_19) (fun w7 h => ?_)
  refine j_aload_n O 0 0 dX2_takes_22 rfl rfl ?_
  refine j_getA O cfX2 2 (Nat.le_of_ble_eq_true rfl) ⟨_, rfl⟩ q181 dX2_takes_23 h (fun k8 h => ?_)
  refine j_aloadq_n O 1 1 dX2_takes_26 rfl rfl ?_
  refine j_getA O cfX2 2 (Nat.le_of_ble_eq_true rfl) ⟨_, rfl⟩ q181 dX2_takes_27 h (fun k9 h => ?_)
  refine fin_V O ⟨Nat.zero_le _, Nat.zero_le _⟩ (run_S (As := [vR (xG x) ((some k8)), vR (xG x) ((some k9))]) (st := []) O (mt_X2_rows (xl x) (xG x) _ _ _ _ h) q480 q481 q123 q482 hy_X2_rows.2 (Nat.le_of_ble_eq_true rfl) (Nat.le_of_ble_eq_true rfl) ⟨Nat.zero_le _, Nat.zero_le _⟩ rfl (Nat.le_of_ble_eq_true rfl) dX2_takes_30) (fun w10 h => ?_)
  refine j_aload_n O 0 0 dX2_takes_33 rfl rfl ?_
  refine j_getA O cfX2 3 (Nat.le_of_ble_eq_true rfl) ⟨_, rfl⟩ q183 dX2_takes_34 h (fun k11 h => ?_)
  refine j_aloadq_n O 1 1 dX2_takes_37 rfl rfl ?_
  refine j_getA O cfX2 3 (Nat.le_of_ble_eq_true rfl) ⟨_, rfl⟩ q183 dX2_takes_38 h (fun k12 h => ?_)
  refine fin_V O ⟨Nat.zero_le _, Nat.zero_le _⟩ (run_S (As := [vR (xG x) ((some k11)), vR (xG x) ((some k12))]) (st := []) O (mt_X2_rows (xl x) (xG x) _ _ _ _ h) q480 q481 q123 q482 hy_X2_rows.2 (Nat.le_of_ble_eq_true rfl) (Nat.le_of_ble_eq_true rfl) ⟨Nat.zero_le _, Nat.zero_le _⟩ rfl (Nat.le_of_ble_eq_true rfl) dX2_takes_41) (fun w13 h => ?_)
  refine j_aload_n O 0 0 dX2_takes_44 rfl rfl ?_
  refine j_getA O cfX2 4 (Nat.le_of_ble_eq_true rfl) ⟨_, rfl⟩ q185 dX2_takes_45 h (fun k14 h => ?_)
  refine j_aloadq_n O 1 1 dX2_takes_48 rfl rfl ?_
  refine j_getA O cfX2 4 (Nat.le_of_ble_eq_true rfl) ⟨_, rfl⟩ q185 dX2_takes_49 h (fun k15 h => ?_)
  refine fin_V O ⟨Nat.zero_le _, Nat.zero_le _⟩ (run_S (As := [vR (xG x) ((some k14)), vR (xG x) ((some k15))]) (st := []) O (mt_X2_rows (xl x) (xG x) _ _ _ _ h) q480 q481 q123 q482 hy_X2_rows.2 (Nat.le_of_ble_eq_true rfl) (Nat.le_of_ble_eq_true rfl) ⟨Nat.zero_le _, Nat.zero_le _⟩ rfl (Nat.le_of_ble_eq_true rfl) dX2_takes_52) (fun w16 h => ?_)
  refine j_aload_n O 0 0 dX2_takes_55 rfl rfl ?_
  refine j_aloadq_n O 1 1 dX2_takes_56 rfl rfl ?_
  refine j_getI O cfX2 5 (Nat.le_of_ble_eq_true rfl) (.inl rfl) q187 dX2_takes_57 h (fun v17 h => ?_)
  refine j_putI O cfX2 5 (Nat.le_of_ble_eq_true rfl) rfl q187 rfl dX2_takes_60 h (fun w18 h => ?_)
  exact j_vret O hr dX2_takes_63 h
theorem hy_X0_isOf : (yX0_isOf.cls = "DowryBoxes" ∧ yX0_isOf.cls ≠ "java/lang/invoke/MethodHandle" ∧ yX0_isOf.cls ≠ "java/lang/invoke/VarHandle" ∧ (parseMethodDescriptor yX0_isOf.desc).map (fun d => d.parameters.length) = some 2) := by decide +kernel
theorem mt_X0_isOf (l : Launch) (G : GW) (p1 : Int) (p2 : Int) (w : Wd) (Q : Int → Wd → Prop) (h : wp_X0_isOf p1 p2 w Q) : MI l G yX0_isOf cX0_isOf 2 (.boolean) 1 0 0 [vI (p1), vI (p2)] w Q := by
  refine met_I (fun G => [vI (p1), vI (p2)]) (by decide) (fun G => Nat.le_of_ble_eq_true rfl) (fun x O hl hm hr => ?_)
  subst hl
  have O : OK x "DowryBoxes" cX0_isOf 1 := O
  have h : wp_X0_isOf p1 p2 w Q := h
  unfold wp_X0_isOf at h
  show J x (TI x Q) w 0 0 0 [(0, vI (p1)), (1, vI (p2))] []
  refine j_iload_n O 0 0 dX0_isOf_0 rfl rfl ?_
  refine j_iload_n O 1 1 dX0_isOf_1 rfl rfl ?_
  refine j_ishr O dX0_isOf_2 ?_
  refine j_iconst O dX0_isOf_3 ?_
  refine j_iand O dX0_isOf_4 ?_
  refine j_iconst O dX0_isOf_5 ?_
  obtain ⟨c1, h⟩ := h
  refine j_icmp_ne O (tgt := 13) dX0_isOf_6 (by decide) c1 (by decide) h (fun h => ?_) (fun h => ?_)
  · refine j_iconst O dX0_isOf_13 ?_
    exact j_zret O hr dX0_isOf_14 h
  · refine j_iconst O dX0_isOf_9 ?_
    refine j_goto O (tgt := 14) dX0_isOf_10 (by decide) ?_
    exact j_zret O hr dX0_isOf_14 h
theorem hy_X0_ears : (yX0_ears.cls = "DowryBoxes" ∧ yX0_ears.cls ≠ "java/lang/invoke/MethodHandle" ∧ yX0_ears.cls ≠ "java/lang/invoke/VarHandle" ∧ (parseMethodDescriptor yX0_ears.desc).map (fun d => d.parameters.length) = some 3) := by decide +kernel
theorem wk_X0_ears_42 {x : Cx} (O : OK x "DowryBoxes" cX0_ears 3) (hr : (xM x).sig.returnType = some .int) (hm : xn x = 6) {Q : Int → Wd → Prop} (K6 : Int → Int → Wd → Prop) (this : Nat) (x1 : Option Nat) (x2 : Int) (x3 : Int) (x5 : Int) (s0 : Int) (s1 : Int) (hK6 : ∀ (y4 : Int) (y5 : Int) (w : Wd), K6 y4 y5 w → J x (TI x Q) w 0 0 6 [(0, .ref (adG (xG x) (this))), (1, vR (xG x) (x1)), (2, vI (x2)), (3, vI (x3)), (4, vI (y4)), (5, vI (y5))] []) (w : Wd) (h : wp_X0_ears_42 Q K6 this x1 x2 x3 x5 s0 s1 w) : J x (TI x Q) w 0 0 42 [(0, .ref (adG (xG x) (this))), (1, vR (xG x) (x1)), (2, vI (x2)), (3, vI (x3)), (5, vI (x5))] [vI (s0), vI (s1)] := by
  unfold wp_X0_ears_42 at h
  refine j_iadd O dX0_ears_42 ?_
  refine j_istore (L' := [(4, vI (s1 + s0)), (0, .ref (adG (xG x) (this))), (1, vR (xG x) (x1)), (2, vI (x2)), (3, vI (x3)), (5, vI (x5))]) O dX0_ears_43 (by rw [hm]; decide) rfl ?_
  refine j_iinc (L' := [(5, vI (x5 + 1)), (4, vI (s1 + s0)), (0, .ref (adG (xG x) (this))), (1, vR (xG x) (x1)), (2, vI (x2)), (3, vI (x3))]) O 5 dX0_ears_45 rfl (by rw [hm]; decide) rfl ?_
  refine j_goto O (tgt := 6) dX0_ears_48 (by decide) ?_
  exact (J.sub [2, 3, 4, 5, 1, 0] rfl <| hK6 _ _ _ h)
theorem wk_X0_ears_6 {x : Cx} (O : OK x "DowryBoxes" cX0_ears 3) (hr : (xM x).sig.returnType = some .int) (hm : xn x = 6) {Q : Int → Wd → Prop} (this : Nat) (x1 : Option Nat) (x2 : Int) (x3 : Int) : ∀ (n : Nat) (x4 : Int) (x5 : Int) (w : Wd), wp_X0_ears_6 Q this x1 x2 x3 n x4 x5 w → J x (TI x Q) w 0 0 6 [(0, .ref (adG (xG x) (this))), (1, vR (xG x) (x1)), (2, vI (x2)), (3, vI (x3)), (4, vI (x4)), (5, vI (x5))] [] := by
  intro n
  induction n with
  | zero => intro x4 x5 w h; exact False.elim h
  | succ n ih =>
    intro x4 x5 w h
    rw [wp_X0_ears_6] at h
    refine j_iload O 5 dX0_ears_6 rfl ?_
    refine j_bipush (m := 8) O dX0_ears_8 bi_8 ?_
    obtain ⟨c1, h⟩ := h
    refine j_icmp_ge O (tgt := 51) dX0_ears_10 (by decide) c1 (by decide) h (fun h => ?_) (fun h => ?_)
    · refine j_iload O 4 dX0_ears_51 rfl ?_
      exact j_iret O hr dX0_ears_53 h
    · refine j_iload O 4 dX0_ears_13 rfl ?_
      refine j_aloadq_n O 1 1 dX0_ears_15 rfl rfl ?_
      refine j_iload_n O 2 2 dX0_ears_16 rfl rfl ?_
      refine j_iload O 5 dX0_ears_17 rfl ?_
      obtain ⟨k2, e_k2, g_k2⟩ := h
      subst e_k2
      have h := g_k2
      obtain ⟨e5, h⟩ := h
      refine fin_I O ⟨Nat.zero_le _, Nat.zero_le _⟩ (run_V (As := [vI (x2), vI (x5)]) (st := [vI (x4)]) O (mt_X2_notesAt (xl x) (xG x) _ _ _ _ _ h) e5 cfX2.1 q623 q595 q596 q123 q597 hy_X2_notesAt (Nat.le_of_ble_eq_true rfl) (Nat.le_of_ble_eq_true rfl) ⟨Nat.zero_le _, Nat.zero_le _⟩ rfl (Nat.le_of_ble_eq_true rfl) dX0_ears_19) (fun r3 w4 h => ?_)
      refine j_aload_n O 0 0 dX0_ears_22 rfl rfl ?_
      refine j_getR O cfX0 2 (Nat.le_of_ble_eq_true rfl) ⟨_, rfl⟩ q360 dX0_ears_23 h (fun o6 h => ?_)
      obtain ⟨k7, e_k7, g_k7⟩ := h
      subst e_k7
      have h := g_k7
      refine j_getAN O cfX1 1 (Nat.le_of_ble_eq_true rfl) ⟨_, rfl⟩ (lw_n q234 rfl) dX0_ears_26 h (fun k8 h => ?_)
      refine j_iload_n O 3 3 dX0_ears_29 rfl rfl ?_
      refine j_iald O dX0_ears_30 h (fun v9 h => ?_)
      refine fin_I O ⟨Nat.zero_le _, Nat.zero_le _⟩ (run_S (As := [vI (r3), vI (v9)]) (st := [vI (x4)]) O (mt_X0_isOf (xl x) (xG x) _ _ _ _ h) q624 q625 q121 q626 hy_X0_isOf.2 (Nat.le_of_ble_eq_true rfl) (Nat.le_of_ble_eq_true rfl) ⟨Nat.zero_le _, Nat.zero_le _⟩ rfl (Nat.le_of_ble_eq_true rfl) dX0_ears_31) (fun r10 w11 h => ?_)
      obtain ⟨c12, h⟩ := h
      refine j_if_eq O (tgt := 41) dX0_ears_34 (by decide) c12 h (fun h => ?_) (fun h => ?_)
      · refine j_iconst O dX0_ears_41 ?_
        exact (J.sub [0, 1, 2, 3, 5] rfl <| wk_X0_ears_42 O hr hm _ _ _ _ _ _ _ _ ih _ h)
      · refine j_iconst O dX0_ears_37 ?_
        refine j_goto O (tgt := 42) dX0_ears_38 (by decide) ?_
        exact (J.sub [0, 1, 2, 3, 5] rfl <| wk_X0_ears_42 O hr hm _ _ _ _ _ _ _ _ ih _ h)
theorem mt_X0_ears (l : Launch) (G : GW) (this : Nat) (p1 : Option Nat) (p2 : Int) (p3 : Int) (w : Wd) (Q : Int → Wd → Prop) (h : wp_X0_ears this p1 p2 p3 w Q) : MI l G yX0_ears cX0_ears 6 (.int) 3 0 0 [.ref (adG G (this)), vR G (p1), vI (p2), vI (p3)] w Q := by
  refine met_I (fun G => [.ref (adG G (this)), vR G (p1), vI (p2), vI (p3)]) (by decide) (fun G => by cases p1 <;> exact Nat.le_of_ble_eq_true rfl) (fun x O hl hm hr => ?_)
  subst hl
  have O : OK x "DowryBoxes" cX0_ears 3 := O
  have h : wp_X0_ears this p1 p2 p3 w Q := h
  unfold wp_X0_ears at h
  rw [show lv_args 0 [.ref (adG (xG x) (this)), vR (xG x) (p1), vI (p2), vI (p3)] = [(0, .ref (adG (xG x) (this))), (1, vR (xG x) (p1)), (2, vI (p2)), (3, vI (p3))] from by cases p1 <;> rfl]
  show J x (TI x Q) w 0 0 0 [(0, .ref (adG (xG x) (this))), (1, vR (xG x) (p1)), (2, vI (p2)), (3, vI (p3))] []
  refine j_iconst O dX0_ears_0 ?_
  refine j_istore (L' := [(4, vI (0)), (0, .ref (adG (xG x) (this))), (1, vR (xG x) (p1)), (2, vI (p2)), (3, vI (p3))]) O dX0_ears_1 (by rw [hm]; decide) rfl ?_
  refine j_iconst O dX0_ears_3 ?_
  refine j_istore (L' := [(5, vI (0)), (4, vI (0)), (0, .ref (adG (xG x) (this))), (1, vR (xG x) (p1)), (2, vI (p2)), (3, vI (p3))]) O dX0_ears_4 (by rw [hm]; decide) rfl ?_
  exact (J.sub [2, 3, 4, 5, 1, 0] rfl <| wk_X0_ears_6 O hr hm  _ _ _ _  FU _ _ _ h)
theorem hy_J7_checkIndex : (yJ7_checkIndex.cls = "jdk/internal/util/Preconditions" ∧ yJ7_checkIndex.cls ≠ "java/lang/invoke/MethodHandle" ∧ yJ7_checkIndex.cls ≠ "java/lang/invoke/VarHandle" ∧ (parseMethodDescriptor yJ7_checkIndex.desc).map (fun d => d.parameters.length) = some 3) := by decide +kernel
theorem wk_J7_checkIndex_9 {x : Cx} (O : OK x "jdk/internal/util/Preconditions" cJ7_checkIndex 1) (hr : (xM x).sig.returnType = some .int) (hm : xn x = 3) {Q : Int → Wd → Prop} (x0 : Int) (x1 : Int) (x2 : Option Nat) (w : Wd) (h : wp_J7_checkIndex_9 Q x0 x1 x2 w) : J x (TI x Q) w 0 0 9 [(0, vI (x0)), (1, vI (x1)), (2, vR (xG x) (x2))] [] := by
  unfold wp_J7_checkIndex_9 at h
  refine j_aloadq_n O 2 2 dJ7_checkIndex_9 rfl rfl ?_
  refine j_iload_n O 0 0 dJ7_checkIndex_10 rfl rfl ?_
  refine j_iload_n O 1 1 dJ7_checkIndex_11 rfl rfl ?_
  exact False.elim h
theorem mt_J7_checkIndex (l : Launch) (G : GW) (p1 : Int) (p2 : Int) (p3 : Option Nat) (w : Wd) (Q : Int → Wd → Prop) (h : wp_J7_checkIndex p1 p2 p3 w Q) : MI l G yJ7_checkIndex cJ7_checkIndex 3 (.int) 1 0 0 [vI (p1), vI (p2), vR G (p3)] w Q := by
  refine met_I (fun G => [vI (p1), vI (p2), vR G (p3)]) (by decide) (fun G => by cases p3 <;> exact Nat.le_of_ble_eq_true rfl) (fun x O hl hm hr => ?_)
  subst hl
  have O : OK x "jdk/internal/util/Preconditions" cJ7_checkIndex 1 := O
  have h : wp_J7_checkIndex p1 p2 p3 w Q := h
  unfold wp_J7_checkIndex at h
  rw [show lv_args 0 [vI (p1), vI (p2), vR (xG x) (p3)] = [(0, vI (p1)), (1, vI (p2)), (2, vR (xG x) (p3))] from by cases p3 <;> rfl]
  show J x (TI x Q) w 0 0 0 [(0, vI (p1)), (1, vI (p2)), (2, vR (xG x) (p3))] []
  refine j_iload_n O 0 0 dJ7_checkIndex_0 rfl rfl ?_
  obtain ⟨c1, h⟩ := h
  refine j_if_lt O (tgt := 9) dJ7_checkIndex_1 (by decide) c1 h (fun h => ?_) (fun h => ?_)
  · exact (J.sub [0, 1, 2] rfl <| wk_J7_checkIndex_9 O hr hm  _ _ _  _ h)
  · refine j_iload_n O 0 0 dJ7_checkIndex_4 rfl rfl ?_
    refine j_iload_n O 1 1 dJ7_checkIndex_5 rfl rfl ?_
    obtain ⟨c2, h⟩ := h
    obtain ⟨c3, h⟩ := h
    refine j_icmp_lt O (tgt := 16) dJ7_checkIndex_6 (by decide) c2 c3 h (fun h => ?_) (fun h => ?_)
    · refine j_iload_n O 0 0 dJ7_checkIndex_16 rfl rfl ?_
      exact j_iret O hr dJ7_checkIndex_17 h
    · exact (J.sub [0, 1, 2] rfl <| wk_J7_checkIndex_9 O hr hm  _ _ _  _ h)
theorem hy_J6_checkIndex : (yJ6_checkIndex.cls = "java/util/Objects" ∧ yJ6_checkIndex.cls ≠ "java/lang/invoke/MethodHandle" ∧ yJ6_checkIndex.cls ≠ "java/lang/invoke/VarHandle" ∧ (parseMethodDescriptor yJ6_checkIndex.desc).map (fun d => d.parameters.length) = some 2) := by decide +kernel
theorem mt_J6_checkIndex (l : Launch) (G : GW) (p1 : Int) (p2 : Int) (w : Wd) (Q : Int → Wd → Prop) (h : wp_J6_checkIndex p1 p2 w Q) : MI l G yJ6_checkIndex cJ6_checkIndex 2 (.int) 2 0 0 [vI (p1), vI (p2)] w Q := by
  refine met_I (fun G => [vI (p1), vI (p2)]) (by decide) (fun G => Nat.le_of_ble_eq_true rfl) (fun x O hl hm hr => ?_)
  subst hl
  have O : OK x "java/util/Objects" cJ6_checkIndex 2 := O
  have h : wp_J6_checkIndex p1 p2 w Q := h
  unfold wp_J6_checkIndex at h
  show J x (TI x Q) w 0 0 0 [(0, vI (p1)), (1, vI (p2))] []
  refine j_iload_n O 0 0 dJ6_checkIndex_0 rfl rfl ?_
  refine j_iload_n O 1 1 dJ6_checkIndex_1 rfl rfl ?_
  refine j_null O dJ6_checkIndex_2 ?_
  refine fin_I O ⟨Nat.zero_le _, Nat.zero_le _⟩ (run_S (As := [vI (p1), vI (p2), vR (xG x) (none)]) (st := []) O (mt_J7_checkIndex (xl x) (xG x) _ _ _ _ _ h) q634 q635 q134 q636 hy_J7_checkIndex.2 (Nat.le_of_ble_eq_true rfl) (Nat.le_of_ble_eq_true rfl) ⟨Nat.zero_le _, Nat.zero_le _⟩ rfl (Nat.le_of_ble_eq_true rfl) dJ6_checkIndex_3) (fun r1 w2 h => ?_)
  exact j_iret O hr dJ6_checkIndex_6 h
theorem hy_J2_elementData : (yJ2_elementData.cls = "java/util/ArrayList" ∧ yJ2_elementData.cls ≠ "java/lang/invoke/MethodHandle" ∧ yJ2_elementData.cls ≠ "java/lang/invoke/VarHandle" ∧ (parseMethodDescriptor yJ2_elementData.desc).map (fun d => d.parameters.length) = some 1) := by decide +kernel
theorem mt_J2_elementData (l : Launch) (G : GW) (this : Nat) (p1 : Int) (w : Wd) (Q : Option Nat → Wd → Prop) (h : wp_J2_elementData this p1 w Q) : MR l G yJ2_elementData cJ2_elementData 2 (.object "java/lang/Object") 1 0 0 [.ref (adG G (this)), vI (p1)] w Q := by
  refine met_R (fun G => [.ref (adG G (this)), vI (p1)]) (by decide) (fun G => Nat.le_of_ble_eq_true rfl) (fun x O hl hm hr => ?_)
  subst hl
  have O : OK x "java/util/ArrayList" cJ2_elementData 1 := O
  have h : wp_J2_elementData this p1 w Q := h
  unfold wp_J2_elementData at h
  show J x (TR x Q) w 0 0 0 [(0, .ref (adG (xG x) (this))), (1, vI (p1))] []
  refine j_aload_n O 0 0 dJ2_elementData_0 rfl rfl ?_
  refine j_getA O cfJ2 1 (Nat.le_of_ble_eq_true rfl) ⟨_, rfl⟩ q219 dJ2_elementData_1 h (fun k1 h => ?_)
  refine j_iload_n O 1 1 dJ2_elementData_4 rfl rfl ?_
  refine j_aald O (by decide) dJ2_elementData_5 h (fun o2 h => ?_)
  exact j_aret (v := o2) O hr (.inl ⟨_, rfl⟩) dJ2_elementData_6 h
theorem hy_J2_get : (yJ2_get.cls = "java/util/ArrayList" ∧ yJ2_get.cls ≠ "java/lang/invoke/MethodHandle" ∧ yJ2_get.cls ≠ "java/lang/invoke/VarHandle" ∧ (parseMethodDescriptor yJ2_get.desc).map (fun d => d.parameters.length) = some 1) := by decide +kernel
theorem mt_J2_get (l : Launch) (G : GW) (this : Nat) (p1 : Int) (w : Wd) (Q : Option Nat → Wd → Prop) (h : wp_J2_get this p1 w Q) : MR l G yJ2_get cJ2_get 2 (.object "java/lang/Object") 3 0 0 [.ref (adG G (this)), vI (p1)] w Q := by
  refine met_R (fun G => [.ref (adG G (this)), vI (p1)]) (by decide) (fun G => Nat.le_of_ble_eq_true rfl) (fun x O hl hm hr => ?_)
  subst hl
  have O : OK x "java/util/ArrayList" cJ2_get 3 := O
  have h : wp_J2_get this p1 w Q := h
  unfold wp_J2_get at h
  show J x (TR x Q) w 0 0 0 [(0, .ref (adG (xG x) (this))), (1, vI (p1))] []
  refine j_iload_n O 1 1 dJ2_get_0 rfl rfl ?_
  refine j_aload_n O 0 0 dJ2_get_1 rfl rfl ?_
  refine j_getI O cfJ2 2 (Nat.le_of_ble_eq_true rfl) (.inl rfl) q220 dJ2_get_2 h (fun v1 h => ?_)
  refine fin_I O ⟨Nat.zero_le _, Nat.zero_le _⟩ (run_S (As := [vI (p1), vI (v1)]) (st := []) O (mt_J6_checkIndex (xl x) (xG x) _ _ _ _ h) q631 q632 q133 q633 hy_J6_checkIndex.2 (Nat.le_of_ble_eq_true rfl) (Nat.le_of_ble_eq_true rfl) ⟨Nat.zero_le _, Nat.zero_le _⟩ rfl (Nat.le_of_ble_eq_true rfl) dJ2_get_5) (fun r2 w3 h => ?_)
  refine j_pop O dJ2_get_8 rfl ?_
  refine j_aload_n O 0 0 dJ2_get_9 rfl rfl ?_
  refine j_iload_n O 1 1 dJ2_get_10 rfl rfl ?_
  obtain ⟨e6, h⟩ := h
  refine fin_R O ⟨Nat.zero_le _, Nat.zero_le _⟩ (run_V (As := [vI (p1)]) (st := []) O (mt_J2_elementData (xl x) (xG x) _ _ _ _ h) e6 cfJ2.1 q637 q638 q639 q126 q640 hy_J2_elementData (Nat.le_of_ble_eq_true rfl) (Nat.le_of_ble_eq_true rfl) ⟨Nat.zero_le _, Nat.zero_le _⟩ rfl (Nat.le_of_ble_eq_true rfl) dJ2_get_11) (fun o4 w5 h => ?_)
  exact j_aret (v := o4) O hr (.inl ⟨_, rfl⟩) dJ2_get_14 h
theorem hy_X11_of : (yX11_of.cls = "DowryBoxes$Number" ∧ yX11_of.cls ≠ "java/lang/invoke/MethodHandle" ∧ yX11_of.cls ≠ "java/lang/invoke/VarHandle" ∧ (parseMethodDescriptor yX11_of.desc).map (fun d => d.parameters.length) = some 1) := by decide +kernel
theorem mt_X11_of (l : Launch) (G : GW) (this : Nat) (p1 : Option Nat) (w : Wd) (Q : Int → Wd → Prop) (XE : Nat → Wd → Prop) (h : wp_X11_of this p1 w Q XE) : XL l G yX11_of cX11_of 2 1 0 0 [.ref (adG G (this)), vR G (p1)] w Q XE := by
  refine metX_L (fun G => [.ref (adG G (this)), vR G (p1)]) (by decide) (fun G => by cases p1 <;> exact Nat.le_of_ble_eq_true rfl) (fun x O hl hm hr hne => ?_)
  subst hl
  have O : OK x "DowryBoxes$Number" cX11_of 1 := O
  have h : wp_X11_of this p1 w Q XE := h
  unfold wp_X11_of at h
  rw [show lv_args 0 [.ref (adG (xG x) (this)), vR (xG x) (p1)] = [(0, .ref (adG (xG x) (this))), (1, vR (xG x) (p1))] from by cases p1 <;> rfl]
  show J x (TXL x Q XE) w 0 0 0 [(0, .ref (adG (xG x) (this))), (1, vR (xG x) (p1))] []
  refine j_aload_n O 0 0 dX11_of_0 rfl rfl ?_
  refine j_getI O cfX11 0 (Nat.le_of_ble_eq_true rfl) (.inl rfl) q1009 dX11_of_1 h (fun v1 h => ?_)
  refine j_i2l O dX11_of_4 h (fun h => ?_)
  exact J.toX (j_lret O hr dX11_of_5 h)
theorem hy_X12_of : (yX12_of.cls = "DowryBoxes$Value" ∧ yX12_of.cls ≠ "java/lang/invoke/MethodHandle" ∧ yX12_of.cls ≠ "java/lang/invoke/VarHandle" ∧ (parseMethodDescriptor yX12_of.desc).map (fun d => d.parameters.length) = some 1) := by decide +kernel
theorem mt_X12_of (l : Launch) (G : GW) (this : Nat) (p1 : Option Nat) (w : Wd) (Q : Int → Wd → Prop) (XE : Nat → Wd → Prop) (h : wp_X12_of this p1 w Q XE) : XL l G yX12_of cX12_of 2 1 0 0 [.ref (adG G (this)), vR G (p1)] w Q XE := by
  refine metX_L (fun G => [.ref (adG G (this)), vR G (p1)]) (by decide) (fun G => by cases p1 <;> exact Nat.le_of_ble_eq_true rfl) (fun x O hl hm hr hne => ?_)
  subst hl
  have O : OK x "DowryBoxes$Value" cX12_of 1 := O
  have h : wp_X12_of this p1 w Q XE := h
  unfold wp_X12_of at h
  rw [show lv_args 0 [.ref (adG (xG x) (this)), vR (xG x) (p1)] = [(0, .ref (adG (xG x) (this))), (1, vR (xG x) (p1))] from by cases p1 <;> rfl]
  show J x (TXL x Q XE) w 0 0 0 [(0, .ref (adG (xG x) (this))), (1, vR (xG x) (p1))] []
  refine j_aloadq_n O 1 1 dX12_of_0 rfl rfl ?_
  obtain ⟨k1, e_k1, g_k1⟩ := h
  subst e_k1
  have h := g_k1
  refine j_getAN O cfX3 1 (Nat.le_of_ble_eq_true rfl) ⟨_, rfl⟩ (lw_n q350 rfl) dX12_of_1 h (fun k2 h => ?_)
  refine j_aload_n O 0 0 dX12_of_4 rfl rfl ?_
  refine j_getI O cfX12 0 (Nat.le_of_ble_eq_true rfl) (.inl rfl) q1056 dX12_of_5 h (fun v3 h => ?_)
  refine j_lald O dX12_of_8 h (fun v4 h => ?_)
  exact J.toX (j_lret O hr dX12_of_9 h)
theorem hy_X13_of : (yX13_of.cls = "DowryBoxes$Two" ∧ yX13_of.cls ≠ "java/lang/invoke/MethodHandle" ∧ yX13_of.cls ≠ "java/lang/invoke/VarHandle" ∧ (parseMethodDescriptor yX13_of.desc).map (fun d => d.parameters.length) = some 1) := by decide +kernel
theorem hyd_Sum : ("DowryBoxes$Sum" ≠ "java/lang/invoke/MethodHandle" ∧ "DowryBoxes$Sum" ≠ "java/lang/invoke/VarHandle" ∧ (parseMethodDescriptor "(LDowryBoxes$Setting;)J").map (fun d => d.parameters.length) = some 1) := by decide +kernel
theorem rn_X13_of_5 {x : Cx}  (S_X13_of : Nat → Option Nat → Wd → (Int → Wd → Prop) → (Nat → Wd → Prop) → Prop) (D : Nat) (hB : 2 ≤ D) (hS_X13_of : ∀ (l : Launch) (G : GW) (this : Nat) (p1 : Option Nat) (w : Wd) (Q : Int → Wd → Prop) (XE : Nat → Wd → Prop), S_X13_of this p1 w Q XE → XL l G yX13_of cX13_of 8 D 0 0 [.ref (adG G (this)), vR G (p1)] w Q XE) (O : OK x "DowryBoxes$Two" cX13_of (D + 1)) {o : Nat} {a0 : Option Nat} {w : Wd} {Qc : Int → Wd → Prop} {XE : Nat → Wd → Prop} {bc bs : Nat} {L : List (Nat × Value)} {st : List Value} (hb : 0 ≤ bc ∧ 0 ≤ bs) (hroom : (st.map fun v => v.category).sum ≤ 8) (h : wp_dSum S_X13_of o a0 w Qc XE) : RunXX x w bc bs 5 L ([vR (xG x) (a0)].reverse ++ .ref (adG (xG x) o) :: st) st 0 0 (.ref (adG (xG x) o) :: [vR (xG x) (a0)]) (QL (xG x) w Qc) XE := by
  rcases h with ⟨hk, h⟩ | ⟨hk, h⟩ | ⟨hk, h⟩
  · exact runX_A (As := [vR (xG x) (a0)]) (st := st) (x0 := ⟨"DowryBoxes$Sum", "of", "(LDowryBoxes$Setting;)J"⟩) (owner := "DowryBoxes$Sum") O (mt_X11_of (xl x) (xG x) _ _ _ _ _ h) hk cfX11.1 (lw_U q673 q666 q667 q668 q144 q669) (lw_n q665 rfl) hyd_Sum (by omega) (Nat.le_of_ble_eq_true rfl) hb rfl hroom dX13_of_5
  · exact runX_A (As := [vR (xG x) (a0)]) (st := st) (x0 := ⟨"DowryBoxes$Sum", "of", "(LDowryBoxes$Setting;)J"⟩) (owner := "DowryBoxes$Sum") O (mt_X12_of (xl x) (xG x) _ _ _ _ _ h) hk cfX12.1 (lw_U q673 q666 q678 q674 q145 q675) (lw_n q665 rfl) hyd_Sum (by omega) (Nat.le_of_ble_eq_true rfl) hb rfl hroom dX13_of_5
  · exact runX_A (As := [vR (xG x) (a0)]) (st := st) (x0 := ⟨"DowryBoxes$Sum", "of", "(LDowryBoxes$Setting;)J"⟩) (owner := "DowryBoxes$Sum") O (hS_X13_of (xl x) (xG x) _ _ _ _ _ h) hk cfX13.1 (lw_U q673 q666 q670 q671 q146 q672) (lw_n q665 rfl) hyd_Sum (by omega) (Nat.le_of_ble_eq_true rfl) hb rfl hroom dX13_of_5
theorem rn_X13_of_14 {x : Cx}  (S_X13_of : Nat → Option Nat → Wd → (Int → Wd → Prop) → (Nat → Wd → Prop) → Prop) (D : Nat) (hB : 2 ≤ D) (hS_X13_of : ∀ (l : Launch) (G : GW) (this : Nat) (p1 : Option Nat) (w : Wd) (Q : Int → Wd → Prop) (XE : Nat → Wd → Prop), S_X13_of this p1 w Q XE → XL l G yX13_of cX13_of 8 D 0 0 [.ref (adG G (this)), vR G (p1)] w Q XE) (O : OK x "DowryBoxes$Two" cX13_of (D + 1)) {o : Nat} {a0 : Option Nat} {w : Wd} {Qc : Int → Wd → Prop} {XE : Nat → Wd → Prop} {bc bs : Nat} {L : List (Nat × Value)} {st : List Value} (hb : 0 ≤ bc ∧ 0 ≤ bs) (hroom : (st.map fun v => v.category).sum ≤ 8) (h : wp_dSum S_X13_of o a0 w Qc XE) : RunXX x w bc bs 14 L ([vR (xG x) (a0)].reverse ++ .ref (adG (xG x) o) :: st) st 0 0 (.ref (adG (xG x) o) :: [vR (xG x) (a0)]) (QL (xG x) w Qc) XE := by
  rcases h with ⟨hk, h⟩ | ⟨hk, h⟩ | ⟨hk, h⟩
  · exact runX_A (As := [vR (xG x) (a0)]) (st := st) (x0 := ⟨"DowryBoxes$Sum", "of", "(LDowryBoxes$Setting;)J"⟩) (owner := "DowryBoxes$Sum") O (mt_X11_of (xl x) (xG x) _ _ _ _ _ h) hk cfX11.1 (lw_U q673 q666 q667 q668 q144 q669) (lw_n q665 rfl) hyd_Sum (by omega) (Nat.le_of_ble_eq_true rfl) hb rfl hroom dX13_of_14
  · exact runX_A (As := [vR (xG x) (a0)]) (st := st) (x0 := ⟨"DowryBoxes$Sum", "of", "(LDowryBoxes$Setting;)J"⟩) (owner := "DowryBoxes$Sum") O (mt_X12_of (xl x) (xG x) _ _ _ _ _ h) hk cfX12.1 (lw_U q673 q666 q678 q674 q145 q675) (lw_n q665 rfl) hyd_Sum (by omega) (Nat.le_of_ble_eq_true rfl) hb rfl hroom dX13_of_14
  · exact runX_A (As := [vR (xG x) (a0)]) (st := st) (x0 := ⟨"DowryBoxes$Sum", "of", "(LDowryBoxes$Setting;)J"⟩) (owner := "DowryBoxes$Sum") O (hS_X13_of (xl x) (xG x) _ _ _ _ _ h) hk cfX13.1 (lw_U q673 q666 q670 q671 q146 q672) (lw_n q665 rfl) hyd_Sum (by omega) (Nat.le_of_ble_eq_true rfl) hb rfl hroom dX13_of_14
theorem wk_X13_of_137 {x : Cx}  (S_X13_of : Nat → Option Nat → Wd → (Int → Wd → Prop) → (Nat → Wd → Prop) → Prop) (D : Nat) (hB : 2 ≤ D) (hS_X13_of : ∀ (l : Launch) (G : GW) (this : Nat) (p1 : Option Nat) (w : Wd) (Q : Int → Wd → Prop) (XE : Nat → Wd → Prop), S_X13_of this p1 w Q XE → XL l G yX13_of cX13_of 8 D 0 0 [.ref (adG G (this)), vR G (p1)] w Q XE) (O : OK x "DowryBoxes$Two" cX13_of (D + 1)) (hr : (xM x).sig.returnType = some .long) (hm : xn x = 8) (hne : ∀ z ∈ (xc x).exceptionTable.toList, False) {Q : Int → Wd → Prop} {XE : Nat → Wd → Prop} (x1 : Option Nat) (w : Wd) (h : wp_X13_of_137 S_X13_of Q XE x1 w) : J x (TXL x Q XE) w 0 0 137 [(1, vR (xG x) (x1))] [] := by
  unfold wp_X13_of_137 at h
  refine j_aloadq_n O 0 1 dX13_of_137 rfl rfl ?_
  obtain ⟨k1, e_k1, g_k1⟩ := h
  subst e_k1
  have h := g_k1
  refine j_getRN O cfX3 0 (Nat.le_of_ble_eq_true rfl) ⟨_, rfl⟩ (lw_n q348 rfl) dX13_of_138 h (fun o2 h => ?_)
  obtain ⟨k3, e_k3, g_k3⟩ := h
  subst e_k3
  have h := g_k3
  exact jx_throw O hne dX13_of_141 h
theorem wk_X13_of_117 {x : Cx}  (S_X13_of : Nat → Option Nat → Wd → (Int → Wd → Prop) → (Nat → Wd → Prop) → Prop) (D : Nat) (hB : 2 ≤ D) (hS_X13_of : ∀ (l : Launch) (G : GW) (this : Nat) (p1 : Option Nat) (w : Wd) (Q : Int → Wd → Prop) (XE : Nat → Wd → Prop), S_X13_of this p1 w Q XE → XL l G yX13_of cX13_of 8 D 0 0 [.ref (adG G (this)), vR G (p1)] w Q XE) (O : OK x "DowryBoxes$Two" cX13_of (D + 1)) (hr : (xM x).sig.returnType = some .long) (hm : xn x = 8) (hne : ∀ z ∈ (xc x).exceptionTable.toList, False) {Q : Int → Wd → Prop} {XE : Nat → Wd → Prop} (x1 : Option Nat) (s0 : Int) (w : Wd) (h : wp_X13_of_117 S_X13_of Q XE x1 s0 w) : J x (TXL x Q XE) w 0 0 117 [(1, vR (xG x) (x1))] [vL (s0)] := by
  unfold wp_X13_of_117 at h
  refine j_lstore (L' := [(6, vL (s0)), (1, vR (xG x) (x1))]) O dX13_of_117 (by rw [hm]; decide) rfl ?_
  refine j_lload O 0 dX13_of_119 rfl ?_
  refine j_ldc2 (m := 1000000000) O dX13_of_121 q676 l2_1000000000 ?_
  obtain ⟨c1, h⟩ := h
  refine j_lcif_gt O (tgt := 137) dX13_of_124 rfl dX13_of_125 (by decide) c1 (by decide) h (fun h => ?_) (fun h => ?_)
  · exact (J.sub [1] rfl <| wk_X13_of_137  S_X13_of D hB hS_X13_of O hr hm hne  _  _ h)
  · refine j_lload O 0 dX13_of_128 rfl ?_
    refine j_ldc2 (m := (-1000000000)) O dX13_of_130 q677 l2_m1000000000 ?_
    obtain ⟨c2, h⟩ := h
    refine j_lcif_ge O (tgt := 142) dX13_of_133 rfl dX13_of_134 (by decide) c2 (by decide) h (fun h => ?_) (fun h => ?_)
    · refine j_lload O 0 dX13_of_142 rfl ?_
      exact J.toX (j_lret O hr dX13_of_144 h)
    · exact (J.sub [1] rfl <| wk_X13_of_137  S_X13_of D hB hS_X13_of O hr hm hne  _  _ h)
theorem wk_X13_of_49 {x : Cx}  (S_X13_of : Nat → Option Nat → Wd → (Int → Wd → Prop) → (Nat → Wd → Prop) → Prop) (D : Nat) (hB : 2 ≤ D) (hS_X13_of : ∀ (l : Launch) (G : GW) (this : Nat) (p1 : Option Nat) (w : Wd) (Q : Int → Wd → Prop) (XE : Nat → Wd → Prop), S_X13_of this p1 w Q XE → XL l G yX13_of cX13_of 8 D 0 0 [.ref (adG G (this)), vR G (p1)] w Q XE) (O : OK x "DowryBoxes$Two" cX13_of (D + 1)) (hr : (xM x).sig.returnType = some .long) (hm : xn x = 8) (hne : ∀ z ∈ (xc x).exceptionTable.toList, False) {Q : Int → Wd → Prop} {XE : Nat → Wd → Prop} (this : Nat) (x1 : Option Nat) (x2 : Int) (x4 : Int) (w : Wd) (h : wp_X13_of_49 S_X13_of Q XE this x1 x2 x4 w) : J x (TXL x Q XE) w 0 0 49 [(0, .ref (adG (xG x) (this))), (1, vR (xG x) (x1)), (2, vL (x2)), (4, vL (x4))] [] := by
  unfold wp_X13_of_49 at h
  refine j_aload_n O 0 0 dX13_of_49 rfl rfl ?_
  refine j_getI O cfX13 0 (Nat.le_of_ble_eq_true rfl) (.inr (.inr (.inr rfl))) q1069 dX13_of_50 h (fun v1 h => ?_)
  refine j_bipush (m := 43) O dX13_of_53 bi_43 ?_
  obtain ⟨c2, h⟩ := h
  refine j_icmp_ne O (tgt := 65) dX13_of_55 (by decide) c2 (by decide) h (fun h => ?_) (fun h => ?_)
  · refine j_aload_n O 0 0 dX13_of_65 rfl rfl ?_
    refine j_getI O cfX13 0 (Nat.le_of_ble_eq_true rfl) (.inr (.inr (.inr rfl))) q1069 dX13_of_66 h (fun v3 h => ?_)
    refine j_bipush (m := 45) O dX13_of_69 bi_45 ?_
    obtain ⟨c4, h⟩ := h
    refine j_icmp_ne O (tgt := 81) dX13_of_71 (by decide) c4 (by decide) h (fun h => ?_) (fun h => ?_)
    · refine j_aload_n O 0 0 dX13_of_81 rfl rfl ?_
      refine j_getI O cfX13 0 (Nat.le_of_ble_eq_true rfl) (.inr (.inr (.inr rfl))) q1069 dX13_of_82 h (fun v5 h => ?_)
      refine j_bipush (m := 42) O dX13_of_85 bi_42 ?_
      obtain ⟨c6, h⟩ := h
      refine j_icmp_ne O (tgt := 97) dX13_of_87 (by decide) c6 (by decide) h (fun h => ?_) (fun h => ?_)
      · refine j_aload_n O 0 0 dX13_of_97 rfl rfl ?_
        refine j_getI O cfX13 0 (Nat.le_of_ble_eq_true rfl) (.inr (.inr (.inr rfl))) q1069 dX13_of_98 h (fun v7 h => ?_)
        refine j_bipush (m := 47) O dX13_of_101 bi_47 ?_
        obtain ⟨c8, h⟩ := h
        refine j_icmp_ne O (tgt := 113) dX13_of_103 (by decide) c8 (by decide) h (fun h => ?_) (fun h => ?_)
        · refine j_lload_n O 2 2 dX13_of_113 rfl rfl ?_
          refine j_lload O 3 dX13_of_114 rfl ?_
          refine j_lrem O dX13_of_116 h (fun h => ?_)
          exact (J.sub [1] rfl <| wk_X13_of_117  S_X13_of D hB hS_X13_of O hr hm hne  _ _  _ h)
        · refine j_lload_n O 2 2 dX13_of_106 rfl rfl ?_
          refine j_lload O 3 dX13_of_107 rfl ?_
          refine j_ldiv O dX13_of_109 h (fun h => ?_)
          refine j_goto O (tgt := 117) dX13_of_110 (by decide) ?_
          exact (J.sub [1] rfl <| wk_X13_of_117  S_X13_of D hB hS_X13_of O hr hm hne  _ _  _ h)
      · refine j_lload_n O 2 2 dX13_of_90 rfl rfl ?_
        refine j_lload O 3 dX13_of_91 rfl ?_
        refine j_lmul O dX13_of_93 ?_
        refine j_goto O (tgt := 117) dX13_of_94 (by decide) ?_
        exact (J.sub [1] rfl <| wk_X13_of_117  S_X13_of D hB hS_X13_of O hr hm hne  _ _  _ h)
    · refine j_lload_n O 2 2 dX13_of_74 rfl rfl ?_
      refine j_lload O 3 dX13_of_75 rfl ?_
      refine j_lsub O dX13_of_77 ?_
      refine j_goto O (tgt := 117) dX13_of_78 (by decide) ?_
      exact (J.sub [1] rfl <| wk_X13_of_117  S_X13_of D hB hS_X13_of O hr hm hne  _ _  _ h)
  · refine j_lload_n O 2 2 dX13_of_58 rfl rfl ?_
    refine j_lload O 3 dX13_of_59 rfl ?_
    refine j_ladd O dX13_of_61 ?_
    refine j_goto O (tgt := 117) dX13_of_62 (by decide) ?_
    exact (J.sub [1] rfl <| wk_X13_of_117  S_X13_of D hB hS_X13_of O hr hm hne  _ _  _ h)
theorem wk_X13_of_37 {x : Cx}  (S_X13_of : Nat → Option Nat → Wd → (Int → Wd → Prop) → (Nat → Wd → Prop) → Prop) (D : Nat) (hB : 2 ≤ D) (hS_X13_of : ∀ (l : Launch) (G : GW) (this : Nat) (p1 : Option Nat) (w : Wd) (Q : Int → Wd → Prop) (XE : Nat → Wd → Prop), S_X13_of this p1 w Q XE → XL l G yX13_of cX13_of 8 D 0 0 [.ref (adG G (this)), vR G (p1)] w Q XE) (O : OK x "DowryBoxes$Two" cX13_of (D + 1)) (hr : (xM x).sig.returnType = some .long) (hm : xn x = 8) (hne : ∀ z ∈ (xc x).exceptionTable.toList, False) {Q : Int → Wd → Prop} {XE : Nat → Wd → Prop} (this : Nat) (x1 : Option Nat) (x2 : Int) (x4 : Int) (w : Wd) (h : wp_X13_of_37 S_X13_of Q XE this x1 x2 x4 w) : J x (TXL x Q XE) w 0 0 37 [(0, .ref (adG (xG x) (this))), (1, vR (xG x) (x1)), (2, vL (x2)), (4, vL (x4))] [] := by
  unfold wp_X13_of_37 at h
  refine j_lload O 3 dX13_of_37 rfl ?_
  refine j_lconst (m := 0) O dX13_of_39 lc_0 ?_
  obtain ⟨c1, h⟩ := h
  refine j_lcif_ne O (tgt := 49) dX13_of_40 rfl dX13_of_41 (by decide) c1 (by decide) h (fun h => ?_) (fun h => ?_)
  · exact (J.sub [0, 1, 2, 3] rfl <| wk_X13_of_49  S_X13_of D hB hS_X13_of O hr hm hne  _ _ _ _  _ h)
  · refine j_aloadq_n O 1 1 dX13_of_44 rfl rfl ?_
    obtain ⟨k2, e_k2, g_k2⟩ := h
    subst e_k2
    have h := g_k2
    refine j_getRN O cfX3 0 (Nat.le_of_ble_eq_true rfl) ⟨_, rfl⟩ (lw_n q348 rfl) dX13_of_45 h (fun o3 h => ?_)
    obtain ⟨k4, e_k4, g_k4⟩ := h
    subst e_k4
    have h := g_k4
    exact jx_throw O hne dX13_of_48 h
theorem mt_X13_of  (S_X13_of : Nat → Option Nat → Wd → (Int → Wd → Prop) → (Nat → Wd → Prop) → Prop) (D : Nat) (hB : 2 ≤ D) (hS_X13_of : ∀ (l : Launch) (G : GW) (this : Nat) (p1 : Option Nat) (w : Wd) (Q : Int → Wd → Prop) (XE : Nat → Wd → Prop), S_X13_of this p1 w Q XE → XL l G yX13_of cX13_of 8 D 0 0 [.ref (adG G (this)), vR G (p1)] w Q XE) (l : Launch) (G : GW) (this : Nat) (p1 : Option Nat) (w : Wd) (Q : Int → Wd → Prop) (XE : Nat → Wd → Prop) (h : wp_X13_of S_X13_of this p1 w Q XE) : XL l G yX13_of cX13_of 8 (D + 1) 0 0 [.ref (adG G (this)), vR G (p1)] w Q XE := by
  refine metX_L (fun G => [.ref (adG G (this)), vR G (p1)]) (by decide) (fun G => by cases p1 <;> exact Nat.le_of_ble_eq_true rfl) (fun x O hl hm hr hne => ?_)
  subst hl
  have O : OK x "DowryBoxes$Two" cX13_of (D + 1) := O
  have h : wp_X13_of S_X13_of this p1 w Q XE := h
  unfold wp_X13_of at h
  rw [show lv_args 0 [.ref (adG (xG x) (this)), vR (xG x) (p1)] = [(0, .ref (adG (xG x) (this))), (1, vR (xG x) (p1))] from by cases p1 <;> rfl]
  show J x (TXL x Q XE) w 0 0 0 [(0, .ref (adG (xG x) (this))), (1, vR (xG x) (p1))] []
  refine j_aload_n O 0 0 dX13_of_0 rfl rfl ?_
  refine j_getR O cfX13 1 (Nat.le_of_ble_eq_true rfl) ⟨_, rfl⟩ q1070 dX13_of_1 h (fun o1 h => ?_)
  refine j_aloadq_n O 1 1 dX13_of_4 rfl rfl ?_
  obtain ⟨k2, e_k2, g_k2⟩ := h
  subst e_k2
  have h := g_k2
  refine finX_L O ⟨Nat.zero_le _, Nat.zero_le _⟩ (rn_X13_of_5 (st := [])  S_X13_of D hB hS_X13_of O ⟨Nat.zero_le _, Nat.zero_le _⟩ (Nat.le_of_ble_eq_true rfl) h) (fun r3 w4 h => ?_) (fun k9 w9 ci9 h hk hci => jx_out O hne hk hci h)
  refine j_lstore_n (L' := [(2, vL (r3)), (0, .ref (adG (xG x) (this))), (1, vR (xG x) (p1))]) O 2 dX13_of_8 rfl (by rw [hm]; decide) (by cases p1 <;> rfl) ?_
  refine j_aload_n O 1 0 dX13_of_9 rfl rfl ?_
  refine j_getR O cfX13 2 (Nat.le_of_ble_eq_true rfl) ⟨_, rfl⟩ q1071 dX13_of_10 h (fun o5 h => ?_)
  refine j_aloadq_n O 2 1 dX13_of_13 rfl rfl ?_
  obtain ⟨k6, e_k6, g_k6⟩ := h
  subst e_k6
  have h := g_k6
  refine finX_L O ⟨Nat.zero_le _, Nat.zero_le _⟩ (rn_X13_of_14 (st := [])  S_X13_of D hB hS_X13_of O ⟨Nat.zero_le _, Nat.zero_le _⟩ (Nat.le_of_ble_eq_true rfl) h) (fun r7 w8 h => ?_) (fun k9 w9 ci9 h hk hci => jx_out O hne hk hci h)
  refine j_lstore (L' := [(4, vL (r7)), (2, vL (r3)), (0, .ref (adG (xG x) (this))), (1, vR (xG x) (p1))]) O dX13_of_17 (by rw [hm]; decide) rfl ?_
  refine j_aload_n O 2 0 dX13_of_19 rfl rfl ?_
  refine j_getI O cfX13 0 (Nat.le_of_ble_eq_true rfl) (.inr (.inr (.inr rfl))) q1069 dX13_of_20 h (fun v9 h => ?_)
  refine j_bipush (m := 47) O dX13_of_23 bi_47 ?_
  obtain ⟨c10, h⟩ := h
  refine j_icmp_eq O (tgt := 37) dX13_of_25 (by decide) c10 (by decide) h (fun h => ?_) (fun h => ?_)
  · exact (J.sub [2, 3, 1, 0] rfl <| wk_X13_of_37  S_X13_of D hB hS_X13_of O hr hm hne  _ _ _ _  _ h)
  · refine j_aload_n O 2 0 dX13_of_28 rfl rfl ?_
    refine j_getI O cfX13 0 (Nat.le_of_ble_eq_true rfl) (.inr (.inr (.inr rfl))) q1069 dX13_of_29 h (fun v11 h => ?_)
    refine j_bipush (m := 37) O dX13_of_32 bi_37 ?_
    obtain ⟨c12, h⟩ := h
    refine j_icmp_ne O (tgt := 49) dX13_of_34 (by decide) c12 (by decide) h (fun h => ?_) (fun h => ?_)
    · exact (J.sub [2, 3, 1, 0] rfl <| wk_X13_of_49  S_X13_of D hB hS_X13_of O hr hm hne  _ _ _ _  _ h)
    · exact (J.sub [2, 3, 1, 0] rfl <| wk_X13_of_37  S_X13_of D hB hS_X13_of O hr hm hne  _ _ _ _  _ h)
theorem mtR_X13_of : ∀ (n : Nat), ∀ (l : Launch) (G : GW) (this : Nat) (p1 : Option Nat) (w : Wd) (Q : Int → Wd → Prop) (XE : Nat → Wd → Prop), wpR_X13_of n this p1 w Q XE → XL l G yX13_of cX13_of 8 (2 + 1 * n) 0 0 [.ref (adG G (this)), vR G (p1)] w Q XE := by
  intro n
  induction n with
  | zero => intro l G this p1 w Q XE h; exact False.elim h
  | succ n ih =>
    intro l G this p1 w Q XE h
    exact mt_X13_of (wpR_X13_of n) (2 + 1 * n) (Nat.le_add_right _ _) ih l G this p1 w Q XE h
theorem hy_X15_is : (yX15_is.cls = "DowryBoxes$Compare" ∧ yX15_is.cls ≠ "java/lang/invoke/MethodHandle" ∧ yX15_is.cls ≠ "java/lang/invoke/VarHandle" ∧ (parseMethodDescriptor yX15_is.desc).map (fun d => d.parameters.length) = some 1) := by decide +kernel
theorem rn_X15_is_5 {x : Cx} (O : OK x "DowryBoxes$Compare" cX15_is 63) {o : Nat} {a0 : Option Nat} {w : Wd} {Qc : Int → Wd → Prop} {XE : Nat → Wd → Prop} {bc bs : Nat} {L : List (Nat × Value)} {st : List Value} (hb : 0 ≤ bc ∧ 0 ≤ bs) (hroom : (st.map fun v => v.category).sum ≤ 8) (h : wp_dSum (wpR_X13_of 60) o a0 w Qc XE) : RunXX x w bc bs 5 L ([vR (xG x) (a0)].reverse ++ .ref (adG (xG x) o) :: st) st 0 0 (.ref (adG (xG x) o) :: [vR (xG x) (a0)]) (QL (xG x) w Qc) XE := by
  rcases h with ⟨hk, h⟩ | ⟨hk, h⟩ | ⟨hk, h⟩
  · exact runX_A (As := [vR (xG x) (a0)]) (st := st) (x0 := ⟨"DowryBoxes$Sum", "of", "(LDowryBoxes$Setting;)J"⟩) (owner := "DowryBoxes$Sum") O (mt_X11_of (xl x) (xG x) _ _ _ _ _ h) hk cfX11.1 (lw_U q664 q666 q667 q668 q144 q669) (lw_n q665 rfl) hyd_Sum (Nat.le_of_ble_eq_true rfl) (Nat.le_of_ble_eq_true rfl) hb rfl hroom dX15_is_5
  · exact runX_A (As := [vR (xG x) (a0)]) (st := st) (x0 := ⟨"DowryBoxes$Sum", "of", "(LDowryBoxes$Setting;)J"⟩) (owner := "DowryBoxes$Sum") O (mt_X12_of (xl x) (xG x) _ _ _ _ _ h) hk cfX12.1 (lw_U q664 q666 q678 q674 q145 q675) (lw_n q665 rfl) hyd_Sum (Nat.le_of_ble_eq_true rfl) (Nat.le_of_ble_eq_true rfl) hb rfl hroom dX15_is_5
  · exact runX_A (As := [vR (xG x) (a0)]) (st := st) (x0 := ⟨"DowryBoxes$Sum", "of", "(LDowryBoxes$Setting;)J"⟩) (owner := "DowryBoxes$Sum") O (mtR_X13_of 60 (xl x) (xG x) _ _ _ _ _ h) hk cfX13.1 (lw_U q664 q666 q670 q671 q146 q672) (lw_n q665 rfl) hyd_Sum (Nat.le_of_ble_eq_true rfl) (Nat.le_of_ble_eq_true rfl) hb rfl hroom dX15_is_5
theorem rn_X15_is_14 {x : Cx} (O : OK x "DowryBoxes$Compare" cX15_is 63) {o : Nat} {a0 : Option Nat} {w : Wd} {Qc : Int → Wd → Prop} {XE : Nat → Wd → Prop} {bc bs : Nat} {L : List (Nat × Value)} {st : List Value} (hb : 0 ≤ bc ∧ 0 ≤ bs) (hroom : (st.map fun v => v.category).sum ≤ 8) (h : wp_dSum (wpR_X13_of 60) o a0 w Qc XE) : RunXX x w bc bs 14 L ([vR (xG x) (a0)].reverse ++ .ref (adG (xG x) o) :: st) st 0 0 (.ref (adG (xG x) o) :: [vR (xG x) (a0)]) (QL (xG x) w Qc) XE := by
  rcases h with ⟨hk, h⟩ | ⟨hk, h⟩ | ⟨hk, h⟩
  · exact runX_A (As := [vR (xG x) (a0)]) (st := st) (x0 := ⟨"DowryBoxes$Sum", "of", "(LDowryBoxes$Setting;)J"⟩) (owner := "DowryBoxes$Sum") O (mt_X11_of (xl x) (xG x) _ _ _ _ _ h) hk cfX11.1 (lw_U q664 q666 q667 q668 q144 q669) (lw_n q665 rfl) hyd_Sum (Nat.le_of_ble_eq_true rfl) (Nat.le_of_ble_eq_true rfl) hb rfl hroom dX15_is_14
  · exact runX_A (As := [vR (xG x) (a0)]) (st := st) (x0 := ⟨"DowryBoxes$Sum", "of", "(LDowryBoxes$Setting;)J"⟩) (owner := "DowryBoxes$Sum") O (mt_X12_of (xl x) (xG x) _ _ _ _ _ h) hk cfX12.1 (lw_U q664 q666 q678 q674 q145 q675) (lw_n q665 rfl) hyd_Sum (Nat.le_of_ble_eq_true rfl) (Nat.le_of_ble_eq_true rfl) hb rfl hroom dX15_is_14
  · exact runX_A (As := [vR (xG x) (a0)]) (st := st) (x0 := ⟨"DowryBoxes$Sum", "of", "(LDowryBoxes$Setting;)J"⟩) (owner := "DowryBoxes$Sum") O (mtR_X13_of 60 (xl x) (xG x) _ _ _ _ _ h) hk cfX13.1 (lw_U q664 q666 q670 q671 q146 q672) (lw_n q665 rfl) hyd_Sum (Nat.le_of_ble_eq_true rfl) (Nat.le_of_ble_eq_true rfl) hb rfl hroom dX15_is_14
theorem mt_X15_is (l : Launch) (G : GW) (this : Nat) (p1 : Option Nat) (w : Wd) (Q : Int → Wd → Prop) (XE : Nat → Wd → Prop) (h : wp_X15_is this p1 w Q XE) : XI l G yX15_is cX15_is 6 (.boolean) 63 0 0 [.ref (adG G (this)), vR G (p1)] w Q XE := by
  refine metX_I (fun G => [.ref (adG G (this)), vR G (p1)]) (by decide) (fun G => by cases p1 <;> exact Nat.le_of_ble_eq_true rfl) (fun x O hl hm hr hne => ?_)
  subst hl
  have O : OK x "DowryBoxes$Compare" cX15_is 63 := O
  have h : wp_X15_is this p1 w Q XE := h
  unfold wp_X15_is at h
  rw [show lv_args 0 [.ref (adG (xG x) (this)), vR (xG x) (p1)] = [(0, .ref (adG (xG x) (this))), (1, vR (xG x) (p1))] from by cases p1 <;> rfl]
  show J x (TXI x Q XE) w 0 0 0 [(0, .ref (adG (xG x) (this))), (1, vR (xG x) (p1))] []
  refine j_aload_n O 0 0 dX15_is_0 rfl rfl ?_
  refine j_getR O cfX15 1 (Nat.le_of_ble_eq_true rfl) ⟨_, rfl⟩ q1127 dX15_is_1 h (fun o1 h => ?_)
  refine j_aloadq_n O 1 1 dX15_is_4 rfl rfl ?_
  obtain ⟨k2, e_k2, g_k2⟩ := h
  subst e_k2
  have h := g_k2
  refine finX_L O ⟨Nat.zero_le _, Nat.zero_le _⟩ (rn_X15_is_5 (st := []) O ⟨Nat.zero_le _, Nat.zero_le _⟩ (Nat.le_of_ble_eq_true rfl) h) (fun r3 w4 h => ?_) (fun k9 w9 ci9 h hk hci => jx_out O hne hk hci h)
  refine j_lstore_n (L' := [(2, vL (r3)), (0, .ref (adG (xG x) (this))), (1, vR (xG x) (p1))]) O 2 dX15_is_8 rfl (by rw [hm]; decide) (by cases p1 <;> rfl) ?_
  refine j_aload_n O 1 0 dX15_is_9 rfl rfl ?_
  refine j_getR O cfX15 2 (Nat.le_of_ble_eq_true rfl) ⟨_, rfl⟩ q1128 dX15_is_10 h (fun o5 h => ?_)
  refine j_aloadq_n O 2 1 dX15_is_13 rfl rfl ?_
  obtain ⟨k6, e_k6, g_k6⟩ := h
  subst e_k6
  have h := g_k6
  refine finX_L O ⟨Nat.zero_le _, Nat.zero_le _⟩ (rn_X15_is_14 (st := []) O ⟨Nat.zero_le _, Nat.zero_le _⟩ (Nat.le_of_ble_eq_true rfl) h) (fun r7 w8 h => ?_) (fun k9 w9 ci9 h hk hci => jx_out O hne hk hci h)
  refine j_lstore (L' := [(4, vL (r7)), (2, vL (r3)), (0, .ref (adG (xG x) (this))), (1, vR (xG x) (p1))]) O dX15_is_17 (by rw [hm]; decide) rfl ?_
  refine j_aload_n O 2 0 dX15_is_19 rfl rfl ?_
  refine j_getI O cfX15 0 (Nat.le_of_ble_eq_true rfl) (.inr (.inr (.inr rfl))) q1126 dX15_is_20 h (fun v9 h => ?_)
  refine j_bipush (m := 60) O dX15_is_23 bi_60 ?_
  obtain ⟨c10, h⟩ := h
  refine j_icmp_ne O (tgt := 43) dX15_is_25 (by decide) c10 (by decide) h (fun h => ?_) (fun h => ?_)
  · refine j_aload_n O 2 0 dX15_is_43 rfl rfl ?_
    refine j_getI O cfX15 0 (Nat.le_of_ble_eq_true rfl) (.inr (.inr (.inr rfl))) q1126 dX15_is_44 h (fun v11 h => ?_)
    refine j_bipush (m := 62) O dX15_is_47 bi_62 ?_
    obtain ⟨c12, h⟩ := h
    refine j_icmp_ne O (tgt := 67) dX15_is_49 (by decide) c12 (by decide) h (fun h => ?_) (fun h => ?_)
    · refine j_lload_n O 1 2 dX15_is_67 rfl rfl ?_
      refine j_lload O 0 dX15_is_68 rfl ?_
      obtain ⟨c13, h⟩ := h
      obtain ⟨c14, h⟩ := h
      refine j_lcif_ne O (tgt := 78) dX15_is_70 rfl dX15_is_71 (by decide) c13 c14 h (fun h => ?_) (fun h => ?_)
      · refine j_iconst O dX15_is_78 ?_
        exact J.toX (j_zret O hr dX15_is_79 h)
      · refine j_iconst O dX15_is_74 ?_
        refine j_goto O (tgt := 79) dX15_is_75 (by decide) ?_
        exact J.toX (j_zret O hr dX15_is_79 h)
    · refine j_lload_n O 1 2 dX15_is_52 rfl rfl ?_
      refine j_lload O 0 dX15_is_53 rfl ?_
      obtain ⟨c15, h⟩ := h
      obtain ⟨c16, h⟩ := h
      refine j_lcif_le O (tgt := 63) dX15_is_55 rfl dX15_is_56 (by decide) c15 c16 h (fun h => ?_) (fun h => ?_)
      · refine j_iconst O dX15_is_63 ?_
        refine j_goto O (tgt := 79) dX15_is_64 (by decide) ?_
        exact J.toX (j_zret O hr dX15_is_79 h)
      · refine j_iconst O dX15_is_59 ?_
        refine j_goto O (tgt := 79) dX15_is_60 (by decide) ?_
        exact J.toX (j_zret O hr dX15_is_79 h)
  · refine j_lload_n O 1 2 dX15_is_28 rfl rfl ?_
    refine j_lload O 0 dX15_is_29 rfl ?_
    obtain ⟨c17, h⟩ := h
    obtain ⟨c18, h⟩ := h
    refine j_lcif_ge O (tgt := 39) dX15_is_31 rfl dX15_is_32 (by decide) c17 c18 h (fun h => ?_) (fun h => ?_)
    · refine j_iconst O dX15_is_39 ?_
      refine j_goto O (tgt := 79) dX15_is_40 (by decide) ?_
      exact J.toX (j_zret O hr dX15_is_79 h)
    · refine j_iconst O dX15_is_35 ?_
      refine j_goto O (tgt := 79) dX15_is_36 (by decide) ?_
      exact J.toX (j_zret O hr dX15_is_79 h)
theorem hy_X16_is : (yX16_is.cls = "DowryBoxes$Not" ∧ yX16_is.cls ≠ "java/lang/invoke/MethodHandle" ∧ yX16_is.cls ≠ "java/lang/invoke/VarHandle" ∧ (parseMethodDescriptor yX16_is.desc).map (fun d => d.parameters.length) = some 1) := by decide +kernel
theorem hy_X17_is : (yX17_is.cls = "DowryBoxes$Several" ∧ yX17_is.cls ≠ "java/lang/invoke/MethodHandle" ∧ yX17_is.cls ≠ "java/lang/invoke/VarHandle" ∧ (parseMethodDescriptor yX17_is.desc).map (fun d => d.parameters.length) = some 1) := by decide +kernel
theorem hyd_Test : ("DowryBoxes$Test" ≠ "java/lang/invoke/MethodHandle" ∧ "DowryBoxes$Test" ≠ "java/lang/invoke/VarHandle" ∧ (parseMethodDescriptor "(LDowryBoxes$Setting;)Z").map (fun d => d.parameters.length) = some 1) := by decide +kernel
theorem rn_X16_is_5 {x : Cx}  (S_X16_is : Nat → Option Nat → Wd → (Int → Wd → Prop) → (Nat → Wd → Prop) → Prop) (S_X17_is : Nat → Option Nat → Wd → (Int → Wd → Prop) → (Nat → Wd → Prop) → Prop) (D : Nat) (hB : 64 ≤ D) (hS_X16_is : ∀ (l : Launch) (G : GW) (this : Nat) (p1 : Option Nat) (w : Wd) (Q : Int → Wd → Prop) (XE : Nat → Wd → Prop), S_X16_is this p1 w Q XE → XI l G yX16_is cX16_is 2 (.boolean) D 0 0 [.ref (adG G (this)), vR G (p1)] w Q XE) (hS_X17_is : ∀ (l : Launch) (G : GW) (this : Nat) (p1 : Option Nat) (w : Wd) (Q : Int → Wd → Prop) (XE : Nat → Wd → Prop), S_X17_is this p1 w Q XE → XI l G yX17_is cX17_is 3 (.boolean) D 0 0 [.ref (adG G (this)), vR G (p1)] w Q XE) (O : OK x "DowryBoxes$Not" cX16_is (D + 1)) {o : Nat} {a0 : Option Nat} {w : Wd} {Qc : Int → Wd → Prop} {XE : Nat → Wd → Prop} {bc bs : Nat} {L : List (Nat × Value)} {st : List Value} (hb : 0 ≤ bc ∧ 0 ≤ bs) (hroom : (st.map fun v => v.category).sum ≤ 8) (h : wp_dTest S_X16_is S_X17_is o a0 w Qc XE) : RunXX x w bc bs 5 L ([vR (xG x) (a0)].reverse ++ .ref (adG (xG x) o) :: st) st 0 0 (.ref (adG (xG x) o) :: [vR (xG x) (a0)]) (QI (xG x) w Qc) XE := by
  rcases h with ⟨hk, h⟩ | ⟨hk, h⟩ | ⟨hk, h⟩
  · exact runX_A (As := [vR (xG x) (a0)]) (st := st) (x0 := ⟨"DowryBoxes$Test", "is", "(LDowryBoxes$Setting;)Z"⟩) (owner := "DowryBoxes$Test") O (mt_X15_is (xl x) (xG x) _ _ _ _ _ h) hk cfX15.1 (lw_U q682 q660 q661 q662 q148 q663) (lw_n q659 rfl) hyd_Test (by omega) (Nat.le_of_ble_eq_true rfl) hb rfl hroom dX16_is_5
  · exact runX_A (As := [vR (xG x) (a0)]) (st := st) (x0 := ⟨"DowryBoxes$Test", "is", "(LDowryBoxes$Setting;)Z"⟩) (owner := "DowryBoxes$Test") O (hS_X16_is (xl x) (xG x) _ _ _ _ _ h) hk cfX16.1 (lw_U q682 q660 q679 q680 q149 q681) (lw_n q659 rfl) hyd_Test (by omega) (Nat.le_of_ble_eq_true rfl) hb rfl hroom dX16_is_5
  · exact runX_A (As := [vR (xG x) (a0)]) (st := st) (x0 := ⟨"DowryBoxes$Test", "is", "(LDowryBoxes$Setting;)Z"⟩) (owner := "DowryBoxes$Test") O (hS_X17_is (xl x) (xG x) _ _ _ _ _ h) hk cfX17.1 (lw_U q682 q660 q689 q683 q150 q684) (lw_n q659 rfl) hyd_Test (by omega) (Nat.le_of_ble_eq_true rfl) hb rfl hroom dX16_is_5
theorem mt_X16_is  (S_X16_is : Nat → Option Nat → Wd → (Int → Wd → Prop) → (Nat → Wd → Prop) → Prop) (S_X17_is : Nat → Option Nat → Wd → (Int → Wd → Prop) → (Nat → Wd → Prop) → Prop) (D : Nat) (hB : 64 ≤ D) (hS_X16_is : ∀ (l : Launch) (G : GW) (this : Nat) (p1 : Option Nat) (w : Wd) (Q : Int → Wd → Prop) (XE : Nat → Wd → Prop), S_X16_is this p1 w Q XE → XI l G yX16_is cX16_is 2 (.boolean) D 0 0 [.ref (adG G (this)), vR G (p1)] w Q XE) (hS_X17_is : ∀ (l : Launch) (G : GW) (this : Nat) (p1 : Option Nat) (w : Wd) (Q : Int → Wd → Prop) (XE : Nat → Wd → Prop), S_X17_is this p1 w Q XE → XI l G yX17_is cX17_is 3 (.boolean) D 0 0 [.ref (adG G (this)), vR G (p1)] w Q XE) (l : Launch) (G : GW) (this : Nat) (p1 : Option Nat) (w : Wd) (Q : Int → Wd → Prop) (XE : Nat → Wd → Prop) (h : wp_X16_is S_X16_is S_X17_is this p1 w Q XE) : XI l G yX16_is cX16_is 2 (.boolean) (D + 1) 0 0 [.ref (adG G (this)), vR G (p1)] w Q XE := by
  refine metX_I (fun G => [.ref (adG G (this)), vR G (p1)]) (by decide) (fun G => by cases p1 <;> exact Nat.le_of_ble_eq_true rfl) (fun x O hl hm hr hne => ?_)
  subst hl
  have O : OK x "DowryBoxes$Not" cX16_is (D + 1) := O
  have h : wp_X16_is S_X16_is S_X17_is this p1 w Q XE := h
  unfold wp_X16_is at h
  rw [show lv_args 0 [.ref (adG (xG x) (this)), vR (xG x) (p1)] = [(0, .ref (adG (xG x) (this))), (1, vR (xG x) (p1))] from by cases p1 <;> rfl]
  show J x (TXI x Q XE) w 0 0 0 [(0, .ref (adG (xG x) (this))), (1, vR (xG x) (p1))] []
  refine j_aload_n O 0 0 dX16_is_0 rfl rfl ?_
  refine j_getR O cfX16 0 (Nat.le_of_ble_eq_true rfl) ⟨_, rfl⟩ q1142 dX16_is_1 h (fun o1 h => ?_)
  refine j_aloadq_n O 1 1 dX16_is_4 rfl rfl ?_
  obtain ⟨k2, e_k2, g_k2⟩ := h
  subst e_k2
  have h := g_k2
  refine finX_I O ⟨Nat.zero_le _, Nat.zero_le _⟩ (rn_X16_is_5 (st := [])  S_X16_is S_X17_is D hB hS_X16_is hS_X17_is O ⟨Nat.zero_le _, Nat.zero_le _⟩ (Nat.le_of_ble_eq_true rfl) h) (fun r3 w4 h => ?_) (fun k9 w9 ci9 h hk hci => jx_out O hne hk hci h)
  obtain ⟨c5, h⟩ := h
  refine j_if_ne O (tgt := 15) dX16_is_8 (by decide) c5 h (fun h => ?_) (fun h => ?_)
  · refine j_iconst O dX16_is_15 ?_
    exact J.toX (j_zret O hr dX16_is_16 h)
  · refine j_iconst O dX16_is_11 ?_
    refine j_goto O (tgt := 16) dX16_is_12 (by decide) ?_
    exact J.toX (j_zret O hr dX16_is_16 h)
theorem rn_X17_is_25 {x : Cx}  (S_X16_is : Nat → Option Nat → Wd → (Int → Wd → Prop) → (Nat → Wd → Prop) → Prop) (S_X17_is : Nat → Option Nat → Wd → (Int → Wd → Prop) → (Nat → Wd → Prop) → Prop) (D : Nat) (hB : 64 ≤ D) (hS_X16_is : ∀ (l : Launch) (G : GW) (this : Nat) (p1 : Option Nat) (w : Wd) (Q : Int → Wd → Prop) (XE : Nat → Wd → Prop), S_X16_is this p1 w Q XE → XI l G yX16_is cX16_is 2 (.boolean) D 0 0 [.ref (adG G (this)), vR G (p1)] w Q XE) (hS_X17_is : ∀ (l : Launch) (G : GW) (this : Nat) (p1 : Option Nat) (w : Wd) (Q : Int → Wd → Prop) (XE : Nat → Wd → Prop), S_X17_is this p1 w Q XE → XI l G yX17_is cX17_is 3 (.boolean) D 0 0 [.ref (adG G (this)), vR G (p1)] w Q XE) (O : OK x "DowryBoxes$Several" cX17_is (D + 1)) {o : Nat} {a0 : Option Nat} {w : Wd} {Qc : Int → Wd → Prop} {XE : Nat → Wd → Prop} {bc bs : Nat} {L : List (Nat × Value)} {st : List Value} (hb : 0 ≤ bc ∧ 0 ≤ bs) (hroom : (st.map fun v => v.category).sum ≤ 8) (h : wp_dTest S_X16_is S_X17_is o a0 w Qc XE) : RunXX x w bc bs 25 L ([vR (xG x) (a0)].reverse ++ .ref (adG (xG x) o) :: st) st 0 0 (.ref (adG (xG x) o) :: [vR (xG x) (a0)]) (QI (xG x) w Qc) XE := by
  rcases h with ⟨hk, h⟩ | ⟨hk, h⟩ | ⟨hk, h⟩
  · exact runX_A (As := [vR (xG x) (a0)]) (st := st) (x0 := ⟨"DowryBoxes$Test", "is", "(LDowryBoxes$Setting;)Z"⟩) (owner := "DowryBoxes$Test") O (mt_X15_is (xl x) (xG x) _ _ _ _ _ h) hk cfX15.1 (lw_U q688 q660 q661 q662 q148 q663) (lw_n q659 rfl) hyd_Test (by omega) (Nat.le_of_ble_eq_true rfl) hb rfl hroom dX17_is_25
  · exact runX_A (As := [vR (xG x) (a0)]) (st := st) (x0 := ⟨"DowryBoxes$Test", "is", "(LDowryBoxes$Setting;)Z"⟩) (owner := "DowryBoxes$Test") O (hS_X16_is (xl x) (xG x) _ _ _ _ _ h) hk cfX16.1 (lw_U q688 q660 q679 q680 q149 q681) (lw_n q659 rfl) hyd_Test (by omega) (Nat.le_of_ble_eq_true rfl) hb rfl hroom dX17_is_25
  · exact runX_A (As := [vR (xG x) (a0)]) (st := st) (x0 := ⟨"DowryBoxes$Test", "is", "(LDowryBoxes$Setting;)Z"⟩) (owner := "DowryBoxes$Test") O (hS_X17_is (xl x) (xG x) _ _ _ _ _ h) hk cfX17.1 (lw_U q688 q660 q689 q683 q150 q684) (lw_n q659 rfl) hyd_Test (by omega) (Nat.le_of_ble_eq_true rfl) hb rfl hroom dX17_is_25
theorem wk_X17_is_2 {x : Cx}  (S_X16_is : Nat → Option Nat → Wd → (Int → Wd → Prop) → (Nat → Wd → Prop) → Prop) (S_X17_is : Nat → Option Nat → Wd → (Int → Wd → Prop) → (Nat → Wd → Prop) → Prop) (D : Nat) (hB : 64 ≤ D) (hS_X16_is : ∀ (l : Launch) (G : GW) (this : Nat) (p1 : Option Nat) (w : Wd) (Q : Int → Wd → Prop) (XE : Nat → Wd → Prop), S_X16_is this p1 w Q XE → XI l G yX16_is cX16_is 2 (.boolean) D 0 0 [.ref (adG G (this)), vR G (p1)] w Q XE) (hS_X17_is : ∀ (l : Launch) (G : GW) (this : Nat) (p1 : Option Nat) (w : Wd) (Q : Int → Wd → Prop) (XE : Nat → Wd → Prop), S_X17_is this p1 w Q XE → XI l G yX17_is cX17_is 3 (.boolean) D 0 0 [.ref (adG G (this)), vR G (p1)] w Q XE) (O : OK x "DowryBoxes$Several" cX17_is (D + 1)) (hr : (xM x).sig.returnType = some .boolean) (hm : xn x = 3) (hne : ∀ z ∈ (xc x).exceptionTable.toList, False) {Q : Int → Wd → Prop} {XE : Nat → Wd → Prop} (X2 : Wd → Prop) (this : Nat) (x1 : Option Nat) (hX2 : ∀  (w : Wd), X2  w → J x (TXI x Q XE) w 0 0 54 [(0, .ref (adG (xG x) (this)))] []) : ∀ (n : Nat) (x2 : Int) (w : Wd), wp_X17_is_2 S_X16_is S_X17_is Q XE X2 this x1 n x2 w → J x (TXI x Q XE) w 0 0 2 [(0, .ref (adG (xG x) (this))), (1, vR (xG x) (x1)), (2, vI (x2))] [] := by
  intro n
  induction n with
  | zero => intro x2 w h; exact False.elim h
  | succ n ih =>
    intro x2 w h
    rw [wp_X17_is_2] at h
    refine j_iload_n O 2 2 dX17_is_2 rfl rfl ?_
    refine j_aload_n O 0 0 dX17_is_3 rfl rfl ?_
    refine j_getR O cfX17 1 (Nat.le_of_ble_eq_true rfl) ⟨_, rfl⟩ q1156 dX17_is_4 h (fun o1 h => ?_)
    obtain ⟨k2, e_k2, g_k2⟩ := h
    subst e_k2
    have h := g_k2
    obtain ⟨e5, h⟩ := h
    refine fin_I O ⟨Nat.zero_le _, Nat.zero_le _⟩ (run_V (As := []) (st := [vI (x2)]) O (mt_J2_size (xl x) (xG x) _ _ _ h) e5 cfJ2.1 q685 q648 q649 q126 q650 hy_J2_size (by omega) (Nat.le_of_ble_eq_true rfl) ⟨Nat.zero_le _, Nat.zero_le _⟩ rfl (Nat.le_of_ble_eq_true rfl) dX17_is_7) (fun r3 w4 h => ?_)
    obtain ⟨c6, h⟩ := h
    obtain ⟨c7, h⟩ := h
    refine j_icmp_ge O (tgt := 54) dX17_is_10 (by decide) c6 c7 h (fun h => ?_) (fun h => ?_)
    · exact (J.sub [0] rfl <| hX2  _ h)
    · refine j_aload_n O 0 0 dX17_is_13 rfl rfl ?_
      refine j_getR O cfX17 1 (Nat.le_of_ble_eq_true rfl) ⟨_, rfl⟩ q1156 dX17_is_14 h (fun o8 h => ?_)
      refine j_iload_n O 2 2 dX17_is_17 rfl rfl ?_
      obtain ⟨k9, e_k9, g_k9⟩ := h
      subst e_k9
      have h := g_k9
      obtain ⟨e12, h⟩ := h
      refine fin_R O ⟨Nat.zero_le _, Nat.zero_le _⟩ (run_V (As := [vI (x2)]) (st := []) O (mt_J2_get (xl x) (xG x) _ _ _ _ h) e12 cfJ2.1 q686 q628 q629 q126 q630 hy_J2_get (by omega) (Nat.le_of_ble_eq_true rfl) ⟨Nat.zero_le _, Nat.zero_le _⟩ rfl (Nat.le_of_ble_eq_true rfl) dX17_is_18) (fun o10 w11 h => ?_)
      refine j_castY O (fun ci hci => by simp only [List.mem_cons, List.not_mem_nil, or_false] at hci; rcases hci with e | e | e <;> subst e; exact ⟨by decide, lw_n q2286 rfl⟩; exact ⟨by decide, lw_n q2287 rfl⟩; exact ⟨by decide, lw_n q2288 rfl⟩) q687 dX17_is_21 h (fun h => ?_)
      refine j_aloadq_n O 1 1 dX17_is_24 rfl rfl ?_
      obtain ⟨k13, e_k13, g_k13⟩ := h
      subst e_k13
      have h := g_k13
      refine finX_I O ⟨Nat.zero_le _, Nat.zero_le _⟩ (rn_X17_is_25 (st := [])  S_X16_is S_X17_is D hB hS_X16_is hS_X17_is O ⟨Nat.zero_le _, Nat.zero_le _⟩ (Nat.le_of_ble_eq_true rfl) h) (fun r14 w15 h => ?_) (fun k9 w9 ci9 h hk hci => jx_out O hne hk hci h)
      refine j_aload_n O 0 0 dX17_is_28 rfl rfl ?_
      refine j_getI O cfX17 0 (Nat.le_of_ble_eq_true rfl) (.inr (.inl rfl)) q1155 dX17_is_29 h (fun v16 h => ?_)
      obtain ⟨c17, h⟩ := h
      obtain ⟨c18, h⟩ := h
      refine j_icmp_eq O (tgt := 48) dX17_is_32 (by decide) c17 c18 h (fun h => ?_) (fun h => ?_)
      · refine j_iinc (L' := [(2, vI (x2 + 1)), (0, .ref (adG (xG x) (this))), (1, vR (xG x) (x1))]) O 2 dX17_is_48 rfl (by rw [hm]; decide) (by cases x1 <;> rfl) ?_
        refine j_goto O (tgt := 2) dX17_is_51 (by decide) ?_
        exact (J.sub [1, 2, 0] rfl <| ih _ _ h)
      · refine j_aload_n O 0 0 dX17_is_35 rfl rfl ?_
        refine j_getI O cfX17 0 (Nat.le_of_ble_eq_true rfl) (.inr (.inl rfl)) q1155 dX17_is_36 h (fun v19 h => ?_)
        obtain ⟨c20, h⟩ := h
        refine j_if_ne O (tgt := 46) dX17_is_39 (by decide) c20 h (fun h => ?_) (fun h => ?_)
        · refine j_iconst O dX17_is_46 ?_
          exact J.toX (j_zret O hr dX17_is_47 h)
        · refine j_iconst O dX17_is_42 ?_
          refine j_goto O (tgt := 47) dX17_is_43 (by decide) ?_
          exact J.toX (j_zret O hr dX17_is_47 h)
theorem mt_X17_is  (S_X16_is : Nat → Option Nat → Wd → (Int → Wd → Prop) → (Nat → Wd → Prop) → Prop) (S_X17_is : Nat → Option Nat → Wd → (Int → Wd → Prop) → (Nat → Wd → Prop) → Prop) (D : Nat) (hB : 64 ≤ D) (hS_X16_is : ∀ (l : Launch) (G : GW) (this : Nat) (p1 : Option Nat) (w : Wd) (Q : Int → Wd → Prop) (XE : Nat → Wd → Prop), S_X16_is this p1 w Q XE → XI l G yX16_is cX16_is 2 (.boolean) D 0 0 [.ref (adG G (this)), vR G (p1)] w Q XE) (hS_X17_is : ∀ (l : Launch) (G : GW) (this : Nat) (p1 : Option Nat) (w : Wd) (Q : Int → Wd → Prop) (XE : Nat → Wd → Prop), S_X17_is this p1 w Q XE → XI l G yX17_is cX17_is 3 (.boolean) D 0 0 [.ref (adG G (this)), vR G (p1)] w Q XE) (l : Launch) (G : GW) (this : Nat) (p1 : Option Nat) (w : Wd) (Q : Int → Wd → Prop) (XE : Nat → Wd → Prop) (h : wp_X17_is S_X16_is S_X17_is this p1 w Q XE) : XI l G yX17_is cX17_is 3 (.boolean) (D + 1) 0 0 [.ref (adG G (this)), vR G (p1)] w Q XE := by
  refine metX_I (fun G => [.ref (adG G (this)), vR G (p1)]) (by decide) (fun G => by cases p1 <;> exact Nat.le_of_ble_eq_true rfl) (fun x O hl hm hr hne => ?_)
  subst hl
  have O : OK x "DowryBoxes$Several" cX17_is (D + 1) := O
  have h : wp_X17_is S_X16_is S_X17_is this p1 w Q XE := h
  unfold wp_X17_is at h
  rw [show lv_args 0 [.ref (adG (xG x) (this)), vR (xG x) (p1)] = [(0, .ref (adG (xG x) (this))), (1, vR (xG x) (p1))] from by cases p1 <;> rfl]
  show J x (TXI x Q XE) w 0 0 0 [(0, .ref (adG (xG x) (this))), (1, vR (xG x) (p1))] []
  refine j_iconst O dX17_is_0 ?_
  refine j_istore_n (L' := [(2, vI (0)), (0, .ref (adG (xG x) (this))), (1, vR (xG x) (p1))]) O 2 dX17_is_1 rfl (by rw [hm]; decide) (by cases p1 <;> rfl) ?_
  refine (J.sub [1, 2, 0] rfl <| wk_X17_is_2  S_X16_is S_X17_is D hB hS_X16_is hS_X17_is O hr hm hne _ _ _ (fun w1 h => ?_) FU _ _ h)
  refine j_aload_n O 0 0 dX17_is_54 rfl rfl ?_
  refine j_getI O cfX17 0 (Nat.le_of_ble_eq_true rfl) (.inr (.inl rfl)) q1155 dX17_is_55 h (fun v2 h => ?_)
  exact J.toX (j_zret O hr dX17_is_58 h)
theorem mtR_TEST : ∀ (n : Nat), (∀ (l : Launch) (G : GW) (this : Nat) (p1 : Option Nat) (w : Wd) (Q : Int → Wd → Prop) (XE : Nat → Wd → Prop), wpR_TEST n false this p1 w Q XE → XI l G yX16_is cX16_is 2 (.boolean) (64 + 1 * n) 0 0 [.ref (adG G (this)), vR G (p1)] w Q XE) ∧ (∀ (l : Launch) (G : GW) (this : Nat) (p1 : Option Nat) (w : Wd) (Q : Int → Wd → Prop) (XE : Nat → Wd → Prop), wpR_TEST n true this p1 w Q XE → XI l G yX17_is cX17_is 3 (.boolean) (64 + 1 * n) 0 0 [.ref (adG G (this)), vR G (p1)] w Q XE) := by
  intro n
  induction n with
  | zero => exact ⟨fun l G this p1 w Q XE h => False.elim h, fun l G this p1 w Q XE h => False.elim h⟩
  | succ n ih =>
    refine ⟨fun l G this p1 w Q XE h => ?_, fun l G this p1 w Q XE h => ?_⟩
    · exact mt_X16_is (wpR_TEST n false) (wpR_TEST n true) (64 + 1 * n) (Nat.le_add_right _ _) ih.1 ih.2 l G this p1 w Q XE h
    · exact mt_X17_is (wpR_TEST n false) (wpR_TEST n true) (64 + 1 * n) (Nat.le_add_right _ _) ih.1 ih.2 l G this p1 w Q XE h
theorem mtR_X16_is (n : Nat) : ∀ (l : Launch) (G : GW) (this : Nat) (p1 : Option Nat) (w : Wd) (Q : Int → Wd → Prop) (XE : Nat → Wd → Prop), wpR_TEST n false this p1 w Q XE → XI l G yX16_is cX16_is 2 (.boolean) (64 + 1 * n) 0 0 [.ref (adG G (this)), vR G (p1)] w Q XE := (mtR_TEST n).1
theorem mtR_X17_is (n : Nat) : ∀ (l : Launch) (G : GW) (this : Nat) (p1 : Option Nat) (w : Wd) (Q : Int → Wd → Prop) (XE : Nat → Wd → Prop), wpR_TEST n true this p1 w Q XE → XI l G yX17_is cX17_is 3 (.boolean) (64 + 1 * n) 0 0 [.ref (adG G (this)), vR G (p1)] w Q XE := (mtR_TEST n).2
theorem hy_X9_tells : (yX9_tells.cls = "DowryBoxes$Clause" ∧ yX9_tells.cls ≠ "java/lang/invoke/MethodHandle" ∧ yX9_tells.cls ≠ "java/lang/invoke/VarHandle" ∧ (parseMethodDescriptor yX9_tells.desc).map (fun d => d.parameters.length) = some 1) := by decide +kernel
theorem rn_X9_tells_38 {x : Cx} (O : OK x "DowryBoxes$Clause" cX9_tells 105) {o : Nat} {a0 : Option Nat} {w : Wd} {Qc : Int → Wd → Prop} {XE : Nat → Wd → Prop} {bc bs : Nat} {L : List (Nat × Value)} {st : List Value} (hb : 0 ≤ bc ∧ 0 ≤ bs) (hroom : (st.map fun v => v.category).sum ≤ 8) (h : wp_dSum (wpR_X13_of 60) o a0 w Qc XE) : RunXX x w bc bs 38 L ([vR (xG x) (a0)].reverse ++ .ref (adG (xG x) o) :: st) st 0 0 (.ref (adG (xG x) o) :: [vR (xG x) (a0)]) (QL (xG x) w Qc) XE := by
  rcases h with ⟨hk, h⟩ | ⟨hk, h⟩ | ⟨hk, h⟩
  · exact runX_A (As := [vR (xG x) (a0)]) (st := st) (x0 := ⟨"DowryBoxes$Sum", "of", "(LDowryBoxes$Setting;)J"⟩) (owner := "DowryBoxes$Sum") O (mt_X11_of (xl x) (xG x) _ _ _ _ _ h) hk cfX11.1 (lw_U q691 q666 q667 q668 q144 q669) (lw_n q665 rfl) hyd_Sum (Nat.le_of_ble_eq_true rfl) (Nat.le_of_ble_eq_true rfl) hb rfl hroom dX9_tells_38
  · exact runX_A (As := [vR (xG x) (a0)]) (st := st) (x0 := ⟨"DowryBoxes$Sum", "of", "(LDowryBoxes$Setting;)J"⟩) (owner := "DowryBoxes$Sum") O (mt_X12_of (xl x) (xG x) _ _ _ _ _ h) hk cfX12.1 (lw_U q691 q666 q678 q674 q145 q675) (lw_n q665 rfl) hyd_Sum (Nat.le_of_ble_eq_true rfl) (Nat.le_of_ble_eq_true rfl) hb rfl hroom dX9_tells_38
  · exact runX_A (As := [vR (xG x) (a0)]) (st := st) (x0 := ⟨"DowryBoxes$Sum", "of", "(LDowryBoxes$Setting;)J"⟩) (owner := "DowryBoxes$Sum") O (mtR_X13_of 60 (xl x) (xG x) _ _ _ _ _ h) hk cfX13.1 (lw_U q691 q666 q670 q671 q146 q672) (lw_n q665 rfl) hyd_Sum (Nat.le_of_ble_eq_true rfl) (Nat.le_of_ble_eq_true rfl) hb rfl hroom dX9_tells_38
theorem rn_X9_tells_12 {x : Cx} (O : OK x "DowryBoxes$Clause" cX9_tells 105) {o : Nat} {a0 : Option Nat} {w : Wd} {Qc : Int → Wd → Prop} {XE : Nat → Wd → Prop} {bc bs : Nat} {L : List (Nat × Value)} {st : List Value} (hb : 0 ≤ bc ∧ 0 ≤ bs) (hroom : (st.map fun v => v.category).sum ≤ 8) (h : wp_dTest (wpR_TEST 40 false) (wpR_TEST 40 true) o a0 w Qc XE) : RunXX x w bc bs 12 L ([vR (xG x) (a0)].reverse ++ .ref (adG (xG x) o) :: st) st 0 0 (.ref (adG (xG x) o) :: [vR (xG x) (a0)]) (QI (xG x) w Qc) XE := by
  rcases h with ⟨hk, h⟩ | ⟨hk, h⟩ | ⟨hk, h⟩
  · exact runX_A (As := [vR (xG x) (a0)]) (st := st) (x0 := ⟨"DowryBoxes$Test", "is", "(LDowryBoxes$Setting;)Z"⟩) (owner := "DowryBoxes$Test") O (mt_X15_is (xl x) (xG x) _ _ _ _ _ h) hk cfX15.1 (lw_U q658 q660 q661 q662 q148 q663) (lw_n q659 rfl) hyd_Test (Nat.le_of_ble_eq_true rfl) (Nat.le_of_ble_eq_true rfl) hb rfl hroom dX9_tells_12
  · exact runX_A (As := [vR (xG x) (a0)]) (st := st) (x0 := ⟨"DowryBoxes$Test", "is", "(LDowryBoxes$Setting;)Z"⟩) (owner := "DowryBoxes$Test") O (mtR_X16_is 40 (xl x) (xG x) _ _ _ _ _ h) hk cfX16.1 (lw_U q658 q660 q679 q680 q149 q681) (lw_n q659 rfl) hyd_Test (Nat.le_of_ble_eq_true rfl) (Nat.le_of_ble_eq_true rfl) hb rfl hroom dX9_tells_12
  · exact runX_A (As := [vR (xG x) (a0)]) (st := st) (x0 := ⟨"DowryBoxes$Test", "is", "(LDowryBoxes$Setting;)Z"⟩) (owner := "DowryBoxes$Test") O (mtR_X17_is 40 (xl x) (xG x) _ _ _ _ _ h) hk cfX17.1 (lw_U q658 q660 q689 q683 q150 q684) (lw_n q659 rfl) hyd_Test (Nat.le_of_ble_eq_true rfl) (Nat.le_of_ble_eq_true rfl) hb rfl hroom dX9_tells_12
theorem wk_X9_tells_22 {x : Cx} (O : OK x "DowryBoxes$Clause" cX9_tells 105) (hr : (xM x).sig.returnType = some .long) (hm : xn x = 3) (htab : (xc x).exceptionTable.toList = tableOf [(0, 21, 42, 37), (22, 41, 42, 37)]) {Q : Int → Wd → Prop} (this : Nat) (x1 : Option Nat) (w : Wd) (h : wp_X9_tells_22 Q this x1 w) : J x (TL x Q) w 0 0 22 [(0, .ref (adG (xG x) (this))), (1, vR (xG x) (x1))] [] := by
  unfold wp_X9_tells_22 at h
  refine j_aload_n O 0 0 dX9_tells_22 rfl rfl ?_
  refine j_getR O cfX9 1 (Nat.le_of_ble_eq_true rfl) ⟨_, rfl⟩ q937 dX9_tells_23 h (fun o1 h => ?_)
  refine j_ifnonnull O (tgt := 33) dX9_tells_26 (by decide)  h (fun h => ?_) (fun h => ?_)
  · refine j_aload_n O 0 0 dX9_tells_33 rfl rfl ?_
    refine j_getR O cfX9 1 (Nat.le_of_ble_eq_true rfl) ⟨_, rfl⟩ q937 dX9_tells_34 h (fun o2 h => ?_)
    refine j_aloadq_n O 1 1 dX9_tells_37 rfl rfl ?_
    obtain ⟨k3, e_k3, g_k3⟩ := h
    subst e_k3
    have h := g_k3
    refine finX_L O ⟨Nat.zero_le _, Nat.zero_le _⟩ (rn_X9_tells_38 (st := []) O ⟨Nat.zero_le _, Nat.zero_le _⟩ (Nat.le_of_ble_eq_true rfl) h) ?_ (fun k6 w7 ci9 h hk hci => ?_)
    rotate_left 1
    · obtain ⟨e8, h⟩ := h
      refine jx_catchP (ci := 5) (hpc := 42) O htab [⟨0, 21, 42, 37⟩] ⟨22, 41, 42, 37⟩ [] rfl (by decide) rfl rfl (by decide) (by decide) q657 (lw_n q288 rfl) e8 ?_
      refine j_astore_n (L' := [(2, .ref (adG (xG x) (k6))), (0, .ref (adG (xG x) (this))), (1, vR (xG x) (x1))]) O 2 dX9_tells_42 rfl (by rw [hm]; decide) (by cases x1 <;> rfl) ?_
      refine j_ldc2 (m := (-4000000000)) O dX9_tells_43 q690 l2_m4000000000 ?_
      exact j_lret O hr dX9_tells_46 h
    intro r4 w5 h
    exact j_lret O hr dX9_tells_41 h
  · refine j_lconst (m := 1) O dX9_tells_29 lc_1 ?_
    refine j_goto O (tgt := 41) dX9_tells_30 (by decide) ?_
    exact j_lret O hr dX9_tells_41 h
theorem mt_X9_tells (l : Launch) (G : GW) (this : Nat) (p1 : Option Nat) (w : Wd) (Q : Int → Wd → Prop) (h : wp_X9_tells this p1 w Q) : MXW l G yX9_tells cX9_tells 3 (some .long) [(0, 21, 42, 37), (22, 41, 42, 37)] 105 0 0 [.ref (adG G (this)), vR G (p1)] w (QL G w Q) := by
  refine metW_L (fun G => [.ref (adG G (this)), vR G (p1)]) (by decide) (fun G => by cases p1 <;> exact Nat.le_of_ble_eq_true rfl) (fun x O hl hm hr htab => ?_)
  subst hl
  have O : OK x "DowryBoxes$Clause" cX9_tells 105 := O
  have h : wp_X9_tells this p1 w Q := h
  unfold wp_X9_tells at h
  rw [show lv_args 0 [.ref (adG (xG x) (this)), vR (xG x) (p1)] = [(0, .ref (adG (xG x) (this))), (1, vR (xG x) (p1))] from by cases p1 <;> rfl]
  show J x (TL x Q) w 0 0 0 [(0, .ref (adG (xG x) (this))), (1, vR (xG x) (p1))] []
  refine j_aload_n O 0 0 dX9_tells_0 rfl rfl ?_
  refine j_getR O cfX9 2 (Nat.le_of_ble_eq_true rfl) ⟨_, rfl⟩ q939 dX9_tells_1 h (fun o1 h => ?_)
  refine j_ifnull O (tgt := 22) dX9_tells_4 (by decide)  h (fun h => ?_) (fun h => ?_)
  · exact (J.sub [0, 1] rfl <| wk_X9_tells_22 O hr hm htab  _ _  _ h)
  · refine j_aload_n O 0 0 dX9_tells_7 rfl rfl ?_
    refine j_getR O cfX9 2 (Nat.le_of_ble_eq_true rfl) ⟨_, rfl⟩ q939 dX9_tells_8 h (fun o2 h => ?_)
    refine j_aloadq_n O 1 1 dX9_tells_11 rfl rfl ?_
    obtain ⟨k3, e_k3, g_k3⟩ := h
    subst e_k3
    have h := g_k3
    refine finX_I O ⟨Nat.zero_le _, Nat.zero_le _⟩ (rn_X9_tells_12 (st := []) O ⟨Nat.zero_le _, Nat.zero_le _⟩ (Nat.le_of_ble_eq_true rfl) h) ?_ (fun k6 w7 ci9 h hk hci => ?_)
    rotate_left 1
    · obtain ⟨e8, h⟩ := h
      refine jx_catchP (ci := 5) (hpc := 42) O htab [] ⟨0, 21, 42, 37⟩ [⟨22, 41, 42, 37⟩] rfl (by decide) rfl rfl (by decide) (by decide) q657 (lw_n q288 rfl) e8 ?_
      refine j_astore_n (L' := [(2, .ref (adG (xG x) (k6))), (0, .ref (adG (xG x) (this))), (1, vR (xG x) (p1))]) O 2 dX9_tells_42 rfl (by rw [hm]; decide) (by cases p1 <;> rfl) ?_
      refine j_ldc2 (m := (-4000000000)) O dX9_tells_43 q690 l2_m4000000000 ?_
      exact j_lret O hr dX9_tells_46 h
    intro r4 w5 h
    obtain ⟨c9, h⟩ := h
    refine j_if_ne O (tgt := 22) dX9_tells_15 (by decide) c9 h (fun h => ?_) (fun h => ?_)
    · exact (J.sub [0, 1] rfl <| wk_X9_tells_22 O hr hm htab  _ _  _ h)
    · refine j_ldc2 (m := (-4000000000)) O dX9_tells_18 q690 l2_m4000000000 ?_
      exact j_lret O hr dX9_tells_21 h
theorem hy_X19_told : (yX19_told.cls = "DowryBoxes$Law" ∧ yX19_told.cls ≠ "java/lang/invoke/MethodHandle" ∧ yX19_told.cls ≠ "java/lang/invoke/VarHandle" ∧ (parseMethodDescriptor yX19_told.desc).map (fun d => d.parameters.length) = some 2) := by decide +kernel
theorem wk_X19_told_71 {x : Cx} (O : OK x "DowryBoxes$Law" cX19_told 106) (hr : (xM x).sig.returnType = some .long) (hm : xn x = 8) {Q : Int → Wd → Prop} (K7 : Int → Int → Wd → Prop) (this : Nat) (x1 : Int) (x2 : Option Nat) (x3 : Int) (x5 : Int) (hK7 : ∀ (y3 : Int) (y5 : Int) (w : Wd), K7 y3 y5 w → J x (TL x Q) w 0 0 7 [(0, .ref (adG (xG x) (this))), (1, vI (x1)), (2, vR (xG x) (x2)), (3, vL (y3)), (5, vI (y5))] []) (w : Wd) (h : wp_X19_told_71 Q K7 this x1 x2 x3 x5 w) : J x (TL x Q) w 0 0 71 [(0, .ref (adG (xG x) (this))), (1, vI (x1)), (2, vR (xG x) (x2)), (3, vL (x3)), (5, vI (x5))] [] := by
  unfold wp_X19_told_71 at h
  refine j_iinc (L' := [(5, vI (x5 + 1)), (0, .ref (adG (xG x) (this))), (1, vI (x1)), (2, vR (xG x) (x2)), (3, vL (x3))]) O 4 dX19_told_71 rfl (by rw [hm]; decide) rfl ?_
  refine j_goto O (tgt := 7) dX19_told_74 (by decide) ?_
  exact (J.sub [1, 2, 3, 4, 0] rfl <| hK7 _ _ _ h)
theorem wk_X19_told_7 {x : Cx} (O : OK x "DowryBoxes$Law" cX19_told 106) (hr : (xM x).sig.returnType = some .long) (hm : xn x = 8) {Q : Int → Wd → Prop} (this : Nat) (x1 : Int) (x2 : Option Nat) : ∀ (n : Nat) (x3 : Int) (x5 : Int) (w : Wd), wp_X19_told_7 Q this x1 x2 n x3 x5 w → J x (TL x Q) w 0 0 7 [(0, .ref (adG (xG x) (this))), (1, vI (x1)), (2, vR (xG x) (x2)), (3, vL (x3)), (5, vI (x5))] [] := by
  intro n
  induction n with
  | zero => intro x3 x5 w h; exact False.elim h
  | succ n ih =>
    intro x3 x5 w h
    rw [wp_X19_told_7] at h
    refine j_iload O 4 dX19_told_7 rfl ?_
    refine j_aload_n O 0 0 dX19_told_9 rfl rfl ?_
    refine j_getR O cfX19 0 (Nat.le_of_ble_eq_true rfl) ⟨_, rfl⟩ q1252 dX19_told_10 h (fun o1 h => ?_)
    obtain ⟨k2, e_k2, g_k2⟩ := h
    subst e_k2
    have h := g_k2
    obtain ⟨e5, h⟩ := h
    refine fin_I O ⟨Nat.zero_le _, Nat.zero_le _⟩ (run_V (As := []) (st := [vI (x5)]) O (mt_J2_size (xl x) (xG x) _ _ _ h) e5 cfJ2.1 q647 q648 q649 q126 q650 hy_J2_size (Nat.le_of_ble_eq_true rfl) (Nat.le_of_ble_eq_true rfl) ⟨Nat.zero_le _, Nat.zero_le _⟩ rfl (Nat.le_of_ble_eq_true rfl) dX19_told_13) (fun r3 w4 h => ?_)
    obtain ⟨c6, h⟩ := h
    obtain ⟨c7, h⟩ := h
    refine j_icmp_ge O (tgt := 77) dX19_told_16 (by decide) c6 c7 h (fun h => ?_) (fun h => ?_)
    · refine j_lload_n O 3 3 dX19_told_77 rfl rfl ?_
      exact j_lret O hr dX19_told_78 h
    · refine j_aload_n O 0 0 dX19_told_19 rfl rfl ?_
      refine j_getR O cfX19 0 (Nat.le_of_ble_eq_true rfl) ⟨_, rfl⟩ q1252 dX19_told_20 h (fun o8 h => ?_)
      refine j_iload O 4 dX19_told_23 rfl ?_
      obtain ⟨k9, e_k9, g_k9⟩ := h
      subst e_k9
      have h := g_k9
      obtain ⟨e12, h⟩ := h
      refine fin_R O ⟨Nat.zero_le _, Nat.zero_le _⟩ (run_V (As := [vI (x5)]) (st := []) O (mt_J2_get (xl x) (xG x) _ _ _ _ h) e12 cfJ2.1 q651 q628 q629 q126 q630 hy_J2_get (Nat.le_of_ble_eq_true rfl) (Nat.le_of_ble_eq_true rfl) ⟨Nat.zero_le _, Nat.zero_le _⟩ rfl (Nat.le_of_ble_eq_true rfl) dX19_told_25) (fun o10 w11 h => ?_)
      refine j_castS O cfX9.1 q652 dX19_told_28 h (fun h => ?_)
      obtain ⟨k13, e_k13, g_k13⟩ := h
      subst e_k13
      have h := g_k13
      refine j_getIN O cfX9 0 (Nat.le_of_ble_eq_true rfl) (.inl rfl) (lw_n q936 rfl) dX19_told_31 h (fun v14 h => ?_)
      refine j_iload_n O 1 1 dX19_told_34 rfl rfl ?_
      obtain ⟨c15, h⟩ := h
      obtain ⟨c16, h⟩ := h
      refine j_icmp_eq O (tgt := 41) dX19_told_35 (by decide) c15 c16 h (fun h => ?_) (fun h => ?_)
      · refine j_aload_n O 0 0 dX19_told_41 rfl rfl ?_
        refine j_getR O cfX19 0 (Nat.le_of_ble_eq_true rfl) ⟨_, rfl⟩ q1252 dX19_told_42 h (fun o17 h => ?_)
        refine j_iload O 4 dX19_told_45 rfl ?_
        obtain ⟨k18, e_k18, g_k18⟩ := h
        subst e_k18
        have h := g_k18
        obtain ⟨e21, h⟩ := h
        refine fin_R O ⟨Nat.zero_le _, Nat.zero_le _⟩ (run_V (As := [vI (x5)]) (st := []) O (mt_J2_get (xl x) (xG x) _ _ _ _ h) e21 cfJ2.1 q651 q628 q629 q126 q630 hy_J2_get (Nat.le_of_ble_eq_true rfl) (Nat.le_of_ble_eq_true rfl) ⟨Nat.zero_le _, Nat.zero_le _⟩ rfl (Nat.le_of_ble_eq_true rfl) dX19_told_47) (fun o19 w20 h => ?_)
        refine j_castS O cfX9.1 q652 dX19_told_50 h (fun h => ?_)
        refine j_aloadq_n O 2 2 dX19_told_53 rfl rfl ?_
        obtain ⟨k22, e_k22, g_k22⟩ := h
        subst e_k22
        have h := g_k22
        obtain ⟨e25, h⟩ := h
        refine fin_L O ⟨Nat.zero_le _, Nat.zero_le _⟩ (run_VW (As := [vR (xG x) (x2)]) (st := []) O (mt_X9_tells (xl x) (xG x) _ _ _ _ h) e25 cfX9.1 q653 q654 q655 q142 q656 hy_X9_tells (Nat.le_of_ble_eq_true rfl) (Nat.le_of_ble_eq_true rfl) ⟨Nat.zero_le _, Nat.zero_le _⟩ rfl (Nat.le_of_ble_eq_true rfl) dX19_told_54) (fun r23 w24 h => ?_)
        refine j_lstore (L' := [(6, vL (r23)), (0, .ref (adG (xG x) (this))), (1, vI (x1)), (2, vR (xG x) (x2)), (3, vL (x3)), (5, vI (x5))]) O dX19_told_57 (by rw [hm]; decide) rfl ?_
        refine j_lload O 0 dX19_told_59 rfl ?_
        refine j_ldc2 (m := (-4000000000)) O dX19_told_61 q646 l2_m4000000000 ?_
        obtain ⟨c26, h⟩ := h
        refine j_lcif_eq O (tgt := 71) dX19_told_64 rfl dX19_told_65 (by decide) c26 (by decide) h (fun h => ?_) (fun h => ?_)
        · exact (J.sub [1, 2, 3, 4, 5] rfl <| wk_X19_told_71 O hr hm _ _ _ _ _ _ ih _ h)
        · refine j_lload O 0 dX19_told_68 rfl ?_
          refine j_lstore_n (L' := [(3, vL (r23)), (6, vL (r23)), (0, .ref (adG (xG x) (this))), (1, vI (x1)), (2, vR (xG x) (x2)), (5, vI (x5))]) O 3 dX19_told_70 rfl (by rw [hm]; decide) (by cases x2 <;> rfl) ?_
          exact (J.sub [2, 3, 4, 0, 5] rfl <| wk_X19_told_71 O hr hm _ _ _ _ _ _ ih _ h)
      · refine j_goto O (tgt := 71) dX19_told_38 (by decide) ?_
        exact (J.sub [0, 1, 2, 3, 4] rfl <| wk_X19_told_71 O hr hm _ _ _ _ _ _ ih _ h)
theorem mt_X19_told (l : Launch) (G : GW) (this : Nat) (p1 : Int) (p2 : Option Nat) (w : Wd) (Q : Int → Wd → Prop) (h : wp_X19_told this p1 p2 w Q) : ML l G yX19_told cX19_told 8 106 0 0 [.ref (adG G (this)), vI (p1), vR G (p2)] w Q := by
  refine met_L (fun G => [.ref (adG G (this)), vI (p1), vR G (p2)]) (by decide) (fun G => by cases p2 <;> exact Nat.le_of_ble_eq_true rfl) (fun x O hl hm hr => ?_)
  subst hl
  have O : OK x "DowryBoxes$Law" cX19_told 106 := O
  have h : wp_X19_told this p1 p2 w Q := h
  unfold wp_X19_told at h
  rw [show lv_args 0 [.ref (adG (xG x) (this)), vI (p1), vR (xG x) (p2)] = [(0, .ref (adG (xG x) (this))), (1, vI (p1)), (2, vR (xG x) (p2))] from by cases p2 <;> rfl]
  show J x (TL x Q) w 0 0 0 [(0, .ref (adG (xG x) (this))), (1, vI (p1)), (2, vR (xG x) (p2))] []
  refine j_ldc2 (m := (-4000000000)) O dX19_told_0 q646 l2_m4000000000 ?_
  refine j_lstore_n (L' := [(3, vL ((-4000000000))), (0, .ref (adG (xG x) (this))), (1, vI (p1)), (2, vR (xG x) (p2))]) O 3 dX19_told_3 rfl (by rw [hm]; decide) (by cases p2 <;> rfl) ?_
  refine j_iconst O dX19_told_4 ?_
  refine j_istore (L' := [(5, vI (0)), (3, vL ((-4000000000))), (0, .ref (adG (xG x) (this))), (1, vI (p1)), (2, vR (xG x) (p2))]) O dX19_told_5 (by rw [hm]; decide) rfl ?_
  exact (J.sub [2, 3, 4, 1, 0] rfl <| wk_X19_told_7 O hr hm  _ _ _  FU _ _ _ h)
theorem hy_X0_says : (yX0_says.cls = "DowryBoxes" ∧ yX0_says.cls ≠ "java/lang/invoke/MethodHandle" ∧ yX0_says.cls ≠ "java/lang/invoke/VarHandle" ∧ (parseMethodDescriptor yX0_says.desc).map (fun d => d.parameters.length) = some 5) := by decide +kernel
theorem wk_X0_says_123 {x : Cx} (O : OK x "DowryBoxes" cX0_says 107) (hr : (xM x).sig.returnType = some .long) (hm : xn x = 7) {Q : Int → Wd → Prop} (this : Nat) (x1 : Int) (x2 : Int) (x3 : Option Nat) (x6 : Nat) (s0 : Int) (s1 : Int) (s2 : Nat) (w : Wd) (h : wp_X0_says_123 Q this x1 x2 x3 x6 s0 s1 s2 w) : J x (TL x Q) w 0 0 123 [(0, .ref (adG (xG x) (this))), (1, vI (x1)), (2, vI (x2)), (3, vR (xG x) (x3)), (6, .ref (adG (xG x) (x6)))] [vL (s0), vI (s1), .ref (adG (xG x) (s2))] := by
  unfold wp_X0_says_123 at h
  refine j_last O dX0_says_123 h (fun w1 h => ?_)
  refine j_aload O 4 dX0_says_124 rfl ?_
  refine j_bipush (m := 7) O dX0_says_126 bi_7 ?_
  refine j_aloadq_n O 3 3 dX0_says_128 rfl rfl ?_
  obtain ⟨k2, e_k2, g_k2⟩ := h
  subst e_k2
  have h := g_k2
  refine j_getIN O cfX2 5 (Nat.le_of_ble_eq_true rfl) (.inl rfl) (lw_n q188 rfl) dX0_says_129 h (fun v3 h => ?_)
  refine j_i2l O dX0_says_132 h (fun h => ?_)
  refine j_last O dX0_says_133 h (fun w4 h => ?_)
  refine j_aload O 4 dX0_says_134 rfl ?_
  refine j_bipush (m := 8) O dX0_says_136 bi_8 ?_
  refine j_aload_n O 0 0 dX0_says_138 rfl rfl ?_
  refine j_getR O cfX0 2 (Nat.le_of_ble_eq_true rfl) ⟨_, rfl⟩ q360 dX0_says_139 h (fun o5 h => ?_)
  obtain ⟨k6, e_k6, g_k6⟩ := h
  subst e_k6
  have h := g_k6
  refine j_getIN O cfX1 9 (Nat.le_of_ble_eq_true rfl) (.inl rfl) (lw_n q250 rfl) dX0_says_142 h (fun v7 h => ?_)
  refine j_i2l O dX0_says_145 h (fun h => ?_)
  refine j_last O dX0_says_146 h (fun w8 h => ?_)
  refine j_aload_n O 0 0 dX0_says_147 rfl rfl ?_
  refine j_getR O cfX0 2 (Nat.le_of_ble_eq_true rfl) ⟨_, rfl⟩ q360 dX0_says_148 h (fun o9 h => ?_)
  obtain ⟨k10, e_k10, g_k10⟩ := h
  subst e_k10
  have h := g_k10
  refine j_getRN O cfX1 4 (Nat.le_of_ble_eq_true rfl) ⟨_, rfl⟩ (lw_n q240 rfl) dX0_says_151 h (fun o11 h => ?_)
  refine j_iload_n O 1 1 dX0_says_154 rfl rfl ?_
  obtain ⟨k12, e_k12, g_k12⟩ := h
  subst e_k12
  have h := g_k12
  obtain ⟨e15, h⟩ := h
  refine fin_R O ⟨Nat.zero_le _, Nat.zero_le _⟩ (run_V (As := [vI (x1)]) (st := []) O (mt_J2_get (xl x) (xG x) _ _ _ _ h) e15 cfJ2.1 q627 q628 q629 q126 q630 hy_J2_get (Nat.le_of_ble_eq_true rfl) (Nat.le_of_ble_eq_true rfl) ⟨Nat.zero_le _, Nat.zero_le _⟩ rfl (Nat.le_of_ble_eq_true rfl) dX0_says_155) (fun o13 w14 h => ?_)
  refine j_castS O cfX19.1 q641 dX0_says_158 h (fun h => ?_)
  refine j_iload_n O 2 2 dX0_says_161 rfl rfl ?_
  refine j_aload_n O 0 0 dX0_says_162 rfl rfl ?_
  refine j_getR O cfX0 16 (Nat.le_of_ble_eq_true rfl) ⟨_, rfl⟩ q374 dX0_says_163 h (fun o16 h => ?_)
  obtain ⟨k17, e_k17, g_k17⟩ := h
  subst e_k17
  have h := g_k17
  obtain ⟨e20, h⟩ := h
  refine fin_L O ⟨Nat.zero_le _, Nat.zero_le _⟩ (run_V (As := [vI (x2), vR (xG x) (o16)]) (st := []) O (mt_X19_told (xl x) (xG x) _ _ _ _ _ h) e20 cfX19.1 q642 q643 q644 q155 q645 hy_X19_told (Nat.le_of_ble_eq_true rfl) (Nat.le_of_ble_eq_true rfl) ⟨Nat.zero_le _, Nat.zero_le _⟩ rfl (Nat.le_of_ble_eq_true rfl) dX0_says_166) (fun r18 w19 h => ?_)
  exact j_lret O hr dX0_says_169 h
theorem wk_X0_says_95 {x : Cx} (O : OK x "DowryBoxes" cX0_says 107) (hr : (xM x).sig.returnType = some .long) (hm : xn x = 7) {Q : Int → Wd → Prop} (this : Nat) (x1 : Int) (x2 : Int) (x3 : Option Nat) (x5 : Int) (x6 : Nat) (s0 : Int) (s1 : Int) (s2 : Nat) (w : Wd) (h : wp_X0_says_95 Q this x1 x2 x3 x5 x6 s0 s1 s2 w) : J x (TL x Q) w 0 0 95 [(0, .ref (adG (xG x) (this))), (1, vI (x1)), (2, vI (x2)), (3, vR (xG x) (x3)), (5, vI (x5)), (6, .ref (adG (xG x) (x6)))] [vL (s0), vI (s1), .ref (adG (xG x) (s2))] := by
  unfold wp_X0_says_95 at h
  refine j_last O dX0_says_95 h (fun w1 h => ?_)
  refine j_aload O 5 dX0_says_96 rfl ?_
  refine j_bipush (m := 6) O dX0_says_98 bi_6 ?_
  refine j_iload O 4 dX0_says_100 rfl ?_
  refine j_iconst O dX0_says_102 ?_
  obtain ⟨c2, h⟩ := h
  refine j_icmp_ne O (tgt := 112) dX0_says_103 (by decide) c2 (by decide) h (fun h => ?_) (fun h => ?_)
  · refine j_aload_n O 0 0 dX0_says_112 rfl rfl ?_
    refine j_getR O cfX0 2 (Nat.le_of_ble_eq_true rfl) ⟨_, rfl⟩ q360 dX0_says_113 h (fun o3 h => ?_)
    obtain ⟨k4, e_k4, g_k4⟩ := h
    subst e_k4
    have h := g_k4
    refine j_getAN O cfX1 2 (Nat.le_of_ble_eq_true rfl) ⟨_, rfl⟩ (lw_n q236 rfl) dX0_says_116 h (fun k5 h => ?_)
    refine j_iload O 4 dX0_says_119 rfl ?_
    refine j_iald O dX0_says_121 h (fun v6 h => ?_)
    refine j_i2l O dX0_says_122 h (fun h => ?_)
    exact (J.sub [0, 1, 2, 3, 5] rfl <| wk_X0_says_123 O hr hm  _ _ _ _ _ _ _ _  _ h)
  · refine j_ldc2 (m := (-1)) O dX0_says_106 q618 l2_m1 ?_
    refine j_goto O (tgt := 123) dX0_says_109 (by decide) ?_
    exact (J.sub [0, 1, 2, 3, 5] rfl <| wk_X0_says_123 O hr hm  _ _ _ _ _ _ _ _  _ h)
theorem mt_X0_says (l : Launch) (G : GW) (this : Nat) (p1 : Int) (p2 : Int) (p3 : Option Nat) (p4 : Int) (p5 : Int) (w : Wd) (Q : Int → Wd → Prop) (h : wp_X0_says this p1 p2 p3 p4 p5 w Q) : ML l G yX0_says cX0_says 7 107 0 0 [.ref (adG G (this)), vI (p1), vI (p2), vR G (p3), vI (p4), vI (p5)] w Q := by
  refine met_L (fun G => [.ref (adG G (this)), vI (p1), vI (p2), vR G (p3), vI (p4), vI (p5)]) (by decide) (fun G => by cases p3 <;> exact Nat.le_of_ble_eq_true rfl) (fun x O hl hm hr => ?_)
  subst hl
  have O : OK x "DowryBoxes" cX0_says 107 := O
  have h : wp_X0_says this p1 p2 p3 p4 p5 w Q := h
  unfold wp_X0_says at h
  rw [show lv_args 0 [.ref (adG (xG x) (this)), vI (p1), vI (p2), vR (xG x) (p3), vI (p4), vI (p5)] = [(0, .ref (adG (xG x) (this))), (1, vI (p1)), (2, vI (p2)), (3, vR (xG x) (p3)), (4, vI (p4)), (5, vI (p5))] from by cases p3 <;> rfl]
  show J x (TL x Q) w 0 0 0 [(0, .ref (adG (xG x) (this))), (1, vI (p1)), (2, vI (p2)), (3, vR (xG x) (p3)), (4, vI (p4)), (5, vI (p5))] []
  refine j_iload_n O 1 1 dX0_says_0 rfl rfl ?_
  refine j_iconst O dX0_says_1 ?_
  obtain ⟨c1, h⟩ := h
  refine j_icmp_ne O (tgt := 9) dX0_says_2 (by decide) c1 (by decide) h (fun h => ?_) (fun h => ?_)
  · refine j_aload_n O 0 0 dX0_says_9 rfl rfl ?_
    refine j_getR O cfX0 16 (Nat.le_of_ble_eq_true rfl) ⟨_, rfl⟩ q374 dX0_says_10 h (fun o2 h => ?_)
    obtain ⟨k3, e_k3, g_k3⟩ := h
    subst e_k3
    have h := g_k3
    refine j_getAN O cfX3 1 (Nat.le_of_ble_eq_true rfl) ⟨_, rfl⟩ (lw_n q351 rfl) dX0_says_13 h (fun k4 h => ?_)
    refine j_astore (L' := [(6, .ref (adG (xG x) (k4))), (0, .ref (adG (xG x) (this))), (1, vI (p1)), (2, vI (p2)), (3, vR (xG x) (p3)), (4, vI (p4)), (5, vI (p5))]) O dX0_says_16 (by rw [hm]; decide) rfl ?_
    refine j_aload O 0 dX0_says_18 rfl ?_
    refine j_iconst O dX0_says_20 ?_
    refine j_iload O 5 dX0_says_21 rfl ?_
    refine j_i2l O dX0_says_23 h (fun h => ?_)
    refine j_last O dX0_says_24 h (fun w5 h => ?_)
    refine j_aload O 0 dX0_says_25 rfl ?_
    refine j_iconst O dX0_says_27 ?_
    refine j_aloadq_n O 4 3 dX0_says_28 rfl rfl ?_
    obtain ⟨k6, e_k6, g_k6⟩ := h
    subst e_k6
    have h := g_k6
    refine j_getAN O cfX2 2 (Nat.le_of_ble_eq_true rfl) ⟨_, rfl⟩ (lw_n q182 rfl) dX0_says_29 h (fun k7 h => ?_)
    refine j_iload O 5 dX0_says_32 rfl ?_
    refine j_iald O dX0_says_34 h (fun v8 h => ?_)
    refine j_i2l O dX0_says_35 h (fun h => ?_)
    refine j_last O dX0_says_36 h (fun w9 h => ?_)
    refine j_aload O 0 dX0_says_37 rfl ?_
    refine j_iconst O dX0_says_39 ?_
    refine j_aloadq_n O 4 3 dX0_says_40 rfl rfl ?_
    refine j_iload O 5 dX0_says_41 rfl ?_
    obtain ⟨e12, h⟩ := h
    refine fin_I O ⟨Nat.zero_le _, Nat.zero_le _⟩ (run_V (As := [vI (p4)]) (st := [vI (2), .ref (adG (xG x) (k4))]) O (mt_X2_notes (xl x) (xG x) _ _ _ _ h) e12 cfX2.1 q590 q591 q592 q123 q593 hy_X2_notes (Nat.le_of_ble_eq_true rfl) (Nat.le_of_ble_eq_true rfl) ⟨Nat.zero_le _, Nat.zero_le _⟩ rfl (Nat.le_of_ble_eq_true rfl) dX0_says_43) (fun r10 w11 h => ?_)
    refine j_i2l O dX0_says_46 h (fun h => ?_)
    refine j_last O dX0_says_47 h (fun w13 h => ?_)
    refine j_aload O 0 dX0_says_48 rfl ?_
    refine j_iconst O dX0_says_50 ?_
    refine j_aloadq_n O 4 3 dX0_says_51 rfl rfl ?_
    refine j_getAN O cfX2 1 (Nat.le_of_ble_eq_true rfl) ⟨_, rfl⟩ (lw_n q180 rfl) dX0_says_52 h (fun k14 h => ?_)
    refine j_iload O 5 dX0_says_55 rfl ?_
    refine j_iald O dX0_says_57 h (fun v15 h => ?_)
    refine fin_I O ⟨Nat.zero_le _, Nat.zero_le _⟩ (run_S (As := [vI (v15)]) (st := [vI (3), .ref (adG (xG x) (k4))]) O (mt_X0_ones (xl x) (xG x) _ _ _ h) q617 q600 q121 q601 hy_X0_ones.2 (Nat.le_of_ble_eq_true rfl) (Nat.le_of_ble_eq_true rfl) ⟨Nat.zero_le _, Nat.zero_le _⟩ rfl (Nat.le_of_ble_eq_true rfl) dX0_says_58) (fun r16 w17 h => ?_)
    refine j_i2l O dX0_says_61 h (fun h => ?_)
    refine j_last O dX0_says_62 h (fun w18 h => ?_)
    refine j_aload O 0 dX0_says_63 rfl ?_
    refine j_iconst O dX0_says_65 ?_
    refine j_iload O 6 dX0_says_66 rfl ?_
    refine j_i2l O dX0_says_68 h (fun h => ?_)
    refine j_last O dX0_says_69 h (fun w19 h => ?_)
    refine j_aload O 0 dX0_says_70 rfl ?_
    refine j_iconst O dX0_says_72 ?_
    refine j_iload O 6 dX0_says_73 rfl ?_
    refine j_iconst O dX0_says_75 ?_
    obtain ⟨c20, h⟩ := h
    refine j_icmp_ne O (tgt := 85) dX0_says_76 (by decide) c20 (by decide) h (fun h => ?_) (fun h => ?_)
    · refine j_aload_n O 1 0 dX0_says_85 rfl rfl ?_
      refine j_aloadq_n O 4 3 dX0_says_86 rfl rfl ?_
      refine j_iload O 5 dX0_says_87 rfl ?_
      refine j_iload O 6 dX0_says_89 rfl ?_
      obtain ⟨e23, h⟩ := h
      refine fin_I O ⟨Nat.zero_le _, Nat.zero_le _⟩ (run_V (As := [vR (xG x) ((some k6)), vI (p4), vI (p5)]) (st := [vI (5), .ref (adG (xG x) (k4))]) O (mt_X0_ears (xl x) (xG x) _ _ _ _ _ _ h) e23 cfX0.1 q619 q621 qs9 q121 q622 hy_X0_ears (Nat.le_of_ble_eq_true rfl) (Nat.le_of_ble_eq_true rfl) ⟨Nat.zero_le _, Nat.zero_le _⟩ rfl (Nat.le_of_ble_eq_true rfl) dX0_says_91) (fun r21 w22 h => ?_)
      refine j_i2l O dX0_says_94 h (fun h => ?_)
      exact (J.sub [1, 2, 3, 4, 6, 0] rfl <| wk_X0_says_95 O hr hm  _ _ _ _ _ _ _ _ _  _ h)
    · refine j_ldc2 (m := (-1)) O dX0_says_79 q618 l2_m1 ?_
      refine j_goto O (tgt := 95) dX0_says_82 (by decide) ?_
      exact (J.sub [1, 2, 3, 4, 6, 0] rfl <| wk_X0_says_95 O hr hm  _ _ _ _ _ _ _ _ _  _ h)
  · refine j_ldc2 (m := (-4000000000)) O dX0_says_5 q616 l2_m4000000000 ?_
    exact j_lret O hr dX0_says_8 h
theorem hy_X0_near : (yX0_near.cls = "DowryBoxes" ∧ yX0_near.cls ≠ "java/lang/invoke/MethodHandle" ∧ yX0_near.cls ≠ "java/lang/invoke/VarHandle" ∧ (parseMethodDescriptor yX0_near.desc).map (fun d => d.parameters.length) = some 3) := by decide +kernel
theorem mt_X0_near (l : Launch) (G : GW) (p1 : Int) (p2 : Int) (p3 : Int) (w : Wd) (Q : Int → Wd → Prop) (h : wp_X0_near p1 p2 p3 w Q) : MI l G yX0_near cX0_near 4 (.int) 1 0 0 [vL (p1), vI (p2), vI (p3)] w Q := by
  refine met_I (fun G => [vL (p1), vI (p2), vI (p3)]) (by decide) (fun G => Nat.le_of_ble_eq_true rfl) (fun x O hl hm hr => ?_)
  subst hl
  have O : OK x "DowryBoxes" cX0_near 1 := O
  have h : wp_X0_near p1 p2 p3 w Q := h
  unfold wp_X0_near at h
  show J x (TI x Q) w 0 0 0 [(0, vL (p1)), (2, vI (p2)), (3, vI (p3))] []
  refine j_iload_n O 1 2 dX0_near_0 rfl rfl ?_
  refine j_i2l O dX0_near_1 h (fun h => ?_)
  refine j_iload_n O 2 3 dX0_near_2 rfl rfl ?_
  refine j_i2l O dX0_near_3 h (fun h => ?_)
  refine j_lload_n O 0 0 dX0_near_4 rfl rfl ?_
  obtain ⟨c1, h⟩ := h
  obtain ⟨c2, h⟩ := h
  refine j_mminL O q698 q699 q135 q700 (Nat.le_of_ble_eq_true rfl) (Nat.le_of_ble_eq_true rfl) dX0_near_5 c1 c2 ?_
  obtain ⟨c3, h⟩ := h
  obtain ⟨c4, h⟩ := h
  refine j_mmaxL O q701 q702 q135 q703 (Nat.le_of_ble_eq_true rfl) (Nat.le_of_ble_eq_true rfl) dX0_near_8 c3 c4 ?_
  refine j_l2i O dX0_near_11 ?_
  exact j_iret O hr dX0_near_12 h
theorem hy_X0_or : (yX0_or.cls = "DowryBoxes" ∧ yX0_or.cls ≠ "java/lang/invoke/MethodHandle" ∧ yX0_or.cls ≠ "java/lang/invoke/VarHandle" ∧ (parseMethodDescriptor yX0_or.desc).map (fun d => d.parameters.length) = some 3) := by decide +kernel
theorem mt_X0_or (l : Launch) (G : GW) (p1 : Int) (p2 : Int) (p3 : Int) (w : Wd) (Q : Int → Wd → Prop) (h : wp_X0_or p1 p2 p3 w Q) : MI l G yX0_or cX0_or 4 (.int) 2 0 0 [vL (p1), vI (p2), vI (p3)] w Q := by
  refine met_I (fun G => [vL (p1), vI (p2), vI (p3)]) (by decide) (fun G => Nat.le_of_ble_eq_true rfl) (fun x O hl hm hr => ?_)
  subst hl
  have O : OK x "DowryBoxes" cX0_or 2 := O
  have h : wp_X0_or p1 p2 p3 w Q := h
  unfold wp_X0_or at h
  show J x (TI x Q) w 0 0 0 [(0, vL (p1)), (2, vI (p2)), (3, vI (p3))] []
  refine j_lload_n O 0 0 dX0_or_0 rfl rfl ?_
  refine j_ldc2 (m := (-4000000000)) O dX0_or_1 q616 l2_m4000000000 ?_
  obtain ⟨c1, h⟩ := h
  refine j_lcif_ne O (tgt := 12) dX0_or_4 rfl dX0_or_5 (by decide) c1 (by decide) h (fun h => ?_) (fun h => ?_)
  · refine j_lload_n O 0 0 dX0_or_12 rfl rfl ?_
    refine j_iconst O dX0_or_13 ?_
    refine j_iload_n O 1 2 dX0_or_14 rfl rfl ?_
    refine fin_I O ⟨Nat.zero_le _, Nat.zero_le _⟩ (run_S (As := [vL (p1), vI (0), vI (p2)]) (st := []) O (mt_X0_near (xl x) (xG x) _ _ _ _ _ h) q695 q696 q121 q697 hy_X0_near.2 (Nat.le_of_ble_eq_true rfl) (Nat.le_of_ble_eq_true rfl) ⟨Nat.zero_le _, Nat.zero_le _⟩ rfl (Nat.le_of_ble_eq_true rfl) dX0_or_15) (fun r2 w3 h => ?_)
    exact j_iret O hr dX0_or_18 h
  · refine j_iload_n O 2 3 dX0_or_8 rfl rfl ?_
    refine j_goto O (tgt := 18) dX0_or_9 (by decide) ?_
    exact j_iret O hr dX0_or_18 h
theorem hy_X0_loses : (yX0_loses.cls = "DowryBoxes" ∧ yX0_loses.cls ≠ "java/lang/invoke/MethodHandle" ∧ yX0_loses.cls ≠ "java/lang/invoke/VarHandle" ∧ (parseMethodDescriptor yX0_loses.desc).map (fun d => d.parameters.length) = some 2) := by decide +kernel
theorem mt_X0_loses (l : Launch) (G : GW) (this : Nat) (p1 : Option Nat) (p2 : Int) (w : Wd) (Q : Int → Wd → Prop) (h : wp_X0_loses this p1 p2 w Q) : MI l G yX0_loses cX0_loses 3 (.int) 108 0 0 [.ref (adG G (this)), vR G (p1), vI (p2)] w Q := by
  refine met_I (fun G => [.ref (adG G (this)), vR G (p1), vI (p2)]) (by decide) (fun G => by cases p1 <;> exact Nat.le_of_ble_eq_true rfl) (fun x O hl hm hr => ?_)
  subst hl
  have O : OK x "DowryBoxes" cX0_loses 108 := O
  have h : wp_X0_loses this p1 p2 w Q := h
  unfold wp_X0_loses at h
  rw [show lv_args 0 [.ref (adG (xG x) (this)), vR (xG x) (p1), vI (p2)] = [(0, .ref (adG (xG x) (this))), (1, vR (xG x) (p1)), (2, vI (p2))] from by cases p1 <;> rfl]
  show J x (TI x Q) w 0 0 0 [(0, .ref (adG (xG x) (this))), (1, vR (xG x) (p1)), (2, vI (p2))] []
  refine j_aload_n O 0 0 dX0_loses_0 rfl rfl ?_
  refine j_aload_n O 0 0 dX0_loses_1 rfl rfl ?_
  refine j_getR O cfX0 2 (Nat.le_of_ble_eq_true rfl) ⟨_, rfl⟩ q360 dX0_loses_2 h (fun o1 h => ?_)
  obtain ⟨k2, e_k2, g_k2⟩ := h
  subst e_k2
  have h := g_k2
  refine j_getIN O cfX1 10 (Nat.le_of_ble_eq_true rfl) (.inl rfl) (lw_n q252 rfl) dX0_loses_5 h (fun v3 h => ?_)
  refine j_iconst O dX0_loses_8 ?_
  refine j_aloadq_n O 1 1 dX0_loses_9 rfl rfl ?_
  refine j_iload_n O 2 2 dX0_loses_10 rfl rfl ?_
  refine j_iconst O dX0_loses_11 ?_
  obtain ⟨e6, h⟩ := h
  refine fin_L O ⟨Nat.zero_le _, Nat.zero_le _⟩ (run_V (As := [vI (v3), vI (2), vR (xG x) (p1), vI (p2), vI (((-1)))]) (st := []) O (mt_X0_says (xl x) (xG x) _ _ _ _ _ _ _ _ h) e6 cfX0.1 q612 q614 qs8 q121 q615 hy_X0_says (Nat.le_of_ble_eq_true rfl) (Nat.le_of_ble_eq_true rfl) ⟨Nat.zero_le _, Nat.zero_le _⟩ rfl (Nat.le_of_ble_eq_true rfl) dX0_loses_12) (fun r4 w5 h => ?_)
  refine j_bipush (m := 9) O dX0_loses_15 bi_9 ?_
  refine j_iconst O dX0_loses_17 ?_
  refine fin_I O ⟨Nat.zero_le _, Nat.zero_le _⟩ (run_S (As := [vL (r4), vI (9), vI (0)]) (st := []) O (mt_X0_or (xl x) (xG x) _ _ _ _ _ h) q692 q693 q121 q694 hy_X0_or.2 (Nat.le_of_ble_eq_true rfl) (Nat.le_of_ble_eq_true rfl) ⟨Nat.zero_le _, Nat.zero_le _⟩ rfl (Nat.le_of_ble_eq_true rfl) dX0_loses_18) (fun r7 w8 h => ?_)
  exact j_iret O hr dX0_loses_21 h
theorem hy_X0_passes : (yX0_passes.cls = "DowryBoxes" ∧ yX0_passes.cls ≠ "java/lang/invoke/MethodHandle" ∧ yX0_passes.cls ≠ "java/lang/invoke/VarHandle" ∧ (parseMethodDescriptor yX0_passes.desc).map (fun d => d.parameters.length) = some 1) := by decide +kernel
theorem wk_X0_passes_2 {x : Cx} (O : OK x "DowryBoxes" cX0_passes 109) (hr : (xM x).sig.returnType = some .int) (hm : xn x = 4) {Q : Int → Wd → Prop} (X2 : Wd → Prop) (this : Nat) (x1 : Option Nat) (hX2 : ∀  (w : Wd), X2  w → J x (TI x Q) w 0 0 31 [(0, .ref (adG (xG x) (this))), (1, vR (xG x) (x1))] []) : ∀ (n : Nat) (x2 : Int) (w : Wd), wp_X0_passes_2 Q X2 this x1 n x2 w → J x (TI x Q) w 0 0 2 [(0, .ref (adG (xG x) (this))), (1, vR (xG x) (x1)), (2, vI (x2))] [] := by
  intro n
  induction n with
  | zero => intro x2 w h; exact False.elim h
  | succ n ih =>
    intro x2 w h
    rw [wp_X0_passes_2] at h
    refine j_iload_n O 2 2 dX0_passes_2 rfl rfl ?_
    refine j_aload_n O 0 0 dX0_passes_3 rfl rfl ?_
    refine j_getR O cfX0 2 (Nat.le_of_ble_eq_true rfl) ⟨_, rfl⟩ q360 dX0_passes_4 h (fun o1 h => ?_)
    obtain ⟨k2, e_k2, g_k2⟩ := h
    subst e_k2
    have h := g_k2
    refine j_getIN O cfX1 5 (Nat.le_of_ble_eq_true rfl) (.inl rfl) (lw_n q242 rfl) dX0_passes_7 h (fun v3 h => ?_)
    obtain ⟨c4, h⟩ := h
    obtain ⟨c5, h⟩ := h
    refine j_icmp_ge O (tgt := 31) dX0_passes_10 (by decide) c4 c5 h (fun h => ?_) (fun h => ?_)
    · exact (J.sub [0, 1] rfl <| hX2  _ h)
    · refine j_aload_n O 0 0 dX0_passes_13 rfl rfl ?_
      refine j_getA O cfX0 17 (Nat.le_of_ble_eq_true rfl) ⟨_, rfl⟩ q375 dX0_passes_14 h (fun k6 h => ?_)
      refine j_iload_n O 2 2 dX0_passes_17 rfl rfl ?_
      refine j_aload_n O 0 0 dX0_passes_18 rfl rfl ?_
      refine j_aloadq_n O 1 1 dX0_passes_19 rfl rfl ?_
      refine j_iload_n O 2 2 dX0_passes_20 rfl rfl ?_
      obtain ⟨e9, h⟩ := h
      refine fin_I O ⟨Nat.zero_le _, Nat.zero_le _⟩ (run_V (As := [vR (xG x) (x1), vI (x2)]) (st := [vI (x2), .ref (adG (xG x) (k6))]) O (mt_X0_loses (xl x) (xG x) _ _ _ _ _ h) e9 cfX0.1 q704 q706 qs10 q121 q707 hy_X0_loses (Nat.le_of_ble_eq_true rfl) (Nat.le_of_ble_eq_true rfl) ⟨Nat.zero_le _, Nat.zero_le _⟩ rfl (Nat.le_of_ble_eq_true rfl) dX0_passes_21) (fun r7 w8 h => ?_)
      refine j_iast O dX0_passes_24 h (fun w10 h => ?_)
      refine j_iinc (L' := [(2, vI (x2 + 1)), (0, .ref (adG (xG x) (this))), (1, vR (xG x) (x1))]) O 2 dX0_passes_25 rfl (by rw [hm]; decide) (by cases x1 <;> rfl) ?_
      refine j_goto O (tgt := 2) dX0_passes_28 (by decide) ?_
      exact (J.sub [1, 2, 0] rfl <| ih _ _ h)
theorem wk_X0_passes_112 {x : Cx} (O : OK x "DowryBoxes" cX0_passes 109) (hr : (xM x).sig.returnType = some .int) (hm : xn x = 4) {Q : Int → Wd → Prop} (K35 : Int → Int → Wd → Prop) (X35 : Int → Wd → Prop) (this : Nat) (x1 : Option Nat) (x2 : Int) (x3 : Int) (hK35 : ∀ (y2 : Int) (y3 : Int) (w : Wd), K35 y2 y3 w → J x (TI x Q) w 0 0 35 [(0, .ref (adG (xG x) (this))), (1, vR (xG x) (x1)), (2, vI (y2)), (3, vI (y3))] []) (hX35 : ∀ (y2 : Int) (w : Wd), X35 y2 w → J x (TI x Q) w 0 0 118 [(1, vR (xG x) (x1)), (2, vI (y2))] []) (w : Wd) (h : wp_X0_passes_112 Q K35 X35 this x1 x2 x3 w) : J x (TI x Q) w 0 0 112 [(0, .ref (adG (xG x) (this))), (1, vR (xG x) (x1)), (2, vI (x2)), (3, vI (x3))] [] := by
  unfold wp_X0_passes_112 at h
  refine j_iinc (L' := [(3, vI (x3 + 1)), (0, .ref (adG (xG x) (this))), (1, vR (xG x) (x1)), (2, vI (x2))]) O 3 dX0_passes_112 rfl (by rw [hm]; decide) rfl ?_
  refine j_goto O (tgt := 35) dX0_passes_115 (by decide) ?_
  exact (J.sub [1, 2, 3, 0] rfl <| hK35 _ _ _ h)
theorem wk_X0_passes_35 {x : Cx} (O : OK x "DowryBoxes" cX0_passes 109) (hr : (xM x).sig.returnType = some .int) (hm : xn x = 4) {Q : Int → Wd → Prop} (X35 : Int → Wd → Prop) (this : Nat) (x1 : Option Nat) (hX35 : ∀ (y2 : Int) (w : Wd), X35 y2 w → J x (TI x Q) w 0 0 118 [(1, vR (xG x) (x1)), (2, vI (y2))] []) : ∀ (n : Nat) (x2 : Int) (x3 : Int) (w : Wd), wp_X0_passes_35 Q X35 this x1 n x2 x3 w → J x (TI x Q) w 0 0 35 [(0, .ref (adG (xG x) (this))), (1, vR (xG x) (x1)), (2, vI (x2)), (3, vI (x3))] [] := by
  intro n
  induction n with
  | zero => intro x2 x3 w h; exact False.elim h
  | succ n ih =>
    intro x2 x3 w h
    rw [wp_X0_passes_35] at h
    refine j_iload_n O 3 3 dX0_passes_35 rfl rfl ?_
    refine j_aload_n O 0 0 dX0_passes_36 rfl rfl ?_
    refine j_getR O cfX0 2 (Nat.le_of_ble_eq_true rfl) ⟨_, rfl⟩ q360 dX0_passes_37 h (fun o1 h => ?_)
    obtain ⟨k2, e_k2, g_k2⟩ := h
    subst e_k2
    have h := g_k2
    refine j_getIN O cfX1 5 (Nat.le_of_ble_eq_true rfl) (.inl rfl) (lw_n q242 rfl) dX0_passes_40 h (fun v3 h => ?_)
    obtain ⟨c4, h⟩ := h
    obtain ⟨c5, h⟩ := h
    refine j_icmp_ge O (tgt := 118) dX0_passes_43 (by decide) c4 c5 h (fun h => ?_) (fun h => ?_)
    · exact (J.sub [1, 2] rfl <| hX35 _ _ h)
    · refine j_aloadq_n O 1 1 dX0_passes_46 rfl rfl ?_
      obtain ⟨k6, e_k6, g_k6⟩ := h
      subst e_k6
      have h := g_k6
      refine j_getAN O cfX2 2 (Nat.le_of_ble_eq_true rfl) ⟨_, rfl⟩ (lw_n q182 rfl) dX0_passes_47 h (fun k7 h => ?_)
      refine j_iload_n O 3 3 dX0_passes_50 rfl rfl ?_
      refine j_iconst O dX0_passes_51 ?_
      refine j_aloadq_n O 1 1 dX0_passes_52 rfl rfl ?_
      refine j_getAN O cfX2 2 (Nat.le_of_ble_eq_true rfl) ⟨_, rfl⟩ (lw_n q182 rfl) dX0_passes_53 h (fun k8 h => ?_)
      refine j_iload_n O 3 3 dX0_passes_56 rfl rfl ?_
      refine j_iald O dX0_passes_57 h (fun v9 h => ?_)
      refine j_aload_n O 0 0 dX0_passes_58 rfl rfl ?_
      refine j_getA O cfX0 17 (Nat.le_of_ble_eq_true rfl) ⟨_, rfl⟩ q375 dX0_passes_59 h (fun k10 h => ?_)
      refine j_iload_n O 3 3 dX0_passes_62 rfl rfl ?_
      refine j_iald O dX0_passes_63 h (fun v11 h => ?_)
      refine j_isub O dX0_passes_64 ?_
      obtain ⟨c12, h⟩ := h
      refine j_mmax O q1326 q550 q135 q551 (Nat.le_of_ble_eq_true rfl) (Nat.le_of_ble_eq_true rfl) dX0_passes_65 (by decide) c12 ?_
      refine j_iast O dX0_passes_68 h (fun w13 h => ?_)
      refine j_aloadq_n O 1 1 dX0_passes_69 rfl rfl ?_
      refine j_iload_n O 3 3 dX0_passes_70 rfl rfl ?_
      obtain ⟨e16, h⟩ := h
      refine fin_I O ⟨Nat.zero_le _, Nat.zero_le _⟩ (run_V (As := [vI (x3)]) (st := []) O (mt_X2_isWed (xl x) (xG x) _ _ _ _ h) e16 cfX2.1 q1310 q1311 q1312 q123 q1313 hy_X2_isWed (Nat.le_of_ble_eq_true rfl) (Nat.le_of_ble_eq_true rfl) ⟨Nat.zero_le _, Nat.zero_le _⟩ rfl (Nat.le_of_ble_eq_true rfl) dX0_passes_71) (fun r14 w15 h => ?_)
      obtain ⟨c17, h⟩ := h
      refine j_if_ne O (tgt := 80) dX0_passes_74 (by decide) c17 h (fun h => ?_) (fun h => ?_)
      · refine j_aloadq_n O 1 1 dX0_passes_80 rfl rfl ?_
        refine j_getAN O cfX2 4 (Nat.le_of_ble_eq_true rfl) ⟨_, rfl⟩ (lw_n q186 rfl) dX0_passes_81 h (fun k18 h => ?_)
        refine j_iload_n O 3 3 dX0_passes_84 rfl rfl ?_
        refine j_dup2_11 O dX0_passes_85 rfl rfl ?_
        refine j_iald O dX0_passes_86 h (fun v19 h => ?_)
        refine j_iconst O dX0_passes_87 ?_
        refine j_isub O dX0_passes_88 ?_
        refine j_iast O dX0_passes_89 h (fun w20 h => ?_)
        refine j_aloadq_n O 1 1 dX0_passes_90 rfl rfl ?_
        refine j_getAN O cfX2 4 (Nat.le_of_ble_eq_true rfl) ⟨_, rfl⟩ (lw_n q186 rfl) dX0_passes_91 h (fun k21 h => ?_)
        refine j_iload_n O 3 3 dX0_passes_94 rfl rfl ?_
        refine j_iald O dX0_passes_95 h (fun v22 h => ?_)
        obtain ⟨c23, h⟩ := h
        refine j_if_le O (tgt := 102) dX0_passes_96 (by decide) c23 h (fun h => ?_) (fun h => ?_)
        · refine j_aloadq_n O 1 1 dX0_passes_102 rfl rfl ?_
          refine j_getAN O cfX2 3 (Nat.le_of_ble_eq_true rfl) ⟨_, rfl⟩ (lw_n q184 rfl) dX0_passes_103 h (fun k24 h => ?_)
          refine j_iload_n O 3 3 dX0_passes_106 rfl rfl ?_
          refine j_iconst O dX0_passes_107 ?_
          refine j_iast O dX0_passes_108 h (fun w25 h => ?_)
          refine j_iinc (L' := [(2, vI (x2 + 1)), (0, .ref (adG (xG x) (this))), (1, vR (xG x) (some k6)), (3, vI (x3))]) O 2 dX0_passes_109 rfl (by rw [hm]; decide) rfl ?_
          exact (J.sub [1, 2, 0, 3] rfl <| wk_X0_passes_112 O hr hm _ _ _ _ _ _ ih hX35 _ h)
        · refine j_goto O (tgt := 112) dX0_passes_99 (by decide) ?_
          exact (J.sub [0, 1, 2, 3] rfl <| wk_X0_passes_112 O hr hm _ _ _ _ _ _ ih hX35 _ h)
      · refine j_goto O (tgt := 112) dX0_passes_77 (by decide) ?_
        exact (J.sub [0, 1, 2, 3] rfl <| wk_X0_passes_112 O hr hm _ _ _ _ _ _ ih hX35 _ h)
theorem mt_X0_passes (l : Launch) (G : GW) (this : Nat) (p1 : Option Nat) (w : Wd) (Q : Int → Wd → Prop) (h : wp_X0_passes this p1 w Q) : MI l G yX0_passes cX0_passes 4 (.int) 109 0 0 [.ref (adG G (this)), vR G (p1)] w Q := by
  refine met_I (fun G => [.ref (adG G (this)), vR G (p1)]) (by decide) (fun G => by cases p1 <;> exact Nat.le_of_ble_eq_true rfl) (fun x O hl hm hr => ?_)
  subst hl
  have O : OK x "DowryBoxes" cX0_passes 109 := O
  have h : wp_X0_passes this p1 w Q := h
  unfold wp_X0_passes at h
  rw [show lv_args 0 [.ref (adG (xG x) (this)), vR (xG x) (p1)] = [(0, .ref (adG (xG x) (this))), (1, vR (xG x) (p1))] from by cases p1 <;> rfl]
  show J x (TI x Q) w 0 0 0 [(0, .ref (adG (xG x) (this))), (1, vR (xG x) (p1))] []
  refine j_iconst O dX0_passes_0 ?_
  refine j_istore_n (L' := [(2, vI (0)), (0, .ref (adG (xG x) (this))), (1, vR (xG x) (p1))]) O 2 dX0_passes_1 rfl (by rw [hm]; decide) (by cases p1 <;> rfl) ?_
  refine (J.sub [1, 2, 0] rfl <| wk_X0_passes_2 O hr hm _ _ _ (fun w1 h => ?_) FU _ _ h)
  refine j_iconst O dX0_passes_31 ?_
  refine j_istore_n (L' := [(2, vI (0)), (0, .ref (adG (xG x) (this))), (1, vR (xG x) (p1))]) O 2 dX0_passes_32 rfl (by rw [hm]; decide) (by cases p1 <;> rfl) ?_
  refine j_iconst O dX0_passes_33 ?_
  refine j_istore_n (L' := [(3, vI (0)), (2, vI (0)), (0, .ref (adG (xG x) (this))), (1, vR (xG x) (p1))]) O 3 dX0_passes_34 rfl (by rw [hm]; decide) rfl ?_
  refine (J.sub [2, 3, 1, 0] rfl <| wk_X0_passes_35 O hr hm _ _ _ (fun z2 w3 h => ?_) FU _ _ _ h)
  refine j_aloadq_n O 0 1 dX0_passes_118 rfl rfl ?_
  refine j_dup O dX0_passes_119 (vR_cat _ _) ?_
  obtain ⟨k4, e_k4, g_k4⟩ := h
  subst e_k4
  have h := g_k4
  refine j_getIN O cfX2 5 (Nat.le_of_ble_eq_true rfl) (.inl rfl) (lw_n q188 rfl) dX0_passes_120 h (fun v5 h => ?_)
  refine j_iconst O dX0_passes_123 ?_
  refine j_iadd O dX0_passes_124 ?_
  refine j_putIN O cfX2 5 (Nat.le_of_ble_eq_true rfl) rfl (lw_n q188 rfl) rfl dX0_passes_125 h (fun w6 h => ?_)
  refine j_iload_n O 1 2 dX0_passes_128 rfl rfl ?_
  exact j_iret O hr dX0_passes_129 h
theorem hy_X0_done : (yX0_done.cls = "DowryBoxes" ∧ yX0_done.cls ≠ "java/lang/invoke/MethodHandle" ∧ yX0_done.cls ≠ "java/lang/invoke/VarHandle" ∧ (parseMethodDescriptor yX0_done.desc).map (fun d => d.parameters.length) = some 1) := by decide +kernel
theorem mt_X0_done (l : Launch) (G : GW) (this : Nat) (p1 : Int) (w : Wd) (Q : Int → Wd → Prop) (h : wp_X0_done this p1 w Q) : MI l G yX0_done cX0_done 2 (.int) 1 0 0 [.ref (adG G (this)), vI (p1)] w Q := by
  refine met_I (fun G => [.ref (adG G (this)), vI (p1)]) (by decide) (fun G => Nat.le_of_ble_eq_true rfl) (fun x O hl hm hr => ?_)
  subst hl
  have O : OK x "DowryBoxes" cX0_done 1 := O
  have h : wp_X0_done this p1 w Q := h
  unfold wp_X0_done at h
  show J x (TI x Q) w 0 0 0 [(0, .ref (adG (xG x) (this))), (1, vI (p1))] []
  refine j_aload_n O 0 0 dX0_done_0 rfl rfl ?_
  refine j_iconst O dX0_done_1 ?_
  refine j_putI O cfX0 0 (Nat.le_of_ble_eq_true rfl) rfl q358 rfl dX0_done_2 h (fun w1 h => ?_)
  refine j_iload_n O 1 1 dX0_done_5 rfl rfl ?_
  exact j_iret O hr dX0_done_6 h
theorem hy_X0_generations : (yX0_generations.cls = "DowryBoxes" ∧ yX0_generations.cls ≠ "java/lang/invoke/MethodHandle" ∧ yX0_generations.cls ≠ "java/lang/invoke/VarHandle" ∧ (parseMethodDescriptor yX0_generations.desc).map (fun d => d.parameters.length) = some 2) := by decide +kernel
theorem wk_X0_generations_21 {x : Cx} (O : OK x "DowryBoxes" cX0_generations 110) (hr : (xM x).sig.returnType = some .int) (hm : xn x = 10) {Q : Int → Wd → Prop} (this : Nat) (w : Wd) (h : wp_X0_generations_21 Q this w) : J x (TI x Q) w 0 0 21 [(0, .ref (adG (xG x) (this)))] [] := by
  unfold wp_X0_generations_21 at h
  refine j_aload_n O 0 0 dX0_generations_21 rfl rfl ?_
  refine j_iconst O dX0_generations_22 ?_
  obtain ⟨e3, h⟩ := h
  refine fin_I O ⟨Nat.zero_le _, Nat.zero_le _⟩ (run_V (As := [vI (((-1)))]) (st := []) O (mt_X0_refuse (xl x) (xG x) _ _ _ _ h) e3 cfX0.1 q468 q470 qs1 q121 q471 hy_X0_refuse (Nat.le_of_ble_eq_true rfl) (Nat.le_of_ble_eq_true rfl) ⟨Nat.zero_le _, Nat.zero_le _⟩ rfl (Nat.le_of_ble_eq_true rfl) dX0_generations_23) (fun r1 w2 h => ?_)
  exact j_iret O hr dX0_generations_26 h
theorem wk_X0_generations_204 {x : Cx} (O : OK x "DowryBoxes" cX0_generations 110) (hr : (xM x).sig.returnType = some .int) (hm : xn x = 10) {Q : Int → Wd → Prop} (K79 : Int → Int → Wd → Prop) (X79 : Int → Wd → Prop) (this : Nat) (x2 : Int) (x3 : Option Nat) (x4 : Int) (x5 : Int) (hK79 : ∀ (y4 : Int) (y5 : Int) (w : Wd), K79 y4 y5 w → J x (TI x Q) w 0 0 79 [(0, .ref (adG (xG x) (this))), (2, vI (x2)), (3, vR (xG x) (x3)), (4, vI (y4)), (5, vI (y5))] []) (hX79 : ∀ (y4 : Int) (w : Wd), X79 y4 w → J x (TI x Q) w 0 0 220 [(0, .ref (adG (xG x) (this))), (4, vI (y4))] []) (w : Wd) (h : wp_X0_generations_204 Q K79 X79 this x2 x3 x4 x5 w) : J x (TI x Q) w 0 0 204 [(0, .ref (adG (xG x) (this))), (2, vI (x2)), (3, vR (xG x) (x3)), (4, vI (x4)), (5, vI (x5))] [] := by
  unfold wp_X0_generations_204 at h
  refine j_iload O 3 dX0_generations_204 rfl ?_
  refine j_aload_n O 0 0 dX0_generations_206 rfl rfl ?_
  refine j_aloadq_n O 2 3 dX0_generations_207 rfl rfl ?_
  obtain ⟨e3, h⟩ := h
  refine fin_I O ⟨Nat.zero_le _, Nat.zero_le _⟩ (run_V (As := [vR (xG x) (x3)]) (st := [vI (x4)]) O (mt_X0_passes (xl x) (xG x) _ _ _ _ h) e3 cfX0.1 q1322 q1324 qs27 q121 q1325 hy_X0_passes (Nat.le_of_ble_eq_true rfl) (Nat.le_of_ble_eq_true rfl) ⟨Nat.zero_le _, Nat.zero_le _⟩ rfl (Nat.le_of_ble_eq_true rfl) dX0_generations_208) (fun r1 w2 h => ?_)
  refine j_iadd O dX0_generations_211 ?_
  refine j_istore (L' := [(4, vI (x4 + r1)), (0, .ref (adG (xG x) (this))), (2, vI (x2)), (3, vR (xG x) (x3)), (5, vI (x5))]) O dX0_generations_212 (by rw [hm]; decide) (by cases x3 <;> rfl) ?_
  refine j_iinc (L' := [(5, vI (x5 + 1)), (4, vI (x4 + r1)), (0, .ref (adG (xG x) (this))), (2, vI (x2)), (3, vR (xG x) (x3))]) O 4 dX0_generations_214 rfl (by rw [hm]; decide) rfl ?_
  refine j_goto O (tgt := 79) dX0_generations_217 (by decide) ?_
  exact (J.sub [2, 3, 4, 1, 0] rfl <| hK79 _ _ _ h)
theorem wk_X0_generations_178 {x : Cx} (O : OK x "DowryBoxes" cX0_generations 110) (hr : (xM x).sig.returnType = some .int) (hm : xn x = 10) {Q : Int → Wd → Prop} (K79 : Int → Int → Wd → Prop) (X79 : Int → Wd → Prop) (this : Nat) (x2 : Int) (x3 : Option Nat) (x4 : Int) (x5 : Int) (x6 : Int) (x9 : Int) (hK79 : ∀ (y4 : Int) (y5 : Int) (w : Wd), K79 y4 y5 w → J x (TI x Q) w 0 0 79 [(0, .ref (adG (xG x) (this))), (2, vI (x2)), (3, vR (xG x) (x3)), (4, vI (y4)), (5, vI (y5))] []) (hX79 : ∀ (y4 : Int) (w : Wd), X79 y4 w → J x (TI x Q) w 0 0 220 [(0, .ref (adG (xG x) (this))), (4, vI (y4))] []) (w : Wd) (h : wp_X0_generations_178 Q K79 X79 this x2 x3 x4 x5 x6 x9 w) : J x (TI x Q) w 0 0 178 [(0, .ref (adG (xG x) (this))), (2, vI (x2)), (3, vR (xG x) (x3)), (4, vI (x4)), (5, vI (x5)), (6, vI (x6)), (9, vI (x9))] [] := by
  unfold wp_X0_generations_178 at h
  refine j_iload O 6 dX0_generations_178 rfl ?_
  refine j_iconst O dX0_generations_180 ?_
  obtain ⟨c1, h⟩ := h
  refine j_icmp_ne O (tgt := 204) dX0_generations_181 (by decide) c1 (by decide) h (fun h => ?_) (fun h => ?_)
  · exact (J.sub [0, 1, 2, 3, 4] rfl <| wk_X0_generations_204 O hr hm _ _ _ _ _ _ _ hK79 hX79 _ h)
  · refine j_aloadq_n O 2 3 dX0_generations_184 rfl rfl ?_
    obtain ⟨k2, e_k2, g_k2⟩ := h
    subst e_k2
    have h := g_k2
    refine j_getAN O cfX2 2 (Nat.le_of_ble_eq_true rfl) ⟨_, rfl⟩ (lw_n q182 rfl) dX0_generations_185 h (fun k3 h => ?_)
    refine j_iload O 5 dX0_generations_188 rfl ?_
    refine j_iconst O dX0_generations_190 ?_
    refine j_aloadq_n O 2 3 dX0_generations_191 rfl rfl ?_
    refine j_getAN O cfX2 2 (Nat.le_of_ble_eq_true rfl) ⟨_, rfl⟩ (lw_n q182 rfl) dX0_generations_192 h (fun k4 h => ?_)
    refine j_iload O 5 dX0_generations_195 rfl ?_
    refine j_iald O dX0_generations_197 h (fun v5 h => ?_)
    refine j_iconst O dX0_generations_198 ?_
    refine j_isub O dX0_generations_199 ?_
    obtain ⟨c6, h⟩ := h
    refine j_mmax O q1326 q550 q135 q551 (Nat.le_of_ble_eq_true rfl) (Nat.le_of_ble_eq_true rfl) dX0_generations_200 (by decide) c6 ?_
    refine j_iast O dX0_generations_203 h (fun w7 h => ?_)
    exact (J.sub [0, 1, 2, 3, 4] rfl <| wk_X0_generations_204 O hr hm _ _ _ _ _ _ _ hK79 hX79 _ h)
theorem wk_X0_generations_158 {x : Cx} (O : OK x "DowryBoxes" cX0_generations 110) (hr : (xM x).sig.returnType = some .int) (hm : xn x = 10) {Q : Int → Wd → Prop} (K79 : Int → Int → Wd → Prop) (X79 : Int → Wd → Prop) (this : Nat) (x2 : Int) (x3 : Option Nat) (x4 : Int) (x5 : Int) (x6 : Int) (x8 : Int) (x9 : Int) (hK79 : ∀ (y4 : Int) (y5 : Int) (w : Wd), K79 y4 y5 w → J x (TI x Q) w 0 0 79 [(0, .ref (adG (xG x) (this))), (2, vI (x2)), (3, vR (xG x) (x3)), (4, vI (y4)), (5, vI (y5))] []) (hX79 : ∀ (y4 : Int) (w : Wd), X79 y4 w → J x (TI x Q) w 0 0 220 [(0, .ref (adG (xG x) (this))), (4, vI (y4))] []) (w : Wd) (h : wp_X0_generations_158 Q K79 X79 this x2 x3 x4 x5 x6 x8 x9 w) : J x (TI x Q) w 0 0 158 [(0, .ref (adG (xG x) (this))), (2, vI (x2)), (3, vR (xG x) (x3)), (4, vI (x4)), (5, vI (x5)), (6, vI (x6)), (8, vI (x8)), (9, vI (x9))] [] := by
  unfold wp_X0_generations_158 at h
  refine j_iload O 7 dX0_generations_158 rfl ?_
  refine j_iconst O dX0_generations_160 ?_
  obtain ⟨c1, h⟩ := h
  refine j_icmp_ne O (tgt := 178) dX0_generations_161 (by decide) c1 (by decide) h (fun h => ?_) (fun h => ?_)
  · exact (J.sub [0, 1, 2, 3, 4, 5, 7] rfl <| wk_X0_generations_178 O hr hm _ _ _ _ _ _ _ _ _ hK79 hX79 _ h)
  · refine j_aloadq_n O 2 3 dX0_generations_164 rfl rfl ?_
    obtain ⟨k2, e_k2, g_k2⟩ := h
    subst e_k2
    have h := g_k2
    refine j_getAN O cfX2 1 (Nat.le_of_ble_eq_true rfl) ⟨_, rfl⟩ (lw_n q180 rfl) dX0_generations_165 h (fun k3 h => ?_)
    refine j_iload O 5 dX0_generations_168 rfl ?_
    refine j_dup2_11 O dX0_generations_170 rfl rfl ?_
    refine j_iald O dX0_generations_171 h (fun v4 h => ?_)
    refine j_iconst O dX0_generations_172 ?_
    refine j_iload O 6 dX0_generations_173 rfl ?_
    refine j_ishl O dX0_generations_175 ?_
    refine j_ior O dX0_generations_176 ?_
    refine j_iast O dX0_generations_177 h (fun w5 h => ?_)
    exact (J.sub [0, 1, 2, 3, 4, 5, 7] rfl <| wk_X0_generations_178 O hr hm _ _ _ _ _ _ _ _ _ hK79 hX79 _ h)
theorem wk_X0_generations_79 {x : Cx} (O : OK x "DowryBoxes" cX0_generations 110) (hr : (xM x).sig.returnType = some .int) (hm : xn x = 10) {Q : Int → Wd → Prop} (X79 : Int → Wd → Prop) (this : Nat) (x2 : Int) (x3 : Option Nat) (hX79 : ∀ (y4 : Int) (w : Wd), X79 y4 w → J x (TI x Q) w 0 0 220 [(0, .ref (adG (xG x) (this))), (4, vI (y4))] []) : ∀ (n : Nat) (x4 : Int) (x5 : Int) (w : Wd), wp_X0_generations_79 Q X79 this x2 x3 n x4 x5 w → J x (TI x Q) w 0 0 79 [(0, .ref (adG (xG x) (this))), (2, vI (x2)), (3, vR (xG x) (x3)), (4, vI (x4)), (5, vI (x5))] [] := by
  intro n
  induction n with
  | zero => intro x4 x5 w h; exact False.elim h
  | succ n ih =>
    intro x4 x5 w h
    rw [wp_X0_generations_79] at h
    refine j_iload O 4 dX0_generations_79 rfl ?_
    refine j_iload_n O 1 2 dX0_generations_81 rfl rfl ?_
    obtain ⟨c1, h⟩ := h
    obtain ⟨c2, h⟩ := h
    refine j_icmp_ge O (tgt := 220) dX0_generations_82 (by decide) c1 c2 h (fun h => ?_) (fun h => ?_)
    · exact (J.sub [0, 3] rfl <| hX79 _ _ h)
    · refine j_aloadq_n O 2 3 dX0_generations_85 rfl rfl ?_
      obtain ⟨k3, e_k3, g_k3⟩ := h
      subst e_k3
      have h := g_k3
      refine j_getIN O cfX2 5 (Nat.le_of_ble_eq_true rfl) (.inl rfl) (lw_n q188 rfl) dX0_generations_86 h (fun v4 h => ?_)
      refine j_sipush (m := 999) O dX0_generations_89 si_999 ?_
      obtain ⟨c5, h⟩ := h
      refine j_icmp_ge O (tgt := 220) dX0_generations_92 (by decide) c5 (by decide) h (fun h => ?_) (fun h => ?_)
      · exact (J.sub [0, 3] rfl <| hX79 _ _ h)
      · refine j_aload_n O 0 0 dX0_generations_95 rfl rfl ?_
        refine j_aload_n O 0 0 dX0_generations_96 rfl rfl ?_
        refine j_getR O cfX0 2 (Nat.le_of_ble_eq_true rfl) ⟨_, rfl⟩ q360 dX0_generations_97 h (fun o6 h => ?_)
        obtain ⟨k7, e_k7, g_k7⟩ := h
        subst e_k7
        have h := g_k7
        refine j_getIN O cfX1 5 (Nat.le_of_ble_eq_true rfl) (.inl rfl) (lw_n q242 rfl) dX0_generations_100 h (fun v8 h => ?_)
        obtain ⟨e11, h⟩ := h
        refine fin_I O ⟨Nat.zero_le _, Nat.zero_le _⟩ (run_V (As := [vI (v8)]) (st := []) O (mt_X0_draw (xl x) (xG x) _ _ _ _ h) e11 cfX0.1 q1519 q1521 qs47 q121 q1522 hy_X0_draw (Nat.le_of_ble_eq_true rfl) (Nat.le_of_ble_eq_true rfl) ⟨Nat.zero_le _, Nat.zero_le _⟩ rfl (Nat.le_of_ble_eq_true rfl) dX0_generations_103) (fun r9 w10 h => ?_)
        refine j_istore (L' := [(6, vI (r9)), (0, .ref (adG (xG x) (this))), (2, vI (x2)), (3, vR (xG x) (some k3)), (4, vI (x4)), (5, vI (x5))]) O dX0_generations_106 (by rw [hm]; decide) rfl ?_
        refine j_aload_n O 1 0 dX0_generations_108 rfl rfl ?_
        refine j_bipush (m := 8) O dX0_generations_109 bi_8 ?_
        obtain ⟨e14, h⟩ := h
        refine fin_I O ⟨Nat.zero_le _, Nat.zero_le _⟩ (run_V (As := [vI (8)]) (st := []) O (mt_X0_draw (xl x) (xG x) _ _ _ _ h) e14 cfX0.1 q1519 q1521 qs47 q121 q1522 hy_X0_draw (Nat.le_of_ble_eq_true rfl) (Nat.le_of_ble_eq_true rfl) ⟨Nat.zero_le _, Nat.zero_le _⟩ rfl (Nat.le_of_ble_eq_true rfl) dX0_generations_111) (fun r12 w13 h => ?_)
        refine j_istore (L' := [(7, vI (r12)), (6, vI (r9)), (0, .ref (adG (xG x) (this))), (2, vI (x2)), (3, vR (xG x) (some k3)), (4, vI (x4)), (5, vI (x5))]) O dX0_generations_114 (by rw [hm]; decide) rfl ?_
        refine j_aload_n O 2 0 dX0_generations_116 rfl rfl ?_
        refine j_bipush (m := 8) O dX0_generations_117 bi_8 ?_
        obtain ⟨e17, h⟩ := h
        refine fin_I O ⟨Nat.zero_le _, Nat.zero_le _⟩ (run_V (As := [vI (8)]) (st := []) O (mt_X0_draw (xl x) (xG x) _ _ _ _ h) e17 cfX0.1 q1519 q1521 qs47 q121 q1522 hy_X0_draw (Nat.le_of_ble_eq_true rfl) (Nat.le_of_ble_eq_true rfl) ⟨Nat.zero_le _, Nat.zero_le _⟩ rfl (Nat.le_of_ble_eq_true rfl) dX0_generations_119) (fun r15 w16 h => ?_)
        refine j_istore (L' := [(8, vI (r15)), (7, vI (r12)), (6, vI (r9)), (0, .ref (adG (xG x) (this))), (2, vI (x2)), (3, vR (xG x) (some k3)), (4, vI (x4)), (5, vI (x5))]) O dX0_generations_122 (by rw [hm]; decide) rfl ?_
        refine j_aload_n O 3 0 dX0_generations_124 rfl rfl ?_
        refine j_iconst O dX0_generations_125 ?_
        obtain ⟨e20, h⟩ := h
        refine fin_I O ⟨Nat.zero_le _, Nat.zero_le _⟩ (run_V (As := [vI (3)]) (st := []) O (mt_X0_draw (xl x) (xG x) _ _ _ _ h) e20 cfX0.1 q1519 q1521 qs47 q121 q1522 hy_X0_draw (Nat.le_of_ble_eq_true rfl) (Nat.le_of_ble_eq_true rfl) ⟨Nat.zero_le _, Nat.zero_le _⟩ rfl (Nat.le_of_ble_eq_true rfl) dX0_generations_126) (fun r18 w19 h => ?_)
        refine j_istore (L' := [(9, vI (r18)), (8, vI (r15)), (7, vI (r12)), (6, vI (r9)), (0, .ref (adG (xG x) (this))), (2, vI (x2)), (3, vR (xG x) (some k3)), (4, vI (x4)), (5, vI (x5))]) O dX0_generations_129 (by rw [hm]; decide) rfl ?_
        refine j_iload O 0 dX0_generations_131 rfl ?_
        obtain ⟨c21, h⟩ := h
        refine j_if_ne O (tgt := 158) dX0_generations_133 (by decide) c21 h (fun h => ?_) (fun h => ?_)
        · exact (J.sub [4, 5, 6, 7, 8, 3, 1, 0] rfl <| wk_X0_generations_158 O hr hm _ _ _ _ _ _ _ _ _ _ ih hX79 _ h)
        · refine j_aloadq_n O 6 3 dX0_generations_136 rfl rfl ?_
          refine j_getAN O cfX2 0 (Nat.le_of_ble_eq_true rfl) ⟨_, rfl⟩ (lw_n q178 rfl) dX0_generations_137 h (fun k22 h => ?_)
          refine j_bipush (m := 8) O dX0_generations_140 bi_8 ?_
          refine j_iload O 3 dX0_generations_142 rfl ?_
          refine j_imul O dX0_generations_144 ?_
          refine j_iload O 2 dX0_generations_145 rfl ?_
          refine j_iadd O dX0_generations_147 ?_
          refine j_dup2_11 O dX0_generations_148 rfl rfl ?_
          refine j_iald O dX0_generations_149 h (fun v23 h => ?_)
          refine j_iconst O dX0_generations_150 ?_
          refine j_iload O 1 dX0_generations_151 rfl ?_
          refine j_ishl O dX0_generations_153 ?_
          refine j_iconst O dX0_generations_154 ?_
          refine j_ixor O dX0_generations_155 ?_
          refine j_iand O dX0_generations_156 ?_
          refine j_iast O dX0_generations_157 h (fun w24 h => ?_)
          exact (J.sub [4, 5, 6, 7, 8, 3, 1, 0] rfl <| wk_X0_generations_158 O hr hm _ _ _ _ _ _ _ _ _ _ ih hX79 _ h)
theorem wk_X0_generations_220 {x : Cx} (O : OK x "DowryBoxes" cX0_generations 110) (hr : (xM x).sig.returnType = some .int) (hm : xn x = 10) {Q : Int → Wd → Prop} (this : Nat) (x4 : Int) (w : Wd) (h : wp_X0_generations_220 Q this x4 w) : J x (TI x Q) w 0 0 220 [(0, .ref (adG (xG x) (this))), (4, vI (x4))] [] := by
  unfold wp_X0_generations_220 at h
  refine j_aload_n O 0 0 dX0_generations_220 rfl rfl ?_
  refine j_iload O 1 dX0_generations_221 rfl ?_
  obtain ⟨e3, h⟩ := h
  refine fin_I O ⟨Nat.zero_le _, Nat.zero_le _⟩ (run_V (As := [vI (x4)]) (st := []) O (mt_X0_done (xl x) (xG x) _ _ _ _ h) e3 cfX0.1 q558 q560 qs3 q121 q561 hy_X0_done (Nat.le_of_ble_eq_true rfl) (Nat.le_of_ble_eq_true rfl) ⟨Nat.zero_le _, Nat.zero_le _⟩ rfl (Nat.le_of_ble_eq_true rfl) dX0_generations_223) (fun r1 w2 h => ?_)
  exact j_iret O hr dX0_generations_226 h
theorem mt_X0_generations (l : Launch) (G : GW) (this : Nat) (p1 : Int) (p2 : Int) (w : Wd) (Q : Int → Wd → Prop) (h : wp_X0_generations this p1 p2 w Q) : MI l G yX0_generations cX0_generations 10 (.int) 110 0 0 [.ref (adG G (this)), vI (p1), vI (p2)] w Q := by
  refine met_I (fun G => [.ref (adG G (this)), vI (p1), vI (p2)]) (by decide) (fun G => Nat.le_of_ble_eq_true rfl) (fun x O hl hm hr => ?_)
  subst hl
  have O : OK x "DowryBoxes" cX0_generations 110 := O
  have h : wp_X0_generations this p1 p2 w Q := h
  unfold wp_X0_generations at h
  show J x (TI x Q) w 0 0 0 [(0, .ref (adG (xG x) (this))), (1, vI (p1)), (2, vI (p2))] []
  refine j_iload_n O 1 1 dX0_generations_0 rfl rfl ?_
  refine j_iconst O dX0_generations_1 ?_
  refine j_ldcw (m := 1000000) O dX0_generations_2 q1352 ld_1000000 ?_
  refine fin_I O ⟨Nat.zero_le _, Nat.zero_le _⟩ (run_S (As := [vI (p1), vI (0), vI (1000000)]) (st := []) O (mt_X0_in (xl x) (xG x) _ _ _ _ _ h) q465 q466 q121 q467 hy_X0_in.2 (Nat.le_of_ble_eq_true rfl) (Nat.le_of_ble_eq_true rfl) ⟨Nat.zero_le _, Nat.zero_le _⟩ rfl (Nat.le_of_ble_eq_true rfl) dX0_generations_5) (fun r1 w2 h => ?_)
  obtain ⟨c3, h⟩ := h
  refine j_if_eq O (tgt := 21) dX0_generations_8 (by decide) c3 h (fun h => ?_) (fun h => ?_)
  · exact (J.sub [0] rfl <| wk_X0_generations_21 O hr hm  _  _ h)
  · refine j_iload_n O 2 2 dX0_generations_11 rfl rfl ?_
    refine j_iconst O dX0_generations_12 ?_
    refine j_bipush (m := 60) O dX0_generations_13 bi_60 ?_
    refine fin_I O ⟨Nat.zero_le _, Nat.zero_le _⟩ (run_S (As := [vI (p2), vI (1), vI (60)]) (st := []) O (mt_X0_in (xl x) (xG x) _ _ _ _ _ h) q465 q466 q121 q467 hy_X0_in.2 (Nat.le_of_ble_eq_true rfl) (Nat.le_of_ble_eq_true rfl) ⟨Nat.zero_le _, Nat.zero_le _⟩ rfl (Nat.le_of_ble_eq_true rfl) dX0_generations_15) (fun r4 w5 h => ?_)
    obtain ⟨c6, h⟩ := h
    refine j_if_ne O (tgt := 27) dX0_generations_18 (by decide) c6 h (fun h => ?_) (fun h => ?_)
    · refine j_aload_n O 0 0 dX0_generations_27 rfl rfl ?_
      refine j_getR O cfX0 2 (Nat.le_of_ble_eq_true rfl) ⟨_, rfl⟩ q360 dX0_generations_28 h (fun o7 h => ?_)
      obtain ⟨k8, e_k8, g_k8⟩ := h
      subst e_k8
      have h := g_k8
      refine j_getIN O cfX1 5 (Nat.le_of_ble_eq_true rfl) (.inl rfl) (lw_n q242 rfl) dX0_generations_31 h (fun v9 h => ?_)
      obtain ⟨c10, h⟩ := h
      refine j_if_ne O (tgt := 44) dX0_generations_34 (by decide) c10 h (fun h => ?_) (fun h => ?_)
      · refine j_aload_n O 0 0 dX0_generations_44 rfl rfl ?_
        refine j_iload_n O 1 1 dX0_generations_45 rfl rfl ?_
        refine j_putI O cfX0 33 (Nat.le_of_ble_eq_true rfl) rfl q391 rfl dX0_generations_46 h (fun w11 h => ?_)
        refine j_aload_n O 0 0 dX0_generations_49 rfl rfl ?_
        refine j_aload_n O 0 0 dX0_generations_50 rfl rfl ?_
        refine j_getR O cfX0 2 (Nat.le_of_ble_eq_true rfl) ⟨_, rfl⟩ q360 dX0_generations_51 h (fun o12 h => ?_)
        obtain ⟨k13, e_k13, g_k13⟩ := h
        subst e_k13
        have h := g_k13
        refine j_getIN O cfX1 5 (Nat.le_of_ble_eq_true rfl) (.inl rfl) (lw_n q242 rfl) dX0_generations_54 h (fun v14 h => ?_)
        refine j_putI O cfX0 32 (Nat.le_of_ble_eq_true rfl) rfl q390 rfl dX0_generations_57 h (fun w15 h => ?_)
        refine j_aload_n O 0 0 dX0_generations_60 rfl rfl ?_
        refine j_getR O cfX0 31 (Nat.le_of_ble_eq_true rfl) ⟨_, rfl⟩ q389 dX0_generations_61 h (fun o16 h => ?_)
        refine j_astoreq_n (L' := [(3, vR (xG x) (o16)), (0, .ref (adG (xG x) (this))), (1, vI (p1)), (2, vI (p2))]) O 3 dX0_generations_64 rfl (by rw [hm]; decide) rfl ?_
        refine j_aloadq_n O 0 3 dX0_generations_65 rfl rfl ?_
        refine j_aload_n O 1 0 dX0_generations_66 rfl rfl ?_
        obtain ⟨e19, h⟩ := h
        refine fin_R O ⟨Nat.zero_le _, Nat.zero_le _⟩ (run_V (As := []) (st := [vR (xG x) (o16)]) O (mt_X0_table (xl x) (xG x) _ _ _ h) e19 cfX0.1 q574 q576 qs5 q121 q577 hy_X0_table (Nat.le_of_ble_eq_true rfl) (Nat.le_of_ble_eq_true rfl) ⟨Nat.zero_le _, Nat.zero_le _⟩ rfl (by simp only [List.map_cons, List.map_nil, vR_cat]; exact Nat.le_of_ble_eq_true rfl) dX0_generations_67) (fun o17 w18 h => ?_)
        obtain ⟨k20, e_k20, g_k20⟩ := h
        subst e_k20
        have h := g_k20
        obtain ⟨e22, h⟩ := h
        refine fin_V O ⟨Nat.zero_le _, Nat.zero_le _⟩ (run_V (As := [vR (xG x) (o17)]) (st := []) O (mt_X2_takes (xl x) (xG x) _ _ _ _ h) e22 cfX2.1 q1285 q477 q478 q123 q479 hy_X2_takes (Nat.le_of_ble_eq_true rfl) (Nat.le_of_ble_eq_true rfl) ⟨Nat.zero_le _, Nat.zero_le _⟩ rfl (Nat.le_of_ble_eq_true rfl) dX0_generations_70) (fun w21 h => ?_)
        refine j_iconst O dX0_generations_73 ?_
        refine j_istore (L' := [(4, vI (0)), (3, vR (xG x) (some k20)), (0, .ref (adG (xG x) (this))), (1, vI (p1)), (2, vI (p2))]) O dX0_generations_74 (by rw [hm]; decide) rfl ?_
        refine j_iconst O dX0_generations_76 ?_
        refine j_istore (L' := [(5, vI (0)), (4, vI (0)), (3, vR (xG x) (some k20)), (0, .ref (adG (xG x) (this))), (1, vI (p1)), (2, vI (p2))]) O dX0_generations_77 (by rw [hm]; decide) rfl ?_
        refine (J.sub [3, 5, 2, 1, 0] rfl <| wk_X0_generations_79 O hr hm _ _ _ _ (fun z23 w24 h => ?_) FU _ _ _ h)
        exact (J.sub [0, 1] rfl <| wk_X0_generations_220 O hr hm  _ _  _ h)
      · refine j_aload_n O 0 0 dX0_generations_37 rfl rfl ?_
        refine j_bipush (m := (-3)) O dX0_generations_38 bi_m3 ?_
        obtain ⟨e27, h⟩ := h
        refine fin_I O ⟨Nat.zero_le _, Nat.zero_le _⟩ (run_V (As := [vI (((-3)))]) (st := []) O (mt_X0_refuse (xl x) (xG x) _ _ _ _ h) e27 cfX0.1 q468 q470 qs1 q121 q471 hy_X0_refuse (Nat.le_of_ble_eq_true rfl) (Nat.le_of_ble_eq_true rfl) ⟨Nat.zero_le _, Nat.zero_le _⟩ rfl (Nat.le_of_ble_eq_true rfl) dX0_generations_40) (fun r25 w26 h => ?_)
        exact j_iret O hr dX0_generations_43 h
    · exact (J.sub [0] rfl <| wk_X0_generations_21 O hr hm  _  _ h)
theorem hy_X0_putsBack : (yX0_putsBack.cls = "DowryBoxes" ∧ yX0_putsBack.cls ≠ "java/lang/invoke/MethodHandle" ∧ yX0_putsBack.cls ≠ "java/lang/invoke/VarHandle" ∧ (parseMethodDescriptor yX0_putsBack.desc).map (fun d => d.parameters.length) = some 1) := by decide +kernel
theorem wk_X0_putsBack_13 {x : Cx} (O : OK x "DowryBoxes" cX0_putsBack 3) (hr : (xM x).sig.returnType = none) (hm : xn x = 3) {Q : Wd → Prop} (X13 : Wd → Prop) (this : Nat) (x1 : Int) (hX13 : ∀  (w : Wd), X13  w → J x (TV x Q) w 0 0 39 [(0, .ref (adG (xG x) (this))), (1, vI (x1))] []) : ∀ (n : Nat) (x2 : Int) (w : Wd), wp_X0_putsBack_13 Q X13 this x1 n x2 w → J x (TV x Q) w 0 0 13 [(0, .ref (adG (xG x) (this))), (1, vI (x1)), (2, vI (x2))] [] := by
  intro n
  induction n with
  | zero => intro x2 w h; exact False.elim h
  | succ n ih =>
    intro x2 w h
    rw [wp_X0_putsBack_13] at h
    refine j_iload_n O 2 2 dX0_putsBack_13 rfl rfl ?_
    refine j_iload_n O 1 1 dX0_putsBack_14 rfl rfl ?_
    obtain ⟨c1, h⟩ := h
    obtain ⟨c2, h⟩ := h
    refine j_icmp_ge O (tgt := 39) dX0_putsBack_15 (by decide) c1 c2 h (fun h => ?_) (fun h => ?_)
    · exact (J.sub [0, 1] rfl <| hX13  _ h)
    · refine j_aload_n O 0 0 dX0_putsBack_18 rfl rfl ?_
      refine j_getA O cfX0 4 (Nat.le_of_ble_eq_true rfl) ⟨_, rfl⟩ q362 dX0_putsBack_19 h (fun k3 h => ?_)
      refine j_iload_n O 2 2 dX0_putsBack_22 rfl rfl ?_
      refine j_aald O (by decide) dX0_putsBack_23 h (fun o4 h => ?_)
      refine j_aload_n O 0 0 dX0_putsBack_24 rfl rfl ?_
      refine j_getA O cfX0 5 (Nat.le_of_ble_eq_true rfl) ⟨_, rfl⟩ q363 dX0_putsBack_25 h (fun k5 h => ?_)
      refine j_iload_n O 2 2 dX0_putsBack_28 rfl rfl ?_
      refine j_aald O (by decide) dX0_putsBack_29 h (fun o6 h => ?_)
      obtain ⟨k7, e_k7, g_k7⟩ := h
      subst e_k7
      have h := g_k7
      obtain ⟨e9, h⟩ := h
      refine fin_V O ⟨Nat.zero_le _, Nat.zero_le _⟩ (run_V (As := [vR (xG x) (o6)]) (st := []) O (mt_X2_takes (xl x) (xG x) _ _ _ _ h) e9 cfX2.1 q1285 q477 q478 q123 q479 hy_X2_takes (Nat.le_of_ble_eq_true rfl) (Nat.le_of_ble_eq_true rfl) ⟨Nat.zero_le _, Nat.zero_le _⟩ rfl (Nat.le_of_ble_eq_true rfl) dX0_putsBack_30) (fun w8 h => ?_)
      refine j_iinc (L' := [(2, vI (x2 + 1)), (0, .ref (adG (xG x) (this))), (1, vI (x1))]) O 2 dX0_putsBack_33 rfl (by rw [hm]; decide) rfl ?_
      refine j_goto O (tgt := 13) dX0_putsBack_36 (by decide) ?_
      exact (J.sub [1, 2, 0] rfl <| ih _ _ h)
theorem mt_X0_putsBack (l : Launch) (G : GW) (this : Nat) (p1 : Int) (w : Wd) (Q : Wd → Prop) (h : wp_X0_putsBack this p1 w Q) : MV l G yX0_putsBack cX0_putsBack 3 3 0 0 [.ref (adG G (this)), vI (p1)] w Q := by
  refine met_V (fun G => [.ref (adG G (this)), vI (p1)]) (by decide) (fun G => Nat.le_of_ble_eq_true rfl) (fun x O hl hm hr _ => ?_)
  subst hl
  have O : OK x "DowryBoxes" cX0_putsBack 3 := O
  have h : wp_X0_putsBack this p1 w Q := h
  unfold wp_X0_putsBack at h
  show J x (TV x Q) w 0 0 0 [(0, .ref (adG (xG x) (this))), (1, vI (p1))] []
  refine j_aload_n O 0 0 dX0_putsBack_0 rfl rfl ?_
  obtain ⟨e3, h⟩ := h
  refine fin_R O ⟨Nat.zero_le _, Nat.zero_le _⟩ (run_V (As := []) (st := []) O (mt_X0_table (xl x) (xG x) _ _ _ h) e3 cfX0.1 q574 q576 qs5 q121 q577 hy_X0_table (Nat.le_of_ble_eq_true rfl) (Nat.le_of_ble_eq_true rfl) ⟨Nat.zero_le _, Nat.zero_le _⟩ rfl (Nat.le_of_ble_eq_true rfl) dX0_putsBack_1) (fun o1 w2 h => ?_)
  refine j_aload_n O 0 0 dX0_putsBack_4 rfl rfl ?_
  refine j_getR O cfX0 8 (Nat.le_of_ble_eq_true rfl) ⟨_, rfl⟩ q366 dX0_putsBack_5 h (fun o4 h => ?_)
  obtain ⟨k5, e_k5, g_k5⟩ := h
  subst e_k5
  have h := g_k5
  obtain ⟨e7, h⟩ := h
  refine fin_V O ⟨Nat.zero_le _, Nat.zero_le _⟩ (run_V (As := [vR (xG x) (o4)]) (st := []) O (mt_X2_takes (xl x) (xG x) _ _ _ _ h) e7 cfX2.1 q1285 q477 q478 q123 q479 hy_X2_takes (Nat.le_of_ble_eq_true rfl) (Nat.le_of_ble_eq_true rfl) ⟨Nat.zero_le _, Nat.zero_le _⟩ rfl (Nat.le_of_ble_eq_true rfl) dX0_putsBack_8) (fun w6 h => ?_)
  refine j_iconst O dX0_putsBack_11 ?_
  refine j_istore_n (L' := [(2, vI (0)), (0, .ref (adG (xG x) (this))), (1, vI (p1))]) O 2 dX0_putsBack_12 rfl (by rw [hm]; decide) rfl ?_
  refine (J.sub [1, 2, 0] rfl <| wk_X0_putsBack_13 O hr hm _ _ _ (fun w8 h => ?_) FU _ _ h)
  refine j_aload_n O 0 0 dX0_putsBack_39 rfl rfl ?_
  refine j_getA O cfX0 7 (Nat.le_of_ble_eq_true rfl) ⟨_, rfl⟩ q365 dX0_putsBack_40 h (fun k9 h => ?_)
  refine j_iconst O dX0_putsBack_43 ?_
  refine j_aload_n O 0 0 dX0_putsBack_44 rfl rfl ?_
  refine j_getA O cfX0 6 (Nat.le_of_ble_eq_true rfl) ⟨_, rfl⟩ q364 dX0_putsBack_45 h (fun k10 h => ?_)
  refine j_iconst O dX0_putsBack_48 ?_
  refine j_bipush (m := 16) O dX0_putsBack_49 bi_16 ?_
  refine j_copyI O q1444 (Nat.le_of_ble_eq_true rfl) (Nat.le_of_ble_eq_true rfl) dX0_putsBack_51 h (fun w11 h => ?_)
  refine j_aload_n O 0 0 dX0_putsBack_54 rfl rfl ?_
  refine j_iload_n O 1 1 dX0_putsBack_55 rfl rfl ?_
  refine j_putI O cfX0 15 (Nat.le_of_ble_eq_true rfl) rfl q373 rfl dX0_putsBack_56 h (fun w12 h => ?_)
  exact j_vret O hr dX0_putsBack_59 h
theorem hy_X0_keeps : (yX0_keeps.cls = "DowryBoxes" ∧ yX0_keeps.cls ≠ "java/lang/invoke/MethodHandle" ∧ yX0_keeps.cls ≠ "java/lang/invoke/VarHandle" ∧ (parseMethodDescriptor yX0_keeps.desc).map (fun d => d.parameters.length) = some 1) := by decide +kernel
theorem wk_X0_keeps_18 {x : Cx} (O : OK x "DowryBoxes" cX0_keeps 3) (hr : (xM x).sig.returnType = none) (hm : xn x = 4) {Q : Wd → Prop} (X18 : Wd → Prop) (this : Nat) (x1 : Int) (x2 : Option Nat) (hX18 : ∀  (w : Wd), X18  w → J x (TV x Q) w 0 0 58 [(0, .ref (adG (xG x) (this))), (1, vI (x1)), (2, vR (xG x) (x2))] []) : ∀ (n : Nat) (x3 : Int) (w : Wd), wp_X0_keeps_18 Q X18 this x1 x2 n x3 w → J x (TV x Q) w 0 0 18 [(0, .ref (adG (xG x) (this))), (1, vI (x1)), (2, vR (xG x) (x2)), (3, vI (x3))] [] := by
  intro n
  induction n with
  | zero => intro x3 w h; exact False.elim h
  | succ n ih =>
    intro x3 w h
    rw [wp_X0_keeps_18] at h
    refine j_iload_n O 3 3 dX0_keeps_18 rfl rfl ?_
    refine j_bipush (m := 16) O dX0_keeps_19 bi_16 ?_
    obtain ⟨c1, h⟩ := h
    refine j_icmp_ge O (tgt := 58) dX0_keeps_21 (by decide) c1 (by decide) h (fun h => ?_) (fun h => ?_)
    · exact (J.sub [0, 1, 2] rfl <| hX18  _ h)
    · refine j_aload_n O 0 0 dX0_keeps_24 rfl rfl ?_
      refine j_getA O cfX0 4 (Nat.le_of_ble_eq_true rfl) ⟨_, rfl⟩ q362 dX0_keeps_25 h (fun k2 h => ?_)
      refine j_iload_n O 3 3 dX0_keeps_28 rfl rfl ?_
      refine j_iconst O dX0_keeps_29 ?_
      refine j_isub O dX0_keeps_30 ?_
      refine j_aload_n O 0 0 dX0_keeps_31 rfl rfl ?_
      refine j_getA O cfX0 4 (Nat.le_of_ble_eq_true rfl) ⟨_, rfl⟩ q362 dX0_keeps_32 h (fun k3 h => ?_)
      refine j_iload_n O 3 3 dX0_keeps_35 rfl rfl ?_
      refine j_aald O (by decide) dX0_keeps_36 h (fun o4 h => ?_)
      refine j_aast (r := o4) O (by decide) dX0_keeps_37 h (fun w5 h => ?_)
      refine j_aload_n O 0 0 dX0_keeps_38 rfl rfl ?_
      refine j_getA O cfX0 6 (Nat.le_of_ble_eq_true rfl) ⟨_, rfl⟩ q364 dX0_keeps_39 h (fun k6 h => ?_)
      refine j_iload_n O 3 3 dX0_keeps_42 rfl rfl ?_
      refine j_iconst O dX0_keeps_43 ?_
      refine j_isub O dX0_keeps_44 ?_
      refine j_aload_n O 0 0 dX0_keeps_45 rfl rfl ?_
      refine j_getA O cfX0 6 (Nat.le_of_ble_eq_true rfl) ⟨_, rfl⟩ q364 dX0_keeps_46 h (fun k7 h => ?_)
      refine j_iload_n O 3 3 dX0_keeps_49 rfl rfl ?_
      refine j_iald O dX0_keeps_50 h (fun v8 h => ?_)
      refine j_iast O dX0_keeps_51 h (fun w9 h => ?_)
      refine j_iinc (L' := [(3, vI (x3 + 1)), (0, .ref (adG (xG x) (this))), (1, vI (x1)), (2, vR (xG x) (x2))]) O 3 dX0_keeps_52 rfl (by rw [hm]; decide) (by cases x2 <;> rfl) ?_
      refine j_goto O (tgt := 18) dX0_keeps_55 (by decide) ?_
      exact (J.sub [1, 2, 3, 0] rfl <| ih _ _ h)
theorem wk_X0_keeps_76 {x : Cx} (O : OK x "DowryBoxes" cX0_keeps 3) (hr : (xM x).sig.returnType = none) (hm : xn x = 4) {Q : Wd → Prop} (this : Nat) (x1 : Int) (w : Wd) (h : wp_X0_keeps_76 Q this x1 w) : J x (TV x Q) w 0 0 76 [(0, .ref (adG (xG x) (this))), (1, vI (x1))] [] := by
  unfold wp_X0_keeps_76 at h
  refine j_aload_n O 0 0 dX0_keeps_76 rfl rfl ?_
  refine j_getA O cfX0 4 (Nat.le_of_ble_eq_true rfl) ⟨_, rfl⟩ q362 dX0_keeps_77 h (fun k1 h => ?_)
  refine j_aload_n O 0 0 dX0_keeps_80 rfl rfl ?_
  refine j_getI O cfX0 15 (Nat.le_of_ble_eq_true rfl) (.inl rfl) q373 dX0_keeps_81 h (fun v2 h => ?_)
  refine j_aald O (by decide) dX0_keeps_84 h (fun o3 h => ?_)
  refine j_aload_n O 0 0 dX0_keeps_85 rfl rfl ?_
  obtain ⟨e6, h⟩ := h
  refine fin_R O ⟨Nat.zero_le _, Nat.zero_le _⟩ (run_V (As := []) (st := [vR (xG x) (o3)]) O (mt_X0_table (xl x) (xG x) _ _ _ h) e6 cfX0.1 q574 q576 qs5 q121 q577 hy_X0_table (Nat.le_of_ble_eq_true rfl) (Nat.le_of_ble_eq_true rfl) ⟨Nat.zero_le _, Nat.zero_le _⟩ rfl (by simp only [List.map_cons, List.map_nil, vR_cat]; exact Nat.le_of_ble_eq_true rfl) dX0_keeps_86) (fun o4 w5 h => ?_)
  obtain ⟨k7, e_k7, g_k7⟩ := h
  subst e_k7
  have h := g_k7
  obtain ⟨e9, h⟩ := h
  refine fin_V O ⟨Nat.zero_le _, Nat.zero_le _⟩ (run_V (As := [vR (xG x) (o4)]) (st := []) O (mt_X2_takes (xl x) (xG x) _ _ _ _ h) e9 cfX2.1 q1285 q477 q478 q123 q479 hy_X2_takes (Nat.le_of_ble_eq_true rfl) (Nat.le_of_ble_eq_true rfl) ⟨Nat.zero_le _, Nat.zero_le _⟩ rfl (Nat.le_of_ble_eq_true rfl) dX0_keeps_89) (fun w8 h => ?_)
  refine j_aload_n O 0 0 dX0_keeps_92 rfl rfl ?_
  refine j_getA O cfX0 6 (Nat.le_of_ble_eq_true rfl) ⟨_, rfl⟩ q364 dX0_keeps_93 h (fun k10 h => ?_)
  refine j_aload_n O 0 0 dX0_keeps_96 rfl rfl ?_
  refine j_getI O cfX0 15 (Nat.le_of_ble_eq_true rfl) (.inl rfl) q373 dX0_keeps_97 h (fun v11 h => ?_)
  refine j_iload_n O 1 1 dX0_keeps_100 rfl rfl ?_
  refine j_iast O dX0_keeps_101 h (fun w12 h => ?_)
  refine j_aload_n O 0 0 dX0_keeps_102 rfl rfl ?_
  refine j_dup O dX0_keeps_103 rfl ?_
  refine j_getI O cfX0 15 (Nat.le_of_ble_eq_true rfl) (.inl rfl) q373 dX0_keeps_104 h (fun v13 h => ?_)
  refine j_iconst O dX0_keeps_107 ?_
  refine j_iadd O dX0_keeps_108 ?_
  refine j_putI O cfX0 15 (Nat.le_of_ble_eq_true rfl) rfl q373 rfl dX0_keeps_109 h (fun w14 h => ?_)
  exact j_vret O hr dX0_keeps_112 h
theorem mt_X0_keeps (l : Launch) (G : GW) (this : Nat) (p1 : Int) (w : Wd) (Q : Wd → Prop) (h : wp_X0_keeps this p1 w Q) : MV l G yX0_keeps cX0_keeps 4 3 0 0 [.ref (adG G (this)), vI (p1)] w Q := by
  refine met_V (fun G => [.ref (adG G (this)), vI (p1)]) (by decide) (fun G => Nat.le_of_ble_eq_true rfl) (fun x O hl hm hr _ => ?_)
  subst hl
  have O : OK x "DowryBoxes" cX0_keeps 3 := O
  have h : wp_X0_keeps this p1 w Q := h
  unfold wp_X0_keeps at h
  show J x (TV x Q) w 0 0 0 [(0, .ref (adG (xG x) (this))), (1, vI (p1))] []
  refine j_aload_n O 0 0 dX0_keeps_0 rfl rfl ?_
  refine j_getI O cfX0 15 (Nat.le_of_ble_eq_true rfl) (.inl rfl) q373 dX0_keeps_1 h (fun v1 h => ?_)
  refine j_bipush (m := 16) O dX0_keeps_4 bi_16 ?_
  obtain ⟨c2, h⟩ := h
  refine j_icmp_ne O (tgt := 76) dX0_keeps_6 (by decide) c2 (by decide) h (fun h => ?_) (fun h => ?_)
  · exact (J.sub [0, 1] rfl <| wk_X0_keeps_76 O hr hm  _ _  _ h)
  · refine j_aload_n O 0 0 dX0_keeps_9 rfl rfl ?_
    refine j_getA O cfX0 4 (Nat.le_of_ble_eq_true rfl) ⟨_, rfl⟩ q362 dX0_keeps_10 h (fun k3 h => ?_)
    refine j_iconst O dX0_keeps_13 ?_
    refine j_aald O (by decide) dX0_keeps_14 h (fun o4 h => ?_)
    refine j_astoreq_n (L' := [(2, vR (xG x) (o4)), (0, .ref (adG (xG x) (this))), (1, vI (p1))]) O 2 dX0_keeps_15 rfl (by rw [hm]; decide) rfl ?_
    refine j_iconst O dX0_keeps_16 ?_
    refine j_istore_n (L' := [(3, vI (1)), (2, vR (xG x) (o4)), (0, .ref (adG (xG x) (this))), (1, vI (p1))]) O 3 dX0_keeps_17 rfl (by rw [hm]; decide) (by cases o4 <;> rfl) ?_
    refine (J.sub [2, 3, 1, 0] rfl <| wk_X0_keeps_18 O hr hm _ _ _ _ (fun w5 h => ?_) FU _ _ h)
    refine j_aload_n O 0 0 dX0_keeps_58 rfl rfl ?_
    refine j_getA O cfX0 4 (Nat.le_of_ble_eq_true rfl) ⟨_, rfl⟩ q362 dX0_keeps_59 h (fun k6 h => ?_)
    refine j_bipush (m := 15) O dX0_keeps_62 bi_15 ?_
    refine j_aloadq_n O 2 2 dX0_keeps_64 rfl rfl ?_
    refine j_aast (r := o4) O (by decide) dX0_keeps_65 h (fun w7 h => ?_)
    refine j_aload_n O 0 0 dX0_keeps_66 rfl rfl ?_
    refine j_dup O dX0_keeps_67 rfl ?_
    refine j_getI O cfX0 15 (Nat.le_of_ble_eq_true rfl) (.inl rfl) q373 dX0_keeps_68 h (fun v8 h => ?_)
    refine j_iconst O dX0_keeps_71 ?_
    refine j_isub O dX0_keeps_72 ?_
    refine j_putI O cfX0 15 (Nat.le_of_ble_eq_true rfl) rfl q373 rfl dX0_keeps_73 h (fun w9 h => ?_)
    exact (J.sub [0, 1] rfl <| wk_X0_keeps_76 O hr hm  _ _  _ h)
