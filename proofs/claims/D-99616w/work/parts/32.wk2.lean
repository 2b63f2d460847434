/-! the walks of the component, by program -/
set_option maxRecDepth 100000
theorem wk_X6_sum_23 {x : Cx}  (S_X6_sum : Nat → Nat → Nat → Wd → (Option Nat → Wd → Prop) → (Nat → Wd → Prop) → Prop) (D : Nat) (hB : 8 ≤ D) (hS_X6_sum : ∀ (l : Launch) (G : GW) (this : Nat) (bc bs : Nat) (w : Wd) (Q : Option Nat → Wd → Prop) (XE : Nat → Wd → Prop), S_X6_sum this bc bs w Q XE → XR l G yX6_sum cX6_sum 3 (.object "DowryBoxes$Sum") D bc bs [.ref (adG G (this))] w Q XE) (O : OK x "DowryBoxes$Reader" cX6_sum (D + 3)) (hr : (xM x).sig.returnType = some (.object "DowryBoxes$Sum")) (hm : xn x = 3) (hne : ∀ z ∈ (xc x).exceptionTable.toList, False) {Q : Option Nat → Wd → Prop} {XE : Nat → Wd → Prop} (K5 : Option Nat → Nat → Nat → Wd → Prop) (this : Nat) (x1 : Option Nat) (hK5 : ∀ (y1 : Option Nat) (bc bs : Nat) (w : Wd), K5 y1 bc bs w → J x (TXR x Q XE) w bc bs 5 [(0, .ref (adG (xG x) (this))), (1, vR (xG x) (y1))] []) (bc bs : Nat) (w : Wd) (h : wp_X6_sum_23 S_X6_sum Q XE K5 this x1 bc bs w) : J x (TXR x Q XE) w bc bs 23 [(0, .ref (adG (xG x) (this))), (1, vR (xG x) (x1))] [] := by
  unfold wp_X6_sum_23 at h
  refine j_aload_n O 0 0 dX6_sum_23 rfl rfl ?_
  refine j_getA2 O cfX7 cfX20 0 ⟨Nat.le_of_ble_eq_true rfl, Nat.le_of_ble_eq_true rfl⟩ ⟨⟨_, rfl⟩, ⟨_, rfl⟩⟩ q791 q791 dX6_sum_24 h (fun k1 h => ?_)
  refine j_aload_n O 0 0 dX6_sum_27 rfl rfl ?_
  refine j_getI2 O cfX7 cfX20 3 ⟨Nat.le_of_ble_eq_true rfl, Nat.le_of_ble_eq_true rfl⟩ ⟨rfl, rfl⟩ q794 q794 dX6_sum_28 h (fun v2 h => ?_)
  refine j_bald O dX6_sum_31 h (fun v3 h => ?_)
  refine j_i2c O dX6_sum_32 ?_
  refine j_istore_n (L' := [(2, vI (nC v3)), (0, .ref (adG (xG x) (this))), (1, vR (xG x) (x1))]) O 2 dX6_sum_33 rfl (by rw [hm]; decide) (by cases x1 <;> rfl) ?_
  refine j_aload_n O 1 0 dX6_sum_34 rfl rfl ?_
  obtain ⟨e5, h⟩ := h
  refine fin_V O ⟨Nat.zero_le _, Nat.zero_le _⟩ (run_U2 (As := []) (st := []) (x0 := ⟨"DowryBoxes$Reader", "next", "()V"⟩) (owner := "DowryBoxes$Reader") O (mt_X6_next (xl x) (xG x) _ _ _ h) e5 cfX7.1 cfX20.1 (lw_U q826 q828 q829 q827 q136 q831) (lw_U q826 q828 q830 q827 q136 q831) rfl hy_X6_next.2 (by omega) (Nat.le_of_ble_eq_true rfl) ⟨Nat.zero_le _, Nat.zero_le _⟩ rfl (Nat.le_of_ble_eq_true rfl) dX6_sum_35) (fun w4 h => ?_)
  refine j_newO O cfX13 q1063 q1064 q146 dX6_sum_38 h (fun k6 w7 h => ?_)
  refine j_dup O dX6_sum_41 rfl ?_
  refine j_iload_n O 0 2 dX6_sum_42 rfl rfl ?_
  refine j_aloadq_n O 2 1 dX6_sum_43 rfl rfl ?_
  refine j_aload_n O 1 0 dX6_sum_44 rfl rfl ?_
  obtain ⟨e12, h⟩ := h
  obtain ⟨mc10, ms11, hb13, h⟩ := h
  refine finX_R O hb13 (runX_U2 (As := []) (st := [vR (xG x) (x1), vI (nC v3), .ref (adG (xG x) (k6)), .ref (adG (xG x) (k6))]) (x0 := ⟨"DowryBoxes$Reader", "term", "()LDowryBoxes$Sum;"⟩) (owner := "DowryBoxes$Reader") O (mt_X6_term  S_X6_sum D hB hS_X6_sum (xl x) (xG x) _ _ _ _ _ _ h) e12 cfX7.1 cfX20.1 (lw_U q954 q956 q957 q955 q136 q959) (lw_U q954 q956 q958 q955 q136 q959) rfl hy_X6_term.2 (by omega) (Nat.le_of_ble_eq_true rfl) hb13 rfl (by simp only [List.map_cons, List.map_nil, vR_cat]; exact Nat.le_of_ble_eq_true rfl) dX6_sum_45) (fun o8 w9 h => ?_) (fun k9 w9 ci9 h hk hci => jx_out O hne hk hci h)
  refine fin_V O ⟨Nat.zero_le _, Nat.zero_le _⟩ (run_I (As := [vI ((nC v3)), vR (xG x) (x1), vR (xG x) (o8)]) (st := [.ref (adG (xG x) (k6))]) O (mt_X13_init (xl x) (xG x) _ _ _ _ _ _ h) q1065 q1066 q146 q1067 rfl hy_X13_init.2 (by omega) (Nat.le_of_ble_eq_true rfl) ⟨Nat.zero_le _, Nat.zero_le _⟩ rfl (Nat.le_of_ble_eq_true rfl) dX6_sum_48) (fun w14 h => ?_)
  refine j_astore_n (L' := [(1, .ref (adG (xG x) (k6))), (2, vI (nC v3)), (0, .ref (adG (xG x) (this)))]) O 1 dX6_sum_51 rfl (by rw [hm]; decide) rfl ?_
  refine j_goto O (tgt := 5) dX6_sum_52 (by decide) ?_
  exact (J.sub [2, 0] rfl <| hK5 _ _ _ _ h)
theorem wk_X6_sum_5 {x : Cx}  (S_X6_sum : Nat → Nat → Nat → Wd → (Option Nat → Wd → Prop) → (Nat → Wd → Prop) → Prop) (D : Nat) (hB : 8 ≤ D) (hS_X6_sum : ∀ (l : Launch) (G : GW) (this : Nat) (bc bs : Nat) (w : Wd) (Q : Option Nat → Wd → Prop) (XE : Nat → Wd → Prop), S_X6_sum this bc bs w Q XE → XR l G yX6_sum cX6_sum 3 (.object "DowryBoxes$Sum") D bc bs [.ref (adG G (this))] w Q XE) (O : OK x "DowryBoxes$Reader" cX6_sum (D + 3)) (hr : (xM x).sig.returnType = some (.object "DowryBoxes$Sum")) (hm : xn x = 3) (hne : ∀ z ∈ (xc x).exceptionTable.toList, False) {Q : Option Nat → Wd → Prop} {XE : Nat → Wd → Prop} (this : Nat) : ∀ (n : Nat) (x1 : Option Nat) (bc bs : Nat) (w : Wd), wp_X6_sum_5 S_X6_sum Q XE this n x1 bc bs w → J x (TXR x Q XE) w bc bs 5 [(0, .ref (adG (xG x) (this))), (1, vR (xG x) (x1))] [] := by
  intro n
  induction n with
  | zero => intro x1 bc bs w h; exact False.elim h
  | succ n ih =>
    intro x1 bc bs w h
    rw [wp_X6_sum_5] at h
    refine j_aload_n O 0 0 dX6_sum_5 rfl rfl ?_
    refine j_ldcS O 5 (by decide) rfl rfl dX6_sum_6 ?_
    obtain ⟨e3, h⟩ := h
    refine fin_I O ⟨Nat.zero_le _, Nat.zero_le _⟩ (run_U2 (As := [vR (xG x) ((some (900 + 5)))]) (st := []) (x0 := ⟨"DowryBoxes$Reader", "is", "(Ljava/lang/String;)Z"⟩) (owner := "DowryBoxes$Reader") O (mt_X6_is (xl x) (xG x) _ _ _ _ h) e3 cfX7.1 cfX20.1 (lw_U q967 q2276 q2277 q849 q136 q850) (lw_U q967 q2276 q2278 q849 q136 q850) rfl hy_X6_is.2 (by omega) (Nat.le_of_ble_eq_true rfl) ⟨Nat.zero_le _, Nat.zero_le _⟩ rfl (Nat.le_of_ble_eq_true rfl) dX6_sum_8) (fun r1 w2 h => ?_)
    obtain ⟨c4, h⟩ := h
    refine j_if_ne O (tgt := 23) dX6_sum_11 (by decide) c4 h (fun h => ?_) (fun h => ?_)
    · exact (J.sub [0, 1] rfl <| wk_X6_sum_23  S_X6_sum D hB hS_X6_sum O hr hm hne _ _ _ ih _ _ _ h)
    · refine j_aload_n O 0 0 dX6_sum_14 rfl rfl ?_
      refine j_ldcS O 6 (by decide) rfl rfl dX6_sum_15 ?_
      obtain ⟨e7, h⟩ := h
      refine fin_I O ⟨Nat.zero_le _, Nat.zero_le _⟩ (run_U2 (As := [vR (xG x) ((some (900 + 6)))]) (st := []) (x0 := ⟨"DowryBoxes$Reader", "is", "(Ljava/lang/String;)Z"⟩) (owner := "DowryBoxes$Reader") O (mt_X6_is (xl x) (xG x) _ _ _ _ h) e7 cfX7.1 cfX20.1 (lw_U q967 q2276 q2277 q849 q136 q850) (lw_U q967 q2276 q2278 q849 q136 q850) rfl hy_X6_is.2 (by omega) (Nat.le_of_ble_eq_true rfl) ⟨Nat.zero_le _, Nat.zero_le _⟩ rfl (Nat.le_of_ble_eq_true rfl) dX6_sum_17) (fun r5 w6 h => ?_)
      obtain ⟨c8, h⟩ := h
      refine j_if_eq O (tgt := 55) dX6_sum_20 (by decide) c8 h (fun h => ?_) (fun h => ?_)
      · refine j_aloadq_n O 1 1 dX6_sum_55 rfl rfl ?_
        exact J.toX (j_aret (v := x1) O hr (.inl ⟨_, rfl⟩) dX6_sum_56 h)
      · exact (J.sub [0, 1] rfl <| wk_X6_sum_23  S_X6_sum D hB hS_X6_sum O hr hm hne _ _ _ ih _ _ _ h)
theorem mt_X6_sum  (S_X6_sum : Nat → Nat → Nat → Wd → (Option Nat → Wd → Prop) → (Nat → Wd → Prop) → Prop) (D : Nat) (hB : 8 ≤ D) (hS_X6_sum : ∀ (l : Launch) (G : GW) (this : Nat) (bc bs : Nat) (w : Wd) (Q : Option Nat → Wd → Prop) (XE : Nat → Wd → Prop), S_X6_sum this bc bs w Q XE → XR l G yX6_sum cX6_sum 3 (.object "DowryBoxes$Sum") D bc bs [.ref (adG G (this))] w Q XE) (l : Launch) (G : GW) (this : Nat) (bc bs : Nat) (w : Wd) (Q : Option Nat → Wd → Prop) (XE : Nat → Wd → Prop) (h : wp_X6_sum S_X6_sum this bc bs w Q XE) : XR l G yX6_sum cX6_sum 3 (.object "DowryBoxes$Sum") (D + 3) bc bs [.ref (adG G (this))] w Q XE := by
  refine metX_R (fun G => [.ref (adG G (this))]) (by decide) (fun G => Nat.le_of_ble_eq_true rfl) (fun x O hl hm hr hne => ?_)
  subst hl
  have O : OK x "DowryBoxes$Reader" cX6_sum (D + 3) := O
  have h : wp_X6_sum S_X6_sum this bc bs w Q XE := h
  unfold wp_X6_sum at h
  show J x (TXR x Q XE) w bc bs 0 [(0, .ref (adG (xG x) (this)))] []
  refine j_aload_n O 0 0 dX6_sum_0 rfl rfl ?_
  obtain ⟨e5, h⟩ := h
  obtain ⟨mc3, ms4, hb6, h⟩ := h
  refine finX_R O hb6 (runX_U2 (As := []) (st := []) (x0 := ⟨"DowryBoxes$Reader", "term", "()LDowryBoxes$Sum;"⟩) (owner := "DowryBoxes$Reader") O (mt_X6_term  S_X6_sum D hB hS_X6_sum (xl x) (xG x) _ _ _ _ _ _ h) e5 cfX7.1 cfX20.1 (lw_U q954 q956 q957 q955 q136 q959) (lw_U q954 q956 q958 q955 q136 q959) rfl hy_X6_term.2 (by omega) (Nat.le_of_ble_eq_true rfl) hb6 rfl (Nat.le_of_ble_eq_true rfl) dX6_sum_1) (fun o1 w2 h => ?_) (fun k9 w9 ci9 h hk hci => jx_out O hne hk hci h)
  refine j_astoreq_n (L' := [(1, vR (xG x) (o1)), (0, .ref (adG (xG x) (this)))]) O 1 dX6_sum_4 rfl (by rw [hm]; decide) rfl ?_
  exact (J.sub [1, 0] rfl <| wk_X6_sum_5  S_X6_sum D hB hS_X6_sum O hr hm hne  _  FU _ _ _ _ h)
theorem mtR_X6_sum : ∀ (n : Nat), ∀ (l : Launch) (G : GW) (this : Nat) (bc bs : Nat) (w : Wd) (Q : Option Nat → Wd → Prop) (XE : Nat → Wd → Prop), wpR_X6_sum n this bc bs w Q XE → XR l G yX6_sum cX6_sum 3 (.object "DowryBoxes$Sum") (8 + 3 * n) bc bs [.ref (adG G (this))] w Q XE := by
  intro n
  induction n with
  | zero => intro l G this bc bs w Q XE h; exact False.elim h
  | succ n ih =>
    intro l G this bc bs w Q XE h
    exact mt_X6_sum (wpR_X6_sum n) (8 + 3 * n) (Nat.le_add_right _ _) ih l G this bc bs w Q XE h
theorem hy_X14_init : (yX14_init.cls = "DowryBoxes$Test" ∧ yX14_init.cls ≠ "java/lang/invoke/MethodHandle" ∧ yX14_init.cls ≠ "java/lang/invoke/VarHandle" ∧ (parseMethodDescriptor yX14_init.desc).map (fun d => d.parameters.length) = some 0) := by decide +kernel
theorem mt_X14_init (l : Launch) (G : GW) (this : Nat) (w : Wd) (Q : Wd → Prop) (h : wp_X14_init this w Q) : MV l G yX14_init cX14_init 1 1 0 0 [.ref (adG G (this))] w Q := by
  refine met_V (fun G => [.ref (adG G (this))]) (by decide) (fun G => Nat.le_of_ble_eq_true rfl) (fun x O hl hm hr hn => ?_)
  subst hl
  have O : OK x "DowryBoxes$Test" cX14_init 1 := O
  have h : wp_X14_init this w Q := h
  unfold wp_X14_init at h
  show J x (TV x Q) w 0 0 0 [(0, .ref (adG (xG x) (this)))] []
  refine j_aload_n O 0 0 dX14_init_0 rfl rfl ?_
  refine j_objInit O q1125 q163 q164 (Nat.le_of_ble_eq_true rfl) (Nat.le_of_ble_eq_true rfl) dX14_init_1 ?_
  exact j_vret O hr dX14_init_4 h
theorem hy_X15_init : (yX15_init.cls = "DowryBoxes$Compare" ∧ yX15_init.cls ≠ "java/lang/invoke/MethodHandle" ∧ yX15_init.cls ≠ "java/lang/invoke/VarHandle" ∧ (parseMethodDescriptor yX15_init.desc).map (fun d => d.parameters.length) = some 3) := by decide +kernel
theorem mt_X15_init (l : Launch) (G : GW) (this : Nat) (p1 : Int) (p2 : Option Nat) (p3 : Option Nat) (w : Wd) (Q : Wd → Prop) (h : wp_X15_init this p1 p2 p3 w Q) : MV l G yX15_init cX15_init 4 2 0 0 [.ref (adG G (this)), vI (p1), vR G (p2), vR G (p3)] w Q := by
  refine met_V (fun G => [.ref (adG G (this)), vI (p1), vR G (p2), vR G (p3)]) (by decide) (fun G => by cases p2 <;> cases p3 <;> exact Nat.le_of_ble_eq_true rfl) (fun x O hl hm hr hn => ?_)
  subst hl
  have O : OK x "DowryBoxes$Compare" cX15_init 2 := O
  have h : wp_X15_init this p1 p2 p3 w Q := h
  unfold wp_X15_init at h
  rw [show lv_args 0 [.ref (adG (xG x) (this)), vI (p1), vR (xG x) (p2), vR (xG x) (p3)] = [(0, .ref (adG (xG x) (this))), (1, vI (p1)), (2, vR (xG x) (p2)), (3, vR (xG x) (p3))] from by cases p2 <;> cases p3 <;> rfl]
  show J x (TV x Q) w 0 0 0 [(0, .ref (adG (xG x) (this))), (1, vI (p1)), (2, vR (xG x) (p2)), (3, vR (xG x) (p3))] []
  refine j_aload_n O 0 0 dX15_init_0 rfl rfl ?_
  refine fin_V O ⟨Nat.zero_le _, Nat.zero_le _⟩ (run_IN (As := []) (st := []) O (mt_X14_init (xl x) (xG x) _ _ _ h) (lw_n q1122 rfl) q1123 q147 q1124 rfl hy_X14_init.2 (Nat.le_of_ble_eq_true rfl) (Nat.le_of_ble_eq_true rfl) ⟨Nat.zero_le _, Nat.zero_le _⟩ rfl (Nat.le_of_ble_eq_true rfl) dX15_init_1) (fun w1 h => ?_)
  refine j_aload_n O 0 0 dX15_init_4 rfl rfl ?_
  refine j_iload_n O 1 1 dX15_init_5 rfl rfl ?_
  refine j_putFC O cfX15 0 (Nat.le_of_ble_eq_true rfl) rfl q1126 rfl hn rfl dX15_init_6 h (fun w2 h => ?_)
  refine j_aload_n O 0 0 dX15_init_9 rfl rfl ?_
  refine j_aloadq_n O 2 2 dX15_init_10 rfl rfl ?_
  refine j_putFR O cfX15 1 (Nat.le_of_ble_eq_true rfl) (.inl ⟨_, rfl⟩) q1127 rfl hn rfl dX15_init_11 h (fun w3 h => ?_)
  refine j_aload_n O 0 0 dX15_init_14 rfl rfl ?_
  refine j_aloadq_n O 3 3 dX15_init_15 rfl rfl ?_
  refine j_putFR O cfX15 2 (Nat.le_of_ble_eq_true rfl) (.inl ⟨_, rfl⟩) q1128 rfl hn rfl dX15_init_16 h (fun w4 h => ?_)
  exact j_vret O hr dX15_init_19 h
theorem hy_X16_init : (yX16_init.cls = "DowryBoxes$Not" ∧ yX16_init.cls ≠ "java/lang/invoke/MethodHandle" ∧ yX16_init.cls ≠ "java/lang/invoke/VarHandle" ∧ (parseMethodDescriptor yX16_init.desc).map (fun d => d.parameters.length) = some 1) := by decide +kernel
theorem mt_X16_init (l : Launch) (G : GW) (this : Nat) (p1 : Option Nat) (w : Wd) (Q : Wd → Prop) (h : wp_X16_init this p1 w Q) : MV l G yX16_init cX16_init 2 2 0 0 [.ref (adG G (this)), vR G (p1)] w Q := by
  refine met_V (fun G => [.ref (adG G (this)), vR G (p1)]) (by decide) (fun G => by cases p1 <;> exact Nat.le_of_ble_eq_true rfl) (fun x O hl hm hr hn => ?_)
  subst hl
  have O : OK x "DowryBoxes$Not" cX16_init 2 := O
  have h : wp_X16_init this p1 w Q := h
  unfold wp_X16_init at h
  rw [show lv_args 0 [.ref (adG (xG x) (this)), vR (xG x) (p1)] = [(0, .ref (adG (xG x) (this))), (1, vR (xG x) (p1))] from by cases p1 <;> rfl]
  show J x (TV x Q) w 0 0 0 [(0, .ref (adG (xG x) (this))), (1, vR (xG x) (p1))] []
  refine j_aload_n O 0 0 dX16_init_0 rfl rfl ?_
  refine fin_V O ⟨Nat.zero_le _, Nat.zero_le _⟩ (run_IN (As := []) (st := []) O (mt_X14_init (xl x) (xG x) _ _ _ h) (lw_n q1141 rfl) q1123 q147 q1124 rfl hy_X14_init.2 (Nat.le_of_ble_eq_true rfl) (Nat.le_of_ble_eq_true rfl) ⟨Nat.zero_le _, Nat.zero_le _⟩ rfl (Nat.le_of_ble_eq_true rfl) dX16_init_1) (fun w1 h => ?_)
  refine j_aload_n O 0 0 dX16_init_4 rfl rfl ?_
  refine j_aloadq_n O 1 1 dX16_init_5 rfl rfl ?_
  refine j_putFR O cfX16 0 (Nat.le_of_ble_eq_true rfl) (.inl ⟨_, rfl⟩) q1142 rfl hn rfl dX16_init_6 h (fun w2 h => ?_)
  exact j_vret O hr dX16_init_9 h
theorem hy_X17_init : (yX17_init.cls = "DowryBoxes$Several" ∧ yX17_init.cls ≠ "java/lang/invoke/MethodHandle" ∧ yX17_init.cls ≠ "java/lang/invoke/VarHandle" ∧ (parseMethodDescriptor yX17_init.desc).map (fun d => d.parameters.length) = some 1) := by decide +kernel
theorem mt_X17_init (l : Launch) (G : GW) (this : Nat) (p1 : Int) (bc bs : Nat) (w : Wd) (Q : Wd → Prop) (h : wp_X17_init this p1 bc bs w Q) : MV l G yX17_init cX17_init 2 4 bc bs [.ref (adG G (this)), vI (p1)] w Q := by
  refine met_V (fun G => [.ref (adG G (this)), vI (p1)]) (by decide) (fun G => Nat.le_of_ble_eq_true rfl) (fun x O hl hm hr hn => ?_)
  subst hl
  have O : OK x "DowryBoxes$Several" cX17_init 4 := O
  have h : wp_X17_init this p1 bc bs w Q := h
  unfold wp_X17_init at h
  show J x (TV x Q) w bc bs 0 [(0, .ref (adG (xG x) (this))), (1, vI (p1))] []
  refine j_aload_n O 0 0 dX17_init_0 rfl rfl ?_
  refine fin_V O ⟨Nat.zero_le _, Nat.zero_le _⟩ (run_IN (As := []) (st := []) O (mt_X14_init (xl x) (xG x) _ _ _ h) (lw_n q1152 rfl) q1123 q147 q1124 rfl hy_X14_init.2 (Nat.le_of_ble_eq_true rfl) (Nat.le_of_ble_eq_true rfl) ⟨Nat.zero_le _, Nat.zero_le _⟩ rfl (Nat.le_of_ble_eq_true rfl) dX17_init_1) (fun w1 h => ?_)
  refine j_aload_n O 0 0 dX17_init_4 rfl rfl ?_
  refine j_newO O cfJ2 q1153 q204 q126 dX17_init_5 h (fun k2 w3 h => ?_)
  refine j_dup O dX17_init_8 rfl ?_
  refine j_iconst O dX17_init_9 ?_
  obtain ⟨mc5, ms6, hb7, h⟩ := h
  refine fin_V O hb7 (run_I (As := [vI (2)]) (st := [.ref (adG (xG x) (k2)), .ref (adG (xG x) (this))]) O (mt_J2_init (xl x) (xG x) _ _ _ _ _ _ h) q1154 q206 q126 q207 rfl hy_J2_init.2 (Nat.le_of_ble_eq_true rfl) (Nat.le_of_ble_eq_true rfl) hb7 rfl (Nat.le_of_ble_eq_true rfl) dX17_init_10) (fun w4 h => ?_)
  refine j_putFR (v := (some k2)) O cfX17 1 (Nat.le_of_ble_eq_true rfl) (.inl ⟨_, rfl⟩) q1156 rfl hn rfl dX17_init_13 h (fun w8 h => ?_)
  refine j_aload_n O 0 0 dX17_init_16 rfl rfl ?_
  refine j_iload_n O 1 1 dX17_init_17 rfl rfl ?_
  refine j_putFZ O cfX17 0 (Nat.le_of_ble_eq_true rfl) rfl q1155 rfl hn rfl dX17_init_18 h (fun w9 h => ?_)
  exact j_vret O hr dX17_init_21 h
theorem hy_J12_newLength : (yJ12_newLength.cls = "jdk/internal/util/ArraysSupport" ∧ yJ12_newLength.cls ≠ "java/lang/invoke/MethodHandle" ∧ yJ12_newLength.cls ≠ "java/lang/invoke/VarHandle" ∧ (parseMethodDescriptor yJ12_newLength.desc).map (fun d => d.parameters.length) = some 3) := by decide +kernel
theorem wk_J12_newLength_21 {x : Cx} (O : OK x "jdk/internal/util/ArraysSupport" cJ12_newLength 1) (hr : (xM x).sig.returnType = some .int) (hm : xn x = 4) {Q : Int → Wd → Prop} (x0 : Int) (x1 : Int) (w : Wd) (h : wp_J12_newLength_21 Q x0 x1 w) : J x (TI x Q) w 0 0 21 [(0, vI (x0)), (1, vI (x1))] [] := by
  unfold wp_J12_newLength_21 at h
  refine j_iload_n O 0 0 dJ12_newLength_21 rfl rfl ?_
  refine j_iload_n O 1 1 dJ12_newLength_22 rfl rfl ?_
  exact False.elim h
theorem mt_J12_newLength (l : Launch) (G : GW) (p1 : Int) (p2 : Int) (p3 : Int) (w : Wd) (Q : Int → Wd → Prop) (h : wp_J12_newLength p1 p2 p3 w Q) : MI l G yJ12_newLength cJ12_newLength 4 (.int) 1 0 0 [vI (p1), vI (p2), vI (p3)] w Q := by
  refine met_I (fun G => [vI (p1), vI (p2), vI (p3)]) (by decide) (fun G => Nat.le_of_ble_eq_true rfl) (fun x O hl hm hr => ?_)
  subst hl
  have O : OK x "jdk/internal/util/ArraysSupport" cJ12_newLength 1 := O
  have h : wp_J12_newLength p1 p2 p3 w Q := h
  unfold wp_J12_newLength at h
  show J x (TI x Q) w 0 0 0 [(0, vI (p1)), (1, vI (p2)), (2, vI (p3))] []
  refine j_iload_n O 0 0 dJ12_newLength_0 rfl rfl ?_
  refine j_iload_n O 1 1 dJ12_newLength_1 rfl rfl ?_
  refine j_iload_n O 2 2 dJ12_newLength_2 rfl rfl ?_
  obtain ⟨c1, h⟩ := h
  obtain ⟨c2, h⟩ := h
  refine j_mmax O q549 q550 q135 q551 (Nat.le_of_ble_eq_true rfl) (Nat.le_of_ble_eq_true rfl) dJ12_newLength_3 c1 c2 ?_
  refine j_iadd O dJ12_newLength_6 ?_
  refine j_istore_n (L' := [(3, vI (p1 + (iMx p2 p3))), (0, vI (p1)), (1, vI (p2)), (2, vI (p3))]) O 3 dJ12_newLength_7 rfl (by rw [hm]; decide) rfl ?_
  refine j_iconst O dJ12_newLength_8 ?_
  refine j_iload_n O 0 3 dJ12_newLength_9 rfl rfl ?_
  obtain ⟨c3, h⟩ := h
  refine j_icmp_ge O (tgt := 21) dJ12_newLength_10 (by decide) (by decide) c3 h (fun h => ?_) (fun h => ?_)
  · exact (J.sub [1, 2] rfl <| wk_J12_newLength_21 O hr hm  _ _  _ h)
  · refine j_iload_n O 0 3 dJ12_newLength_13 rfl rfl ?_
    refine j_ldc (m := 2147483639) O dJ12_newLength_14 q552 ld_2147483639 ?_
    obtain ⟨c4, h⟩ := h
    refine j_icmp_gt O (tgt := 21) dJ12_newLength_16 (by decide) c4 (by decide) h (fun h => ?_) (fun h => ?_)
    · exact (J.sub [1, 2] rfl <| wk_J12_newLength_21 O hr hm  _ _  _ h)
    · refine j_iload_n O 0 3 dJ12_newLength_19 rfl rfl ?_
      exact j_iret O hr dJ12_newLength_20 h
theorem hy_J13_copyOf_2 : (yJ13_copyOf_2.cls = "java/util/Arrays" ∧ yJ13_copyOf_2.cls ≠ "java/lang/invoke/MethodHandle" ∧ yJ13_copyOf_2.cls ≠ "java/lang/invoke/VarHandle" ∧ (parseMethodDescriptor yJ13_copyOf_2.desc).map (fun d => d.parameters.length) = some 3) := by decide +kernel
theorem mt_J13_copyOf_2 (l : Launch) (G : GW) (p1 : Option Nat) (p2 : Int) (p3 : Option Nat) (bc bs : Nat) (w : Wd) (Q : Option Nat → Wd → Prop) (h : wp_J13_copyOf_2 p1 p2 p3 bc bs w Q) : MR l G yJ13_copyOf_2 cJ13_copyOf_2 4 (.array (.object "java/lang/Object")) 1 bc bs [vR G (p1), vI (p2), vR G (p3)] w Q := by
  refine met_R (fun G => [vR G (p1), vI (p2), vR G (p3)]) (by decide) (fun G => by cases p1 <;> cases p3 <;> exact Nat.le_of_ble_eq_true rfl) (fun x O hl hm hr => ?_)
  subst hl
  have O : OK x "java/util/Arrays" cJ13_copyOf_2 1 := O
  have h : wp_J13_copyOf_2 p1 p2 p3 bc bs w Q := h
  unfold wp_J13_copyOf_2 at h
  rw [show lv_args 0 [vR (xG x) (p1), vI (p2), vR (xG x) (p3)] = [(0, vR (xG x) (p1)), (1, vI (p2)), (2, vR (xG x) (p3))] from by cases p1 <;> cases p3 <;> rfl]
  show J x (TR x Q) w bc bs 0 [(0, vR (xG x) (p1)), (1, vI (p2)), (2, vR (xG x) (p3))] []
  refine j_aloadq_n O 2 2 dJ13_copyOf_2_0 rfl rfl ?_
  refine j_ldcC O q534 dJ13_copyOf_2_1 ?_
  obtain ⟨k1, e_k1, g_k1⟩ := h
  subst e_k1
  have h := g_k1
  obtain ⟨e2, h⟩ := h
  refine j_acmp_eqK2 O e2 (tgt := 13) dJ13_copyOf_2_3 (by decide) ?_
  refine j_iload_n O 1 1 dJ13_copyOf_2_6 rfl rfl ?_
  refine j_newQ O 4 (by decide) q535 dJ13_copyOf_2_7 h (fun k3 w4 h => ?_)
  refine j_goto O (tgt := 24) dJ13_copyOf_2_10 (by decide) ?_
  refine j_astore_n (L' := [(3, .ref (adG (xG x) (k3))), (0, vR (xG x) (p1)), (1, vI (p2)), (2, vR (xG x) (some k1))]) O 3 dJ13_copyOf_2_24 rfl (by rw [hm]; decide) rfl ?_
  refine j_aloadq_n O 1 0 dJ13_copyOf_2_25 rfl rfl ?_
  refine j_iconst O dJ13_copyOf_2_26 ?_
  refine j_aload_n O 0 3 dJ13_copyOf_2_27 rfl rfl ?_
  refine j_iconst O dJ13_copyOf_2_28 ?_
  refine j_aloadq_n O 1 0 dJ13_copyOf_2_29 rfl rfl ?_
  obtain ⟨k5, e_k5, g_k5⟩ := h
  subst e_k5
  have h := g_k5
  refine j_alen O dJ13_copyOf_2_30 h (fun v6 h => ?_)
  refine j_iload_n O 2 1 dJ13_copyOf_2_31 rfl rfl ?_
  obtain ⟨c7, h⟩ := h
  obtain ⟨c8, h⟩ := h
  refine j_mmin O q536 q537 q135 q538 (Nat.le_of_ble_eq_true rfl) (by simp only [List.map_cons, List.map_nil, vR_cat]; exact Nat.le_of_ble_eq_true rfl) dJ13_copyOf_2_32 c7 c8 ?_
  refine j_copyQ O q539 (Nat.le_of_ble_eq_true rfl) (Nat.le_of_ble_eq_true rfl) dJ13_copyOf_2_35 h (fun w9 h => ?_)
  refine j_aload_n O 0 3 dJ13_copyOf_2_38 rfl rfl ?_
  exact j_aret (v := (some k3)) O hr (.inr ⟨_, rfl⟩) dJ13_copyOf_2_39 h
theorem hy_J13_copyOf : (yJ13_copyOf.cls = "java/util/Arrays" ∧ yJ13_copyOf.cls ≠ "java/lang/invoke/MethodHandle" ∧ yJ13_copyOf.cls ≠ "java/lang/invoke/VarHandle" ∧ (parseMethodDescriptor yJ13_copyOf.desc).map (fun d => d.parameters.length) = some 2) := by decide +kernel
theorem mt_J13_copyOf (l : Launch) (G : GW) (p1 : Option Nat) (p2 : Int) (bc bs : Nat) (w : Wd) (Q : Option Nat → Wd → Prop) (h : wp_J13_copyOf p1 p2 bc bs w Q) : MR l G yJ13_copyOf cJ13_copyOf 2 (.array (.object "java/lang/Object")) 2 bc bs [vR G (p1), vI (p2)] w Q := by
  refine met_R (fun G => [vR G (p1), vI (p2)]) (by decide) (fun G => by cases p1 <;> exact Nat.le_of_ble_eq_true rfl) (fun x O hl hm hr => ?_)
  subst hl
  have O : OK x "java/util/Arrays" cJ13_copyOf 2 := O
  have h : wp_J13_copyOf p1 p2 bc bs w Q := h
  unfold wp_J13_copyOf at h
  rw [show lv_args 0 [vR (xG x) (p1), vI (p2)] = [(0, vR (xG x) (p1)), (1, vI (p2))] from by cases p1 <;> rfl]
  show J x (TR x Q) w bc bs 0 [(0, vR (xG x) (p1)), (1, vI (p2))] []
  refine j_aloadq_n O 0 0 dJ13_copyOf_0 rfl rfl ?_
  refine j_iload_n O 1 1 dJ13_copyOf_1 rfl rfl ?_
  refine j_aloadq_n O 0 0 dJ13_copyOf_2 rfl rfl ?_
  obtain ⟨k1, e_k1, g_k1⟩ := h
  subst e_k1
  have h := g_k1
  refine j_getC O q508 q509 q530 (Nat.le_of_ble_eq_true rfl) (by simp only [List.map_cons, List.map_nil, vR_cat]; exact Nat.le_of_ble_eq_true rfl) dJ13_copyOf_3 h (fun h => ?_)
  obtain ⟨mc4, ms5, hb6, h⟩ := h
  refine fin_R O hb6 (run_S (As := [vR (xG x) ((some k1)), vI (p2), vR (xG x) ((some 960))]) (st := []) O (mt_J13_copyOf_2 (xl x) (xG x) _ _ _ _ _ _ _ h) q531 q532 q152 q533 hy_J13_copyOf_2.2 (Nat.le_of_ble_eq_true rfl) (Nat.le_of_ble_eq_true rfl) hb6 rfl (Nat.le_of_ble_eq_true rfl) dJ13_copyOf_6) (fun o2 w3 h => ?_)
  exact j_aret (v := o2) O hr (.inr ⟨_, rfl⟩) dJ13_copyOf_9 h
theorem hy_J2_grow : (yJ2_grow.cls = "java/util/ArrayList" ∧ yJ2_grow.cls ≠ "java/lang/invoke/MethodHandle" ∧ yJ2_grow.cls ≠ "java/lang/invoke/VarHandle" ∧ (parseMethodDescriptor yJ2_grow.desc).map (fun d => d.parameters.length) = some 1) := by decide +kernel
theorem mt_J2_grow (l : Launch) (G : GW) (this : Nat) (p1 : Int) (bc bs : Nat) (w : Wd) (Q : Option Nat → Wd → Prop) (h : wp_J2_grow this p1 bc bs w Q) : MR l G yJ2_grow cJ2_grow 4 (.array (.object "java/lang/Object")) 3 bc bs [.ref (adG G (this)), vI (p1)] w Q := by
  refine met_R (fun G => [.ref (adG G (this)), vI (p1)]) (by decide) (fun G => Nat.le_of_ble_eq_true rfl) (fun x O hl hm hr => ?_)
  subst hl
  have O : OK x "java/util/ArrayList" cJ2_grow 3 := O
  have h : wp_J2_grow this p1 bc bs w Q := h
  unfold wp_J2_grow at h
  show J x (TR x Q) w bc bs 0 [(0, .ref (adG (xG x) (this))), (1, vI (p1))] []
  refine j_aload_n O 0 0 dJ2_grow_0 rfl rfl ?_
  refine j_getA O cfJ2 1 (Nat.le_of_ble_eq_true rfl) ⟨_, rfl⟩ q219 dJ2_grow_1 h (fun k1 h => ?_)
  refine j_alen O dJ2_grow_4 h (fun v2 h => ?_)
  refine j_istore_n (L' := [(2, vI (v2)), (0, .ref (adG (xG x) (this))), (1, vI (p1))]) O 2 dJ2_grow_5 rfl (by rw [hm]; decide) rfl ?_
  refine j_iload_n O 0 2 dJ2_grow_6 rfl rfl ?_
  obtain ⟨c3, h⟩ := h
  refine j_if_gt O (tgt := 20) dJ2_grow_7 (by decide) c3 h (fun h => ?_) (fun h => ?_)
  · refine j_iload_n O 0 2 dJ2_grow_20 rfl rfl ?_
    refine j_iload_n O 2 1 dJ2_grow_21 rfl rfl ?_
    refine j_iload_n O 0 2 dJ2_grow_22 rfl rfl ?_
    refine j_isub O dJ2_grow_23 ?_
    refine j_iload_n O 0 2 dJ2_grow_24 rfl rfl ?_
    refine j_iconst O dJ2_grow_25 ?_
    refine j_ishr O dJ2_grow_26 ?_
    refine fin_I O ⟨Nat.zero_le _, Nat.zero_le _⟩ (run_S (As := [vI (v2), vI ((p1 - v2)), vI ((isr v2 1))]) (st := []) O (mt_J12_newLength (xl x) (xG x) _ _ _ _ _ h) q546 q547 q151 q548 hy_J12_newLength.2 (Nat.le_of_ble_eq_true rfl) (Nat.le_of_ble_eq_true rfl) ⟨Nat.zero_le _, Nat.zero_le _⟩ rfl (Nat.le_of_ble_eq_true rfl) dJ2_grow_27) (fun r4 w5 h => ?_)
    refine j_istore_n (L' := [(3, vI (r4)), (2, vI (v2)), (0, .ref (adG (xG x) (this))), (1, vI (p1))]) O 3 dJ2_grow_30 rfl (by rw [hm]; decide) rfl ?_
    refine j_aload_n O 2 0 dJ2_grow_31 rfl rfl ?_
    refine j_aload_n O 2 0 dJ2_grow_32 rfl rfl ?_
    refine j_getA O cfJ2 1 (Nat.le_of_ble_eq_true rfl) ⟨_, rfl⟩ q219 dJ2_grow_33 h (fun k6 h => ?_)
    refine j_iload_n O 0 3 dJ2_grow_36 rfl rfl ?_
    obtain ⟨mc9, ms10, hb11, h⟩ := h
    refine fin_R O hb11 (run_S (As := [vR (xG x) ((some k6)), vI (r4)]) (st := [.ref (adG (xG x) (this))]) O (mt_J13_copyOf (xl x) (xG x) _ _ _ _ _ _ h) q505 q506 q152 q507 hy_J13_copyOf.2 (Nat.le_of_ble_eq_true rfl) (Nat.le_of_ble_eq_true rfl) hb11 rfl (Nat.le_of_ble_eq_true rfl) dJ2_grow_37) (fun o7 w8 h => ?_)
    refine j_dup_x1 O dJ2_grow_40 (vR_cat _ _) rfl ?_
    refine j_putR O cfJ2 1 (Nat.le_of_ble_eq_true rfl) (.inr ⟨_, rfl⟩) q219 rfl dJ2_grow_41 h (fun w12 h => ?_)
    exact j_aret (v := o7) O hr (.inr ⟨_, rfl⟩) dJ2_grow_44 h
  · refine j_aload_n O 1 0 dJ2_grow_10 rfl rfl ?_
    refine j_getA O cfJ2 1 (Nat.le_of_ble_eq_true rfl) ⟨_, rfl⟩ q219 dJ2_grow_11 h (fun k13 h => ?_)
    exact False.elim h
theorem hy_J2_grow_2 : (yJ2_grow_2.cls = "java/util/ArrayList" ∧ yJ2_grow_2.cls ≠ "java/lang/invoke/MethodHandle" ∧ yJ2_grow_2.cls ≠ "java/lang/invoke/VarHandle" ∧ (parseMethodDescriptor yJ2_grow_2.desc).map (fun d => d.parameters.length) = some 0) := by decide +kernel
theorem mt_J2_grow_2 (l : Launch) (G : GW) (this : Nat) (bc bs : Nat) (w : Wd) (Q : Option Nat → Wd → Prop) (h : wp_J2_grow_2 this bc bs w Q) : MR l G yJ2_grow_2 cJ2_grow_2 1 (.array (.object "java/lang/Object")) 4 bc bs [.ref (adG G (this))] w Q := by
  refine met_R (fun G => [.ref (adG G (this))]) (by decide) (fun G => Nat.le_of_ble_eq_true rfl) (fun x O hl hm hr => ?_)
  subst hl
  have O : OK x "java/util/ArrayList" cJ2_grow_2 4 := O
  have h : wp_J2_grow_2 this bc bs w Q := h
  unfold wp_J2_grow_2 at h
  show J x (TR x Q) w bc bs 0 [(0, .ref (adG (xG x) (this)))] []
  refine j_aload_n O 0 0 dJ2_grow_2_0 rfl rfl ?_
  refine j_aload_n O 0 0 dJ2_grow_2_1 rfl rfl ?_
  refine j_getI O cfJ2 2 (Nat.le_of_ble_eq_true rfl) (.inl rfl) q220 dJ2_grow_2_2 h (fun v1 h => ?_)
  refine j_iconst O dJ2_grow_2_5 ?_
  refine j_iadd O dJ2_grow_2_6 ?_
  obtain ⟨e6, h⟩ := h
  obtain ⟨mc4, ms5, hb7, h⟩ := h
  refine fin_R O hb7 (run_V (As := [vI ((v1 + 1))]) (st := []) O (mt_J2_grow (xl x) (xG x) _ _ _ _ _ _ h) e6 cfJ2.1 q540 q542 qs2 q126 q543 hy_J2_grow (Nat.le_of_ble_eq_true rfl) (Nat.le_of_ble_eq_true rfl) hb7 rfl (Nat.le_of_ble_eq_true rfl) dJ2_grow_2_7) (fun o2 w3 h => ?_)
  exact j_aret (v := o2) O hr (.inr ⟨_, rfl⟩) dJ2_grow_2_10 h
theorem hy_J2_add_2 : (yJ2_add_2.cls = "java/util/ArrayList" ∧ yJ2_add_2.cls ≠ "java/lang/invoke/MethodHandle" ∧ yJ2_add_2.cls ≠ "java/lang/invoke/VarHandle" ∧ (parseMethodDescriptor yJ2_add_2.desc).map (fun d => d.parameters.length) = some 3) := by decide +kernel
theorem wk_J2_add_2_11 {x : Cx} (O : OK x "java/util/ArrayList" cJ2_add_2 5) (hr : (xM x).sig.returnType = none) (hm : xn x = 4) {Q : Wd → Prop} (this : Nat) (x1 : Option Nat) (x2 : Option Nat) (x3 : Int) (bc bs : Nat) (w : Wd) (h : wp_J2_add_2_11 Q this x1 x2 x3 bc bs w) : J x (TV x Q) w bc bs 11 [(0, .ref (adG (xG x) (this))), (1, vR (xG x) (x1)), (2, vR (xG x) (x2)), (3, vI (x3))] [] := by
  unfold wp_J2_add_2_11 at h
  refine j_aloadq_n O 2 2 dJ2_add_2_11 rfl rfl ?_
  refine j_iload_n O 3 3 dJ2_add_2_12 rfl rfl ?_
  refine j_aloadq_n O 1 1 dJ2_add_2_13 rfl rfl ?_
  obtain ⟨k1, e_k1, g_k1⟩ := h
  subst e_k1
  have h := g_k1
  refine j_aast (r := x1) O (by decide) dJ2_add_2_14 h (fun w2 h => ?_)
  refine j_aload_n O 0 0 dJ2_add_2_15 rfl rfl ?_
  refine j_iload_n O 3 3 dJ2_add_2_16 rfl rfl ?_
  refine j_iconst O dJ2_add_2_17 ?_
  refine j_iadd O dJ2_add_2_18 ?_
  refine j_putI O cfJ2 2 (Nat.le_of_ble_eq_true rfl) rfl q220 rfl dJ2_add_2_19 h (fun w3 h => ?_)
  exact j_vret O hr dJ2_add_2_22 h
theorem mt_J2_add_2 (l : Launch) (G : GW) (this : Nat) (p1 : Option Nat) (p2 : Option Nat) (p3 : Int) (bc bs : Nat) (w : Wd) (Q : Wd → Prop) (h : wp_J2_add_2 this p1 p2 p3 bc bs w Q) : MV l G yJ2_add_2 cJ2_add_2 4 5 bc bs [.ref (adG G (this)), vR G (p1), vR G (p2), vI (p3)] w Q := by
  refine met_V (fun G => [.ref (adG G (this)), vR G (p1), vR G (p2), vI (p3)]) (by decide) (fun G => by cases p1 <;> cases p2 <;> exact Nat.le_of_ble_eq_true rfl) (fun x O hl hm hr _ => ?_)
  subst hl
  have O : OK x "java/util/ArrayList" cJ2_add_2 5 := O
  have h : wp_J2_add_2 this p1 p2 p3 bc bs w Q := h
  unfold wp_J2_add_2 at h
  rw [show lv_args 0 [.ref (adG (xG x) (this)), vR (xG x) (p1), vR (xG x) (p2), vI (p3)] = [(0, .ref (adG (xG x) (this))), (1, vR (xG x) (p1)), (2, vR (xG x) (p2)), (3, vI (p3))] from by cases p1 <;> cases p2 <;> rfl]
  show J x (TV x Q) w bc bs 0 [(0, .ref (adG (xG x) (this))), (1, vR (xG x) (p1)), (2, vR (xG x) (p2)), (3, vI (p3))] []
  refine j_iload_n O 3 3 dJ2_add_2_0 rfl rfl ?_
  refine j_aloadq_n O 2 2 dJ2_add_2_1 rfl rfl ?_
  obtain ⟨k1, e_k1, g_k1⟩ := h
  subst e_k1
  have h := g_k1
  refine j_alen O dJ2_add_2_2 h (fun v2 h => ?_)
  obtain ⟨c3, h⟩ := h
  obtain ⟨c4, h⟩ := h
  refine j_icmp_ne O (tgt := 11) dJ2_add_2_3 (by decide) c3 c4 h (fun h => ?_) (fun h => ?_)
  · exact (J.sub [0, 1, 2, 3] rfl <| wk_J2_add_2_11 O hr hm  _ _ _ _  _ _ _ h)
  · refine j_aload_n O 0 0 dJ2_add_2_6 rfl rfl ?_
    obtain ⟨e9, h⟩ := h
    obtain ⟨mc7, ms8, hb10, h⟩ := h
    refine fin_R O hb10 (run_V (As := []) (st := []) O (mt_J2_grow_2 (xl x) (xG x) _ _ _ _ _ h) e9 cfJ2.1 q1171 q1173 qs18 q126 q1174 hy_J2_grow_2 (Nat.le_of_ble_eq_true rfl) (Nat.le_of_ble_eq_true rfl) hb10 rfl (Nat.le_of_ble_eq_true rfl) dJ2_add_2_7) (fun o5 w6 h => ?_)
    refine j_astoreq_n (L' := [(2, vR (xG x) (o5)), (0, .ref (adG (xG x) (this))), (1, vR (xG x) (p1)), (3, vI (p3))]) O 2 dJ2_add_2_10 rfl (by rw [hm]; decide) (by cases p1 <;> rfl) ?_
    exact (J.sub [1, 2, 0, 3] rfl <| wk_J2_add_2_11 O hr hm  _ _ _ _  _ _ _ h)
theorem hy_J2_add : (yJ2_add.cls = "java/util/ArrayList" ∧ yJ2_add.cls ≠ "java/lang/invoke/MethodHandle" ∧ yJ2_add.cls ≠ "java/lang/invoke/VarHandle" ∧ (parseMethodDescriptor yJ2_add.desc).map (fun d => d.parameters.length) = some 1) := by decide +kernel
theorem mt_J2_add (l : Launch) (G : GW) (this : Nat) (p1 : Option Nat) (bc bs : Nat) (w : Wd) (Q : Int → Wd → Prop) (h : wp_J2_add this p1 bc bs w Q) : MI l G yJ2_add cJ2_add 2 (.boolean) 6 bc bs [.ref (adG G (this)), vR G (p1)] w Q := by
  refine met_I (fun G => [.ref (adG G (this)), vR G (p1)]) (by decide) (fun G => by cases p1 <;> exact Nat.le_of_ble_eq_true rfl) (fun x O hl hm hr => ?_)
  subst hl
  have O : OK x "java/util/ArrayList" cJ2_add 6 := O
  have h : wp_J2_add this p1 bc bs w Q := h
  unfold wp_J2_add at h
  rw [show lv_args 0 [.ref (adG (xG x) (this)), vR (xG x) (p1)] = [(0, .ref (adG (xG x) (this))), (1, vR (xG x) (p1))] from by cases p1 <;> rfl]
  show J x (TI x Q) w bc bs 0 [(0, .ref (adG (xG x) (this))), (1, vR (xG x) (p1))] []
  refine j_aload_n O 0 0 dJ2_add_0 rfl rfl ?_
  refine j_dup O dJ2_add_1 rfl ?_
  refine j_getIs O cfJ2 0 (Nat.le_of_ble_eq_true rfl) rfl q222 q223 dJ2_add_2 h (fun v1 h => ?_)
  refine j_iconst O dJ2_add_5 ?_
  refine j_iadd O dJ2_add_6 ?_
  refine j_putIs O cfJ2 0 (Nat.le_of_ble_eq_true rfl) rfl q222 q223 rfl dJ2_add_7 h (fun w2 h => ?_)
  refine j_aload_n O 0 0 dJ2_add_10 rfl rfl ?_
  refine j_aloadq_n O 1 1 dJ2_add_11 rfl rfl ?_
  refine j_aload_n O 0 0 dJ2_add_12 rfl rfl ?_
  refine j_getA O cfJ2 1 (Nat.le_of_ble_eq_true rfl) ⟨_, rfl⟩ q219 dJ2_add_13 h (fun k3 h => ?_)
  refine j_aload_n O 0 0 dJ2_add_16 rfl rfl ?_
  refine j_getI O cfJ2 2 (Nat.le_of_ble_eq_true rfl) (.inl rfl) q220 dJ2_add_17 h (fun v4 h => ?_)
  obtain ⟨e8, h⟩ := h
  obtain ⟨mc6, ms7, hb9, h⟩ := h
  refine fin_V O hb9 (run_V (As := [vR (xG x) (p1), vR (xG x) ((some k3)), vI (v4)]) (st := []) O (mt_J2_add_2 (xl x) (xG x) _ _ _ _ _ _ _ _ h) e8 cfJ2.1 q1167 q1169 qs17 q126 q1170 hy_J2_add_2 (Nat.le_of_ble_eq_true rfl) (Nat.le_of_ble_eq_true rfl) hb9 rfl (Nat.le_of_ble_eq_true rfl) dJ2_add_20) (fun w5 h => ?_)
  refine j_iconst O dJ2_add_23 ?_
  exact j_zret O hr dJ2_add_24 h
theorem hy_X6_test : (yX6_test.cls = "DowryBoxes$Reader" ∧ yX6_test.cls ≠ "java/lang/invoke/MethodHandle" ∧ yX6_test.cls ≠ "java/lang/invoke/VarHandle" ∧ (parseMethodDescriptor yX6_test.desc).map (fun d => d.parameters.length) = some 0) := by decide +kernel
theorem hy_X6_positive : (yX6_positive.cls = "DowryBoxes$Reader" ∧ yX6_positive.cls ≠ "java/lang/invoke/MethodHandle" ∧ yX6_positive.cls ≠ "java/lang/invoke/VarHandle" ∧ (parseMethodDescriptor yX6_positive.desc).map (fun d => d.parameters.length) = some 0) := by decide +kernel
theorem wk_X6_positive_80 {x : Cx}  (S_X6_test : Nat → Nat → Nat → Wd → (Option Nat → Wd → Prop) → (Nat → Wd → Prop) → Prop) (D : Nat) (hB : 39 ≤ D) (hS_X6_test : ∀ (l : Launch) (G : GW) (this : Nat) (bc bs : Nat) (w : Wd) (Q : Option Nat → Wd → Prop) (XE : Nat → Wd → Prop), S_X6_test this bc bs w Q XE → XR l G yX6_test cX6_test 3 (.object "DowryBoxes$Test") D bc bs [.ref (adG G (this))] w Q XE) (O : OK x "DowryBoxes$Reader" cX6_positive (D + 1)) (hr : (xM x).sig.returnType = some (.object "DowryBoxes$Test")) (hm : xn x = 3) (hne : ∀ z ∈ (xc x).exceptionTable.toList, False) {Q : Option Nat → Wd → Prop} {XE : Nat → Wd → Prop} (this : Nat) (x1 : Option Nat) (bc bs : Nat) (w : Wd) (h : wp_X6_positive_80 S_X6_test Q XE this x1 bc bs w) : J x (TXR x Q XE) w bc bs 80 [(0, .ref (adG (xG x) (this))), (1, vR (xG x) (x1))] [] := by
  unfold wp_X6_positive_80 at h
  refine j_aload_n O 0 0 dX6_positive_80 rfl rfl ?_
  refine j_getA2 O cfX7 cfX20 0 ⟨Nat.le_of_ble_eq_true rfl, Nat.le_of_ble_eq_true rfl⟩ ⟨⟨_, rfl⟩, ⟨_, rfl⟩⟩ q791 q791 dX6_positive_81 h (fun k1 h => ?_)
  refine j_aload_n O 0 0 dX6_positive_84 rfl rfl ?_
  refine j_getI2 O cfX7 cfX20 3 ⟨Nat.le_of_ble_eq_true rfl, Nat.le_of_ble_eq_true rfl⟩ ⟨rfl, rfl⟩ q794 q794 dX6_positive_85 h (fun v2 h => ?_)
  refine j_bald O dX6_positive_88 h (fun v3 h => ?_)
  refine j_i2c O dX6_positive_89 ?_
  refine j_istore_n (L' := [(2, vI (nC v3)), (0, .ref (adG (xG x) (this))), (1, vR (xG x) (x1))]) O 2 dX6_positive_90 rfl (by rw [hm]; decide) (by cases x1 <;> rfl) ?_
  refine j_aload_n O 1 0 dX6_positive_91 rfl rfl ?_
  obtain ⟨e5, h⟩ := h
  refine fin_V O ⟨Nat.zero_le _, Nat.zero_le _⟩ (run_U2 (As := []) (st := []) (x0 := ⟨"DowryBoxes$Reader", "next", "()V"⟩) (owner := "DowryBoxes$Reader") O (mt_X6_next (xl x) (xG x) _ _ _ h) e5 cfX7.1 cfX20.1 (lw_U q826 q828 q829 q827 q136 q831) (lw_U q826 q828 q830 q827 q136 q831) rfl hy_X6_next.2 (by omega) (Nat.le_of_ble_eq_true rfl) ⟨Nat.zero_le _, Nat.zero_le _⟩ rfl (Nat.le_of_ble_eq_true rfl) dX6_positive_92) (fun w4 h => ?_)
  refine j_newO O cfX15 q1117 q1118 q148 dX6_positive_95 h (fun k6 w7 h => ?_)
  refine j_dup O dX6_positive_98 rfl ?_
  refine j_iload_n O 0 2 dX6_positive_99 rfl rfl ?_
  refine j_aloadq_n O 2 1 dX6_positive_100 rfl rfl ?_
  refine j_aload_n O 1 0 dX6_positive_101 rfl rfl ?_
  obtain ⟨e12, h⟩ := h
  obtain ⟨mc10, ms11, hb13, h⟩ := h
  refine finX_R O hb13 (runX_U2 (As := []) (st := [vR (xG x) (x1), vI (nC v3), .ref (adG (xG x) (k6)), .ref (adG (xG x) (k6))]) (x0 := ⟨"DowryBoxes$Reader", "sum", "()LDowryBoxes$Sum;"⟩) (owner := "DowryBoxes$Reader") O (mtR_X6_sum 10 (xl x) (xG x) _ _ _ _ _ _ h) e12 cfX7.1 cfX20.1 (lw_U q974 q2279 q2280 q952 q136 q953) (lw_U q974 q2279 q2281 q952 q136 q953) rfl hy_X6_sum.2 (by omega) (Nat.le_of_ble_eq_true rfl) hb13 rfl (by simp only [List.map_cons, List.map_nil, vR_cat]; exact Nat.le_of_ble_eq_true rfl) dX6_positive_102) (fun o8 w9 h => ?_) (fun k9 w9 ci9 h hk hci => jx_out O hne hk hci h)
  refine fin_V O ⟨Nat.zero_le _, Nat.zero_le _⟩ (run_I (As := [vI ((nC v3)), vR (xG x) (x1), vR (xG x) (o8)]) (st := [.ref (adG (xG x) (k6))]) O (mt_X15_init (xl x) (xG x) _ _ _ _ _ _ h) q1119 q1120 q148 q1121 rfl hy_X15_init.2 (by omega) (Nat.le_of_ble_eq_true rfl) ⟨Nat.zero_le _, Nat.zero_le _⟩ rfl (Nat.le_of_ble_eq_true rfl) dX6_positive_105) (fun w14 h => ?_)
  exact J.toX (j_aret (v := (some k6)) O hr (.inl ⟨_, rfl⟩) dX6_positive_108 h)
theorem mt_X6_positive  (S_X6_test : Nat → Nat → Nat → Wd → (Option Nat → Wd → Prop) → (Nat → Wd → Prop) → Prop) (D : Nat) (hB : 39 ≤ D) (hS_X6_test : ∀ (l : Launch) (G : GW) (this : Nat) (bc bs : Nat) (w : Wd) (Q : Option Nat → Wd → Prop) (XE : Nat → Wd → Prop), S_X6_test this bc bs w Q XE → XR l G yX6_test cX6_test 3 (.object "DowryBoxes$Test") D bc bs [.ref (adG G (this))] w Q XE) (l : Launch) (G : GW) (this : Nat) (bc bs : Nat) (w : Wd) (Q : Option Nat → Wd → Prop) (XE : Nat → Wd → Prop) (h : wp_X6_positive S_X6_test this bc bs w Q XE) : XR l G yX6_positive cX6_positive 3 (.object "DowryBoxes$Test") (D + 1) bc bs [.ref (adG G (this))] w Q XE := by
  refine metX_R (fun G => [.ref (adG G (this))]) (by decide) (fun G => Nat.le_of_ble_eq_true rfl) (fun x O hl hm hr hne => ?_)
  subst hl
  have O : OK x "DowryBoxes$Reader" cX6_positive (D + 1) := O
  have h : wp_X6_positive S_X6_test this bc bs w Q XE := h
  unfold wp_X6_positive at h
  show J x (TXR x Q XE) w bc bs 0 [(0, .ref (adG (xG x) (this)))] []
  refine j_aload_n O 0 0 dX6_positive_0 rfl rfl ?_
  refine j_ldcS O 8 (by decide) rfl rfl dX6_positive_1 ?_
  obtain ⟨e3, h⟩ := h
  refine fin_I O ⟨Nat.zero_le _, Nat.zero_le _⟩ (run_U2 (As := [vR (xG x) ((some (900 + 8)))]) (st := []) (x0 := ⟨"DowryBoxes$Reader", "is", "(Ljava/lang/String;)Z"⟩) (owner := "DowryBoxes$Reader") O (mt_X6_is (xl x) (xG x) _ _ _ _ h) e3 cfX7.1 cfX20.1 (lw_U q967 q2276 q2277 q849 q136 q850) (lw_U q967 q2276 q2278 q849 q136 q850) rfl hy_X6_is.2 (by omega) (Nat.le_of_ble_eq_true rfl) ⟨Nat.zero_le _, Nat.zero_le _⟩ rfl (Nat.le_of_ble_eq_true rfl) dX6_positive_3) (fun r1 w2 h => ?_)
  obtain ⟨c4, h⟩ := h
  refine j_if_eq O (tgt := 36) dX6_positive_6 (by decide) c4 h (fun h => ?_) (fun h => ?_)
  · refine j_aload_n O 0 0 dX6_positive_36 rfl rfl ?_
    obtain ⟨e9, h⟩ := h
    obtain ⟨mc7, ms8, hb10, h⟩ := h
    refine finX_R O hb10 (runX_U2 (As := []) (st := []) (x0 := ⟨"DowryBoxes$Reader", "sum", "()LDowryBoxes$Sum;"⟩) (owner := "DowryBoxes$Reader") O (mtR_X6_sum 10 (xl x) (xG x) _ _ _ _ _ _ h) e9 cfX7.1 cfX20.1 (lw_U q974 q2279 q2280 q952 q136 q953) (lw_U q974 q2279 q2281 q952 q136 q953) rfl hy_X6_sum.2 (by omega) (Nat.le_of_ble_eq_true rfl) hb10 rfl (Nat.le_of_ble_eq_true rfl) dX6_positive_37) (fun o5 w6 h => ?_) (fun k9 w9 ci9 h hk hci => jx_out O hne hk hci h)
    refine j_astoreq_n (L' := [(1, vR (xG x) (o5)), (0, .ref (adG (xG x) (this)))]) O 1 dX6_positive_40 rfl (by rw [hm]; decide) rfl ?_
    refine j_aload_n O 1 0 dX6_positive_41 rfl rfl ?_
    refine j_ldcS O 10 (by decide) rfl rfl dX6_positive_42 ?_
    obtain ⟨e13, h⟩ := h
    refine fin_I O ⟨Nat.zero_le _, Nat.zero_le _⟩ (run_U2 (As := [vR (xG x) ((some (900 + 10)))]) (st := []) (x0 := ⟨"DowryBoxes$Reader", "is", "(Ljava/lang/String;)Z"⟩) (owner := "DowryBoxes$Reader") O (mt_X6_is (xl x) (xG x) _ _ _ _ h) e13 cfX7.1 cfX20.1 (lw_U q967 q2276 q2277 q849 q136 q850) (lw_U q967 q2276 q2278 q849 q136 q850) rfl hy_X6_is.2 (by omega) (Nat.le_of_ble_eq_true rfl) ⟨Nat.zero_le _, Nat.zero_le _⟩ rfl (Nat.le_of_ble_eq_true rfl) dX6_positive_44) (fun r11 w12 h => ?_)
    obtain ⟨c14, h⟩ := h
    refine j_if_ne O (tgt := 80) dX6_positive_47 (by decide) c14 h (fun h => ?_) (fun h => ?_)
    · exact (J.sub [1, 0] rfl <| wk_X6_positive_80  S_X6_test D hB hS_X6_test O hr hm hne  _ _  _ _ _ h)
    · refine j_aload_n O 1 0 dX6_positive_50 rfl rfl ?_
      refine j_ldcS O 11 (by decide) rfl rfl dX6_positive_51 ?_
      obtain ⟨e17, h⟩ := h
      refine fin_I O ⟨Nat.zero_le _, Nat.zero_le _⟩ (run_U2 (As := [vR (xG x) ((some (900 + 11)))]) (st := []) (x0 := ⟨"DowryBoxes$Reader", "is", "(Ljava/lang/String;)Z"⟩) (owner := "DowryBoxes$Reader") O (mt_X6_is (xl x) (xG x) _ _ _ _ h) e17 cfX7.1 cfX20.1 (lw_U q967 q2276 q2277 q849 q136 q850) (lw_U q967 q2276 q2278 q849 q136 q850) rfl hy_X6_is.2 (by omega) (Nat.le_of_ble_eq_true rfl) ⟨Nat.zero_le _, Nat.zero_le _⟩ rfl (Nat.le_of_ble_eq_true rfl) dX6_positive_53) (fun r15 w16 h => ?_)
      obtain ⟨c18, h⟩ := h
      refine j_if_ne O (tgt := 80) dX6_positive_56 (by decide) c18 h (fun h => ?_) (fun h => ?_)
      · exact (J.sub [1, 0] rfl <| wk_X6_positive_80  S_X6_test D hB hS_X6_test O hr hm hne  _ _  _ _ _ h)
      · refine j_aload_n O 1 0 dX6_positive_59 rfl rfl ?_
        refine j_ldcS O 12 (by decide) rfl rfl dX6_positive_60 ?_
        obtain ⟨e21, h⟩ := h
        refine fin_I O ⟨Nat.zero_le _, Nat.zero_le _⟩ (run_U2 (As := [vR (xG x) ((some (900 + 12)))]) (st := []) (x0 := ⟨"DowryBoxes$Reader", "is", "(Ljava/lang/String;)Z"⟩) (owner := "DowryBoxes$Reader") O (mt_X6_is (xl x) (xG x) _ _ _ _ h) e21 cfX7.1 cfX20.1 (lw_U q967 q2276 q2277 q849 q136 q850) (lw_U q967 q2276 q2278 q849 q136 q850) rfl hy_X6_is.2 (by omega) (Nat.le_of_ble_eq_true rfl) ⟨Nat.zero_le _, Nat.zero_le _⟩ rfl (Nat.le_of_ble_eq_true rfl) dX6_positive_62) (fun r19 w20 h => ?_)
        obtain ⟨c22, h⟩ := h
        refine j_if_ne O (tgt := 80) dX6_positive_65 (by decide) c22 h (fun h => ?_) (fun h => ?_)
        · exact (J.sub [1, 0] rfl <| wk_X6_positive_80  S_X6_test D hB hS_X6_test O hr hm hne  _ _  _ _ _ h)
        · refine j_newO O cfX8 q906 q907 q141 dX6_positive_68 h (fun k23 w24 h => ?_)
          refine j_dup O dX6_positive_71 rfl ?_
          refine j_aload_n O 1 0 dX6_positive_72 rfl rfl ?_
          refine j_getI2 O cfX7 cfX20 3 ⟨Nat.le_of_ble_eq_true rfl, Nat.le_of_ble_eq_true rfl⟩ ⟨rfl, rfl⟩ q794 q794 dX6_positive_73 h (fun v25 h => ?_)
          refine fin_V O ⟨Nat.zero_le _, Nat.zero_le _⟩ (run_I (As := [vI (v25)]) (st := [.ref (adG (xG x) (k23))]) O (mt_X8_init (xl x) (xG x) _ _ _ _ h) q915 q916 q141 q917 rfl hy_X8_init.2 (by omega) (Nat.le_of_ble_eq_true rfl) ⟨Nat.zero_le _, Nat.zero_le _⟩ rfl (Nat.le_of_ble_eq_true rfl) dX6_positive_76) (fun w26 h => ?_)
          exact jx_throw O hne dX6_positive_79 h
  · refine j_aload_n O 0 0 dX6_positive_9 rfl rfl ?_
    obtain ⟨e30, h⟩ := h
    obtain ⟨mc28, ms29, hb31, h⟩ := h
    refine finX_V O hb31 (runX_U2 (As := []) (st := []) (x0 := ⟨"DowryBoxes$Reader", "opens", "()V"⟩) (owner := "DowryBoxes$Reader") O (mt_X6_opens (xl x) (xG x) _ _ _ _ _ _ h) e30 cfX7.1 cfX20.1 (lw_U q968 q970 q971 q969 q136 q973) (lw_U q968 q970 q972 q969 q136 q973) rfl hy_X6_opens.2 (by omega) (Nat.le_of_ble_eq_true rfl) hb31 rfl (Nat.le_of_ble_eq_true rfl) dX6_positive_10) (fun w27 h => ?_) (fun k9 w9 ci9 h hk hci => jx_out O hne hk hci h)
    refine j_aload_n O 0 0 dX6_positive_13 rfl rfl ?_
    obtain ⟨e36, h⟩ := h
    obtain ⟨mc34, ms35, hb37, h⟩ := h
    refine finX_R O hb37 (runX_U2 (As := []) (st := []) (x0 := ⟨"DowryBoxes$Reader", "test", "()LDowryBoxes$Test;"⟩) (owner := "DowryBoxes$Reader") O (hS_X6_test (xl x) (xG x) _ _ _ _ _ _ h) e36 cfX7.1 cfX20.1 (lw_U q1112 q2282 q2283 q1090 q136 q1091) (lw_U q1112 q2282 q2284 q1090 q136 q1091) rfl hy_X6_test.2 (by omega) (Nat.le_of_ble_eq_true rfl) hb37 rfl (Nat.le_of_ble_eq_true rfl) dX6_positive_14) (fun o32 w33 h => ?_) (fun k9 w9 ci9 h hk hci => jx_out O hne hk hci h)
    refine j_astoreq_n (L' := [(1, vR (xG x) (o32)), (0, .ref (adG (xG x) (this)))]) O 1 dX6_positive_17 rfl (by rw [hm]; decide) rfl ?_
    refine j_aload_n O 1 0 dX6_positive_18 rfl rfl ?_
    refine j_ldcS O 9 (by decide) rfl rfl dX6_positive_19 ?_
    obtain ⟨e41, h⟩ := h
    obtain ⟨mc39, ms40, hb42, h⟩ := h
    refine finX_V O hb42 (runX_U2 (As := [vR (xG x) ((some (900 + 9)))]) (st := []) (x0 := ⟨"DowryBoxes$Reader", "need", "(Ljava/lang/String;)V"⟩) (owner := "DowryBoxes$Reader") O (mt_X6_need (xl x) (xG x) _ _ _ _ _ _ _ h) e41 cfX7.1 cfX20.1 (lw_U q976 q978 q979 q977 q136 q981) (lw_U q976 q978 q980 q977 q136 q981) rfl hy_X6_need.2 (by omega) (Nat.le_of_ble_eq_true rfl) hb42 rfl (Nat.le_of_ble_eq_true rfl) dX6_positive_21) (fun w38 h => ?_) (fun k9 w9 ci9 h hk hci => jx_out O hne hk hci h)
    refine j_aload_n O 1 0 dX6_positive_24 rfl rfl ?_
    refine j_dup O dX6_positive_25 rfl ?_
    refine j_getI2 O cfX7 cfX20 6 ⟨Nat.le_of_ble_eq_true rfl, Nat.le_of_ble_eq_true rfl⟩ ⟨rfl, rfl⟩ q797 q797 dX6_positive_26 h (fun v43 h => ?_)
    refine j_iconst O dX6_positive_29 ?_
    refine j_isub O dX6_positive_30 ?_
    refine j_putI2 (v := (v43 - 1)) O cfX7 cfX20 6 ⟨Nat.le_of_ble_eq_true rfl, Nat.le_of_ble_eq_true rfl⟩ ⟨rfl, rfl⟩ q797 q797 ⟨rfl, rfl⟩ dX6_positive_31 h (fun w44 h => ?_)
    refine j_aloadq_n O 0 1 dX6_positive_34 rfl rfl ?_
    exact J.toX (j_aret (v := o32) O hr (.inl ⟨_, rfl⟩) dX6_positive_35 h)
theorem hy_X6_plain : (yX6_plain.cls = "DowryBoxes$Reader" ∧ yX6_plain.cls ≠ "java/lang/invoke/MethodHandle" ∧ yX6_plain.cls ≠ "java/lang/invoke/VarHandle" ∧ (parseMethodDescriptor yX6_plain.desc).map (fun d => d.parameters.length) = some 0) := by decide +kernel
theorem wk_X6_plain_20 {x : Cx}  (S_X6_test : Nat → Nat → Nat → Wd → (Option Nat → Wd → Prop) → (Nat → Wd → Prop) → Prop) (D : Nat) (hB : 39 ≤ D) (hS_X6_test : ∀ (l : Launch) (G : GW) (this : Nat) (bc bs : Nat) (w : Wd) (Q : Option Nat → Wd → Prop) (XE : Nat → Wd → Prop), S_X6_test this bc bs w Q XE → XR l G yX6_test cX6_test 3 (.object "DowryBoxes$Test") D bc bs [.ref (adG G (this))] w Q XE) (O : OK x "DowryBoxes$Reader" cX6_plain (D + 2)) (hr : (xM x).sig.returnType = some (.object "DowryBoxes$Test")) (hm : xn x = 3) (hne : ∀ z ∈ (xc x).exceptionTable.toList, False) {Q : Option Nat → Wd → Prop} {XE : Nat → Wd → Prop} (K2 : Int → Nat → Nat → Wd → Prop) (X2 : Int → Nat → Nat → Wd → Prop) (this : Nat) (s0 : Int) (hK2 : ∀ (y1 : Int) (bc bs : Nat) (w : Wd), K2 y1 bc bs w → J x (TXR x Q XE) w bc bs 2 [(0, .ref (adG (xG x) (this))), (1, vI (y1))] []) (hX2 : ∀ (y1 : Int) (bc bs : Nat) (w : Wd), X2 y1 bc bs w → J x (TXR x Q XE) w bc bs 24 [(0, .ref (adG (xG x) (this))), (1, vI (y1))] []) (bc bs : Nat) (w : Wd) (h : wp_X6_plain_20 S_X6_test Q XE K2 X2 this s0 bc bs w) : J x (TXR x Q XE) w bc bs 20 [(0, .ref (adG (xG x) (this)))] [vI (s0)] := by
  unfold wp_X6_plain_20 at h
  refine j_istore_n (L' := [(1, vI (s0)), (0, .ref (adG (xG x) (this)))]) O 1 dX6_plain_20 rfl (by rw [hm]; decide) rfl ?_
  refine j_goto O (tgt := 2) dX6_plain_21 (by decide) ?_
  exact (J.sub [1, 0] rfl <| hK2 _ _ _ _ h)
theorem wk_X6_plain_2 {x : Cx}  (S_X6_test : Nat → Nat → Nat → Wd → (Option Nat → Wd → Prop) → (Nat → Wd → Prop) → Prop) (D : Nat) (hB : 39 ≤ D) (hS_X6_test : ∀ (l : Launch) (G : GW) (this : Nat) (bc bs : Nat) (w : Wd) (Q : Option Nat → Wd → Prop) (XE : Nat → Wd → Prop), S_X6_test this bc bs w Q XE → XR l G yX6_test cX6_test 3 (.object "DowryBoxes$Test") D bc bs [.ref (adG G (this))] w Q XE) (O : OK x "DowryBoxes$Reader" cX6_plain (D + 2)) (hr : (xM x).sig.returnType = some (.object "DowryBoxes$Test")) (hm : xn x = 3) (hne : ∀ z ∈ (xc x).exceptionTable.toList, False) {Q : Option Nat → Wd → Prop} {XE : Nat → Wd → Prop} (X2 : Int → Nat → Nat → Wd → Prop) (this : Nat) (hX2 : ∀ (y1 : Int) (bc bs : Nat) (w : Wd), X2 y1 bc bs w → J x (TXR x Q XE) w bc bs 24 [(0, .ref (adG (xG x) (this))), (1, vI (y1))] []) : ∀ (n : Nat) (x1 : Int) (bc bs : Nat) (w : Wd), wp_X6_plain_2 S_X6_test Q XE X2 this n x1 bc bs w → J x (TXR x Q XE) w bc bs 2 [(0, .ref (adG (xG x) (this))), (1, vI (x1))] [] := by
  intro n
  induction n with
  | zero => intro x1 bc bs w h; exact False.elim h
  | succ n ih =>
    intro x1 bc bs w h
    rw [wp_X6_plain_2] at h
    refine j_aload_n O 0 0 dX6_plain_2 rfl rfl ?_
    refine j_ldcS O 7 (by decide) rfl rfl dX6_plain_3 ?_
    obtain ⟨e3, h⟩ := h
    refine fin_I O ⟨Nat.zero_le _, Nat.zero_le _⟩ (run_U2 (As := [vR (xG x) ((some (900 + 7)))]) (st := []) (x0 := ⟨"DowryBoxes$Reader", "takes", "(Ljava/lang/String;)Z"⟩) (owner := "DowryBoxes$Reader") O (mt_X6_takes (xl x) (xG x) _ _ _ _ h) e3 cfX7.1 cfX20.1 (lw_U q982 q984 q985 q983 q136 q987) (lw_U q982 q984 q986 q983 q136 q987) rfl hy_X6_takes.2 (by omega) (Nat.le_of_ble_eq_true rfl) ⟨Nat.zero_le _, Nat.zero_le _⟩ rfl (Nat.le_of_ble_eq_true rfl) dX6_plain_5) (fun r1 w2 h => ?_)
    obtain ⟨c4, h⟩ := h
    refine j_if_eq O (tgt := 24) dX6_plain_8 (by decide) c4 h (fun h => ?_) (fun h => ?_)
    · exact (J.sub [0, 1] rfl <| hX2 _ _ _ _ h)
    · refine j_iload_n O 1 1 dX6_plain_11 rfl rfl ?_
      obtain ⟨c5, h⟩ := h
      refine j_if_ne O (tgt := 19) dX6_plain_12 (by decide) c5 h (fun h => ?_) (fun h => ?_)
      · refine j_iconst O dX6_plain_19 ?_
        exact (J.sub [0] rfl <| wk_X6_plain_20  S_X6_test D hB hS_X6_test O hr hm hne _ _ _ _ ih hX2 _ _ _ h)
      · refine j_iconst O dX6_plain_15 ?_
        refine j_goto O (tgt := 20) dX6_plain_16 (by decide) ?_
        exact (J.sub [0] rfl <| wk_X6_plain_20  S_X6_test D hB hS_X6_test O hr hm hne _ _ _ _ ih hX2 _ _ _ h)
theorem mt_X6_plain  (S_X6_test : Nat → Nat → Nat → Wd → (Option Nat → Wd → Prop) → (Nat → Wd → Prop) → Prop) (D : Nat) (hB : 39 ≤ D) (hS_X6_test : ∀ (l : Launch) (G : GW) (this : Nat) (bc bs : Nat) (w : Wd) (Q : Option Nat → Wd → Prop) (XE : Nat → Wd → Prop), S_X6_test this bc bs w Q XE → XR l G yX6_test cX6_test 3 (.object "DowryBoxes$Test") D bc bs [.ref (adG G (this))] w Q XE) (l : Launch) (G : GW) (this : Nat) (bc bs : Nat) (w : Wd) (Q : Option Nat → Wd → Prop) (XE : Nat → Wd → Prop) (h : wp_X6_plain S_X6_test this bc bs w Q XE) : XR l G yX6_plain cX6_plain 3 (.object "DowryBoxes$Test") (D + 2) bc bs [.ref (adG G (this))] w Q XE := by
  refine metX_R (fun G => [.ref (adG G (this))]) (by decide) (fun G => Nat.le_of_ble_eq_true rfl) (fun x O hl hm hr hne => ?_)
  subst hl
  have O : OK x "DowryBoxes$Reader" cX6_plain (D + 2) := O
  have h : wp_X6_plain S_X6_test this bc bs w Q XE := h
  unfold wp_X6_plain at h
  show J x (TXR x Q XE) w bc bs 0 [(0, .ref (adG (xG x) (this)))] []
  refine j_iconst O dX6_plain_0 ?_
  refine j_istore_n (L' := [(1, vI (0)), (0, .ref (adG (xG x) (this)))]) O 1 dX6_plain_1 rfl (by rw [hm]; decide) rfl ?_
  refine (J.sub [1, 0] rfl <| wk_X6_plain_2  S_X6_test D hB hS_X6_test O hr hm hne _ _ (fun z1 bc3 bs4 w2 h => ?_) FU _ _ _ _ h)
  refine j_aload_n O 0 0 dX6_plain_24 rfl rfl ?_
  obtain ⟨e9, h⟩ := h
  obtain ⟨mc7, ms8, hb10, h⟩ := h
  refine finX_R O hb10 (runX_U2 (As := []) (st := []) (x0 := ⟨"DowryBoxes$Reader", "positive", "()LDowryBoxes$Test;"⟩) (owner := "DowryBoxes$Reader") O (mt_X6_positive  S_X6_test D hB hS_X6_test (xl x) (xG x) _ _ _ _ _ _ h) e9 cfX7.1 cfX20.1 (lw_U q1105 q1107 q1108 q1106 q136 q1110) (lw_U q1105 q1107 q1109 q1106 q136 q1110) rfl hy_X6_positive.2 (by omega) (Nat.le_of_ble_eq_true rfl) hb10 rfl (Nat.le_of_ble_eq_true rfl) dX6_plain_25) (fun o5 w6 h => ?_) (fun k9 w9 ci9 h hk hci => jx_out O hne hk hci h)
  refine j_astoreq_n (L' := [(2, vR (xG x) (o5)), (0, .ref (adG (xG x) (this))), (1, vI (z1))]) O 2 dX6_plain_28 rfl (by rw [hm]; decide) rfl ?_
  refine j_iload_n O 2 1 dX6_plain_29 rfl rfl ?_
  obtain ⟨c11, h⟩ := h
  refine j_if_eq O (tgt := 44) dX6_plain_30 (by decide) c11 h (fun h => ?_) (fun h => ?_)
  · refine j_aloadq_n O 0 2 dX6_plain_44 rfl rfl ?_
    exact J.toX (j_aret (v := o5) O hr (.inl ⟨_, rfl⟩) dX6_plain_45 h)
  · refine j_newO O cfX16 q1136 q1137 q149 dX6_plain_33 h (fun k12 w13 h => ?_)
    refine j_dup O dX6_plain_36 rfl ?_
    refine j_aloadq_n O 0 2 dX6_plain_37 rfl rfl ?_
    refine fin_V O ⟨Nat.zero_le _, Nat.zero_le _⟩ (run_I (As := [vR (xG x) (o5)]) (st := [.ref (adG (xG x) (k12))]) O (mt_X16_init (xl x) (xG x) _ _ _ _ h) q1138 q1139 q149 q1140 rfl hy_X16_init.2 (by omega) (Nat.le_of_ble_eq_true rfl) ⟨Nat.zero_le _, Nat.zero_le _⟩ rfl (Nat.le_of_ble_eq_true rfl) dX6_plain_38) (fun w14 h => ?_)
    refine j_goto O (tgt := 45) dX6_plain_41 (by decide) ?_
    exact J.toX (j_aret (v := (some k12)) O hr (.inl ⟨_, rfl⟩) dX6_plain_45 h)
theorem hy_X6_both : (yX6_both.cls = "DowryBoxes$Reader" ∧ yX6_both.cls ≠ "java/lang/invoke/MethodHandle" ∧ yX6_both.cls ≠ "java/lang/invoke/VarHandle" ∧ (parseMethodDescriptor yX6_both.desc).map (fun d => d.parameters.length) = some 0) := by decide +kernel
theorem wk_X6_both_34 {x : Cx}  (S_X6_test : Nat → Nat → Nat → Wd → (Option Nat → Wd → Prop) → (Nat → Wd → Prop) → Prop) (D : Nat) (hB : 39 ≤ D) (hS_X6_test : ∀ (l : Launch) (G : GW) (this : Nat) (bc bs : Nat) (w : Wd) (Q : Option Nat → Wd → Prop) (XE : Nat → Wd → Prop), S_X6_test this bc bs w Q XE → XR l G yX6_test cX6_test 3 (.object "DowryBoxes$Test") D bc bs [.ref (adG G (this))] w Q XE) (O : OK x "DowryBoxes$Reader" cX6_both (D + 3)) (hr : (xM x).sig.returnType = some (.object "DowryBoxes$Test")) (hm : xn x = 3) (hne : ∀ z ∈ (xc x).exceptionTable.toList, False) {Q : Option Nat → Wd → Prop} {XE : Nat → Wd → Prop} (this : Nat) (x2 : Nat) : ∀ (n : Nat) (bc bs : Nat) (w : Wd), wp_X6_both_34 S_X6_test Q XE this x2 n bc bs w → J x (TXR x Q XE) w bc bs 34 [(0, .ref (adG (xG x) (this))), (2, .ref (adG (xG x) (x2)))] [] := by
  intro n
  induction n with
  | zero => intro bc bs w h; exact False.elim h
  | succ n ih =>
    intro bc bs w h
    rw [wp_X6_both_34] at h
    refine j_aload_n O 0 0 dX6_both_34 rfl rfl ?_
    refine j_ldcS O 13 (by decide) rfl rfl dX6_both_35 ?_
    obtain ⟨e3, h⟩ := h
    refine fin_I O ⟨Nat.zero_le _, Nat.zero_le _⟩ (run_U2 (As := [vR (xG x) ((some (900 + 13)))]) (st := []) (x0 := ⟨"DowryBoxes$Reader", "takes", "(Ljava/lang/String;)Z"⟩) (owner := "DowryBoxes$Reader") O (mt_X6_takes (xl x) (xG x) _ _ _ _ h) e3 cfX7.1 cfX20.1 (lw_U q982 q984 q985 q983 q136 q987) (lw_U q982 q984 q986 q983 q136 q987) rfl hy_X6_takes.2 (by omega) (Nat.le_of_ble_eq_true rfl) ⟨Nat.zero_le _, Nat.zero_le _⟩ rfl (Nat.le_of_ble_eq_true rfl) dX6_both_37) (fun r1 w2 h => ?_)
    obtain ⟨c4, h⟩ := h
    refine j_if_eq O (tgt := 58) dX6_both_40 (by decide) c4 h (fun h => ?_) (fun h => ?_)
    · refine j_aload_n O 1 2 dX6_both_58 rfl rfl ?_
      exact J.toX (j_aret (v := (some x2)) O hr (.inl ⟨_, rfl⟩) dX6_both_59 h)
    · refine j_aload_n O 1 2 dX6_both_43 rfl rfl ?_
      refine j_getRN O cfX17 1 (Nat.le_of_ble_eq_true rfl) ⟨_, rfl⟩ (lw_n q1157 rfl) dX6_both_44 h (fun o5 h => ?_)
      refine j_aload_n O 0 0 dX6_both_47 rfl rfl ?_
      obtain ⟨e10, h⟩ := h
      obtain ⟨mc8, ms9, hb11, h⟩ := h
      refine finX_R O hb11 (runX_U2 (As := []) (st := [vR (xG x) (o5)]) (x0 := ⟨"DowryBoxes$Reader", "plain", "()LDowryBoxes$Test;"⟩) (owner := "DowryBoxes$Reader") O (mt_X6_plain  S_X6_test D hB hS_X6_test (xl x) (xG x) _ _ _ _ _ _ h) e10 cfX7.1 cfX20.1 (lw_U q1098 q1100 q1101 q1099 q136 q1103) (lw_U q1098 q1100 q1102 q1099 q136 q1103) rfl hy_X6_plain.2 (by omega) (Nat.le_of_ble_eq_true rfl) hb11 rfl (by simp only [List.map_cons, List.map_nil, vR_cat]; exact Nat.le_of_ble_eq_true rfl) dX6_both_48) (fun o6 w7 h => ?_) (fun k9 w9 ci9 h hk hci => jx_out O hne hk hci h)
      obtain ⟨k12, e_k12, g_k12⟩ := h
      subst e_k12
      have h := g_k12
      obtain ⟨e17, h⟩ := h
      obtain ⟨mc15, ms16, hb18, h⟩ := h
      refine fin_I O hb18 (run_V (As := [vR (xG x) (o6)]) (st := []) O (mt_J2_add (xl x) (xG x) _ _ _ _ _ _ h) e17 cfJ2.1 q1163 q1164 q1165 q126 q1166 hy_J2_add (by omega) (Nat.le_of_ble_eq_true rfl) hb18 rfl (Nat.le_of_ble_eq_true rfl) dX6_both_51) (fun r13 w14 h => ?_)
      refine j_pop O dX6_both_54 rfl ?_
      refine j_goto O (tgt := 34) dX6_both_55 (by decide) ?_
      exact (J.sub [0, 1] rfl <| ih  _ _ _ h)
theorem mt_X6_both  (S_X6_test : Nat → Nat → Nat → Wd → (Option Nat → Wd → Prop) → (Nat → Wd → Prop) → Prop) (D : Nat) (hB : 39 ≤ D) (hS_X6_test : ∀ (l : Launch) (G : GW) (this : Nat) (bc bs : Nat) (w : Wd) (Q : Option Nat → Wd → Prop) (XE : Nat → Wd → Prop), S_X6_test this bc bs w Q XE → XR l G yX6_test cX6_test 3 (.object "DowryBoxes$Test") D bc bs [.ref (adG G (this))] w Q XE) (l : Launch) (G : GW) (this : Nat) (bc bs : Nat) (w : Wd) (Q : Option Nat → Wd → Prop) (XE : Nat → Wd → Prop) (h : wp_X6_both S_X6_test this bc bs w Q XE) : XR l G yX6_both cX6_both 3 (.object "DowryBoxes$Test") (D + 3) bc bs [.ref (adG G (this))] w Q XE := by
  refine metX_R (fun G => [.ref (adG G (this))]) (by decide) (fun G => Nat.le_of_ble_eq_true rfl) (fun x O hl hm hr hne => ?_)
  subst hl
  have O : OK x "DowryBoxes$Reader" cX6_both (D + 3) := O
  have h : wp_X6_both S_X6_test this bc bs w Q XE := h
  unfold wp_X6_both at h
  show J x (TXR x Q XE) w bc bs 0 [(0, .ref (adG (xG x) (this)))] []
  refine j_aload_n O 0 0 dX6_both_0 rfl rfl ?_
  obtain ⟨e5, h⟩ := h
  obtain ⟨mc3, ms4, hb6, h⟩ := h
  refine finX_R O hb6 (runX_U2 (As := []) (st := []) (x0 := ⟨"DowryBoxes$Reader", "plain", "()LDowryBoxes$Test;"⟩) (owner := "DowryBoxes$Reader") O (mt_X6_plain  S_X6_test D hB hS_X6_test (xl x) (xG x) _ _ _ _ _ _ h) e5 cfX7.1 cfX20.1 (lw_U q1098 q1100 q1101 q1099 q136 q1103) (lw_U q1098 q1100 q1102 q1099 q136 q1103) rfl hy_X6_plain.2 (by omega) (Nat.le_of_ble_eq_true rfl) hb6 rfl (Nat.le_of_ble_eq_true rfl) dX6_both_1) (fun o1 w2 h => ?_) (fun k9 w9 ci9 h hk hci => jx_out O hne hk hci h)
  refine j_astoreq_n (L' := [(1, vR (xG x) (o1)), (0, .ref (adG (xG x) (this)))]) O 1 dX6_both_4 rfl (by rw [hm]; decide) rfl ?_
  refine j_aload_n O 1 0 dX6_both_5 rfl rfl ?_
  refine j_ldcS O 13 (by decide) rfl rfl dX6_both_6 ?_
  obtain ⟨e9, h⟩ := h
  refine fin_I O ⟨Nat.zero_le _, Nat.zero_le _⟩ (run_U2 (As := [vR (xG x) ((some (900 + 13)))]) (st := []) (x0 := ⟨"DowryBoxes$Reader", "is", "(Ljava/lang/String;)Z"⟩) (owner := "DowryBoxes$Reader") O (mt_X6_is (xl x) (xG x) _ _ _ _ h) e9 cfX7.1 cfX20.1 (lw_U q967 q2276 q2277 q849 q136 q850) (lw_U q967 q2276 q2278 q849 q136 q850) rfl hy_X6_is.2 (by omega) (Nat.le_of_ble_eq_true rfl) ⟨Nat.zero_le _, Nat.zero_le _⟩ rfl (Nat.le_of_ble_eq_true rfl) dX6_both_8) (fun r7 w8 h => ?_)
  obtain ⟨c10, h⟩ := h
  refine j_if_ne O (tgt := 16) dX6_both_11 (by decide) c10 h (fun h => ?_) (fun h => ?_)
  · refine j_newO O cfX17 q1147 q1148 q150 dX6_both_16 h (fun k11 w12 h => ?_)
    refine j_dup O dX6_both_19 rfl ?_
    refine j_iconst O dX6_both_20 ?_
    obtain ⟨mc14, ms15, hb16, h⟩ := h
    refine fin_V O hb16 (run_I (As := [vI (1)]) (st := [.ref (adG (xG x) (k11))]) O (mt_X17_init (xl x) (xG x) _ _ _ _ _ _ h) q1149 q1150 q150 q1151 rfl hy_X17_init.2 (by omega) (Nat.le_of_ble_eq_true rfl) hb16 rfl (Nat.le_of_ble_eq_true rfl) dX6_both_21) (fun w13 h => ?_)
    refine j_astore_n (L' := [(2, .ref (adG (xG x) (k11))), (1, vR (xG x) (o1)), (0, .ref (adG (xG x) (this)))]) O 2 dX6_both_24 rfl (by rw [hm]; decide) (by cases o1 <;> rfl) ?_
    refine j_aload_n O 0 2 dX6_both_25 rfl rfl ?_
    refine j_getRN O cfX17 1 (Nat.le_of_ble_eq_true rfl) ⟨_, rfl⟩ (lw_n q1157 rfl) dX6_both_26 h (fun o17 h => ?_)
    refine j_aloadq_n O 1 1 dX6_both_29 rfl rfl ?_
    obtain ⟨k18, e_k18, g_k18⟩ := h
    subst e_k18
    have h := g_k18
    obtain ⟨e23, h⟩ := h
    obtain ⟨mc21, ms22, hb24, h⟩ := h
    refine fin_I O hb24 (run_V (As := [vR (xG x) (o1)]) (st := []) O (mt_J2_add (xl x) (xG x) _ _ _ _ _ _ h) e23 cfJ2.1 q1163 q1164 q1165 q126 q1166 hy_J2_add (by omega) (Nat.le_of_ble_eq_true rfl) hb24 rfl (Nat.le_of_ble_eq_true rfl) dX6_both_30) (fun r19 w20 h => ?_)
    refine j_pop O dX6_both_33 rfl ?_
    exact (J.sub [2, 0] rfl <| wk_X6_both_34  S_X6_test D hB hS_X6_test O hr hm hne  _ _  FU  _ _ _ h)
  · refine j_aloadq_n O 0 1 dX6_both_14 rfl rfl ?_
    exact J.toX (j_aret (v := o1) O hr (.inl ⟨_, rfl⟩) dX6_both_15 h)
theorem wk_X6_test_34 {x : Cx}  (S_X6_test : Nat → Nat → Nat → Wd → (Option Nat → Wd → Prop) → (Nat → Wd → Prop) → Prop) (D : Nat) (hB : 39 ≤ D) (hS_X6_test : ∀ (l : Launch) (G : GW) (this : Nat) (bc bs : Nat) (w : Wd) (Q : Option Nat → Wd → Prop) (XE : Nat → Wd → Prop), S_X6_test this bc bs w Q XE → XR l G yX6_test cX6_test 3 (.object "DowryBoxes$Test") D bc bs [.ref (adG G (this))] w Q XE) (O : OK x "DowryBoxes$Reader" cX6_test (D + 4)) (hr : (xM x).sig.returnType = some (.object "DowryBoxes$Test")) (hm : xn x = 3) (hne : ∀ z ∈ (xc x).exceptionTable.toList, False) {Q : Option Nat → Wd → Prop} {XE : Nat → Wd → Prop} (this : Nat) (x2 : Nat) : ∀ (n : Nat) (bc bs : Nat) (w : Wd), wp_X6_test_34 S_X6_test Q XE this x2 n bc bs w → J x (TXR x Q XE) w bc bs 34 [(0, .ref (adG (xG x) (this))), (2, .ref (adG (xG x) (x2)))] [] := by
  intro n
  induction n with
  | zero => intro bc bs w h; exact False.elim h
  | succ n ih =>
    intro bc bs w h
    rw [wp_X6_test_34] at h
    refine j_aload_n O 0 0 dX6_test_34 rfl rfl ?_
    refine j_ldcS O 14 (by decide) rfl rfl dX6_test_35 ?_
    obtain ⟨e3, h⟩ := h
    refine fin_I O ⟨Nat.zero_le _, Nat.zero_le _⟩ (run_U2 (As := [vR (xG x) ((some (900 + 14)))]) (st := []) (x0 := ⟨"DowryBoxes$Reader", "takes", "(Ljava/lang/String;)Z"⟩) (owner := "DowryBoxes$Reader") O (mt_X6_takes (xl x) (xG x) _ _ _ _ h) e3 cfX7.1 cfX20.1 (lw_U q982 q984 q985 q983 q136 q987) (lw_U q982 q984 q986 q983 q136 q987) rfl hy_X6_takes.2 (by omega) (Nat.le_of_ble_eq_true rfl) ⟨Nat.zero_le _, Nat.zero_le _⟩ rfl (Nat.le_of_ble_eq_true rfl) dX6_test_37) (fun r1 w2 h => ?_)
    obtain ⟨c4, h⟩ := h
    refine j_if_eq O (tgt := 58) dX6_test_40 (by decide) c4 h (fun h => ?_) (fun h => ?_)
    · refine j_aload_n O 1 2 dX6_test_58 rfl rfl ?_
      exact J.toX (j_aret (v := (some x2)) O hr (.inl ⟨_, rfl⟩) dX6_test_59 h)
    · refine j_aload_n O 1 2 dX6_test_43 rfl rfl ?_
      refine j_getRN O cfX17 1 (Nat.le_of_ble_eq_true rfl) ⟨_, rfl⟩ (lw_n q1157 rfl) dX6_test_44 h (fun o5 h => ?_)
      refine j_aload_n O 0 0 dX6_test_47 rfl rfl ?_
      obtain ⟨e10, h⟩ := h
      obtain ⟨mc8, ms9, hb11, h⟩ := h
      refine finX_R O hb11 (runX_U2 (As := []) (st := [vR (xG x) (o5)]) (x0 := ⟨"DowryBoxes$Reader", "both", "()LDowryBoxes$Test;"⟩) (owner := "DowryBoxes$Reader") O (mt_X6_both  S_X6_test D hB hS_X6_test (xl x) (xG x) _ _ _ _ _ _ h) e10 cfX7.1 cfX20.1 (lw_U q1092 q1094 q1095 q1093 q136 q1097) (lw_U q1092 q1094 q1096 q1093 q136 q1097) rfl hy_X6_both.2 (by omega) (Nat.le_of_ble_eq_true rfl) hb11 rfl (by simp only [List.map_cons, List.map_nil, vR_cat]; exact Nat.le_of_ble_eq_true rfl) dX6_test_48) (fun o6 w7 h => ?_) (fun k9 w9 ci9 h hk hci => jx_out O hne hk hci h)
      obtain ⟨k12, e_k12, g_k12⟩ := h
      subst e_k12
      have h := g_k12
      obtain ⟨e17, h⟩ := h
      obtain ⟨mc15, ms16, hb18, h⟩ := h
      refine fin_I O hb18 (run_V (As := [vR (xG x) (o6)]) (st := []) O (mt_J2_add (xl x) (xG x) _ _ _ _ _ _ h) e17 cfJ2.1 q1163 q1164 q1165 q126 q1166 hy_J2_add (by omega) (Nat.le_of_ble_eq_true rfl) hb18 rfl (Nat.le_of_ble_eq_true rfl) dX6_test_51) (fun r13 w14 h => ?_)
      refine j_pop O dX6_test_54 rfl ?_
      refine j_goto O (tgt := 34) dX6_test_55 (by decide) ?_
      exact (J.sub [0, 1] rfl <| ih  _ _ _ h)
theorem mt_X6_test  (S_X6_test : Nat → Nat → Nat → Wd → (Option Nat → Wd → Prop) → (Nat → Wd → Prop) → Prop) (D : Nat) (hB : 39 ≤ D) (hS_X6_test : ∀ (l : Launch) (G : GW) (this : Nat) (bc bs : Nat) (w : Wd) (Q : Option Nat → Wd → Prop) (XE : Nat → Wd → Prop), S_X6_test this bc bs w Q XE → XR l G yX6_test cX6_test 3 (.object "DowryBoxes$Test") D bc bs [.ref (adG G (this))] w Q XE) (l : Launch) (G : GW) (this : Nat) (bc bs : Nat) (w : Wd) (Q : Option Nat → Wd → Prop) (XE : Nat → Wd → Prop) (h : wp_X6_test S_X6_test this bc bs w Q XE) : XR l G yX6_test cX6_test 3 (.object "DowryBoxes$Test") (D + 4) bc bs [.ref (adG G (this))] w Q XE := by
  refine metX_R (fun G => [.ref (adG G (this))]) (by decide) (fun G => Nat.le_of_ble_eq_true rfl) (fun x O hl hm hr hne => ?_)
  subst hl
  have O : OK x "DowryBoxes$Reader" cX6_test (D + 4) := O
  have h : wp_X6_test S_X6_test this bc bs w Q XE := h
  unfold wp_X6_test at h
  show J x (TXR x Q XE) w bc bs 0 [(0, .ref (adG (xG x) (this)))] []
  refine j_aload_n O 0 0 dX6_test_0 rfl rfl ?_
  obtain ⟨e5, h⟩ := h
  obtain ⟨mc3, ms4, hb6, h⟩ := h
  refine finX_R O hb6 (runX_U2 (As := []) (st := []) (x0 := ⟨"DowryBoxes$Reader", "both", "()LDowryBoxes$Test;"⟩) (owner := "DowryBoxes$Reader") O (mt_X6_both  S_X6_test D hB hS_X6_test (xl x) (xG x) _ _ _ _ _ _ h) e5 cfX7.1 cfX20.1 (lw_U q1092 q1094 q1095 q1093 q136 q1097) (lw_U q1092 q1094 q1096 q1093 q136 q1097) rfl hy_X6_both.2 (by omega) (Nat.le_of_ble_eq_true rfl) hb6 rfl (Nat.le_of_ble_eq_true rfl) dX6_test_1) (fun o1 w2 h => ?_) (fun k9 w9 ci9 h hk hci => jx_out O hne hk hci h)
  refine j_astoreq_n (L' := [(1, vR (xG x) (o1)), (0, .ref (adG (xG x) (this)))]) O 1 dX6_test_4 rfl (by rw [hm]; decide) rfl ?_
  refine j_aload_n O 1 0 dX6_test_5 rfl rfl ?_
  refine j_ldcS O 14 (by decide) rfl rfl dX6_test_6 ?_
  obtain ⟨e9, h⟩ := h
  refine fin_I O ⟨Nat.zero_le _, Nat.zero_le _⟩ (run_U2 (As := [vR (xG x) ((some (900 + 14)))]) (st := []) (x0 := ⟨"DowryBoxes$Reader", "is", "(Ljava/lang/String;)Z"⟩) (owner := "DowryBoxes$Reader") O (mt_X6_is (xl x) (xG x) _ _ _ _ h) e9 cfX7.1 cfX20.1 (lw_U q967 q2276 q2277 q849 q136 q850) (lw_U q967 q2276 q2278 q849 q136 q850) rfl hy_X6_is.2 (by omega) (Nat.le_of_ble_eq_true rfl) ⟨Nat.zero_le _, Nat.zero_le _⟩ rfl (Nat.le_of_ble_eq_true rfl) dX6_test_8) (fun r7 w8 h => ?_)
  obtain ⟨c10, h⟩ := h
  refine j_if_ne O (tgt := 16) dX6_test_11 (by decide) c10 h (fun h => ?_) (fun h => ?_)
  · refine j_newO O cfX17 q1147 q1148 q150 dX6_test_16 h (fun k11 w12 h => ?_)
    refine j_dup O dX6_test_19 rfl ?_
    refine j_iconst O dX6_test_20 ?_
    obtain ⟨mc14, ms15, hb16, h⟩ := h
    refine fin_V O hb16 (run_I (As := [vI (0)]) (st := [.ref (adG (xG x) (k11))]) O (mt_X17_init (xl x) (xG x) _ _ _ _ _ _ h) q1149 q1150 q150 q1151 rfl hy_X17_init.2 (by omega) (Nat.le_of_ble_eq_true rfl) hb16 rfl (Nat.le_of_ble_eq_true rfl) dX6_test_21) (fun w13 h => ?_)
    refine j_astore_n (L' := [(2, .ref (adG (xG x) (k11))), (1, vR (xG x) (o1)), (0, .ref (adG (xG x) (this)))]) O 2 dX6_test_24 rfl (by rw [hm]; decide) (by cases o1 <;> rfl) ?_
    refine j_aload_n O 0 2 dX6_test_25 rfl rfl ?_
    refine j_getRN O cfX17 1 (Nat.le_of_ble_eq_true rfl) ⟨_, rfl⟩ (lw_n q1157 rfl) dX6_test_26 h (fun o17 h => ?_)
    refine j_aloadq_n O 1 1 dX6_test_29 rfl rfl ?_
    obtain ⟨k18, e_k18, g_k18⟩ := h
    subst e_k18
    have h := g_k18
    obtain ⟨e23, h⟩ := h
    obtain ⟨mc21, ms22, hb24, h⟩ := h
    refine fin_I O hb24 (run_V (As := [vR (xG x) (o1)]) (st := []) O (mt_J2_add (xl x) (xG x) _ _ _ _ _ _ h) e23 cfJ2.1 q1163 q1164 q1165 q126 q1166 hy_J2_add (by omega) (Nat.le_of_ble_eq_true rfl) hb24 rfl (Nat.le_of_ble_eq_true rfl) dX6_test_30) (fun r19 w20 h => ?_)
    refine j_pop O dX6_test_33 rfl ?_
    exact (J.sub [2, 0] rfl <| wk_X6_test_34  S_X6_test D hB hS_X6_test O hr hm hne  _ _  FU  _ _ _ h)
  · refine j_aloadq_n O 0 1 dX6_test_14 rfl rfl ?_
    exact J.toX (j_aret (v := o1) O hr (.inl ⟨_, rfl⟩) dX6_test_15 h)
theorem mtR_X6_test : ∀ (n : Nat), ∀ (l : Launch) (G : GW) (this : Nat) (bc bs : Nat) (w : Wd) (Q : Option Nat → Wd → Prop) (XE : Nat → Wd → Prop), wpR_X6_test n this bc bs w Q XE → XR l G yX6_test cX6_test 3 (.object "DowryBoxes$Test") (39 + 4 * n) bc bs [.ref (adG G (this))] w Q XE := by
  intro n
  induction n with
  | zero => intro l G this bc bs w Q XE h; exact False.elim h
  | succ n ih =>
    intro l G this bc bs w Q XE h
    exact mt_X6_test (wpR_X6_test n) (39 + 4 * n) (Nat.le_add_right _ _) ih l G this bc bs w Q XE h
theorem hy_X7_clause : (yX7_clause.cls = "DowryBoxes$LawReader" ∧ yX7_clause.cls ≠ "java/lang/invoke/MethodHandle" ∧ yX7_clause.cls ≠ "java/lang/invoke/VarHandle" ∧ (parseMethodDescriptor yX7_clause.desc).map (fun d => d.parameters.length) = some 0) := by decide +kernel
theorem wk_X7_clause_111 {x : Cx} (O : OK x "DowryBoxes$LawReader" cX7_clause 80) (hr : (xM x).sig.returnType = none) (hm : xn x = 3) (hne : ∀ z ∈ (xc x).exceptionTable.toList, False) {Q : Wd → Prop} {XE : Nat → Wd → Prop} (this : Nat) (x2 : Nat) (bc bs : Nat) (w : Wd) (h : wp_X7_clause_111 Q XE this x2 bc bs w) : J x (TXV x Q XE) w bc bs 111 [(0, .ref (adG (xG x) (this))), (2, .ref (adG (xG x) (x2)))] [] := by
  unfold wp_X7_clause_111 at h
  refine j_aload_n O 0 0 dX7_clause_111 rfl rfl ?_
  refine j_getR O cfX7 7 (Nat.le_of_ble_eq_true rfl) ⟨_, rfl⟩ q789 dX7_clause_112 h (fun o1 h => ?_)
  refine j_aload_n O 1 2 dX7_clause_115 rfl rfl ?_
  obtain ⟨k2, e_k2, g_k2⟩ := h
  subst e_k2
  have h := g_k2
  obtain ⟨e7, h⟩ := h
  obtain ⟨mc5, ms6, hb8, h⟩ := h
  refine fin_I O hb8 (run_V (As := [vR (xG x) ((some x2))]) (st := []) O (mt_J2_add (xl x) (xG x) _ _ _ _ _ _ h) e7 cfJ2.1 q1176 q1164 q1165 q126 q1166 hy_J2_add (Nat.le_of_ble_eq_true rfl) (Nat.le_of_ble_eq_true rfl) hb8 rfl (Nat.le_of_ble_eq_true rfl) dX7_clause_116) (fun r3 w4 h => ?_)
  refine j_pop O dX7_clause_119 rfl ?_
  exact J.toX (j_vret O hr dX7_clause_120 h)
theorem wk_X7_clause_94 {x : Cx} (O : OK x "DowryBoxes$LawReader" cX7_clause 80) (hr : (xM x).sig.returnType = none) (hm : xn x = 3) (hne : ∀ z ∈ (xc x).exceptionTable.toList, False) {Q : Wd → Prop} {XE : Nat → Wd → Prop} (this : Nat) (x2 : Nat) (bc bs : Nat) (w : Wd) (h : wp_X7_clause_94 Q XE this x2 bc bs w) : J x (TXV x Q XE) w bc bs 94 [(0, .ref (adG (xG x) (this))), (2, .ref (adG (xG x) (x2)))] [] := by
  unfold wp_X7_clause_94 at h
  refine j_aload_n O 0 0 dX7_clause_94 rfl rfl ?_
  refine j_ldcS O 29 (by decide) rfl rfl dX7_clause_95 ?_
  obtain ⟨e3, h⟩ := h
  refine fin_I O ⟨Nat.zero_le _, Nat.zero_le _⟩ (run_U (As := [vR (xG x) ((some (900 + 29)))]) (st := []) (x0 := ⟨"DowryBoxes$LawReader", "takes", "(Ljava/lang/String;)Z"⟩) (owner := "DowryBoxes$Reader") O (mt_X6_takes (xl x) (xG x) _ _ _ _ h) e3 cfX7.1 (lw_U q1082 q1083 q1085 q983 q136 q987) rfl hy_X6_takes.2 (Nat.le_of_ble_eq_true rfl) (Nat.le_of_ble_eq_true rfl) ⟨Nat.zero_le _, Nat.zero_le _⟩ rfl (Nat.le_of_ble_eq_true rfl) dX7_clause_97) (fun r1 w2 h => ?_)
  obtain ⟨c4, h⟩ := h
  refine j_if_eq O (tgt := 111) dX7_clause_100 (by decide) c4 h (fun h => ?_) (fun h => ?_)
  · exact (J.sub [0, 1] rfl <| wk_X7_clause_111 O hr hm hne  _ _  _ _ _ h)
  · refine j_aload_n O 1 2 dX7_clause_103 rfl rfl ?_
    refine j_aload_n O 0 0 dX7_clause_104 rfl rfl ?_
    obtain ⟨e9, h⟩ := h
    obtain ⟨mc7, ms8, hb10, h⟩ := h
    refine finX_R O hb10 (runX_U (As := []) (st := [.ref (adG (xG x) (x2))]) (x0 := ⟨"DowryBoxes$LawReader", "test", "()LDowryBoxes$Test;"⟩) (owner := "DowryBoxes$Reader") O (mtR_X6_test 10 (xl x) (xG x) _ _ _ _ _ _ h) e9 cfX7.1 (lw_U q1086 q1087 q1089 q1090 q136 q1091) rfl hy_X6_test.2 (Nat.le_of_ble_eq_true rfl) (Nat.le_of_ble_eq_true rfl) hb10 rfl (Nat.le_of_ble_eq_true rfl) dX7_clause_105) (fun o5 w6 h => ?_) (fun k9 w9 ci9 h hk hci => jx_out O hne hk hci h)
    refine j_putRN O cfX9 2 (Nat.le_of_ble_eq_true rfl) (.inl ⟨_, rfl⟩) (lw_n q940 rfl) rfl dX7_clause_108 h (fun w11 h => ?_)
    exact (J.sub [0, 1] rfl <| wk_X7_clause_111 O hr hm hne  _ _  _ _ _ h)
theorem wk_X7_clause_65 {x : Cx} (O : OK x "DowryBoxes$LawReader" cX7_clause 80) (hr : (xM x).sig.returnType = none) (hm : xn x = 3) (hne : ∀ z ∈ (xc x).exceptionTable.toList, False) {Q : Wd → Prop} {XE : Nat → Wd → Prop} (this : Nat) (x1 : Int) (s0 : Int) (s1 : Nat) (bc bs : Nat) (w : Wd) (h : wp_X7_clause_65 Q XE this x1 s0 s1 bc bs w) : J x (TXV x Q XE) w bc bs 65 [(0, .ref (adG (xG x) (this))), (1, vI (x1))] [vI (s0), .ref (adG (xG x) (s1))] := by
  unfold wp_X7_clause_65 at h
  obtain ⟨e4, h⟩ := h
  obtain ⟨mc2, ms3, hb5, h⟩ := h
  refine finX_V O hb5 (runX_U (As := [vI (s0)]) (st := []) (x0 := ⟨"DowryBoxes$LawReader", "begins", "(Z)V"⟩) (owner := "DowryBoxes$Reader") O (mt_X6_begins (xl x) (xG x) _ _ _ _ _ _ _ h) e4 cfX7.1 (lw_U q900 q901 q903 q904 q136 q905) rfl hy_X6_begins.2 (Nat.le_of_ble_eq_true rfl) (Nat.le_of_ble_eq_true rfl) hb5 rfl (Nat.le_of_ble_eq_true rfl) dX7_clause_65) (fun w1 h => ?_) (fun k9 w9 ci9 h hk hci => jx_out O hne hk hci h)
  refine j_aload_n O 0 0 dX7_clause_68 rfl rfl ?_
  obtain ⟨e7, h⟩ := h
  refine fin_V O ⟨Nat.zero_le _, Nat.zero_le _⟩ (run_U (As := []) (st := []) (x0 := ⟨"DowryBoxes$LawReader", "next", "()V"⟩) (owner := "DowryBoxes$Reader") O (mt_X6_next (xl x) (xG x) _ _ _ h) e7 cfX7.1 (lw_U q925 q926 q928 q827 q136 q831) rfl hy_X6_next.2 (Nat.le_of_ble_eq_true rfl) (Nat.le_of_ble_eq_true rfl) ⟨Nat.zero_le _, Nat.zero_le _⟩ rfl (Nat.le_of_ble_eq_true rfl) dX7_clause_69) (fun w6 h => ?_)
  refine j_newO O cfX9 q929 q930 q142 dX7_clause_72 h (fun k8 w9 h => ?_)
  refine j_dup O dX7_clause_75 rfl ?_
  refine j_iload_n O 1 1 dX7_clause_76 rfl rfl ?_
  refine fin_V O ⟨Nat.zero_le _, Nat.zero_le _⟩ (run_I (As := [vI (x1)]) (st := [.ref (adG (xG x) (k8))]) O (mt_X9_init (xl x) (xG x) _ _ _ _ h) q931 q932 q142 q933 rfl hy_X9_init.2 (Nat.le_of_ble_eq_true rfl) (Nat.le_of_ble_eq_true rfl) ⟨Nat.zero_le _, Nat.zero_le _⟩ rfl (Nat.le_of_ble_eq_true rfl) dX7_clause_77) (fun w10 h => ?_)
  refine j_astore_n (L' := [(2, .ref (adG (xG x) (k8))), (0, .ref (adG (xG x) (this))), (1, vI (x1))]) O 2 dX7_clause_80 rfl (by rw [hm]; decide) rfl ?_
  refine j_iload_n O 2 1 dX7_clause_81 rfl rfl ?_
  refine j_iconst O dX7_clause_82 ?_
  obtain ⟨c11, h⟩ := h
  refine j_icmp_eq O (tgt := 94) dX7_clause_83 (by decide) c11 (by decide) h (fun h => ?_) (fun h => ?_)
  · exact (J.sub [1, 0] rfl <| wk_X7_clause_94 O hr hm hne  _ _  _ _ _ h)
  · refine j_aload_n O 0 2 dX7_clause_86 rfl rfl ?_
    refine j_aload_n O 1 0 dX7_clause_87 rfl rfl ?_
    obtain ⟨e16, h⟩ := h
    obtain ⟨mc14, ms15, hb17, h⟩ := h
    refine finX_R O hb17 (runX_U (As := []) (st := [.ref (adG (xG x) (k8))]) (x0 := ⟨"DowryBoxes$LawReader", "sum", "()LDowryBoxes$Sum;"⟩) (owner := "DowryBoxes$Reader") O (mtR_X6_sum 10 (xl x) (xG x) _ _ _ _ _ _ h) e16 cfX7.1 (lw_U q948 q949 q951 q952 q136 q953) rfl hy_X6_sum.2 (Nat.le_of_ble_eq_true rfl) (Nat.le_of_ble_eq_true rfl) hb17 rfl (Nat.le_of_ble_eq_true rfl) dX7_clause_88) (fun o12 w13 h => ?_) (fun k9 w9 ci9 h hk hci => jx_out O hne hk hci h)
    refine j_putRN O cfX9 1 (Nat.le_of_ble_eq_true rfl) (.inl ⟨_, rfl⟩) (lw_n q938 rfl) rfl dX7_clause_91 h (fun w18 h => ?_)
    exact (J.sub [1, 0] rfl <| wk_X7_clause_94 O hr hm hne  _ _  _ _ _ h)
theorem wk_X7_clause_53 {x : Cx} (O : OK x "DowryBoxes$LawReader" cX7_clause 80) (hr : (xM x).sig.returnType = none) (hm : xn x = 3) (hne : ∀ z ∈ (xc x).exceptionTable.toList, False) {Q : Wd → Prop} {XE : Nat → Wd → Prop} (this : Nat) (s0 : Int) (bc bs : Nat) (w : Wd) (h : wp_X7_clause_53 Q XE this s0 bc bs w) : J x (TXV x Q XE) w bc bs 53 [(0, .ref (adG (xG x) (this)))] [vI (s0)] := by
  unfold wp_X7_clause_53 at h
  refine j_istore_n (L' := [(1, vI (s0)), (0, .ref (adG (xG x) (this)))]) O 1 dX7_clause_53 rfl (by rw [hm]; decide) rfl ?_
  refine j_aload_n O 1 0 dX7_clause_54 rfl rfl ?_
  refine j_iload_n O 0 1 dX7_clause_55 rfl rfl ?_
  refine j_iconst O dX7_clause_56 ?_
  obtain ⟨c1, h⟩ := h
  refine j_icmp_eq O (tgt := 64) dX7_clause_57 (by decide) c1 (by decide) h (fun h => ?_) (fun h => ?_)
  · refine j_iconst O dX7_clause_64 ?_
    exact (J.sub [1, 0] rfl <| wk_X7_clause_65 O hr hm hne  _ _ _ _  _ _ _ h)
  · refine j_iconst O dX7_clause_60 ?_
    refine j_goto O (tgt := 65) dX7_clause_61 (by decide) ?_
    exact (J.sub [1, 0] rfl <| wk_X7_clause_65 O hr hm hne  _ _ _ _  _ _ _ h)
theorem mt_X7_clause (l : Launch) (G : GW) (this : Nat) (bc bs : Nat) (w : Wd) (Q : Wd → Prop) (XE : Nat → Wd → Prop) (h : wp_X7_clause this bc bs w Q XE) : XV l G yX7_clause cX7_clause 3 80 bc bs [.ref (adG G (this))] w Q XE := by
  refine metX_V (fun G => [.ref (adG G (this))]) (by decide) (fun G => Nat.le_of_ble_eq_true rfl) (fun x O hl hm hr hne => ?_)
  subst hl
  have O : OK x "DowryBoxes$LawReader" cX7_clause 80 := O
  have h : wp_X7_clause this bc bs w Q XE := h
  unfold wp_X7_clause at h
  show J x (TXV x Q XE) w bc bs 0 [(0, .ref (adG (xG x) (this)))] []
  refine j_aload_n O 0 0 dX7_clause_0 rfl rfl ?_
  refine j_ldcS O 16 (by decide) rfl rfl dX7_clause_1 ?_
  obtain ⟨e3, h⟩ := h
  refine fin_I O ⟨Nat.zero_le _, Nat.zero_le _⟩ (run_U (As := [vR (xG x) ((some (900 + 16)))]) (st := []) (x0 := ⟨"DowryBoxes$LawReader", "is", "(Ljava/lang/String;)Z"⟩) (owner := "DowryBoxes$Reader") O (mt_X6_is (xl x) (xG x) _ _ _ _ h) e3 cfX7.1 (lw_U q845 q846 q848 q849 q136 q850) rfl hy_X6_is.2 (Nat.le_of_ble_eq_true rfl) (Nat.le_of_ble_eq_true rfl) ⟨Nat.zero_le _, Nat.zero_le _⟩ rfl (Nat.le_of_ble_eq_true rfl) dX7_clause_3) (fun r1 w2 h => ?_)
  obtain ⟨c4, h⟩ := h
  refine j_if_eq O (tgt := 13) dX7_clause_6 (by decide) c4 h (fun h => ?_) (fun h => ?_)
  · refine j_aload_n O 0 0 dX7_clause_13 rfl rfl ?_
    refine j_ldcS O 17 (by decide) rfl rfl dX7_clause_14 ?_
    obtain ⟨e7, h⟩ := h
    refine fin_I O ⟨Nat.zero_le _, Nat.zero_le _⟩ (run_U (As := [vR (xG x) ((some (900 + 17)))]) (st := []) (x0 := ⟨"DowryBoxes$LawReader", "is", "(Ljava/lang/String;)Z"⟩) (owner := "DowryBoxes$Reader") O (mt_X6_is (xl x) (xG x) _ _ _ _ h) e7 cfX7.1 (lw_U q845 q846 q848 q849 q136 q850) rfl hy_X6_is.2 (Nat.le_of_ble_eq_true rfl) (Nat.le_of_ble_eq_true rfl) ⟨Nat.zero_le _, Nat.zero_le _⟩ rfl (Nat.le_of_ble_eq_true rfl) dX7_clause_16) (fun r5 w6 h => ?_)
    obtain ⟨c8, h⟩ := h
    refine j_if_eq O (tgt := 26) dX7_clause_19 (by decide) c8 h (fun h => ?_) (fun h => ?_)
    · refine j_aload_n O 0 0 dX7_clause_26 rfl rfl ?_
      refine j_ldcS O 18 (by decide) rfl rfl dX7_clause_27 ?_
      obtain ⟨e11, h⟩ := h
      refine fin_I O ⟨Nat.zero_le _, Nat.zero_le _⟩ (run_U (As := [vR (xG x) ((some (900 + 18)))]) (st := []) (x0 := ⟨"DowryBoxes$LawReader", "is", "(Ljava/lang/String;)Z"⟩) (owner := "DowryBoxes$Reader") O (mt_X6_is (xl x) (xG x) _ _ _ _ h) e11 cfX7.1 (lw_U q845 q846 q848 q849 q136 q850) rfl hy_X6_is.2 (Nat.le_of_ble_eq_true rfl) (Nat.le_of_ble_eq_true rfl) ⟨Nat.zero_le _, Nat.zero_le _⟩ rfl (Nat.le_of_ble_eq_true rfl) dX7_clause_29) (fun r9 w10 h => ?_)
      obtain ⟨c12, h⟩ := h
      refine j_if_eq O (tgt := 39) dX7_clause_32 (by decide) c12 h (fun h => ?_) (fun h => ?_)
      · refine j_aload_n O 0 0 dX7_clause_39 rfl rfl ?_
        refine j_ldcS O 19 (by decide) rfl rfl dX7_clause_40 ?_
        obtain ⟨e15, h⟩ := h
        refine fin_I O ⟨Nat.zero_le _, Nat.zero_le _⟩ (run_U (As := [vR (xG x) ((some (900 + 19)))]) (st := []) (x0 := ⟨"DowryBoxes$LawReader", "is", "(Ljava/lang/String;)Z"⟩) (owner := "DowryBoxes$Reader") O (mt_X6_is (xl x) (xG x) _ _ _ _ h) e15 cfX7.1 (lw_U q845 q846 q848 q849 q136 q850) rfl hy_X6_is.2 (Nat.le_of_ble_eq_true rfl) (Nat.le_of_ble_eq_true rfl) ⟨Nat.zero_le _, Nat.zero_le _⟩ rfl (Nat.le_of_ble_eq_true rfl) dX7_clause_42) (fun r13 w14 h => ?_)
        obtain ⟨c16, h⟩ := h
        refine j_if_eq O (tgt := 52) dX7_clause_45 (by decide) c16 h (fun h => ?_) (fun h => ?_)
        · refine j_iconst O dX7_clause_52 ?_
          exact (J.sub [0] rfl <| wk_X7_clause_53 O hr hm hne  _ _  _ _ _ h)
        · refine j_iconst O dX7_clause_48 ?_
          refine j_goto O (tgt := 53) dX7_clause_49 (by decide) ?_
          exact (J.sub [0] rfl <| wk_X7_clause_53 O hr hm hne  _ _  _ _ _ h)
      · refine j_iconst O dX7_clause_35 ?_
        refine j_goto O (tgt := 53) dX7_clause_36 (by decide) ?_
        exact (J.sub [0] rfl <| wk_X7_clause_53 O hr hm hne  _ _  _ _ _ h)
    · refine j_iconst O dX7_clause_22 ?_
      refine j_goto O (tgt := 53) dX7_clause_23 (by decide) ?_
      exact (J.sub [0] rfl <| wk_X7_clause_53 O hr hm hne  _ _  _ _ _ h)
  · refine j_iconst O dX7_clause_9 ?_
    refine j_goto O (tgt := 53) dX7_clause_10 (by decide) ?_
    exact (J.sub [0] rfl <| wk_X7_clause_53 O hr hm hne  _ _  _ _ _ h)
theorem hy_X18_init : (yX18_init.cls = "DowryBoxes$Order" ∧ yX18_init.cls ≠ "java/lang/invoke/MethodHandle" ∧ yX18_init.cls ≠ "java/lang/invoke/VarHandle" ∧ (parseMethodDescriptor yX18_init.desc).map (fun d => d.parameters.length) = some 1) := by decide +kernel
theorem mt_X18_init (l : Launch) (G : GW) (this : Nat) (p1 : Int) (w : Wd) (Q : Wd → Prop) (h : wp_X18_init this p1 w Q) : MV l G yX18_init cX18_init 2 1 0 0 [.ref (adG G (this)), vI (p1)] w Q := by
  refine met_V (fun G => [.ref (adG G (this)), vI (p1)]) (by decide) (fun G => Nat.le_of_ble_eq_true rfl) (fun x O hl hm hr hn => ?_)
  subst hl
  have O : OK x "DowryBoxes$Order" cX18_init 1 := O
  have h : wp_X18_init this p1 w Q := h
  unfold wp_X18_init at h
  show J x (TV x Q) w 0 0 0 [(0, .ref (adG (xG x) (this))), (1, vI (p1))] []
  refine j_aload_n O 0 0 dX18_init_0 rfl rfl ?_
  refine j_objInit O q1198 q163 q164 (Nat.le_of_ble_eq_true rfl) (Nat.le_of_ble_eq_true rfl) dX18_init_1 ?_
  refine j_aload_n O 0 0 dX18_init_4 rfl rfl ?_
  refine j_iconst O dX18_init_5 ?_
  refine j_putI O cfX18 4 (Nat.le_of_ble_eq_true rfl) rfl q1207 rfl dX18_init_6 h (fun w1 h => ?_)
  refine j_aload_n O 0 0 dX18_init_9 rfl rfl ?_
  refine j_iload_n O 1 1 dX18_init_10 rfl rfl ?_
  refine j_putFI O cfX18 0 (Nat.le_of_ble_eq_true rfl) rfl q1199 rfl hn rfl dX18_init_11 h (fun w2 h => ?_)
  exact j_vret O hr dX18_init_14 h
theorem hy_X6_behind : (yX6_behind.cls = "DowryBoxes$Reader" ∧ yX6_behind.cls ≠ "java/lang/invoke/MethodHandle" ∧ yX6_behind.cls ≠ "java/lang/invoke/VarHandle" ∧ (parseMethodDescriptor yX6_behind.desc).map (fun d => d.parameters.length) = some 1) := by decide +kernel
theorem mt_X6_behind (l : Launch) (G : GW) (this : Nat) (p1 : Option Nat) (bc bs : Nat) (w : Wd) (Q : Option Nat → Wd → Prop) (XE : Nat → Wd → Prop) (h : wp_X6_behind this p1 bc bs w Q XE) : XR l G yX6_behind cX6_behind 2 (.object "DowryBoxes$Sum") 39 bc bs [.ref (adG G (this)), vR G (p1)] w Q XE := by
  refine metX_R (fun G => [.ref (adG G (this)), vR G (p1)]) (by decide) (fun G => by cases p1 <;> exact Nat.le_of_ble_eq_true rfl) (fun x O hl hm hr hne => ?_)
  subst hl
  have O : OK x "DowryBoxes$Reader" cX6_behind 39 := O
  have h : wp_X6_behind this p1 bc bs w Q XE := h
  unfold wp_X6_behind at h
  rw [show lv_args 0 [.ref (adG (xG x) (this)), vR (xG x) (p1)] = [(0, .ref (adG (xG x) (this))), (1, vR (xG x) (p1))] from by cases p1 <;> rfl]
  show J x (TXR x Q XE) w bc bs 0 [(0, .ref (adG (xG x) (this))), (1, vR (xG x) (p1))] []
  refine j_aload_n O 0 0 dX6_behind_0 rfl rfl ?_
  refine j_aloadq_n O 1 1 dX6_behind_1 rfl rfl ?_
  obtain ⟨e4, h⟩ := h
  obtain ⟨mc2, ms3, hb5, h⟩ := h
  refine finX_V O hb5 (runX_U2 (As := [vR (xG x) (p1)]) (st := []) (x0 := ⟨"DowryBoxes$Reader", "need", "(Ljava/lang/String;)V"⟩) (owner := "DowryBoxes$Reader") O (mt_X6_need (xl x) (xG x) _ _ _ _ _ _ _ h) e4 cfX7.1 cfX20.1 (lw_U q976 q978 q979 q977 q136 q981) (lw_U q976 q978 q980 q977 q136 q981) rfl hy_X6_need.2 (Nat.le_of_ble_eq_true rfl) (Nat.le_of_ble_eq_true rfl) hb5 rfl (Nat.le_of_ble_eq_true rfl) dX6_behind_2) (fun w1 h => ?_) (fun k9 w9 ci9 h hk hci => jx_out O hne hk hci h)
  refine j_aload_n O 0 0 dX6_behind_5 rfl rfl ?_
  obtain ⟨e10, h⟩ := h
  obtain ⟨mc8, ms9, hb11, h⟩ := h
  refine finX_R O hb11 (runX_U2 (As := []) (st := []) (x0 := ⟨"DowryBoxes$Reader", "sum", "()LDowryBoxes$Sum;"⟩) (owner := "DowryBoxes$Reader") O (mtR_X6_sum 10 (xl x) (xG x) _ _ _ _ _ _ h) e10 cfX7.1 cfX20.1 (lw_U q974 q2279 q2280 q952 q136 q953) (lw_U q974 q2279 q2281 q952 q136 q953) rfl hy_X6_sum.2 (Nat.le_of_ble_eq_true rfl) (Nat.le_of_ble_eq_true rfl) hb11 rfl (Nat.le_of_ble_eq_true rfl) dX6_behind_6) (fun o6 w7 h => ?_) (fun k9 w9 ci9 h hk hci => jx_out O hne hk hci h)
  exact J.toX (j_aret (v := o6) O hr (.inl ⟨_, rfl⟩) dX6_behind_9 h)
theorem hy_X20_clause : (yX20_clause.cls = "DowryBoxes$OrderReader" ∧ yX20_clause.cls ≠ "java/lang/invoke/MethodHandle" ∧ yX20_clause.cls ≠ "java/lang/invoke/VarHandle" ∧ (parseMethodDescriptor yX20_clause.desc).map (fun d => d.parameters.length) = some 0) := by decide +kernel
theorem wk_X20_clause_174 {x : Cx} (O : OK x "DowryBoxes$OrderReader" cX20_clause 80) (hr : (xM x).sig.returnType = none) (hm : xn x = 3) (hne : ∀ z ∈ (xc x).exceptionTable.toList, False) {Q : Wd → Prop} {XE : Nat → Wd → Prop} (this : Nat) (x2 : Nat) (bc bs : Nat) (w : Wd) (h : wp_X20_clause_174 Q XE this x2 bc bs w) : J x (TXV x Q XE) w bc bs 174 [(0, .ref (adG (xG x) (this))), (2, .ref (adG (xG x) (x2)))] [] := by
  unfold wp_X20_clause_174 at h
  refine j_aload_n O 0 0 dX20_clause_174 rfl rfl ?_
  refine j_getR O cfX20 7 (Nat.le_of_ble_eq_true rfl) ⟨_, rfl⟩ q1475 dX20_clause_175 h (fun o1 h => ?_)
  refine j_aload_n O 1 2 dX20_clause_178 rfl rfl ?_
  obtain ⟨k2, e_k2, g_k2⟩ := h
  subst e_k2
  have h := g_k2
  obtain ⟨e7, h⟩ := h
  obtain ⟨mc5, ms6, hb8, h⟩ := h
  refine fin_I O hb8 (run_V (As := [vR (xG x) ((some x2))]) (st := []) O (mt_J2_add (xl x) (xG x) _ _ _ _ _ _ h) e7 cfJ2.1 q1245 q1164 q1165 q126 q1166 hy_J2_add (Nat.le_of_ble_eq_true rfl) (Nat.le_of_ble_eq_true rfl) hb8 rfl (Nat.le_of_ble_eq_true rfl) dX20_clause_179) (fun r3 w4 h => ?_)
  refine j_pop O dX20_clause_182 rfl ?_
  exact J.toX (j_vret O hr dX20_clause_183 h)
theorem wk_X20_clause_157 {x : Cx} (O : OK x "DowryBoxes$OrderReader" cX20_clause 80) (hr : (xM x).sig.returnType = none) (hm : xn x = 3) (hne : ∀ z ∈ (xc x).exceptionTable.toList, False) {Q : Wd → Prop} {XE : Nat → Wd → Prop} (this : Nat) (x2 : Nat) (bc bs : Nat) (w : Wd) (h : wp_X20_clause_157 Q XE this x2 bc bs w) : J x (TXV x Q XE) w bc bs 157 [(0, .ref (adG (xG x) (this))), (2, .ref (adG (xG x) (x2)))] [] := by
  unfold wp_X20_clause_157 at h
  refine j_aload_n O 0 0 dX20_clause_157 rfl rfl ?_
  refine j_ldcS O 44 (by decide) rfl rfl dX20_clause_158 ?_
  obtain ⟨e3, h⟩ := h
  refine fin_I O ⟨Nat.zero_le _, Nat.zero_le _⟩ (run_U (As := [vR (xG x) ((some (900 + 44)))]) (st := []) (x0 := ⟨"DowryBoxes$OrderReader", "takes", "(Ljava/lang/String;)Z"⟩) (owner := "DowryBoxes$Reader") O (mt_X6_takes (xl x) (xG x) _ _ _ _ h) e3 cfX20.1 (lw_U q1238 q1239 q1240 q983 q136 q987) rfl hy_X6_takes.2 (Nat.le_of_ble_eq_true rfl) (Nat.le_of_ble_eq_true rfl) ⟨Nat.zero_le _, Nat.zero_le _⟩ rfl (Nat.le_of_ble_eq_true rfl) dX20_clause_160) (fun r1 w2 h => ?_)
  obtain ⟨c4, h⟩ := h
  refine j_if_eq O (tgt := 174) dX20_clause_163 (by decide) c4 h (fun h => ?_) (fun h => ?_)
  · exact (J.sub [0, 1] rfl <| wk_X20_clause_174 O hr hm hne  _ _  _ _ _ h)
  · refine j_aload_n O 1 2 dX20_clause_166 rfl rfl ?_
    refine j_aload_n O 0 0 dX20_clause_167 rfl rfl ?_
    obtain ⟨e9, h⟩ := h
    obtain ⟨mc7, ms8, hb10, h⟩ := h
    refine finX_R O hb10 (runX_U (As := []) (st := [.ref (adG (xG x) (x2))]) (x0 := ⟨"DowryBoxes$OrderReader", "test", "()LDowryBoxes$Test;"⟩) (owner := "DowryBoxes$Reader") O (mtR_X6_test 10 (xl x) (xG x) _ _ _ _ _ _ h) e9 cfX20.1 (lw_U q1242 q1243 q1244 q1090 q136 q1091) rfl hy_X6_test.2 (Nat.le_of_ble_eq_true rfl) (Nat.le_of_ble_eq_true rfl) hb10 rfl (Nat.le_of_ble_eq_true rfl) dX20_clause_168) (fun o5 w6 h => ?_) (fun k9 w9 ci9 h hk hci => jx_out O hne hk hci h)
    refine j_putRN O cfX18 5 (Nat.le_of_ble_eq_true rfl) (.inl ⟨_, rfl⟩) (lw_n q1211 rfl) rfl dX20_clause_171 h (fun w11 h => ?_)
    exact (J.sub [0, 1] rfl <| wk_X20_clause_174 O hr hm hne  _ _  _ _ _ h)
theorem wk_X20_clause_137 {x : Cx} (O : OK x "DowryBoxes$OrderReader" cX20_clause 80) (hr : (xM x).sig.returnType = none) (hm : xn x = 3) (hne : ∀ z ∈ (xc x).exceptionTable.toList, False) {Q : Wd → Prop} {XE : Nat → Wd → Prop} (this : Nat) (x2 : Nat) (bc bs : Nat) (w : Wd) (h : wp_X20_clause_137 Q XE this x2 bc bs w) : J x (TXV x Q XE) w bc bs 137 [(0, .ref (adG (xG x) (this))), (2, .ref (adG (xG x) (x2)))] [] := by
  unfold wp_X20_clause_137 at h
  refine j_aload_n O 0 0 dX20_clause_137 rfl rfl ?_
  refine j_ldcS O 43 (by decide) rfl rfl dX20_clause_138 ?_
  obtain ⟨e3, h⟩ := h
  refine fin_I O ⟨Nat.zero_le _, Nat.zero_le _⟩ (run_U (As := [vR (xG x) ((some (900 + 43)))]) (st := []) (x0 := ⟨"DowryBoxes$OrderReader", "takes", "(Ljava/lang/String;)Z"⟩) (owner := "DowryBoxes$Reader") O (mt_X6_takes (xl x) (xG x) _ _ _ _ h) e3 cfX20.1 (lw_U q1238 q1239 q1240 q983 q136 q987) rfl hy_X6_takes.2 (Nat.le_of_ble_eq_true rfl) (Nat.le_of_ble_eq_true rfl) ⟨Nat.zero_le _, Nat.zero_le _⟩ rfl (Nat.le_of_ble_eq_true rfl) dX20_clause_140) (fun r1 w2 h => ?_)
  obtain ⟨c4, h⟩ := h
  refine j_if_eq O (tgt := 157) dX20_clause_143 (by decide) c4 h (fun h => ?_) (fun h => ?_)
  · exact (J.sub [0, 1] rfl <| wk_X20_clause_157 O hr hm hne  _ _  _ _ _ h)
  · refine j_aload_n O 1 2 dX20_clause_146 rfl rfl ?_
    refine j_aload_n O 0 0 dX20_clause_147 rfl rfl ?_
    refine j_iconst O dX20_clause_148 ?_
    refine j_bipush (m := 20) O dX20_clause_149 bi_20 ?_
    obtain ⟨e9, h⟩ := h
    obtain ⟨mc7, ms8, hb10, h⟩ := h
    refine finX_I O hb10 (runX_U (As := [vI (1), vI (20)]) (st := [.ref (adG (xG x) (x2))]) (x0 := ⟨"DowryBoxes$OrderReader", "number", "(II)I"⟩) (owner := "DowryBoxes$Reader") O (mt_X6_number (xl x) (xG x) _ _ _ _ _ _ _ _ h) e9 cfX20.1 (lw_U q1045 q1046 q1048 q997 q136 q1001) rfl hy_X6_number.2 (Nat.le_of_ble_eq_true rfl) (Nat.le_of_ble_eq_true rfl) hb10 rfl (Nat.le_of_ble_eq_true rfl) dX20_clause_151) (fun r5 w6 h => ?_) (fun k9 w9 ci9 h hk hci => jx_out O hne hk hci h)
    refine j_putIN O cfX18 4 (Nat.le_of_ble_eq_true rfl) rfl (lw_n q1208 rfl) rfl dX20_clause_154 h (fun w11 h => ?_)
    exact (J.sub [0, 1] rfl <| wk_X20_clause_157 O hr hm hne  _ _  _ _ _ h)
theorem wk_X20_clause_123 {x : Cx} (O : OK x "DowryBoxes$OrderReader" cX20_clause 80) (hr : (xM x).sig.returnType = none) (hm : xn x = 3) (hne : ∀ z ∈ (xc x).exceptionTable.toList, False) {Q : Wd → Prop} {XE : Nat → Wd → Prop} (this : Nat) (x1 : Int) (x2 : Nat) (bc bs : Nat) (w : Wd) (h : wp_X20_clause_123 Q XE this x1 x2 bc bs w) : J x (TXV x Q XE) w bc bs 123 [(0, .ref (adG (xG x) (this))), (1, vI (x1)), (2, .ref (adG (xG x) (x2)))] [] := by
  unfold wp_X20_clause_123 at h
  refine j_iload_n O 1 1 dX20_clause_123 rfl rfl ?_
  obtain ⟨c1, h⟩ := h
  refine j_if_ne O (tgt := 137) dX20_clause_124 (by decide) c1 h (fun h => ?_) (fun h => ?_)
  · exact (J.sub [0, 2] rfl <| wk_X20_clause_137 O hr hm hne  _ _  _ _ _ h)
  · refine j_aload_n O 2 2 dX20_clause_127 rfl rfl ?_
    refine j_aload_n O 0 0 dX20_clause_128 rfl rfl ?_
    refine j_ldcS O 41 (by decide) rfl rfl dX20_clause_129 ?_
    obtain ⟨e6, h⟩ := h
    obtain ⟨mc4, ms5, hb7, h⟩ := h
    refine finX_R O hb7 (runX_U (As := [vR (xG x) ((some (900 + 41)))]) (st := [.ref (adG (xG x) (x2))]) (x0 := ⟨"DowryBoxes$OrderReader", "behind", "(Ljava/lang/String;)LDowryBoxes$Sum;"⟩) (owner := "DowryBoxes$Reader") O (mt_X6_behind (xl x) (xG x) _ _ _ _ _ _ _ h) e6 cfX20.1 (lw_U q1231 q1232 q1234 q1235 q136 q1236) rfl hy_X6_behind.2 (Nat.le_of_ble_eq_true rfl) (Nat.le_of_ble_eq_true rfl) hb7 rfl (Nat.le_of_ble_eq_true rfl) dX20_clause_131) (fun o2 w3 h => ?_) (fun k9 w9 ci9 h hk hci => jx_out O hne hk hci h)
    refine j_putRN O cfX18 3 (Nat.le_of_ble_eq_true rfl) (.inl ⟨_, rfl⟩) (lw_n q1205 rfl) rfl dX20_clause_134 h (fun w8 h => ?_)
    exact (J.sub [0, 2] rfl <| wk_X20_clause_137 O hr hm hne  _ _  _ _ _ h)
theorem wk_X20_clause_117 {x : Cx} (O : OK x "DowryBoxes$OrderReader" cX20_clause 80) (hr : (xM x).sig.returnType = none) (hm : xn x = 3) (hne : ∀ z ∈ (xc x).exceptionTable.toList, False) {Q : Wd → Prop} {XE : Nat → Wd → Prop} (this : Nat) (x1 : Int) (x2 : Nat) (s0 : Nat) (s1 : Nat) (s2 : Nat) (bc bs : Nat) (w : Wd) (h : wp_X20_clause_117 Q XE this x1 x2 s0 s1 s2 bc bs w) : J x (TXV x Q XE) w bc bs 117 [(0, .ref (adG (xG x) (this))), (1, vI (x1)), (2, .ref (adG (xG x) (x2)))] [.ref (adG (xG x) (s0)), .ref (adG (xG x) (s1)), .ref (adG (xG x) (s2))] := by
  unfold wp_X20_clause_117 at h
  obtain ⟨e5, h⟩ := h
  obtain ⟨mc3, ms4, hb6, h⟩ := h
  refine finX_R O hb6 (runX_U (As := [vR (xG x) ((some s0))]) (st := [.ref (adG (xG x) (s2))]) (x0 := ⟨"DowryBoxes$OrderReader", "behind", "(Ljava/lang/String;)LDowryBoxes$Sum;"⟩) (owner := "DowryBoxes$Reader") O (mt_X6_behind (xl x) (xG x) _ _ _ _ _ _ _ h) e5 cfX20.1 (lw_U q1231 q1232 q1234 q1235 q136 q1236) rfl hy_X6_behind.2 (Nat.le_of_ble_eq_true rfl) (Nat.le_of_ble_eq_true rfl) hb6 rfl (Nat.le_of_ble_eq_true rfl) dX20_clause_117) (fun o1 w2 h => ?_) (fun k9 w9 ci9 h hk hci => jx_out O hne hk hci h)
  refine j_putRN O cfX18 2 (Nat.le_of_ble_eq_true rfl) (.inl ⟨_, rfl⟩) (lw_n q1203 rfl) rfl dX20_clause_120 h (fun w7 h => ?_)
  exact (J.sub [0, 1, 2] rfl <| wk_X20_clause_123 O hr hm hne  _ _ _  _ _ _ h)
theorem wk_X20_clause_65 {x : Cx} (O : OK x "DowryBoxes$OrderReader" cX20_clause 80) (hr : (xM x).sig.returnType = none) (hm : xn x = 3) (hne : ∀ z ∈ (xc x).exceptionTable.toList, False) {Q : Wd → Prop} {XE : Nat → Wd → Prop} (this : Nat) (x1 : Int) (s0 : Int) (s1 : Nat) (bc bs : Nat) (w : Wd) (h : wp_X20_clause_65 Q XE this x1 s0 s1 bc bs w) : J x (TXV x Q XE) w bc bs 65 [(0, .ref (adG (xG x) (this))), (1, vI (x1))] [vI (s0), .ref (adG (xG x) (s1))] := by
  unfold wp_X20_clause_65 at h
  obtain ⟨e4, h⟩ := h
  obtain ⟨mc2, ms3, hb5, h⟩ := h
  refine finX_V O hb5 (runX_U (As := [vI (s0)]) (st := []) (x0 := ⟨"DowryBoxes$OrderReader", "begins", "(Z)V"⟩) (owner := "DowryBoxes$Reader") O (mt_X6_begins (xl x) (xG x) _ _ _ _ _ _ _ h) e4 cfX20.1 (lw_U q1187 q1188 q1189 q904 q136 q905) rfl hy_X6_begins.2 (Nat.le_of_ble_eq_true rfl) (Nat.le_of_ble_eq_true rfl) hb5 rfl (Nat.le_of_ble_eq_true rfl) dX20_clause_65) (fun w1 h => ?_) (fun k9 w9 ci9 h hk hci => jx_out O hne hk hci h)
  refine j_aload_n O 0 0 dX20_clause_68 rfl rfl ?_
  obtain ⟨e7, h⟩ := h
  refine fin_V O ⟨Nat.zero_le _, Nat.zero_le _⟩ (run_U (As := []) (st := []) (x0 := ⟨"DowryBoxes$OrderReader", "next", "()V"⟩) (owner := "DowryBoxes$Reader") O (mt_X6_next (xl x) (xG x) _ _ _ h) e7 cfX20.1 (lw_U q1190 q1191 q1192 q827 q136 q831) rfl hy_X6_next.2 (Nat.le_of_ble_eq_true rfl) (Nat.le_of_ble_eq_true rfl) ⟨Nat.zero_le _, Nat.zero_le _⟩ rfl (Nat.le_of_ble_eq_true rfl) dX20_clause_69) (fun w6 h => ?_)
  refine j_newO O cfX18 q1193 q1194 q154 dX20_clause_72 h (fun k8 w9 h => ?_)
  refine j_dup O dX20_clause_75 rfl ?_
  refine j_iload_n O 1 1 dX20_clause_76 rfl rfl ?_
  refine fin_V O ⟨Nat.zero_le _, Nat.zero_le _⟩ (run_I (As := [vI (x1)]) (st := [.ref (adG (xG x) (k8))]) O (mt_X18_init (xl x) (xG x) _ _ _ _ h) q1195 q1196 q154 q1197 rfl hy_X18_init.2 (Nat.le_of_ble_eq_true rfl) (Nat.le_of_ble_eq_true rfl) ⟨Nat.zero_le _, Nat.zero_le _⟩ rfl (Nat.le_of_ble_eq_true rfl) dX20_clause_77) (fun w10 h => ?_)
  refine j_astore_n (L' := [(2, .ref (adG (xG x) (k8))), (0, .ref (adG (xG x) (this))), (1, vI (x1))]) O 2 dX20_clause_80 rfl (by rw [hm]; decide) rfl ?_
  refine j_iload_n O 2 1 dX20_clause_81 rfl rfl ?_
  refine j_iconst O dX20_clause_82 ?_
  obtain ⟨c11, h⟩ := h
  refine j_icmp_eq O (tgt := 123) dX20_clause_83 (by decide) c11 (by decide) h (fun h => ?_) (fun h => ?_)
  · exact (J.sub [1, 2, 0] rfl <| wk_X20_clause_123 O hr hm hne  _ _ _  _ _ _ h)
  · refine j_aload_n O 0 2 dX20_clause_86 rfl rfl ?_
    refine j_aload_n O 1 0 dX20_clause_87 rfl rfl ?_
    obtain ⟨e16, h⟩ := h
    obtain ⟨mc14, ms15, hb17, h⟩ := h
    refine finX_R O hb17 (runX_U (As := []) (st := [.ref (adG (xG x) (k8))]) (x0 := ⟨"DowryBoxes$OrderReader", "sum", "()LDowryBoxes$Sum;"⟩) (owner := "DowryBoxes$Reader") O (mtR_X6_sum 10 (xl x) (xG x) _ _ _ _ _ _ h) e16 cfX20.1 (lw_U q1225 q1226 q1227 q952 q136 q953) rfl hy_X6_sum.2 (Nat.le_of_ble_eq_true rfl) (Nat.le_of_ble_eq_true rfl) hb17 rfl (Nat.le_of_ble_eq_true rfl) dX20_clause_88) (fun o12 w13 h => ?_) (fun k9 w9 ci9 h hk hci => jx_out O hne hk hci h)
    refine j_putRN O cfX18 1 (Nat.le_of_ble_eq_true rfl) (.inl ⟨_, rfl⟩) (lw_n q1201 rfl) rfl dX20_clause_91 h (fun w18 h => ?_)
    refine j_aload_n O 0 2 dX20_clause_94 rfl rfl ?_
    refine j_aload_n O 1 0 dX20_clause_95 rfl rfl ?_
    refine j_iload_n O 2 1 dX20_clause_96 rfl rfl ?_
    obtain ⟨c19, h⟩ := h
    refine j_if_ne O (tgt := 105) dX20_clause_97 (by decide) c19 h (fun h => ?_) (fun h => ?_)
    · refine j_iload_n O 2 1 dX20_clause_105 rfl rfl ?_
      refine j_iconst O dX20_clause_106 ?_
      obtain ⟨c20, h⟩ := h
      refine j_icmp_ne O (tgt := 115) dX20_clause_107 (by decide) c20 (by decide) h (fun h => ?_) (fun h => ?_)
      · refine j_ldcS O 42 (by decide) rfl rfl dX20_clause_115 ?_
        exact (J.sub [1, 2, 0] rfl <| wk_X20_clause_117 O hr hm hne  _ _ _ _ _ _  _ _ _ h)
      · refine j_ldcS O 41 (by decide) rfl rfl dX20_clause_110 ?_
        refine j_goto O (tgt := 117) dX20_clause_112 (by decide) ?_
        exact (J.sub [1, 2, 0] rfl <| wk_X20_clause_117 O hr hm hne  _ _ _ _ _ _  _ _ _ h)
    · refine j_ldcS O 40 (by decide) rfl rfl dX20_clause_100 ?_
      refine j_goto O (tgt := 117) dX20_clause_102 (by decide) ?_
      exact (J.sub [1, 2, 0] rfl <| wk_X20_clause_117 O hr hm hne  _ _ _ _ _ _  _ _ _ h)
theorem wk_X20_clause_53 {x : Cx} (O : OK x "DowryBoxes$OrderReader" cX20_clause 80) (hr : (xM x).sig.returnType = none) (hm : xn x = 3) (hne : ∀ z ∈ (xc x).exceptionTable.toList, False) {Q : Wd → Prop} {XE : Nat → Wd → Prop} (this : Nat) (s0 : Int) (bc bs : Nat) (w : Wd) (h : wp_X20_clause_53 Q XE this s0 bc bs w) : J x (TXV x Q XE) w bc bs 53 [(0, .ref (adG (xG x) (this)))] [vI (s0)] := by
  unfold wp_X20_clause_53 at h
  refine j_istore_n (L' := [(1, vI (s0)), (0, .ref (adG (xG x) (this)))]) O 1 dX20_clause_53 rfl (by rw [hm]; decide) rfl ?_
  refine j_aload_n O 1 0 dX20_clause_54 rfl rfl ?_
  refine j_iload_n O 0 1 dX20_clause_55 rfl rfl ?_
  refine j_iconst O dX20_clause_56 ?_
  obtain ⟨c1, h⟩ := h
  refine j_icmp_eq O (tgt := 64) dX20_clause_57 (by decide) c1 (by decide) h (fun h => ?_) (fun h => ?_)
  · refine j_iconst O dX20_clause_64 ?_
    exact (J.sub [1, 0] rfl <| wk_X20_clause_65 O hr hm hne  _ _ _ _  _ _ _ h)
  · refine j_iconst O dX20_clause_60 ?_
    refine j_goto O (tgt := 65) dX20_clause_61 (by decide) ?_
    exact (J.sub [1, 0] rfl <| wk_X20_clause_65 O hr hm hne  _ _ _ _  _ _ _ h)
theorem mt_X20_clause (l : Launch) (G : GW) (this : Nat) (bc bs : Nat) (w : Wd) (Q : Wd → Prop) (XE : Nat → Wd → Prop) (h : wp_X20_clause this bc bs w Q XE) : XV l G yX20_clause cX20_clause 3 80 bc bs [.ref (adG G (this))] w Q XE := by
  refine metX_V (fun G => [.ref (adG G (this))]) (by decide) (fun G => Nat.le_of_ble_eq_true rfl) (fun x O hl hm hr hne => ?_)
  subst hl
  have O : OK x "DowryBoxes$OrderReader" cX20_clause 80 := O
  have h : wp_X20_clause this bc bs w Q XE := h
  unfold wp_X20_clause at h
  show J x (TXV x Q XE) w bc bs 0 [(0, .ref (adG (xG x) (this)))] []
  refine j_aload_n O 0 0 dX20_clause_0 rfl rfl ?_
  refine j_ldcS O 36 (by decide) rfl rfl dX20_clause_1 ?_
  obtain ⟨e3, h⟩ := h
  refine fin_I O ⟨Nat.zero_le _, Nat.zero_le _⟩ (run_U (As := [vR (xG x) ((some (900 + 36)))]) (st := []) (x0 := ⟨"DowryBoxes$OrderReader", "is", "(Ljava/lang/String;)Z"⟩) (owner := "DowryBoxes$Reader") O (mt_X6_is (xl x) (xG x) _ _ _ _ h) e3 cfX20.1 (lw_U q1181 q1182 q1183 q849 q136 q850) rfl hy_X6_is.2 (Nat.le_of_ble_eq_true rfl) (Nat.le_of_ble_eq_true rfl) ⟨Nat.zero_le _, Nat.zero_le _⟩ rfl (Nat.le_of_ble_eq_true rfl) dX20_clause_3) (fun r1 w2 h => ?_)
  obtain ⟨c4, h⟩ := h
  refine j_if_eq O (tgt := 13) dX20_clause_6 (by decide) c4 h (fun h => ?_) (fun h => ?_)
  · refine j_aload_n O 0 0 dX20_clause_13 rfl rfl ?_
    refine j_ldcS O 37 (by decide) rfl rfl dX20_clause_14 ?_
    obtain ⟨e7, h⟩ := h
    refine fin_I O ⟨Nat.zero_le _, Nat.zero_le _⟩ (run_U (As := [vR (xG x) ((some (900 + 37)))]) (st := []) (x0 := ⟨"DowryBoxes$OrderReader", "is", "(Ljava/lang/String;)Z"⟩) (owner := "DowryBoxes$Reader") O (mt_X6_is (xl x) (xG x) _ _ _ _ h) e7 cfX20.1 (lw_U q1181 q1182 q1183 q849 q136 q850) rfl hy_X6_is.2 (Nat.le_of_ble_eq_true rfl) (Nat.le_of_ble_eq_true rfl) ⟨Nat.zero_le _, Nat.zero_le _⟩ rfl (Nat.le_of_ble_eq_true rfl) dX20_clause_16) (fun r5 w6 h => ?_)
    obtain ⟨c8, h⟩ := h
    refine j_if_eq O (tgt := 26) dX20_clause_19 (by decide) c8 h (fun h => ?_) (fun h => ?_)
    · refine j_aload_n O 0 0 dX20_clause_26 rfl rfl ?_
      refine j_ldcS O 38 (by decide) rfl rfl dX20_clause_27 ?_
      obtain ⟨e11, h⟩ := h
      refine fin_I O ⟨Nat.zero_le _, Nat.zero_le _⟩ (run_U (As := [vR (xG x) ((some (900 + 38)))]) (st := []) (x0 := ⟨"DowryBoxes$OrderReader", "is", "(Ljava/lang/String;)Z"⟩) (owner := "DowryBoxes$Reader") O (mt_X6_is (xl x) (xG x) _ _ _ _ h) e11 cfX20.1 (lw_U q1181 q1182 q1183 q849 q136 q850) rfl hy_X6_is.2 (Nat.le_of_ble_eq_true rfl) (Nat.le_of_ble_eq_true rfl) ⟨Nat.zero_le _, Nat.zero_le _⟩ rfl (Nat.le_of_ble_eq_true rfl) dX20_clause_29) (fun r9 w10 h => ?_)
      obtain ⟨c12, h⟩ := h
      refine j_if_eq O (tgt := 39) dX20_clause_32 (by decide) c12 h (fun h => ?_) (fun h => ?_)
      · refine j_aload_n O 0 0 dX20_clause_39 rfl rfl ?_
        refine j_ldcS O 39 (by decide) rfl rfl dX20_clause_40 ?_
        obtain ⟨e15, h⟩ := h
        refine fin_I O ⟨Nat.zero_le _, Nat.zero_le _⟩ (run_U (As := [vR (xG x) ((some (900 + 39)))]) (st := []) (x0 := ⟨"DowryBoxes$OrderReader", "is", "(Ljava/lang/String;)Z"⟩) (owner := "DowryBoxes$Reader") O (mt_X6_is (xl x) (xG x) _ _ _ _ h) e15 cfX20.1 (lw_U q1181 q1182 q1183 q849 q136 q850) rfl hy_X6_is.2 (Nat.le_of_ble_eq_true rfl) (Nat.le_of_ble_eq_true rfl) ⟨Nat.zero_le _, Nat.zero_le _⟩ rfl (Nat.le_of_ble_eq_true rfl) dX20_clause_42) (fun r13 w14 h => ?_)
        obtain ⟨c16, h⟩ := h
        refine j_if_eq O (tgt := 52) dX20_clause_45 (by decide) c16 h (fun h => ?_) (fun h => ?_)
        · refine j_iconst O dX20_clause_52 ?_
          exact (J.sub [0] rfl <| wk_X20_clause_53 O hr hm hne  _ _  _ _ _ h)
        · refine j_iconst O dX20_clause_48 ?_
          refine j_goto O (tgt := 53) dX20_clause_49 (by decide) ?_
          exact (J.sub [0] rfl <| wk_X20_clause_53 O hr hm hne  _ _  _ _ _ h)
      · refine j_iconst O dX20_clause_35 ?_
        refine j_goto O (tgt := 53) dX20_clause_36 (by decide) ?_
        exact (J.sub [0] rfl <| wk_X20_clause_53 O hr hm hne  _ _  _ _ _ h)
    · refine j_iconst O dX20_clause_22 ?_
      refine j_goto O (tgt := 53) dX20_clause_23 (by decide) ?_
      exact (J.sub [0] rfl <| wk_X20_clause_53 O hr hm hne  _ _  _ _ _ h)
  · refine j_iconst O dX20_clause_9 ?_
    refine j_goto O (tgt := 53) dX20_clause_10 (by decide) ?_
    exact (J.sub [0] rfl <| wk_X20_clause_53 O hr hm hne  _ _  _ _ _ h)
theorem hyd_Clause : ("DowryBoxes$Reader" ≠ "java/lang/invoke/MethodHandle" ∧ "DowryBoxes$Reader" ≠ "java/lang/invoke/VarHandle" ∧ (parseMethodDescriptor "()V").map (fun d => d.parameters.length) = some 0) := by decide +kernel
theorem hy_X6_read : (yX6_read.cls = "DowryBoxes$Reader" ∧ yX6_read.cls ≠ "java/lang/invoke/MethodHandle" ∧ yX6_read.cls ≠ "java/lang/invoke/VarHandle" ∧ (parseMethodDescriptor yX6_read.desc).map (fun d => d.parameters.length) = some 0) := by decide +kernel
theorem rn_X6_read_18 {x : Cx} (O : OK x "DowryBoxes$Reader" cX6_read 81) {o : Nat} {w : Wd} {Qc : Wd → Prop} {XE : Nat → Wd → Prop} {bc bs mc ms : Nat} {L : List (Nat × Value)} {st : List Value} (hb : mc ≤ bc ∧ ms ≤ bs) (hroom : (st.map fun v => v.category).sum ≤ 8) (h : wp_dClause o mc ms w Qc XE) : RunXX x w bc bs 18 L ([].reverse ++ .ref (adG (xG x) o) :: st) st mc ms (.ref (adG (xG x) o) :: []) (QV (xG x) w Qc) XE := by
  rcases h with ⟨hk, h⟩ | ⟨hk, h⟩
  · exact runX_A (As := []) (st := st) (x0 := ⟨"DowryBoxes$Reader", "clause", "()V"⟩) (owner := "DowryBoxes$Reader") O (mt_X7_clause (xl x) (xG x) _ _ _ _ _ _ h) hk cfX7.1 (lw_U q838 q840 q841 q842 q137 q843) (lw_n q839 rfl) hyd_Clause (Nat.le_of_ble_eq_true rfl) (Nat.le_of_ble_eq_true rfl) hb rfl hroom dX6_read_18
  · exact runX_A (As := []) (st := st) (x0 := ⟨"DowryBoxes$Reader", "clause", "()V"⟩) (owner := "DowryBoxes$Reader") O (mt_X20_clause (xl x) (xG x) _ _ _ _ _ _ h) hk cfX20.1 (lw_U q838 q840 q1177 q1178 q156 q1179) (lw_n q839 rfl) hyd_Clause (Nat.le_of_ble_eq_true rfl) (Nat.le_of_ble_eq_true rfl) hb rfl hroom dX6_read_18
theorem rn_X6_read_5 {x : Cx} (O : OK x "DowryBoxes$Reader" cX6_read 81) {o : Nat} {w : Wd} {Qc : Wd → Prop} {XE : Nat → Wd → Prop} {bc bs mc ms : Nat} {L : List (Nat × Value)} {st : List Value} (hb : mc ≤ bc ∧ ms ≤ bs) (hroom : (st.map fun v => v.category).sum ≤ 8) (h : wp_dClause o mc ms w Qc XE) : RunXX x w bc bs 5 L ([].reverse ++ .ref (adG (xG x) o) :: st) st mc ms (.ref (adG (xG x) o) :: []) (QV (xG x) w Qc) XE := by
  rcases h with ⟨hk, h⟩ | ⟨hk, h⟩
  · exact runX_A (As := []) (st := st) (x0 := ⟨"DowryBoxes$Reader", "clause", "()V"⟩) (owner := "DowryBoxes$Reader") O (mt_X7_clause (xl x) (xG x) _ _ _ _ _ _ h) hk cfX7.1 (lw_U q838 q840 q841 q842 q137 q843) (lw_n q839 rfl) hyd_Clause (Nat.le_of_ble_eq_true rfl) (Nat.le_of_ble_eq_true rfl) hb rfl hroom dX6_read_5
  · exact runX_A (As := []) (st := st) (x0 := ⟨"DowryBoxes$Reader", "clause", "()V"⟩) (owner := "DowryBoxes$Reader") O (mt_X20_clause (xl x) (xG x) _ _ _ _ _ _ h) hk cfX20.1 (lw_U q838 q840 q1177 q1178 q156 q1179) (lw_n q839 rfl) hyd_Clause (Nat.le_of_ble_eq_true rfl) (Nat.le_of_ble_eq_true rfl) hb rfl hroom dX6_read_5
theorem wk_X6_read_8 {x : Cx} (O : OK x "DowryBoxes$Reader" cX6_read 81) (hr : (xM x).sig.returnType = none) (hm : xn x = 1) (hne : ∀ z ∈ (xc x).exceptionTable.toList, False) {Q : Wd → Prop} {XE : Nat → Wd → Prop} (X8 : Nat → Nat → Wd → Prop) (this : Nat) (hX8 : ∀  (bc bs : Nat) (w : Wd), X8  bc bs w → J x (TXV x Q XE) w bc bs 24 [(0, .ref (adG (xG x) (this)))] []) : ∀ (n : Nat) (bc bs : Nat) (w : Wd), wp_X6_read_8 Q XE X8 this n bc bs w → J x (TXV x Q XE) w bc bs 8 [(0, .ref (adG (xG x) (this)))] [] := by
  intro n
  induction n with
  | zero => intro bc bs w h; exact False.elim h
  | succ n ih =>
    intro bc bs w h
    rw [wp_X6_read_8] at h
    refine j_aload_n O 0 0 dX6_read_8 rfl rfl ?_
    refine j_ldcS O 15 (by decide) rfl rfl dX6_read_9 ?_
    obtain ⟨e3, h⟩ := h
    refine fin_I O ⟨Nat.zero_le _, Nat.zero_le _⟩ (run_U2 (As := [vR (xG x) ((some (900 + 15)))]) (st := []) (x0 := ⟨"DowryBoxes$Reader", "takes", "(Ljava/lang/String;)Z"⟩) (owner := "DowryBoxes$Reader") O (mt_X6_takes (xl x) (xG x) _ _ _ _ h) e3 cfX7.1 cfX20.1 (lw_U q982 q984 q985 q983 q136 q987) (lw_U q982 q984 q986 q983 q136 q987) rfl hy_X6_takes.2 (Nat.le_of_ble_eq_true rfl) (Nat.le_of_ble_eq_true rfl) ⟨Nat.zero_le _, Nat.zero_le _⟩ rfl (Nat.le_of_ble_eq_true rfl) dX6_read_11) (fun r1 w2 h => ?_)
    obtain ⟨c4, h⟩ := h
    refine j_if_eq O (tgt := 24) dX6_read_14 (by decide) c4 h (fun h => ?_) (fun h => ?_)
    · exact (J.sub [0] rfl <| hX8  _ _ _ h)
    · refine j_aload_n O 0 0 dX6_read_17 rfl rfl ?_
      obtain ⟨mc6, ms7, hb8, h⟩ := h
      refine finX_V O hb8 (rn_X6_read_18 (st := []) O hb8 (Nat.le_of_ble_eq_true rfl) h) (fun w5 h => ?_) (fun k9 w9 ci9 h hk hci => jx_out O hne hk hci h)
      refine j_goto O (tgt := 8) dX6_read_21 (by decide) ?_
      exact (J.sub [0] rfl <| ih  _ _ _ h)
theorem mt_X6_read (l : Launch) (G : GW) (this : Nat) (bc bs : Nat) (w : Wd) (Q : Wd → Prop) (XE : Nat → Wd → Prop) (h : wp_X6_read this bc bs w Q XE) : XV l G yX6_read cX6_read 1 81 bc bs [.ref (adG G (this))] w Q XE := by
  refine metX_V (fun G => [.ref (adG G (this))]) (by decide) (fun G => Nat.le_of_ble_eq_true rfl) (fun x O hl hm hr hne => ?_)
  subst hl
  have O : OK x "DowryBoxes$Reader" cX6_read 81 := O
  have h : wp_X6_read this bc bs w Q XE := h
  unfold wp_X6_read at h
  show J x (TXV x Q XE) w bc bs 0 [(0, .ref (adG (xG x) (this)))] []
  refine j_aload_n O 0 0 dX6_read_0 rfl rfl ?_
  obtain ⟨e2, h⟩ := h
  refine fin_V O ⟨Nat.zero_le _, Nat.zero_le _⟩ (run_U2 (As := []) (st := []) (x0 := ⟨"DowryBoxes$Reader", "next", "()V"⟩) (owner := "DowryBoxes$Reader") O (mt_X6_next (xl x) (xG x) _ _ _ h) e2 cfX7.1 cfX20.1 (lw_U q826 q828 q829 q827 q136 q831) (lw_U q826 q828 q830 q827 q136 q831) rfl hy_X6_next.2 (Nat.le_of_ble_eq_true rfl) (Nat.le_of_ble_eq_true rfl) ⟨Nat.zero_le _, Nat.zero_le _⟩ rfl (Nat.le_of_ble_eq_true rfl) dX6_read_1) (fun w1 h => ?_)
  refine j_aload_n O 0 0 dX6_read_4 rfl rfl ?_
  obtain ⟨mc4, ms5, hb6, h⟩ := h
  refine finX_V O hb6 (rn_X6_read_5 (st := []) O hb6 (Nat.le_of_ble_eq_true rfl) h) (fun w3 h => ?_) (fun k9 w9 ci9 h hk hci => jx_out O hne hk hci h)
  refine (J.sub [0] rfl <| wk_X6_read_8 O hr hm hne _ _ (fun bc8 bs9 w7 h => ?_) FU  _ _ _ h)
  refine j_aload_n O 0 0 dX6_read_24 rfl rfl ?_
  refine j_getI2 O cfX7 cfX20 3 ⟨Nat.le_of_ble_eq_true rfl, Nat.le_of_ble_eq_true rfl⟩ ⟨rfl, rfl⟩ q794 q794 dX6_read_25 h (fun v10 h => ?_)
  refine j_aload_n O 0 0 dX6_read_28 rfl rfl ?_
  refine j_getI2 O cfX7 cfX20 1 ⟨Nat.le_of_ble_eq_true rfl, Nat.le_of_ble_eq_true rfl⟩ ⟨rfl, rfl⟩ q792 q792 dX6_read_29 h (fun v11 h => ?_)
  obtain ⟨c12, h⟩ := h
  obtain ⟨c13, h⟩ := h
  refine j_icmp_ge O (tgt := 47) dX6_read_32 (by decide) c12 c13 h (fun h => ?_) (fun h => ?_)
  · exact J.toX (j_vret O hr dX6_read_47 h)
  · refine j_newO O cfX8 q906 q907 q141 dX6_read_35 h (fun k14 w15 h => ?_)
    refine j_dup O dX6_read_38 rfl ?_
    refine j_aload_n O 0 0 dX6_read_39 rfl rfl ?_
    refine j_getI2 O cfX7 cfX20 3 ⟨Nat.le_of_ble_eq_true rfl, Nat.le_of_ble_eq_true rfl⟩ ⟨rfl, rfl⟩ q794 q794 dX6_read_40 h (fun v16 h => ?_)
    refine fin_V O ⟨Nat.zero_le _, Nat.zero_le _⟩ (run_I (As := [vI (v16)]) (st := [.ref (adG (xG x) (k14))]) O (mt_X8_init (xl x) (xG x) _ _ _ _ h) q915 q916 q141 q917 rfl hy_X8_init.2 (Nat.le_of_ble_eq_true rfl) (Nat.le_of_ble_eq_true rfl) ⟨Nat.zero_le _, Nat.zero_le _⟩ rfl (Nat.le_of_ble_eq_true rfl) dX6_read_43) (fun w17 h => ?_)
    exact jx_throw O hne dX6_read_46 h
theorem hy_X0_reads : (yX0_reads.cls = "DowryBoxes" ∧ yX0_reads.cls ≠ "java/lang/invoke/MethodHandle" ∧ yX0_reads.cls ≠ "java/lang/invoke/VarHandle" ∧ (parseMethodDescriptor yX0_reads.desc).map (fun d => d.parameters.length) = some 1) := by decide +kernel
theorem mt_X0_reads (l : Launch) (G : GW) (this : Nat) (p1 : Option Nat) (bc bs : Nat) (w : Wd) (Q : Int → Wd → Prop) (h : wp_X0_reads this p1 bc bs w Q) : MXW l G yX0_reads cX0_reads 3 (some .boolean) [(0, 4, 7, 251)] 82 bc bs [.ref (adG G (this)), vR G (p1)] w (QI G w Q) := by
  refine metW_I (fun G => [.ref (adG G (this)), vR G (p1)]) (by decide) (fun G => by cases p1 <;> exact Nat.le_of_ble_eq_true rfl) (fun x O hl hm hr htab => ?_)
  subst hl
  have O : OK x "DowryBoxes" cX0_reads 82 := O
  have h : wp_X0_reads this p1 bc bs w Q := h
  unfold wp_X0_reads at h
  rw [show lv_args 0 [.ref (adG (xG x) (this)), vR (xG x) (p1)] = [(0, .ref (adG (xG x) (this))), (1, vR (xG x) (p1))] from by cases p1 <;> rfl]
  show J x (TI x Q) w bc bs 0 [(0, .ref (adG (xG x) (this))), (1, vR (xG x) (p1))] []
  refine j_aloadq_n O 1 1 dX0_reads_0 rfl rfl ?_
  obtain ⟨k1, e_k1, g_k1⟩ := h
  subst e_k1
  have h := g_k1
  obtain ⟨e5, h⟩ := h
  obtain ⟨mc3, ms4, hb6, h⟩ := h
  refine finX_V O hb6 (runX_U2 (As := []) (st := []) (x0 := ⟨"DowryBoxes$Reader", "read", "()V"⟩) (owner := "DowryBoxes$Reader") O (mt_X6_read (xl x) (xG x) _ _ _ _ _ _ h) e5 cfX7.1 cfX20.1 (lw_U q820 q822 q823 q821 q136 q825) (lw_U q820 q822 q824 q821 q136 q825) rfl hy_X6_read.2 (Nat.le_of_ble_eq_true rfl) (Nat.le_of_ble_eq_true rfl) hb6 rfl (Nat.le_of_ble_eq_true rfl) dX0_reads_1) ?_ (fun k7 w8 ci9 h hk hci => ?_)
  rotate_left 1
  · obtain ⟨e9, h⟩ := h
    refine jx_catchP (ci := 6) (hpc := 7) O htab [] ⟨0, 4, 7, 251⟩ [] rfl (by decide) rfl rfl (by decide) (by decide) q819 (lw_n q908 rfl) e9 ?_
    refine j_astore_n (L' := [(2, .ref (adG (xG x) (k7))), (0, .ref (adG (xG x) (this))), (1, vR (xG x) (some k1))]) O 2 dX0_reads_7 rfl (by rw [hm]; decide) rfl ?_
    refine j_aload_n O 1 0 dX0_reads_8 rfl rfl ?_
    refine j_aload_n O 0 2 dX0_reads_9 rfl rfl ?_
    refine j_getIN O cfX8 6 (Nat.le_of_ble_eq_true rfl) (.inl rfl) (lw_n q920 rfl) dX0_reads_10 h (fun v10 h => ?_)
    refine j_putI O cfX0 12 (Nat.le_of_ble_eq_true rfl) rfl q370 rfl dX0_reads_13 h (fun w11 h => ?_)
    refine j_iconst O dX0_reads_16 ?_
    exact j_zret O hr dX0_reads_17 h
  intro w2 h
  refine j_goto O (tgt := 18) dX0_reads_4 (by decide) ?_
  refine j_aload_n O 0 0 dX0_reads_18 rfl rfl ?_
  refine j_iconst O dX0_reads_19 ?_
  refine j_putI O cfX0 12 (Nat.le_of_ble_eq_true rfl) rfl q370 rfl dX0_reads_20 h (fun w12 h => ?_)
  refine j_iconst O dX0_reads_23 ?_
  exact j_zret O hr dX0_reads_24 h
theorem hy_X18_isNow : (yX18_isNow.cls = "DowryBoxes$Order" ∧ yX18_isNow.cls ≠ "java/lang/invoke/MethodHandle" ∧ yX18_isNow.cls ≠ "java/lang/invoke/VarHandle" ∧ (parseMethodDescriptor yX18_isNow.desc).map (fun d => d.parameters.length) = some 1) := by decide +kernel
theorem rn_X18_isNow_12 {x : Cx} (O : OK x "DowryBoxes$Order" cX18_isNow 105) {o : Nat} {a0 : Option Nat} {w : Wd} {Qc : Int → Wd → Prop} {XE : Nat → Wd → Prop} {bc bs : Nat} {L : List (Nat × Value)} {st : List Value} (hb : 0 ≤ bc ∧ 0 ≤ bs) (hroom : (st.map fun v => v.category).sum ≤ 8) (h : wp_dTest (wpR_TEST 40 false) (wpR_TEST 40 true) o a0 w Qc XE) : RunXX x w bc bs 12 L ([vR (xG x) (a0)].reverse ++ .ref (adG (xG x) o) :: st) st 0 0 (.ref (adG (xG x) o) :: [vR (xG x) (a0)]) (QI (xG x) w Qc) XE := by
  rcases h with ⟨hk, h⟩ | ⟨hk, h⟩ | ⟨hk, h⟩
  · exact runX_A (As := [vR (xG x) (a0)]) (st := st) (x0 := ⟨"DowryBoxes$Test", "is", "(LDowryBoxes$Setting;)Z"⟩) (owner := "DowryBoxes$Test") O (mt_X15_is (xl x) (xG x) _ _ _ _ _ h) hk cfX15.1 (lw_U q1501 q660 q661 q662 q148 q663) (lw_n q659 rfl) hyd_Test (Nat.le_of_ble_eq_true rfl) (Nat.le_of_ble_eq_true rfl) hb rfl hroom dX18_isNow_12
  · exact runX_A (As := [vR (xG x) (a0)]) (st := st) (x0 := ⟨"DowryBoxes$Test", "is", "(LDowryBoxes$Setting;)Z"⟩) (owner := "DowryBoxes$Test") O (mtR_X16_is 40 (xl x) (xG x) _ _ _ _ _ h) hk cfX16.1 (lw_U q1501 q660 q679 q680 q149 q681) (lw_n q659 rfl) hyd_Test (Nat.le_of_ble_eq_true rfl) (Nat.le_of_ble_eq_true rfl) hb rfl hroom dX18_isNow_12
  · exact runX_A (As := [vR (xG x) (a0)]) (st := st) (x0 := ⟨"DowryBoxes$Test", "is", "(LDowryBoxes$Setting;)Z"⟩) (owner := "DowryBoxes$Test") O (mtR_X17_is 40 (xl x) (xG x) _ _ _ _ _ h) hk cfX17.1 (lw_U q1501 q660 q689 q683 q150 q684) (lw_n q659 rfl) hyd_Test (Nat.le_of_ble_eq_true rfl) (Nat.le_of_ble_eq_true rfl) hb rfl hroom dX18_isNow_12
theorem wk_X18_isNow_18 {x : Cx} (O : OK x "DowryBoxes$Order" cX18_isNow 105) (hr : (xM x).sig.returnType = some .boolean) (hm : xn x = 3) (htab : (xc x).exceptionTable.toList = tableOf [(0, 23, 24, 28)]) {Q : Int → Wd → Prop} (w : Wd) (h : wp_X18_isNow_18 Q w) : J x (TI x Q) w 0 0 18 [] [] := by
  unfold wp_X18_isNow_18 at h
  refine j_iconst O dX18_isNow_18 ?_
  refine j_goto O (tgt := 23) dX18_isNow_19 (by decide) ?_
  exact j_zret O hr dX18_isNow_23 h
theorem mt_X18_isNow (l : Launch) (G : GW) (this : Nat) (p1 : Option Nat) (w : Wd) (Q : Int → Wd → Prop) (h : wp_X18_isNow this p1 w Q) : MXW l G yX18_isNow cX18_isNow 3 (some .boolean) [(0, 23, 24, 28)] 105 0 0 [.ref (adG G (this)), vR G (p1)] w (QI G w Q) := by
  refine metW_I (fun G => [.ref (adG G (this)), vR G (p1)]) (by decide) (fun G => by cases p1 <;> exact Nat.le_of_ble_eq_true rfl) (fun x O hl hm hr htab => ?_)
  subst hl
  have O : OK x "DowryBoxes$Order" cX18_isNow 105 := O
  have h : wp_X18_isNow this p1 w Q := h
  unfold wp_X18_isNow at h
  rw [show lv_args 0 [.ref (adG (xG x) (this)), vR (xG x) (p1)] = [(0, .ref (adG (xG x) (this))), (1, vR (xG x) (p1))] from by cases p1 <;> rfl]
  show J x (TI x Q) w 0 0 0 [(0, .ref (adG (xG x) (this))), (1, vR (xG x) (p1))] []
  refine j_aload_n O 0 0 dX18_isNow_0 rfl rfl ?_
  refine j_getR O cfX18 5 (Nat.le_of_ble_eq_true rfl) ⟨_, rfl⟩ q1210 dX18_isNow_1 h (fun o1 h => ?_)
  refine j_ifnull O (tgt := 18) dX18_isNow_4 (by decide)  h (fun h => ?_) (fun h => ?_)
  · exact (J.sub [] rfl <| wk_X18_isNow_18 O hr hm htab    _ h)
  · refine j_aload_n O 0 0 dX18_isNow_7 rfl rfl ?_
    refine j_getR O cfX18 5 (Nat.le_of_ble_eq_true rfl) ⟨_, rfl⟩ q1210 dX18_isNow_8 h (fun o2 h => ?_)
    refine j_aloadq_n O 1 1 dX18_isNow_11 rfl rfl ?_
    obtain ⟨k3, e_k3, g_k3⟩ := h
    subst e_k3
    have h := g_k3
    refine finX_I O ⟨Nat.zero_le _, Nat.zero_le _⟩ (rn_X18_isNow_12 (st := []) O ⟨Nat.zero_le _, Nat.zero_le _⟩ (Nat.le_of_ble_eq_true rfl) h) ?_ (fun k6 w7 ci9 h hk hci => ?_)
    rotate_left 1
    · obtain ⟨e8, h⟩ := h
      refine jx_catchP (ci := 5) (hpc := 24) O htab [] ⟨0, 23, 24, 28⟩ [] rfl (by decide) rfl rfl (by decide) (by decide) q1500 (lw_n q288 rfl) e8 ?_
      refine j_astore_n (L' := [(2, .ref (adG (xG x) (k6))), (0, .ref (adG (xG x) (this))), (1, vR (xG x) (p1))]) O 2 dX18_isNow_24 rfl (by rw [hm]; decide) (by cases p1 <;> rfl) ?_
      refine j_iconst O dX18_isNow_25 ?_
      exact j_zret O hr dX18_isNow_26 h
    intro r4 w5 h
    obtain ⟨c9, h⟩ := h
    refine j_if_eq O (tgt := 22) dX18_isNow_15 (by decide) c9 h (fun h => ?_) (fun h => ?_)
    · refine j_iconst O dX18_isNow_22 ?_
      exact j_zret O hr dX18_isNow_23 h
    · exact (J.sub [] rfl <| wk_X18_isNow_18 O hr hm htab    _ h)
theorem hy_X0_orders : (yX0_orders.cls = "DowryBoxes" ∧ yX0_orders.cls ≠ "java/lang/invoke/MethodHandle" ∧ yX0_orders.cls ≠ "java/lang/invoke/VarHandle" ∧ (parseMethodDescriptor yX0_orders.desc).map (fun d => d.parameters.length) = some 0) := by decide +kernel
theorem wk_X0_orders_56 {x : Cx} (O : OK x "DowryBoxes" cX0_orders 112) (hr : (xM x).sig.returnType = some .int) (hm : xn x = 10) {Q : Int → Wd → Prop} (X56 : Nat → Nat → Wd → Prop) (this : Nat) (x2 : Nat) (hX56 : ∀  (bc bs : Nat) (w : Wd), X56  bc bs w → J x (TI x Q) w bc bs 85 [(0, .ref (adG (xG x) (this))), (2, .ref (adG (xG x) (x2)))] []) : ∀ (n : Nat) (x3 : Int) (bc bs : Nat) (w : Wd), wp_X0_orders_56 Q X56 this x2 n x3 bc bs w → J x (TI x Q) w bc bs 56 [(0, .ref (adG (xG x) (this))), (2, .ref (adG (xG x) (x2))), (3, vI (x3))] [] := by
  intro n
  induction n with
  | zero => intro x3 bc bs w h; exact False.elim h
  | succ n ih =>
    intro x3 bc bs w h
    rw [wp_X0_orders_56] at h
    refine j_iload_n O 2 3 dX0_orders_56 rfl rfl ?_
    refine j_aload_n O 0 0 dX0_orders_57 rfl rfl ?_
    refine j_getI O cfX0 15 (Nat.le_of_ble_eq_true rfl) (.inl rfl) q373 dX0_orders_58 h (fun v1 h => ?_)
    obtain ⟨c2, h⟩ := h
    obtain ⟨c3, h⟩ := h
    refine j_icmp_ge O (tgt := 85) dX0_orders_61 (by decide) c2 c3 h (fun h => ?_) (fun h => ?_)
    · exact (J.sub [0, 1] rfl <| hX56  _ _ _ h)
    · refine j_aload_n O 0 0 dX0_orders_64 rfl rfl ?_
      refine j_getA O cfX0 5 (Nat.le_of_ble_eq_true rfl) ⟨_, rfl⟩ q363 dX0_orders_65 h (fun k4 h => ?_)
      refine j_iload_n O 2 3 dX0_orders_68 rfl rfl ?_
      refine j_aald O (by decide) dX0_orders_69 h (fun o5 h => ?_)
      refine j_aload_n O 0 0 dX0_orders_70 rfl rfl ?_
      refine j_getA O cfX0 4 (Nat.le_of_ble_eq_true rfl) ⟨_, rfl⟩ q362 dX0_orders_71 h (fun k6 h => ?_)
      refine j_iload_n O 2 3 dX0_orders_74 rfl rfl ?_
      refine j_aald O (by decide) dX0_orders_75 h (fun o7 h => ?_)
      obtain ⟨k8, e_k8, g_k8⟩ := h
      subst e_k8
      have h := g_k8
      obtain ⟨e10, h⟩ := h
      refine fin_V O ⟨Nat.zero_le _, Nat.zero_le _⟩ (run_V (As := [vR (xG x) (o7)]) (st := []) O (mt_X2_takes (xl x) (xG x) _ _ _ _ h) e10 cfX2.1 q1285 q477 q478 q123 q479 hy_X2_takes (Nat.le_of_ble_eq_true rfl) (Nat.le_of_ble_eq_true rfl) ⟨Nat.zero_le _, Nat.zero_le _⟩ rfl (Nat.le_of_ble_eq_true rfl) dX0_orders_76) (fun w9 h => ?_)
      refine j_iinc (L' := [(3, vI (x3 + 1)), (0, .ref (adG (xG x) (this))), (2, .ref (adG (xG x) (x2)))]) O 2 dX0_orders_79 rfl (by rw [hm]; decide) rfl ?_
      refine j_goto O (tgt := 56) dX0_orders_82 (by decide) ?_
      exact (J.sub [1, 2, 0] rfl <| ih _ _ _ _ h)
theorem wk_X0_orders_228 {x : Cx} (O : OK x "DowryBoxes" cX0_orders 112) (hr : (xM x).sig.returnType = some .int) (hm : xn x = 10) {Q : Int → Wd → Prop} (K114 : Int → Int → Int → Nat → Nat → Wd → Prop) (X114 : Int → Nat → Nat → Wd → Prop) (K143 : Int → Int → Int → Nat → Nat → Wd → Prop) (X143 : Int → Int → Nat → Nat → Wd → Prop) (this : Nat) (x2 : Nat) (x3 : Int) (x4 : Int) (x5 : Int) (x6 : Int) (x7 : Option Nat) (x8 : Int) (hK114 : ∀ (y4 : Int) (y5 : Int) (y6 : Int) (bc bs : Nat) (w : Wd), K114 y4 y5 y6 bc bs w → J x (TI x Q) w bc bs 114 [(0, .ref (adG (xG x) (this))), (2, .ref (adG (xG x) (x2))), (3, vI (x3)), (4, vI (y4)), (5, vI (y5)), (6, vI (y6))] []) (hX114 : ∀ (y4 : Int) (bc bs : Nat) (w : Wd), X114 y4 bc bs w → J x (TI x Q) w bc bs 240 [(0, .ref (adG (xG x) (this))), (4, vI (y4))] []) (hK143 : ∀ (y4 : Int) (y5 : Int) (y8 : Int) (bc bs : Nat) (w : Wd), K143 y4 y5 y8 bc bs w → J x (TI x Q) w bc bs 143 [(0, .ref (adG (xG x) (this))), (2, .ref (adG (xG x) (x2))), (3, vI (x3)), (4, vI (y4)), (5, vI (y5)), (6, vI (x6)), (7, vR (xG x) (x7)), (8, vI (y8))] []) (hX143 : ∀ (y4 : Int) (y5 : Int) (bc bs : Nat) (w : Wd), X143 y4 y5 bc bs w → J x (TI x Q) w bc bs 234 [(0, .ref (adG (xG x) (this))), (2, .ref (adG (xG x) (x2))), (3, vI (x3)), (4, vI (y4)), (5, vI (y5)), (6, vI (x6))] []) (bc bs : Nat) (w : Wd) (h : wp_X0_orders_228 Q K114 X114 K143 X143 this x2 x3 x4 x5 x6 x7 x8 bc bs w) : J x (TI x Q) w bc bs 228 [(0, .ref (adG (xG x) (this))), (2, .ref (adG (xG x) (x2))), (3, vI (x3)), (4, vI (x4)), (5, vI (x5)), (6, vI (x6)), (7, vR (xG x) (x7)), (8, vI (x8))] [] := by
  unfold wp_X0_orders_228 at h
  refine j_iinc (L' := [(8, vI (x8 + 1)), (0, .ref (adG (xG x) (this))), (2, .ref (adG (xG x) (x2))), (3, vI (x3)), (4, vI (x4)), (5, vI (x5)), (6, vI (x6)), (7, vR (xG x) (x7))]) O 7 dX0_orders_228 rfl (by rw [hm]; decide) (by cases x7 <;> rfl) ?_
  refine j_goto O (tgt := 143) dX0_orders_231 (by decide) ?_
  exact (J.sub [1, 2, 3, 4, 5, 6, 7, 0] rfl <| hK143 _ _ _ _ _ _ h)
theorem wk_X0_orders_223 {x : Cx} (O : OK x "DowryBoxes" cX0_orders 112) (hr : (xM x).sig.returnType = some .int) (hm : xn x = 10) {Q : Int → Wd → Prop} (K114 : Int → Int → Int → Nat → Nat → Wd → Prop) (X114 : Int → Nat → Nat → Wd → Prop) (K143 : Int → Int → Int → Nat → Nat → Wd → Prop) (X143 : Int → Int → Nat → Nat → Wd → Prop) (this : Nat) (x2 : Nat) (x3 : Int) (x4 : Int) (x6 : Int) (x7 : Option Nat) (x8 : Int) (s0 : Int) (hK114 : ∀ (y4 : Int) (y5 : Int) (y6 : Int) (bc bs : Nat) (w : Wd), K114 y4 y5 y6 bc bs w → J x (TI x Q) w bc bs 114 [(0, .ref (adG (xG x) (this))), (2, .ref (adG (xG x) (x2))), (3, vI (x3)), (4, vI (y4)), (5, vI (y5)), (6, vI (y6))] []) (hX114 : ∀ (y4 : Int) (bc bs : Nat) (w : Wd), X114 y4 bc bs w → J x (TI x Q) w bc bs 240 [(0, .ref (adG (xG x) (this))), (4, vI (y4))] []) (hK143 : ∀ (y4 : Int) (y5 : Int) (y8 : Int) (bc bs : Nat) (w : Wd), K143 y4 y5 y8 bc bs w → J x (TI x Q) w bc bs 143 [(0, .ref (adG (xG x) (this))), (2, .ref (adG (xG x) (x2))), (3, vI (x3)), (4, vI (y4)), (5, vI (y5)), (6, vI (x6)), (7, vR (xG x) (x7)), (8, vI (y8))] []) (hX143 : ∀ (y4 : Int) (y5 : Int) (bc bs : Nat) (w : Wd), X143 y4 y5 bc bs w → J x (TI x Q) w bc bs 234 [(0, .ref (adG (xG x) (this))), (2, .ref (adG (xG x) (x2))), (3, vI (x3)), (4, vI (y4)), (5, vI (y5)), (6, vI (x6))] []) (bc bs : Nat) (w : Wd) (h : wp_X0_orders_223 Q K114 X114 K143 X143 this x2 x3 x4 x6 x7 x8 s0 bc bs w) : J x (TI x Q) w bc bs 223 [(0, .ref (adG (xG x) (this))), (2, .ref (adG (xG x) (x2))), (3, vI (x3)), (4, vI (x4)), (6, vI (x6)), (7, vR (xG x) (x7)), (8, vI (x8))] [vI (s0)] := by
  unfold wp_X0_orders_223 at h
  refine j_istore (L' := [(5, vI (s0)), (0, .ref (adG (xG x) (this))), (2, .ref (adG (xG x) (x2))), (3, vI (x3)), (4, vI (x4)), (6, vI (x6)), (7, vR (xG x) (x7)), (8, vI (x8))]) O dX0_orders_223 (by rw [hm]; decide) rfl ?_
  refine j_iinc (L' := [(4, vI (x4 + 1)), (5, vI (s0)), (0, .ref (adG (xG x) (this))), (2, .ref (adG (xG x) (x2))), (3, vI (x3)), (6, vI (x6)), (7, vR (xG x) (x7)), (8, vI (x8))]) O 4 dX0_orders_225 rfl (by rw [hm]; decide) rfl ?_
  exact (J.sub [2, 3, 4, 0, 1, 5, 6, 7] rfl <| wk_X0_orders_228 O hr hm _ _ _ _ _ _ _ _ _ _ _ _ hK114 hX114 hK143 hX143 _ _ _ h)
theorem wk_X0_orders_143 {x : Cx} (O : OK x "DowryBoxes" cX0_orders 112) (hr : (xM x).sig.returnType = some .int) (hm : xn x = 10) {Q : Int → Wd → Prop} (K114 : Int → Int → Int → Nat → Nat → Wd → Prop) (X114 : Int → Nat → Nat → Wd → Prop) (X143 : Int → Int → Nat → Nat → Wd → Prop) (this : Nat) (x2 : Nat) (x3 : Int) (x6 : Int) (x7 : Option Nat) (hK114 : ∀ (y4 : Int) (y5 : Int) (y6 : Int) (bc bs : Nat) (w : Wd), K114 y4 y5 y6 bc bs w → J x (TI x Q) w bc bs 114 [(0, .ref (adG (xG x) (this))), (2, .ref (adG (xG x) (x2))), (3, vI (x3)), (4, vI (y4)), (5, vI (y5)), (6, vI (y6))] []) (hX114 : ∀ (y4 : Int) (bc bs : Nat) (w : Wd), X114 y4 bc bs w → J x (TI x Q) w bc bs 240 [(0, .ref (adG (xG x) (this))), (4, vI (y4))] []) (hX143 : ∀ (y4 : Int) (y5 : Int) (bc bs : Nat) (w : Wd), X143 y4 y5 bc bs w → J x (TI x Q) w bc bs 234 [(0, .ref (adG (xG x) (this))), (2, .ref (adG (xG x) (x2))), (3, vI (x3)), (4, vI (y4)), (5, vI (y5)), (6, vI (x6))] []) : ∀ (n : Nat) (x4 : Int) (x5 : Int) (x8 : Int) (bc bs : Nat) (w : Wd), wp_X0_orders_143 Q K114 X114 X143 this x2 x3 x6 x7 n x4 x5 x8 bc bs w → J x (TI x Q) w bc bs 143 [(0, .ref (adG (xG x) (this))), (2, .ref (adG (xG x) (x2))), (3, vI (x3)), (4, vI (x4)), (5, vI (x5)), (6, vI (x6)), (7, vR (xG x) (x7)), (8, vI (x8))] [] := by
  intro n
  induction n with
  | zero => intro x4 x5 x8 bc bs w h; exact False.elim h
  | succ n ih =>
    intro x4 x5 x8 bc bs w h
    rw [wp_X0_orders_143] at h
    refine j_iload O 7 dX0_orders_143 rfl ?_
    refine j_aloadq O 6 dX0_orders_145 rfl ?_
    obtain ⟨k1, e_k1, g_k1⟩ := h
    subst e_k1
    have h := g_k1
    refine j_getIN O cfX18 4 (Nat.le_of_ble_eq_true rfl) (.inl rfl) (lw_n q1209 rfl) dX0_orders_147 h (fun v2 h => ?_)
    obtain ⟨c3, h⟩ := h
    obtain ⟨c4, h⟩ := h
    refine j_icmp_ge O (tgt := 234) dX0_orders_150 (by decide) c3 c4 h (fun h => ?_) (fun h => ?_)
    · exact (J.sub [0, 1, 2, 3, 4, 5] rfl <| hX143 _ _ _ _ _ h)
    · refine j_aload_n O 0 0 dX0_orders_153 rfl rfl ?_
      refine j_iload O 3 dX0_orders_154 rfl ?_
      refine j_iload O 4 dX0_orders_156 rfl ?_
      obtain ⟨e6, h⟩ := h
      refine fin_V O ⟨Nat.zero_le _, Nat.zero_le _⟩ (run_V (As := [vI (x4), vI (x5)]) (st := []) O (mt_X0_tellsOrder (xl x) (xG x) _ _ _ _ _ h) e6 cfX0.1 q1488 q1490 qs43 q121 q1491 hy_X0_tellsOrder (Nat.le_of_ble_eq_true rfl) (Nat.le_of_ble_eq_true rfl) ⟨Nat.zero_le _, Nat.zero_le _⟩ rfl (Nat.le_of_ble_eq_true rfl) dX0_orders_158) (fun w5 h => ?_)
      refine j_aloadq O 6 dX0_orders_161 rfl ?_
      refine j_aload_n O 0 0 dX0_orders_163 rfl rfl ?_
      refine j_getR O cfX0 16 (Nat.le_of_ble_eq_true rfl) ⟨_, rfl⟩ q374 dX0_orders_164 h (fun o7 h => ?_)
      obtain ⟨e10, h⟩ := h
      refine fin_I O ⟨Nat.zero_le _, Nat.zero_le _⟩ (run_VW (As := [vR (xG x) (o7)]) (st := []) O (mt_X18_isNow (xl x) (xG x) _ _ _ _ h) e10 cfX18.1 q1496 q1497 q1498 q154 q1499 hy_X18_isNow (Nat.le_of_ble_eq_true rfl) (Nat.le_of_ble_eq_true rfl) ⟨Nat.zero_le _, Nat.zero_le _⟩ rfl (Nat.le_of_ble_eq_true rfl) dX0_orders_167) (fun r8 w9 h => ?_)
      obtain ⟨c11, h⟩ := h
      refine j_if_ne O (tgt := 176) dX0_orders_170 (by decide) c11 h (fun h => ?_) (fun h => ?_)
      · refine j_aload_n O 0 0 dX0_orders_176 rfl rfl ?_
        refine j_aloadq O 6 dX0_orders_177 rfl ?_
        obtain ⟨e14, h⟩ := h
        refine fin_I O ⟨Nat.zero_le _, Nat.zero_le _⟩ (run_V (As := [vR (xG x) ((some k1))]) (st := []) O (mt_X0_runs (xl x) (xG x) _ _ _ _ h) e14 cfX0.1 q1502 q1504 qs45 q121 q1505 hy_X0_runs (Nat.le_of_ble_eq_true rfl) (Nat.le_of_ble_eq_true rfl) ⟨Nat.zero_le _, Nat.zero_le _⟩ rfl (Nat.le_of_ble_eq_true rfl) dX0_orders_179) (fun r12 w13 h => ?_)
        refine j_istore (L' := [(9, vI (r12)), (0, .ref (adG (xG x) (this))), (2, .ref (adG (xG x) (x2))), (3, vI (x3)), (4, vI (x4)), (5, vI (x5)), (6, vI (x6)), (7, vR (xG x) (some k1)), (8, vI (x8))]) O dX0_orders_182 (by rw [hm]; decide) rfl ?_
        refine j_iload O 0 dX0_orders_184 rfl ?_
        obtain ⟨c15, h⟩ := h
        refine j_if_ge O (tgt := 207) dX0_orders_186 (by decide) c15 h (fun h => ?_) (fun h => ?_)
        · refine j_aloadq O 7 dX0_orders_207 rfl ?_
          refine j_getIN O cfX18 0 (Nat.le_of_ble_eq_true rfl) (.inl rfl) (lw_n q1200 rfl) dX0_orders_209 h (fun v16 h => ?_)
          refine j_iconst O dX0_orders_212 ?_
          obtain ⟨c17, h⟩ := h
          refine j_icmp_ne O (tgt := 221) dX0_orders_213 (by decide) c17 (by decide) h (fun h => ?_) (fun h => ?_)
          · refine j_iload O 5 dX0_orders_221 rfl ?_
            exact (J.sub [1, 2, 3, 4, 6, 7, 8] rfl <| wk_X0_orders_223 O hr hm _ _ _ _ _ _ _ _ _ _ _ _ hK114 hX114 ih hX143 _ _ _ h)
          · refine j_iload O 0 dX0_orders_216 rfl ?_
            refine j_goto O (tgt := 223) dX0_orders_218 (by decide) ?_
            exact (J.sub [1, 2, 3, 4, 6, 7, 8] rfl <| wk_X0_orders_223 O hr hm _ _ _ _ _ _ _ _ _ _ _ _ hK114 hX114 ih hX143 _ _ _ h)
        · refine j_aload_n O 1 0 dX0_orders_189 rfl rfl ?_
          refine j_iload_n O 3 3 dX0_orders_190 rfl rfl ?_
          obtain ⟨e19, h⟩ := h
          refine fin_V O ⟨Nat.zero_le _, Nat.zero_le _⟩ (run_V (As := [vI (x3)]) (st := []) O (mt_X0_putsBack (xl x) (xG x) _ _ _ _ h) e19 cfX0.1 q1511 q1513 qs46 q121 q1514 hy_X0_putsBack (Nat.le_of_ble_eq_true rfl) (Nat.le_of_ble_eq_true rfl) ⟨Nat.zero_le _, Nat.zero_le _⟩ rfl (Nat.le_of_ble_eq_true rfl) dX0_orders_191) (fun w18 h => ?_)
          refine j_aload_n O 1 0 dX0_orders_194 rfl rfl ?_
          refine j_iload O 6 dX0_orders_195 rfl ?_
          refine j_putI O cfX0 14 (Nat.le_of_ble_eq_true rfl) rfl q372 rfl dX0_orders_197 h (fun w20 h => ?_)
          refine j_aload_n O 1 0 dX0_orders_200 rfl rfl ?_
          refine j_bipush (m := (-3)) O dX0_orders_201 bi_m3 ?_
          obtain ⟨e23, h⟩ := h
          refine fin_I O ⟨Nat.zero_le _, Nat.zero_le _⟩ (run_V (As := [vI (((-3)))]) (st := []) O (mt_X0_refuse (xl x) (xG x) _ _ _ _ h) e23 cfX0.1 q468 q470 qs1 q121 q471 hy_X0_refuse (Nat.le_of_ble_eq_true rfl) (Nat.le_of_ble_eq_true rfl) ⟨Nat.zero_le _, Nat.zero_le _⟩ rfl (Nat.le_of_ble_eq_true rfl) dX0_orders_203) (fun r21 w22 h => ?_)
          exact j_iret O hr dX0_orders_206 h
      · refine j_goto O (tgt := 228) dX0_orders_173 (by decide) ?_
        exact (J.sub [0, 1, 2, 3, 4, 5, 6, 7] rfl <| wk_X0_orders_228 O hr hm _ _ _ _ _ _ _ _ _ _ _ _ hK114 hX114 ih hX143 _ _ _ h)
theorem wk_X0_orders_114 {x : Cx} (O : OK x "DowryBoxes" cX0_orders 112) (hr : (xM x).sig.returnType = some .int) (hm : xn x = 10) {Q : Int → Wd → Prop} (X114 : Int → Nat → Nat → Wd → Prop) (this : Nat) (x2 : Nat) (x3 : Int) (hX114 : ∀ (y4 : Int) (bc bs : Nat) (w : Wd), X114 y4 bc bs w → J x (TI x Q) w bc bs 240 [(0, .ref (adG (xG x) (this))), (4, vI (y4))] []) : ∀ (n : Nat) (x4 : Int) (x5 : Int) (x6 : Int) (bc bs : Nat) (w : Wd), wp_X0_orders_114 Q X114 this x2 x3 n x4 x5 x6 bc bs w → J x (TI x Q) w bc bs 114 [(0, .ref (adG (xG x) (this))), (2, .ref (adG (xG x) (x2))), (3, vI (x3)), (4, vI (x4)), (5, vI (x5)), (6, vI (x6))] [] := by
  intro n
  induction n with
  | zero => intro x4 x5 x6 bc bs w h; exact False.elim h
  | succ n ih =>
    intro x4 x5 x6 bc bs w h
    rw [wp_X0_orders_114] at h
    refine j_iload O 5 dX0_orders_114 rfl ?_
    refine j_aload_n O 1 2 dX0_orders_116 rfl rfl ?_
    refine j_getRN O cfX20 7 (Nat.le_of_ble_eq_true rfl) ⟨_, rfl⟩ (lw_n q1476 rfl) dX0_orders_117 h (fun o1 h => ?_)
    obtain ⟨k2, e_k2, g_k2⟩ := h
    subst e_k2
    have h := g_k2
    obtain ⟨e5, h⟩ := h
    refine fin_I O ⟨Nat.zero_le _, Nat.zero_le _⟩ (run_V (As := []) (st := [vI (x6)]) O (mt_J2_size (xl x) (xG x) _ _ _ h) e5 cfJ2.1 q777 q648 q649 q126 q650 hy_J2_size (Nat.le_of_ble_eq_true rfl) (Nat.le_of_ble_eq_true rfl) ⟨Nat.zero_le _, Nat.zero_le _⟩ rfl (Nat.le_of_ble_eq_true rfl) dX0_orders_120) (fun r3 w4 h => ?_)
    obtain ⟨c6, h⟩ := h
    obtain ⟨c7, h⟩ := h
    refine j_icmp_ge O (tgt := 240) dX0_orders_123 (by decide) c6 c7 h (fun h => ?_) (fun h => ?_)
    · exact (J.sub [0, 3] rfl <| hX114 _ _ _ _ h)
    · refine j_aload_n O 1 2 dX0_orders_126 rfl rfl ?_
      refine j_getRN O cfX20 7 (Nat.le_of_ble_eq_true rfl) ⟨_, rfl⟩ (lw_n q1476 rfl) dX0_orders_127 h (fun o8 h => ?_)
      refine j_iload O 5 dX0_orders_130 rfl ?_
      obtain ⟨k9, e_k9, g_k9⟩ := h
      subst e_k9
      have h := g_k9
      obtain ⟨e12, h⟩ := h
      refine fin_R O ⟨Nat.zero_le _, Nat.zero_le _⟩ (run_V (As := [vI (x6)]) (st := []) O (mt_J2_get (xl x) (xG x) _ _ _ _ h) e12 cfJ2.1 q627 q628 q629 q126 q630 hy_J2_get (Nat.le_of_ble_eq_true rfl) (Nat.le_of_ble_eq_true rfl) ⟨Nat.zero_le _, Nat.zero_le _⟩ rfl (Nat.le_of_ble_eq_true rfl) dX0_orders_132) (fun o10 w11 h => ?_)
      refine j_castS O cfX18.1 q1487 dX0_orders_135 h (fun h => ?_)
      refine j_astoreq (L' := [(7, vR (xG x) (o10)), (0, .ref (adG (xG x) (this))), (2, .ref (adG (xG x) (x2))), (3, vI (x3)), (4, vI (x4)), (5, vI (x5)), (6, vI (x6))]) O dX0_orders_138 (by rw [hm]; decide) rfl ?_
      refine j_iconst O dX0_orders_140 ?_
      refine j_istore (L' := [(8, vI (0)), (7, vR (xG x) (o10)), (0, .ref (adG (xG x) (this))), (2, .ref (adG (xG x) (x2))), (3, vI (x3)), (4, vI (x4)), (5, vI (x5)), (6, vI (x6))]) O dX0_orders_141 (by rw [hm]; decide) (by cases o10 <;> rfl) ?_
      refine (J.sub [2, 3, 4, 5, 6, 7, 1, 0] rfl <| wk_X0_orders_143 O hr hm _ _ _ _ _ _ _ _ ih hX114 (fun z13 z14 bc16 bs17 w15 h => ?_) FU _ _ _ _ _ _ h)
      refine j_iinc (L' := [(6, vI (x6 + 1)), (0, .ref (adG (xG x) (this))), (2, .ref (adG (xG x) (x2))), (3, vI (x3)), (4, vI (z13)), (5, vI (z14))]) O 5 dX0_orders_234 rfl (by rw [hm]; decide) rfl ?_
      refine j_goto O (tgt := 114) dX0_orders_237 (by decide) ?_
      exact (J.sub [1, 2, 3, 4, 5, 0] rfl <| ih _ _ _ _ _ _ h)
theorem mt_X0_orders (l : Launch) (G : GW) (this : Nat) (bc bs : Nat) (w : Wd) (Q : Int → Wd → Prop) (h : wp_X0_orders this bc bs w Q) : MI l G yX0_orders cX0_orders 10 (.int) 112 bc bs [.ref (adG G (this))] w Q := by
  refine met_I (fun G => [.ref (adG G (this))]) (by decide) (fun G => Nat.le_of_ble_eq_true rfl) (fun x O hl hm hr => ?_)
  subst hl
  have O : OK x "DowryBoxes" cX0_orders 112 := O
  have h : wp_X0_orders this bc bs w Q := h
  unfold wp_X0_orders at h
  show J x (TI x Q) w bc bs 0 [(0, .ref (adG (xG x) (this)))] []
  refine j_aload_n O 0 0 dX0_orders_0 rfl rfl ?_
  refine j_getI O cfX0 11 (Nat.le_of_ble_eq_true rfl) (.inl rfl) q369 dX0_orders_1 h (fun v1 h => ?_)
  refine j_istore_n (L' := [(1, vI (v1)), (0, .ref (adG (xG x) (this)))]) O 1 dX0_orders_4 rfl (by rw [hm]; decide) rfl ?_
  refine j_aload_n O 1 0 dX0_orders_5 rfl rfl ?_
  refine j_iconst O dX0_orders_6 ?_
  refine j_putI O cfX0 11 (Nat.le_of_ble_eq_true rfl) rfl q369 rfl dX0_orders_7 h (fun w2 h => ?_)
  refine j_aload_n O 1 0 dX0_orders_10 rfl rfl ?_
  refine j_iconst O dX0_orders_11 ?_
  refine j_putI O cfX0 14 (Nat.le_of_ble_eq_true rfl) rfl q372 rfl dX0_orders_12 h (fun w3 h => ?_)
  refine j_newO O cfX20 q1467 q1468 q156 dX0_orders_15 h (fun k4 w5 h => ?_)
  refine j_dup O dX0_orders_18 rfl ?_
  refine j_aload_n O 1 0 dX0_orders_19 rfl rfl ?_
  refine j_getA O cfX0 10 (Nat.le_of_ble_eq_true rfl) ⟨_, rfl⟩ q368 dX0_orders_20 h (fun k6 h => ?_)
  refine j_iload_n O 0 1 dX0_orders_23 rfl rfl ?_
  obtain ⟨mc8, ms9, hb10, h⟩ := h
  refine fin_V O hb10 (run_I (As := [vR (xG x) ((some k6)), vI (v1)]) (st := [.ref (adG (xG x) (k4))]) O (mt_X20_init (xl x) (xG x) _ _ _ _ _ _ _ h) q1469 q1470 q156 q1471 rfl hy_X20_init.2 (Nat.le_of_ble_eq_true rfl) (Nat.le_of_ble_eq_true rfl) hb10 rfl (Nat.le_of_ble_eq_true rfl) dX0_orders_24) (fun w7 h => ?_)
  refine j_astore_n (L' := [(2, .ref (adG (xG x) (k4))), (1, vI (v1)), (0, .ref (adG (xG x) (this)))]) O 2 dX0_orders_27 rfl (by rw [hm]; decide) rfl ?_
  refine j_aload_n O 2 0 dX0_orders_28 rfl rfl ?_
  refine j_aload_n O 0 2 dX0_orders_29 rfl rfl ?_
  obtain ⟨e15, h⟩ := h
  obtain ⟨mc13, ms14, hb16, h⟩ := h
  refine fin_I O hb16 (run_VW (As := [vR (xG x) ((some k4))]) (st := []) O (mt_X0_reads (xl x) (xG x) _ _ _ _ _ _ h) e15 cfX0.1 q815 q817 qs16 q121 q818 hy_X0_reads (Nat.le_of_ble_eq_true rfl) (Nat.le_of_ble_eq_true rfl) hb16 rfl (Nat.le_of_ble_eq_true rfl) dX0_orders_30) (fun r11 w12 h => ?_)
  obtain ⟨c17, h⟩ := h
  refine j_if_ne O (tgt := 43) dX0_orders_33 (by decide) c17 h (fun h => ?_) (fun h => ?_)
  · refine j_aload_n O 2 0 dX0_orders_43 rfl rfl ?_
    refine j_getR O cfX0 8 (Nat.le_of_ble_eq_true rfl) ⟨_, rfl⟩ q366 dX0_orders_44 h (fun o18 h => ?_)
    refine j_aload_n O 2 0 dX0_orders_47 rfl rfl ?_
    obtain ⟨e21, h⟩ := h
    refine fin_R O ⟨Nat.zero_le _, Nat.zero_le _⟩ (run_V (As := []) (st := [vR (xG x) (o18)]) O (mt_X0_table (xl x) (xG x) _ _ _ h) e21 cfX0.1 q574 q576 qs5 q121 q577 hy_X0_table (Nat.le_of_ble_eq_true rfl) (Nat.le_of_ble_eq_true rfl) ⟨Nat.zero_le _, Nat.zero_le _⟩ rfl (by simp only [List.map_cons, List.map_nil, vR_cat]; exact Nat.le_of_ble_eq_true rfl) dX0_orders_48) (fun o19 w20 h => ?_)
    obtain ⟨k22, e_k22, g_k22⟩ := h
    subst e_k22
    have h := g_k22
    obtain ⟨e24, h⟩ := h
    refine fin_V O ⟨Nat.zero_le _, Nat.zero_le _⟩ (run_V (As := [vR (xG x) (o19)]) (st := []) O (mt_X2_takes (xl x) (xG x) _ _ _ _ h) e24 cfX2.1 q1285 q477 q478 q123 q479 hy_X2_takes (Nat.le_of_ble_eq_true rfl) (Nat.le_of_ble_eq_true rfl) ⟨Nat.zero_le _, Nat.zero_le _⟩ rfl (Nat.le_of_ble_eq_true rfl) dX0_orders_51) (fun w23 h => ?_)
    refine j_iconst O dX0_orders_54 ?_
    refine j_istore_n (L' := [(3, vI (0)), (2, .ref (adG (xG x) (k4))), (1, vI (v1)), (0, .ref (adG (xG x) (this)))]) O 3 dX0_orders_55 rfl (by rw [hm]; decide) rfl ?_
    refine (J.sub [3, 1, 0] rfl <| wk_X0_orders_56 O hr hm _ _ _ (fun bc26 bs27 w25 h => ?_) FU _ _ _ _ h)
    refine j_aload_n O 0 0 dX0_orders_85 rfl rfl ?_
    refine j_getA O cfX0 6 (Nat.le_of_ble_eq_true rfl) ⟨_, rfl⟩ q364 dX0_orders_86 h (fun k28 h => ?_)
    refine j_iconst O dX0_orders_89 ?_
    refine j_aload_n O 0 0 dX0_orders_90 rfl rfl ?_
    refine j_getA O cfX0 7 (Nat.le_of_ble_eq_true rfl) ⟨_, rfl⟩ q365 dX0_orders_91 h (fun k29 h => ?_)
    refine j_iconst O dX0_orders_94 ?_
    refine j_bipush (m := 16) O dX0_orders_95 bi_16 ?_
    refine j_copyI O q1444 (Nat.le_of_ble_eq_true rfl) (Nat.le_of_ble_eq_true rfl) dX0_orders_97 h (fun w30 h => ?_)
    refine j_aload_n O 0 0 dX0_orders_100 rfl rfl ?_
    refine j_getI O cfX0 15 (Nat.le_of_ble_eq_true rfl) (.inl rfl) q373 dX0_orders_101 h (fun v31 h => ?_)
    refine j_istore_n (L' := [(3, vI (v31)), (0, .ref (adG (xG x) (this))), (2, .ref (adG (xG x) (k4)))]) O 3 dX0_orders_104 rfl (by rw [hm]; decide) rfl ?_
    refine j_iconst O dX0_orders_105 ?_
    refine j_istore (L' := [(4, vI (0)), (3, vI (v31)), (0, .ref (adG (xG x) (this))), (2, .ref (adG (xG x) (k4)))]) O dX0_orders_106 (by rw [hm]; decide) rfl ?_
    refine j_iconst O dX0_orders_108 ?_
    refine j_istore (L' := [(5, vI ((-1))), (4, vI (0)), (3, vI (v31)), (0, .ref (adG (xG x) (this))), (2, .ref (adG (xG x) (k4)))]) O dX0_orders_109 (by rw [hm]; decide) rfl ?_
    refine j_iconst O dX0_orders_111 ?_
    refine j_istore (L' := [(6, vI (0)), (5, vI ((-1))), (4, vI (0)), (3, vI (v31)), (0, .ref (adG (xG x) (this))), (2, .ref (adG (xG x) (k4)))]) O dX0_orders_112 (by rw [hm]; decide) rfl ?_
    refine (J.sub [4, 5, 3, 2, 1, 0] rfl <| wk_X0_orders_114 O hr hm _ _ _ _ (fun z32 bc34 bs35 w33 h => ?_) FU _ _ _ _ _ _ h)
    refine j_aload_n O 0 0 dX0_orders_240 rfl rfl ?_
    refine j_iload O 1 dX0_orders_241 rfl ?_
    obtain ⟨e38, h⟩ := h
    refine fin_I O ⟨Nat.zero_le _, Nat.zero_le _⟩ (run_V (As := [vI (z32)]) (st := []) O (mt_X0_done (xl x) (xG x) _ _ _ _ h) e38 cfX0.1 q558 q560 qs3 q121 q561 hy_X0_done (Nat.le_of_ble_eq_true rfl) (Nat.le_of_ble_eq_true rfl) ⟨Nat.zero_le _, Nat.zero_le _⟩ rfl (Nat.le_of_ble_eq_true rfl) dX0_orders_243) (fun r36 w37 h => ?_)
    exact j_iret O hr dX0_orders_246 h
  · refine j_aload_n O 2 0 dX0_orders_36 rfl rfl ?_
    refine j_bipush (m := (-6)) O dX0_orders_37 bi_m6 ?_
    obtain ⟨e41, h⟩ := h
    refine fin_I O ⟨Nat.zero_le _, Nat.zero_le _⟩ (run_V (As := [vI (((-6)))]) (st := []) O (mt_X0_refuse (xl x) (xG x) _ _ _ _ h) e41 cfX0.1 q468 q470 qs1 q121 q471 hy_X0_refuse (Nat.le_of_ble_eq_true rfl) (Nat.le_of_ble_eq_true rfl) ⟨Nat.zero_le _, Nat.zero_le _⟩ rfl (Nat.le_of_ble_eq_true rfl) dX0_orders_39) (fun r39 w40 h => ?_)
    exact j_iret O hr dX0_orders_42 h
theorem hy_X0_isLaw : (yX0_isLaw.cls = "DowryBoxes" ∧ yX0_isLaw.cls ≠ "java/lang/invoke/MethodHandle" ∧ yX0_isLaw.cls ≠ "java/lang/invoke/VarHandle" ∧ (parseMethodDescriptor yX0_isLaw.desc).map (fun d => d.parameters.length) = some 1) := by decide +kernel
theorem mt_X0_isLaw (l : Launch) (G : GW) (this : Nat) (p1 : Int) (w : Wd) (Q : Int → Wd → Prop) (h : wp_X0_isLaw this p1 w Q) : MI l G yX0_isLaw cX0_isLaw 2 (.boolean) 2 0 0 [.ref (adG G (this)), vI (p1)] w Q := by
  refine met_I (fun G => [.ref (adG G (this)), vI (p1)]) (by decide) (fun G => Nat.le_of_ble_eq_true rfl) (fun x O hl hm hr => ?_)
  subst hl
  have O : OK x "DowryBoxes" cX0_isLaw 2 := O
  have h : wp_X0_isLaw this p1 w Q := h
  unfold wp_X0_isLaw at h
  show J x (TI x Q) w 0 0 0 [(0, .ref (adG (xG x) (this))), (1, vI (p1))] []
  refine j_iload_n O 1 1 dX0_isLaw_0 rfl rfl ?_
  refine j_iconst O dX0_isLaw_1 ?_
  refine j_aload_n O 0 0 dX0_isLaw_2 rfl rfl ?_
  refine j_getR O cfX0 2 (Nat.le_of_ble_eq_true rfl) ⟨_, rfl⟩ q360 dX0_isLaw_3 h (fun o1 h => ?_)
  obtain ⟨k2, e_k2, g_k2⟩ := h
  subst e_k2
  have h := g_k2
  refine j_getRN O cfX1 4 (Nat.le_of_ble_eq_true rfl) ⟨_, rfl⟩ (lw_n q240 rfl) dX0_isLaw_6 h (fun o3 h => ?_)
  obtain ⟨k4, e_k4, g_k4⟩ := h
  subst e_k4
  have h := g_k4
  obtain ⟨e7, h⟩ := h
  refine fin_I O ⟨Nat.zero_le _, Nat.zero_le _⟩ (run_V (As := []) (st := [vI ((-1)), vI (p1)]) O (mt_J2_size (xl x) (xG x) _ _ _ h) e7 cfJ2.1 q777 q648 q649 q126 q650 hy_J2_size (Nat.le_of_ble_eq_true rfl) (Nat.le_of_ble_eq_true rfl) ⟨Nat.zero_le _, Nat.zero_le _⟩ rfl (Nat.le_of_ble_eq_true rfl) dX0_isLaw_9) (fun r5 w6 h => ?_)
  refine j_iconst O dX0_isLaw_12 ?_
  refine j_isub O dX0_isLaw_13 ?_
  refine fin_I O ⟨Nat.zero_le _, Nat.zero_le _⟩ (run_S (As := [vI (p1), vI (((-1))), vI ((r5 - 1))]) (st := []) O (mt_X0_in (xl x) (xG x) _ _ _ _ _ h) q465 q466 q121 q467 hy_X0_in.2 (Nat.le_of_ble_eq_true rfl) (Nat.le_of_ble_eq_true rfl) ⟨Nat.zero_le _, Nat.zero_le _⟩ rfl (Nat.le_of_ble_eq_true rfl) dX0_isLaw_14) (fun r8 w9 h => ?_)
  exact j_zret O hr dX0_isLaw_17 h
theorem hy_X0_compare : (yX0_compare.cls = "DowryBoxes" ∧ yX0_compare.cls ≠ "java/lang/invoke/MethodHandle" ∧ yX0_compare.cls ≠ "java/lang/invoke/VarHandle" ∧ (parseMethodDescriptor yX0_compare.desc).map (fun d => d.parameters.length) = some 1) := by decide +kernel
theorem wk_X0_compare_14 {x : Cx} (O : OK x "DowryBoxes" cX0_compare 109) (hr : (xM x).sig.returnType = some .int) (hm : xn x = 4) {Q : Int → Wd → Prop} (this : Nat) (x1 : Int) : ∀ (n : Nat) (x2 : Int) (x3 : Int) (w : Wd), wp_X0_compare_14 Q this x1 n x2 x3 w → J x (TI x Q) w 0 0 14 [(0, .ref (adG (xG x) (this))), (1, vI (x1)), (2, vI (x2)), (3, vI (x3))] [] := by
  intro n
  induction n with
  | zero => intro x2 x3 w h; exact False.elim h
  | succ n ih =>
    intro x2 x3 w h
    rw [wp_X0_compare_14] at h
    refine j_iload_n O 3 3 dX0_compare_14 rfl rfl ?_
    refine j_aload_n O 0 0 dX0_compare_15 rfl rfl ?_
    refine j_getR O cfX0 2 (Nat.le_of_ble_eq_true rfl) ⟨_, rfl⟩ q360 dX0_compare_16 h (fun o1 h => ?_)
    obtain ⟨k2, e_k2, g_k2⟩ := h
    subst e_k2
    have h := g_k2
    refine j_getIN O cfX1 5 (Nat.le_of_ble_eq_true rfl) (.inl rfl) (lw_n q242 rfl) dX0_compare_19 h (fun v3 h => ?_)
    obtain ⟨c4, h⟩ := h
    obtain ⟨c5, h⟩ := h
    refine j_icmp_ge O (tgt := 44) dX0_compare_22 (by decide) c4 c5 h (fun h => ?_) (fun h => ?_)
    · refine j_iload_n O 2 2 dX0_compare_44 rfl rfl ?_
      exact j_iret O hr dX0_compare_45 h
    · refine j_iload_n O 2 2 dX0_compare_25 rfl rfl ?_
      refine j_aload_n O 0 0 dX0_compare_26 rfl rfl ?_
      refine j_iload_n O 1 1 dX0_compare_27 rfl rfl ?_
      refine j_aload_n O 0 0 dX0_compare_28 rfl rfl ?_
      obtain ⟨e8, h⟩ := h
      refine fin_R O ⟨Nat.zero_le _, Nat.zero_le _⟩ (run_V (As := []) (st := [vI (x1), .ref (adG (xG x) (this)), vI (x2)]) O (mt_X0_table (xl x) (xG x) _ _ _ h) e8 cfX0.1 q574 q576 qs5 q121 q577 hy_X0_table (Nat.le_of_ble_eq_true rfl) (Nat.le_of_ble_eq_true rfl) ⟨Nat.zero_le _, Nat.zero_le _⟩ rfl (Nat.le_of_ble_eq_true rfl) dX0_compare_29) (fun o6 w7 h => ?_)
      refine j_iload_n O 3 3 dX0_compare_32 rfl rfl ?_
      obtain ⟨e11, h⟩ := h
      refine fin_I O ⟨Nat.zero_le _, Nat.zero_le _⟩ (run_V (As := [vI (x1), vR (xG x) (o6), vI (x3)]) (st := [vI (x2)]) O (mt_X0_lasts (xl x) (xG x) _ _ _ _ _ _ h) e11 cfX0.1 q608 q610 qs7 q121 q611 hy_X0_lasts (Nat.le_of_ble_eq_true rfl) (Nat.le_of_ble_eq_true rfl) ⟨Nat.zero_le _, Nat.zero_le _⟩ rfl (Nat.le_of_ble_eq_true rfl) dX0_compare_33) (fun r9 w10 h => ?_)
      refine j_iadd O dX0_compare_36 ?_
      refine j_istore_n (L' := [(2, vI (x2 + r9)), (0, .ref (adG (xG x) (this))), (1, vI (x1)), (3, vI (x3))]) O 2 dX0_compare_37 rfl (by rw [hm]; decide) rfl ?_
      refine j_iinc (L' := [(3, vI (x3 + 1)), (2, vI (x2 + r9)), (0, .ref (adG (xG x) (this))), (1, vI (x1))]) O 3 dX0_compare_38 rfl (by rw [hm]; decide) rfl ?_
      refine j_goto O (tgt := 14) dX0_compare_41 (by decide) ?_
      exact (J.sub [2, 3, 1, 0] rfl <| ih _ _ _ h)
theorem mt_X0_compare (l : Launch) (G : GW) (this : Nat) (p1 : Int) (w : Wd) (Q : Int → Wd → Prop) (h : wp_X0_compare this p1 w Q) : MI l G yX0_compare cX0_compare 4 (.int) 109 0 0 [.ref (adG G (this)), vI (p1)] w Q := by
  refine met_I (fun G => [.ref (adG G (this)), vI (p1)]) (by decide) (fun G => Nat.le_of_ble_eq_true rfl) (fun x O hl hm hr => ?_)
  subst hl
  have O : OK x "DowryBoxes" cX0_compare 109 := O
  have h : wp_X0_compare this p1 w Q := h
  unfold wp_X0_compare at h
  show J x (TI x Q) w 0 0 0 [(0, .ref (adG (xG x) (this))), (1, vI (p1))] []
  refine j_aload_n O 0 0 dX0_compare_0 rfl rfl ?_
  refine j_iload_n O 1 1 dX0_compare_1 rfl rfl ?_
  obtain ⟨e3, h⟩ := h
  refine fin_I O ⟨Nat.zero_le _, Nat.zero_le _⟩ (run_V (As := [vI (p1)]) (st := []) O (mt_X0_isLaw (xl x) (xG x) _ _ _ _ h) e3 cfX0.1 q1269 q1271 qs19 q121 q1272 hy_X0_isLaw (Nat.le_of_ble_eq_true rfl) (Nat.le_of_ble_eq_true rfl) ⟨Nat.zero_le _, Nat.zero_le _⟩ rfl (Nat.le_of_ble_eq_true rfl) dX0_compare_2) (fun r1 w2 h => ?_)
  obtain ⟨c4, h⟩ := h
  refine j_if_ne O (tgt := 10) dX0_compare_5 (by decide) c4 h (fun h => ?_) (fun h => ?_)
  · refine j_iconst O dX0_compare_10 ?_
    refine j_istore_n (L' := [(2, vI (0)), (0, .ref (adG (xG x) (this))), (1, vI (p1))]) O 2 dX0_compare_11 rfl (by rw [hm]; decide) rfl ?_
    refine j_iconst O dX0_compare_12 ?_
    refine j_istore_n (L' := [(3, vI (0)), (2, vI (0)), (0, .ref (adG (xG x) (this))), (1, vI (p1))]) O 3 dX0_compare_13 rfl (by rw [hm]; decide) rfl ?_
    exact (J.sub [2, 3, 1, 0] rfl <| wk_X0_compare_14 O hr hm  _ _  FU _ _ _ h)
  · refine j_iconst O dX0_compare_8 ?_
    exact j_iret O hr dX0_compare_9 h
theorem hy_X0_stands : (yX0_stands.cls = "DowryBoxes" ∧ yX0_stands.cls ≠ "java/lang/invoke/MethodHandle" ∧ yX0_stands.cls ≠ "java/lang/invoke/VarHandle" ∧ (parseMethodDescriptor yX0_stands.desc).map (fun d => d.parameters.length) = some 2) := by decide +kernel
theorem wk_X0_stands_55 {x : Cx} (O : OK x "DowryBoxes" cX0_stands 3) (hr : (xM x).sig.returnType = some .long) (hm : xn x = 6) {Q : Int → Wd → Prop} (K24 : Int → Wd → Prop) (X24 : Wd → Prop) (this : Nat) (x1 : Int) (x2 : Int) (x3 : Int) (s0 : Int) (s1 : Int) (s2 : Nat) (hK24 : ∀ (y3 : Int) (w : Wd), K24 y3 w → J x (TL x Q) w 0 0 24 [(0, .ref (adG (xG x) (this))), (1, vI (x1)), (2, vI (x2)), (3, vI (y3))] []) (hX24 : ∀  (w : Wd), X24  w → J x (TL x Q) w 0 0 62 [(0, .ref (adG (xG x) (this))), (2, vI (x2))] []) (w : Wd) (h : wp_X0_stands_55 Q K24 X24 this x1 x2 x3 s0 s1 s2 w) : J x (TL x Q) w 0 0 55 [(0, .ref (adG (xG x) (this))), (1, vI (x1)), (2, vI (x2)), (3, vI (x3))] [vL (s0), vI (s1), .ref (adG (xG x) (s2))] := by
  unfold wp_X0_stands_55 at h
  refine j_last O dX0_stands_55 h (fun w1 h => ?_)
  refine j_iinc (L' := [(3, vI (x3 + 1)), (0, .ref (adG (xG x) (this))), (1, vI (x1)), (2, vI (x2))]) O 3 dX0_stands_56 rfl (by rw [hm]; decide) rfl ?_
  refine j_goto O (tgt := 24) dX0_stands_59 (by decide) ?_
  exact (J.sub [1, 2, 3, 0] rfl <| hK24 _ _ h)
theorem wk_X0_stands_24 {x : Cx} (O : OK x "DowryBoxes" cX0_stands 3) (hr : (xM x).sig.returnType = some .long) (hm : xn x = 6) {Q : Int → Wd → Prop} (X24 : Wd → Prop) (this : Nat) (x1 : Int) (x2 : Int) (hX24 : ∀  (w : Wd), X24  w → J x (TL x Q) w 0 0 62 [(0, .ref (adG (xG x) (this))), (2, vI (x2))] []) : ∀ (n : Nat) (x3 : Int) (w : Wd), wp_X0_stands_24 Q X24 this x1 x2 n x3 w → J x (TL x Q) w 0 0 24 [(0, .ref (adG (xG x) (this))), (1, vI (x1)), (2, vI (x2)), (3, vI (x3))] [] := by
  intro n
  induction n with
  | zero => intro x3 w h; exact False.elim h
  | succ n ih =>
    intro x3 w h
    rw [wp_X0_stands_24] at h
    refine j_iload_n O 3 3 dX0_stands_24 rfl rfl ?_
    refine j_bipush (m := 20) O dX0_stands_25 bi_20 ?_
    obtain ⟨c1, h⟩ := h
    refine j_icmp_gt O (tgt := 62) dX0_stands_27 (by decide) c1 (by decide) h (fun h => ?_) (fun h => ?_)
    · exact (J.sub [0, 2] rfl <| hX24  _ h)
    · refine j_aload_n O 0 0 dX0_stands_30 rfl rfl ?_
      refine j_getA O cfX0 30 (Nat.le_of_ble_eq_true rfl) ⟨_, rfl⟩ q388 dX0_stands_31 h (fun k2 h => ?_)
      refine j_iload_n O 3 3 dX0_stands_34 rfl rfl ?_
      refine j_iload_n O 3 3 dX0_stands_35 rfl rfl ?_
      refine j_aload_n O 0 0 dX0_stands_36 rfl rfl ?_
      obtain ⟨e5, h⟩ := h
      refine fin_R O ⟨Nat.zero_le _, Nat.zero_le _⟩ (run_V (As := []) (st := [vI (x3), vI (x3), .ref (adG (xG x) (k2))]) O (mt_X0_table (xl x) (xG x) _ _ _ h) e5 cfX0.1 q574 q576 qs5 q121 q577 hy_X0_table (Nat.le_of_ble_eq_true rfl) (Nat.le_of_ble_eq_true rfl) ⟨Nat.zero_le _, Nat.zero_le _⟩ rfl (Nat.le_of_ble_eq_true rfl) dX0_stands_37) (fun o3 w4 h => ?_)
      obtain ⟨k6, e_k6, g_k6⟩ := h
      subst e_k6
      have h := g_k6
      refine j_getAN O cfX2 2 (Nat.le_of_ble_eq_true rfl) ⟨_, rfl⟩ (lw_n q182 rfl) dX0_stands_40 h (fun k7 h => ?_)
      refine j_iload_n O 1 1 dX0_stands_43 rfl rfl ?_
      refine j_iald O dX0_stands_44 h (fun v8 h => ?_)
      obtain ⟨c9, h⟩ := h
      obtain ⟨c10, h⟩ := h
      refine j_icmp_ne O (tgt := 54) dX0_stands_45 (by decide) c9 c10 h (fun h => ?_) (fun h => ?_)
      · refine j_lconst (m := 0) O dX0_stands_54 lc_0 ?_
        exact (J.sub [0, 1, 2, 3] rfl <| wk_X0_stands_55 O hr hm _ _ _ _ _ _ _ _ _ ih hX24 _ h)
      · refine j_ldc2 (m := 1000000000000) O dX0_stands_48 q1457 l2_1000000000000 ?_
        refine j_goto O (tgt := 55) dX0_stands_51 (by decide) ?_
        exact (J.sub [0, 1, 2, 3] rfl <| wk_X0_stands_55 O hr hm _ _ _ _ _ _ _ _ _ ih hX24 _ h)
theorem wk_X0_stands_72 {x : Cx} (O : OK x "DowryBoxes" cX0_stands 3) (hr : (xM x).sig.returnType = some .long) (hm : xn x = 6) {Q : Int → Wd → Prop} (K64 : Int → Wd → Prop) (X64 : Wd → Prop) (X72 : Wd → Prop) (this : Nat) (x2 : Int) (x3 : Int) (hK64 : ∀ (y3 : Int) (w : Wd), K64 y3 w → J x (TL x Q) w 0 0 64 [(0, .ref (adG (xG x) (this))), (2, vI (x2)), (3, vI (y3))] []) (hX64 : ∀  (w : Wd), X64  w → J x (TL x Q) w 0 0 153 [(0, .ref (adG (xG x) (this)))] []) (hX72 : ∀  (w : Wd), X72  w → J x (TL x Q) w 0 0 147 [(0, .ref (adG (xG x) (this))), (2, vI (x2)), (3, vI (x3))] []) : ∀ (n : Nat) (x4 : Int) (w : Wd), wp_X0_stands_72 Q K64 X64 X72 this x2 x3 n x4 w → J x (TL x Q) w 0 0 72 [(0, .ref (adG (xG x) (this))), (2, vI (x2)), (3, vI (x3)), (4, vI (x4))] [] := by
  intro n
  induction n with
  | zero => intro x4 w h; exact False.elim h
  | succ n ih =>
    intro x4 w h
    rw [wp_X0_stands_72] at h
    refine j_iload O 3 dX0_stands_72 rfl ?_
    refine j_bipush (m := 20) O dX0_stands_74 bi_20 ?_
    obtain ⟨c1, h⟩ := h
    refine j_icmp_gt O (tgt := 147) dX0_stands_76 (by decide) c1 (by decide) h (fun h => ?_) (fun h => ?_)
    · exact (J.sub [0, 1, 2] rfl <| hX72  _ h)
    · refine j_aload_n O 0 0 dX0_stands_79 rfl rfl ?_
      refine j_getA O cfX0 30 (Nat.le_of_ble_eq_true rfl) ⟨_, rfl⟩ q388 dX0_stands_80 h (fun k2 h => ?_)
      refine j_iload O 3 dX0_stands_83 rfl ?_
      refine j_iconst O dX0_stands_85 ?_
      refine j_isub O dX0_stands_86 ?_
      refine j_dup2_11 O dX0_stands_87 rfl rfl ?_
      refine j_lald O dX0_stands_88 h (fun v3 h => ?_)
      refine j_aload_n O 0 0 dX0_stands_89 rfl rfl ?_
      refine j_getA O cfX0 30 (Nat.le_of_ble_eq_true rfl) ⟨_, rfl⟩ q388 dX0_stands_90 h (fun k4 h => ?_)
      refine j_iload O 3 dX0_stands_93 rfl ?_
      refine j_lald O dX0_stands_95 h (fun v5 h => ?_)
      refine j_aload_n O 0 0 dX0_stands_96 rfl rfl ?_
      refine j_getR O cfX0 2 (Nat.le_of_ble_eq_true rfl) ⟨_, rfl⟩ q360 dX0_stands_97 h (fun o6 h => ?_)
      obtain ⟨k7, e_k7, g_k7⟩ := h
      subst e_k7
      have h := g_k7
      refine j_getIN O cfX1 8 (Nat.le_of_ble_eq_true rfl) (.inl rfl) (lw_n q248 rfl) dX0_stands_100 h (fun v8 h => ?_)
      refine j_i2l O dX0_stands_103 h (fun h => ?_)
      refine j_lmul O dX0_stands_104 ?_
      refine j_ldc2 (m := 10) O dX0_stands_105 q1458 l2_10 ?_
      refine j_ldiv O dX0_stands_108 h (fun h => ?_)
      refine j_ladd O dX0_stands_109 ?_
      refine j_last O dX0_stands_110 h (fun w9 h => ?_)
      refine j_aload_n O 0 0 dX0_stands_111 rfl rfl ?_
      refine j_getA O cfX0 30 (Nat.le_of_ble_eq_true rfl) ⟨_, rfl⟩ q388 dX0_stands_112 h (fun k10 h => ?_)
      refine j_iload O 3 dX0_stands_115 rfl ?_
      refine j_aload_n O 0 0 dX0_stands_117 rfl rfl ?_
      refine j_getA O cfX0 30 (Nat.le_of_ble_eq_true rfl) ⟨_, rfl⟩ q388 dX0_stands_118 h (fun k11 h => ?_)
      refine j_iload O 3 dX0_stands_121 rfl ?_
      refine j_lald O dX0_stands_123 h (fun v12 h => ?_)
      refine j_bipush (m := 10) O dX0_stands_124 bi_10 ?_
      refine j_aload_n O 0 0 dX0_stands_126 rfl rfl ?_
      refine j_getR O cfX0 2 (Nat.le_of_ble_eq_true rfl) ⟨_, rfl⟩ q360 dX0_stands_127 h (fun o13 h => ?_)
      obtain ⟨k14, e_k14, g_k14⟩ := h
      subst e_k14
      have h := g_k14
      refine j_getIN O cfX1 8 (Nat.le_of_ble_eq_true rfl) (.inl rfl) (lw_n q248 rfl) dX0_stands_130 h (fun v15 h => ?_)
      refine j_isub O dX0_stands_133 ?_
      refine j_i2l O dX0_stands_134 h (fun h => ?_)
      refine j_lmul O dX0_stands_135 ?_
      refine j_ldc2 (m := 10) O dX0_stands_136 q1458 l2_10 ?_
      refine j_ldiv O dX0_stands_139 h (fun h => ?_)
      refine j_last O dX0_stands_140 h (fun w16 h => ?_)
      refine j_iinc (L' := [(4, vI (x4 + 1)), (0, .ref (adG (xG x) (this))), (2, vI (x2)), (3, vI (x3))]) O 3 dX0_stands_141 rfl (by rw [hm]; decide) rfl ?_
      refine j_goto O (tgt := 72) dX0_stands_144 (by decide) ?_
      exact (J.sub [1, 2, 3, 0] rfl <| ih _ _ h)
theorem wk_X0_stands_64 {x : Cx} (O : OK x "DowryBoxes" cX0_stands 3) (hr : (xM x).sig.returnType = some .long) (hm : xn x = 6) {Q : Int → Wd → Prop} (X64 : Wd → Prop) (this : Nat) (x2 : Int) (hX64 : ∀  (w : Wd), X64  w → J x (TL x Q) w 0 0 153 [(0, .ref (adG (xG x) (this)))] []) : ∀ (n : Nat) (x3 : Int) (w : Wd), wp_X0_stands_64 Q X64 this x2 n x3 w → J x (TL x Q) w 0 0 64 [(0, .ref (adG (xG x) (this))), (2, vI (x2)), (3, vI (x3))] [] := by
  intro n
  induction n with
  | zero => intro x3 w h; exact False.elim h
  | succ n ih =>
    intro x3 w h
    rw [wp_X0_stands_64] at h
    refine j_iload_n O 2 3 dX0_stands_64 rfl rfl ?_
    refine j_iload_n O 1 2 dX0_stands_65 rfl rfl ?_
    obtain ⟨c1, h⟩ := h
    obtain ⟨c2, h⟩ := h
    refine j_icmp_ge O (tgt := 153) dX0_stands_66 (by decide) c1 c2 h (fun h => ?_) (fun h => ?_)
    · exact (J.sub [0] rfl <| hX64  _ h)
    · refine j_iconst O dX0_stands_69 ?_
      refine j_istore (L' := [(4, vI (1)), (0, .ref (adG (xG x) (this))), (2, vI (x2)), (3, vI (x3))]) O dX0_stands_70 (by rw [hm]; decide) rfl ?_
      refine (J.sub [1, 2, 3, 0] rfl <| wk_X0_stands_72 O hr hm _ _ _ _ _ _ ih hX64 (fun w3 h => ?_) FU _ _ h)
      refine j_iinc (L' := [(3, vI (x3 + 1)), (0, .ref (adG (xG x) (this))), (2, vI (x2))]) O 2 dX0_stands_147 rfl (by rw [hm]; decide) rfl ?_
      refine j_goto O (tgt := 64) dX0_stands_150 (by decide) ?_
      exact (J.sub [1, 2, 0] rfl <| ih _ _ h)
theorem wk_X0_stands_158 {x : Cx} (O : OK x "DowryBoxes" cX0_stands 3) (hr : (xM x).sig.returnType = some .long) (hm : xn x = 6) {Q : Int → Wd → Prop} (this : Nat) : ∀ (n : Nat) (x3 : Int) (x5 : Int) (w : Wd), wp_X0_stands_158 Q this n x3 x5 w → J x (TL x Q) w 0 0 158 [(0, .ref (adG (xG x) (this))), (3, vL (x3)), (5, vI (x5))] [] := by
  intro n
  induction n with
  | zero => intro x3 x5 w h; exact False.elim h
  | succ n ih =>
    intro x3 x5 w h
    rw [wp_X0_stands_158] at h
    refine j_iload O 2 dX0_stands_158 rfl ?_
    refine j_bipush (m := 20) O dX0_stands_160 bi_20 ?_
    obtain ⟨c1, h⟩ := h
    refine j_icmp_gt O (tgt := 181) dX0_stands_162 (by decide) c1 (by decide) h (fun h => ?_) (fun h => ?_)
    · refine j_lload_n O 1 3 dX0_stands_181 rfl rfl ?_
      exact j_lret O hr dX0_stands_182 h
    · refine j_lload_n O 1 3 dX0_stands_165 rfl rfl ?_
      refine j_aload_n O 0 0 dX0_stands_166 rfl rfl ?_
      refine j_getA O cfX0 30 (Nat.le_of_ble_eq_true rfl) ⟨_, rfl⟩ q388 dX0_stands_167 h (fun k2 h => ?_)
      refine j_iload O 2 dX0_stands_170 rfl ?_
      refine j_lald O dX0_stands_172 h (fun v3 h => ?_)
      refine j_ladd O dX0_stands_173 ?_
      refine j_lstore_n (L' := [(3, vL (x3 + v3)), (0, .ref (adG (xG x) (this))), (5, vI (x5))]) O 3 dX0_stands_174 rfl (by rw [hm]; decide) rfl ?_
      refine j_iinc (L' := [(5, vI (x5 + 1)), (3, vL (x3 + v3)), (0, .ref (adG (xG x) (this)))]) O 2 dX0_stands_175 rfl (by rw [hm]; decide) rfl ?_
      refine j_goto O (tgt := 158) dX0_stands_178 (by decide) ?_
      exact (J.sub [2, 1, 0] rfl <| ih _ _ _ h)
theorem mt_X0_stands (l : Launch) (G : GW) (this : Nat) (p1 : Int) (p2 : Int) (w : Wd) (Q : Int → Wd → Prop) (h : wp_X0_stands this p1 p2 w Q) : ML l G yX0_stands cX0_stands 6 3 0 0 [.ref (adG G (this)), vI (p1), vI (p2)] w Q := by
  refine met_L (fun G => [.ref (adG G (this)), vI (p1), vI (p2)]) (by decide) (fun G => Nat.le_of_ble_eq_true rfl) (fun x O hl hm hr => ?_)
  subst hl
  have O : OK x "DowryBoxes" cX0_stands 3 := O
  have h : wp_X0_stands this p1 p2 w Q := h
  unfold wp_X0_stands at h
  show J x (TL x Q) w 0 0 0 [(0, .ref (adG (xG x) (this))), (1, vI (p1)), (2, vI (p2))] []
  refine j_aload_n O 0 0 dX0_stands_0 rfl rfl ?_
  refine j_iload_n O 1 1 dX0_stands_1 rfl rfl ?_
  obtain ⟨e3, h⟩ := h
  refine fin_I O ⟨Nat.zero_le _, Nat.zero_le _⟩ (run_V (As := [vI (p1)]) (st := []) O (mt_X0_isBox (xl x) (xG x) _ _ _ _ h) e3 cfX0.1 q582 q584 qs6 q121 q585 hy_X0_isBox (Nat.le_of_ble_eq_true rfl) (Nat.le_of_ble_eq_true rfl) ⟨Nat.zero_le _, Nat.zero_le _⟩ rfl (Nat.le_of_ble_eq_true rfl) dX0_stands_2) (fun r1 w2 h => ?_)
  obtain ⟨c4, h⟩ := h
  refine j_if_eq O (tgt := 18) dX0_stands_5 (by decide) c4 h (fun h => ?_) (fun h => ?_)
  · refine j_ldc2 (m := (-1)) O dX0_stands_18 q618 l2_m1 ?_
    exact j_lret O hr dX0_stands_21 h
  · refine j_iload_n O 2 2 dX0_stands_8 rfl rfl ?_
    refine j_iconst O dX0_stands_9 ?_
    refine j_bipush (m := 60) O dX0_stands_10 bi_60 ?_
    refine fin_I O ⟨Nat.zero_le _, Nat.zero_le _⟩ (run_S (As := [vI (p2), vI (0), vI (60)]) (st := []) O (mt_X0_in (xl x) (xG x) _ _ _ _ _ h) q465 q466 q121 q467 hy_X0_in.2 (Nat.le_of_ble_eq_true rfl) (Nat.le_of_ble_eq_true rfl) ⟨Nat.zero_le _, Nat.zero_le _⟩ rfl (Nat.le_of_ble_eq_true rfl) dX0_stands_12) (fun r5 w6 h => ?_)
    obtain ⟨c7, h⟩ := h
    refine j_if_ne O (tgt := 22) dX0_stands_15 (by decide) c7 h (fun h => ?_) (fun h => ?_)
    · refine j_iconst O dX0_stands_22 ?_
      refine j_istore_n (L' := [(3, vI (0)), (0, .ref (adG (xG x) (this))), (1, vI (p1)), (2, vI (p2))]) O 3 dX0_stands_23 rfl (by rw [hm]; decide) rfl ?_
      refine (J.sub [1, 2, 3, 0] rfl <| wk_X0_stands_24 O hr hm _ _ _ _ (fun w8 h => ?_) FU _ _ h)
      refine j_iconst O dX0_stands_62 ?_
      refine j_istore_n (L' := [(3, vI (0)), (0, .ref (adG (xG x) (this))), (2, vI (p2))]) O 3 dX0_stands_63 rfl (by rw [hm]; decide) rfl ?_
      refine (J.sub [1, 2, 0] rfl <| wk_X0_stands_64 O hr hm _ _ _ (fun w9 h => ?_) FU _ _ h)
      refine j_lconst (m := 0) O dX0_stands_153 lc_0 ?_
      refine j_lstore_n (L' := [(3, vL (0)), (0, .ref (adG (xG x) (this)))]) O 3 dX0_stands_154 rfl (by rw [hm]; decide) rfl ?_
      refine j_iconst O dX0_stands_155 ?_
      refine j_istore (L' := [(5, vI (1)), (3, vL (0)), (0, .ref (adG (xG x) (this)))]) O dX0_stands_156 (by rw [hm]; decide) rfl ?_
      exact (J.sub [2, 1, 0] rfl <| wk_X0_stands_158 O hr hm  _  FU _ _ _ h)
    · refine j_ldc2 (m := (-1)) O dX0_stands_18 q618 l2_m1 ?_
      exact j_lret O hr dX0_stands_21 h
theorem hy_X0_ends : (yX0_ends.cls = "DowryBoxes" ∧ yX0_ends.cls ≠ "java/lang/invoke/MethodHandle" ∧ yX0_ends.cls ≠ "java/lang/invoke/VarHandle" ∧ (parseMethodDescriptor yX0_ends.desc).map (fun d => d.parameters.length) = some 1) := by decide +kernel
theorem wk_X0_ends_48 {x : Cx} (O : OK x "DowryBoxes" cX0_ends 2) (hr : (xM x).sig.returnType = some .int) (hm : xn x = 4) {Q : Int → Wd → Prop} (K16 : Int → Int → Wd → Prop) (this : Nat) (x1 : Int) (x3 : Int) (s0 : Int) (s1 : Int) (hK16 : ∀ (y2 : Int) (y3 : Int) (w : Wd), K16 y2 y3 w → J x (TI x Q) w 0 0 16 [(0, .ref (adG (xG x) (this))), (1, vI (x1)), (2, vI (y2)), (3, vI (y3))] []) (w : Wd) (h : wp_X0_ends_48 Q K16 this x1 x3 s0 s1 w) : J x (TI x Q) w 0 0 48 [(0, .ref (adG (xG x) (this))), (1, vI (x1)), (3, vI (x3))] [vI (s0), vI (s1)] := by
  unfold wp_X0_ends_48 at h
  refine j_ior O dX0_ends_48 ?_
  refine j_istore_n (L' := [(2, vI (ior s1 s0)), (0, .ref (adG (xG x) (this))), (1, vI (x1)), (3, vI (x3))]) O 2 dX0_ends_49 rfl (by rw [hm]; decide) rfl ?_
  refine j_iinc (L' := [(3, vI (x3 + 1)), (2, vI (ior s1 s0)), (0, .ref (adG (xG x) (this))), (1, vI (x1))]) O 3 dX0_ends_50 rfl (by rw [hm]; decide) rfl ?_
  refine j_goto O (tgt := 16) dX0_ends_53 (by decide) ?_
  exact (J.sub [2, 3, 1, 0] rfl <| hK16 _ _ _ h)
theorem wk_X0_ends_16 {x : Cx} (O : OK x "DowryBoxes" cX0_ends 2) (hr : (xM x).sig.returnType = some .int) (hm : xn x = 4) {Q : Int → Wd → Prop} (this : Nat) (x1 : Int) : ∀ (n : Nat) (x2 : Int) (x3 : Int) (w : Wd), wp_X0_ends_16 Q this x1 n x2 x3 w → J x (TI x Q) w 0 0 16 [(0, .ref (adG (xG x) (this))), (1, vI (x1)), (2, vI (x2)), (3, vI (x3))] [] := by
  intro n
  induction n with
  | zero => intro x2 x3 w h; exact False.elim h
  | succ n ih =>
    intro x2 x3 w h
    rw [wp_X0_ends_16] at h
    refine j_iload_n O 3 3 dX0_ends_16 rfl rfl ?_
    refine j_aload_n O 0 0 dX0_ends_17 rfl rfl ?_
    refine j_getR O cfX0 2 (Nat.le_of_ble_eq_true rfl) ⟨_, rfl⟩ q360 dX0_ends_18 h (fun o1 h => ?_)
    obtain ⟨k2, e_k2, g_k2⟩ := h
    subst e_k2
    have h := g_k2
    refine j_getIN O cfX1 5 (Nat.le_of_ble_eq_true rfl) (.inl rfl) (lw_n q242 rfl) dX0_ends_21 h (fun v3 h => ?_)
    obtain ⟨c4, h⟩ := h
    obtain ⟨c5, h⟩ := h
    refine j_icmp_ge O (tgt := 56) dX0_ends_24 (by decide) c4 c5 h (fun h => ?_) (fun h => ?_)
    · refine j_iload_n O 2 2 dX0_ends_56 rfl rfl ?_
      exact j_iret O hr dX0_ends_57 h
    · refine j_iload_n O 2 2 dX0_ends_27 rfl rfl ?_
      refine j_aload_n O 0 0 dX0_ends_28 rfl rfl ?_
      obtain ⟨e8, h⟩ := h
      refine fin_R O ⟨Nat.zero_le _, Nat.zero_le _⟩ (run_V (As := []) (st := [vI (x2)]) O (mt_X0_table (xl x) (xG x) _ _ _ h) e8 cfX0.1 q574 q576 qs5 q121 q577 hy_X0_table (Nat.le_of_ble_eq_true rfl) (Nat.le_of_ble_eq_true rfl) ⟨Nat.zero_le _, Nat.zero_le _⟩ rfl (Nat.le_of_ble_eq_true rfl) dX0_ends_29) (fun o6 w7 h => ?_)
      obtain ⟨k9, e_k9, g_k9⟩ := h
      subst e_k9
      have h := g_k9
      refine j_getAN O cfX2 4 (Nat.le_of_ble_eq_true rfl) ⟨_, rfl⟩ (lw_n q186 rfl) dX0_ends_32 h (fun k10 h => ?_)
      refine j_iload_n O 3 3 dX0_ends_35 rfl rfl ?_
      refine j_iald O dX0_ends_36 h (fun v11 h => ?_)
      refine j_iload_n O 1 1 dX0_ends_37 rfl rfl ?_
      obtain ⟨c12, h⟩ := h
      obtain ⟨c13, h⟩ := h
      refine j_icmp_le O (tgt := 47) dX0_ends_38 (by decide) c12 c13 h (fun h => ?_) (fun h => ?_)
      · refine j_iconst O dX0_ends_47 ?_
        exact (J.sub [0, 1, 3] rfl <| wk_X0_ends_48 O hr hm _ _ _ _ _ _ ih _ h)
      · refine j_iconst O dX0_ends_41 ?_
        refine j_iload_n O 3 3 dX0_ends_42 rfl rfl ?_
        refine j_ishl O dX0_ends_43 ?_
        refine j_goto O (tgt := 48) dX0_ends_44 (by decide) ?_
        exact (J.sub [0, 1, 3] rfl <| wk_X0_ends_48 O hr hm _ _ _ _ _ _ ih _ h)
theorem mt_X0_ends (l : Launch) (G : GW) (this : Nat) (p1 : Int) (w : Wd) (Q : Int → Wd → Prop) (h : wp_X0_ends this p1 w Q) : MI l G yX0_ends cX0_ends 4 (.int) 2 0 0 [.ref (adG G (this)), vI (p1)] w Q := by
  refine met_I (fun G => [.ref (adG G (this)), vI (p1)]) (by decide) (fun G => Nat.le_of_ble_eq_true rfl) (fun x O hl hm hr => ?_)
  subst hl
  have O : OK x "DowryBoxes" cX0_ends 2 := O
  have h : wp_X0_ends this p1 w Q := h
  unfold wp_X0_ends at h
  show J x (TI x Q) w 0 0 0 [(0, .ref (adG (xG x) (this))), (1, vI (p1))] []
  refine j_iload_n O 1 1 dX0_ends_0 rfl rfl ?_
  refine j_iconst O dX0_ends_1 ?_
  refine j_bipush (m := 60) O dX0_ends_2 bi_60 ?_
  refine fin_I O ⟨Nat.zero_le _, Nat.zero_le _⟩ (run_S (As := [vI (p1), vI (0), vI (60)]) (st := []) O (mt_X0_in (xl x) (xG x) _ _ _ _ _ h) q465 q466 q121 q467 hy_X0_in.2 (Nat.le_of_ble_eq_true rfl) (Nat.le_of_ble_eq_true rfl) ⟨Nat.zero_le _, Nat.zero_le _⟩ rfl (Nat.le_of_ble_eq_true rfl) dX0_ends_4) (fun r1 w2 h => ?_)
  obtain ⟨c3, h⟩ := h
  refine j_if_ne O (tgt := 12) dX0_ends_7 (by decide) c3 h (fun h => ?_) (fun h => ?_)
  · refine j_iconst O dX0_ends_12 ?_
    refine j_istore_n (L' := [(2, vI (0)), (0, .ref (adG (xG x) (this))), (1, vI (p1))]) O 2 dX0_ends_13 rfl (by rw [hm]; decide) rfl ?_
    refine j_iconst O dX0_ends_14 ?_
    refine j_istore_n (L' := [(3, vI (0)), (2, vI (0)), (0, .ref (adG (xG x) (this))), (1, vI (p1))]) O 3 dX0_ends_15 rfl (by rw [hm]; decide) rfl ?_
    exact (J.sub [2, 3, 1, 0] rfl <| wk_X0_ends_16 O hr hm  _ _  FU _ _ _ h)
  · refine j_iconst O dX0_ends_10 ?_
    exact j_iret O hr dX0_ends_11 h
theorem hy_X0_again : (yX0_again.cls = "DowryBoxes" ∧ yX0_again.cls ≠ "java/lang/invoke/MethodHandle" ∧ yX0_again.cls ≠ "java/lang/invoke/VarHandle" ∧ (parseMethodDescriptor yX0_again.desc).map (fun d => d.parameters.length) = some 2) := by decide +kernel
theorem wk_X0_again_83 {x : Cx} (O : OK x "DowryBoxes" cX0_again 3) (hr : (xM x).sig.returnType = some .int) (hm : xn x = 6) {Q : Int → Wd → Prop} (K20 : Int → Int → Wd → Prop) (X20 : Int → Wd → Prop) (K33 : Int → Int → Wd → Prop) (X33 : Int → Wd → Prop) (this : Nat) (x1 : Int) (x2 : Int) (x3 : Int) (x4 : Int) (x5 : Int) (hK20 : ∀ (y3 : Int) (y4 : Int) (w : Wd), K20 y3 y4 w → J x (TI x Q) w 0 0 20 [(0, .ref (adG (xG x) (this))), (1, vI (x1)), (2, vI (x2)), (3, vI (y3)), (4, vI (y4))] []) (hX20 : ∀ (y3 : Int) (w : Wd), X20 y3 w → J x (TI x Q) w 0 0 95 [(2, vI (x2)), (3, vI (y3))] []) (hK33 : ∀ (y3 : Int) (y5 : Int) (w : Wd), K33 y3 y5 w → J x (TI x Q) w 0 0 33 [(0, .ref (adG (xG x) (this))), (1, vI (x1)), (2, vI (x2)), (3, vI (y3)), (4, vI (x4)), (5, vI (y5))] []) (hX33 : ∀ (y3 : Int) (w : Wd), X33 y3 w → J x (TI x Q) w 0 0 89 [(0, .ref (adG (xG x) (this))), (1, vI (x1)), (2, vI (x2)), (3, vI (y3)), (4, vI (x4))] []) (w : Wd) (h : wp_X0_again_83 Q K20 X20 K33 X33 this x1 x2 x3 x4 x5 w) : J x (TI x Q) w 0 0 83 [(0, .ref (adG (xG x) (this))), (1, vI (x1)), (2, vI (x2)), (3, vI (x3)), (4, vI (x4)), (5, vI (x5))] [] := by
  unfold wp_X0_again_83 at h
  refine j_iinc (L' := [(5, vI (x5 + 1)), (0, .ref (adG (xG x) (this))), (1, vI (x1)), (2, vI (x2)), (3, vI (x3)), (4, vI (x4))]) O 5 dX0_again_83 rfl (by rw [hm]; decide) rfl ?_
  refine j_goto O (tgt := 33) dX0_again_86 (by decide) ?_
  exact (J.sub [1, 2, 3, 4, 5, 0] rfl <| hK33 _ _ _ h)
theorem wk_X0_again_33 {x : Cx} (O : OK x "DowryBoxes" cX0_again 3) (hr : (xM x).sig.returnType = some .int) (hm : xn x = 6) {Q : Int → Wd → Prop} (K20 : Int → Int → Wd → Prop) (X20 : Int → Wd → Prop) (X33 : Int → Wd → Prop) (this : Nat) (x1 : Int) (x2 : Int) (x4 : Int) (hK20 : ∀ (y3 : Int) (y4 : Int) (w : Wd), K20 y3 y4 w → J x (TI x Q) w 0 0 20 [(0, .ref (adG (xG x) (this))), (1, vI (x1)), (2, vI (x2)), (3, vI (y3)), (4, vI (y4))] []) (hX20 : ∀ (y3 : Int) (w : Wd), X20 y3 w → J x (TI x Q) w 0 0 95 [(2, vI (x2)), (3, vI (y3))] []) (hX33 : ∀ (y3 : Int) (w : Wd), X33 y3 w → J x (TI x Q) w 0 0 89 [(0, .ref (adG (xG x) (this))), (1, vI (x1)), (2, vI (x2)), (3, vI (y3)), (4, vI (x4))] []) : ∀ (n : Nat) (x3 : Int) (x5 : Int) (w : Wd), wp_X0_again_33 Q K20 X20 X33 this x1 x2 x4 n x3 x5 w → J x (TI x Q) w 0 0 33 [(0, .ref (adG (xG x) (this))), (1, vI (x1)), (2, vI (x2)), (3, vI (x3)), (4, vI (x4)), (5, vI (x5))] [] := by
  intro n
  induction n with
  | zero => intro x3 x5 w h; exact False.elim h
  | succ n ih =>
    intro x3 x5 w h
    rw [wp_X0_again_33] at h
    refine j_iload O 5 dX0_again_33 rfl ?_
    refine j_bipush (m := 8) O dX0_again_35 bi_8 ?_
    obtain ⟨c1, h⟩ := h
    refine j_icmp_ge O (tgt := 89) dX0_again_37 (by decide) c1 (by decide) h (fun h => ?_) (fun h => ?_)
    · exact (J.sub [0, 1, 2, 3, 4] rfl <| hX33 _ _ h)
    · refine j_aload_n O 0 0 dX0_again_40 rfl rfl ?_
      obtain ⟨e4, h⟩ := h
      refine fin_R O ⟨Nat.zero_le _, Nat.zero_le _⟩ (run_V (As := []) (st := []) O (mt_X0_table (xl x) (xG x) _ _ _ h) e4 cfX0.1 q574 q576 qs5 q121 q577 hy_X0_table (Nat.le_of_ble_eq_true rfl) (Nat.le_of_ble_eq_true rfl) ⟨Nat.zero_le _, Nat.zero_le _⟩ rfl (Nat.le_of_ble_eq_true rfl) dX0_again_41) (fun o2 w3 h => ?_)
      refine j_iload_n O 1 1 dX0_again_44 rfl rfl ?_
      refine j_iload O 4 dX0_again_45 rfl ?_
      obtain ⟨k5, e_k5, g_k5⟩ := h
      subst e_k5
      have h := g_k5
      obtain ⟨e8, h⟩ := h
      refine fin_I O ⟨Nat.zero_le _, Nat.zero_le _⟩ (run_V (As := [vI (x1), vI (x4)]) (st := []) O (mt_X2_notesAt (xl x) (xG x) _ _ _ _ _ h) e8 cfX2.1 q623 q595 q596 q123 q597 hy_X2_notesAt (Nat.le_of_ble_eq_true rfl) (Nat.le_of_ble_eq_true rfl) ⟨Nat.zero_le _, Nat.zero_le _⟩ rfl (Nat.le_of_ble_eq_true rfl) dX0_again_47) (fun r6 w7 h => ?_)
      refine j_aload_n O 0 0 dX0_again_50 rfl rfl ?_
      obtain ⟨e11, h⟩ := h
      refine fin_R O ⟨Nat.zero_le _, Nat.zero_le _⟩ (run_V (As := []) (st := [vI (r6)]) O (mt_X0_table (xl x) (xG x) _ _ _ h) e11 cfX0.1 q574 q576 qs5 q121 q577 hy_X0_table (Nat.le_of_ble_eq_true rfl) (Nat.le_of_ble_eq_true rfl) ⟨Nat.zero_le _, Nat.zero_le _⟩ rfl (Nat.le_of_ble_eq_true rfl) dX0_again_51) (fun o9 w10 h => ?_)
      refine j_iload_n O 1 1 dX0_again_54 rfl rfl ?_
      refine j_iload O 5 dX0_again_55 rfl ?_
      obtain ⟨k12, e_k12, g_k12⟩ := h
      subst e_k12
      have h := g_k12
      obtain ⟨e15, h⟩ := h
      refine fin_I O ⟨Nat.zero_le _, Nat.zero_le _⟩ (run_V (As := [vI (x1), vI (x5)]) (st := [vI (r6)]) O (mt_X2_notesAt (xl x) (xG x) _ _ _ _ _ h) e15 cfX2.1 q623 q595 q596 q123 q597 hy_X2_notesAt (Nat.le_of_ble_eq_true rfl) (Nat.le_of_ble_eq_true rfl) ⟨Nat.zero_le _, Nat.zero_le _⟩ rfl (Nat.le_of_ble_eq_true rfl) dX0_again_57) (fun r13 w14 h => ?_)
      obtain ⟨c16, h⟩ := h
      obtain ⟨c17, h⟩ := h
      refine j_icmp_eq O (tgt := 66) dX0_again_60 (by decide) c16 c17 h (fun h => ?_) (fun h => ?_)
      · refine j_iload_n O 3 3 dX0_again_66 rfl rfl ?_
        refine j_iload_n O 2 2 dX0_again_67 rfl rfl ?_
        obtain ⟨c18, h⟩ := h
        obtain ⟨c19, h⟩ := h
        refine j_icmp_ne O (tgt := 80) dX0_again_68 (by decide) c18 c19 h (fun h => ?_) (fun h => ?_)
        · refine j_iinc (L' := [(3, vI (x3 + 1)), (0, .ref (adG (xG x) (this))), (1, vI (x1)), (2, vI (x2)), (4, vI (x4)), (5, vI (x5))]) O 3 dX0_again_80 rfl (by rw [hm]; decide) rfl ?_
          exact (J.sub [1, 2, 3, 0, 4, 5] rfl <| wk_X0_again_83 O hr hm _ _ _ _ _ _ _ _ _ _ hK20 hX20 ih hX33 _ h)
        · refine j_bipush (m := 10) O dX0_again_71 bi_10 ?_
          refine j_iload O 4 dX0_again_73 rfl ?_
          refine j_imul O dX0_again_75 ?_
          refine j_iload O 5 dX0_again_76 rfl ?_
          refine j_iadd O dX0_again_78 ?_
          exact j_iret O hr dX0_again_79 h
      · refine j_goto O (tgt := 83) dX0_again_63 (by decide) ?_
        exact (J.sub [0, 1, 2, 3, 4, 5] rfl <| wk_X0_again_83 O hr hm _ _ _ _ _ _ _ _ _ _ hK20 hX20 ih hX33 _ h)
theorem wk_X0_again_20 {x : Cx} (O : OK x "DowryBoxes" cX0_again 3) (hr : (xM x).sig.returnType = some .int) (hm : xn x = 6) {Q : Int → Wd → Prop} (X20 : Int → Wd → Prop) (this : Nat) (x1 : Int) (x2 : Int) (hX20 : ∀ (y3 : Int) (w : Wd), X20 y3 w → J x (TI x Q) w 0 0 95 [(2, vI (x2)), (3, vI (y3))] []) : ∀ (n : Nat) (x3 : Int) (x4 : Int) (w : Wd), wp_X0_again_20 Q X20 this x1 x2 n x3 x4 w → J x (TI x Q) w 0 0 20 [(0, .ref (adG (xG x) (this))), (1, vI (x1)), (2, vI (x2)), (3, vI (x3)), (4, vI (x4))] [] := by
  intro n
  induction n with
  | zero => intro x3 x4 w h; exact False.elim h
  | succ n ih =>
    intro x3 x4 w h
    rw [wp_X0_again_20] at h
    refine j_iload O 4 dX0_again_20 rfl ?_
    refine j_bipush (m := 8) O dX0_again_22 bi_8 ?_
    obtain ⟨c1, h⟩ := h
    refine j_icmp_ge O (tgt := 95) dX0_again_24 (by decide) c1 (by decide) h (fun h => ?_) (fun h => ?_)
    · exact (J.sub [2, 3] rfl <| hX20 _ _ h)
    · refine j_iload O 4 dX0_again_27 rfl ?_
      refine j_iconst O dX0_again_29 ?_
      refine j_iadd O dX0_again_30 ?_
      refine j_istore (L' := [(5, vI (x4 + 1)), (0, .ref (adG (xG x) (this))), (1, vI (x1)), (2, vI (x2)), (3, vI (x3)), (4, vI (x4))]) O dX0_again_31 (by rw [hm]; decide) rfl ?_
      refine (J.sub [1, 2, 3, 4, 5, 0] rfl <| wk_X0_again_33 O hr hm _ _ _ _ _ _ _ ih hX20 (fun z2 w3 h => ?_) FU _ _ _ h)
      refine j_iinc (L' := [(4, vI (x4 + 1)), (0, .ref (adG (xG x) (this))), (1, vI (x1)), (2, vI (x2)), (3, vI (z2))]) O 4 dX0_again_89 rfl (by rw [hm]; decide) rfl ?_
      refine j_goto O (tgt := 20) dX0_again_92 (by decide) ?_
      exact (J.sub [1, 2, 3, 4, 0] rfl <| ih _ _ _ h)
theorem mt_X0_again (l : Launch) (G : GW) (this : Nat) (p1 : Int) (p2 : Int) (w : Wd) (Q : Int → Wd → Prop) (h : wp_X0_again this p1 p2 w Q) : MI l G yX0_again cX0_again 6 (.int) 3 0 0 [.ref (adG G (this)), vI (p1), vI (p2)] w Q := by
  refine met_I (fun G => [.ref (adG G (this)), vI (p1), vI (p2)]) (by decide) (fun G => Nat.le_of_ble_eq_true rfl) (fun x O hl hm hr => ?_)
  subst hl
  have O : OK x "DowryBoxes" cX0_again 3 := O
  have h : wp_X0_again this p1 p2 w Q := h
  unfold wp_X0_again at h
  show J x (TI x Q) w 0 0 0 [(0, .ref (adG (xG x) (this))), (1, vI (p1)), (2, vI (p2))] []
  refine j_aload_n O 0 0 dX0_again_0 rfl rfl ?_
  refine j_iload_n O 1 1 dX0_again_1 rfl rfl ?_
  obtain ⟨e3, h⟩ := h
  refine fin_I O ⟨Nat.zero_le _, Nat.zero_le _⟩ (run_V (As := [vI (p1)]) (st := []) O (mt_X0_isBox (xl x) (xG x) _ _ _ _ h) e3 cfX0.1 q582 q584 qs6 q121 q585 hy_X0_isBox (Nat.le_of_ble_eq_true rfl) (Nat.le_of_ble_eq_true rfl) ⟨Nat.zero_le _, Nat.zero_le _⟩ rfl (Nat.le_of_ble_eq_true rfl) dX0_again_2) (fun r1 w2 h => ?_)
  obtain ⟨c4, h⟩ := h
  refine j_if_eq O (tgt := 13) dX0_again_5 (by decide) c4 h (fun h => ?_) (fun h => ?_)
  · refine j_iconst O dX0_again_13 ?_
    exact j_iret O hr dX0_again_14 h
  · refine j_iload_n O 2 2 dX0_again_8 rfl rfl ?_
    refine j_iconst O dX0_again_9 ?_
    obtain ⟨c5, h⟩ := h
    refine j_icmp_ge O (tgt := 15) dX0_again_10 (by decide) c5 (by decide) h (fun h => ?_) (fun h => ?_)
    · refine j_iconst O dX0_again_15 ?_
      refine j_istore_n (L' := [(3, vI (0)), (0, .ref (adG (xG x) (this))), (1, vI (p1)), (2, vI (p2))]) O 3 dX0_again_16 rfl (by rw [hm]; decide) rfl ?_
      refine j_iconst O dX0_again_17 ?_
      refine j_istore (L' := [(4, vI (0)), (3, vI (0)), (0, .ref (adG (xG x) (this))), (1, vI (p1)), (2, vI (p2))]) O dX0_again_18 (by rw [hm]; decide) rfl ?_
      refine (J.sub [2, 3, 4, 1, 0] rfl <| wk_X0_again_20 O hr hm _ _ _ _ (fun z6 w7 h => ?_) FU _ _ _ h)
      refine j_iload_n O 0 2 dX0_again_95 rfl rfl ?_
      refine j_iconst O dX0_again_96 ?_
      obtain ⟨c8, h⟩ := h
      refine j_icmp_ne O (tgt := 104) dX0_again_97 (by decide) c8 (by decide) h (fun h => ?_) (fun h => ?_)
      · refine j_iconst O dX0_again_104 ?_
        exact j_iret O hr dX0_again_105 h
      · refine j_iload_n O 1 3 dX0_again_100 rfl rfl ?_
        refine j_goto O (tgt := 105) dX0_again_101 (by decide) ?_
        exact j_iret O hr dX0_again_105 h
    · refine j_iconst O dX0_again_13 ?_
      exact j_iret O hr dX0_again_14 h
