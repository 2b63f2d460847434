/-! the walks of the component, by program -/
set_option maxRecDepth 100000
theorem hy_X0_sharesFrom : (yX0_sharesFrom.cls = "DowryBoxes" ∧ yX0_sharesFrom.cls ≠ "java/lang/invoke/MethodHandle" ∧ yX0_sharesFrom.cls ≠ "java/lang/invoke/VarHandle" ∧ (parseMethodDescriptor yX0_sharesFrom.desc).map (fun d => d.parameters.length) = some 2) := by decide +kernel
theorem wk_X0_sharesFrom_18 {x : Cx}  (S_X0_sharesFrom : Nat → Int → Int → Wd → (Wd → Prop) → Prop) (D : Nat) (hB : 1 ≤ D) (hS_X0_sharesFrom : ∀ (l : Launch) (G : GW) (this : Nat) (p1 : Int) (p2 : Int) (w : Wd) (Q : Wd → Prop), S_X0_sharesFrom this p1 p2 w Q → MV l G yX0_sharesFrom cX0_sharesFrom 5 D 0 0 [.ref (adG G (this)), vI (p1), vI (p2)] w Q) (O : OK x "DowryBoxes" cX0_sharesFrom (D + 1)) (hr : (xM x).sig.returnType = none) (hm : xn x = 5) {Q : Wd → Prop} (X18 : Int → Wd → Prop) (this : Nat) (x1 : Int) (x2 : Int) (hX18 : ∀ (y3 : Int) (w : Wd), X18 y3 w → J x (TV x Q) w 0 0 42 [(0, .ref (adG (xG x) (this))), (1, vI (x1)), (3, vI (y3))] []) : ∀ (n : Nat) (x3 : Int) (x4 : Int) (w : Wd), wp_X0_sharesFrom_18 S_X0_sharesFrom Q X18 this x1 x2 n x3 x4 w → J x (TV x Q) w 0 0 18 [(0, .ref (adG (xG x) (this))), (1, vI (x1)), (2, vI (x2)), (3, vI (x3)), (4, vI (x4))] [] := by
  intro n
  induction n with
  | zero => intro x3 x4 w h; exact False.elim h
  | succ n ih =>
    intro x3 x4 w h
    rw [wp_X0_sharesFrom_18] at h
    refine j_iload O 4 dX0_sharesFrom_18 rfl ?_
    refine j_iload_n O 2 2 dX0_sharesFrom_20 rfl rfl ?_
    obtain ⟨c1, h⟩ := h
    obtain ⟨c2, h⟩ := h
    refine j_icmp_ge O (tgt := 42) dX0_sharesFrom_21 (by decide) c1 c2 h (fun h => ?_) (fun h => ?_)
    · exact (J.sub [0, 1, 3] rfl <| hX18 _ _ h)
    · refine j_iload_n O 3 3 dX0_sharesFrom_24 rfl rfl ?_
      refine j_aload_n O 0 0 dX0_sharesFrom_25 rfl rfl ?_
      refine j_getA O cfX0 25 (Nat.le_of_ble_eq_true rfl) ⟨_, rfl⟩ q383 dX0_sharesFrom_26 h (fun k3 h => ?_)
      refine j_iload O 4 dX0_sharesFrom_29 rfl ?_
      refine j_iald O dX0_sharesFrom_31 h (fun v4 h => ?_)
      obtain ⟨c5, h⟩ := h
      obtain ⟨c6, h⟩ := h
      refine j_mmin O q1408 q537 q135 q538 (by omega) (Nat.le_of_ble_eq_true rfl) dX0_sharesFrom_32 c5 c6 ?_
      refine j_istore_n (L' := [(3, vI (iMn x3 v4)), (0, .ref (adG (xG x) (this))), (1, vI (x1)), (2, vI (x2)), (4, vI (x4))]) O 3 dX0_sharesFrom_35 rfl (by rw [hm]; decide) rfl ?_
      refine j_iinc (L' := [(4, vI (x4 + 1)), (3, vI (iMn x3 v4)), (0, .ref (adG (xG x) (this))), (1, vI (x1)), (2, vI (x2))]) O 4 dX0_sharesFrom_36 rfl (by rw [hm]; decide) rfl ?_
      refine j_goto O (tgt := 18) dX0_sharesFrom_39 (by decide) ?_
      exact (J.sub [2, 3, 4, 1, 0] rfl <| ih _ _ _ h)
theorem wk_X0_sharesFrom_73 {x : Cx}  (S_X0_sharesFrom : Nat → Int → Int → Wd → (Wd → Prop) → Prop) (D : Nat) (hB : 1 ≤ D) (hS_X0_sharesFrom : ∀ (l : Launch) (G : GW) (this : Nat) (p1 : Int) (p2 : Int) (w : Wd) (Q : Wd → Prop), S_X0_sharesFrom this p1 p2 w Q → MV l G yX0_sharesFrom cX0_sharesFrom 5 D 0 0 [.ref (adG G (this)), vI (p1), vI (p2)] w Q) (O : OK x "DowryBoxes" cX0_sharesFrom (D + 1)) (hr : (xM x).sig.returnType = none) (hm : xn x = 5) {Q : Wd → Prop} (this : Nat) (x1 : Int) (x2 : Int) : ∀ (n : Nat) (x3 : Int) (w : Wd), wp_X0_sharesFrom_73 S_X0_sharesFrom Q this x1 x2 n x3 w → J x (TV x Q) w 0 0 73 [(0, .ref (adG (xG x) (this))), (1, vI (x1)), (2, vI (x2)), (3, vI (x3))] [] := by
  intro n
  induction n with
  | zero => intro x3 w h; exact False.elim h
  | succ n ih =>
    intro x3 w h
    rw [wp_X0_sharesFrom_73] at h
    refine j_iload_n O 3 3 dX0_sharesFrom_73 rfl rfl ?_
    refine j_iload_n O 2 2 dX0_sharesFrom_74 rfl rfl ?_
    obtain ⟨c1, h⟩ := h
    obtain ⟨c2, h⟩ := h
    refine j_icmp_ge O (tgt := 129) dX0_sharesFrom_75 (by decide) c1 c2 h (fun h => ?_) (fun h => ?_)
    · exact j_vret O hr dX0_sharesFrom_129 h
    · refine j_aload_n O 0 0 dX0_sharesFrom_78 rfl rfl ?_
      refine j_getA O cfX0 26 (Nat.le_of_ble_eq_true rfl) ⟨_, rfl⟩ q384 dX0_sharesFrom_79 h (fun k3 h => ?_)
      refine j_iload_n O 1 1 dX0_sharesFrom_82 rfl rfl ?_
      refine j_iload_n O 3 3 dX0_sharesFrom_83 rfl rfl ?_
      refine j_iast O dX0_sharesFrom_84 h (fun w4 h => ?_)
      refine j_aload_n O 0 0 dX0_sharesFrom_85 rfl rfl ?_
      refine j_getA O cfX0 25 (Nat.le_of_ble_eq_true rfl) ⟨_, rfl⟩ q383 dX0_sharesFrom_86 h (fun k5 h => ?_)
      refine j_iload_n O 3 3 dX0_sharesFrom_89 rfl rfl ?_
      refine j_dup2_11 O dX0_sharesFrom_90 rfl rfl ?_
      refine j_iald O dX0_sharesFrom_91 h (fun v6 h => ?_)
      refine j_aload_n O 0 0 dX0_sharesFrom_92 rfl rfl ?_
      refine j_getA O cfX0 28 (Nat.le_of_ble_eq_true rfl) ⟨_, rfl⟩ q386 dX0_sharesFrom_93 h (fun k7 h => ?_)
      refine j_iload_n O 1 1 dX0_sharesFrom_96 rfl rfl ?_
      refine j_iald O dX0_sharesFrom_97 h (fun v8 h => ?_)
      refine j_iadd O dX0_sharesFrom_98 ?_
      refine j_iast O dX0_sharesFrom_99 h (fun w9 h => ?_)
      refine j_aload_n O 0 0 dX0_sharesFrom_100 rfl rfl ?_
      refine j_iload_n O 1 1 dX0_sharesFrom_101 rfl rfl ?_
      refine j_iconst O dX0_sharesFrom_102 ?_
      refine j_iadd O dX0_sharesFrom_103 ?_
      refine j_iload_n O 2 2 dX0_sharesFrom_104 rfl rfl ?_
      obtain ⟨e11, h⟩ := h
      refine fin_V O ⟨Nat.zero_le _, Nat.zero_le _⟩ (run_V (As := [vI ((x1 + 1)), vI (x2)]) (st := []) O (hS_X0_sharesFrom (xl x) (xG x) _ _ _ _ _ h) e11 cfX0.1 q1440 q1442 qs42 q121 q1443 hy_X0_sharesFrom (by omega) (Nat.le_of_ble_eq_true rfl) ⟨Nat.zero_le _, Nat.zero_le _⟩ rfl (Nat.le_of_ble_eq_true rfl) dX0_sharesFrom_105) (fun w10 h => ?_)
      refine j_aload_n O 0 0 dX0_sharesFrom_108 rfl rfl ?_
      refine j_getA O cfX0 25 (Nat.le_of_ble_eq_true rfl) ⟨_, rfl⟩ q383 dX0_sharesFrom_109 h (fun k12 h => ?_)
      refine j_iload_n O 3 3 dX0_sharesFrom_112 rfl rfl ?_
      refine j_dup2_11 O dX0_sharesFrom_113 rfl rfl ?_
      refine j_iald O dX0_sharesFrom_114 h (fun v13 h => ?_)
      refine j_aload_n O 0 0 dX0_sharesFrom_115 rfl rfl ?_
      refine j_getA O cfX0 28 (Nat.le_of_ble_eq_true rfl) ⟨_, rfl⟩ q386 dX0_sharesFrom_116 h (fun k14 h => ?_)
      refine j_iload_n O 1 1 dX0_sharesFrom_119 rfl rfl ?_
      refine j_iald O dX0_sharesFrom_120 h (fun v15 h => ?_)
      refine j_isub O dX0_sharesFrom_121 ?_
      refine j_iast O dX0_sharesFrom_122 h (fun w16 h => ?_)
      refine j_iinc (L' := [(3, vI (x3 + 1)), (0, .ref (adG (xG x) (this))), (1, vI (x1)), (2, vI (x2))]) O 3 dX0_sharesFrom_123 rfl (by rw [hm]; decide) rfl ?_
      refine j_goto O (tgt := 73) dX0_sharesFrom_126 (by decide) ?_
      exact (J.sub [1, 2, 3, 0] rfl <| ih _ _ h)
theorem mt_X0_sharesFrom  (S_X0_sharesFrom : Nat → Int → Int → Wd → (Wd → Prop) → Prop) (D : Nat) (hB : 1 ≤ D) (hS_X0_sharesFrom : ∀ (l : Launch) (G : GW) (this : Nat) (p1 : Int) (p2 : Int) (w : Wd) (Q : Wd → Prop), S_X0_sharesFrom this p1 p2 w Q → MV l G yX0_sharesFrom cX0_sharesFrom 5 D 0 0 [.ref (adG G (this)), vI (p1), vI (p2)] w Q) (l : Launch) (G : GW) (this : Nat) (p1 : Int) (p2 : Int) (w : Wd) (Q : Wd → Prop) (h : wp_X0_sharesFrom S_X0_sharesFrom this p1 p2 w Q) : MV l G yX0_sharesFrom cX0_sharesFrom 5 (D + 1) 0 0 [.ref (adG G (this)), vI (p1), vI (p2)] w Q := by
  refine met_V (fun G => [.ref (adG G (this)), vI (p1), vI (p2)]) (by decide) (fun G => Nat.le_of_ble_eq_true rfl) (fun x O hl hm hr _ => ?_)
  subst hl
  have O : OK x "DowryBoxes" cX0_sharesFrom (D + 1) := O
  have h : wp_X0_sharesFrom S_X0_sharesFrom this p1 p2 w Q := h
  unfold wp_X0_sharesFrom at h
  show J x (TV x Q) w 0 0 0 [(0, .ref (adG (xG x) (this))), (1, vI (p1)), (2, vI (p2))] []
  refine j_iload_n O 1 1 dX0_sharesFrom_0 rfl rfl ?_
  refine j_aload_n O 0 0 dX0_sharesFrom_1 rfl rfl ?_
  refine j_getR O cfX0 2 (Nat.le_of_ble_eq_true rfl) ⟨_, rfl⟩ q360 dX0_sharesFrom_2 h (fun o1 h => ?_)
  obtain ⟨k2, e_k2, g_k2⟩ := h
  subst e_k2
  have h := g_k2
  refine j_getIN O cfX1 5 (Nat.le_of_ble_eq_true rfl) (.inl rfl) (lw_n q242 rfl) dX0_sharesFrom_5 h (fun v3 h => ?_)
  obtain ⟨c4, h⟩ := h
  obtain ⟨c5, h⟩ := h
  refine j_icmp_ne O (tgt := 71) dX0_sharesFrom_8 (by decide) c4 c5 h (fun h => ?_) (fun h => ?_)
  · refine j_iconst O dX0_sharesFrom_71 ?_
    refine j_istore_n (L' := [(3, vI (0)), (0, .ref (adG (xG x) (this))), (1, vI (p1)), (2, vI (p2))]) O 3 dX0_sharesFrom_72 rfl (by rw [hm]; decide) rfl ?_
    exact (J.sub [1, 2, 3, 0] rfl <| wk_X0_sharesFrom_73  S_X0_sharesFrom D hB hS_X0_sharesFrom O hr hm  _ _ _  FU _ _ h)
  · refine j_ldcw (m := 1000000) O dX0_sharesFrom_11 q1352 ld_1000000 ?_
    refine j_istore_n (L' := [(3, vI (1000000)), (0, .ref (adG (xG x) (this))), (1, vI (p1)), (2, vI (p2))]) O 3 dX0_sharesFrom_14 rfl (by rw [hm]; decide) rfl ?_
    refine j_iconst O dX0_sharesFrom_15 ?_
    refine j_istore (L' := [(4, vI (0)), (3, vI (1000000)), (0, .ref (adG (xG x) (this))), (1, vI (p1)), (2, vI (p2))]) O dX0_sharesFrom_16 (by rw [hm]; decide) rfl ?_
    refine (J.sub [2, 3, 4, 1, 0] rfl <| wk_X0_sharesFrom_18  S_X0_sharesFrom D hB hS_X0_sharesFrom O hr hm _ _ _ _ (fun z6 w7 h => ?_) FU _ _ _ h)
    refine j_iload_n O 2 3 dX0_sharesFrom_42 rfl rfl ?_
    refine j_aload_n O 0 0 dX0_sharesFrom_43 rfl rfl ?_
    refine j_getI O cfX0 29 (Nat.le_of_ble_eq_true rfl) (.inl rfl) q387 dX0_sharesFrom_44 h (fun v8 h => ?_)
    obtain ⟨c9, h⟩ := h
    obtain ⟨c10, h⟩ := h
    refine j_icmp_gt O (tgt := 51) dX0_sharesFrom_47 (by decide) c9 c10 h (fun h => ?_) (fun h => ?_)
    · refine j_aload_n O 0 0 dX0_sharesFrom_51 rfl rfl ?_
      refine j_iload_n O 2 3 dX0_sharesFrom_52 rfl rfl ?_
      refine j_putI O cfX0 29 (Nat.le_of_ble_eq_true rfl) rfl q387 rfl dX0_sharesFrom_53 h (fun w11 h => ?_)
      refine j_aload_n O 0 0 dX0_sharesFrom_56 rfl rfl ?_
      refine j_getA O cfX0 26 (Nat.le_of_ble_eq_true rfl) ⟨_, rfl⟩ q384 dX0_sharesFrom_57 h (fun k12 h => ?_)
      refine j_iconst O dX0_sharesFrom_60 ?_
      refine j_aload_n O 0 0 dX0_sharesFrom_61 rfl rfl ?_
      refine j_getA O cfX0 27 (Nat.le_of_ble_eq_true rfl) ⟨_, rfl⟩ q385 dX0_sharesFrom_62 h (fun k13 h => ?_)
      refine j_iconst O dX0_sharesFrom_65 ?_
      refine j_iload_n O 1 1 dX0_sharesFrom_66 rfl rfl ?_
      refine j_copyI O q1444 (by omega) (Nat.le_of_ble_eq_true rfl) dX0_sharesFrom_67 h (fun w14 h => ?_)
      exact j_vret O hr dX0_sharesFrom_70 h
    · exact j_vret O hr dX0_sharesFrom_50 h
theorem mtR_X0_sharesFrom : ∀ (n : Nat), ∀ (l : Launch) (G : GW) (this : Nat) (p1 : Int) (p2 : Int) (w : Wd) (Q : Wd → Prop), wpR_X0_sharesFrom n this p1 p2 w Q → MV l G yX0_sharesFrom cX0_sharesFrom 5 (1 + 1 * n) 0 0 [.ref (adG G (this)), vI (p1), vI (p2)] w Q := by
  intro n
  induction n with
  | zero => intro l G this p1 p2 w Q h; exact False.elim h
  | succ n ih =>
    intro l G this p1 p2 w Q h
    exact mt_X0_sharesFrom (wpR_X0_sharesFrom n) (1 + 1 * n) (Nat.le_add_right _ _) ih l G this p1 p2 w Q h
theorem hy_X0_shares : (yX0_shares.cls = "DowryBoxes" ∧ yX0_shares.cls ≠ "java/lang/invoke/MethodHandle" ∧ yX0_shares.cls ≠ "java/lang/invoke/VarHandle" ∧ (parseMethodDescriptor yX0_shares.desc).map (fun d => d.parameters.length) = some 2) := by decide +kernel
theorem wk_X0_shares_28 {x : Cx} (O : OK x "DowryBoxes" cX0_shares 109) (hr : (xM x).sig.returnType = some .int) (hm : xn x = 4) {Q : Int → Wd → Prop} (X28 : Wd → Prop) (this : Nat) (x1 : Int) (x2 : Int) (hX28 : ∀  (w : Wd), X28  w → J x (TI x Q) w 0 0 67 [(0, .ref (adG (xG x) (this))), (1, vI (x1)), (2, vI (x2))] []) : ∀ (n : Nat) (x3 : Int) (w : Wd), wp_X0_shares_28 Q X28 this x1 x2 n x3 w → J x (TI x Q) w 0 0 28 [(0, .ref (adG (xG x) (this))), (1, vI (x1)), (2, vI (x2)), (3, vI (x3))] [] := by
  intro n
  induction n with
  | zero => intro x3 w h; exact False.elim h
  | succ n ih =>
    intro x3 w h
    rw [wp_X0_shares_28] at h
    refine j_iload_n O 3 3 dX0_shares_28 rfl rfl ?_
    refine j_aload_n O 0 0 dX0_shares_29 rfl rfl ?_
    refine j_getR O cfX0 2 (Nat.le_of_ble_eq_true rfl) ⟨_, rfl⟩ q360 dX0_shares_30 h (fun o1 h => ?_)
    obtain ⟨k2, e_k2, g_k2⟩ := h
    subst e_k2
    have h := g_k2
    refine j_getIN O cfX1 5 (Nat.le_of_ble_eq_true rfl) (.inl rfl) (lw_n q242 rfl) dX0_shares_33 h (fun v3 h => ?_)
    obtain ⟨c4, h⟩ := h
    obtain ⟨c5, h⟩ := h
    refine j_icmp_ge O (tgt := 67) dX0_shares_36 (by decide) c4 c5 h (fun h => ?_) (fun h => ?_)
    · exact (J.sub [0, 1, 2] rfl <| hX28  _ h)
    · refine j_aload_n O 0 0 dX0_shares_39 rfl rfl ?_
      refine j_getA O cfX0 28 (Nat.le_of_ble_eq_true rfl) ⟨_, rfl⟩ q386 dX0_shares_40 h (fun k6 h => ?_)
      refine j_iload_n O 3 3 dX0_shares_43 rfl rfl ?_
      refine j_aload_n O 0 0 dX0_shares_44 rfl rfl ?_
      refine j_aload_n O 0 0 dX0_shares_45 rfl rfl ?_
      refine j_getR O cfX0 2 (Nat.le_of_ble_eq_true rfl) ⟨_, rfl⟩ q360 dX0_shares_46 h (fun o7 h => ?_)
      obtain ⟨k8, e_k8, g_k8⟩ := h
      subst e_k8
      have h := g_k8
      refine j_getIN O cfX1 10 (Nat.le_of_ble_eq_true rfl) (.inl rfl) (lw_n q252 rfl) dX0_shares_49 h (fun v9 h => ?_)
      refine j_aload_n O 0 0 dX0_shares_52 rfl rfl ?_
      obtain ⟨e12, h⟩ := h
      refine fin_R O ⟨Nat.zero_le _, Nat.zero_le _⟩ (run_V (As := []) (st := [vI (v9), .ref (adG (xG x) (this)), vI (x3), .ref (adG (xG x) (k6))]) O (mt_X0_table (xl x) (xG x) _ _ _ h) e12 cfX0.1 q574 q576 qs5 q121 q577 hy_X0_table (Nat.le_of_ble_eq_true rfl) (Nat.le_of_ble_eq_true rfl) ⟨Nat.zero_le _, Nat.zero_le _⟩ rfl (Nat.le_of_ble_eq_true rfl) dX0_shares_53) (fun o10 w11 h => ?_)
      refine j_iload_n O 3 3 dX0_shares_56 rfl rfl ?_
      obtain ⟨e15, h⟩ := h
      refine fin_I O ⟨Nat.zero_le _, Nat.zero_le _⟩ (run_V (As := [vI (v9), vR (xG x) (o10), vI (x3)]) (st := [vI (x3), .ref (adG (xG x) (k6))]) O (mt_X0_lasts (xl x) (xG x) _ _ _ _ _ _ h) e15 cfX0.1 q608 q610 qs7 q121 q611 hy_X0_lasts (Nat.le_of_ble_eq_true rfl) (Nat.le_of_ble_eq_true rfl) ⟨Nat.zero_le _, Nat.zero_le _⟩ rfl (Nat.le_of_ble_eq_true rfl) dX0_shares_57) (fun r13 w14 h => ?_)
      refine j_iast O dX0_shares_60 h (fun w16 h => ?_)
      refine j_iinc (L' := [(3, vI (x3 + 1)), (0, .ref (adG (xG x) (this))), (1, vI (x1)), (2, vI (x2))]) O 3 dX0_shares_61 rfl (by rw [hm]; decide) rfl ?_
      refine j_goto O (tgt := 28) dX0_shares_64 (by decide) ?_
      exact (J.sub [1, 2, 3, 0] rfl <| ih _ _ h)
theorem mt_X0_shares (l : Launch) (G : GW) (this : Nat) (p1 : Int) (p2 : Int) (w : Wd) (Q : Int → Wd → Prop) (h : wp_X0_shares this p1 p2 w Q) : MI l G yX0_shares cX0_shares 4 (.int) 109 0 0 [.ref (adG G (this)), vI (p1), vI (p2)] w Q := by
  refine met_I (fun G => [.ref (adG G (this)), vI (p1), vI (p2)]) (by decide) (fun G => Nat.le_of_ble_eq_true rfl) (fun x O hl hm hr => ?_)
  subst hl
  have O : OK x "DowryBoxes" cX0_shares 109 := O
  have h : wp_X0_shares this p1 p2 w Q := h
  unfold wp_X0_shares at h
  show J x (TI x Q) w 0 0 0 [(0, .ref (adG (xG x) (this))), (1, vI (p1)), (2, vI (p2))] []
  refine j_iload_n O 1 1 dX0_shares_0 rfl rfl ?_
  refine j_iconst O dX0_shares_1 ?_
  refine j_iconst O dX0_shares_2 ?_
  refine fin_I O ⟨Nat.zero_le _, Nat.zero_le _⟩ (run_S (As := [vI (p1), vI (1), vI (3)]) (st := []) O (mt_X0_in (xl x) (xG x) _ _ _ _ _ h) q465 q466 q121 q467 hy_X0_in.2 (Nat.le_of_ble_eq_true rfl) (Nat.le_of_ble_eq_true rfl) ⟨Nat.zero_le _, Nat.zero_le _⟩ rfl (Nat.le_of_ble_eq_true rfl) dX0_shares_3) (fun r1 w2 h => ?_)
  obtain ⟨c3, h⟩ := h
  refine j_if_eq O (tgt := 24) dX0_shares_6 (by decide) c3 h (fun h => ?_) (fun h => ?_)
  · refine j_iconst O dX0_shares_24 ?_
    exact j_iret O hr dX0_shares_25 h
  · refine j_iload_n O 2 2 dX0_shares_9 rfl rfl ?_
    refine j_iconst O dX0_shares_10 ?_
    refine j_aload_n O 0 0 dX0_shares_11 rfl rfl ?_
    refine j_getR O cfX0 2 (Nat.le_of_ble_eq_true rfl) ⟨_, rfl⟩ q360 dX0_shares_12 h (fun o4 h => ?_)
    obtain ⟨k5, e_k5, g_k5⟩ := h
    subst e_k5
    have h := g_k5
    refine j_getIN O cfX1 5 (Nat.le_of_ble_eq_true rfl) (.inl rfl) (lw_n q242 rfl) dX0_shares_15 h (fun v6 h => ?_)
    refine fin_I O ⟨Nat.zero_le _, Nat.zero_le _⟩ (run_S (As := [vI (p2), vI (0), vI (v6)]) (st := []) O (mt_X0_in (xl x) (xG x) _ _ _ _ _ h) q465 q466 q121 q467 hy_X0_in.2 (Nat.le_of_ble_eq_true rfl) (Nat.le_of_ble_eq_true rfl) ⟨Nat.zero_le _, Nat.zero_le _⟩ rfl (Nat.le_of_ble_eq_true rfl) dX0_shares_18) (fun r7 w8 h => ?_)
    obtain ⟨c9, h⟩ := h
    refine j_if_ne O (tgt := 26) dX0_shares_21 (by decide) c9 h (fun h => ?_) (fun h => ?_)
    · refine j_iconst O dX0_shares_26 ?_
      refine j_istore_n (L' := [(3, vI (0)), (0, .ref (adG (xG x) (this))), (1, vI (p1)), (2, vI (p2))]) O 3 dX0_shares_27 rfl (by rw [hm]; decide) rfl ?_
      refine (J.sub [1, 2, 3, 0] rfl <| wk_X0_shares_28 O hr hm _ _ _ _ (fun w10 h => ?_) FU _ _ h)
      refine j_aload_n O 0 0 dX0_shares_67 rfl rfl ?_
      refine j_iconst O dX0_shares_68 ?_
      refine j_putI O cfX0 29 (Nat.le_of_ble_eq_true rfl) rfl q387 rfl dX0_shares_69 h (fun w11 h => ?_)
      refine j_aload_n O 0 0 dX0_shares_72 rfl rfl ?_
      refine j_iconst O dX0_shares_73 ?_
      refine j_iload_n O 1 1 dX0_shares_74 rfl rfl ?_
      obtain ⟨e13, h⟩ := h
      refine fin_V O ⟨Nat.zero_le _, Nat.zero_le _⟩ (run_V (As := [vI (0), vI (p1)]) (st := []) O (mtR_X0_sharesFrom 8 (xl x) (xG x) _ _ _ _ _ h) e13 cfX0.1 q1440 q1442 qs42 q121 q1443 hy_X0_sharesFrom (Nat.le_of_ble_eq_true rfl) (Nat.le_of_ble_eq_true rfl) ⟨Nat.zero_le _, Nat.zero_le _⟩ rfl (Nat.le_of_ble_eq_true rfl) dX0_shares_75) (fun w12 h => ?_)
      refine j_iload_n O 2 2 dX0_shares_78 rfl rfl ?_
      obtain ⟨c14, h⟩ := h
      refine j_if_ne O (tgt := 89) dX0_shares_79 (by decide) c14 h (fun h => ?_) (fun h => ?_)
      · refine j_aload_n O 0 0 dX0_shares_89 rfl rfl ?_
        refine j_getA O cfX0 27 (Nat.le_of_ble_eq_true rfl) ⟨_, rfl⟩ q385 dX0_shares_90 h (fun k15 h => ?_)
        refine j_iload_n O 2 2 dX0_shares_93 rfl rfl ?_
        refine j_iconst O dX0_shares_94 ?_
        refine j_isub O dX0_shares_95 ?_
        refine j_iald O dX0_shares_96 h (fun v16 h => ?_)
        exact j_iret O hr dX0_shares_97 h
      · refine j_aload_n O 0 0 dX0_shares_82 rfl rfl ?_
        refine j_getI O cfX0 29 (Nat.le_of_ble_eq_true rfl) (.inl rfl) q387 dX0_shares_83 h (fun v17 h => ?_)
        refine j_goto O (tgt := 97) dX0_shares_86 (by decide) ?_
        exact j_iret O hr dX0_shares_97 h
    · refine j_iconst O dX0_shares_24 ?_
      exact j_iret O hr dX0_shares_25 h
theorem hy_X0_clashing : (yX0_clashing.cls = "DowryBoxes" ∧ yX0_clashing.cls ≠ "java/lang/invoke/MethodHandle" ∧ yX0_clashing.cls ≠ "java/lang/invoke/VarHandle" ∧ (parseMethodDescriptor yX0_clashing.desc).map (fun d => d.parameters.length) = some 4) := by decide +kernel
theorem wk_X0_clashing_6 {x : Cx} (O : OK x "DowryBoxes" cX0_clashing 3) (hr : (xM x).sig.returnType = some .int) (hm : xn x = 8) {Q : Int → Wd → Prop} (this : Nat) (x1 : Int) (x2 : Int) (x3 : Int) (x4 : Int) : ∀ (n : Nat) (x5 : Int) (x6 : Int) (w : Wd), wp_X0_clashing_6 Q this x1 x2 x3 x4 n x5 x6 w → J x (TI x Q) w 0 0 6 [(0, .ref (adG (xG x) (this))), (1, vI (x1)), (2, vI (x2)), (3, vI (x3)), (4, vI (x4)), (5, vI (x5)), (6, vI (x6))] [] := by
  intro n
  induction n with
  | zero => intro x5 x6 w h; exact False.elim h
  | succ n ih =>
    intro x5 x6 w h
    rw [wp_X0_clashing_6] at h
    refine j_iload O 6 dX0_clashing_6 rfl ?_
    refine j_bipush (m := 8) O dX0_clashing_8 bi_8 ?_
    obtain ⟨c1, h⟩ := h
    refine j_icmp_ge O (tgt := 66) dX0_clashing_10 (by decide) c1 (by decide) h (fun h => ?_) (fun h => ?_)
    · refine j_iload O 5 dX0_clashing_66 rfl ?_
      exact j_iret O hr dX0_clashing_68 h
    · refine j_aload_n O 0 0 dX0_clashing_13 rfl rfl ?_
      obtain ⟨e4, h⟩ := h
      refine fin_R O ⟨Nat.zero_le _, Nat.zero_le _⟩ (run_V (As := []) (st := []) O (mt_X0_table (xl x) (xG x) _ _ _ h) e4 cfX0.1 q574 q576 qs5 q121 q577 hy_X0_table (Nat.le_of_ble_eq_true rfl) (Nat.le_of_ble_eq_true rfl) ⟨Nat.zero_le _, Nat.zero_le _⟩ rfl (Nat.le_of_ble_eq_true rfl) dX0_clashing_14) (fun o2 w3 h => ?_)
      refine j_iload_n O 1 1 dX0_clashing_17 rfl rfl ?_
      refine j_iload O 6 dX0_clashing_18 rfl ?_
      obtain ⟨k5, e_k5, g_k5⟩ := h
      subst e_k5
      have h := g_k5
      obtain ⟨e8, h⟩ := h
      refine fin_I O ⟨Nat.zero_le _, Nat.zero_le _⟩ (run_V (As := [vI (x1), vI (x6)]) (st := []) O (mt_X2_notesAt (xl x) (xG x) _ _ _ _ _ h) e8 cfX2.1 q623 q595 q596 q123 q597 hy_X2_notesAt (Nat.le_of_ble_eq_true rfl) (Nat.le_of_ble_eq_true rfl) ⟨Nat.zero_le _, Nat.zero_le _⟩ rfl (Nat.le_of_ble_eq_true rfl) dX0_clashing_20) (fun r6 w7 h => ?_)
      refine j_iload O 4 dX0_clashing_23 rfl ?_
      refine j_iconst O dX0_clashing_25 ?_
      refine j_ixor O dX0_clashing_26 ?_
      refine j_iand O dX0_clashing_27 ?_
      refine j_istore (L' := [(7, vI (ian r6 (ixo x4 ((-1))))), (0, .ref (adG (xG x) (this))), (1, vI (x1)), (2, vI (x2)), (3, vI (x3)), (4, vI (x4)), (5, vI (x5)), (6, vI (x6))]) O dX0_clashing_28 (by rw [hm]; decide) rfl ?_
      refine j_iload O 6 dX0_clashing_30 rfl ?_
      refine j_iload O 0 dX0_clashing_32 rfl ?_
      refine j_iconst O dX0_clashing_34 ?_
      refine j_ishl O dX0_clashing_35 ?_
      refine j_iload O 0 dX0_clashing_36 rfl ?_
      refine j_iconst O dX0_clashing_38 ?_
      refine j_ishr O dX0_clashing_39 ?_
      refine j_ior O dX0_clashing_40 ?_
      refine j_aload_n O 1 0 dX0_clashing_41 rfl rfl ?_
      obtain ⟨e11, h⟩ := h
      refine fin_R O ⟨Nat.zero_le _, Nat.zero_le _⟩ (run_V (As := []) (st := [vI (ior (isl (ian r6 (ixo x4 ((-1)))) 1) (isr (ian r6 (ixo x4 ((-1)))) 1)), vI (x5)]) O (mt_X0_table (xl x) (xG x) _ _ _ h) e11 cfX0.1 q574 q576 qs5 q121 q577 hy_X0_table (Nat.le_of_ble_eq_true rfl) (Nat.le_of_ble_eq_true rfl) ⟨Nat.zero_le _, Nat.zero_le _⟩ rfl (Nat.le_of_ble_eq_true rfl) dX0_clashing_42) (fun o9 w10 h => ?_)
      refine j_iload_n O 3 2 dX0_clashing_45 rfl rfl ?_
      refine j_iload O 7 dX0_clashing_46 rfl ?_
      refine j_iload_n O 4 3 dX0_clashing_48 rfl rfl ?_
      refine j_iadd O dX0_clashing_49 ?_
      refine j_bipush (m := 8) O dX0_clashing_50 bi_8 ?_
      refine j_irem O dX0_clashing_52 h (fun h => ?_)
      obtain ⟨k12, e_k12, g_k12⟩ := h
      subst e_k12
      have h := g_k12
      obtain ⟨e15, h⟩ := h
      refine fin_I O ⟨Nat.zero_le _, Nat.zero_le _⟩ (run_V (As := [vI (x2), vI ((Int.tmod (x6 + x3) 8))]) (st := [vI (ior (isl (ian r6 (ixo x4 ((-1)))) 1) (isr (ian r6 (ixo x4 ((-1)))) 1)), vI (x5)]) O (mt_X2_notesAt (xl x) (xG x) _ _ _ _ _ h) e15 cfX2.1 q623 q595 q596 q123 q597 hy_X2_notesAt (Nat.le_of_ble_eq_true rfl) (Nat.le_of_ble_eq_true rfl) ⟨Nat.zero_le _, Nat.zero_le _⟩ rfl (Nat.le_of_ble_eq_true rfl) dX0_clashing_53) (fun r13 w14 h => ?_)
      refine j_iand O dX0_clashing_56 ?_
      refine j_ior O dX0_clashing_57 ?_
      refine j_istore (L' := [(5, vI (ior x5 (ian (ior (isl (ian r6 (ixo x4 ((-1)))) 1) (isr (ian r6 (ixo x4 ((-1)))) 1)) r13))), (7, vI (ian r6 (ixo x4 ((-1))))), (0, .ref (adG (xG x) (this))), (1, vI (x1)), (2, vI (x2)), (3, vI (x3)), (4, vI (x4)), (6, vI (x6))]) O dX0_clashing_58 (by rw [hm]; decide) rfl ?_
      refine j_iinc (L' := [(6, vI (x6 + 1)), (5, vI (ior x5 (ian (ior (isl (ian r6 (ixo x4 ((-1)))) 1) (isr (ian r6 (ixo x4 ((-1)))) 1)) r13))), (7, vI (ian r6 (ixo x4 ((-1))))), (0, .ref (adG (xG x) (this))), (1, vI (x1)), (2, vI (x2)), (3, vI (x3)), (4, vI (x4))]) O 7 dX0_clashing_60 rfl (by rw [hm]; decide) rfl ?_
      refine j_goto O (tgt := 6) dX0_clashing_63 (by decide) ?_
      exact (J.sub [3, 4, 5, 6, 7, 1, 0] rfl <| ih _ _ _ h)
theorem mt_X0_clashing (l : Launch) (G : GW) (this : Nat) (p1 : Int) (p2 : Int) (p3 : Int) (p4 : Int) (w : Wd) (Q : Int → Wd → Prop) (h : wp_X0_clashing this p1 p2 p3 p4 w Q) : MI l G yX0_clashing cX0_clashing 8 (.int) 3 0 0 [.ref (adG G (this)), vI (p1), vI (p2), vI (p3), vI (p4)] w Q := by
  refine met_I (fun G => [.ref (adG G (this)), vI (p1), vI (p2), vI (p3), vI (p4)]) (by decide) (fun G => Nat.le_of_ble_eq_true rfl) (fun x O hl hm hr => ?_)
  subst hl
  have O : OK x "DowryBoxes" cX0_clashing 3 := O
  have h : wp_X0_clashing this p1 p2 p3 p4 w Q := h
  unfold wp_X0_clashing at h
  show J x (TI x Q) w 0 0 0 [(0, .ref (adG (xG x) (this))), (1, vI (p1)), (2, vI (p2)), (3, vI (p3)), (4, vI (p4))] []
  refine j_iconst O dX0_clashing_0 ?_
  refine j_istore (L' := [(5, vI (0)), (0, .ref (adG (xG x) (this))), (1, vI (p1)), (2, vI (p2)), (3, vI (p3)), (4, vI (p4))]) O dX0_clashing_1 (by rw [hm]; decide) rfl ?_
  refine j_iconst O dX0_clashing_3 ?_
  refine j_istore (L' := [(6, vI (0)), (5, vI (0)), (0, .ref (adG (xG x) (this))), (1, vI (p1)), (2, vI (p2)), (3, vI (p3)), (4, vI (p4))]) O dX0_clashing_4 (by rw [hm]; decide) rfl ?_
  exact (J.sub [2, 3, 4, 5, 6, 1, 0] rfl <| wk_X0_clashing_6 O hr hm  _ _ _ _ _  FU _ _ _ h)
theorem hy_X0_areTwo : (yX0_areTwo.cls = "DowryBoxes" ∧ yX0_areTwo.cls ≠ "java/lang/invoke/MethodHandle" ∧ yX0_areTwo.cls ≠ "java/lang/invoke/VarHandle" ∧ (parseMethodDescriptor yX0_areTwo.desc).map (fun d => d.parameters.length) = some 2) := by decide +kernel
theorem mt_X0_areTwo (l : Launch) (G : GW) (this : Nat) (p1 : Int) (p2 : Int) (w : Wd) (Q : Int → Wd → Prop) (h : wp_X0_areTwo this p1 p2 w Q) : MI l G yX0_areTwo cX0_areTwo 3 (.boolean) 3 0 0 [.ref (adG G (this)), vI (p1), vI (p2)] w Q := by
  refine met_I (fun G => [.ref (adG G (this)), vI (p1), vI (p2)]) (by decide) (fun G => Nat.le_of_ble_eq_true rfl) (fun x O hl hm hr => ?_)
  subst hl
  have O : OK x "DowryBoxes" cX0_areTwo 3 := O
  have h : wp_X0_areTwo this p1 p2 w Q := h
  unfold wp_X0_areTwo at h
  show J x (TI x Q) w 0 0 0 [(0, .ref (adG (xG x) (this))), (1, vI (p1)), (2, vI (p2))] []
  refine j_aload_n O 0 0 dX0_areTwo_0 rfl rfl ?_
  refine j_iload_n O 1 1 dX0_areTwo_1 rfl rfl ?_
  obtain ⟨e3, h⟩ := h
  refine fin_I O ⟨Nat.zero_le _, Nat.zero_le _⟩ (run_V (As := [vI (p1)]) (st := []) O (mt_X0_isBox (xl x) (xG x) _ _ _ _ h) e3 cfX0.1 q582 q584 qs6 q121 q585 hy_X0_isBox (Nat.le_of_ble_eq_true rfl) (Nat.le_of_ble_eq_true rfl) ⟨Nat.zero_le _, Nat.zero_le _⟩ rfl (Nat.le_of_ble_eq_true rfl) dX0_areTwo_2) (fun r1 w2 h => ?_)
  obtain ⟨c4, h⟩ := h
  refine j_if_eq O (tgt := 25) dX0_areTwo_5 (by decide) c4 h (fun h => ?_) (fun h => ?_)
  · refine j_iconst O dX0_areTwo_25 ?_
    exact j_zret O hr dX0_areTwo_26 h
  · refine j_aload_n O 0 0 dX0_areTwo_8 rfl rfl ?_
    refine j_iload_n O 2 2 dX0_areTwo_9 rfl rfl ?_
    obtain ⟨e7, h⟩ := h
    refine fin_I O ⟨Nat.zero_le _, Nat.zero_le _⟩ (run_V (As := [vI (p2)]) (st := []) O (mt_X0_isBox (xl x) (xG x) _ _ _ _ h) e7 cfX0.1 q582 q584 qs6 q121 q585 hy_X0_isBox (Nat.le_of_ble_eq_true rfl) (Nat.le_of_ble_eq_true rfl) ⟨Nat.zero_le _, Nat.zero_le _⟩ rfl (Nat.le_of_ble_eq_true rfl) dX0_areTwo_10) (fun r5 w6 h => ?_)
    obtain ⟨c8, h⟩ := h
    refine j_if_eq O (tgt := 25) dX0_areTwo_13 (by decide) c8 h (fun h => ?_) (fun h => ?_)
    · refine j_iconst O dX0_areTwo_25 ?_
      exact j_zret O hr dX0_areTwo_26 h
    · refine j_iload_n O 1 1 dX0_areTwo_16 rfl rfl ?_
      refine j_iload_n O 2 2 dX0_areTwo_17 rfl rfl ?_
      obtain ⟨c9, h⟩ := h
      obtain ⟨c10, h⟩ := h
      refine j_icmp_eq O (tgt := 25) dX0_areTwo_18 (by decide) c9 c10 h (fun h => ?_) (fun h => ?_)
      · refine j_iconst O dX0_areTwo_25 ?_
        exact j_zret O hr dX0_areTwo_26 h
      · refine j_iconst O dX0_areTwo_21 ?_
        refine j_goto O (tgt := 26) dX0_areTwo_22 (by decide) ?_
        exact j_zret O hr dX0_areTwo_26 h
theorem hy_X0_filed : (yX0_filed.cls = "DowryBoxes" ∧ yX0_filed.cls ≠ "java/lang/invoke/MethodHandle" ∧ yX0_filed.cls ≠ "java/lang/invoke/VarHandle" ∧ (parseMethodDescriptor yX0_filed.desc).map (fun d => d.parameters.length) = some 4) := by decide +kernel
theorem wk_X0_filed_85 {x : Cx} (O : OK x "DowryBoxes" cX0_filed 4) (hr : (xM x).sig.returnType = some .int) (hm : xn x = 9) {Q : Int → Wd → Prop} (K39 : Int → Int → Int → Wd → Prop) (X39 : Int → Int → Wd → Prop) (this : Nat) (x1 : Int) (x2 : Int) (x3 : Int) (x4 : Int) (x5 : Int) (x6 : Int) (x7 : Int) (hK39 : ∀ (y5 : Int) (y6 : Int) (y7 : Int) (w : Wd), K39 y5 y6 y7 w → J x (TI x Q) w 0 0 39 [(0, .ref (adG (xG x) (this))), (1, vI (x1)), (2, vI (x2)), (3, vI (x3)), (4, vI (x4)), (5, vI (y5)), (6, vI (y6)), (7, vI (y7))] []) (hX39 : ∀ (y5 : Int) (y6 : Int) (w : Wd), X39 y5 y6 w → J x (TI x Q) w 0 0 91 [(0, .ref (adG (xG x) (this))), (1, vI (x1)), (2, vI (x2)), (3, vI (x3)), (4, vI (x4)), (5, vI (y5)), (6, vI (y6))] []) (w : Wd) (h : wp_X0_filed_85 Q K39 X39 this x1 x2 x3 x4 x5 x6 x7 w) : J x (TI x Q) w 0 0 85 [(0, .ref (adG (xG x) (this))), (1, vI (x1)), (2, vI (x2)), (3, vI (x3)), (4, vI (x4)), (5, vI (x5)), (6, vI (x6)), (7, vI (x7))] [] := by
  unfold wp_X0_filed_85 at h
  refine j_iinc (L' := [(7, vI (x7 + 1)), (0, .ref (adG (xG x) (this))), (1, vI (x1)), (2, vI (x2)), (3, vI (x3)), (4, vI (x4)), (5, vI (x5)), (6, vI (x6))]) O 7 dX0_filed_85 rfl (by rw [hm]; decide) rfl ?_
  refine j_goto O (tgt := 39) dX0_filed_88 (by decide) ?_
  exact (J.sub [1, 2, 3, 4, 5, 6, 7, 0] rfl <| hK39 _ _ _ _ h)
theorem wk_X0_filed_39 {x : Cx} (O : OK x "DowryBoxes" cX0_filed 4) (hr : (xM x).sig.returnType = some .int) (hm : xn x = 9) {Q : Int → Wd → Prop} (X39 : Int → Int → Wd → Prop) (this : Nat) (x1 : Int) (x2 : Int) (x3 : Int) (x4 : Int) (hX39 : ∀ (y5 : Int) (y6 : Int) (w : Wd), X39 y5 y6 w → J x (TI x Q) w 0 0 91 [(0, .ref (adG (xG x) (this))), (1, vI (x1)), (2, vI (x2)), (3, vI (x3)), (4, vI (x4)), (5, vI (y5)), (6, vI (y6))] []) : ∀ (n : Nat) (x5 : Int) (x6 : Int) (x7 : Int) (w : Wd), wp_X0_filed_39 Q X39 this x1 x2 x3 x4 n x5 x6 x7 w → J x (TI x Q) w 0 0 39 [(0, .ref (adG (xG x) (this))), (1, vI (x1)), (2, vI (x2)), (3, vI (x3)), (4, vI (x4)), (5, vI (x5)), (6, vI (x6)), (7, vI (x7))] [] := by
  intro n
  induction n with
  | zero => intro x5 x6 x7 w h; exact False.elim h
  | succ n ih =>
    intro x5 x6 x7 w h
    rw [wp_X0_filed_39] at h
    refine j_iload O 7 dX0_filed_39 rfl ?_
    refine j_sipush (m := 256) O dX0_filed_41 si_256 ?_
    obtain ⟨c1, h⟩ := h
    refine j_icmp_ge O (tgt := 91) dX0_filed_44 (by decide) c1 (by decide) h (fun h => ?_) (fun h => ?_)
    · exact (J.sub [0, 1, 2, 3, 4, 5, 6] rfl <| hX39 _ _ _ h)
    · refine j_iload O 7 dX0_filed_47 rfl ?_
      refine fin_I O ⟨Nat.zero_le _, Nat.zero_le _⟩ (run_S (As := [vI (x7)]) (st := []) O (mt_X0_ones (xl x) (xG x) _ _ _ h) q617 q600 q121 q601 hy_X0_ones.2 (Nat.le_of_ble_eq_true rfl) (Nat.le_of_ble_eq_true rfl) ⟨Nat.zero_le _, Nat.zero_le _⟩ rfl (Nat.le_of_ble_eq_true rfl) dX0_filed_49) (fun r2 w3 h => ?_)
      refine j_aload_n O 0 0 dX0_filed_52 rfl rfl ?_
      refine j_iload_n O 1 1 dX0_filed_53 rfl rfl ?_
      refine j_iload_n O 2 2 dX0_filed_54 rfl rfl ?_
      refine j_iload_n O 3 3 dX0_filed_55 rfl rfl ?_
      refine j_iload O 7 dX0_filed_56 rfl ?_
      obtain ⟨e6, h⟩ := h
      refine fin_I O ⟨Nat.zero_le _, Nat.zero_le _⟩ (run_V (As := [vI (x1), vI (x2), vI (x3), vI (x7)]) (st := [vI (r2)]) O (mt_X0_clashing (xl x) (xG x) _ _ _ _ _ _ _ h) e6 cfX0.1 q1432 q1434 qs41 q121 q1435 hy_X0_clashing (Nat.le_of_ble_eq_true rfl) (Nat.le_of_ble_eq_true rfl) ⟨Nat.zero_le _, Nat.zero_le _⟩ rfl (Nat.le_of_ble_eq_true rfl) dX0_filed_58) (fun r4 w5 h => ?_)
      refine fin_I O ⟨Nat.zero_le _, Nat.zero_le _⟩ (run_S (As := [vI (r4)]) (st := [vI (r2)]) O (mt_X0_ones (xl x) (xG x) _ _ _ h) q617 q600 q121 q601 hy_X0_ones.2 (Nat.le_of_ble_eq_true rfl) (Nat.le_of_ble_eq_true rfl) ⟨Nat.zero_le _, Nat.zero_le _⟩ rfl (Nat.le_of_ble_eq_true rfl) dX0_filed_61) (fun r7 w8 h => ?_)
      refine j_iadd O dX0_filed_64 ?_
      refine j_istore (L' := [(8, vI (r2 + r7)), (0, .ref (adG (xG x) (this))), (1, vI (x1)), (2, vI (x2)), (3, vI (x3)), (4, vI (x4)), (5, vI (x5)), (6, vI (x6)), (7, vI (x7))]) O dX0_filed_65 (by rw [hm]; decide) rfl ?_
      refine j_iload O 0 dX0_filed_67 rfl ?_
      refine j_iload O 7 dX0_filed_69 rfl ?_
      obtain ⟨c9, h⟩ := h
      obtain ⟨c10, h⟩ := h
      refine j_icmp_lt O (tgt := 77) dX0_filed_71 (by decide) c9 c10 h (fun h => ?_) (fun h => ?_)
      · refine j_iload O 0 dX0_filed_77 rfl ?_
        refine j_istore (L' := [(6, vI (r2 + r7)), (8, vI (r2 + r7)), (0, .ref (adG (xG x) (this))), (1, vI (x1)), (2, vI (x2)), (3, vI (x3)), (4, vI (x4)), (5, vI (x5)), (7, vI (x7))]) O dX0_filed_79 (by rw [hm]; decide) rfl ?_
        refine j_iload O 8 dX0_filed_81 rfl ?_
        refine j_istore (L' := [(5, vI (x7)), (6, vI (r2 + r7)), (8, vI (r2 + r7)), (0, .ref (adG (xG x) (this))), (1, vI (x1)), (2, vI (x2)), (3, vI (x3)), (4, vI (x4)), (7, vI (x7))]) O dX0_filed_83 (by rw [hm]; decide) rfl ?_
        exact (J.sub [3, 4, 5, 6, 7, 0, 1, 8] rfl <| wk_X0_filed_85 O hr hm _ _ _ _ _ _ _ _ _ _ ih hX39 _ h)
      · refine j_goto O (tgt := 85) dX0_filed_74 (by decide) ?_
        exact (J.sub [1, 2, 3, 4, 5, 6, 7, 8] rfl <| wk_X0_filed_85 O hr hm _ _ _ _ _ _ _ _ _ _ ih hX39 _ h)
theorem mt_X0_filed (l : Launch) (G : GW) (this : Nat) (p1 : Int) (p2 : Int) (p3 : Int) (p4 : Int) (w : Wd) (Q : Int → Wd → Prop) (h : wp_X0_filed this p1 p2 p3 p4 w Q) : MI l G yX0_filed cX0_filed 9 (.int) 4 0 0 [.ref (adG G (this)), vI (p1), vI (p2), vI (p3), vI (p4)] w Q := by
  refine met_I (fun G => [.ref (adG G (this)), vI (p1), vI (p2), vI (p3), vI (p4)]) (by decide) (fun G => Nat.le_of_ble_eq_true rfl) (fun x O hl hm hr => ?_)
  subst hl
  have O : OK x "DowryBoxes" cX0_filed 4 := O
  have h : wp_X0_filed this p1 p2 p3 p4 w Q := h
  unfold wp_X0_filed at h
  show J x (TI x Q) w 0 0 0 [(0, .ref (adG (xG x) (this))), (1, vI (p1)), (2, vI (p2)), (3, vI (p3)), (4, vI (p4))] []
  refine j_aload_n O 0 0 dX0_filed_0 rfl rfl ?_
  refine j_iload_n O 1 1 dX0_filed_1 rfl rfl ?_
  refine j_iload_n O 2 2 dX0_filed_2 rfl rfl ?_
  obtain ⟨e3, h⟩ := h
  refine fin_I O ⟨Nat.zero_le _, Nat.zero_le _⟩ (run_V (As := [vI (p1), vI (p2)]) (st := []) O (mt_X0_areTwo (xl x) (xG x) _ _ _ _ _ h) e3 cfX0.1 q1413 q1415 qs39 q121 q1416 hy_X0_areTwo (Nat.le_of_ble_eq_true rfl) (Nat.le_of_ble_eq_true rfl) ⟨Nat.zero_le _, Nat.zero_le _⟩ rfl (Nat.le_of_ble_eq_true rfl) dX0_filed_3) (fun r1 w2 h => ?_)
  obtain ⟨c4, h⟩ := h
  refine j_if_eq O (tgt := 26) dX0_filed_6 (by decide) c4 h (fun h => ?_) (fun h => ?_)
  · refine j_iconst O dX0_filed_26 ?_
    exact j_iret O hr dX0_filed_27 h
  · refine j_iload_n O 3 3 dX0_filed_9 rfl rfl ?_
    refine fin_I O ⟨Nat.zero_le _, Nat.zero_le _⟩ (run_S (As := [vI (p3)]) (st := []) O (mt_X0_isBar (xl x) (xG x) _ _ _ h) q712 q713 q121 q714 hy_X0_isBar.2 (Nat.le_of_ble_eq_true rfl) (Nat.le_of_ble_eq_true rfl) ⟨Nat.zero_le _, Nat.zero_le _⟩ rfl (Nat.le_of_ble_eq_true rfl) dX0_filed_10) (fun r5 w6 h => ?_)
    obtain ⟨c7, h⟩ := h
    refine j_if_eq O (tgt := 26) dX0_filed_13 (by decide) c7 h (fun h => ?_) (fun h => ?_)
    · refine j_iconst O dX0_filed_26 ?_
      exact j_iret O hr dX0_filed_27 h
    · refine j_iload O 4 dX0_filed_16 rfl ?_
      refine j_iconst O dX0_filed_18 ?_
      refine j_iconst O dX0_filed_19 ?_
      refine fin_I O ⟨Nat.zero_le _, Nat.zero_le _⟩ (run_S (As := [vI (p4), vI (0), vI (2)]) (st := []) O (mt_X0_in (xl x) (xG x) _ _ _ _ _ h) q465 q466 q121 q467 hy_X0_in.2 (Nat.le_of_ble_eq_true rfl) (Nat.le_of_ble_eq_true rfl) ⟨Nat.zero_le _, Nat.zero_le _⟩ rfl (Nat.le_of_ble_eq_true rfl) dX0_filed_20) (fun r8 w9 h => ?_)
      obtain ⟨c10, h⟩ := h
      refine j_if_ne O (tgt := 28) dX0_filed_23 (by decide) c10 h (fun h => ?_) (fun h => ?_)
      · refine j_iconst O dX0_filed_28 ?_
        refine j_istore (L' := [(5, vI (0)), (0, .ref (adG (xG x) (this))), (1, vI (p1)), (2, vI (p2)), (3, vI (p3)), (4, vI (p4))]) O dX0_filed_29 (by rw [hm]; decide) rfl ?_
        refine j_ldcw (m := 1000000) O dX0_filed_31 q1352 ld_1000000 ?_
        refine j_istore (L' := [(6, vI (1000000)), (5, vI (0)), (0, .ref (adG (xG x) (this))), (1, vI (p1)), (2, vI (p2)), (3, vI (p3)), (4, vI (p4))]) O dX0_filed_34 (by rw [hm]; decide) rfl ?_
        refine j_iconst O dX0_filed_36 ?_
        refine j_istore (L' := [(7, vI (0)), (6, vI (1000000)), (5, vI (0)), (0, .ref (adG (xG x) (this))), (1, vI (p1)), (2, vI (p2)), (3, vI (p3)), (4, vI (p4))]) O dX0_filed_37 (by rw [hm]; decide) rfl ?_
        refine (J.sub [3, 4, 5, 6, 7, 2, 1, 0] rfl <| wk_X0_filed_39 O hr hm _ _ _ _ _ _ (fun z11 z12 w13 h => ?_) FU _ _ _ _ h)
        refine j_iload O 4 dX0_filed_91 rfl ?_
        obtain ⟨c14, h⟩ := h
        refine j_if_ne O (tgt := 101) dX0_filed_93 (by decide) c14 h (fun h => ?_) (fun h => ?_)
        · refine j_iload O 4 dX0_filed_101 rfl ?_
          refine j_iconst O dX0_filed_103 ?_
          obtain ⟨c15, h⟩ := h
          refine j_icmp_ne O (tgt := 112) dX0_filed_104 (by decide) c15 (by decide) h (fun h => ?_) (fun h => ?_)
          · refine j_aload_n O 0 0 dX0_filed_112 rfl rfl ?_
            refine j_iload_n O 1 1 dX0_filed_113 rfl rfl ?_
            refine j_iload_n O 2 2 dX0_filed_114 rfl rfl ?_
            refine j_iload_n O 3 3 dX0_filed_115 rfl rfl ?_
            refine j_iload O 5 dX0_filed_116 rfl ?_
            obtain ⟨e18, h⟩ := h
            refine fin_I O ⟨Nat.zero_le _, Nat.zero_le _⟩ (run_V (As := [vI (p1), vI (p2), vI (p3), vI (z11)]) (st := []) O (mt_X0_clashing (xl x) (xG x) _ _ _ _ _ _ _ h) e18 cfX0.1 q1432 q1434 qs41 q121 q1435 hy_X0_clashing (Nat.le_of_ble_eq_true rfl) (Nat.le_of_ble_eq_true rfl) ⟨Nat.zero_le _, Nat.zero_le _⟩ rfl (Nat.le_of_ble_eq_true rfl) dX0_filed_118) (fun r16 w17 h => ?_)
            exact j_iret O hr dX0_filed_121 h
          · refine j_iload O 5 dX0_filed_107 rfl ?_
            refine j_goto O (tgt := 121) dX0_filed_109 (by decide) ?_
            exact j_iret O hr dX0_filed_121 h
        · refine j_iload O 6 dX0_filed_96 rfl ?_
          refine j_goto O (tgt := 121) dX0_filed_98 (by decide) ?_
          exact j_iret O hr dX0_filed_121 h
      · refine j_iconst O dX0_filed_26 ?_
        exact j_iret O hr dX0_filed_27 h
theorem hy_X0_next : (yX0_next.cls = "DowryBoxes" ∧ yX0_next.cls ≠ "java/lang/invoke/MethodHandle" ∧ yX0_next.cls ≠ "java/lang/invoke/VarHandle" ∧ (parseMethodDescriptor yX0_next.desc).map (fun d => d.parameters.length) = some 2) := by decide +kernel
theorem mt_X0_next (l : Launch) (G : GW) (p1 : Int) (p2 : Int) (w : Wd) (Q : Int → Wd → Prop) (h : wp_X0_next p1 p2 w Q) : MI l G yX0_next cX0_next 2 (.int) 3 0 0 [vI (p1), vI (p2)] w Q := by
  refine met_I (fun G => [vI (p1), vI (p2)]) (by decide) (fun G => Nat.le_of_ble_eq_true rfl) (fun x O hl hm hr => ?_)
  subst hl
  have O : OK x "DowryBoxes" cX0_next 3 := O
  have h : wp_X0_next p1 p2 w Q := h
  unfold wp_X0_next at h
  show J x (TI x Q) w 0 0 0 [(0, vI (p1)), (1, vI (p2))] []
  refine j_iload_n O 0 0 dX0_next_0 rfl rfl ?_
  refine j_iload_n O 1 1 dX0_next_1 rfl rfl ?_
  refine j_iconst O dX0_next_2 ?_
  refine j_ishl O dX0_next_3 ?_
  refine j_iand O dX0_next_4 ?_
  refine fin_I O ⟨Nat.zero_le _, Nat.zero_le _⟩ (run_S (As := [vI ((ian p1 (isl p2 1)))]) (st := []) O (mt_X0_ones (xl x) (xG x) _ _ _ h) q617 q600 q121 q601 hy_X0_ones.2 (Nat.le_of_ble_eq_true rfl) (Nat.le_of_ble_eq_true rfl) ⟨Nat.zero_le _, Nat.zero_le _⟩ rfl (Nat.le_of_ble_eq_true rfl) dX0_next_5) (fun r1 w2 h => ?_)
  refine j_iload_n O 0 0 dX0_next_8 rfl rfl ?_
  refine j_iload_n O 1 1 dX0_next_9 rfl rfl ?_
  refine j_iconst O dX0_next_10 ?_
  refine j_ishr O dX0_next_11 ?_
  refine j_iand O dX0_next_12 ?_
  refine fin_I O ⟨Nat.zero_le _, Nat.zero_le _⟩ (run_S (As := [vI ((ian p1 (isr p2 1)))]) (st := [vI (r1)]) O (mt_X0_ones (xl x) (xG x) _ _ _ h) q617 q600 q121 q601 hy_X0_ones.2 (Nat.le_of_ble_eq_true rfl) (Nat.le_of_ble_eq_true rfl) ⟨Nat.zero_le _, Nat.zero_le _⟩ rfl (Nat.le_of_ble_eq_true rfl) dX0_next_13) (fun r3 w4 h => ?_)
  refine j_iadd O dX0_next_16 ?_
  exact j_iret O hr dX0_next_17 h
theorem hy_X0_clashes : (yX0_clashes.cls = "DowryBoxes" ∧ yX0_clashes.cls ≠ "java/lang/invoke/MethodHandle" ∧ yX0_clashes.cls ≠ "java/lang/invoke/VarHandle" ∧ (parseMethodDescriptor yX0_clashes.desc).map (fun d => d.parameters.length) = some 3) := by decide +kernel
theorem wk_X0_clashes_6 {x : Cx} (O : OK x "DowryBoxes" cX0_clashes 4) (hr : (xM x).sig.returnType = some .int) (hm : xn x = 6) {Q : Int → Wd → Prop} (this : Nat) (x1 : Int) (x2 : Int) (x3 : Int) : ∀ (n : Nat) (x4 : Int) (x5 : Int) (w : Wd), wp_X0_clashes_6 Q this x1 x2 x3 n x4 x5 w → J x (TI x Q) w 0 0 6 [(0, .ref (adG (xG x) (this))), (1, vI (x1)), (2, vI (x2)), (3, vI (x3)), (4, vI (x4)), (5, vI (x5))] [] := by
  intro n
  induction n with
  | zero => intro x4 x5 w h; exact False.elim h
  | succ n ih =>
    intro x4 x5 w h
    rw [wp_X0_clashes_6] at h
    refine j_iload O 5 dX0_clashes_6 rfl ?_
    refine j_bipush (m := 8) O dX0_clashes_8 bi_8 ?_
    obtain ⟨c1, h⟩ := h
    refine j_icmp_ge O (tgt := 52) dX0_clashes_10 (by decide) c1 (by decide) h (fun h => ?_) (fun h => ?_)
    · refine j_iload O 4 dX0_clashes_52 rfl ?_
      exact j_iret O hr dX0_clashes_54 h
    · refine j_iload O 4 dX0_clashes_13 rfl ?_
      refine j_aload_n O 0 0 dX0_clashes_15 rfl rfl ?_
      obtain ⟨e4, h⟩ := h
      refine fin_R O ⟨Nat.zero_le _, Nat.zero_le _⟩ (run_V (As := []) (st := [vI (x4)]) O (mt_X0_table (xl x) (xG x) _ _ _ h) e4 cfX0.1 q574 q576 qs5 q121 q577 hy_X0_table (Nat.le_of_ble_eq_true rfl) (Nat.le_of_ble_eq_true rfl) ⟨Nat.zero_le _, Nat.zero_le _⟩ rfl (Nat.le_of_ble_eq_true rfl) dX0_clashes_16) (fun o2 w3 h => ?_)
      refine j_iload_n O 1 1 dX0_clashes_19 rfl rfl ?_
      refine j_iload O 5 dX0_clashes_20 rfl ?_
      obtain ⟨k5, e_k5, g_k5⟩ := h
      subst e_k5
      have h := g_k5
      obtain ⟨e8, h⟩ := h
      refine fin_I O ⟨Nat.zero_le _, Nat.zero_le _⟩ (run_V (As := [vI (x1), vI (x5)]) (st := [vI (x4)]) O (mt_X2_notesAt (xl x) (xG x) _ _ _ _ _ h) e8 cfX2.1 q623 q595 q596 q123 q597 hy_X2_notesAt (Nat.le_of_ble_eq_true rfl) (Nat.le_of_ble_eq_true rfl) ⟨Nat.zero_le _, Nat.zero_le _⟩ rfl (Nat.le_of_ble_eq_true rfl) dX0_clashes_22) (fun r6 w7 h => ?_)
      refine j_aload_n O 0 0 dX0_clashes_25 rfl rfl ?_
      obtain ⟨e11, h⟩ := h
      refine fin_R O ⟨Nat.zero_le _, Nat.zero_le _⟩ (run_V (As := []) (st := [vI (r6), vI (x4)]) O (mt_X0_table (xl x) (xG x) _ _ _ h) e11 cfX0.1 q574 q576 qs5 q121 q577 hy_X0_table (Nat.le_of_ble_eq_true rfl) (Nat.le_of_ble_eq_true rfl) ⟨Nat.zero_le _, Nat.zero_le _⟩ rfl (Nat.le_of_ble_eq_true rfl) dX0_clashes_26) (fun o9 w10 h => ?_)
      refine j_iload_n O 2 2 dX0_clashes_29 rfl rfl ?_
      refine j_iload O 5 dX0_clashes_30 rfl ?_
      refine j_iload_n O 3 3 dX0_clashes_32 rfl rfl ?_
      refine j_iadd O dX0_clashes_33 ?_
      refine j_bipush (m := 8) O dX0_clashes_34 bi_8 ?_
      refine j_irem O dX0_clashes_36 h (fun h => ?_)
      obtain ⟨k12, e_k12, g_k12⟩ := h
      subst e_k12
      have h := g_k12
      obtain ⟨e15, h⟩ := h
      refine fin_I O ⟨Nat.zero_le _, Nat.zero_le _⟩ (run_V (As := [vI (x2), vI ((Int.tmod (x5 + x3) 8))]) (st := [vI (r6), vI (x4)]) O (mt_X2_notesAt (xl x) (xG x) _ _ _ _ _ h) e15 cfX2.1 q623 q595 q596 q123 q597 hy_X2_notesAt (Nat.le_of_ble_eq_true rfl) (Nat.le_of_ble_eq_true rfl) ⟨Nat.zero_le _, Nat.zero_le _⟩ rfl (Nat.le_of_ble_eq_true rfl) dX0_clashes_37) (fun r13 w14 h => ?_)
      refine fin_I O ⟨Nat.zero_le _, Nat.zero_le _⟩ (run_S (As := [vI (r6), vI (r13)]) (st := [vI (x4)]) O (mt_X0_next (xl x) (xG x) _ _ _ _ h) q1421 q1422 q121 q1423 hy_X0_next.2 (Nat.le_of_ble_eq_true rfl) (Nat.le_of_ble_eq_true rfl) ⟨Nat.zero_le _, Nat.zero_le _⟩ rfl (Nat.le_of_ble_eq_true rfl) dX0_clashes_40) (fun r16 w17 h => ?_)
      refine j_iadd O dX0_clashes_43 ?_
      refine j_istore (L' := [(4, vI (x4 + r16)), (0, .ref (adG (xG x) (this))), (1, vI (x1)), (2, vI (x2)), (3, vI (x3)), (5, vI (x5))]) O dX0_clashes_44 (by rw [hm]; decide) rfl ?_
      refine j_iinc (L' := [(5, vI (x5 + 1)), (4, vI (x4 + r16)), (0, .ref (adG (xG x) (this))), (1, vI (x1)), (2, vI (x2)), (3, vI (x3))]) O 5 dX0_clashes_46 rfl (by rw [hm]; decide) rfl ?_
      refine j_goto O (tgt := 6) dX0_clashes_49 (by decide) ?_
      exact (J.sub [2, 3, 4, 5, 1, 0] rfl <| ih _ _ _ h)
theorem mt_X0_clashes (l : Launch) (G : GW) (this : Nat) (p1 : Int) (p2 : Int) (p3 : Int) (w : Wd) (Q : Int → Wd → Prop) (h : wp_X0_clashes this p1 p2 p3 w Q) : MI l G yX0_clashes cX0_clashes 6 (.int) 4 0 0 [.ref (adG G (this)), vI (p1), vI (p2), vI (p3)] w Q := by
  refine met_I (fun G => [.ref (adG G (this)), vI (p1), vI (p2), vI (p3)]) (by decide) (fun G => Nat.le_of_ble_eq_true rfl) (fun x O hl hm hr => ?_)
  subst hl
  have O : OK x "DowryBoxes" cX0_clashes 4 := O
  have h : wp_X0_clashes this p1 p2 p3 w Q := h
  unfold wp_X0_clashes at h
  show J x (TI x Q) w 0 0 0 [(0, .ref (adG (xG x) (this))), (1, vI (p1)), (2, vI (p2)), (3, vI (p3))] []
  refine j_iconst O dX0_clashes_0 ?_
  refine j_istore (L' := [(4, vI (0)), (0, .ref (adG (xG x) (this))), (1, vI (p1)), (2, vI (p2)), (3, vI (p3))]) O dX0_clashes_1 (by rw [hm]; decide) rfl ?_
  refine j_iconst O dX0_clashes_3 ?_
  refine j_istore (L' := [(5, vI (0)), (4, vI (0)), (0, .ref (adG (xG x) (this))), (1, vI (p1)), (2, vI (p2)), (3, vI (p3))]) O dX0_clashes_4 (by rw [hm]; decide) rfl ?_
  exact (J.sub [2, 3, 4, 5, 1, 0] rfl <| wk_X0_clashes_6 O hr hm  _ _ _ _  FU _ _ _ h)
theorem hy_X0_best : (yX0_best.cls = "DowryBoxes" ∧ yX0_best.cls ≠ "java/lang/invoke/MethodHandle" ∧ yX0_best.cls ≠ "java/lang/invoke/VarHandle" ∧ (parseMethodDescriptor yX0_best.desc).map (fun d => d.parameters.length) = some 3) := by decide +kernel
theorem wk_X0_best_56 {x : Cx} (O : OK x "DowryBoxes" cX0_best 5) (hr : (xM x).sig.returnType = some .int) (hm : xn x = 6) {Q : Int → Wd → Prop} (K26 : Int → Int → Wd → Prop) (X26 : Int → Wd → Prop) (this : Nat) (x1 : Int) (x2 : Int) (x3 : Int) (x4 : Int) (x5 : Int) (hK26 : ∀ (y4 : Int) (y5 : Int) (w : Wd), K26 y4 y5 w → J x (TI x Q) w 0 0 26 [(0, .ref (adG (xG x) (this))), (1, vI (x1)), (2, vI (x2)), (3, vI (x3)), (4, vI (y4)), (5, vI (y5))] []) (hX26 : ∀ (y4 : Int) (w : Wd), X26 y4 w → J x (TI x Q) w 0 0 62 [(0, .ref (adG (xG x) (this))), (1, vI (x1)), (2, vI (x2)), (3, vI (x3)), (4, vI (y4))] []) (w : Wd) (h : wp_X0_best_56 Q K26 X26 this x1 x2 x3 x4 x5 w) : J x (TI x Q) w 0 0 56 [(0, .ref (adG (xG x) (this))), (1, vI (x1)), (2, vI (x2)), (3, vI (x3)), (4, vI (x4)), (5, vI (x5))] [] := by
  unfold wp_X0_best_56 at h
  refine j_iinc (L' := [(5, vI (x5 + 1)), (0, .ref (adG (xG x) (this))), (1, vI (x1)), (2, vI (x2)), (3, vI (x3)), (4, vI (x4))]) O 5 dX0_best_56 rfl (by rw [hm]; decide) rfl ?_
  refine j_goto O (tgt := 26) dX0_best_59 (by decide) ?_
  exact (J.sub [1, 2, 3, 4, 5, 0] rfl <| hK26 _ _ _ h)
theorem wk_X0_best_26 {x : Cx} (O : OK x "DowryBoxes" cX0_best 5) (hr : (xM x).sig.returnType = some .int) (hm : xn x = 6) {Q : Int → Wd → Prop} (X26 : Int → Wd → Prop) (this : Nat) (x1 : Int) (x2 : Int) (x3 : Int) (hX26 : ∀ (y4 : Int) (w : Wd), X26 y4 w → J x (TI x Q) w 0 0 62 [(0, .ref (adG (xG x) (this))), (1, vI (x1)), (2, vI (x2)), (3, vI (x3)), (4, vI (y4))] []) : ∀ (n : Nat) (x4 : Int) (x5 : Int) (w : Wd), wp_X0_best_26 Q X26 this x1 x2 x3 n x4 x5 w → J x (TI x Q) w 0 0 26 [(0, .ref (adG (xG x) (this))), (1, vI (x1)), (2, vI (x2)), (3, vI (x3)), (4, vI (x4)), (5, vI (x5))] [] := by
  intro n
  induction n with
  | zero => intro x4 x5 w h; exact False.elim h
  | succ n ih =>
    intro x4 x5 w h
    rw [wp_X0_best_26] at h
    refine j_iload O 5 dX0_best_26 rfl ?_
    refine j_bipush (m := 8) O dX0_best_28 bi_8 ?_
    obtain ⟨c1, h⟩ := h
    refine j_icmp_ge O (tgt := 62) dX0_best_30 (by decide) c1 (by decide) h (fun h => ?_) (fun h => ?_)
    · exact (J.sub [0, 1, 2, 3, 4] rfl <| hX26 _ _ h)
    · refine j_aload_n O 0 0 dX0_best_33 rfl rfl ?_
      refine j_iload_n O 1 1 dX0_best_34 rfl rfl ?_
      refine j_iload_n O 2 2 dX0_best_35 rfl rfl ?_
      refine j_iload O 5 dX0_best_36 rfl ?_
      obtain ⟨e4, h⟩ := h
      refine fin_I O ⟨Nat.zero_le _, Nat.zero_le _⟩ (run_V (As := [vI (x1), vI (x2), vI (x5)]) (st := []) O (mt_X0_clashes (xl x) (xG x) _ _ _ _ _ _ h) e4 cfX0.1 q1417 q1419 qs40 q121 q1420 hy_X0_clashes (Nat.le_of_ble_eq_true rfl) (Nat.le_of_ble_eq_true rfl) ⟨Nat.zero_le _, Nat.zero_le _⟩ rfl (Nat.le_of_ble_eq_true rfl) dX0_best_38) (fun r2 w3 h => ?_)
      refine j_aload_n O 0 0 dX0_best_41 rfl rfl ?_
      refine j_iload_n O 1 1 dX0_best_42 rfl rfl ?_
      refine j_iload_n O 2 2 dX0_best_43 rfl rfl ?_
      refine j_iload O 4 dX0_best_44 rfl ?_
      obtain ⟨e7, h⟩ := h
      refine fin_I O ⟨Nat.zero_le _, Nat.zero_le _⟩ (run_V (As := [vI (x1), vI (x2), vI (x4)]) (st := [vI (r2)]) O (mt_X0_clashes (xl x) (xG x) _ _ _ _ _ _ h) e7 cfX0.1 q1417 q1419 qs40 q121 q1420 hy_X0_clashes (Nat.le_of_ble_eq_true rfl) (Nat.le_of_ble_eq_true rfl) ⟨Nat.zero_le _, Nat.zero_le _⟩ rfl (Nat.le_of_ble_eq_true rfl) dX0_best_46) (fun r5 w6 h => ?_)
      obtain ⟨c8, h⟩ := h
      obtain ⟨c9, h⟩ := h
      refine j_icmp_ge O (tgt := 56) dX0_best_49 (by decide) c8 c9 h (fun h => ?_) (fun h => ?_)
      · exact (J.sub [0, 1, 2, 3, 4, 5] rfl <| wk_X0_best_56 O hr hm _ _ _ _ _ _ _ _ ih hX26 _ h)
      · refine j_iload O 5 dX0_best_52 rfl ?_
        refine j_istore (L' := [(4, vI (x5)), (0, .ref (adG (xG x) (this))), (1, vI (x1)), (2, vI (x2)), (3, vI (x3)), (5, vI (x5))]) O dX0_best_54 (by rw [hm]; decide) rfl ?_
        exact (J.sub [1, 2, 3, 4, 0, 5] rfl <| wk_X0_best_56 O hr hm _ _ _ _ _ _ _ _ ih hX26 _ h)
theorem mt_X0_best (l : Launch) (G : GW) (this : Nat) (p1 : Int) (p2 : Int) (p3 : Int) (w : Wd) (Q : Int → Wd → Prop) (h : wp_X0_best this p1 p2 p3 w Q) : MI l G yX0_best cX0_best 6 (.int) 5 0 0 [.ref (adG G (this)), vI (p1), vI (p2), vI (p3)] w Q := by
  refine met_I (fun G => [.ref (adG G (this)), vI (p1), vI (p2), vI (p3)]) (by decide) (fun G => Nat.le_of_ble_eq_true rfl) (fun x O hl hm hr => ?_)
  subst hl
  have O : OK x "DowryBoxes" cX0_best 5 := O
  have h : wp_X0_best this p1 p2 p3 w Q := h
  unfold wp_X0_best at h
  show J x (TI x Q) w 0 0 0 [(0, .ref (adG (xG x) (this))), (1, vI (p1)), (2, vI (p2)), (3, vI (p3))] []
  refine j_aload_n O 0 0 dX0_best_0 rfl rfl ?_
  refine j_iload_n O 1 1 dX0_best_1 rfl rfl ?_
  refine j_iload_n O 2 2 dX0_best_2 rfl rfl ?_
  obtain ⟨e3, h⟩ := h
  refine fin_I O ⟨Nat.zero_le _, Nat.zero_le _⟩ (run_V (As := [vI (p1), vI (p2)]) (st := []) O (mt_X0_areTwo (xl x) (xG x) _ _ _ _ _ h) e3 cfX0.1 q1413 q1415 qs39 q121 q1416 hy_X0_areTwo (Nat.le_of_ble_eq_true rfl) (Nat.le_of_ble_eq_true rfl) ⟨Nat.zero_le _, Nat.zero_le _⟩ rfl (Nat.le_of_ble_eq_true rfl) dX0_best_3) (fun r1 w2 h => ?_)
  obtain ⟨c4, h⟩ := h
  refine j_if_eq O (tgt := 18) dX0_best_6 (by decide) c4 h (fun h => ?_) (fun h => ?_)
  · refine j_iconst O dX0_best_18 ?_
    exact j_iret O hr dX0_best_19 h
  · refine j_iload_n O 3 3 dX0_best_9 rfl rfl ?_
    refine j_iconst O dX0_best_10 ?_
    refine j_iconst O dX0_best_11 ?_
    refine fin_I O ⟨Nat.zero_le _, Nat.zero_le _⟩ (run_S (As := [vI (p3), vI (0), vI (1)]) (st := []) O (mt_X0_in (xl x) (xG x) _ _ _ _ _ h) q465 q466 q121 q467 hy_X0_in.2 (Nat.le_of_ble_eq_true rfl) (Nat.le_of_ble_eq_true rfl) ⟨Nat.zero_le _, Nat.zero_le _⟩ rfl (Nat.le_of_ble_eq_true rfl) dX0_best_12) (fun r5 w6 h => ?_)
    obtain ⟨c7, h⟩ := h
    refine j_if_ne O (tgt := 20) dX0_best_15 (by decide) c7 h (fun h => ?_) (fun h => ?_)
    · refine j_iconst O dX0_best_20 ?_
      refine j_istore (L' := [(4, vI (0)), (0, .ref (adG (xG x) (this))), (1, vI (p1)), (2, vI (p2)), (3, vI (p3))]) O dX0_best_21 (by rw [hm]; decide) rfl ?_
      refine j_iconst O dX0_best_23 ?_
      refine j_istore (L' := [(5, vI (1)), (4, vI (0)), (0, .ref (adG (xG x) (this))), (1, vI (p1)), (2, vI (p2)), (3, vI (p3))]) O dX0_best_24 (by rw [hm]; decide) rfl ?_
      refine (J.sub [2, 3, 4, 5, 1, 0] rfl <| wk_X0_best_26 O hr hm _ _ _ _ _ (fun z8 w9 h => ?_) FU _ _ _ h)
      refine j_iload_n O 3 3 dX0_best_62 rfl rfl ?_
      obtain ⟨c10, h⟩ := h
      refine j_if_ne O (tgt := 71) dX0_best_63 (by decide) c10 h (fun h => ?_) (fun h => ?_)
      · refine j_aload_n O 0 0 dX0_best_71 rfl rfl ?_
        refine j_iload_n O 1 1 dX0_best_72 rfl rfl ?_
        refine j_iload_n O 2 2 dX0_best_73 rfl rfl ?_
        refine j_iload O 4 dX0_best_74 rfl ?_
        obtain ⟨e13, h⟩ := h
        refine fin_I O ⟨Nat.zero_le _, Nat.zero_le _⟩ (run_V (As := [vI (p1), vI (p2), vI (z8)]) (st := []) O (mt_X0_clashes (xl x) (xG x) _ _ _ _ _ _ h) e13 cfX0.1 q1417 q1419 qs40 q121 q1420 hy_X0_clashes (Nat.le_of_ble_eq_true rfl) (Nat.le_of_ble_eq_true rfl) ⟨Nat.zero_le _, Nat.zero_le _⟩ rfl (Nat.le_of_ble_eq_true rfl) dX0_best_76) (fun r11 w12 h => ?_)
        exact j_iret O hr dX0_best_79 h
      · refine j_iload O 4 dX0_best_66 rfl ?_
        refine j_goto O (tgt := 79) dX0_best_68 (by decide) ?_
        exact j_iret O hr dX0_best_79 h
    · refine j_iconst O dX0_best_18 ?_
      exact j_iret O hr dX0_best_19 h
theorem hy_X0_clash : (yX0_clash.cls = "DowryBoxes" ∧ yX0_clash.cls ≠ "java/lang/invoke/MethodHandle" ∧ yX0_clash.cls ≠ "java/lang/invoke/VarHandle" ∧ (parseMethodDescriptor yX0_clash.desc).map (fun d => d.parameters.length) = some 3) := by decide +kernel
theorem mt_X0_clash (l : Launch) (G : GW) (this : Nat) (p1 : Int) (p2 : Int) (p3 : Int) (w : Wd) (Q : Int → Wd → Prop) (h : wp_X0_clash this p1 p2 p3 w Q) : MI l G yX0_clash cX0_clash 4 (.int) 5 0 0 [.ref (adG G (this)), vI (p1), vI (p2), vI (p3)] w Q := by
  refine met_I (fun G => [.ref (adG G (this)), vI (p1), vI (p2), vI (p3)]) (by decide) (fun G => Nat.le_of_ble_eq_true rfl) (fun x O hl hm hr => ?_)
  subst hl
  have O : OK x "DowryBoxes" cX0_clash 5 := O
  have h : wp_X0_clash this p1 p2 p3 w Q := h
  unfold wp_X0_clash at h
  show J x (TI x Q) w 0 0 0 [(0, .ref (adG (xG x) (this))), (1, vI (p1)), (2, vI (p2)), (3, vI (p3))] []
  refine j_aload_n O 0 0 dX0_clash_0 rfl rfl ?_
  refine j_iload_n O 1 1 dX0_clash_1 rfl rfl ?_
  refine j_iload_n O 2 2 dX0_clash_2 rfl rfl ?_
  obtain ⟨e3, h⟩ := h
  refine fin_I O ⟨Nat.zero_le _, Nat.zero_le _⟩ (run_V (As := [vI (p1), vI (p2)]) (st := []) O (mt_X0_areTwo (xl x) (xG x) _ _ _ _ _ h) e3 cfX0.1 q1413 q1415 qs39 q121 q1416 hy_X0_areTwo (Nat.le_of_ble_eq_true rfl) (Nat.le_of_ble_eq_true rfl) ⟨Nat.zero_le _, Nat.zero_le _⟩ rfl (Nat.le_of_ble_eq_true rfl) dX0_clash_3) (fun r1 w2 h => ?_)
  obtain ⟨c4, h⟩ := h
  refine j_if_eq O (tgt := 26) dX0_clash_6 (by decide) c4 h (fun h => ?_) (fun h => ?_)
  · refine j_iconst O dX0_clash_26 ?_
    exact j_iret O hr dX0_clash_27 h
  · refine j_iload_n O 3 3 dX0_clash_9 rfl rfl ?_
    refine fin_I O ⟨Nat.zero_le _, Nat.zero_le _⟩ (run_S (As := [vI (p3)]) (st := []) O (mt_X0_isBar (xl x) (xG x) _ _ _ h) q712 q713 q121 q714 hy_X0_isBar.2 (Nat.le_of_ble_eq_true rfl) (Nat.le_of_ble_eq_true rfl) ⟨Nat.zero_le _, Nat.zero_le _⟩ rfl (Nat.le_of_ble_eq_true rfl) dX0_clash_10) (fun r5 w6 h => ?_)
    obtain ⟨c7, h⟩ := h
    refine j_if_eq O (tgt := 26) dX0_clash_13 (by decide) c7 h (fun h => ?_) (fun h => ?_)
    · refine j_iconst O dX0_clash_26 ?_
      exact j_iret O hr dX0_clash_27 h
    · refine j_aload_n O 0 0 dX0_clash_16 rfl rfl ?_
      refine j_iload_n O 1 1 dX0_clash_17 rfl rfl ?_
      refine j_iload_n O 2 2 dX0_clash_18 rfl rfl ?_
      refine j_iload_n O 3 3 dX0_clash_19 rfl rfl ?_
      obtain ⟨e10, h⟩ := h
      refine fin_I O ⟨Nat.zero_le _, Nat.zero_le _⟩ (run_V (As := [vI (p1), vI (p2), vI (p3)]) (st := []) O (mt_X0_clashes (xl x) (xG x) _ _ _ _ _ _ h) e10 cfX0.1 q1417 q1419 qs40 q121 q1420 hy_X0_clashes (Nat.le_of_ble_eq_true rfl) (Nat.le_of_ble_eq_true rfl) ⟨Nat.zero_le _, Nat.zero_le _⟩ rfl (Nat.le_of_ble_eq_true rfl) dX0_clash_20) (fun r8 w9 h => ?_)
      refine j_goto O (tgt := 27) dX0_clash_23 (by decide) ?_
      exact j_iret O hr dX0_clash_27 h
theorem hy_X0_fewestBehind : (yX0_fewestBehind.cls = "DowryBoxes" ∧ yX0_fewestBehind.cls ≠ "java/lang/invoke/MethodHandle" ∧ yX0_fewestBehind.cls ≠ "java/lang/invoke/VarHandle" ∧ (parseMethodDescriptor yX0_fewestBehind.desc).map (fun d => d.parameters.length) = some 3) := by decide +kernel
theorem wk_X0_fewestBehind_47 {x : Cx} (O : OK x "DowryBoxes" cX0_fewestBehind 3) (hr : (xM x).sig.returnType = some .int) (hm : xn x = 6) {Q : Int → Wd → Prop} (K8 : Int → Int → Wd → Prop) (this : Nat) (x1 : Int) (x2 : Int) (x3 : Int) (x4 : Int) (x5 : Int) (hK8 : ∀ (y4 : Int) (y5 : Int) (w : Wd), K8 y4 y5 w → J x (TI x Q) w 0 0 8 [(0, .ref (adG (xG x) (this))), (1, vI (x1)), (2, vI (x2)), (3, vI (x3)), (4, vI (y4)), (5, vI (y5))] []) (w : Wd) (h : wp_X0_fewestBehind_47 Q K8 this x1 x2 x3 x4 x5 w) : J x (TI x Q) w 0 0 47 [(0, .ref (adG (xG x) (this))), (1, vI (x1)), (2, vI (x2)), (3, vI (x3)), (4, vI (x4)), (5, vI (x5))] [] := by
  unfold wp_X0_fewestBehind_47 at h
  refine j_iinc (L' := [(5, vI (x5 + 1)), (0, .ref (adG (xG x) (this))), (1, vI (x1)), (2, vI (x2)), (3, vI (x3)), (4, vI (x4))]) O 5 dX0_fewestBehind_47 rfl (by rw [hm]; decide) rfl ?_
  refine j_goto O (tgt := 8) dX0_fewestBehind_50 (by decide) ?_
  exact (J.sub [1, 2, 3, 4, 5, 0] rfl <| hK8 _ _ _ h)
theorem wk_X0_fewestBehind_8 {x : Cx} (O : OK x "DowryBoxes" cX0_fewestBehind 3) (hr : (xM x).sig.returnType = some .int) (hm : xn x = 6) {Q : Int → Wd → Prop} (this : Nat) (x1 : Int) (x2 : Int) (x3 : Int) : ∀ (n : Nat) (x4 : Int) (x5 : Int) (w : Wd), wp_X0_fewestBehind_8 Q this x1 x2 x3 n x4 x5 w → J x (TI x Q) w 0 0 8 [(0, .ref (adG (xG x) (this))), (1, vI (x1)), (2, vI (x2)), (3, vI (x3)), (4, vI (x4)), (5, vI (x5))] [] := by
  intro n
  induction n with
  | zero => intro x4 x5 w h; exact False.elim h
  | succ n ih =>
    intro x4 x5 w h
    rw [wp_X0_fewestBehind_8] at h
    refine j_iload O 5 dX0_fewestBehind_8 rfl ?_
    refine j_sipush (m := 256) O dX0_fewestBehind_10 si_256 ?_
    obtain ⟨c1, h⟩ := h
    refine j_icmp_ge O (tgt := 53) dX0_fewestBehind_13 (by decide) c1 (by decide) h (fun h => ?_) (fun h => ?_)
    · refine j_iload O 4 dX0_fewestBehind_53 rfl ?_
      exact j_iret O hr dX0_fewestBehind_55 h
    · refine j_iload O 5 dX0_fewestBehind_16 rfl ?_
      refine j_iload_n O 2 2 dX0_fewestBehind_18 rfl rfl ?_
      refine j_ixor O dX0_fewestBehind_19 ?_
      refine fin_I O ⟨Nat.zero_le _, Nat.zero_le _⟩ (run_S (As := [vI ((ixo x5 x2))]) (st := []) O (mt_X0_ones (xl x) (xG x) _ _ _ h) q617 q600 q121 q601 hy_X0_ones.2 (Nat.le_of_ble_eq_true rfl) (Nat.le_of_ble_eq_true rfl) ⟨Nat.zero_le _, Nat.zero_le _⟩ rfl (Nat.le_of_ble_eq_true rfl) dX0_fewestBehind_20) (fun r2 w3 h => ?_)
      refine j_iload_n O 3 3 dX0_fewestBehind_23 rfl rfl ?_
      obtain ⟨c4, h⟩ := h
      obtain ⟨c5, h⟩ := h
      refine j_icmp_gt O (tgt := 47) dX0_fewestBehind_24 (by decide) c4 c5 h (fun h => ?_) (fun h => ?_)
      · exact (J.sub [0, 1, 2, 3, 4, 5] rfl <| wk_X0_fewestBehind_47 O hr hm _ _ _ _ _ _ _ ih _ h)
      · refine j_iload O 4 dX0_fewestBehind_27 rfl ?_
        refine j_aload_n O 0 0 dX0_fewestBehind_29 rfl rfl ?_
        refine j_getA O cfX0 24 (Nat.le_of_ble_eq_true rfl) ⟨_, rfl⟩ q382 dX0_fewestBehind_30 h (fun k6 h => ?_)
        refine j_sipush (m := 256) O dX0_fewestBehind_33 si_256 ?_
        refine j_iload_n O 1 1 dX0_fewestBehind_36 rfl rfl ?_
        refine j_imul O dX0_fewestBehind_37 ?_
        refine j_iload O 5 dX0_fewestBehind_38 rfl ?_
        refine j_iadd O dX0_fewestBehind_40 ?_
        refine j_iald O dX0_fewestBehind_41 h (fun v7 h => ?_)
        obtain ⟨c8, h⟩ := h
        obtain ⟨c9, h⟩ := h
        refine j_mmin O q1408 q537 q135 q538 (Nat.le_of_ble_eq_true rfl) (Nat.le_of_ble_eq_true rfl) dX0_fewestBehind_42 c8 c9 ?_
        refine j_istore (L' := [(4, vI (iMn x4 v7)), (0, .ref (adG (xG x) (this))), (1, vI (x1)), (2, vI (x2)), (3, vI (x3)), (5, vI (x5))]) O dX0_fewestBehind_45 (by rw [hm]; decide) rfl ?_
        exact (J.sub [1, 2, 3, 4, 0, 5] rfl <| wk_X0_fewestBehind_47 O hr hm _ _ _ _ _ _ _ ih _ h)
theorem mt_X0_fewestBehind (l : Launch) (G : GW) (this : Nat) (p1 : Int) (p2 : Int) (p3 : Int) (w : Wd) (Q : Int → Wd → Prop) (h : wp_X0_fewestBehind this p1 p2 p3 w Q) : MI l G yX0_fewestBehind cX0_fewestBehind 6 (.int) 3 0 0 [.ref (adG G (this)), vI (p1), vI (p2), vI (p3)] w Q := by
  refine met_I (fun G => [.ref (adG G (this)), vI (p1), vI (p2), vI (p3)]) (by decide) (fun G => Nat.le_of_ble_eq_true rfl) (fun x O hl hm hr => ?_)
  subst hl
  have O : OK x "DowryBoxes" cX0_fewestBehind 3 := O
  have h : wp_X0_fewestBehind this p1 p2 p3 w Q := h
  unfold wp_X0_fewestBehind at h
  show J x (TI x Q) w 0 0 0 [(0, .ref (adG (xG x) (this))), (1, vI (p1)), (2, vI (p2)), (3, vI (p3))] []
  refine j_ldcw (m := 1000000) O dX0_fewestBehind_0 q1352 ld_1000000 ?_
  refine j_istore (L' := [(4, vI (1000000)), (0, .ref (adG (xG x) (this))), (1, vI (p1)), (2, vI (p2)), (3, vI (p3))]) O dX0_fewestBehind_3 (by rw [hm]; decide) rfl ?_
  refine j_iconst O dX0_fewestBehind_5 ?_
  refine j_istore (L' := [(5, vI (0)), (4, vI (1000000)), (0, .ref (adG (xG x) (this))), (1, vI (p1)), (2, vI (p2)), (3, vI (p3))]) O dX0_fewestBehind_6 (by rw [hm]; decide) rfl ?_
  exact (J.sub [2, 3, 4, 5, 1, 0] rfl <| wk_X0_fewestBehind_8 O hr hm  _ _ _ _  FU _ _ _ h)
theorem hy_X0_laysFewest : (yX0_laysFewest.cls = "DowryBoxes" ∧ yX0_laysFewest.cls ≠ "java/lang/invoke/MethodHandle" ∧ yX0_laysFewest.cls ≠ "java/lang/invoke/VarHandle" ∧ (parseMethodDescriptor yX0_laysFewest.desc).map (fun d => d.parameters.length) = some 2) := by decide +kernel
theorem wk_X0_laysFewest_77 {x : Cx} (O : OK x "DowryBoxes" cX0_laysFewest 4) (hr : (xM x).sig.returnType = none) (hm : xn x = 7) {Q : Wd → Prop} (K3 : Int → Wd → Prop) (K21 : Int → Wd → Prop) (X21 : Wd → Prop) (this : Nat) (x1 : Int) (x2 : Int) (x3 : Int) (x4 : Int) (x5 : Int) (x6 : Int) (hK3 : ∀ (y3 : Int) (w : Wd), K3 y3 w → J x (TV x Q) w 0 0 3 [(0, .ref (adG (xG x) (this))), (1, vI (x1)), (2, vI (x2)), (3, vI (y3))] []) (hK21 : ∀ (y5 : Int) (w : Wd), K21 y5 w → J x (TV x Q) w 0 0 21 [(0, .ref (adG (xG x) (this))), (1, vI (x1)), (2, vI (x2)), (3, vI (x3)), (4, vI (x4)), (5, vI (y5))] []) (hX21 : ∀  (w : Wd), X21  w → J x (TV x Q) w 0 0 104 [(0, .ref (adG (xG x) (this))), (1, vI (x1)), (2, vI (x2)), (3, vI (x3))] []) (w : Wd) (h : wp_X0_laysFewest_77 Q K3 K21 X21 this x1 x2 x3 x4 x5 x6 w) : J x (TV x Q) w 0 0 77 [(0, .ref (adG (xG x) (this))), (1, vI (x1)), (2, vI (x2)), (3, vI (x3)), (4, vI (x4)), (5, vI (x5)), (6, vI (x6))] [] := by
  unfold wp_X0_laysFewest_77 at h
  refine j_aload_n O 0 0 dX0_laysFewest_77 rfl rfl ?_
  refine j_getA O cfX0 24 (Nat.le_of_ble_eq_true rfl) ⟨_, rfl⟩ q382 dX0_laysFewest_78 h (fun k1 h => ?_)
  refine j_sipush (m := 256) O dX0_laysFewest_81 si_256 ?_
  refine j_iload_n O 3 3 dX0_laysFewest_84 rfl rfl ?_
  refine j_imul O dX0_laysFewest_85 ?_
  refine j_iload O 5 dX0_laysFewest_86 rfl ?_
  refine j_iadd O dX0_laysFewest_88 ?_
  refine j_ldcw (m := 1000000) O dX0_laysFewest_89 q1352 ld_1000000 ?_
  refine j_iload O 6 dX0_laysFewest_92 rfl ?_
  obtain ⟨c2, h⟩ := h
  refine j_mmin O q1408 q537 q135 q538 (Nat.le_of_ble_eq_true rfl) (Nat.le_of_ble_eq_true rfl) dX0_laysFewest_94 (by decide) c2 ?_
  refine j_iast O dX0_laysFewest_97 h (fun w3 h => ?_)
  refine j_iinc (L' := [(5, vI (x5 + 1)), (0, .ref (adG (xG x) (this))), (1, vI (x1)), (2, vI (x2)), (3, vI (x3)), (4, vI (x4)), (6, vI (x6))]) O 5 dX0_laysFewest_98 rfl (by rw [hm]; decide) rfl ?_
  refine j_goto O (tgt := 21) dX0_laysFewest_101 (by decide) ?_
  exact (J.sub [1, 2, 3, 4, 5, 0] rfl <| hK21 _ _ h)
theorem wk_X0_laysFewest_74 {x : Cx} (O : OK x "DowryBoxes" cX0_laysFewest 4) (hr : (xM x).sig.returnType = none) (hm : xn x = 7) {Q : Wd → Prop} (K3 : Int → Wd → Prop) (K21 : Int → Wd → Prop) (X21 : Wd → Prop) (this : Nat) (x1 : Int) (x2 : Int) (x3 : Int) (x4 : Int) (x5 : Int) (s0 : Int) (s1 : Int) (hK3 : ∀ (y3 : Int) (w : Wd), K3 y3 w → J x (TV x Q) w 0 0 3 [(0, .ref (adG (xG x) (this))), (1, vI (x1)), (2, vI (x2)), (3, vI (y3))] []) (hK21 : ∀ (y5 : Int) (w : Wd), K21 y5 w → J x (TV x Q) w 0 0 21 [(0, .ref (adG (xG x) (this))), (1, vI (x1)), (2, vI (x2)), (3, vI (x3)), (4, vI (x4)), (5, vI (y5))] []) (hX21 : ∀  (w : Wd), X21  w → J x (TV x Q) w 0 0 104 [(0, .ref (adG (xG x) (this))), (1, vI (x1)), (2, vI (x2)), (3, vI (x3))] []) (w : Wd) (h : wp_X0_laysFewest_74 Q K3 K21 X21 this x1 x2 x3 x4 x5 s0 s1 w) : J x (TV x Q) w 0 0 74 [(0, .ref (adG (xG x) (this))), (1, vI (x1)), (2, vI (x2)), (3, vI (x3)), (4, vI (x4)), (5, vI (x5))] [vI (s0), vI (s1)] := by
  unfold wp_X0_laysFewest_74 at h
  refine j_iadd O dX0_laysFewest_74 ?_
  refine j_istore (L' := [(6, vI (s1 + s0)), (0, .ref (adG (xG x) (this))), (1, vI (x1)), (2, vI (x2)), (3, vI (x3)), (4, vI (x4)), (5, vI (x5))]) O dX0_laysFewest_75 (by rw [hm]; decide) rfl ?_
  exact (J.sub [1, 2, 3, 4, 5, 6, 0] rfl <| wk_X0_laysFewest_77 O hr hm _ _ _ _ _ _ _ _ _ _ hK3 hK21 hX21 _ h)
theorem wk_X0_laysFewest_21 {x : Cx} (O : OK x "DowryBoxes" cX0_laysFewest 4) (hr : (xM x).sig.returnType = none) (hm : xn x = 7) {Q : Wd → Prop} (K3 : Int → Wd → Prop) (X21 : Wd → Prop) (this : Nat) (x1 : Int) (x2 : Int) (x3 : Int) (x4 : Int) (hK3 : ∀ (y3 : Int) (w : Wd), K3 y3 w → J x (TV x Q) w 0 0 3 [(0, .ref (adG (xG x) (this))), (1, vI (x1)), (2, vI (x2)), (3, vI (y3))] []) (hX21 : ∀  (w : Wd), X21  w → J x (TV x Q) w 0 0 104 [(0, .ref (adG (xG x) (this))), (1, vI (x1)), (2, vI (x2)), (3, vI (x3))] []) : ∀ (n : Nat) (x5 : Int) (w : Wd), wp_X0_laysFewest_21 Q K3 X21 this x1 x2 x3 x4 n x5 w → J x (TV x Q) w 0 0 21 [(0, .ref (adG (xG x) (this))), (1, vI (x1)), (2, vI (x2)), (3, vI (x3)), (4, vI (x4)), (5, vI (x5))] [] := by
  intro n
  induction n with
  | zero => intro x5 w h; exact False.elim h
  | succ n ih =>
    intro x5 w h
    rw [wp_X0_laysFewest_21] at h
    refine j_iload O 5 dX0_laysFewest_21 rfl ?_
    refine j_sipush (m := 256) O dX0_laysFewest_23 si_256 ?_
    obtain ⟨c1, h⟩ := h
    refine j_icmp_ge O (tgt := 104) dX0_laysFewest_26 (by decide) c1 (by decide) h (fun h => ?_) (fun h => ?_)
    · exact (J.sub [0, 1, 2, 3] rfl <| hX21  _ h)
    · refine j_ldcw (m := 1000000) O dX0_laysFewest_29 q1352 ld_1000000 ?_
      refine j_istore (L' := [(6, vI (1000000)), (0, .ref (adG (xG x) (this))), (1, vI (x1)), (2, vI (x2)), (3, vI (x3)), (4, vI (x4)), (5, vI (x5))]) O dX0_laysFewest_32 (by rw [hm]; decide) rfl ?_
      refine j_iload O 5 dX0_laysFewest_34 rfl ?_
      refine j_iload O 6 dX0_laysFewest_36 rfl ?_
      refine j_iconst O dX0_laysFewest_38 ?_
      refine j_ixor O dX0_laysFewest_39 ?_
      refine j_iand O dX0_laysFewest_40 ?_
      obtain ⟨c2, h⟩ := h
      refine j_if_ne O (tgt := 77) dX0_laysFewest_41 (by decide) c2 h (fun h => ?_) (fun h => ?_)
      · exact (J.sub [1, 2, 3, 4, 5, 6, 0] rfl <| wk_X0_laysFewest_77 O hr hm _ _ _ _ _ _ _ _ _ _ hK3 ih hX21 _ h)
      · refine j_iload O 6 dX0_laysFewest_44 rfl ?_
        refine j_iload O 5 dX0_laysFewest_46 rfl ?_
        refine j_iconst O dX0_laysFewest_48 ?_
        refine j_ixor O dX0_laysFewest_49 ?_
        refine j_iand O dX0_laysFewest_50 ?_
        refine fin_I O ⟨Nat.zero_le _, Nat.zero_le _⟩ (run_S (As := [vI ((ian x5 (ixo x4 ((-1)))))]) (st := []) O (mt_X0_ones (xl x) (xG x) _ _ _ h) q617 q600 q121 q601 hy_X0_ones.2 (Nat.le_of_ble_eq_true rfl) (Nat.le_of_ble_eq_true rfl) ⟨Nat.zero_le _, Nat.zero_le _⟩ rfl (Nat.le_of_ble_eq_true rfl) dX0_laysFewest_51) (fun r3 w4 h => ?_)
        refine j_iload_n O 4 3 dX0_laysFewest_54 rfl rfl ?_
        refine j_bipush (m := 7) O dX0_laysFewest_55 bi_7 ?_
        obtain ⟨c5, h⟩ := h
        refine j_icmp_ne O (tgt := 64) dX0_laysFewest_57 (by decide) c5 (by decide) h (fun h => ?_) (fun h => ?_)
        · refine j_aload_n O 1 0 dX0_laysFewest_64 rfl rfl ?_
          refine j_iload_n O 4 3 dX0_laysFewest_65 rfl rfl ?_
          refine j_iconst O dX0_laysFewest_66 ?_
          refine j_iadd O dX0_laysFewest_67 ?_
          refine j_iload O 6 dX0_laysFewest_68 rfl ?_
          refine j_iload_n O 3 2 dX0_laysFewest_70 rfl rfl ?_
          obtain ⟨e8, h⟩ := h
          refine fin_I O ⟨Nat.zero_le _, Nat.zero_le _⟩ (run_V (As := [vI ((x3 + 1)), vI (x5), vI (x2)]) (st := [vI (r3)]) O (mt_X0_fewestBehind (xl x) (xG x) _ _ _ _ _ _ h) e8 cfX0.1 q1404 q1406 qs38 q121 q1407 hy_X0_fewestBehind (Nat.le_of_ble_eq_true rfl) (Nat.le_of_ble_eq_true rfl) ⟨Nat.zero_le _, Nat.zero_le _⟩ rfl (Nat.le_of_ble_eq_true rfl) dX0_laysFewest_71) (fun r6 w7 h => ?_)
          exact (J.sub [1, 2, 3, 4, 5, 6] rfl <| wk_X0_laysFewest_74 O hr hm _ _ _ _ _ _ _ _ _ _ _ hK3 ih hX21 _ h)
        · refine j_iconst O dX0_laysFewest_60 ?_
          refine j_goto O (tgt := 74) dX0_laysFewest_61 (by decide) ?_
          exact (J.sub [1, 2, 3, 4, 5, 6] rfl <| wk_X0_laysFewest_74 O hr hm _ _ _ _ _ _ _ _ _ _ _ hK3 ih hX21 _ h)
theorem wk_X0_laysFewest_3 {x : Cx} (O : OK x "DowryBoxes" cX0_laysFewest 4) (hr : (xM x).sig.returnType = none) (hm : xn x = 7) {Q : Wd → Prop} (this : Nat) (x1 : Int) (x2 : Int) : ∀ (n : Nat) (x3 : Int) (w : Wd), wp_X0_laysFewest_3 Q this x1 x2 n x3 w → J x (TV x Q) w 0 0 3 [(0, .ref (adG (xG x) (this))), (1, vI (x1)), (2, vI (x2)), (3, vI (x3))] [] := by
  intro n
  induction n with
  | zero => intro x3 w h; exact False.elim h
  | succ n ih =>
    intro x3 w h
    rw [wp_X0_laysFewest_3] at h
    refine j_iload_n O 3 3 dX0_laysFewest_3 rfl rfl ?_
    obtain ⟨c1, h⟩ := h
    refine j_if_lt O (tgt := 110) dX0_laysFewest_4 (by decide) c1 h (fun h => ?_) (fun h => ?_)
    · exact j_vret O hr dX0_laysFewest_110 h
    · refine j_aload_n O 0 0 dX0_laysFewest_7 rfl rfl ?_
      obtain ⟨e4, h⟩ := h
      refine fin_R O ⟨Nat.zero_le _, Nat.zero_le _⟩ (run_V (As := []) (st := []) O (mt_X0_table (xl x) (xG x) _ _ _ h) e4 cfX0.1 q574 q576 qs5 q121 q577 hy_X0_table (Nat.le_of_ble_eq_true rfl) (Nat.le_of_ble_eq_true rfl) ⟨Nat.zero_le _, Nat.zero_le _⟩ rfl (Nat.le_of_ble_eq_true rfl) dX0_laysFewest_8) (fun o2 w3 h => ?_)
      refine j_iload_n O 1 1 dX0_laysFewest_11 rfl rfl ?_
      refine j_iload_n O 3 3 dX0_laysFewest_12 rfl rfl ?_
      obtain ⟨k5, e_k5, g_k5⟩ := h
      subst e_k5
      have h := g_k5
      obtain ⟨e8, h⟩ := h
      refine fin_I O ⟨Nat.zero_le _, Nat.zero_le _⟩ (run_V (As := [vI (x1), vI (x3)]) (st := []) O (mt_X2_pinsAt (xl x) (xG x) _ _ _ _ _ h) e8 cfX2.1 q586 q587 q588 q123 q589 hy_X2_pinsAt (Nat.le_of_ble_eq_true rfl) (Nat.le_of_ble_eq_true rfl) ⟨Nat.zero_le _, Nat.zero_le _⟩ rfl (Nat.le_of_ble_eq_true rfl) dX0_laysFewest_13) (fun r6 w7 h => ?_)
      refine j_istore (L' := [(4, vI (r6)), (0, .ref (adG (xG x) (this))), (1, vI (x1)), (2, vI (x2)), (3, vI (x3))]) O dX0_laysFewest_16 (by rw [hm]; decide) rfl ?_
      refine j_iconst O dX0_laysFewest_18 ?_
      refine j_istore (L' := [(5, vI (0)), (4, vI (r6)), (0, .ref (adG (xG x) (this))), (1, vI (x1)), (2, vI (x2)), (3, vI (x3))]) O dX0_laysFewest_19 (by rw [hm]; decide) rfl ?_
      refine (J.sub [2, 3, 4, 5, 1, 0] rfl <| wk_X0_laysFewest_21 O hr hm _ _ _ _ _ _ _ ih (fun w9 h => ?_) FU _ _ h)
      refine j_iinc (L' := [(3, vI (x3 + (-1))), (0, .ref (adG (xG x) (this))), (1, vI (x1)), (2, vI (x2))]) O 3 dX0_laysFewest_104 rfl (by rw [hm]; decide) rfl ?_
      refine j_goto O (tgt := 3) dX0_laysFewest_107 (by decide) ?_
      exact (J.sub [1, 2, 3, 0] rfl <| ih _ _ h)
theorem mt_X0_laysFewest (l : Launch) (G : GW) (this : Nat) (p1 : Int) (p2 : Int) (w : Wd) (Q : Wd → Prop) (h : wp_X0_laysFewest this p1 p2 w Q) : MV l G yX0_laysFewest cX0_laysFewest 7 4 0 0 [.ref (adG G (this)), vI (p1), vI (p2)] w Q := by
  refine met_V (fun G => [.ref (adG G (this)), vI (p1), vI (p2)]) (by decide) (fun G => Nat.le_of_ble_eq_true rfl) (fun x O hl hm hr _ => ?_)
  subst hl
  have O : OK x "DowryBoxes" cX0_laysFewest 4 := O
  have h : wp_X0_laysFewest this p1 p2 w Q := h
  unfold wp_X0_laysFewest at h
  show J x (TV x Q) w 0 0 0 [(0, .ref (adG (xG x) (this))), (1, vI (p1)), (2, vI (p2))] []
  refine j_bipush (m := 7) O dX0_laysFewest_0 bi_7 ?_
  refine j_istore_n (L' := [(3, vI (7)), (0, .ref (adG (xG x) (this))), (1, vI (p1)), (2, vI (p2))]) O 3 dX0_laysFewest_2 rfl (by rw [hm]; decide) rfl ?_
  exact (J.sub [1, 2, 3, 0] rfl <| wk_X0_laysFewest_3 O hr hm  _ _ _  FU _ _ h)
theorem hy_X0_keep : (yX0_keep.cls = "DowryBoxes" ∧ yX0_keep.cls ≠ "java/lang/invoke/MethodHandle" ∧ yX0_keep.cls ≠ "java/lang/invoke/VarHandle" ∧ (parseMethodDescriptor yX0_keep.desc).map (fun d => d.parameters.length) = some 3) := by decide +kernel
theorem wk_X0_keep_106 {x : Cx} (O : OK x "DowryBoxes" cX0_keep 5) (hr : (xM x).sig.returnType = some .int) (hm : xn x = 8) {Q : Int → Wd → Prop} (K60 : Int → Int → Int → Wd → Prop) (K69 : Int → Wd → Prop) (X69 : Int → Wd → Prop) (this : Nat) (x1 : Int) (x2 : Int) (x3 : Int) (x4 : Int) (x5 : Int) (x6 : Int) (x7 : Int) (hK60 : ∀ (y4 : Int) (y5 : Int) (y6 : Int) (w : Wd), K60 y4 y5 y6 w → J x (TI x Q) w 0 0 60 [(0, .ref (adG (xG x) (this))), (1, vI (x1)), (2, vI (x2)), (3, vI (x3)), (4, vI (y4)), (5, vI (y5)), (6, vI (y6))] []) (hK69 : ∀ (y7 : Int) (w : Wd), K69 y7 w → J x (TI x Q) w 0 0 69 [(0, .ref (adG (xG x) (this))), (1, vI (x1)), (2, vI (x2)), (3, vI (x3)), (4, vI (x4)), (5, vI (x5)), (6, vI (x6)), (7, vI (y7))] []) (hX69 : ∀ (y7 : Int) (w : Wd), X69 y7 w → J x (TI x Q) w 0 0 112 [(0, .ref (adG (xG x) (this))), (1, vI (x1)), (2, vI (x2)), (3, vI (x3)), (4, vI (x4)), (6, vI (x6)), (7, vI (y7))] []) (w : Wd) (h : wp_X0_keep_106 Q K60 K69 X69 this x1 x2 x3 x4 x5 x6 x7 w) : J x (TI x Q) w 0 0 106 [(0, .ref (adG (xG x) (this))), (1, vI (x1)), (2, vI (x2)), (3, vI (x3)), (4, vI (x4)), (5, vI (x5)), (6, vI (x6)), (7, vI (x7))] [] := by
  unfold wp_X0_keep_106 at h
  refine j_iinc (L' := [(7, vI (x7 + 1)), (0, .ref (adG (xG x) (this))), (1, vI (x1)), (2, vI (x2)), (3, vI (x3)), (4, vI (x4)), (5, vI (x5)), (6, vI (x6))]) O 7 dX0_keep_106 rfl (by rw [hm]; decide) rfl ?_
  refine j_goto O (tgt := 69) dX0_keep_109 (by decide) ?_
  exact (J.sub [1, 2, 3, 4, 5, 6, 7, 0] rfl <| hK69 _ _ h)
theorem wk_X0_keep_69 {x : Cx} (O : OK x "DowryBoxes" cX0_keep 5) (hr : (xM x).sig.returnType = some .int) (hm : xn x = 8) {Q : Int → Wd → Prop} (K60 : Int → Int → Int → Wd → Prop) (X69 : Int → Wd → Prop) (this : Nat) (x1 : Int) (x2 : Int) (x3 : Int) (x4 : Int) (x5 : Int) (x6 : Int) (hK60 : ∀ (y4 : Int) (y5 : Int) (y6 : Int) (w : Wd), K60 y4 y5 y6 w → J x (TI x Q) w 0 0 60 [(0, .ref (adG (xG x) (this))), (1, vI (x1)), (2, vI (x2)), (3, vI (x3)), (4, vI (y4)), (5, vI (y5)), (6, vI (y6))] []) (hX69 : ∀ (y7 : Int) (w : Wd), X69 y7 w → J x (TI x Q) w 0 0 112 [(0, .ref (adG (xG x) (this))), (1, vI (x1)), (2, vI (x2)), (3, vI (x3)), (4, vI (x4)), (6, vI (x6)), (7, vI (y7))] []) : ∀ (n : Nat) (x7 : Int) (w : Wd), wp_X0_keep_69 Q K60 X69 this x1 x2 x3 x4 x5 x6 n x7 w → J x (TI x Q) w 0 0 69 [(0, .ref (adG (xG x) (this))), (1, vI (x1)), (2, vI (x2)), (3, vI (x3)), (4, vI (x4)), (5, vI (x5)), (6, vI (x6)), (7, vI (x7))] [] := by
  intro n
  induction n with
  | zero => intro x7 w h; exact False.elim h
  | succ n ih =>
    intro x7 w h
    rw [wp_X0_keep_69] at h
    refine j_aload_n O 0 0 dX0_keep_69 rfl rfl ?_
    refine j_getA O cfX0 24 (Nat.le_of_ble_eq_true rfl) ⟨_, rfl⟩ q382 dX0_keep_70 h (fun k1 h => ?_)
    refine j_sipush (m := 256) O dX0_keep_73 si_256 ?_
    refine j_iload O 6 dX0_keep_76 rfl ?_
    refine j_imul O dX0_keep_78 ?_
    refine j_iload O 7 dX0_keep_79 rfl ?_
    refine j_iadd O dX0_keep_81 ?_
    refine j_iald O dX0_keep_82 h (fun v2 h => ?_)
    refine j_iload O 4 dX0_keep_83 rfl ?_
    obtain ⟨c3, h⟩ := h
    obtain ⟨c4, h⟩ := h
    refine j_icmp_ne O (tgt := 106) dX0_keep_85 (by decide) c3 c4 h (fun h => ?_) (fun h => ?_)
    · exact (J.sub [0, 1, 2, 3, 4, 5, 6, 7] rfl <| wk_X0_keep_106 O hr hm _ _ _ _ _ _ _ _ _ _ _ hK60 ih hX69 _ h)
    · refine j_iload O 5 dX0_keep_88 rfl ?_
      refine j_iconst O dX0_keep_90 ?_
      obtain ⟨c5, h⟩ := h
      refine j_icmp_eq O (tgt := 112) dX0_keep_91 (by decide) c5 (by decide) h (fun h => ?_) (fun h => ?_)
      · exact (J.sub [0, 1, 2, 3, 4, 6, 7] rfl <| hX69 _ _ h)
      · refine j_iload O 7 dX0_keep_94 rfl ?_
        refine j_iload O 5 dX0_keep_96 rfl ?_
        refine j_ixor O dX0_keep_98 ?_
        refine fin_I O ⟨Nat.zero_le _, Nat.zero_le _⟩ (run_S (As := [vI ((ixo x7 x5))]) (st := []) O (mt_X0_ones (xl x) (xG x) _ _ _ h) q617 q600 q121 q601 hy_X0_ones.2 (Nat.le_of_ble_eq_true rfl) (Nat.le_of_ble_eq_true rfl) ⟨Nat.zero_le _, Nat.zero_le _⟩ rfl (Nat.le_of_ble_eq_true rfl) dX0_keep_99) (fun r6 w7 h => ?_)
        refine j_iload_n O 2 2 dX0_keep_102 rfl rfl ?_
        obtain ⟨c8, h⟩ := h
        obtain ⟨c9, h⟩ := h
        refine j_icmp_le O (tgt := 112) dX0_keep_103 (by decide) c8 c9 h (fun h => ?_) (fun h => ?_)
        · exact (J.sub [0, 1, 2, 3, 4, 6, 7] rfl <| hX69 _ _ h)
        · exact (J.sub [0, 1, 2, 3, 4, 5, 6, 7] rfl <| wk_X0_keep_106 O hr hm _ _ _ _ _ _ _ _ _ _ _ hK60 ih hX69 _ h)
theorem wk_X0_keep_112 {x : Cx} (O : OK x "DowryBoxes" cX0_keep 5) (hr : (xM x).sig.returnType = some .int) (hm : xn x = 8) {Q : Int → Wd → Prop} (K60 : Int → Int → Int → Wd → Prop) (this : Nat) (x1 : Int) (x2 : Int) (x3 : Int) (x4 : Int) (x6 : Int) (x7 : Int) (hK60 : ∀ (y4 : Int) (y5 : Int) (y6 : Int) (w : Wd), K60 y4 y5 y6 w → J x (TI x Q) w 0 0 60 [(0, .ref (adG (xG x) (this))), (1, vI (x1)), (2, vI (x2)), (3, vI (x3)), (4, vI (y4)), (5, vI (y5)), (6, vI (y6))] []) (w : Wd) (h : wp_X0_keep_112 Q K60 this x1 x2 x3 x4 x6 x7 w) : J x (TI x Q) w 0 0 112 [(0, .ref (adG (xG x) (this))), (1, vI (x1)), (2, vI (x2)), (3, vI (x3)), (4, vI (x4)), (6, vI (x6)), (7, vI (x7))] [] := by
  unfold wp_X0_keep_112 at h
  refine j_iload O 6 dX0_keep_112 rfl ?_
  refine j_istore (L' := [(5, vI (x7)), (0, .ref (adG (xG x) (this))), (1, vI (x1)), (2, vI (x2)), (3, vI (x3)), (4, vI (x4)), (6, vI (x6)), (7, vI (x7))]) O dX0_keep_114 (by rw [hm]; decide) rfl ?_
  refine j_iload O 5 dX0_keep_116 rfl ?_
  refine j_iload O 7 dX0_keep_118 rfl ?_
  refine j_aload_n O 1 0 dX0_keep_120 rfl rfl ?_
  obtain ⟨e3, h⟩ := h
  refine fin_R O ⟨Nat.zero_le _, Nat.zero_le _⟩ (run_V (As := []) (st := [vI (x7), vI (x4)]) O (mt_X0_table (xl x) (xG x) _ _ _ h) e3 cfX0.1 q574 q576 qs5 q121 q577 hy_X0_table (Nat.le_of_ble_eq_true rfl) (Nat.le_of_ble_eq_true rfl) ⟨Nat.zero_le _, Nat.zero_le _⟩ rfl (Nat.le_of_ble_eq_true rfl) dX0_keep_121) (fun o1 w2 h => ?_)
  refine j_iload_n O 2 1 dX0_keep_124 rfl rfl ?_
  refine j_iload O 6 dX0_keep_125 rfl ?_
  obtain ⟨k4, e_k4, g_k4⟩ := h
  subst e_k4
  have h := g_k4
  obtain ⟨e7, h⟩ := h
  refine fin_I O ⟨Nat.zero_le _, Nat.zero_le _⟩ (run_V (As := [vI (x1), vI (x6)]) (st := [vI (x7), vI (x4)]) O (mt_X2_pinsAt (xl x) (xG x) _ _ _ _ _ h) e7 cfX2.1 q586 q587 q588 q123 q589 hy_X2_pinsAt (Nat.le_of_ble_eq_true rfl) (Nat.le_of_ble_eq_true rfl) ⟨Nat.zero_le _, Nat.zero_le _⟩ rfl (Nat.le_of_ble_eq_true rfl) dX0_keep_127) (fun r5 w6 h => ?_)
  refine j_iconst O dX0_keep_130 ?_
  refine j_ixor O dX0_keep_131 ?_
  refine j_iand O dX0_keep_132 ?_
  refine fin_I O ⟨Nat.zero_le _, Nat.zero_le _⟩ (run_S (As := [vI ((ian x7 (ixo r5 ((-1)))))]) (st := [vI (x4)]) O (mt_X0_ones (xl x) (xG x) _ _ _ h) q617 q600 q121 q601 hy_X0_ones.2 (Nat.le_of_ble_eq_true rfl) (Nat.le_of_ble_eq_true rfl) ⟨Nat.zero_le _, Nat.zero_le _⟩ rfl (Nat.le_of_ble_eq_true rfl) dX0_keep_133) (fun r8 w9 h => ?_)
  refine j_isub O dX0_keep_136 ?_
  refine j_istore (L' := [(4, vI (x4 - r8)), (5, vI (x7)), (0, .ref (adG (xG x) (this))), (1, vI (x1)), (2, vI (x2)), (3, vI (x3)), (6, vI (x6)), (7, vI (x7))]) O dX0_keep_137 (by rw [hm]; decide) rfl ?_
  refine j_iinc (L' := [(6, vI (x6 + 1)), (4, vI (x4 - r8)), (5, vI (x7)), (0, .ref (adG (xG x) (this))), (1, vI (x1)), (2, vI (x2)), (3, vI (x3)), (7, vI (x7))]) O 6 dX0_keep_139 rfl (by rw [hm]; decide) rfl ?_
  refine j_goto O (tgt := 60) dX0_keep_142 (by decide) ?_
  exact (J.sub [3, 4, 5, 6, 1, 2, 0] rfl <| hK60 _ _ _ _ h)
theorem wk_X0_keep_60 {x : Cx} (O : OK x "DowryBoxes" cX0_keep 5) (hr : (xM x).sig.returnType = some .int) (hm : xn x = 8) {Q : Int → Wd → Prop} (this : Nat) (x1 : Int) (x2 : Int) (x3 : Int) : ∀ (n : Nat) (x4 : Int) (x5 : Int) (x6 : Int) (w : Wd), wp_X0_keep_60 Q this x1 x2 x3 n x4 x5 x6 w → J x (TI x Q) w 0 0 60 [(0, .ref (adG (xG x) (this))), (1, vI (x1)), (2, vI (x2)), (3, vI (x3)), (4, vI (x4)), (5, vI (x5)), (6, vI (x6))] [] := by
  intro n
  induction n with
  | zero => intro x4 x5 x6 w h; exact False.elim h
  | succ n ih =>
    intro x4 x5 x6 w h
    rw [wp_X0_keep_60] at h
    refine j_iload O 6 dX0_keep_60 rfl ?_
    refine j_iload_n O 3 3 dX0_keep_62 rfl rfl ?_
    obtain ⟨c1, h⟩ := h
    obtain ⟨c2, h⟩ := h
    refine j_icmp_gt O (tgt := 145) dX0_keep_63 (by decide) c1 c2 h (fun h => ?_) (fun h => ?_)
    · refine j_iload O 5 dX0_keep_145 rfl ?_
      exact j_iret O hr dX0_keep_147 h
    · refine j_iconst O dX0_keep_66 ?_
      refine j_istore (L' := [(7, vI (0)), (0, .ref (adG (xG x) (this))), (1, vI (x1)), (2, vI (x2)), (3, vI (x3)), (4, vI (x4)), (5, vI (x5)), (6, vI (x6))]) O dX0_keep_67 (by rw [hm]; decide) rfl ?_
      refine (J.sub [1, 2, 3, 4, 5, 6, 7, 0] rfl <| wk_X0_keep_69 O hr hm _ _ _ _ _ _ _ _ _ ih (fun z3 w4 h => ?_) FU _ _ h)
      exact (J.sub [0, 1, 2, 3, 4, 5, 6] rfl <| wk_X0_keep_112 O hr hm _ _ _ _ _ _ _ _ ih _ h)
theorem mt_X0_keep (l : Launch) (G : GW) (this : Nat) (p1 : Int) (p2 : Int) (p3 : Int) (w : Wd) (Q : Int → Wd → Prop) (h : wp_X0_keep this p1 p2 p3 w Q) : MI l G yX0_keep cX0_keep 8 (.int) 5 0 0 [.ref (adG G (this)), vI (p1), vI (p2), vI (p3)] w Q := by
  refine met_I (fun G => [.ref (adG G (this)), vI (p1), vI (p2), vI (p3)]) (by decide) (fun G => Nat.le_of_ble_eq_true rfl) (fun x O hl hm hr => ?_)
  subst hl
  have O : OK x "DowryBoxes" cX0_keep 5 := O
  have h : wp_X0_keep this p1 p2 p3 w Q := h
  unfold wp_X0_keep at h
  show J x (TI x Q) w 0 0 0 [(0, .ref (adG (xG x) (this))), (1, vI (p1)), (2, vI (p2)), (3, vI (p3))] []
  refine j_aload_n O 0 0 dX0_keep_0 rfl rfl ?_
  refine j_iload_n O 1 1 dX0_keep_1 rfl rfl ?_
  obtain ⟨e3, h⟩ := h
  refine fin_I O ⟨Nat.zero_le _, Nat.zero_le _⟩ (run_V (As := [vI (p1)]) (st := []) O (mt_X0_isBox (xl x) (xG x) _ _ _ _ h) e3 cfX0.1 q582 q584 qs6 q121 q585 hy_X0_isBox (Nat.le_of_ble_eq_true rfl) (Nat.le_of_ble_eq_true rfl) ⟨Nat.zero_le _, Nat.zero_le _⟩ rfl (Nat.le_of_ble_eq_true rfl) dX0_keep_2) (fun r1 w2 h => ?_)
  obtain ⟨c4, h⟩ := h
  refine j_if_eq O (tgt := 28) dX0_keep_5 (by decide) c4 h (fun h => ?_) (fun h => ?_)
  · refine j_iconst O dX0_keep_28 ?_
    exact j_iret O hr dX0_keep_29 h
  · refine j_iload_n O 2 2 dX0_keep_8 rfl rfl ?_
    refine j_iconst O dX0_keep_9 ?_
    refine j_bipush (m := 8) O dX0_keep_10 bi_8 ?_
    refine fin_I O ⟨Nat.zero_le _, Nat.zero_le _⟩ (run_S (As := [vI (p2), vI (0), vI (8)]) (st := []) O (mt_X0_in (xl x) (xG x) _ _ _ _ _ h) q465 q466 q121 q467 hy_X0_in.2 (Nat.le_of_ble_eq_true rfl) (Nat.le_of_ble_eq_true rfl) ⟨Nat.zero_le _, Nat.zero_le _⟩ rfl (Nat.le_of_ble_eq_true rfl) dX0_keep_12) (fun r5 w6 h => ?_)
    obtain ⟨c7, h⟩ := h
    refine j_if_eq O (tgt := 28) dX0_keep_15 (by decide) c7 h (fun h => ?_) (fun h => ?_)
    · refine j_iconst O dX0_keep_28 ?_
      exact j_iret O hr dX0_keep_29 h
    · refine j_iload_n O 3 3 dX0_keep_18 rfl rfl ?_
      refine j_iconst O dX0_keep_19 ?_
      refine j_bipush (m := 7) O dX0_keep_20 bi_7 ?_
      refine fin_I O ⟨Nat.zero_le _, Nat.zero_le _⟩ (run_S (As := [vI (p3), vI (((-1))), vI (7)]) (st := []) O (mt_X0_in (xl x) (xG x) _ _ _ _ _ h) q465 q466 q121 q467 hy_X0_in.2 (Nat.le_of_ble_eq_true rfl) (Nat.le_of_ble_eq_true rfl) ⟨Nat.zero_le _, Nat.zero_le _⟩ rfl (Nat.le_of_ble_eq_true rfl) dX0_keep_22) (fun r8 w9 h => ?_)
      obtain ⟨c10, h⟩ := h
      refine j_if_ne O (tgt := 30) dX0_keep_25 (by decide) c10 h (fun h => ?_) (fun h => ?_)
      · refine j_aload_n O 0 0 dX0_keep_30 rfl rfl ?_
        refine j_iload_n O 1 1 dX0_keep_31 rfl rfl ?_
        refine j_iload_n O 2 2 dX0_keep_32 rfl rfl ?_
        obtain ⟨e12, h⟩ := h
        refine fin_V O ⟨Nat.zero_le _, Nat.zero_le _⟩ (run_V (As := [vI (p1), vI (p2)]) (st := []) O (mt_X0_laysFewest (xl x) (xG x) _ _ _ _ _ h) e12 cfX0.1 q1400 q1402 qs37 q121 q1403 hy_X0_laysFewest (Nat.le_of_ble_eq_true rfl) (Nat.le_of_ble_eq_true rfl) ⟨Nat.zero_le _, Nat.zero_le _⟩ rfl (Nat.le_of_ble_eq_true rfl) dX0_keep_33) (fun w11 h => ?_)
        refine j_aload_n O 0 0 dX0_keep_36 rfl rfl ?_
        refine j_iconst O dX0_keep_37 ?_
        refine j_iconst O dX0_keep_38 ?_
        refine j_bipush (m := 8) O dX0_keep_39 bi_8 ?_
        obtain ⟨e15, h⟩ := h
        refine fin_I O ⟨Nat.zero_le _, Nat.zero_le _⟩ (run_V (As := [vI (0), vI (0), vI (8)]) (st := []) O (mt_X0_fewestBehind (xl x) (xG x) _ _ _ _ _ _ h) e15 cfX0.1 q1404 q1406 qs38 q121 q1407 hy_X0_fewestBehind (Nat.le_of_ble_eq_true rfl) (Nat.le_of_ble_eq_true rfl) ⟨Nat.zero_le _, Nat.zero_le _⟩ rfl (Nat.le_of_ble_eq_true rfl) dX0_keep_41) (fun r13 w14 h => ?_)
        refine j_istore (L' := [(4, vI (r13)), (0, .ref (adG (xG x) (this))), (1, vI (p1)), (2, vI (p2)), (3, vI (p3))]) O dX0_keep_44 (by rw [hm]; decide) rfl ?_
        refine j_iload_n O 4 3 dX0_keep_46 rfl rfl ?_
        refine j_iconst O dX0_keep_47 ?_
        obtain ⟨c16, h⟩ := h
        refine j_icmp_ne O (tgt := 54) dX0_keep_48 (by decide) c16 (by decide) h (fun h => ?_) (fun h => ?_)
        · refine j_iconst O dX0_keep_54 ?_
          refine j_istore (L' := [(5, vI ((-1))), (4, vI (r13)), (0, .ref (adG (xG x) (this))), (1, vI (p1)), (2, vI (p2)), (3, vI (p3))]) O dX0_keep_55 (by rw [hm]; decide) rfl ?_
          refine j_iconst O dX0_keep_57 ?_
          refine j_istore (L' := [(6, vI (0)), (5, vI ((-1))), (4, vI (r13)), (0, .ref (adG (xG x) (this))), (1, vI (p1)), (2, vI (p2)), (3, vI (p3))]) O dX0_keep_58 (by rw [hm]; decide) rfl ?_
          exact (J.sub [3, 4, 5, 6, 2, 1, 0] rfl <| wk_X0_keep_60 O hr hm  _ _ _ _  FU _ _ _ _ h)
        · refine j_iload O 0 dX0_keep_51 rfl ?_
          exact j_iret O hr dX0_keep_53 h
      · refine j_iconst O dX0_keep_28 ?_
        exact j_iret O hr dX0_keep_29 h
theorem hy_X0_mostOf : (yX0_mostOf.cls = "DowryBoxes" ∧ yX0_mostOf.cls ≠ "java/lang/invoke/MethodHandle" ∧ yX0_mostOf.cls ≠ "java/lang/invoke/VarHandle" ∧ (parseMethodDescriptor yX0_mostOf.desc).map (fun d => d.parameters.length) = some 2) := by decide +kernel
theorem mt_X0_mostOf (l : Launch) (G : GW) (this : Nat) (p1 : Int) (p2 : Int) (w : Wd) (Q : Int → Wd → Prop) (h : wp_X0_mostOf this p1 p2 w Q) : MI l G yX0_mostOf cX0_mostOf 3 (.int) 1 0 0 [.ref (adG G (this)), vI (p1), vI (p2)] w Q := by
  refine met_I (fun G => [.ref (adG G (this)), vI (p1), vI (p2)]) (by decide) (fun G => Nat.le_of_ble_eq_true rfl) (fun x O hl hm hr => ?_)
  subst hl
  have O : OK x "DowryBoxes" cX0_mostOf 1 := O
  have h : wp_X0_mostOf this p1 p2 w Q := h
  unfold wp_X0_mostOf at h
  show J x (TI x Q) w 0 0 0 [(0, .ref (adG (xG x) (this))), (1, vI (p1)), (2, vI (p2))] []
  refine j_aload_n O 0 0 dX0_mostOf_0 rfl rfl ?_
  refine j_getA O cfX0 22 (Nat.le_of_ble_eq_true rfl) ⟨_, rfl⟩ q380 dX0_mostOf_1 h (fun k1 h => ?_)
  refine j_bipush (m := 64) O dX0_mostOf_4 bi_64 ?_
  refine j_iload_n O 1 1 dX0_mostOf_6 rfl rfl ?_
  refine j_imul O dX0_mostOf_7 ?_
  refine j_iload_n O 2 2 dX0_mostOf_8 rfl rfl ?_
  refine j_iadd O dX0_mostOf_9 ?_
  refine j_iald O dX0_mostOf_10 h (fun v2 h => ?_)
  exact j_iret O hr dX0_mostOf_11 h
theorem hy_X0_mostWith : (yX0_mostWith.cls = "DowryBoxes" ∧ yX0_mostWith.cls ≠ "java/lang/invoke/MethodHandle" ∧ yX0_mostWith.cls ≠ "java/lang/invoke/VarHandle" ∧ (parseMethodDescriptor yX0_mostWith.desc).map (fun d => d.parameters.length) = some 3) := by decide +kernel
theorem wk_X0_mostWith_51 {x : Cx} (O : OK x "DowryBoxes" cX0_mostWith 2) (hr : (xM x).sig.returnType = some .int) (hm : xn x = 5) {Q : Int → Wd → Prop} (w : Wd) (h : wp_X0_mostWith_51 Q w) : J x (TI x Q) w 0 0 51 [] [] := by
  unfold wp_X0_mostWith_51 at h
  refine j_iconst O dX0_mostWith_51 ?_
  refine j_goto O (tgt := 74) dX0_mostWith_52 (by decide) ?_
  exact j_iret O hr dX0_mostWith_74 h
theorem mt_X0_mostWith (l : Launch) (G : GW) (this : Nat) (p1 : Int) (p2 : Int) (p3 : Int) (w : Wd) (Q : Int → Wd → Prop) (h : wp_X0_mostWith this p1 p2 p3 w Q) : MI l G yX0_mostWith cX0_mostWith 5 (.int) 2 0 0 [.ref (adG G (this)), vI (p1), vI (p2), vI (p3)] w Q := by
  refine met_I (fun G => [.ref (adG G (this)), vI (p1), vI (p2), vI (p3)]) (by decide) (fun G => Nat.le_of_ble_eq_true rfl) (fun x O hl hm hr => ?_)
  subst hl
  have O : OK x "DowryBoxes" cX0_mostWith 2 := O
  have h : wp_X0_mostWith this p1 p2 p3 w Q := h
  unfold wp_X0_mostWith at h
  show J x (TI x Q) w 0 0 0 [(0, .ref (adG (xG x) (this))), (1, vI (p1)), (2, vI (p2)), (3, vI (p3))] []
  refine j_iload_n O 2 2 dX0_mostWith_0 rfl rfl ?_
  refine j_bipush (m := 100) O dX0_mostWith_1 bi_100 ?_
  obtain ⟨c1, h⟩ := h
  refine j_icmp_ne O (tgt := 15) dX0_mostWith_3 (by decide) c1 (by decide) h (fun h => ?_) (fun h => ?_)
  · refine j_aload_n O 0 0 dX0_mostWith_15 rfl rfl ?_
    refine j_getA O cfX0 18 (Nat.le_of_ble_eq_true rfl) ⟨_, rfl⟩ q376 dX0_mostWith_16 h (fun k2 h => ?_)
    refine j_bipush (m := 6) O dX0_mostWith_19 bi_6 ?_
    refine j_iload_n O 1 1 dX0_mostWith_21 rfl rfl ?_
    refine j_imul O dX0_mostWith_22 ?_
    refine j_iload_n O 2 2 dX0_mostWith_23 rfl rfl ?_
    refine j_iadd O dX0_mostWith_24 ?_
    refine j_iald O dX0_mostWith_25 h (fun v3 h => ?_)
    refine j_istore (L' := [(4, vI (v3)), (0, .ref (adG (xG x) (this))), (1, vI (p1)), (2, vI (p2)), (3, vI (p3))]) O dX0_mostWith_26 (by rw [hm]; decide) rfl ?_
    refine j_iload O 0 dX0_mostWith_28 rfl ?_
    refine j_iconst O dX0_mostWith_30 ?_
    obtain ⟨c4, h⟩ := h
    refine j_icmp_eq O (tgt := 51) dX0_mostWith_31 (by decide) c4 (by decide) h (fun h => ?_) (fun h => ?_)
    · exact (J.sub [] rfl <| wk_X0_mostWith_51 O hr hm    _ h)
    · refine j_iload O 0 dX0_mostWith_34 rfl ?_
      refine j_aload_n O 1 0 dX0_mostWith_36 rfl rfl ?_
      refine j_getI O cfX0 23 (Nat.le_of_ble_eq_true rfl) (.inl rfl) q381 dX0_mostWith_37 h (fun v5 h => ?_)
      obtain ⟨c6, h⟩ := h
      obtain ⟨c7, h⟩ := h
      refine j_icmp_gt O (tgt := 51) dX0_mostWith_40 (by decide) c6 c7 h (fun h => ?_) (fun h => ?_)
      · exact (J.sub [] rfl <| wk_X0_mostWith_51 O hr hm    _ h)
      · refine j_iload_n O 4 3 dX0_mostWith_43 rfl rfl ?_
        refine j_iload_n O 3 2 dX0_mostWith_44 rfl rfl ?_
        refine fin_I O ⟨Nat.zero_le _, Nat.zero_le _⟩ (run_S (As := [vI (p3), vI (p2)]) (st := []) O (mt_X0_isOf (xl x) (xG x) _ _ _ _ h) q624 q625 q121 q626 hy_X0_isOf.2 (Nat.le_of_ble_eq_true rfl) (Nat.le_of_ble_eq_true rfl) ⟨Nat.zero_le _, Nat.zero_le _⟩ rfl (Nat.le_of_ble_eq_true rfl) dX0_mostWith_45) (fun r8 w9 h => ?_)
        obtain ⟨c10, h⟩ := h
        refine j_if_eq O (tgt := 55) dX0_mostWith_48 (by decide) c10 h (fun h => ?_) (fun h => ?_)
        · refine j_sipush (m := 1000) O dX0_mostWith_55 si_1000 ?_
          refine j_iload O 0 dX0_mostWith_58 rfl ?_
          refine j_isub O dX0_mostWith_60 ?_
          refine j_aload_n O 1 0 dX0_mostWith_61 rfl rfl ?_
          refine j_iload_n O 2 1 dX0_mostWith_62 rfl rfl ?_
          refine j_iconst O dX0_mostWith_63 ?_
          refine j_iadd O dX0_mostWith_64 ?_
          refine j_iload_n O 4 3 dX0_mostWith_65 rfl rfl ?_
          refine j_iconst O dX0_mostWith_66 ?_
          refine j_iload_n O 3 2 dX0_mostWith_67 rfl rfl ?_
          refine j_ishl O dX0_mostWith_68 ?_
          refine j_ior O dX0_mostWith_69 ?_
          obtain ⟨e13, h⟩ := h
          refine fin_I O ⟨Nat.zero_le _, Nat.zero_le _⟩ (run_V (As := [vI ((p1 + 1)), vI ((ior p3 (isl 1 p2)))]) (st := [vI (1000 - v3)]) O (mt_X0_mostOf (xl x) (xG x) _ _ _ _ _ h) e13 cfX0.1 q1388 q1390 qs35 q121 q1391 hy_X0_mostOf (Nat.le_of_ble_eq_true rfl) (Nat.le_of_ble_eq_true rfl) ⟨Nat.zero_le _, Nat.zero_le _⟩ rfl (Nat.le_of_ble_eq_true rfl) dX0_mostWith_70) (fun r11 w12 h => ?_)
          refine j_iadd O dX0_mostWith_73 ?_
          exact j_iret O hr dX0_mostWith_74 h
        · exact (J.sub [] rfl <| wk_X0_mostWith_51 O hr hm    _ h)
  · refine j_aload_n O 0 0 dX0_mostWith_6 rfl rfl ?_
    refine j_iload_n O 1 1 dX0_mostWith_7 rfl rfl ?_
    refine j_iconst O dX0_mostWith_8 ?_
    refine j_iadd O dX0_mostWith_9 ?_
    refine j_iload_n O 3 3 dX0_mostWith_10 rfl rfl ?_
    obtain ⟨e16, h⟩ := h
    refine fin_I O ⟨Nat.zero_le _, Nat.zero_le _⟩ (run_V (As := [vI ((p1 + 1)), vI (p3)]) (st := []) O (mt_X0_mostOf (xl x) (xG x) _ _ _ _ _ h) e16 cfX0.1 q1388 q1390 qs35 q121 q1391 hy_X0_mostOf (Nat.le_of_ble_eq_true rfl) (Nat.le_of_ble_eq_true rfl) ⟨Nat.zero_le _, Nat.zero_le _⟩ rfl (Nat.le_of_ble_eq_true rfl) dX0_mostWith_11) (fun r14 w15 h => ?_)
    exact j_iret O hr dX0_mostWith_14 h
theorem hy_X0_suitorOf : (yX0_suitorOf.cls = "DowryBoxes" ∧ yX0_suitorOf.cls ≠ "java/lang/invoke/MethodHandle" ∧ yX0_suitorOf.cls ≠ "java/lang/invoke/VarHandle" ∧ (parseMethodDescriptor yX0_suitorOf.desc).map (fun d => d.parameters.length) = some 2) := by decide +kernel
theorem wk_X0_suitorOf_2 {x : Cx} (O : OK x "DowryBoxes" cX0_suitorOf 3) (hr : (xM x).sig.returnType = some .int) (hm : xn x = 4) {Q : Int → Wd → Prop} (this : Nat) (x1 : Int) (x2 : Int) : ∀ (n : Nat) (x3 : Int) (w : Wd), wp_X0_suitorOf_2 Q this x1 x2 n x3 w → J x (TI x Q) w 0 0 2 [(0, .ref (adG (xG x) (this))), (1, vI (x1)), (2, vI (x2)), (3, vI (x3))] [] := by
  intro n
  induction n with
  | zero => intro x3 w h; exact False.elim h
  | succ n ih =>
    intro x3 w h
    rw [wp_X0_suitorOf_2] at h
    refine j_iload_n O 3 3 dX0_suitorOf_2 rfl rfl ?_
    refine j_aload_n O 0 0 dX0_suitorOf_3 rfl rfl ?_
    refine j_getR O cfX0 2 (Nat.le_of_ble_eq_true rfl) ⟨_, rfl⟩ q360 dX0_suitorOf_4 h (fun o1 h => ?_)
    obtain ⟨k2, e_k2, g_k2⟩ := h
    subst e_k2
    have h := g_k2
    refine j_getIN O cfX1 6 (Nat.le_of_ble_eq_true rfl) (.inl rfl) (lw_n q244 rfl) dX0_suitorOf_7 h (fun v3 h => ?_)
    obtain ⟨c4, h⟩ := h
    obtain ⟨c5, h⟩ := h
    refine j_icmp_ge O (tgt := 37) dX0_suitorOf_10 (by decide) c4 c5 h (fun h => ?_) (fun h => ?_)
    · refine j_bipush (m := 100) O dX0_suitorOf_37 bi_100 ?_
      exact j_iret O hr dX0_suitorOf_39 h
    · refine j_aload_n O 0 0 dX0_suitorOf_13 rfl rfl ?_
      refine j_iload_n O 1 1 dX0_suitorOf_14 rfl rfl ?_
      refine j_iload_n O 3 3 dX0_suitorOf_15 rfl rfl ?_
      refine j_iload_n O 2 2 dX0_suitorOf_16 rfl rfl ?_
      obtain ⟨e8, h⟩ := h
      refine fin_I O ⟨Nat.zero_le _, Nat.zero_le _⟩ (run_V (As := [vI (x1), vI (x3), vI (x2)]) (st := []) O (mt_X0_mostWith (xl x) (xG x) _ _ _ _ _ _ h) e8 cfX0.1 q1384 q1386 qs34 q121 q1387 hy_X0_mostWith (Nat.le_of_ble_eq_true rfl) (Nat.le_of_ble_eq_true rfl) ⟨Nat.zero_le _, Nat.zero_le _⟩ rfl (Nat.le_of_ble_eq_true rfl) dX0_suitorOf_17) (fun r6 w7 h => ?_)
      refine j_aload_n O 0 0 dX0_suitorOf_20 rfl rfl ?_
      refine j_iload_n O 1 1 dX0_suitorOf_21 rfl rfl ?_
      refine j_iload_n O 2 2 dX0_suitorOf_22 rfl rfl ?_
      obtain ⟨e11, h⟩ := h
      refine fin_I O ⟨Nat.zero_le _, Nat.zero_le _⟩ (run_V (As := [vI (x1), vI (x2)]) (st := [vI (r6)]) O (mt_X0_mostOf (xl x) (xG x) _ _ _ _ _ h) e11 cfX0.1 q1388 q1390 qs35 q121 q1391 hy_X0_mostOf (Nat.le_of_ble_eq_true rfl) (Nat.le_of_ble_eq_true rfl) ⟨Nat.zero_le _, Nat.zero_le _⟩ rfl (Nat.le_of_ble_eq_true rfl) dX0_suitorOf_23) (fun r9 w10 h => ?_)
      obtain ⟨c12, h⟩ := h
      obtain ⟨c13, h⟩ := h
      refine j_icmp_ne O (tgt := 31) dX0_suitorOf_26 (by decide) c12 c13 h (fun h => ?_) (fun h => ?_)
      · refine j_iinc (L' := [(3, vI (x3 + 1)), (0, .ref (adG (xG x) (this))), (1, vI (x1)), (2, vI (x2))]) O 3 dX0_suitorOf_31 rfl (by rw [hm]; decide) rfl ?_
        refine j_goto O (tgt := 2) dX0_suitorOf_34 (by decide) ?_
        exact (J.sub [1, 2, 3, 0] rfl <| ih _ _ h)
      · refine j_iload_n O 3 3 dX0_suitorOf_29 rfl rfl ?_
        exact j_iret O hr dX0_suitorOf_30 h
theorem mt_X0_suitorOf (l : Launch) (G : GW) (this : Nat) (p1 : Int) (p2 : Int) (w : Wd) (Q : Int → Wd → Prop) (h : wp_X0_suitorOf this p1 p2 w Q) : MI l G yX0_suitorOf cX0_suitorOf 4 (.int) 3 0 0 [.ref (adG G (this)), vI (p1), vI (p2)] w Q := by
  refine met_I (fun G => [.ref (adG G (this)), vI (p1), vI (p2)]) (by decide) (fun G => Nat.le_of_ble_eq_true rfl) (fun x O hl hm hr => ?_)
  subst hl
  have O : OK x "DowryBoxes" cX0_suitorOf 3 := O
  have h : wp_X0_suitorOf this p1 p2 w Q := h
  unfold wp_X0_suitorOf at h
  show J x (TI x Q) w 0 0 0 [(0, .ref (adG (xG x) (this))), (1, vI (p1)), (2, vI (p2))] []
  refine j_iconst O dX0_suitorOf_0 ?_
  refine j_istore_n (L' := [(3, vI (0)), (0, .ref (adG (xG x) (this))), (1, vI (p1)), (2, vI (p2))]) O 3 dX0_suitorOf_1 rfl (by rw [hm]; decide) rfl ?_
  exact (J.sub [1, 2, 3, 0] rfl <| wk_X0_suitorOf_2 O hr hm  _ _ _  FU _ _ h)
theorem hy_X0_likes : (yX0_likes.cls = "DowryBoxes" ∧ yX0_likes.cls ≠ "java/lang/invoke/MethodHandle" ∧ yX0_likes.cls ≠ "java/lang/invoke/VarHandle" ∧ (parseMethodDescriptor yX0_likes.desc).map (fun d => d.parameters.length) = some 3) := by decide +kernel
theorem mt_X0_likes (l : Launch) (G : GW) (this : Nat) (p1 : Option Nat) (p2 : Int) (p3 : Int) (w : Wd) (Q : Int → Wd → Prop) (h : wp_X0_likes this p1 p2 p3 w Q) : MI l G yX0_likes cX0_likes 4 (.int) 108 0 0 [.ref (adG G (this)), vR G (p1), vI (p2), vI (p3)] w Q := by
  refine met_I (fun G => [.ref (adG G (this)), vR G (p1), vI (p2), vI (p3)]) (by decide) (fun G => by cases p1 <;> exact Nat.le_of_ble_eq_true rfl) (fun x O hl hm hr => ?_)
  subst hl
  have O : OK x "DowryBoxes" cX0_likes 108 := O
  have h : wp_X0_likes this p1 p2 p3 w Q := h
  unfold wp_X0_likes at h
  rw [show lv_args 0 [.ref (adG (xG x) (this)), vR (xG x) (p1), vI (p2), vI (p3)] = [(0, .ref (adG (xG x) (this))), (1, vR (xG x) (p1)), (2, vI (p2)), (3, vI (p3))] from by cases p1 <;> rfl]
  show J x (TI x Q) w 0 0 0 [(0, .ref (adG (xG x) (this))), (1, vR (xG x) (p1)), (2, vI (p2)), (3, vI (p3))] []
  refine j_aload_n O 0 0 dX0_likes_0 rfl rfl ?_
  refine j_aload_n O 0 0 dX0_likes_1 rfl rfl ?_
  refine j_getR O cfX0 2 (Nat.le_of_ble_eq_true rfl) ⟨_, rfl⟩ q360 dX0_likes_2 h (fun o1 h => ?_)
  obtain ⟨k2, e_k2, g_k2⟩ := h
  subst e_k2
  have h := g_k2
  refine j_getIN O cfX1 10 (Nat.le_of_ble_eq_true rfl) (.inl rfl) (lw_n q252 rfl) dX0_likes_5 h (fun v3 h => ?_)
  refine j_iconst O dX0_likes_8 ?_
  refine j_aloadq_n O 1 1 dX0_likes_9 rfl rfl ?_
  refine j_iload_n O 2 2 dX0_likes_10 rfl rfl ?_
  refine j_iload_n O 3 3 dX0_likes_11 rfl rfl ?_
  obtain ⟨e6, h⟩ := h
  refine fin_L O ⟨Nat.zero_le _, Nat.zero_le _⟩ (run_V (As := [vI (v3), vI (1), vR (xG x) (p1), vI (p2), vI (p3)]) (st := []) O (mt_X0_says (xl x) (xG x) _ _ _ _ _ _ _ _ h) e6 cfX0.1 q612 q614 qs8 q121 q615 hy_X0_says (Nat.le_of_ble_eq_true rfl) (Nat.le_of_ble_eq_true rfl) ⟨Nat.zero_le _, Nat.zero_le _⟩ rfl (Nat.le_of_ble_eq_true rfl) dX0_likes_12) (fun r4 w5 h => ?_)
  refine j_bipush (m := 99) O dX0_likes_15 bi_99 ?_
  refine j_aload_n O 0 0 dX0_likes_17 rfl rfl ?_
  refine j_aloadq_n O 1 1 dX0_likes_18 rfl rfl ?_
  refine j_iload_n O 2 2 dX0_likes_19 rfl rfl ?_
  refine j_iload_n O 3 3 dX0_likes_20 rfl rfl ?_
  obtain ⟨e9, h⟩ := h
  refine fin_I O ⟨Nat.zero_le _, Nat.zero_le _⟩ (run_V (As := [vR (xG x) (p1), vI (p2), vI (p3)]) (st := [vI (99), vL (r4)]) O (mt_X0_ears (xl x) (xG x) _ _ _ _ _ _ h) e9 cfX0.1 q619 q621 qs9 q121 q622 hy_X0_ears (Nat.le_of_ble_eq_true rfl) (Nat.le_of_ble_eq_true rfl) ⟨Nat.zero_le _, Nat.zero_le _⟩ rfl (Nat.le_of_ble_eq_true rfl) dX0_likes_21) (fun r7 w8 h => ?_)
  refine fin_I O ⟨Nat.zero_le _, Nat.zero_le _⟩ (run_S (As := [vL (r4), vI (99), vI (r7)]) (st := []) O (mt_X0_or (xl x) (xG x) _ _ _ _ _ h) q692 q693 q121 q694 hy_X0_or.2 (Nat.le_of_ble_eq_true rfl) (Nat.le_of_ble_eq_true rfl) ⟨Nat.zero_le _, Nat.zero_le _⟩ rfl (Nat.le_of_ble_eq_true rfl) dX0_likes_24) (fun r10 w11 h => ?_)
  exact j_iret O hr dX0_likes_27 h
theorem hy_X0_laysGaps : (yX0_laysGaps.cls = "DowryBoxes" ∧ yX0_laysGaps.cls ≠ "java/lang/invoke/MethodHandle" ∧ yX0_laysGaps.cls ≠ "java/lang/invoke/VarHandle" ∧ (parseMethodDescriptor yX0_laysGaps.desc).map (fun d => d.parameters.length) = some 0) := by decide +kernel
theorem wk_X0_laysGaps_84 {x : Cx} (O : OK x "DowryBoxes" cX0_laysGaps 110) (hr : (xM x).sig.returnType = none) (hm : xn x = 4) {Q : Wd → Prop} (K2 : Int → Wd → Prop) (K32 : Int → Wd → Prop) (X32 : Wd → Prop) (this : Nat) (x1 : Int) (x2 : Int) (x3 : Int) (s0 : Int) (s1 : Int) (s2 : Nat) (hK2 : ∀ (y1 : Int) (w : Wd), K2 y1 w → J x (TV x Q) w 0 0 2 [(0, .ref (adG (xG x) (this))), (1, vI (y1))] []) (hK32 : ∀ (y3 : Int) (w : Wd), K32 y3 w → J x (TV x Q) w 0 0 32 [(0, .ref (adG (xG x) (this))), (1, vI (x1)), (2, vI (x2)), (3, vI (y3))] []) (hX32 : ∀  (w : Wd), X32  w → J x (TV x Q) w 0 0 112 [(0, .ref (adG (xG x) (this))), (1, vI (x1))] []) (w : Wd) (h : wp_X0_laysGaps_84 Q K2 K32 X32 this x1 x2 x3 s0 s1 s2 w) : J x (TV x Q) w 0 0 84 [(0, .ref (adG (xG x) (this))), (1, vI (x1)), (2, vI (x2)), (3, vI (x3))] [vI (s0), vI (s1), .ref (adG (xG x) (s2))] := by
  unfold wp_X0_laysGaps_84 at h
  refine j_iast O dX0_laysGaps_84 h (fun w1 h => ?_)
  refine j_aload_n O 0 0 dX0_laysGaps_85 rfl rfl ?_
  refine j_getA O cfX0 19 (Nat.le_of_ble_eq_true rfl) ⟨_, rfl⟩ q377 dX0_laysGaps_86 h (fun k2 h => ?_)
  refine j_bipush (m := 6) O dX0_laysGaps_89 bi_6 ?_
  refine j_iload_n O 1 1 dX0_laysGaps_91 rfl rfl ?_
  refine j_imul O dX0_laysGaps_92 ?_
  refine j_iload_n O 3 3 dX0_laysGaps_93 rfl rfl ?_
  refine j_iadd O dX0_laysGaps_94 ?_
  refine j_aload_n O 0 0 dX0_laysGaps_95 rfl rfl ?_
  refine j_aload_n O 0 0 dX0_laysGaps_96 rfl rfl ?_
  obtain ⟨e5, h⟩ := h
  refine fin_R O ⟨Nat.zero_le _, Nat.zero_le _⟩ (run_V (As := []) (st := [.ref (adG (xG x) (this)), vI ((6 * x1) + x3), .ref (adG (xG x) (k2))]) O (mt_X0_table (xl x) (xG x) _ _ _ h) e5 cfX0.1 q574 q576 qs5 q121 q577 hy_X0_table (Nat.le_of_ble_eq_true rfl) (Nat.le_of_ble_eq_true rfl) ⟨Nat.zero_le _, Nat.zero_le _⟩ rfl (Nat.le_of_ble_eq_true rfl) dX0_laysGaps_97) (fun o3 w4 h => ?_)
  refine j_iload_n O 1 1 dX0_laysGaps_100 rfl rfl ?_
  refine j_iload_n O 3 3 dX0_laysGaps_101 rfl rfl ?_
  obtain ⟨e8, h⟩ := h
  refine fin_I O ⟨Nat.zero_le _, Nat.zero_le _⟩ (run_V (As := [vR (xG x) (o3), vI (x1), vI (x3)]) (st := [vI ((6 * x1) + x3), .ref (adG (xG x) (k2))]) O (mt_X0_likes (xl x) (xG x) _ _ _ _ _ _ h) e8 cfX0.1 q741 q743 qs13 q121 q744 hy_X0_likes (Nat.le_of_ble_eq_true rfl) (Nat.le_of_ble_eq_true rfl) ⟨Nat.zero_le _, Nat.zero_le _⟩ rfl (Nat.le_of_ble_eq_true rfl) dX0_laysGaps_102) (fun r6 w7 h => ?_)
  refine j_iast O dX0_laysGaps_105 h (fun w9 h => ?_)
  refine j_iinc (L' := [(3, vI (x3 + 1)), (0, .ref (adG (xG x) (this))), (1, vI (x1)), (2, vI (x2))]) O 3 dX0_laysGaps_106 rfl (by rw [hm]; decide) rfl ?_
  refine j_goto O (tgt := 32) dX0_laysGaps_109 (by decide) ?_
  exact (J.sub [1, 2, 3, 0] rfl <| hK32 _ _ h)
theorem wk_X0_laysGaps_32 {x : Cx} (O : OK x "DowryBoxes" cX0_laysGaps 110) (hr : (xM x).sig.returnType = none) (hm : xn x = 4) {Q : Wd → Prop} (K2 : Int → Wd → Prop) (X32 : Wd → Prop) (this : Nat) (x1 : Int) (x2 : Int) (hK2 : ∀ (y1 : Int) (w : Wd), K2 y1 w → J x (TV x Q) w 0 0 2 [(0, .ref (adG (xG x) (this))), (1, vI (y1))] []) (hX32 : ∀  (w : Wd), X32  w → J x (TV x Q) w 0 0 112 [(0, .ref (adG (xG x) (this))), (1, vI (x1))] []) : ∀ (n : Nat) (x3 : Int) (w : Wd), wp_X0_laysGaps_32 Q K2 X32 this x1 x2 n x3 w → J x (TV x Q) w 0 0 32 [(0, .ref (adG (xG x) (this))), (1, vI (x1)), (2, vI (x2)), (3, vI (x3))] [] := by
  intro n
  induction n with
  | zero => intro x3 w h; exact False.elim h
  | succ n ih =>
    intro x3 w h
    rw [wp_X0_laysGaps_32] at h
    refine j_iload_n O 3 3 dX0_laysGaps_32 rfl rfl ?_
    refine j_aload_n O 0 0 dX0_laysGaps_33 rfl rfl ?_
    refine j_getR O cfX0 2 (Nat.le_of_ble_eq_true rfl) ⟨_, rfl⟩ q360 dX0_laysGaps_34 h (fun o1 h => ?_)
    obtain ⟨k2, e_k2, g_k2⟩ := h
    subst e_k2
    have h := g_k2
    refine j_getIN O cfX1 6 (Nat.le_of_ble_eq_true rfl) (.inl rfl) (lw_n q244 rfl) dX0_laysGaps_37 h (fun v3 h => ?_)
    obtain ⟨c4, h⟩ := h
    obtain ⟨c5, h⟩ := h
    refine j_icmp_ge O (tgt := 112) dX0_laysGaps_40 (by decide) c4 c5 h (fun h => ?_) (fun h => ?_)
    · exact (J.sub [0, 1] rfl <| hX32  _ h)
    · refine j_aload_n O 0 0 dX0_laysGaps_43 rfl rfl ?_
      refine j_getA O cfX0 18 (Nat.le_of_ble_eq_true rfl) ⟨_, rfl⟩ q376 dX0_laysGaps_44 h (fun k6 h => ?_)
      refine j_bipush (m := 6) O dX0_laysGaps_47 bi_6 ?_
      refine j_iload_n O 1 1 dX0_laysGaps_49 rfl rfl ?_
      refine j_imul O dX0_laysGaps_50 ?_
      refine j_iload_n O 3 3 dX0_laysGaps_51 rfl rfl ?_
      refine j_iadd O dX0_laysGaps_52 ?_
      refine j_aload_n O 0 0 dX0_laysGaps_53 rfl rfl ?_
      refine j_aload_n O 0 0 dX0_laysGaps_54 rfl rfl ?_
      obtain ⟨e9, h⟩ := h
      refine fin_R O ⟨Nat.zero_le _, Nat.zero_le _⟩ (run_V (As := []) (st := [.ref (adG (xG x) (this)), vI ((6 * x1) + x3), .ref (adG (xG x) (k6))]) O (mt_X0_table (xl x) (xG x) _ _ _ h) e9 cfX0.1 q574 q576 qs5 q121 q577 hy_X0_table (Nat.le_of_ble_eq_true rfl) (Nat.le_of_ble_eq_true rfl) ⟨Nat.zero_le _, Nat.zero_le _⟩ rfl (Nat.le_of_ble_eq_true rfl) dX0_laysGaps_55) (fun o7 w8 h => ?_)
      refine j_iload_n O 1 1 dX0_laysGaps_58 rfl rfl ?_
      refine j_iload_n O 3 3 dX0_laysGaps_59 rfl rfl ?_
      obtain ⟨e12, h⟩ := h
      refine fin_I O ⟨Nat.zero_le _, Nat.zero_le _⟩ (run_V (As := [vR (xG x) (o7), vI (x1), vI (x3)]) (st := [vI ((6 * x1) + x3), .ref (adG (xG x) (k6))]) O (mt_X0_canWed (xl x) (xG x) _ _ _ _ _ _ h) e12 cfX0.1 q1306 q1308 qs25 q121 q1309 hy_X0_canWed (Nat.le_of_ble_eq_true rfl) (Nat.le_of_ble_eq_true rfl) ⟨Nat.zero_le _, Nat.zero_le _⟩ rfl (Nat.le_of_ble_eq_true rfl) dX0_laysGaps_60) (fun r10 w11 h => ?_)
      obtain ⟨c13, h⟩ := h
      refine j_if_eq O (tgt := 83) dX0_laysGaps_63 (by decide) c13 h (fun h => ?_) (fun h => ?_)
      · refine j_iconst O dX0_laysGaps_83 ?_
        exact (J.sub [0, 1, 2, 3] rfl <| wk_X0_laysGaps_84 O hr hm _ _ _ _ _ _ _ _ _ _ hK2 ih hX32 _ h)
      · refine j_aload_n O 0 0 dX0_laysGaps_66 rfl rfl ?_
        refine j_getR O cfX0 2 (Nat.le_of_ble_eq_true rfl) ⟨_, rfl⟩ q360 dX0_laysGaps_67 h (fun o14 h => ?_)
        obtain ⟨k15, e_k15, g_k15⟩ := h
        subst e_k15
        have h := g_k15
        refine j_getAN O cfX1 2 (Nat.le_of_ble_eq_true rfl) ⟨_, rfl⟩ (lw_n q236 rfl) dX0_laysGaps_70 h (fun k16 h => ?_)
        refine j_iload_n O 3 3 dX0_laysGaps_73 rfl rfl ?_
        refine j_iald O dX0_laysGaps_74 h (fun v17 h => ?_)
        refine j_iload_n O 2 2 dX0_laysGaps_75 rfl rfl ?_
        refine j_isub O dX0_laysGaps_76 ?_
        obtain ⟨c18, h⟩ := h
        refine j_mabs O q1365 q1366 q135 q1367 (Nat.le_of_ble_eq_true rfl) (Nat.le_of_ble_eq_true rfl) dX0_laysGaps_77 c18 ?_
        refine j_goto O (tgt := 84) dX0_laysGaps_80 (by decide) ?_
        exact (J.sub [0, 1, 2, 3] rfl <| wk_X0_laysGaps_84 O hr hm _ _ _ _ _ _ _ _ _ _ hK2 ih hX32 _ h)
theorem wk_X0_laysGaps_2 {x : Cx} (O : OK x "DowryBoxes" cX0_laysGaps 110) (hr : (xM x).sig.returnType = none) (hm : xn x = 4) {Q : Wd → Prop} (this : Nat) : ∀ (n : Nat) (x1 : Int) (w : Wd), wp_X0_laysGaps_2 Q this n x1 w → J x (TV x Q) w 0 0 2 [(0, .ref (adG (xG x) (this))), (1, vI (x1))] [] := by
  intro n
  induction n with
  | zero => intro x1 w h; exact False.elim h
  | succ n ih =>
    intro x1 w h
    rw [wp_X0_laysGaps_2] at h
    refine j_iload_n O 1 1 dX0_laysGaps_2 rfl rfl ?_
    refine j_aload_n O 0 0 dX0_laysGaps_3 rfl rfl ?_
    refine j_getR O cfX0 2 (Nat.le_of_ble_eq_true rfl) ⟨_, rfl⟩ q360 dX0_laysGaps_4 h (fun o1 h => ?_)
    obtain ⟨k2, e_k2, g_k2⟩ := h
    subst e_k2
    have h := g_k2
    refine j_getIN O cfX1 5 (Nat.le_of_ble_eq_true rfl) (.inl rfl) (lw_n q242 rfl) dX0_laysGaps_7 h (fun v3 h => ?_)
    obtain ⟨c4, h⟩ := h
    obtain ⟨c5, h⟩ := h
    refine j_icmp_ge O (tgt := 118) dX0_laysGaps_10 (by decide) c4 c5 h (fun h => ?_) (fun h => ?_)
    · exact j_vret O hr dX0_laysGaps_118 h
    · refine j_aload_n O 0 0 dX0_laysGaps_13 rfl rfl ?_
      refine j_aload_n O 0 0 dX0_laysGaps_14 rfl rfl ?_
      refine j_getR O cfX0 2 (Nat.le_of_ble_eq_true rfl) ⟨_, rfl⟩ q360 dX0_laysGaps_15 h (fun o6 h => ?_)
      obtain ⟨k7, e_k7, g_k7⟩ := h
      subst e_k7
      have h := g_k7
      refine j_getIN O cfX1 10 (Nat.le_of_ble_eq_true rfl) (.inl rfl) (lw_n q252 rfl) dX0_laysGaps_18 h (fun v8 h => ?_)
      refine j_aload_n O 0 0 dX0_laysGaps_21 rfl rfl ?_
      obtain ⟨e11, h⟩ := h
      refine fin_R O ⟨Nat.zero_le _, Nat.zero_le _⟩ (run_V (As := []) (st := [vI (v8), .ref (adG (xG x) (this))]) O (mt_X0_table (xl x) (xG x) _ _ _ h) e11 cfX0.1 q574 q576 qs5 q121 q577 hy_X0_table (Nat.le_of_ble_eq_true rfl) (Nat.le_of_ble_eq_true rfl) ⟨Nat.zero_le _, Nat.zero_le _⟩ rfl (Nat.le_of_ble_eq_true rfl) dX0_laysGaps_22) (fun o9 w10 h => ?_)
      refine j_iload_n O 1 1 dX0_laysGaps_25 rfl rfl ?_
      obtain ⟨e14, h⟩ := h
      refine fin_I O ⟨Nat.zero_le _, Nat.zero_le _⟩ (run_V (As := [vI (v8), vR (xG x) (o9), vI (x1)]) (st := []) O (mt_X0_lasts (xl x) (xG x) _ _ _ _ _ _ h) e14 cfX0.1 q608 q610 qs7 q121 q611 hy_X0_lasts (Nat.le_of_ble_eq_true rfl) (Nat.le_of_ble_eq_true rfl) ⟨Nat.zero_le _, Nat.zero_le _⟩ rfl (Nat.le_of_ble_eq_true rfl) dX0_laysGaps_26) (fun r12 w13 h => ?_)
      refine j_istore_n (L' := [(2, vI (r12)), (0, .ref (adG (xG x) (this))), (1, vI (x1))]) O 2 dX0_laysGaps_29 rfl (by rw [hm]; decide) rfl ?_
      refine j_iconst O dX0_laysGaps_30 ?_
      refine j_istore_n (L' := [(3, vI (0)), (2, vI (r12)), (0, .ref (adG (xG x) (this))), (1, vI (x1))]) O 3 dX0_laysGaps_31 rfl (by rw [hm]; decide) rfl ?_
      refine (J.sub [2, 3, 1, 0] rfl <| wk_X0_laysGaps_32 O hr hm _ _ _ _ _ ih (fun w15 h => ?_) FU _ _ h)
      refine j_iinc (L' := [(1, vI (x1 + 1)), (0, .ref (adG (xG x) (this)))]) O 1 dX0_laysGaps_112 rfl (by rw [hm]; decide) rfl ?_
      refine j_goto O (tgt := 2) dX0_laysGaps_115 (by decide) ?_
      exact (J.sub [1, 0] rfl <| ih _ _ h)
theorem mt_X0_laysGaps (l : Launch) (G : GW) (this : Nat) (w : Wd) (Q : Wd → Prop) (h : wp_X0_laysGaps this w Q) : MV l G yX0_laysGaps cX0_laysGaps 4 110 0 0 [.ref (adG G (this))] w Q := by
  refine met_V (fun G => [.ref (adG G (this))]) (by decide) (fun G => Nat.le_of_ble_eq_true rfl) (fun x O hl hm hr _ => ?_)
  subst hl
  have O : OK x "DowryBoxes" cX0_laysGaps 110 := O
  have h : wp_X0_laysGaps this w Q := h
  unfold wp_X0_laysGaps at h
  show J x (TV x Q) w 0 0 0 [(0, .ref (adG (xG x) (this)))] []
  refine j_iconst O dX0_laysGaps_0 ?_
  refine j_istore_n (L' := [(1, vI (0)), (0, .ref (adG (xG x) (this)))]) O 1 dX0_laysGaps_1 rfl (by rw [hm]; decide) rfl ?_
  exact (J.sub [1, 0] rfl <| wk_X0_laysGaps_2 O hr hm  _  FU _ _ h)
theorem hy_X0_laysAbout : (yX0_laysAbout.cls = "DowryBoxes" ∧ yX0_laysAbout.cls ≠ "java/lang/invoke/MethodHandle" ∧ yX0_laysAbout.cls ≠ "java/lang/invoke/VarHandle" ∧ (parseMethodDescriptor yX0_laysAbout.desc).map (fun d => d.parameters.length) = some 0) := by decide +kernel
theorem wk_X0_laysAbout_6 {x : Cx} (O : OK x "DowryBoxes" cX0_laysAbout 111) (hr : (xM x).sig.returnType = none) (hm : xn x = 5) {Q : Wd → Prop} (X6 : Wd → Prop) (this : Nat) (hX6 : ∀  (w : Wd), X6  w → J x (TV x Q) w 0 0 36 [(0, .ref (adG (xG x) (this)))] []) : ∀ (n : Nat) (x1 : Int) (w : Wd), wp_X0_laysAbout_6 Q X6 this n x1 w → J x (TV x Q) w 0 0 6 [(0, .ref (adG (xG x) (this))), (1, vI (x1))] [] := by
  intro n
  induction n with
  | zero => intro x1 w h; exact False.elim h
  | succ n ih =>
    intro x1 w h
    rw [wp_X0_laysAbout_6] at h
    refine j_iload_n O 1 1 dX0_laysAbout_6 rfl rfl ?_
    refine j_bipush (m := 64) O dX0_laysAbout_7 bi_64 ?_
    obtain ⟨c1, h⟩ := h
    refine j_icmp_ge O (tgt := 36) dX0_laysAbout_9 (by decide) c1 (by decide) h (fun h => ?_) (fun h => ?_)
    · exact (J.sub [0] rfl <| hX6  _ h)
    · refine j_aload_n O 0 0 dX0_laysAbout_12 rfl rfl ?_
      refine j_getA O cfX0 22 (Nat.le_of_ble_eq_true rfl) ⟨_, rfl⟩ q380 dX0_laysAbout_13 h (fun k2 h => ?_)
      refine j_bipush (m := 64) O dX0_laysAbout_16 bi_64 ?_
      refine j_aload_n O 0 0 dX0_laysAbout_18 rfl rfl ?_
      refine j_getR O cfX0 2 (Nat.le_of_ble_eq_true rfl) ⟨_, rfl⟩ q360 dX0_laysAbout_19 h (fun o3 h => ?_)
      obtain ⟨k4, e_k4, g_k4⟩ := h
      subst e_k4
      have h := g_k4
      refine j_getIN O cfX1 5 (Nat.le_of_ble_eq_true rfl) (.inl rfl) (lw_n q242 rfl) dX0_laysAbout_22 h (fun v5 h => ?_)
      refine j_imul O dX0_laysAbout_25 ?_
      refine j_iload_n O 1 1 dX0_laysAbout_26 rfl rfl ?_
      refine j_iadd O dX0_laysAbout_27 ?_
      refine j_iconst O dX0_laysAbout_28 ?_
      refine j_iast O dX0_laysAbout_29 h (fun w6 h => ?_)
      refine j_iinc (L' := [(1, vI (x1 + 1)), (0, .ref (adG (xG x) (this)))]) O 1 dX0_laysAbout_30 rfl (by rw [hm]; decide) rfl ?_
      refine j_goto O (tgt := 6) dX0_laysAbout_33 (by decide) ?_
      exact (J.sub [1, 0] rfl <| ih _ _ h)
theorem wk_X0_laysAbout_70 {x : Cx} (O : OK x "DowryBoxes" cX0_laysAbout 111) (hr : (xM x).sig.returnType = none) (hm : xn x = 5) {Q : Wd → Prop} (K46 : Int → Wd → Prop) (K52 : Int → Wd → Prop) (X52 : Wd → Prop) (X70 : Int → Wd → Prop) (this : Nat) (x1 : Int) (x2 : Int) (hK46 : ∀ (y1 : Int) (w : Wd), K46 y1 w → J x (TV x Q) w 0 0 46 [(0, .ref (adG (xG x) (this))), (1, vI (y1))] []) (hK52 : ∀ (y2 : Int) (w : Wd), K52 y2 w → J x (TV x Q) w 0 0 52 [(0, .ref (adG (xG x) (this))), (1, vI (x1)), (2, vI (y2))] []) (hX52 : ∀  (w : Wd), X52  w → J x (TV x Q) w 0 0 119 [(0, .ref (adG (xG x) (this))), (1, vI (x1))] []) (hX70 : ∀ (y3 : Int) (w : Wd), X70 y3 w → J x (TV x Q) w 0 0 101 [(0, .ref (adG (xG x) (this))), (1, vI (x1)), (2, vI (x2)), (3, vI (y3))] []) : ∀ (n : Nat) (x3 : Int) (x4 : Int) (w : Wd), wp_X0_laysAbout_70 Q K46 K52 X52 X70 this x1 x2 n x3 x4 w → J x (TV x Q) w 0 0 70 [(0, .ref (adG (xG x) (this))), (1, vI (x1)), (2, vI (x2)), (3, vI (x3)), (4, vI (x4))] [] := by
  intro n
  induction n with
  | zero => intro x3 x4 w h; exact False.elim h
  | succ n ih =>
    intro x3 x4 w h
    rw [wp_X0_laysAbout_70] at h
    refine j_iload O 4 dX0_laysAbout_70 rfl ?_
    refine j_aload_n O 0 0 dX0_laysAbout_72 rfl rfl ?_
    refine j_getR O cfX0 2 (Nat.le_of_ble_eq_true rfl) ⟨_, rfl⟩ q360 dX0_laysAbout_73 h (fun o1 h => ?_)
    obtain ⟨k2, e_k2, g_k2⟩ := h
    subst e_k2
    have h := g_k2
    refine j_getIN O cfX1 6 (Nat.le_of_ble_eq_true rfl) (.inl rfl) (lw_n q244 rfl) dX0_laysAbout_76 h (fun v3 h => ?_)
    obtain ⟨c4, h⟩ := h
    obtain ⟨c5, h⟩ := h
    refine j_icmp_ge O (tgt := 101) dX0_laysAbout_79 (by decide) c4 c5 h (fun h => ?_) (fun h => ?_)
    · exact (J.sub [0, 1, 2, 3] rfl <| hX70 _ _ h)
    · refine j_iload_n O 3 3 dX0_laysAbout_82 rfl rfl ?_
      refine j_aload_n O 0 0 dX0_laysAbout_83 rfl rfl ?_
      refine j_iload_n O 1 1 dX0_laysAbout_84 rfl rfl ?_
      refine j_iload O 4 dX0_laysAbout_85 rfl ?_
      refine j_iload_n O 2 2 dX0_laysAbout_87 rfl rfl ?_
      obtain ⟨e8, h⟩ := h
      refine fin_I O ⟨Nat.zero_le _, Nat.zero_le _⟩ (run_V (As := [vI (x1), vI (x4), vI (x2)]) (st := [vI (x3)]) O (mt_X0_mostWith (xl x) (xG x) _ _ _ _ _ _ h) e8 cfX0.1 q1384 q1386 qs34 q121 q1387 hy_X0_mostWith (Nat.le_of_ble_eq_true rfl) (Nat.le_of_ble_eq_true rfl) ⟨Nat.zero_le _, Nat.zero_le _⟩ rfl (Nat.le_of_ble_eq_true rfl) dX0_laysAbout_88) (fun r6 w7 h => ?_)
      obtain ⟨c9, h⟩ := h
      obtain ⟨c10, h⟩ := h
      refine j_mmax O q1326 q550 q135 q551 (Nat.le_of_ble_eq_true rfl) (Nat.le_of_ble_eq_true rfl) dX0_laysAbout_91 c9 c10 ?_
      refine j_istore_n (L' := [(3, vI (iMx x3 r6)), (0, .ref (adG (xG x) (this))), (1, vI (x1)), (2, vI (x2)), (4, vI (x4))]) O 3 dX0_laysAbout_94 rfl (by rw [hm]; decide) rfl ?_
      refine j_iinc (L' := [(4, vI (x4 + 1)), (3, vI (iMx x3 r6)), (0, .ref (adG (xG x) (this))), (1, vI (x1)), (2, vI (x2))]) O 4 dX0_laysAbout_95 rfl (by rw [hm]; decide) rfl ?_
      refine j_goto O (tgt := 70) dX0_laysAbout_98 (by decide) ?_
      exact (J.sub [2, 3, 4, 1, 0] rfl <| ih _ _ _ h)
theorem wk_X0_laysAbout_52 {x : Cx} (O : OK x "DowryBoxes" cX0_laysAbout 111) (hr : (xM x).sig.returnType = none) (hm : xn x = 5) {Q : Wd → Prop} (K46 : Int → Wd → Prop) (X52 : Wd → Prop) (this : Nat) (x1 : Int) (hK46 : ∀ (y1 : Int) (w : Wd), K46 y1 w → J x (TV x Q) w 0 0 46 [(0, .ref (adG (xG x) (this))), (1, vI (y1))] []) (hX52 : ∀  (w : Wd), X52  w → J x (TV x Q) w 0 0 119 [(0, .ref (adG (xG x) (this))), (1, vI (x1))] []) : ∀ (n : Nat) (x2 : Int) (w : Wd), wp_X0_laysAbout_52 Q K46 X52 this x1 n x2 w → J x (TV x Q) w 0 0 52 [(0, .ref (adG (xG x) (this))), (1, vI (x1)), (2, vI (x2))] [] := by
  intro n
  induction n with
  | zero => intro x2 w h; exact False.elim h
  | succ n ih =>
    intro x2 w h
    rw [wp_X0_laysAbout_52] at h
    refine j_iload_n O 2 2 dX0_laysAbout_52 rfl rfl ?_
    refine j_bipush (m := 64) O dX0_laysAbout_53 bi_64 ?_
    obtain ⟨c1, h⟩ := h
    refine j_icmp_ge O (tgt := 119) dX0_laysAbout_55 (by decide) c1 (by decide) h (fun h => ?_) (fun h => ?_)
    · exact (J.sub [0, 1] rfl <| hX52  _ h)
    · refine j_aload_n O 0 0 dX0_laysAbout_58 rfl rfl ?_
      refine j_iload_n O 1 1 dX0_laysAbout_59 rfl rfl ?_
      refine j_bipush (m := 100) O dX0_laysAbout_60 bi_100 ?_
      refine j_iload_n O 2 2 dX0_laysAbout_62 rfl rfl ?_
      obtain ⟨e4, h⟩ := h
      refine fin_I O ⟨Nat.zero_le _, Nat.zero_le _⟩ (run_V (As := [vI (x1), vI (100), vI (x2)]) (st := []) O (mt_X0_mostWith (xl x) (xG x) _ _ _ _ _ _ h) e4 cfX0.1 q1384 q1386 qs34 q121 q1387 hy_X0_mostWith (Nat.le_of_ble_eq_true rfl) (Nat.le_of_ble_eq_true rfl) ⟨Nat.zero_le _, Nat.zero_le _⟩ rfl (Nat.le_of_ble_eq_true rfl) dX0_laysAbout_63) (fun r2 w3 h => ?_)
      refine j_istore_n (L' := [(3, vI (r2)), (0, .ref (adG (xG x) (this))), (1, vI (x1)), (2, vI (x2))]) O 3 dX0_laysAbout_66 rfl (by rw [hm]; decide) rfl ?_
      refine j_iconst O dX0_laysAbout_67 ?_
      refine j_istore (L' := [(4, vI (0)), (3, vI (r2)), (0, .ref (adG (xG x) (this))), (1, vI (x1)), (2, vI (x2))]) O dX0_laysAbout_68 (by rw [hm]; decide) rfl ?_
      refine (J.sub [2, 3, 4, 1, 0] rfl <| wk_X0_laysAbout_70 O hr hm _ _ _ _ _ _ _ hK46 ih hX52 (fun z5 w6 h => ?_) FU _ _ _ h)
      refine j_aload_n O 0 0 dX0_laysAbout_101 rfl rfl ?_
      refine j_getA O cfX0 22 (Nat.le_of_ble_eq_true rfl) ⟨_, rfl⟩ q380 dX0_laysAbout_102 h (fun k7 h => ?_)
      refine j_bipush (m := 64) O dX0_laysAbout_105 bi_64 ?_
      refine j_iload_n O 1 1 dX0_laysAbout_107 rfl rfl ?_
      refine j_imul O dX0_laysAbout_108 ?_
      refine j_iload_n O 2 2 dX0_laysAbout_109 rfl rfl ?_
      refine j_iadd O dX0_laysAbout_110 ?_
      refine j_iload_n O 3 3 dX0_laysAbout_111 rfl rfl ?_
      refine j_iast O dX0_laysAbout_112 h (fun w8 h => ?_)
      refine j_iinc (L' := [(2, vI (x2 + 1)), (0, .ref (adG (xG x) (this))), (1, vI (x1)), (3, vI (z5))]) O 2 dX0_laysAbout_113 rfl (by rw [hm]; decide) rfl ?_
      refine j_goto O (tgt := 52) dX0_laysAbout_116 (by decide) ?_
      exact (J.sub [1, 2, 0] rfl <| ih _ _ h)
theorem wk_X0_laysAbout_46 {x : Cx} (O : OK x "DowryBoxes" cX0_laysAbout 111) (hr : (xM x).sig.returnType = none) (hm : xn x = 5) {Q : Wd → Prop} (this : Nat) : ∀ (n : Nat) (x1 : Int) (w : Wd), wp_X0_laysAbout_46 Q this n x1 w → J x (TV x Q) w 0 0 46 [(0, .ref (adG (xG x) (this))), (1, vI (x1))] [] := by
  intro n
  induction n with
  | zero => intro x1 w h; exact False.elim h
  | succ n ih =>
    intro x1 w h
    rw [wp_X0_laysAbout_46] at h
    refine j_iload_n O 1 1 dX0_laysAbout_46 rfl rfl ?_
    obtain ⟨c1, h⟩ := h
    refine j_if_lt O (tgt := 125) dX0_laysAbout_47 (by decide) c1 h (fun h => ?_) (fun h => ?_)
    · exact j_vret O hr dX0_laysAbout_125 h
    · refine j_iconst O dX0_laysAbout_50 ?_
      refine j_istore_n (L' := [(2, vI (0)), (0, .ref (adG (xG x) (this))), (1, vI (x1))]) O 2 dX0_laysAbout_51 rfl (by rw [hm]; decide) rfl ?_
      refine (J.sub [1, 2, 0] rfl <| wk_X0_laysAbout_52 O hr hm _ _ _ _ ih (fun w2 h => ?_) FU _ _ h)
      refine j_iinc (L' := [(1, vI (x1 + (-1))), (0, .ref (adG (xG x) (this)))]) O 1 dX0_laysAbout_119 rfl (by rw [hm]; decide) rfl ?_
      refine j_goto O (tgt := 46) dX0_laysAbout_122 (by decide) ?_
      exact (J.sub [1, 0] rfl <| ih _ _ h)
theorem mt_X0_laysAbout (l : Launch) (G : GW) (this : Nat) (w : Wd) (Q : Wd → Prop) (h : wp_X0_laysAbout this w Q) : MV l G yX0_laysAbout cX0_laysAbout 5 111 0 0 [.ref (adG G (this))] w Q := by
  refine met_V (fun G => [.ref (adG G (this))]) (by decide) (fun G => Nat.le_of_ble_eq_true rfl) (fun x O hl hm hr _ => ?_)
  subst hl
  have O : OK x "DowryBoxes" cX0_laysAbout 111 := O
  have h : wp_X0_laysAbout this w Q := h
  unfold wp_X0_laysAbout at h
  show J x (TV x Q) w 0 0 0 [(0, .ref (adG (xG x) (this)))] []
  refine j_aload_n O 0 0 dX0_laysAbout_0 rfl rfl ?_
  obtain ⟨e2, h⟩ := h
  refine fin_V O ⟨Nat.zero_le _, Nat.zero_le _⟩ (run_V (As := []) (st := []) O (mt_X0_laysGaps (xl x) (xG x) _ _ _ h) e2 cfX0.1 q1361 q1363 qs30 q121 q1364 hy_X0_laysGaps (Nat.le_of_ble_eq_true rfl) (Nat.le_of_ble_eq_true rfl) ⟨Nat.zero_le _, Nat.zero_le _⟩ rfl (Nat.le_of_ble_eq_true rfl) dX0_laysAbout_1) (fun w1 h => ?_)
  refine j_iconst O dX0_laysAbout_4 ?_
  refine j_istore_n (L' := [(1, vI (0)), (0, .ref (adG (xG x) (this)))]) O 1 dX0_laysAbout_5 rfl (by rw [hm]; decide) rfl ?_
  refine (J.sub [1, 0] rfl <| wk_X0_laysAbout_6 O hr hm _ _ (fun w3 h => ?_) FU _ _ h)
  refine j_aload_n O 0 0 dX0_laysAbout_36 rfl rfl ?_
  refine j_getR O cfX0 2 (Nat.le_of_ble_eq_true rfl) ⟨_, rfl⟩ q360 dX0_laysAbout_37 h (fun o4 h => ?_)
  obtain ⟨k5, e_k5, g_k5⟩ := h
  subst e_k5
  have h := g_k5
  refine j_getIN O cfX1 5 (Nat.le_of_ble_eq_true rfl) (.inl rfl) (lw_n q242 rfl) dX0_laysAbout_40 h (fun v6 h => ?_)
  refine j_iconst O dX0_laysAbout_43 ?_
  refine j_isub O dX0_laysAbout_44 ?_
  refine j_istore_n (L' := [(1, vI (v6 - 1)), (0, .ref (adG (xG x) (this)))]) O 1 dX0_laysAbout_45 rfl (by rw [hm]; decide) rfl ?_
  exact (J.sub [1, 0] rfl <| wk_X0_laysAbout_46 O hr hm  _  FU _ _ h)
theorem hy_X0_about : (yX0_about.cls = "DowryBoxes" ∧ yX0_about.cls ≠ "java/lang/invoke/MethodHandle" ∧ yX0_about.cls ≠ "java/lang/invoke/VarHandle" ∧ (parseMethodDescriptor yX0_about.desc).map (fun d => d.parameters.length) = some 2) := by decide +kernel
theorem wk_X0_about_137 {x : Cx} (O : OK x "DowryBoxes" cX0_about 112) (hr : (xM x).sig.returnType = some .int) (hm : xn x = 7) {Q : Int → Wd → Prop} (K102 : Int → Int → Wd → Prop) (X102 : Int → Wd → Prop) (this : Nat) (x2 : Int) (x5 : Int) (s0 : Int) (s1 : Int) (hK102 : ∀ (y4 : Int) (y5 : Int) (w : Wd), K102 y4 y5 w → J x (TI x Q) w 0 0 102 [(0, .ref (adG (xG x) (this))), (2, vI (x2)), (4, vI (y4)), (5, vI (y5))] []) (hX102 : ∀ (y4 : Int) (w : Wd), X102 y4 w → J x (TI x Q) w 0 0 146 [(0, .ref (adG (xG x) (this))), (2, vI (x2)), (4, vI (y4))] []) (w : Wd) (h : wp_X0_about_137 Q K102 X102 this x2 x5 s0 s1 w) : J x (TI x Q) w 0 0 137 [(0, .ref (adG (xG x) (this))), (2, vI (x2)), (5, vI (x5))] [vI (s0), vI (s1)] := by
  unfold wp_X0_about_137 at h
  refine j_ior O dX0_about_137 ?_
  refine j_istore (L' := [(4, vI (ior s1 s0)), (0, .ref (adG (xG x) (this))), (2, vI (x2)), (5, vI (x5))]) O dX0_about_138 (by rw [hm]; decide) rfl ?_
  refine j_iinc (L' := [(5, vI (x5 + 1)), (4, vI (ior s1 s0)), (0, .ref (adG (xG x) (this))), (2, vI (x2))]) O 3 dX0_about_140 rfl (by rw [hm]; decide) rfl ?_
  refine j_goto O (tgt := 102) dX0_about_143 (by decide) ?_
  exact (J.sub [2, 3, 1, 0] rfl <| hK102 _ _ _ h)
theorem wk_X0_about_102 {x : Cx} (O : OK x "DowryBoxes" cX0_about 112) (hr : (xM x).sig.returnType = some .int) (hm : xn x = 7) {Q : Int → Wd → Prop} (X102 : Int → Wd → Prop) (this : Nat) (x2 : Int) (hX102 : ∀ (y4 : Int) (w : Wd), X102 y4 w → J x (TI x Q) w 0 0 146 [(0, .ref (adG (xG x) (this))), (2, vI (x2)), (4, vI (y4))] []) : ∀ (n : Nat) (x4 : Int) (x5 : Int) (w : Wd), wp_X0_about_102 Q X102 this x2 n x4 x5 w → J x (TI x Q) w 0 0 102 [(0, .ref (adG (xG x) (this))), (2, vI (x2)), (4, vI (x4)), (5, vI (x5))] [] := by
  intro n
  induction n with
  | zero => intro x4 x5 w h; exact False.elim h
  | succ n ih =>
    intro x4 x5 w h
    rw [wp_X0_about_102] at h
    refine j_iload O 3 dX0_about_102 rfl ?_
    refine j_iload_n O 1 2 dX0_about_104 rfl rfl ?_
    refine j_iconst O dX0_about_105 ?_
    refine j_isub O dX0_about_106 ?_
    obtain ⟨c1, h⟩ := h
    obtain ⟨c2, h⟩ := h
    refine j_icmp_ge O (tgt := 146) dX0_about_107 (by decide) c1 c2 h (fun h => ?_) (fun h => ?_)
    · exact (J.sub [0, 1, 2] rfl <| hX102 _ _ h)
    · refine j_aload_n O 0 0 dX0_about_110 rfl rfl ?_
      refine j_iload O 3 dX0_about_111 rfl ?_
      refine j_iload O 2 dX0_about_113 rfl ?_
      obtain ⟨e5, h⟩ := h
      refine fin_I O ⟨Nat.zero_le _, Nat.zero_le _⟩ (run_V (As := [vI (x5), vI (x4)]) (st := []) O (mt_X0_suitorOf (xl x) (xG x) _ _ _ _ _ h) e5 cfX0.1 q1392 q1394 qs36 q121 q1395 hy_X0_suitorOf (Nat.le_of_ble_eq_true rfl) (Nat.le_of_ble_eq_true rfl) ⟨Nat.zero_le _, Nat.zero_le _⟩ rfl (Nat.le_of_ble_eq_true rfl) dX0_about_115) (fun r3 w4 h => ?_)
      refine j_istore (L' := [(6, vI (r3)), (0, .ref (adG (xG x) (this))), (2, vI (x2)), (4, vI (x4)), (5, vI (x5))]) O dX0_about_118 (by rw [hm]; decide) rfl ?_
      refine j_iload O 3 dX0_about_120 rfl ?_
      refine j_iload O 0 dX0_about_122 rfl ?_
      refine j_bipush (m := 100) O dX0_about_124 bi_100 ?_
      obtain ⟨c6, h⟩ := h
      refine j_icmp_ne O (tgt := 133) dX0_about_126 (by decide) c6 (by decide) h (fun h => ?_) (fun h => ?_)
      · refine j_iconst O dX0_about_133 ?_
        refine j_iload O 0 dX0_about_134 rfl ?_
        refine j_ishl O dX0_about_136 ?_
        exact (J.sub [1, 2, 4] rfl <| wk_X0_about_137 O hr hm _ _ _ _ _ _ _ ih hX102 _ h)
      · refine j_iconst O dX0_about_129 ?_
        refine j_goto O (tgt := 137) dX0_about_130 (by decide) ?_
        exact (J.sub [1, 2, 4] rfl <| wk_X0_about_137 O hr hm _ _ _ _ _ _ _ ih hX102 _ h)
theorem mt_X0_about (l : Launch) (G : GW) (this : Nat) (p1 : Int) (p2 : Int) (w : Wd) (Q : Int → Wd → Prop) (h : wp_X0_about this p1 p2 w Q) : MI l G yX0_about cX0_about 7 (.int) 112 0 0 [.ref (adG G (this)), vI (p1), vI (p2)] w Q := by
  refine met_I (fun G => [.ref (adG G (this)), vI (p1), vI (p2)]) (by decide) (fun G => Nat.le_of_ble_eq_true rfl) (fun x O hl hm hr => ?_)
  subst hl
  have O : OK x "DowryBoxes" cX0_about 112 := O
  have h : wp_X0_about this p1 p2 w Q := h
  unfold wp_X0_about at h
  show J x (TI x Q) w 0 0 0 [(0, .ref (adG (xG x) (this))), (1, vI (p1)), (2, vI (p2))] []
  refine j_iload_n O 1 1 dX0_about_0 rfl rfl ?_
  refine j_iconst O dX0_about_1 ?_
  refine j_bipush (m := 60) O dX0_about_2 bi_60 ?_
  refine fin_I O ⟨Nat.zero_le _, Nat.zero_le _⟩ (run_S (As := [vI (p1), vI (0), vI (60)]) (st := []) O (mt_X0_in (xl x) (xG x) _ _ _ _ _ h) q465 q466 q121 q467 hy_X0_in.2 (Nat.le_of_ble_eq_true rfl) (Nat.le_of_ble_eq_true rfl) ⟨Nat.zero_le _, Nat.zero_le _⟩ rfl (Nat.le_of_ble_eq_true rfl) dX0_about_4) (fun r1 w2 h => ?_)
  obtain ⟨c3, h⟩ := h
  refine j_if_eq O (tgt := 27) dX0_about_7 (by decide) c3 h (fun h => ?_) (fun h => ?_)
  · refine j_iconst O dX0_about_27 ?_
    exact j_iret O hr dX0_about_28 h
  · refine j_iload_n O 2 2 dX0_about_10 rfl rfl ?_
    refine j_iconst O dX0_about_11 ?_
    refine j_iconst O dX0_about_12 ?_
    refine j_aload_n O 0 0 dX0_about_13 rfl rfl ?_
    refine j_getR O cfX0 2 (Nat.le_of_ble_eq_true rfl) ⟨_, rfl⟩ q360 dX0_about_14 h (fun o4 h => ?_)
    obtain ⟨k5, e_k5, g_k5⟩ := h
    subst e_k5
    have h := g_k5
    refine j_getIN O cfX1 5 (Nat.le_of_ble_eq_true rfl) (.inl rfl) (lw_n q242 rfl) dX0_about_17 h (fun v6 h => ?_)
    refine j_iadd O dX0_about_20 ?_
    refine fin_I O ⟨Nat.zero_le _, Nat.zero_le _⟩ (run_S (As := [vI (p2), vI (0), vI ((1 + v6))]) (st := []) O (mt_X0_in (xl x) (xG x) _ _ _ _ _ h) q465 q466 q121 q467 hy_X0_in.2 (Nat.le_of_ble_eq_true rfl) (Nat.le_of_ble_eq_true rfl) ⟨Nat.zero_le _, Nat.zero_le _⟩ rfl (Nat.le_of_ble_eq_true rfl) dX0_about_21) (fun r7 w8 h => ?_)
    obtain ⟨c9, h⟩ := h
    refine j_if_ne O (tgt := 29) dX0_about_24 (by decide) c9 h (fun h => ?_) (fun h => ?_)
    · refine j_aload_n O 0 0 dX0_about_29 rfl rfl ?_
      refine j_iload_n O 1 1 dX0_about_30 rfl rfl ?_
      refine j_putI O cfX0 23 (Nat.le_of_ble_eq_true rfl) rfl q381 rfl dX0_about_31 h (fun w10 h => ?_)
      refine j_aload_n O 0 0 dX0_about_34 rfl rfl ?_
      obtain ⟨e12, h⟩ := h
      refine fin_V O ⟨Nat.zero_le _, Nat.zero_le _⟩ (run_V (As := []) (st := []) O (mt_X0_laysAbout (xl x) (xG x) _ _ _ h) e12 cfX0.1 q1380 q1382 qs33 q121 q1383 hy_X0_laysAbout (Nat.le_of_ble_eq_true rfl) (Nat.le_of_ble_eq_true rfl) ⟨Nat.zero_le _, Nat.zero_le _⟩ rfl (Nat.le_of_ble_eq_true rfl) dX0_about_35) (fun w11 h => ?_)
      refine j_aload_n O 0 0 dX0_about_38 rfl rfl ?_
      refine j_iconst O dX0_about_39 ?_
      refine j_iconst O dX0_about_40 ?_
      obtain ⟨e15, h⟩ := h
      refine fin_I O ⟨Nat.zero_le _, Nat.zero_le _⟩ (run_V (As := [vI (0), vI (0)]) (st := []) O (mt_X0_mostOf (xl x) (xG x) _ _ _ _ _ h) e15 cfX0.1 q1388 q1390 qs35 q121 q1391 hy_X0_mostOf (Nat.le_of_ble_eq_true rfl) (Nat.le_of_ble_eq_true rfl) ⟨Nat.zero_le _, Nat.zero_le _⟩ rfl (Nat.le_of_ble_eq_true rfl) dX0_about_41) (fun r13 w14 h => ?_)
      refine j_sipush (m := 1000) O dX0_about_44 si_1000 ?_
      refine j_iadd O dX0_about_47 ?_
      refine j_iconst O dX0_about_48 ?_
      refine j_isub O dX0_about_49 ?_
      refine j_sipush (m := 1000) O dX0_about_50 si_1000 ?_
      refine j_idiv O dX0_about_53 h (fun h => ?_)
      refine j_istore_n (L' := [(3, vI (Int.tdiv ((r13 + 1000) - 1) 1000)), (0, .ref (adG (xG x) (this))), (1, vI (p1)), (2, vI (p2))]) O 3 dX0_about_54 rfl (by rw [hm]; decide) rfl ?_
      refine j_iload_n O 3 2 dX0_about_55 rfl rfl ?_
      refine j_iconst O dX0_about_56 ?_
      obtain ⟨c16, h⟩ := h
      refine j_icmp_ge O (tgt := 81) dX0_about_57 (by decide) c16 (by decide) h (fun h => ?_) (fun h => ?_)
      · refine j_aload_n O 1 0 dX0_about_81 rfl rfl ?_
        obtain ⟨e19, h⟩ := h
        refine fin_R O ⟨Nat.zero_le _, Nat.zero_le _⟩ (run_V (As := []) (st := []) O (mt_X0_table (xl x) (xG x) _ _ _ h) e19 cfX0.1 q574 q576 qs5 q121 q577 hy_X0_table (Nat.le_of_ble_eq_true rfl) (Nat.le_of_ble_eq_true rfl) ⟨Nat.zero_le _, Nat.zero_le _⟩ rfl (Nat.le_of_ble_eq_true rfl) dX0_about_82) (fun o17 w18 h => ?_)
        refine j_iload_n O 3 2 dX0_about_85 rfl rfl ?_
        refine j_iconst O dX0_about_86 ?_
        refine j_isub O dX0_about_87 ?_
        obtain ⟨k20, e_k20, g_k20⟩ := h
        subst e_k20
        have h := g_k20
        obtain ⟨e23, h⟩ := h
        refine fin_I O ⟨Nat.zero_le _, Nat.zero_le _⟩ (run_V (As := [vI ((p2 - 2))]) (st := []) O (mt_X2_isWed (xl x) (xG x) _ _ _ _ h) e23 cfX2.1 q1310 q1311 q1312 q123 q1313 hy_X2_isWed (Nat.le_of_ble_eq_true rfl) (Nat.le_of_ble_eq_true rfl) ⟨Nat.zero_le _, Nat.zero_le _⟩ rfl (Nat.le_of_ble_eq_true rfl) dX0_about_88) (fun r21 w22 h => ?_)
        obtain ⟨c24, h⟩ := h
        refine j_if_eq O (tgt := 96) dX0_about_91 (by decide) c24 h (fun h => ?_) (fun h => ?_)
        · refine j_iconst O dX0_about_96 ?_
          refine j_istore (L' := [(4, vI (0)), (3, vI (Int.tdiv ((r13 + 1000) - 1) 1000)), (0, .ref (adG (xG x) (this))), (1, vI (p1)), (2, vI (p2))]) O dX0_about_97 (by rw [hm]; decide) rfl ?_
          refine j_iconst O dX0_about_99 ?_
          refine j_istore (L' := [(5, vI (0)), (4, vI (0)), (3, vI (Int.tdiv ((r13 + 1000) - 1) 1000)), (0, .ref (adG (xG x) (this))), (1, vI (p1)), (2, vI (p2))]) O dX0_about_100 (by rw [hm]; decide) rfl ?_
          refine (J.sub [3, 5, 1, 0] rfl <| wk_X0_about_102 O hr hm _ _ _ (fun z25 w26 h => ?_) FU _ _ _ h)
          refine j_aload_n O 0 0 dX0_about_146 rfl rfl ?_
          refine j_iload_n O 1 2 dX0_about_147 rfl rfl ?_
          refine j_iconst O dX0_about_148 ?_
          refine j_isub O dX0_about_149 ?_
          refine j_iload O 2 dX0_about_150 rfl ?_
          obtain ⟨e29, h⟩ := h
          refine fin_I O ⟨Nat.zero_le _, Nat.zero_le _⟩ (run_V (As := [vI ((p2 - 2)), vI (z25)]) (st := []) O (mt_X0_suitorOf (xl x) (xG x) _ _ _ _ _ h) e29 cfX0.1 q1392 q1394 qs36 q121 q1395 hy_X0_suitorOf (Nat.le_of_ble_eq_true rfl) (Nat.le_of_ble_eq_true rfl) ⟨Nat.zero_le _, Nat.zero_le _⟩ rfl (Nat.le_of_ble_eq_true rfl) dX0_about_152) (fun r27 w28 h => ?_)
          exact j_iret O hr dX0_about_155 h
        · refine j_iconst O dX0_about_94 ?_
          exact j_iret O hr dX0_about_95 h
      · refine j_iload_n O 3 2 dX0_about_60 rfl rfl ?_
        obtain ⟨c30, h⟩ := h
        refine j_if_ne O (tgt := 68) dX0_about_61 (by decide) c30 h (fun h => ?_) (fun h => ?_)
        · refine j_sipush (m := 1000) O dX0_about_68 si_1000 ?_
          refine j_iload_n O 0 3 dX0_about_71 rfl rfl ?_
          refine j_imul O dX0_about_72 ?_
          refine j_aload_n O 1 0 dX0_about_73 rfl rfl ?_
          refine j_iconst O dX0_about_74 ?_
          refine j_iconst O dX0_about_75 ?_
          obtain ⟨e33, h⟩ := h
          refine fin_I O ⟨Nat.zero_le _, Nat.zero_le _⟩ (run_V (As := [vI (0), vI (0)]) (st := [vI (1000 * (Int.tdiv ((r13 + 1000) - 1) 1000))]) O (mt_X0_mostOf (xl x) (xG x) _ _ _ _ _ h) e33 cfX0.1 q1388 q1390 qs35 q121 q1391 hy_X0_mostOf (Nat.le_of_ble_eq_true rfl) (Nat.le_of_ble_eq_true rfl) ⟨Nat.zero_le _, Nat.zero_le _⟩ rfl (Nat.le_of_ble_eq_true rfl) dX0_about_76) (fun r31 w32 h => ?_)
          refine j_isub O dX0_about_79 ?_
          exact j_iret O hr dX0_about_80 h
        · refine j_iload_n O 0 3 dX0_about_64 rfl rfl ?_
          refine j_goto O (tgt := 80) dX0_about_65 (by decide) ?_
          exact j_iret O hr dX0_about_80 h
    · refine j_iconst O dX0_about_27 ?_
      exact j_iret O hr dX0_about_28 h
theorem hy_X0_isRather : (yX0_isRather.cls = "DowryBoxes" ∧ yX0_isRather.cls ≠ "java/lang/invoke/MethodHandle" ∧ yX0_isRather.cls ≠ "java/lang/invoke/VarHandle" ∧ (parseMethodDescriptor yX0_isRather.desc).map (fun d => d.parameters.length) = some 3) := by decide +kernel
theorem wk_X0_isRather_45 {x : Cx} (O : OK x "DowryBoxes" cX0_isRather 1) (hr : (xM x).sig.returnType = some .boolean) (hm : xn x = 6) {Q : Int → Wd → Prop} (w : Wd) (h : wp_X0_isRather_45 Q w) : J x (TI x Q) w 0 0 45 [] [] := by
  unfold wp_X0_isRather_45 at h
  refine j_iconst O dX0_isRather_45 ?_
  refine j_goto O (tgt := 50) dX0_isRather_46 (by decide) ?_
  exact j_zret O hr dX0_isRather_50 h
theorem mt_X0_isRather (l : Launch) (G : GW) (this : Nat) (p1 : Int) (p2 : Int) (p3 : Int) (w : Wd) (Q : Int → Wd → Prop) (h : wp_X0_isRather this p1 p2 p3 w Q) : MI l G yX0_isRather cX0_isRather 6 (.boolean) 1 0 0 [.ref (adG G (this)), vI (p1), vI (p2), vI (p3)] w Q := by
  refine met_I (fun G => [.ref (adG G (this)), vI (p1), vI (p2), vI (p3)]) (by decide) (fun G => Nat.le_of_ble_eq_true rfl) (fun x O hl hm hr => ?_)
  subst hl
  have O : OK x "DowryBoxes" cX0_isRather 1 := O
  have h : wp_X0_isRather this p1 p2 p3 w Q := h
  unfold wp_X0_isRather at h
  show J x (TI x Q) w 0 0 0 [(0, .ref (adG (xG x) (this))), (1, vI (p1)), (2, vI (p2)), (3, vI (p3))] []
  refine j_aload_n O 0 0 dX0_isRather_0 rfl rfl ?_
  refine j_getA O cfX0 19 (Nat.le_of_ble_eq_true rfl) ⟨_, rfl⟩ q377 dX0_isRather_1 h (fun k1 h => ?_)
  refine j_bipush (m := 6) O dX0_isRather_4 bi_6 ?_
  refine j_iload_n O 2 2 dX0_isRather_6 rfl rfl ?_
  refine j_imul O dX0_isRather_7 ?_
  refine j_iload_n O 1 1 dX0_isRather_8 rfl rfl ?_
  refine j_iadd O dX0_isRather_9 ?_
  refine j_iald O dX0_isRather_10 h (fun v2 h => ?_)
  refine j_istore (L' := [(4, vI (v2)), (0, .ref (adG (xG x) (this))), (1, vI (p1)), (2, vI (p2)), (3, vI (p3))]) O dX0_isRather_11 (by rw [hm]; decide) rfl ?_
  refine j_aload_n O 1 0 dX0_isRather_13 rfl rfl ?_
  refine j_getA O cfX0 19 (Nat.le_of_ble_eq_true rfl) ⟨_, rfl⟩ q377 dX0_isRather_14 h (fun k3 h => ?_)
  refine j_bipush (m := 6) O dX0_isRather_17 bi_6 ?_
  refine j_iload_n O 4 3 dX0_isRather_19 rfl rfl ?_
  refine j_imul O dX0_isRather_20 ?_
  refine j_iload_n O 2 1 dX0_isRather_21 rfl rfl ?_
  refine j_iadd O dX0_isRather_22 ?_
  refine j_iald O dX0_isRather_23 h (fun v4 h => ?_)
  refine j_istore (L' := [(5, vI (v4)), (4, vI (v2)), (0, .ref (adG (xG x) (this))), (1, vI (p1)), (2, vI (p2)), (3, vI (p3))]) O dX0_isRather_24 (by rw [hm]; decide) rfl ?_
  refine j_iload O 1 dX0_isRather_26 rfl ?_
  refine j_iload O 0 dX0_isRather_28 rfl ?_
  obtain ⟨c5, h⟩ := h
  obtain ⟨c6, h⟩ := h
  refine j_icmp_gt O (tgt := 45) dX0_isRather_30 (by decide) c5 c6 h (fun h => ?_) (fun h => ?_)
  · exact (J.sub [] rfl <| wk_X0_isRather_45 O hr hm    _ h)
  · refine j_iload O 1 dX0_isRather_33 rfl ?_
    refine j_iload O 0 dX0_isRather_35 rfl ?_
    obtain ⟨c7, h⟩ := h
    obtain ⟨c8, h⟩ := h
    refine j_icmp_ne O (tgt := 49) dX0_isRather_37 (by decide) c7 c8 h (fun h => ?_) (fun h => ?_)
    · refine j_iconst O dX0_isRather_49 ?_
      exact j_zret O hr dX0_isRather_50 h
    · refine j_iload_n O 4 2 dX0_isRather_40 rfl rfl ?_
      refine j_iload_n O 5 3 dX0_isRather_41 rfl rfl ?_
      obtain ⟨c9, h⟩ := h
      obtain ⟨c10, h⟩ := h
      refine j_icmp_ge O (tgt := 49) dX0_isRather_42 (by decide) c9 c10 h (fun h => ?_) (fun h => ?_)
      · refine j_iconst O dX0_isRather_49 ?_
        exact j_zret O hr dX0_isRather_50 h
      · exact (J.sub [] rfl <| wk_X0_isRather_45 O hr hm    _ h)
theorem hy_X0_nextAsked : (yX0_nextAsked.cls = "DowryBoxes" ∧ yX0_nextAsked.cls ≠ "java/lang/invoke/MethodHandle" ∧ yX0_nextAsked.cls ≠ "java/lang/invoke/VarHandle" ∧ (parseMethodDescriptor yX0_nextAsked.desc).map (fun d => d.parameters.length) = some 1) := by decide +kernel
theorem wk_X0_nextAsked_73 {x : Cx} (O : OK x "DowryBoxes" cX0_nextAsked 2) (hr : (xM x).sig.returnType = some .int) (hm : xn x = 5) {Q : Int → Wd → Prop} (K4 : Int → Int → Wd → Prop) (this : Nat) (x1 : Int) (x2 : Int) (x3 : Int) (hK4 : ∀ (y2 : Int) (y3 : Int) (w : Wd), K4 y2 y3 w → J x (TI x Q) w 0 0 4 [(0, .ref (adG (xG x) (this))), (1, vI (x1)), (2, vI (y2)), (3, vI (y3))] []) (w : Wd) (h : wp_X0_nextAsked_73 Q K4 this x1 x2 x3 w) : J x (TI x Q) w 0 0 73 [(0, .ref (adG (xG x) (this))), (1, vI (x1)), (2, vI (x2)), (3, vI (x3))] [] := by
  unfold wp_X0_nextAsked_73 at h
  refine j_iinc (L' := [(3, vI (x3 + 1)), (0, .ref (adG (xG x) (this))), (1, vI (x1)), (2, vI (x2))]) O 3 dX0_nextAsked_73 rfl (by rw [hm]; decide) rfl ?_
  refine j_goto O (tgt := 4) dX0_nextAsked_76 (by decide) ?_
  exact (J.sub [1, 2, 3, 0] rfl <| hK4 _ _ _ h)
theorem wk_X0_nextAsked_71 {x : Cx} (O : OK x "DowryBoxes" cX0_nextAsked 2) (hr : (xM x).sig.returnType = some .int) (hm : xn x = 5) {Q : Int → Wd → Prop} (K4 : Int → Int → Wd → Prop) (this : Nat) (x1 : Int) (x3 : Int) (hK4 : ∀ (y2 : Int) (y3 : Int) (w : Wd), K4 y2 y3 w → J x (TI x Q) w 0 0 4 [(0, .ref (adG (xG x) (this))), (1, vI (x1)), (2, vI (y2)), (3, vI (y3))] []) (w : Wd) (h : wp_X0_nextAsked_71 Q K4 this x1 x3 w) : J x (TI x Q) w 0 0 71 [(0, .ref (adG (xG x) (this))), (1, vI (x1)), (3, vI (x3))] [] := by
  unfold wp_X0_nextAsked_71 at h
  refine j_iload_n O 2 3 dX0_nextAsked_71 rfl rfl ?_
  refine j_istore_n (L' := [(2, vI (x3)), (0, .ref (adG (xG x) (this))), (1, vI (x1)), (3, vI (x3))]) O 2 dX0_nextAsked_72 rfl (by rw [hm]; decide) rfl ?_
  exact (J.sub [1, 2, 0, 3] rfl <| wk_X0_nextAsked_73 O hr hm _ _ _ _ _ hK4 _ h)
theorem wk_X0_nextAsked_4 {x : Cx} (O : OK x "DowryBoxes" cX0_nextAsked 2) (hr : (xM x).sig.returnType = some .int) (hm : xn x = 5) {Q : Int → Wd → Prop} (this : Nat) (x1 : Int) : ∀ (n : Nat) (x2 : Int) (x3 : Int) (w : Wd), wp_X0_nextAsked_4 Q this x1 n x2 x3 w → J x (TI x Q) w 0 0 4 [(0, .ref (adG (xG x) (this))), (1, vI (x1)), (2, vI (x2)), (3, vI (x3))] [] := by
  intro n
  induction n with
  | zero => intro x2 x3 w h; exact False.elim h
  | succ n ih =>
    intro x2 x3 w h
    rw [wp_X0_nextAsked_4] at h
    refine j_iload_n O 3 3 dX0_nextAsked_4 rfl rfl ?_
    refine j_aload_n O 0 0 dX0_nextAsked_5 rfl rfl ?_
    refine j_getR O cfX0 2 (Nat.le_of_ble_eq_true rfl) ⟨_, rfl⟩ q360 dX0_nextAsked_6 h (fun o1 h => ?_)
    obtain ⟨k2, e_k2, g_k2⟩ := h
    subst e_k2
    have h := g_k2
    refine j_getIN O cfX1 6 (Nat.le_of_ble_eq_true rfl) (.inl rfl) (lw_n q244 rfl) dX0_nextAsked_9 h (fun v3 h => ?_)
    obtain ⟨c4, h⟩ := h
    obtain ⟨c5, h⟩ := h
    refine j_icmp_ge O (tgt := 79) dX0_nextAsked_12 (by decide) c4 c5 h (fun h => ?_) (fun h => ?_)
    · refine j_iload_n O 2 2 dX0_nextAsked_79 rfl rfl ?_
      exact j_iret O hr dX0_nextAsked_80 h
    · refine j_aload_n O 0 0 dX0_nextAsked_15 rfl rfl ?_
      refine j_getA O cfX0 18 (Nat.le_of_ble_eq_true rfl) ⟨_, rfl⟩ q376 dX0_nextAsked_16 h (fun k6 h => ?_)
      refine j_bipush (m := 6) O dX0_nextAsked_19 bi_6 ?_
      refine j_iload_n O 1 1 dX0_nextAsked_21 rfl rfl ?_
      refine j_imul O dX0_nextAsked_22 ?_
      refine j_iload_n O 3 3 dX0_nextAsked_23 rfl rfl ?_
      refine j_iadd O dX0_nextAsked_24 ?_
      refine j_iald O dX0_nextAsked_25 h (fun v7 h => ?_)
      refine j_istore (L' := [(4, vI (v7)), (0, .ref (adG (xG x) (this))), (1, vI (x1)), (2, vI (x2)), (3, vI (x3))]) O dX0_nextAsked_26 (by rw [hm]; decide) rfl ?_
      refine j_iload O 0 dX0_nextAsked_28 rfl ?_
      refine j_iconst O dX0_nextAsked_30 ?_
      obtain ⟨c8, h⟩ := h
      refine j_icmp_eq O (tgt := 73) dX0_nextAsked_31 (by decide) c8 (by decide) h (fun h => ?_) (fun h => ?_)
      · exact (J.sub [1, 2, 3, 4] rfl <| wk_X0_nextAsked_73 O hr hm _ _ _ _ _ ih _ h)
      · refine j_aload_n O 1 0 dX0_nextAsked_34 rfl rfl ?_
        refine j_getA O cfX0 21 (Nat.le_of_ble_eq_true rfl) ⟨_, rfl⟩ q379 dX0_nextAsked_35 h (fun k9 h => ?_)
        refine j_iload_n O 2 1 dX0_nextAsked_38 rfl rfl ?_
        refine j_iald O dX0_nextAsked_39 h (fun v10 h => ?_)
        refine j_iload_n O 4 3 dX0_nextAsked_40 rfl rfl ?_
        refine fin_I O ⟨Nat.zero_le _, Nat.zero_le _⟩ (run_S (As := [vI (v10), vI (x3)]) (st := []) O (mt_X0_isOf (xl x) (xG x) _ _ _ _ h) q624 q625 q121 q626 hy_X0_isOf.2 (Nat.le_of_ble_eq_true rfl) (Nat.le_of_ble_eq_true rfl) ⟨Nat.zero_le _, Nat.zero_le _⟩ rfl (Nat.le_of_ble_eq_true rfl) dX0_nextAsked_41) (fun r11 w12 h => ?_)
        obtain ⟨c13, h⟩ := h
        refine j_if_eq O (tgt := 50) dX0_nextAsked_44 (by decide) c13 h (fun h => ?_) (fun h => ?_)
        · refine j_iload_n O 3 2 dX0_nextAsked_50 rfl rfl ?_
          refine j_iconst O dX0_nextAsked_51 ?_
          obtain ⟨c14, h⟩ := h
          refine j_icmp_eq O (tgt := 71) dX0_nextAsked_52 (by decide) c14 (by decide) h (fun h => ?_) (fun h => ?_)
          · exact (J.sub [1, 2, 4] rfl <| wk_X0_nextAsked_71 O hr hm _ _ _ _ ih _ h)
          · refine j_iload O 0 dX0_nextAsked_55 rfl ?_
            refine j_aload_n O 1 0 dX0_nextAsked_57 rfl rfl ?_
            refine j_getA O cfX0 18 (Nat.le_of_ble_eq_true rfl) ⟨_, rfl⟩ q376 dX0_nextAsked_58 h (fun k15 h => ?_)
            refine j_bipush (m := 6) O dX0_nextAsked_61 bi_6 ?_
            refine j_iload_n O 2 1 dX0_nextAsked_63 rfl rfl ?_
            refine j_imul O dX0_nextAsked_64 ?_
            refine j_iload_n O 3 2 dX0_nextAsked_65 rfl rfl ?_
            refine j_iadd O dX0_nextAsked_66 ?_
            refine j_iald O dX0_nextAsked_67 h (fun v16 h => ?_)
            obtain ⟨c17, h⟩ := h
            obtain ⟨c18, h⟩ := h
            refine j_icmp_ge O (tgt := 73) dX0_nextAsked_68 (by decide) c17 c18 h (fun h => ?_) (fun h => ?_)
            · exact (J.sub [1, 2, 3, 4] rfl <| wk_X0_nextAsked_73 O hr hm _ _ _ _ _ ih _ h)
            · exact (J.sub [1, 2, 4] rfl <| wk_X0_nextAsked_71 O hr hm _ _ _ _ ih _ h)
        · refine j_goto O (tgt := 73) dX0_nextAsked_47 (by decide) ?_
          exact (J.sub [1, 2, 3, 4] rfl <| wk_X0_nextAsked_73 O hr hm _ _ _ _ _ ih _ h)
theorem mt_X0_nextAsked (l : Launch) (G : GW) (this : Nat) (p1 : Int) (w : Wd) (Q : Int → Wd → Prop) (h : wp_X0_nextAsked this p1 w Q) : MI l G yX0_nextAsked cX0_nextAsked 5 (.int) 2 0 0 [.ref (adG G (this)), vI (p1)] w Q := by
  refine met_I (fun G => [.ref (adG G (this)), vI (p1)]) (by decide) (fun G => Nat.le_of_ble_eq_true rfl) (fun x O hl hm hr => ?_)
  subst hl
  have O : OK x "DowryBoxes" cX0_nextAsked 2 := O
  have h : wp_X0_nextAsked this p1 w Q := h
  unfold wp_X0_nextAsked at h
  show J x (TI x Q) w 0 0 0 [(0, .ref (adG (xG x) (this))), (1, vI (p1))] []
  refine j_iconst O dX0_nextAsked_0 ?_
  refine j_istore_n (L' := [(2, vI ((-1))), (0, .ref (adG (xG x) (this))), (1, vI (p1))]) O 2 dX0_nextAsked_1 rfl (by rw [hm]; decide) rfl ?_
  refine j_iconst O dX0_nextAsked_2 ?_
  refine j_istore_n (L' := [(3, vI (0)), (2, vI ((-1))), (0, .ref (adG (xG x) (this))), (1, vI (p1))]) O 3 dX0_nextAsked_3 rfl (by rw [hm]; decide) rfl ?_
  exact (J.sub [2, 3, 1, 0] rfl <| wk_X0_nextAsked_4 O hr hm  _ _  FU _ _ _ h)
theorem hy_X0_matches : (yX0_matches.cls = "DowryBoxes" ∧ yX0_matches.cls ≠ "java/lang/invoke/MethodHandle" ∧ yX0_matches.cls ≠ "java/lang/invoke/VarHandle" ∧ (parseMethodDescriptor yX0_matches.desc).map (fun d => d.parameters.length) = some 0) := by decide +kernel
theorem wk_X0_matches_6 {x : Cx} (O : OK x "DowryBoxes" cX0_matches 111) (hr : (xM x).sig.returnType = none) (hm : xn x = 5) {Q : Wd → Prop} (X6 : Wd → Prop) (this : Nat) (hX6 : ∀  (w : Wd), X6  w → J x (TV x Q) w 0 0 25 [(0, .ref (adG (xG x) (this)))] []) : ∀ (n : Nat) (x1 : Int) (w : Wd), wp_X0_matches_6 Q X6 this n x1 w → J x (TV x Q) w 0 0 6 [(0, .ref (adG (xG x) (this))), (1, vI (x1))] [] := by
  intro n
  induction n with
  | zero => intro x1 w h; exact False.elim h
  | succ n ih =>
    intro x1 w h
    rw [wp_X0_matches_6] at h
    refine j_iload_n O 1 1 dX0_matches_6 rfl rfl ?_
    refine j_bipush (m := 6) O dX0_matches_7 bi_6 ?_
    obtain ⟨c1, h⟩ := h
    refine j_icmp_ge O (tgt := 25) dX0_matches_9 (by decide) c1 (by decide) h (fun h => ?_) (fun h => ?_)
    · exact (J.sub [0] rfl <| hX6  _ h)
    · refine j_aload_n O 0 0 dX0_matches_12 rfl rfl ?_
      refine j_getA O cfX0 20 (Nat.le_of_ble_eq_true rfl) ⟨_, rfl⟩ q378 dX0_matches_13 h (fun k2 h => ?_)
      refine j_iload_n O 1 1 dX0_matches_16 rfl rfl ?_
      refine j_iconst O dX0_matches_17 ?_
      refine j_iast O dX0_matches_18 h (fun w3 h => ?_)
      refine j_iinc (L' := [(1, vI (x1 + 1)), (0, .ref (adG (xG x) (this)))]) O 1 dX0_matches_19 rfl (by rw [hm]; decide) rfl ?_
      refine j_goto O (tgt := 6) dX0_matches_22 (by decide) ?_
      exact (J.sub [1, 0] rfl <| ih _ _ h)
theorem wk_X0_matches_27 {x : Cx} (O : OK x "DowryBoxes" cX0_matches 111) (hr : (xM x).sig.returnType = none) (hm : xn x = 5) {Q : Wd → Prop} (X27 : Wd → Prop) (this : Nat) (hX27 : ∀  (w : Wd), X27  w → J x (TV x Q) w 0 0 46 [(0, .ref (adG (xG x) (this)))] []) : ∀ (n : Nat) (x1 : Int) (w : Wd), wp_X0_matches_27 Q X27 this n x1 w → J x (TV x Q) w 0 0 27 [(0, .ref (adG (xG x) (this))), (1, vI (x1))] [] := by
  intro n
  induction n with
  | zero => intro x1 w h; exact False.elim h
  | succ n ih =>
    intro x1 w h
    rw [wp_X0_matches_27] at h
    refine j_iload_n O 1 1 dX0_matches_27 rfl rfl ?_
    refine j_bipush (m := 6) O dX0_matches_28 bi_6 ?_
    obtain ⟨c1, h⟩ := h
    refine j_icmp_ge O (tgt := 46) dX0_matches_30 (by decide) c1 (by decide) h (fun h => ?_) (fun h => ?_)
    · exact (J.sub [0] rfl <| hX27  _ h)
    · refine j_aload_n O 0 0 dX0_matches_33 rfl rfl ?_
      refine j_getA O cfX0 21 (Nat.le_of_ble_eq_true rfl) ⟨_, rfl⟩ q379 dX0_matches_34 h (fun k2 h => ?_)
      refine j_iload_n O 1 1 dX0_matches_37 rfl rfl ?_
      refine j_iconst O dX0_matches_38 ?_
      refine j_iast O dX0_matches_39 h (fun w3 h => ?_)
      refine j_iinc (L' := [(1, vI (x1 + 1)), (0, .ref (adG (xG x) (this)))]) O 1 dX0_matches_40 rfl (by rw [hm]; decide) rfl ?_
      refine j_goto O (tgt := 27) dX0_matches_43 (by decide) ?_
      exact (J.sub [1, 0] rfl <| ih _ _ h)
theorem wk_X0_matches_120 {x : Cx} (O : OK x "DowryBoxes" cX0_matches 111) (hr : (xM x).sig.returnType = none) (hm : xn x = 5) {Q : Wd → Prop} (K48 : Int → Wd → Prop) (K61 : Int → Wd → Prop) (X61 : Wd → Prop) (this : Nat) (x1 : Int) (x2 : Int) (x3 : Int) (x4 : Int) (hK48 : ∀ (y1 : Int) (w : Wd), K48 y1 w → J x (TV x Q) w 0 0 48 [(0, .ref (adG (xG x) (this))), (1, vI (y1))] []) (hK61 : ∀ (y2 : Int) (w : Wd), K61 y2 w → J x (TV x Q) w 0 0 61 [(0, .ref (adG (xG x) (this))), (1, vI (x1)), (2, vI (y2))] []) (hX61 : ∀  (w : Wd), X61  w → J x (TV x Q) w 0 0 133 [(0, .ref (adG (xG x) (this))), (1, vI (x1))] []) (w : Wd) (h : wp_X0_matches_120 Q K48 K61 X61 this x1 x2 x3 x4 w) : J x (TV x Q) w 0 0 120 [(0, .ref (adG (xG x) (this))), (1, vI (x1)), (2, vI (x2)), (3, vI (x3)), (4, vI (x4))] [] := by
  unfold wp_X0_matches_120 at h
  refine j_aload_n O 0 0 dX0_matches_120 rfl rfl ?_
  refine j_getA O cfX0 20 (Nat.le_of_ble_eq_true rfl) ⟨_, rfl⟩ q378 dX0_matches_121 h (fun k1 h => ?_)
  refine j_iload_n O 3 3 dX0_matches_124 rfl rfl ?_
  refine j_iload_n O 2 2 dX0_matches_125 rfl rfl ?_
  refine j_iast O dX0_matches_126 h (fun w2 h => ?_)
  refine j_iload O 4 dX0_matches_127 rfl ?_
  refine j_istore_n (L' := [(2, vI (x4)), (0, .ref (adG (xG x) (this))), (1, vI (x1)), (3, vI (x3)), (4, vI (x4))]) O 2 dX0_matches_129 rfl (by rw [hm]; decide) rfl ?_
  refine j_goto O (tgt := 61) dX0_matches_130 (by decide) ?_
  exact (J.sub [1, 2, 0] rfl <| hK61 _ _ h)
theorem wk_X0_matches_61 {x : Cx} (O : OK x "DowryBoxes" cX0_matches 111) (hr : (xM x).sig.returnType = none) (hm : xn x = 5) {Q : Wd → Prop} (K48 : Int → Wd → Prop) (X61 : Wd → Prop) (this : Nat) (x1 : Int) (hK48 : ∀ (y1 : Int) (w : Wd), K48 y1 w → J x (TV x Q) w 0 0 48 [(0, .ref (adG (xG x) (this))), (1, vI (y1))] []) (hX61 : ∀  (w : Wd), X61  w → J x (TV x Q) w 0 0 133 [(0, .ref (adG (xG x) (this))), (1, vI (x1))] []) : ∀ (n : Nat) (x2 : Int) (w : Wd), wp_X0_matches_61 Q K48 X61 this x1 n x2 w → J x (TV x Q) w 0 0 61 [(0, .ref (adG (xG x) (this))), (1, vI (x1)), (2, vI (x2))] [] := by
  intro n
  induction n with
  | zero => intro x2 w h; exact False.elim h
  | succ n ih =>
    intro x2 w h
    rw [wp_X0_matches_61] at h
    refine j_iload_n O 2 2 dX0_matches_61 rfl rfl ?_
    refine j_iconst O dX0_matches_62 ?_
    obtain ⟨c1, h⟩ := h
    refine j_icmp_eq O (tgt := 133) dX0_matches_63 (by decide) c1 (by decide) h (fun h => ?_) (fun h => ?_)
    · exact (J.sub [0, 1] rfl <| hX61  _ h)
    · refine j_aload_n O 0 0 dX0_matches_66 rfl rfl ?_
      refine j_iload_n O 2 2 dX0_matches_67 rfl rfl ?_
      obtain ⟨e4, h⟩ := h
      refine fin_I O ⟨Nat.zero_le _, Nat.zero_le _⟩ (run_V (As := [vI (x2)]) (st := []) O (mt_X0_nextAsked (xl x) (xG x) _ _ _ _ h) e4 cfX0.1 q1368 q1370 qs31 q121 q1371 hy_X0_nextAsked (Nat.le_of_ble_eq_true rfl) (Nat.le_of_ble_eq_true rfl) ⟨Nat.zero_le _, Nat.zero_le _⟩ rfl (Nat.le_of_ble_eq_true rfl) dX0_matches_68) (fun r2 w3 h => ?_)
      refine j_istore_n (L' := [(3, vI (r2)), (0, .ref (adG (xG x) (this))), (1, vI (x1)), (2, vI (x2))]) O 3 dX0_matches_71 rfl (by rw [hm]; decide) rfl ?_
      refine j_iload_n O 0 3 dX0_matches_72 rfl rfl ?_
      refine j_iconst O dX0_matches_73 ?_
      obtain ⟨c5, h⟩ := h
      refine j_icmp_ne O (tgt := 80) dX0_matches_74 (by decide) c5 (by decide) h (fun h => ?_) (fun h => ?_)
      · refine j_aload_n O 1 0 dX0_matches_80 rfl rfl ?_
        refine j_getA O cfX0 21 (Nat.le_of_ble_eq_true rfl) ⟨_, rfl⟩ q379 dX0_matches_81 h (fun k6 h => ?_)
        refine j_iload_n O 3 2 dX0_matches_84 rfl rfl ?_
        refine j_dup2_11 O dX0_matches_85 rfl rfl ?_
        refine j_iald O dX0_matches_86 h (fun v7 h => ?_)
        refine j_iconst O dX0_matches_87 ?_
        refine j_iload_n O 0 3 dX0_matches_88 rfl rfl ?_
        refine j_ishl O dX0_matches_89 ?_
        refine j_ior O dX0_matches_90 ?_
        refine j_iast O dX0_matches_91 h (fun w8 h => ?_)
        refine j_aload_n O 1 0 dX0_matches_92 rfl rfl ?_
        refine j_getA O cfX0 20 (Nat.le_of_ble_eq_true rfl) ⟨_, rfl⟩ q378 dX0_matches_93 h (fun k9 h => ?_)
        refine j_iload_n O 0 3 dX0_matches_96 rfl rfl ?_
        refine j_iald O dX0_matches_97 h (fun v10 h => ?_)
        refine j_istore (L' := [(4, vI (v10)), (3, vI (r2)), (0, .ref (adG (xG x) (this))), (1, vI (x1)), (2, vI (x2))]) O dX0_matches_98 (by rw [hm]; decide) rfl ?_
        refine j_iload O 0 dX0_matches_100 rfl ?_
        refine j_iconst O dX0_matches_102 ?_
        obtain ⟨c11, h⟩ := h
        refine j_icmp_eq O (tgt := 120) dX0_matches_103 (by decide) c11 (by decide) h (fun h => ?_) (fun h => ?_)
        · exact (J.sub [2, 3, 4, 1, 0] rfl <| wk_X0_matches_120 O hr hm _ _ _ _ _ _ _ _ hK48 ih hX61 _ h)
        · refine j_aload_n O 2 0 dX0_matches_106 rfl rfl ?_
          refine j_iload_n O 1 3 dX0_matches_107 rfl rfl ?_
          refine j_iload O 0 dX0_matches_108 rfl ?_
          refine j_iload_n O 4 2 dX0_matches_110 rfl rfl ?_
          obtain ⟨e14, h⟩ := h
          refine fin_I O ⟨Nat.zero_le _, Nat.zero_le _⟩ (run_V (As := [vI (r2), vI (v10), vI (x2)]) (st := []) O (mt_X0_isRather (xl x) (xG x) _ _ _ _ _ _ h) e14 cfX0.1 q1372 q1374 qs32 q121 q1375 hy_X0_isRather (Nat.le_of_ble_eq_true rfl) (Nat.le_of_ble_eq_true rfl) ⟨Nat.zero_le _, Nat.zero_le _⟩ rfl (Nat.le_of_ble_eq_true rfl) dX0_matches_111) (fun r12 w13 h => ?_)
          obtain ⟨c15, h⟩ := h
          refine j_if_eq O (tgt := 120) dX0_matches_114 (by decide) c15 h (fun h => ?_) (fun h => ?_)
          · exact (J.sub [2, 3, 4, 1, 0] rfl <| wk_X0_matches_120 O hr hm _ _ _ _ _ _ _ _ hK48 ih hX61 _ h)
          · refine j_goto O (tgt := 61) dX0_matches_117 (by decide) ?_
            exact (J.sub [2, 3, 4] rfl <| ih _ _ h)
      · refine j_goto O (tgt := 133) dX0_matches_77 (by decide) ?_
        exact (J.sub [1, 2] rfl <| hX61  _ h)
theorem wk_X0_matches_133 {x : Cx} (O : OK x "DowryBoxes" cX0_matches 111) (hr : (xM x).sig.returnType = none) (hm : xn x = 5) {Q : Wd → Prop} (K48 : Int → Wd → Prop) (this : Nat) (x1 : Int) (hK48 : ∀ (y1 : Int) (w : Wd), K48 y1 w → J x (TV x Q) w 0 0 48 [(0, .ref (adG (xG x) (this))), (1, vI (y1))] []) (w : Wd) (h : wp_X0_matches_133 Q K48 this x1 w) : J x (TV x Q) w 0 0 133 [(0, .ref (adG (xG x) (this))), (1, vI (x1))] [] := by
  unfold wp_X0_matches_133 at h
  refine j_iinc (L' := [(1, vI (x1 + 1)), (0, .ref (adG (xG x) (this)))]) O 1 dX0_matches_133 rfl (by rw [hm]; decide) rfl ?_
  refine j_goto O (tgt := 48) dX0_matches_136 (by decide) ?_
  exact (J.sub [1, 0] rfl <| hK48 _ _ h)
theorem wk_X0_matches_48 {x : Cx} (O : OK x "DowryBoxes" cX0_matches 111) (hr : (xM x).sig.returnType = none) (hm : xn x = 5) {Q : Wd → Prop} (this : Nat) : ∀ (n : Nat) (x1 : Int) (w : Wd), wp_X0_matches_48 Q this n x1 w → J x (TV x Q) w 0 0 48 [(0, .ref (adG (xG x) (this))), (1, vI (x1))] [] := by
  intro n
  induction n with
  | zero => intro x1 w h; exact False.elim h
  | succ n ih =>
    intro x1 w h
    rw [wp_X0_matches_48] at h
    refine j_iload_n O 1 1 dX0_matches_48 rfl rfl ?_
    refine j_aload_n O 0 0 dX0_matches_49 rfl rfl ?_
    refine j_getR O cfX0 2 (Nat.le_of_ble_eq_true rfl) ⟨_, rfl⟩ q360 dX0_matches_50 h (fun o1 h => ?_)
    obtain ⟨k2, e_k2, g_k2⟩ := h
    subst e_k2
    have h := g_k2
    refine j_getIN O cfX1 5 (Nat.le_of_ble_eq_true rfl) (.inl rfl) (lw_n q242 rfl) dX0_matches_53 h (fun v3 h => ?_)
    obtain ⟨c4, h⟩ := h
    obtain ⟨c5, h⟩ := h
    refine j_icmp_ge O (tgt := 139) dX0_matches_56 (by decide) c4 c5 h (fun h => ?_) (fun h => ?_)
    · exact j_vret O hr dX0_matches_139 h
    · refine j_iload_n O 1 1 dX0_matches_59 rfl rfl ?_
      refine j_istore_n (L' := [(2, vI (x1)), (0, .ref (adG (xG x) (this))), (1, vI (x1))]) O 2 dX0_matches_60 rfl (by rw [hm]; decide) rfl ?_
      refine (J.sub [1, 2, 0] rfl <| wk_X0_matches_61 O hr hm _ _ _ _ ih (fun w6 h => ?_) FU _ _ h)
      exact (J.sub [0, 1] rfl <| wk_X0_matches_133 O hr hm _ _ _ ih _ h)
theorem mt_X0_matches (l : Launch) (G : GW) (this : Nat) (w : Wd) (Q : Wd → Prop) (h : wp_X0_matches this w Q) : MV l G yX0_matches cX0_matches 5 111 0 0 [.ref (adG G (this))] w Q := by
  refine met_V (fun G => [.ref (adG G (this))]) (by decide) (fun G => Nat.le_of_ble_eq_true rfl) (fun x O hl hm hr _ => ?_)
  subst hl
  have O : OK x "DowryBoxes" cX0_matches 111 := O
  have h : wp_X0_matches this w Q := h
  unfold wp_X0_matches at h
  show J x (TV x Q) w 0 0 0 [(0, .ref (adG (xG x) (this)))] []
  refine j_aload_n O 0 0 dX0_matches_0 rfl rfl ?_
  obtain ⟨e2, h⟩ := h
  refine fin_V O ⟨Nat.zero_le _, Nat.zero_le _⟩ (run_V (As := []) (st := []) O (mt_X0_laysGaps (xl x) (xG x) _ _ _ h) e2 cfX0.1 q1361 q1363 qs30 q121 q1364 hy_X0_laysGaps (Nat.le_of_ble_eq_true rfl) (Nat.le_of_ble_eq_true rfl) ⟨Nat.zero_le _, Nat.zero_le _⟩ rfl (Nat.le_of_ble_eq_true rfl) dX0_matches_1) (fun w1 h => ?_)
  refine j_iconst O dX0_matches_4 ?_
  refine j_istore_n (L' := [(1, vI (0)), (0, .ref (adG (xG x) (this)))]) O 1 dX0_matches_5 rfl (by rw [hm]; decide) rfl ?_
  refine (J.sub [1, 0] rfl <| wk_X0_matches_6 O hr hm _ _ (fun w3 h => ?_) FU _ _ h)
  refine j_iconst O dX0_matches_25 ?_
  refine j_istore_n (L' := [(1, vI (0)), (0, .ref (adG (xG x) (this)))]) O 1 dX0_matches_26 rfl (by rw [hm]; decide) rfl ?_
  refine (J.sub [1, 0] rfl <| wk_X0_matches_27 O hr hm _ _ (fun w4 h => ?_) FU _ _ h)
  refine j_iconst O dX0_matches_46 ?_
  refine j_istore_n (L' := [(1, vI (0)), (0, .ref (adG (xG x) (this)))]) O 1 dX0_matches_47 rfl (by rw [hm]; decide) rfl ?_
  exact (J.sub [1, 0] rfl <| wk_X0_matches_48 O hr hm  _  FU _ _ h)
theorem hy_X0_steady : (yX0_steady.cls = "DowryBoxes" ∧ yX0_steady.cls ≠ "java/lang/invoke/MethodHandle" ∧ yX0_steady.cls ≠ "java/lang/invoke/VarHandle" ∧ (parseMethodDescriptor yX0_steady.desc).map (fun d => d.parameters.length) = some 1) := by decide +kernel
theorem wk_X0_steady_16 {x : Cx} (O : OK x "DowryBoxes" cX0_steady 112) (hr : (xM x).sig.returnType = some .int) (hm : xn x = 3) {Q : Int → Wd → Prop} (this : Nat) (x1 : Int) : ∀ (n : Nat) (x2 : Int) (w : Wd), wp_X0_steady_16 Q this x1 n x2 w → J x (TI x Q) w 0 0 16 [(0, .ref (adG (xG x) (this))), (1, vI (x1)), (2, vI (x2))] [] := by
  intro n
  induction n with
  | zero => intro x2 w h; exact False.elim h
  | succ n ih =>
    intro x2 w h
    rw [wp_X0_steady_16] at h
    refine j_iload_n O 2 2 dX0_steady_16 rfl rfl ?_
    refine j_aload_n O 0 0 dX0_steady_17 rfl rfl ?_
    refine j_getR O cfX0 2 (Nat.le_of_ble_eq_true rfl) ⟨_, rfl⟩ q360 dX0_steady_18 h (fun o1 h => ?_)
    obtain ⟨k2, e_k2, g_k2⟩ := h
    subst e_k2
    have h := g_k2
    refine j_getIN O cfX1 6 (Nat.le_of_ble_eq_true rfl) (.inl rfl) (lw_n q244 rfl) dX0_steady_21 h (fun v3 h => ?_)
    obtain ⟨c4, h⟩ := h
    obtain ⟨c5, h⟩ := h
    refine j_icmp_ge O (tgt := 45) dX0_steady_24 (by decide) c4 c5 h (fun h => ?_) (fun h => ?_)
    · refine j_iconst O dX0_steady_45 ?_
      exact j_iret O hr dX0_steady_46 h
    · refine j_aload_n O 0 0 dX0_steady_27 rfl rfl ?_
      refine j_getA O cfX0 20 (Nat.le_of_ble_eq_true rfl) ⟨_, rfl⟩ q378 dX0_steady_28 h (fun k6 h => ?_)
      refine j_iload_n O 2 2 dX0_steady_31 rfl rfl ?_
      refine j_iald O dX0_steady_32 h (fun v7 h => ?_)
      refine j_iload_n O 1 1 dX0_steady_33 rfl rfl ?_
      obtain ⟨c8, h⟩ := h
      obtain ⟨c9, h⟩ := h
      refine j_icmp_ne O (tgt := 39) dX0_steady_34 (by decide) c8 c9 h (fun h => ?_) (fun h => ?_)
      · refine j_iinc (L' := [(2, vI (x2 + 1)), (0, .ref (adG (xG x) (this))), (1, vI (x1))]) O 2 dX0_steady_39 rfl (by rw [hm]; decide) rfl ?_
        refine j_goto O (tgt := 16) dX0_steady_42 (by decide) ?_
        exact (J.sub [1, 2, 0] rfl <| ih _ _ h)
      · refine j_iload_n O 2 2 dX0_steady_37 rfl rfl ?_
        exact j_iret O hr dX0_steady_38 h
theorem mt_X0_steady (l : Launch) (G : GW) (this : Nat) (p1 : Int) (w : Wd) (Q : Int → Wd → Prop) (h : wp_X0_steady this p1 w Q) : MI l G yX0_steady cX0_steady 3 (.int) 112 0 0 [.ref (adG G (this)), vI (p1)] w Q := by
  refine met_I (fun G => [.ref (adG G (this)), vI (p1)]) (by decide) (fun G => Nat.le_of_ble_eq_true rfl) (fun x O hl hm hr => ?_)
  subst hl
  have O : OK x "DowryBoxes" cX0_steady 112 := O
  have h : wp_X0_steady this p1 w Q := h
  unfold wp_X0_steady at h
  show J x (TI x Q) w 0 0 0 [(0, .ref (adG (xG x) (this))), (1, vI (p1))] []
  refine j_aload_n O 0 0 dX0_steady_0 rfl rfl ?_
  refine j_iload_n O 1 1 dX0_steady_1 rfl rfl ?_
  obtain ⟨e3, h⟩ := h
  refine fin_I O ⟨Nat.zero_le _, Nat.zero_le _⟩ (run_V (As := [vI (p1)]) (st := []) O (mt_X0_isBox (xl x) (xG x) _ _ _ _ h) e3 cfX0.1 q582 q584 qs6 q121 q585 hy_X0_isBox (Nat.le_of_ble_eq_true rfl) (Nat.le_of_ble_eq_true rfl) ⟨Nat.zero_le _, Nat.zero_le _⟩ rfl (Nat.le_of_ble_eq_true rfl) dX0_steady_2) (fun r1 w2 h => ?_)
  obtain ⟨c4, h⟩ := h
  refine j_if_ne O (tgt := 10) dX0_steady_5 (by decide) c4 h (fun h => ?_) (fun h => ?_)
  · refine j_aload_n O 0 0 dX0_steady_10 rfl rfl ?_
    obtain ⟨e6, h⟩ := h
    refine fin_V O ⟨Nat.zero_le _, Nat.zero_le _⟩ (run_V (As := []) (st := []) O (mt_X0_matches (xl x) (xG x) _ _ _ h) e6 cfX0.1 q1357 q1359 qs29 q121 q1360 hy_X0_matches (Nat.le_of_ble_eq_true rfl) (Nat.le_of_ble_eq_true rfl) ⟨Nat.zero_le _, Nat.zero_le _⟩ rfl (Nat.le_of_ble_eq_true rfl) dX0_steady_11) (fun w5 h => ?_)
    refine j_iconst O dX0_steady_14 ?_
    refine j_istore_n (L' := [(2, vI (0)), (0, .ref (adG (xG x) (this))), (1, vI (p1))]) O 2 dX0_steady_15 rfl (by rw [hm]; decide) rfl ?_
    exact (J.sub [1, 2, 0] rfl <| wk_X0_steady_16 O hr hm  _ _  FU _ _ h)
  · refine j_iconst O dX0_steady_8 ?_
    exact j_iret O hr dX0_steady_9 h
theorem hy_X0_isSo : (yX0_isSo.cls = "DowryBoxes" ∧ yX0_isSo.cls ≠ "java/lang/invoke/MethodHandle" ∧ yX0_isSo.cls ≠ "java/lang/invoke/VarHandle" ∧ (parseMethodDescriptor yX0_isSo.desc).map (fun d => d.parameters.length) = some 1) := by decide +kernel
theorem wk_X0_isSo_2 {x : Cx} (O : OK x "DowryBoxes" cX0_isSo 3) (hr : (xM x).sig.returnType = some .boolean) (hm : xn x = 3) {Q : Int → Wd → Prop} (this : Nat) (x1 : Int) : ∀ (n : Nat) (x2 : Int) (w : Wd), wp_X0_isSo_2 Q this x1 n x2 w → J x (TI x Q) w 0 0 2 [(0, .ref (adG (xG x) (this))), (1, vI (x1)), (2, vI (x2))] [] := by
  intro n
  induction n with
  | zero => intro x2 w h; exact False.elim h
  | succ n ih =>
    intro x2 w h
    rw [wp_X0_isSo_2] at h
    refine j_iload_n O 2 2 dX0_isSo_2 rfl rfl ?_
    refine j_iconst O dX0_isSo_3 ?_
    refine j_aload_n O 0 0 dX0_isSo_4 rfl rfl ?_
    refine j_getR O cfX0 2 (Nat.le_of_ble_eq_true rfl) ⟨_, rfl⟩ q360 dX0_isSo_5 h (fun o1 h => ?_)
    obtain ⟨k2, e_k2, g_k2⟩ := h
    subst e_k2
    have h := g_k2
    refine j_getIN O cfX1 7 (Nat.le_of_ble_eq_true rfl) (.inl rfl) (lw_n q246 rfl) dX0_isSo_8 h (fun v3 h => ?_)
    refine j_imul O dX0_isSo_11 ?_
    obtain ⟨c4, h⟩ := h
    obtain ⟨c5, h⟩ := h
    refine j_icmp_ge O (tgt := 68) dX0_isSo_12 (by decide) c4 c5 h (fun h => ?_) (fun h => ?_)
    · refine j_iconst O dX0_isSo_68 ?_
      exact j_zret O hr dX0_isSo_69 h
    · refine j_aload_n O 0 0 dX0_isSo_15 rfl rfl ?_
      obtain ⟨e8, h⟩ := h
      refine fin_R O ⟨Nat.zero_le _, Nat.zero_le _⟩ (run_V (As := []) (st := []) O (mt_X0_table (xl x) (xG x) _ _ _ h) e8 cfX0.1 q574 q576 qs5 q121 q577 hy_X0_table (Nat.le_of_ble_eq_true rfl) (Nat.le_of_ble_eq_true rfl) ⟨Nat.zero_le _, Nat.zero_le _⟩ rfl (Nat.le_of_ble_eq_true rfl) dX0_isSo_16) (fun o6 w7 h => ?_)
      refine j_iload_n O 1 1 dX0_isSo_19 rfl rfl ?_
      refine j_aload_n O 0 0 dX0_isSo_20 rfl rfl ?_
      refine j_getR O cfX0 2 (Nat.le_of_ble_eq_true rfl) ⟨_, rfl⟩ q360 dX0_isSo_21 h (fun o9 h => ?_)
      obtain ⟨k10, e_k10, g_k10⟩ := h
      subst e_k10
      have h := g_k10
      refine j_getAN O cfX1 3 (Nat.le_of_ble_eq_true rfl) ⟨_, rfl⟩ (lw_n q238 rfl) dX0_isSo_24 h (fun k11 h => ?_)
      refine j_iload_n O 2 2 dX0_isSo_27 rfl rfl ?_
      refine j_iald O dX0_isSo_28 h (fun v12 h => ?_)
      obtain ⟨k13, e_k13, g_k13⟩ := h
      subst e_k13
      have h := g_k13
      obtain ⟨e16, h⟩ := h
      refine fin_I O ⟨Nat.zero_le _, Nat.zero_le _⟩ (run_V (As := [vI (x1), vI (v12)]) (st := []) O (mt_X2_notesAt (xl x) (xG x) _ _ _ _ _ h) e16 cfX2.1 q623 q595 q596 q123 q597 hy_X2_notesAt (Nat.le_of_ble_eq_true rfl) (Nat.le_of_ble_eq_true rfl) ⟨Nat.zero_le _, Nat.zero_le _⟩ rfl (Nat.le_of_ble_eq_true rfl) dX0_isSo_29) (fun r14 w15 h => ?_)
      refine j_aload_n O 0 0 dX0_isSo_32 rfl rfl ?_
      refine j_getR O cfX0 2 (Nat.le_of_ble_eq_true rfl) ⟨_, rfl⟩ q360 dX0_isSo_33 h (fun o17 h => ?_)
      obtain ⟨k18, e_k18, g_k18⟩ := h
      subst e_k18
      have h := g_k18
      refine j_getAN O cfX1 3 (Nat.le_of_ble_eq_true rfl) ⟨_, rfl⟩ (lw_n q238 rfl) dX0_isSo_36 h (fun k19 h => ?_)
      refine j_iload_n O 2 2 dX0_isSo_39 rfl rfl ?_
      refine j_iconst O dX0_isSo_40 ?_
      refine j_iadd O dX0_isSo_41 ?_
      refine j_iald O dX0_isSo_42 h (fun v20 h => ?_)
      refine j_ishr O dX0_isSo_43 ?_
      refine j_iconst O dX0_isSo_44 ?_
      refine j_iand O dX0_isSo_45 ?_
      refine j_aload_n O 0 0 dX0_isSo_46 rfl rfl ?_
      refine j_getR O cfX0 2 (Nat.le_of_ble_eq_true rfl) ⟨_, rfl⟩ q360 dX0_isSo_47 h (fun o21 h => ?_)
      obtain ⟨k22, e_k22, g_k22⟩ := h
      subst e_k22
      have h := g_k22
      refine j_getAN O cfX1 3 (Nat.le_of_ble_eq_true rfl) ⟨_, rfl⟩ (lw_n q238 rfl) dX0_isSo_50 h (fun k23 h => ?_)
      refine j_iload_n O 2 2 dX0_isSo_53 rfl rfl ?_
      refine j_iconst O dX0_isSo_54 ?_
      refine j_iadd O dX0_isSo_55 ?_
      refine j_iald O dX0_isSo_56 h (fun v24 h => ?_)
      obtain ⟨c25, h⟩ := h
      obtain ⟨c26, h⟩ := h
      refine j_icmp_eq O (tgt := 62) dX0_isSo_57 (by decide) c25 c26 h (fun h => ?_) (fun h => ?_)
      · refine j_iinc (L' := [(2, vI (x2 + 3)), (0, .ref (adG (xG x) (this))), (1, vI (x1))]) O 2 dX0_isSo_62 rfl (by rw [hm]; decide) rfl ?_
        refine j_goto O (tgt := 2) dX0_isSo_65 (by decide) ?_
        exact (J.sub [1, 2, 0] rfl <| ih _ _ h)
      · refine j_iconst O dX0_isSo_60 ?_
        exact j_zret O hr dX0_isSo_61 h
theorem mt_X0_isSo (l : Launch) (G : GW) (this : Nat) (p1 : Int) (w : Wd) (Q : Int → Wd → Prop) (h : wp_X0_isSo this p1 w Q) : MI l G yX0_isSo cX0_isSo 3 (.boolean) 3 0 0 [.ref (adG G (this)), vI (p1)] w Q := by
  refine met_I (fun G => [.ref (adG G (this)), vI (p1)]) (by decide) (fun G => Nat.le_of_ble_eq_true rfl) (fun x O hl hm hr => ?_)
  subst hl
  have O : OK x "DowryBoxes" cX0_isSo 3 := O
  have h : wp_X0_isSo this p1 w Q := h
  unfold wp_X0_isSo at h
  show J x (TI x Q) w 0 0 0 [(0, .ref (adG (xG x) (this))), (1, vI (p1))] []
  refine j_iconst O dX0_isSo_0 ?_
  refine j_istore_n (L' := [(2, vI (0)), (0, .ref (adG (xG x) (this))), (1, vI (p1))]) O 2 dX0_isSo_1 rfl (by rw [hm]; decide) rfl ?_
  exact (J.sub [1, 2, 0] rfl <| wk_X0_isSo_2 O hr hm  _ _  FU _ _ h)
theorem hy_X0_which : (yX0_which.cls = "DowryBoxes" ∧ yX0_which.cls ≠ "java/lang/invoke/MethodHandle" ∧ yX0_which.cls ≠ "java/lang/invoke/VarHandle" ∧ (parseMethodDescriptor yX0_which.desc).map (fun d => d.parameters.length) = some 0) := by decide +kernel
theorem wk_X0_which_31 {x : Cx} (O : OK x "DowryBoxes" cX0_which 4) (hr : (xM x).sig.returnType = some .int) (hm : xn x = 3) {Q : Int → Wd → Prop} (K4 : Int → Int → Wd → Prop) (this : Nat) (x2 : Int) (s0 : Int) (s1 : Int) (hK4 : ∀ (y1 : Int) (y2 : Int) (w : Wd), K4 y1 y2 w → J x (TI x Q) w 0 0 4 [(0, .ref (adG (xG x) (this))), (1, vI (y1)), (2, vI (y2))] []) (w : Wd) (h : wp_X0_which_31 Q K4 this x2 s0 s1 w) : J x (TI x Q) w 0 0 31 [(0, .ref (adG (xG x) (this))), (2, vI (x2))] [vI (s0), vI (s1)] := by
  unfold wp_X0_which_31 at h
  refine j_ior O dX0_which_31 ?_
  refine j_istore_n (L' := [(1, vI (ior s1 s0)), (0, .ref (adG (xG x) (this))), (2, vI (x2))]) O 1 dX0_which_32 rfl (by rw [hm]; decide) rfl ?_
  refine j_iinc (L' := [(2, vI (x2 + 1)), (1, vI (ior s1 s0)), (0, .ref (adG (xG x) (this)))]) O 2 dX0_which_33 rfl (by rw [hm]; decide) rfl ?_
  refine j_goto O (tgt := 4) dX0_which_36 (by decide) ?_
  exact (J.sub [2, 1, 0] rfl <| hK4 _ _ _ h)
theorem wk_X0_which_4 {x : Cx} (O : OK x "DowryBoxes" cX0_which 4) (hr : (xM x).sig.returnType = some .int) (hm : xn x = 3) {Q : Int → Wd → Prop} (this : Nat) : ∀ (n : Nat) (x1 : Int) (x2 : Int) (w : Wd), wp_X0_which_4 Q this n x1 x2 w → J x (TI x Q) w 0 0 4 [(0, .ref (adG (xG x) (this))), (1, vI (x1)), (2, vI (x2))] [] := by
  intro n
  induction n with
  | zero => intro x1 x2 w h; exact False.elim h
  | succ n ih =>
    intro x1 x2 w h
    rw [wp_X0_which_4] at h
    refine j_iload_n O 2 2 dX0_which_4 rfl rfl ?_
    refine j_aload_n O 0 0 dX0_which_5 rfl rfl ?_
    refine j_getR O cfX0 2 (Nat.le_of_ble_eq_true rfl) ⟨_, rfl⟩ q360 dX0_which_6 h (fun o1 h => ?_)
    obtain ⟨k2, e_k2, g_k2⟩ := h
    subst e_k2
    have h := g_k2
    refine j_getIN O cfX1 5 (Nat.le_of_ble_eq_true rfl) (.inl rfl) (lw_n q242 rfl) dX0_which_9 h (fun v3 h => ?_)
    obtain ⟨c4, h⟩ := h
    obtain ⟨c5, h⟩ := h
    refine j_icmp_ge O (tgt := 39) dX0_which_12 (by decide) c4 c5 h (fun h => ?_) (fun h => ?_)
    · refine j_iload_n O 1 1 dX0_which_39 rfl rfl ?_
      exact j_iret O hr dX0_which_40 h
    · refine j_iload_n O 1 1 dX0_which_15 rfl rfl ?_
      refine j_aload_n O 0 0 dX0_which_16 rfl rfl ?_
      refine j_iload_n O 2 2 dX0_which_17 rfl rfl ?_
      obtain ⟨e8, h⟩ := h
      refine fin_I O ⟨Nat.zero_le _, Nat.zero_le _⟩ (run_V (As := [vI (x2)]) (st := [vI (x1)]) O (mt_X0_isSo (xl x) (xG x) _ _ _ _ h) e8 cfX0.1 q1343 q1345 qs28 q121 q1346 hy_X0_isSo (Nat.le_of_ble_eq_true rfl) (Nat.le_of_ble_eq_true rfl) ⟨Nat.zero_le _, Nat.zero_le _⟩ rfl (Nat.le_of_ble_eq_true rfl) dX0_which_18) (fun r6 w7 h => ?_)
      obtain ⟨c9, h⟩ := h
      refine j_if_eq O (tgt := 30) dX0_which_21 (by decide) c9 h (fun h => ?_) (fun h => ?_)
      · refine j_iconst O dX0_which_30 ?_
        exact (J.sub [0, 2] rfl <| wk_X0_which_31 O hr hm _ _ _ _ _ ih _ h)
      · refine j_iconst O dX0_which_24 ?_
        refine j_iload_n O 2 2 dX0_which_25 rfl rfl ?_
        refine j_ishl O dX0_which_26 ?_
        refine j_goto O (tgt := 31) dX0_which_27 (by decide) ?_
        exact (J.sub [0, 2] rfl <| wk_X0_which_31 O hr hm _ _ _ _ _ ih _ h)
theorem mt_X0_which (l : Launch) (G : GW) (this : Nat) (w : Wd) (Q : Int → Wd → Prop) (h : wp_X0_which this w Q) : MI l G yX0_which cX0_which 3 (.int) 4 0 0 [.ref (adG G (this))] w Q := by
  refine met_I (fun G => [.ref (adG G (this))]) (by decide) (fun G => Nat.le_of_ble_eq_true rfl) (fun x O hl hm hr => ?_)
  subst hl
  have O : OK x "DowryBoxes" cX0_which 4 := O
  have h : wp_X0_which this w Q := h
  unfold wp_X0_which at h
  show J x (TI x Q) w 0 0 0 [(0, .ref (adG (xG x) (this)))] []
  refine j_iconst O dX0_which_0 ?_
  refine j_istore_n (L' := [(1, vI (0)), (0, .ref (adG (xG x) (this)))]) O 1 dX0_which_1 rfl (by rw [hm]; decide) rfl ?_
  refine j_iconst O dX0_which_2 ?_
  refine j_istore_n (L' := [(2, vI (0)), (1, vI (0)), (0, .ref (adG (xG x) (this)))]) O 2 dX0_which_3 rfl (by rw [hm]; decide) rfl ?_
  exact (J.sub [2, 1, 0] rfl <| wk_X0_which_4 O hr hm  _  FU _ _ _ h)
theorem hy_X0_listen : (yX0_listen.cls = "DowryBoxes" ∧ yX0_listen.cls ≠ "java/lang/invoke/MethodHandle" ∧ yX0_listen.cls ≠ "java/lang/invoke/VarHandle" ∧ (parseMethodDescriptor yX0_listen.desc).map (fun d => d.parameters.length) = some 1) := by decide +kernel
theorem wk_X0_listen_96 {x : Cx} (O : OK x "DowryBoxes" cX0_listen 5) (hr : (xM x).sig.returnType = some .int) (hm : xn x = 8) {Q : Int → Wd → Prop} (K26 : Int → Int → Int → Wd → Prop) (X26 : Int → Int → Wd → Prop) (K43 : Int → Int → Wd → Prop) (X43 : Int → Wd → Prop) (this : Nat) (x1 : Int) (x2 : Int) (x3 : Int) (x4 : Int) (x5 : Int) (x7 : Int) (s0 : Int) (s1 : Int) (hK26 : ∀ (y3 : Int) (y4 : Int) (y5 : Int) (w : Wd), K26 y3 y4 y5 w → J x (TI x Q) w 0 0 26 [(0, .ref (adG (xG x) (this))), (1, vI (x1)), (2, vI (x2)), (3, vI (y3)), (4, vI (y4)), (5, vI (y5))] []) (hX26 : ∀ (y3 : Int) (y4 : Int) (w : Wd), X26 y3 y4 w → J x (TI x Q) w 0 0 154 [(1, vI (x1)), (3, vI (y3)), (4, vI (y4))] []) (hK43 : ∀ (y6 : Int) (y7 : Int) (w : Wd), K43 y6 y7 w → J x (TI x Q) w 0 0 43 [(0, .ref (adG (xG x) (this))), (1, vI (x1)), (2, vI (x2)), (3, vI (x3)), (4, vI (x4)), (5, vI (x5)), (6, vI (y6)), (7, vI (y7))] []) (hX43 : ∀ (y6 : Int) (w : Wd), X43 y6 w → J x (TI x Q) w 0 0 105 [(0, .ref (adG (xG x) (this))), (1, vI (x1)), (2, vI (x2)), (3, vI (x3)), (4, vI (x4)), (5, vI (x5)), (6, vI (y6))] []) (w : Wd) (h : wp_X0_listen_96 Q K26 X26 K43 X43 this x1 x2 x3 x4 x5 x7 s0 s1 w) : J x (TI x Q) w 0 0 96 [(0, .ref (adG (xG x) (this))), (1, vI (x1)), (2, vI (x2)), (3, vI (x3)), (4, vI (x4)), (5, vI (x5)), (7, vI (x7))] [vI (s0), vI (s1)] := by
  unfold wp_X0_listen_96 at h
  refine j_iadd O dX0_listen_96 ?_
  refine j_istore (L' := [(6, vI (s1 + s0)), (0, .ref (adG (xG x) (this))), (1, vI (x1)), (2, vI (x2)), (3, vI (x3)), (4, vI (x4)), (5, vI (x5)), (7, vI (x7))]) O dX0_listen_97 (by rw [hm]; decide) rfl ?_
  refine j_iinc (L' := [(7, vI (x7 + 1)), (6, vI (s1 + s0)), (0, .ref (adG (xG x) (this))), (1, vI (x1)), (2, vI (x2)), (3, vI (x3)), (4, vI (x4)), (5, vI (x5))]) O 7 dX0_listen_99 rfl (by rw [hm]; decide) rfl ?_
  refine j_goto O (tgt := 43) dX0_listen_102 (by decide) ?_
  exact (J.sub [2, 3, 4, 5, 6, 7, 1, 0] rfl <| hK43 _ _ _ h)
theorem wk_X0_listen_95 {x : Cx} (O : OK x "DowryBoxes" cX0_listen 5) (hr : (xM x).sig.returnType = some .int) (hm : xn x = 8) {Q : Int → Wd → Prop} (K26 : Int → Int → Int → Wd → Prop) (X26 : Int → Int → Wd → Prop) (K43 : Int → Int → Wd → Prop) (X43 : Int → Wd → Prop) (this : Nat) (x1 : Int) (x2 : Int) (x3 : Int) (x4 : Int) (x5 : Int) (x7 : Int) (s0 : Int) (hK26 : ∀ (y3 : Int) (y4 : Int) (y5 : Int) (w : Wd), K26 y3 y4 y5 w → J x (TI x Q) w 0 0 26 [(0, .ref (adG (xG x) (this))), (1, vI (x1)), (2, vI (x2)), (3, vI (y3)), (4, vI (y4)), (5, vI (y5))] []) (hX26 : ∀ (y3 : Int) (y4 : Int) (w : Wd), X26 y3 y4 w → J x (TI x Q) w 0 0 154 [(1, vI (x1)), (3, vI (y3)), (4, vI (y4))] []) (hK43 : ∀ (y6 : Int) (y7 : Int) (w : Wd), K43 y6 y7 w → J x (TI x Q) w 0 0 43 [(0, .ref (adG (xG x) (this))), (1, vI (x1)), (2, vI (x2)), (3, vI (x3)), (4, vI (x4)), (5, vI (x5)), (6, vI (y6)), (7, vI (y7))] []) (hX43 : ∀ (y6 : Int) (w : Wd), X43 y6 w → J x (TI x Q) w 0 0 105 [(0, .ref (adG (xG x) (this))), (1, vI (x1)), (2, vI (x2)), (3, vI (x3)), (4, vI (x4)), (5, vI (x5)), (6, vI (y6))] []) (w : Wd) (h : wp_X0_listen_95 Q K26 X26 K43 X43 this x1 x2 x3 x4 x5 x7 s0 w) : J x (TI x Q) w 0 0 95 [(0, .ref (adG (xG x) (this))), (1, vI (x1)), (2, vI (x2)), (3, vI (x3)), (4, vI (x4)), (5, vI (x5)), (7, vI (x7))] [vI (s0)] := by
  unfold wp_X0_listen_95 at h
  refine j_iconst O dX0_listen_95 ?_
  exact (J.sub [0, 1, 2, 3, 4, 5, 6] rfl <| wk_X0_listen_96 O hr hm _ _ _ _ _ _ _ _ _ _ _ _ _ hK26 hX26 hK43 hX43 _ h)
theorem wk_X0_listen_43 {x : Cx} (O : OK x "DowryBoxes" cX0_listen 5) (hr : (xM x).sig.returnType = some .int) (hm : xn x = 8) {Q : Int → Wd → Prop} (K26 : Int → Int → Int → Wd → Prop) (X26 : Int → Int → Wd → Prop) (X43 : Int → Wd → Prop) (this : Nat) (x1 : Int) (x2 : Int) (x3 : Int) (x4 : Int) (x5 : Int) (hK26 : ∀ (y3 : Int) (y4 : Int) (y5 : Int) (w : Wd), K26 y3 y4 y5 w → J x (TI x Q) w 0 0 26 [(0, .ref (adG (xG x) (this))), (1, vI (x1)), (2, vI (x2)), (3, vI (y3)), (4, vI (y4)), (5, vI (y5))] []) (hX26 : ∀ (y3 : Int) (y4 : Int) (w : Wd), X26 y3 y4 w → J x (TI x Q) w 0 0 154 [(1, vI (x1)), (3, vI (y3)), (4, vI (y4))] []) (hX43 : ∀ (y6 : Int) (w : Wd), X43 y6 w → J x (TI x Q) w 0 0 105 [(0, .ref (adG (xG x) (this))), (1, vI (x1)), (2, vI (x2)), (3, vI (x3)), (4, vI (x4)), (5, vI (x5)), (6, vI (y6))] []) : ∀ (n : Nat) (x6 : Int) (x7 : Int) (w : Wd), wp_X0_listen_43 Q K26 X26 X43 this x1 x2 x3 x4 x5 n x6 x7 w → J x (TI x Q) w 0 0 43 [(0, .ref (adG (xG x) (this))), (1, vI (x1)), (2, vI (x2)), (3, vI (x3)), (4, vI (x4)), (5, vI (x5)), (6, vI (x6)), (7, vI (x7))] [] := by
  intro n
  induction n with
  | zero => intro x6 x7 w h; exact False.elim h
  | succ n ih =>
    intro x6 x7 w h
    rw [wp_X0_listen_43] at h
    refine j_iload O 7 dX0_listen_43 rfl ?_
    refine j_aload_n O 0 0 dX0_listen_45 rfl rfl ?_
    refine j_getR O cfX0 2 (Nat.le_of_ble_eq_true rfl) ⟨_, rfl⟩ q360 dX0_listen_46 h (fun o1 h => ?_)
    obtain ⟨k2, e_k2, g_k2⟩ := h
    subst e_k2
    have h := g_k2
    refine j_getIN O cfX1 5 (Nat.le_of_ble_eq_true rfl) (.inl rfl) (lw_n q242 rfl) dX0_listen_49 h (fun v3 h => ?_)
    obtain ⟨c4, h⟩ := h
    obtain ⟨c5, h⟩ := h
    refine j_icmp_ge O (tgt := 105) dX0_listen_52 (by decide) c4 c5 h (fun h => ?_) (fun h => ?_)
    · exact (J.sub [0, 1, 2, 3, 4, 5, 6] rfl <| hX43 _ _ h)
    · refine j_iload O 6 dX0_listen_55 rfl ?_
      refine j_iload_n O 2 2 dX0_listen_57 rfl rfl ?_
      refine j_iload O 7 dX0_listen_58 rfl ?_
      refine fin_I O ⟨Nat.zero_le _, Nat.zero_le _⟩ (run_S (As := [vI (x2), vI (x7)]) (st := [vI (x6)]) O (mt_X0_isOf (xl x) (xG x) _ _ _ _ h) q624 q625 q121 q626 hy_X0_isOf.2 (Nat.le_of_ble_eq_true rfl) (Nat.le_of_ble_eq_true rfl) ⟨Nat.zero_le _, Nat.zero_le _⟩ rfl (Nat.le_of_ble_eq_true rfl) dX0_listen_60) (fun r6 w7 h => ?_)
      obtain ⟨c8, h⟩ := h
      refine j_if_eq O (tgt := 95) dX0_listen_63 (by decide) c8 h (fun h => ?_) (fun h => ?_)
      · exact (J.sub [0, 1, 2, 3, 4, 5, 7] rfl <| wk_X0_listen_95 O hr hm _ _ _ _ _ _ _ _ _ _ _ _ hK26 hX26 ih hX43 _ h)
      · refine j_aload_n O 0 0 dX0_listen_66 rfl rfl ?_
        obtain ⟨e11, h⟩ := h
        refine fin_R O ⟨Nat.zero_le _, Nat.zero_le _⟩ (run_V (As := []) (st := [vI (x6)]) O (mt_X0_table (xl x) (xG x) _ _ _ h) e11 cfX0.1 q574 q576 qs5 q121 q577 hy_X0_table (Nat.le_of_ble_eq_true rfl) (Nat.le_of_ble_eq_true rfl) ⟨Nat.zero_le _, Nat.zero_le _⟩ rfl (Nat.le_of_ble_eq_true rfl) dX0_listen_67) (fun o9 w10 h => ?_)
        refine j_iload O 7 dX0_listen_70 rfl ?_
        refine j_iload O 5 dX0_listen_72 rfl ?_
        refine j_bipush (m := 8) O dX0_listen_74 bi_8 ?_
        refine j_idiv O dX0_listen_76 h (fun h => ?_)
        obtain ⟨k12, e_k12, g_k12⟩ := h
        subst e_k12
        have h := g_k12
        obtain ⟨e15, h⟩ := h
        refine fin_I O ⟨Nat.zero_le _, Nat.zero_le _⟩ (run_V (As := [vI (x7), vI ((Int.tdiv x5 8))]) (st := [vI (x6)]) O (mt_X2_notesAt (xl x) (xG x) _ _ _ _ _ h) e15 cfX2.1 q623 q595 q596 q123 q597 hy_X2_notesAt (Nat.le_of_ble_eq_true rfl) (Nat.le_of_ble_eq_true rfl) ⟨Nat.zero_le _, Nat.zero_le _⟩ rfl (Nat.le_of_ble_eq_true rfl) dX0_listen_77) (fun r13 w14 h => ?_)
        refine j_iload O 5 dX0_listen_80 rfl ?_
        refine j_bipush (m := 8) O dX0_listen_82 bi_8 ?_
        refine j_irem O dX0_listen_84 h (fun h => ?_)
        refine fin_I O ⟨Nat.zero_le _, Nat.zero_le _⟩ (run_S (As := [vI (r13), vI ((Int.tmod x5 8))]) (st := [vI (x6)]) O (mt_X0_isOf (xl x) (xG x) _ _ _ _ h) q624 q625 q121 q626 hy_X0_isOf.2 (Nat.le_of_ble_eq_true rfl) (Nat.le_of_ble_eq_true rfl) ⟨Nat.zero_le _, Nat.zero_le _⟩ rfl (Nat.le_of_ble_eq_true rfl) dX0_listen_85) (fun r16 w17 h => ?_)
        obtain ⟨c18, h⟩ := h
        refine j_if_eq O (tgt := 95) dX0_listen_88 (by decide) c18 h (fun h => ?_) (fun h => ?_)
        · exact (J.sub [0, 1, 2, 3, 4, 5, 7] rfl <| wk_X0_listen_95 O hr hm _ _ _ _ _ _ _ _ _ _ _ _ hK26 hX26 ih hX43 _ h)
        · refine j_iconst O dX0_listen_91 ?_
          refine j_goto O (tgt := 96) dX0_listen_92 (by decide) ?_
          exact (J.sub [0, 1, 2, 3, 4, 5, 7] rfl <| wk_X0_listen_96 O hr hm _ _ _ _ _ _ _ _ _ _ _ _ _ hK26 hX26 ih hX43 _ h)
theorem wk_X0_listen_148 {x : Cx} (O : OK x "DowryBoxes" cX0_listen 5) (hr : (xM x).sig.returnType = some .int) (hm : xn x = 8) {Q : Int → Wd → Prop} (K26 : Int → Int → Int → Wd → Prop) (X26 : Int → Int → Wd → Prop) (this : Nat) (x1 : Int) (x2 : Int) (x3 : Int) (x4 : Int) (x5 : Int) (hK26 : ∀ (y3 : Int) (y4 : Int) (y5 : Int) (w : Wd), K26 y3 y4 y5 w → J x (TI x Q) w 0 0 26 [(0, .ref (adG (xG x) (this))), (1, vI (x1)), (2, vI (x2)), (3, vI (y3)), (4, vI (y4)), (5, vI (y5))] []) (hX26 : ∀ (y3 : Int) (y4 : Int) (w : Wd), X26 y3 y4 w → J x (TI x Q) w 0 0 154 [(1, vI (x1)), (3, vI (y3)), (4, vI (y4))] []) (w : Wd) (h : wp_X0_listen_148 Q K26 X26 this x1 x2 x3 x4 x5 w) : J x (TI x Q) w 0 0 148 [(0, .ref (adG (xG x) (this))), (1, vI (x1)), (2, vI (x2)), (3, vI (x3)), (4, vI (x4)), (5, vI (x5))] [] := by
  unfold wp_X0_listen_148 at h
  refine j_iinc (L' := [(5, vI (x5 + 1)), (0, .ref (adG (xG x) (this))), (1, vI (x1)), (2, vI (x2)), (3, vI (x3)), (4, vI (x4))]) O 5 dX0_listen_148 rfl (by rw [hm]; decide) rfl ?_
  refine j_goto O (tgt := 26) dX0_listen_151 (by decide) ?_
  exact (J.sub [1, 2, 3, 4, 5, 0] rfl <| hK26 _ _ _ _ h)
theorem wk_X0_listen_26 {x : Cx} (O : OK x "DowryBoxes" cX0_listen 5) (hr : (xM x).sig.returnType = some .int) (hm : xn x = 8) {Q : Int → Wd → Prop} (X26 : Int → Int → Wd → Prop) (this : Nat) (x1 : Int) (x2 : Int) (hX26 : ∀ (y3 : Int) (y4 : Int) (w : Wd), X26 y3 y4 w → J x (TI x Q) w 0 0 154 [(1, vI (x1)), (3, vI (y3)), (4, vI (y4))] []) : ∀ (n : Nat) (x3 : Int) (x4 : Int) (x5 : Int) (w : Wd), wp_X0_listen_26 Q X26 this x1 x2 n x3 x4 x5 w → J x (TI x Q) w 0 0 26 [(0, .ref (adG (xG x) (this))), (1, vI (x1)), (2, vI (x2)), (3, vI (x3)), (4, vI (x4)), (5, vI (x5))] [] := by
  intro n
  induction n with
  | zero => intro x3 x4 x5 w h; exact False.elim h
  | succ n ih =>
    intro x3 x4 x5 w h
    rw [wp_X0_listen_26] at h
    refine j_iload O 5 dX0_listen_26 rfl ?_
    refine j_bipush (m := 64) O dX0_listen_28 bi_64 ?_
    obtain ⟨c1, h⟩ := h
    refine j_icmp_ge O (tgt := 154) dX0_listen_30 (by decide) c1 (by decide) h (fun h => ?_) (fun h => ?_)
    · exact (J.sub [1, 3, 4] rfl <| hX26 _ _ _ h)
    · refine j_iload_n O 2 2 dX0_listen_33 rfl rfl ?_
      obtain ⟨c2, h⟩ := h
      refine j_if_eq O (tgt := 154) dX0_listen_34 (by decide) c2 h (fun h => ?_) (fun h => ?_)
      · exact (J.sub [1, 3, 4] rfl <| hX26 _ _ _ h)
      · refine j_iconst O dX0_listen_37 ?_
        refine j_istore (L' := [(6, vI (0)), (0, .ref (adG (xG x) (this))), (1, vI (x1)), (2, vI (x2)), (3, vI (x3)), (4, vI (x4)), (5, vI (x5))]) O dX0_listen_38 (by rw [hm]; decide) rfl ?_
        refine j_iconst O dX0_listen_40 ?_
        refine j_istore (L' := [(7, vI (0)), (6, vI (0)), (0, .ref (adG (xG x) (this))), (1, vI (x1)), (2, vI (x2)), (3, vI (x3)), (4, vI (x4)), (5, vI (x5))]) O dX0_listen_41 (by rw [hm]; decide) rfl ?_
        refine (J.sub [2, 3, 4, 5, 6, 7, 1, 0] rfl <| wk_X0_listen_43 O hr hm _ _ _ _ _ _ _ _ _ ih hX26 (fun z3 w4 h => ?_) FU _ _ _ h)
        refine j_iload O 6 dX0_listen_105 rfl ?_
        refine j_iload_n O 2 2 dX0_listen_107 rfl rfl ?_
        refine fin_I O ⟨Nat.zero_le _, Nat.zero_le _⟩ (run_S (As := [vI (x2)]) (st := [vI (z3)]) O (mt_X0_ones (xl x) (xG x) _ _ _ h) q617 q600 q121 q601 hy_X0_ones.2 (Nat.le_of_ble_eq_true rfl) (Nat.le_of_ble_eq_true rfl) ⟨Nat.zero_le _, Nat.zero_le _⟩ rfl (Nat.le_of_ble_eq_true rfl) dX0_listen_108) (fun r5 w6 h => ?_)
        refine j_iload O 6 dX0_listen_111 rfl ?_
        refine j_isub O dX0_listen_113 ?_
        obtain ⟨c7, h⟩ := h
        obtain ⟨c8, h⟩ := h
        refine j_mmax O q1326 q550 q135 q551 (Nat.le_of_ble_eq_true rfl) (Nat.le_of_ble_eq_true rfl) dX0_listen_114 c7 c8 ?_
        refine j_istore (L' := [(7, vI (iMx z3 (r5 - z3))), (0, .ref (adG (xG x) (this))), (1, vI (x1)), (2, vI (x2)), (3, vI (x3)), (4, vI (x4)), (5, vI (x5)), (6, vI (z3))]) O dX0_listen_117 (by rw [hm]; decide) rfl ?_
        refine j_iload O 0 dX0_listen_119 rfl ?_
        refine j_iload O 5 dX0_listen_121 rfl ?_
        obtain ⟨c9, h⟩ := h
        obtain ⟨c10, h⟩ := h
        refine j_icmp_lt O (tgt := 129) dX0_listen_123 (by decide) c9 c10 h (fun h => ?_) (fun h => ?_)
        · refine j_iload O 0 dX0_listen_129 rfl ?_
          refine j_istore (L' := [(4, vI (iMx z3 (r5 - z3))), (7, vI (iMx z3 (r5 - z3))), (0, .ref (adG (xG x) (this))), (1, vI (x1)), (2, vI (x2)), (3, vI (x3)), (5, vI (x5)), (6, vI (z3))]) O dX0_listen_131 (by rw [hm]; decide) rfl ?_
          refine j_bipush (m := 10) O dX0_listen_133 bi_10 ?_
          refine j_iload O 6 dX0_listen_135 rfl ?_
          refine j_bipush (m := 8) O dX0_listen_137 bi_8 ?_
          refine j_idiv O dX0_listen_139 h (fun h => ?_)
          refine j_imul O dX0_listen_140 ?_
          refine j_iload O 6 dX0_listen_141 rfl ?_
          refine j_bipush (m := 8) O dX0_listen_143 bi_8 ?_
          refine j_irem O dX0_listen_145 h (fun h => ?_)
          refine j_iadd O dX0_listen_146 ?_
          refine j_istore_n (L' := [(3, vI ((10 * (Int.tdiv x5 8)) + (Int.tmod x5 8))), (4, vI (iMx z3 (r5 - z3))), (7, vI (iMx z3 (r5 - z3))), (0, .ref (adG (xG x) (this))), (1, vI (x1)), (2, vI (x2)), (5, vI (x5)), (6, vI (z3))]) O 3 dX0_listen_147 rfl (by rw [hm]; decide) rfl ?_
          exact (J.sub [3, 4, 5, 0, 1, 6] rfl <| wk_X0_listen_148 O hr hm _ _ _ _ _ _ _ _ ih hX26 _ h)
        · refine j_goto O (tgt := 148) dX0_listen_126 (by decide) ?_
          exact (J.sub [1, 2, 3, 4, 5, 6] rfl <| wk_X0_listen_148 O hr hm _ _ _ _ _ _ _ _ ih hX26 _ h)
theorem wk_X0_listen_163 {x : Cx} (O : OK x "DowryBoxes" cX0_listen 5) (hr : (xM x).sig.returnType = some .int) (hm : xn x = 8) {Q : Int → Wd → Prop} (x3 : Int) (w : Wd) (h : wp_X0_listen_163 Q x3 w) : J x (TI x Q) w 0 0 163 [(3, vI (x3))] [] := by
  unfold wp_X0_listen_163 at h
  refine j_iload_n O 0 3 dX0_listen_163 rfl rfl ?_
  refine j_goto O (tgt := 169) dX0_listen_164 (by decide) ?_
  exact j_iret O hr dX0_listen_169 h
theorem wk_X0_listen_154 {x : Cx} (O : OK x "DowryBoxes" cX0_listen 5) (hr : (xM x).sig.returnType = some .int) (hm : xn x = 8) {Q : Int → Wd → Prop} (x1 : Int) (x3 : Int) (x4 : Int) (w : Wd) (h : wp_X0_listen_154 Q x1 x3 x4 w) : J x (TI x Q) w 0 0 154 [(1, vI (x1)), (3, vI (x3)), (4, vI (x4))] [] := by
  unfold wp_X0_listen_154 at h
  refine j_iload_n O 1 3 dX0_listen_154 rfl rfl ?_
  refine j_iconst O dX0_listen_155 ?_
  obtain ⟨c1, h⟩ := h
  refine j_icmp_eq O (tgt := 163) dX0_listen_156 (by decide) c1 (by decide) h (fun h => ?_) (fun h => ?_)
  · exact (J.sub [1] rfl <| wk_X0_listen_163 O hr hm  _  _ h)
  · refine j_iload_n O 0 1 dX0_listen_159 rfl rfl ?_
    obtain ⟨c2, h⟩ := h
    refine j_if_ne O (tgt := 167) dX0_listen_160 (by decide) c2 h (fun h => ?_) (fun h => ?_)
    · refine j_iload O 2 dX0_listen_167 rfl ?_
      exact j_iret O hr dX0_listen_169 h
    · exact (J.sub [1] rfl <| wk_X0_listen_163 O hr hm  _  _ h)
theorem mt_X0_listen (l : Launch) (G : GW) (this : Nat) (p1 : Int) (w : Wd) (Q : Int → Wd → Prop) (h : wp_X0_listen this p1 w Q) : MI l G yX0_listen cX0_listen 8 (.int) 5 0 0 [.ref (adG G (this)), vI (p1)] w Q := by
  refine met_I (fun G => [.ref (adG G (this)), vI (p1)]) (by decide) (fun G => Nat.le_of_ble_eq_true rfl) (fun x O hl hm hr => ?_)
  subst hl
  have O : OK x "DowryBoxes" cX0_listen 5 := O
  have h : wp_X0_listen this p1 w Q := h
  unfold wp_X0_listen at h
  show J x (TI x Q) w 0 0 0 [(0, .ref (adG (xG x) (this))), (1, vI (p1))] []
  refine j_iload_n O 1 1 dX0_listen_0 rfl rfl ?_
  refine j_iconst O dX0_listen_1 ?_
  refine j_iconst O dX0_listen_2 ?_
  refine fin_I O ⟨Nat.zero_le _, Nat.zero_le _⟩ (run_S (As := [vI (p1), vI (0), vI (1)]) (st := []) O (mt_X0_in (xl x) (xG x) _ _ _ _ _ h) q465 q466 q121 q467 hy_X0_in.2 (Nat.le_of_ble_eq_true rfl) (Nat.le_of_ble_eq_true rfl) ⟨Nat.zero_le _, Nat.zero_le _⟩ rfl (Nat.le_of_ble_eq_true rfl) dX0_listen_3) (fun r1 w2 h => ?_)
  obtain ⟨c3, h⟩ := h
  refine j_if_ne O (tgt := 11) dX0_listen_6 (by decide) c3 h (fun h => ?_) (fun h => ?_)
  · refine j_aload_n O 0 0 dX0_listen_11 rfl rfl ?_
    obtain ⟨e6, h⟩ := h
    refine fin_I O ⟨Nat.zero_le _, Nat.zero_le _⟩ (run_V (As := []) (st := []) O (mt_X0_which (xl x) (xG x) _ _ _ h) e6 cfX0.1 q1351 q1340 q1341 q121 q1342 hy_X0_which (Nat.le_of_ble_eq_true rfl) (Nat.le_of_ble_eq_true rfl) ⟨Nat.zero_le _, Nat.zero_le _⟩ rfl (Nat.le_of_ble_eq_true rfl) dX0_listen_12) (fun r4 w5 h => ?_)
    refine j_istore_n (L' := [(2, vI (r4)), (0, .ref (adG (xG x) (this))), (1, vI (p1))]) O 2 dX0_listen_15 rfl (by rw [hm]; decide) rfl ?_
    refine j_iconst O dX0_listen_16 ?_
    refine j_istore_n (L' := [(3, vI ((-1))), (2, vI (r4)), (0, .ref (adG (xG x) (this))), (1, vI (p1))]) O 3 dX0_listen_17 rfl (by rw [hm]; decide) rfl ?_
    refine j_ldcw (m := 1000000) O dX0_listen_18 q1352 ld_1000000 ?_
    refine j_istore (L' := [(4, vI (1000000)), (3, vI ((-1))), (2, vI (r4)), (0, .ref (adG (xG x) (this))), (1, vI (p1))]) O dX0_listen_21 (by rw [hm]; decide) rfl ?_
    refine j_iconst O dX0_listen_23 ?_
    refine j_istore (L' := [(5, vI (0)), (4, vI (1000000)), (3, vI ((-1))), (2, vI (r4)), (0, .ref (adG (xG x) (this))), (1, vI (p1))]) O dX0_listen_24 (by rw [hm]; decide) rfl ?_
    refine (J.sub [4, 5, 3, 2, 1, 0] rfl <| wk_X0_listen_26 O hr hm _ _ _ _ (fun z7 z8 w9 h => ?_) FU _ _ _ _ h)
    exact (J.sub [0, 1, 2] rfl <| wk_X0_listen_154 O hr hm  _ _ _  _ h)
  · refine j_iconst O dX0_listen_9 ?_
    exact j_iret O hr dX0_listen_10 h
