/-! THE PLAIN LAW: texts: the twin reads an expression, from start to end -/
set_option maxRecDepth 100000
section TEXPR
variable {T : Int → Int} {N : Int} {ord : Bool} {w w' w1 w2 : Wd} {k t n g : Nat} {s : LX} {p : Int × Int} {P C L : OPS} {v x i lo o a x1 : Int} {Q : Int → Wd → Prop} {QW X : Wd → Prop}
theorem split_b : ∀ P : OPS, ∃ L P2 : OPS, P = L ++ P2 ∧ (∀ p ∈ L, 1 ≤ bnd p.1) ∧ TB 1 P2 := by
  intro P
  induction P with
  | nil => exact ⟨[], [], rfl, (fun p hp => by cases hp), (fun p P2 e => by cases e)⟩
  | cons p P ih =>
    by_cases z : 1 ≤ bnd p.1
    · obtain ⟨L, P2, e, a, b⟩ := ih
      refine ⟨p :: L, P2, by rw [e]; rfl, fun q hq => ?_, b⟩
      rcases List.mem_cons.mp hq with hq | hq
      · rw [hq]; exact z
      · exact a q hq
    · exact ⟨[], p :: P, rfl, (fun p hp => by cases hp), (fun q P2 e => by injection e with e1 e2; rw [← e1]; omega)⟩
theorem flush_le : ∀ (L C : OPS), (flush L C).length ≤ C.length + L.length := by
  intro L
  induction L with
  | nil => intro C; exact Nat.le_refl _
  | cons p L ih =>
    intro C
    have h1 := ih (flu1 p C)
    have h2 : (flu1 p C).length ≤ C.length + 1 := by
      unfold flu1
      split
      · rw [setA_len]; omega
      · rw [List.length_append]; exact Nat.le_refl _
    show (flush L (flu1 p C)).length ≤ C.length + (L.length + 1)
    omega
/-- the end, when it has gone wrong -/
theorem q5_76_bad {e : Int} (b : BDE T N w e) (hq : ∀ w', FE w w' → BDE T N w' e → QW w') : wp_X5_readExpression_76 QW 0 w := by
  obtain ⟨b1, b2, b3, P, C, R, hl⟩ := b
  have S := b1.1
  obtain ⟨L, P2, e, hL, hP⟩ := split_b P
  subst e
  unfold wp_X5_readExpression_76 wp_X5_settle
  rw [List.length_append] at hl
  have fl := flush_le L C
  refine s_cO (KF S rfl) (y5_settle_0 L FU C w (by unfold FU; omega) S R hL hP ⟨by decide, by decide⟩ (by rw [List.length_append]; exact hl) (fun w' f R' => hq w' f.fe ⟨b1.fe f.fe, (f.2 0 19 (by omega) (by omega)).trans b2, (f.2 0 18 (by omega) (by omega)).trans b3, P2, _, R', by omega⟩))
theorem q5_76 {L E : OPS} (h : TWQ T N w s (L ++ []) E) (hL : ∀ p ∈ L, 1 ≤ bnd p.1) (hq : ∀ w', FE w w' → TWQ T N w' s [] (flush L E) → QW w') : wp_X5_readExpression_76 QW 0 w := by
  have S := h.1.1.1
  unfold wp_X5_readExpression_76
  exact s_cO (KF S rfl) (q5_settle h hL (fun p P2 e => by cases e) ⟨by decide, by decide⟩ (fun w' f _ h' => hq w' f h'))
theorem l5_four (hg : 0 < g) (h : TWQ T N w s P C) (hq : X w) : wp_X5_readExpression_20 QW X 0 x1 g 4 w := by
  obtain ⟨f, rfl⟩ : ∃ f, g = f + 1 := ⟨g - 1, by omega⟩
  have S := h.1.1.1
  rw [wp_X5_readExpression_20]
  exact s_gfI (KF S rfl) h.2.2.1 (s_ckI ⟨by decide, by decide⟩ (s_br (fun y => absurd rfl y) (fun _ => s_ckI ⟨by decide, by decide⟩ (s_br (fun _ => hq) (fun y => absurd rfl y)))))
/-- before an expression: the code alone -/
def TWC (T : Int → Int) (N : Int) (w : Wd) (s : LX) (C : OPS) : Prop := TWX T N w s ∧ LOK T N s ∧ gV w 0 19 = 0 ∧ gV w 0 26 = s.2.2.1 ∧ s.2.2.2 = 0 ∧ gV w 0 23 = (C.length : Nat) ∧ COD w C ∧ (C.length : Int) ≤ s.1
theorem TWC.st (h : TWC T N w s C) : TWQ T N (sV (sV w 0 29 0) 0 30 0) s [] C := by
  obtain ⟨⟨t1, t2, t3, t4, t5⟩, q2, q3, q4, q5, r2, r4, q7⟩ := h
  have f : FE w (sV (sV w 0 29 0) 0 30 0) := (FE.rf.sV (Or.inl (by decide))).sV (Or.inl (by decide))
  exact ⟨⟨t1.fe f, (gV_ne (by omega)).trans ((gV_ne (by omega)).trans t2), (gV_ne (by omega)).trans ((gV_ne (by omega)).trans t3), (gV_ne (by omega)).trans ((gV_ne (by omega)).trans t4), (gV_ne (by omega)).trans ((gV_ne (by omega)).trans t5)⟩, q2, (gV_ne (by omega)).trans ((gV_ne (by omega)).trans q3), (gV_ne (by omega)).trans ((gV_ne (by omega)).trans q4), by rw [q5]; exact gV_at, ⟨(gV_ne (by omega)).trans gV_at, (gV_ne (by omega)).trans ((gV_ne (by omega)).trans r2), trivial, r4.fr (fun i _ => ⟨(gV_ne (by omega)).trans (gV_ne (by omega)), (gV_ne (by omega)).trans (gV_ne (by omega))⟩), fun p hp => by cases hp⟩, by show ((C.length + 0 : Nat) : Int) ≤ s.1; omega⟩
/-- a sum, whole -/
theorem q5_sumE (h : TWC T N w s C) (cf : CFG ord w) (h1 : ∀ y t, suR T N ord 10 s = .ok (y, t) → ∀ w', FE w w' → TWQ T N w' t [] (apS ord y C) → QW w') (h0 : ∀ e, suR T N ord 10 s = .error e → ∀ w', FE w w' → BDE T N w' e → QW w') : wp_X5_readExpression 0 0 w QW := by
  have S := h.1.1.1
  have L0 := h.2.1.1
  have hN := h.1.1.2.1
  have hs := h.st
  have f0 : FE w (sV (sV w 0 29 0) 0 30 0) := (FE.rf.sV (Or.inl (by decide))).sV (Or.inl (by decide))
  unfold wp_X5_readExpression
  refine s_pfI (KF S rfl) ?_
  have S1 : SOK (sV w 0 29 0) := S
  refine s_pfI (KF S1 rfl) (s_ckI ⟨by decide, by decide⟩ (s_br (fun _ => ?_) (fun y => absurd rfl y)))
  unfold wp_X5_readExpression_19
  refine q5_suR (ord := ord) 10 0 QW _ FU 0 s _ [] C (Or.inl rfl) hs (cf.fe f0) (by have := h.2.2.2.2.1; omega) (fun p P2 e => by cases e) (by unfold FU; omega) (fun y t e w2 g2 L2 E f2 h2 hL hf hG hg2 => ?_) (fun e q w2 f2 b => q5_76_bad b (fun w3 f3 b3 => h0 e q w3 (f0.tr (f2.tr f3)) b3))
  have S2 := h2.1.1.1
  obtain ⟨f, rfl⟩ : ∃ f, g2 = f + 1 := ⟨g2 - 1, by omega⟩
  have t2 := h2.2.1.1
  have iB : inB (L2 ++ []) = -1 := by rw [inB_app (fun p hp => by have := (hL p hp).2; omega)]; rfl
  refine l5_three h2 (q5_noop h2 hG.1 hG.2 ?_)
  unfold wp_X5_behindSum_71
  refine s_ckI ⟨by decide, by decide⟩ (s_br (fun _ => s_cO (KF S2 rfl) (y5_inner S2 h2.2.2.2.2.2.1 (by have := h2.n400; omega) ?_)) (fun y => absurd rfl y))
  rw [iB]
  refine s_ckI ⟨by decide, by decide⟩ (s_br (fun _ => s_ckI ⟨by decide, by decide⟩ (s_br (fun y => absurd rfl y) (fun _ => s_ckI ⟨by decide, by decide⟩ (s_br (fun y => absurd rfl y) (fun _ => ?_))))) (fun y => absurd (by decide) y))
  refine l5_four (by omega) h2 (q5_76 h2 (fun p hp => by have := (hL p hp).1; omega) (fun w3 f3 h3 => ?_))
  rw [hf] at h3
  exact h1 y t e w3 (f0.tr (f2.tr f3)) h3
/-- a test, whole -/
theorem q5_testE (h : TWC T N w s C) (cf : CFG ord w) (h1 : ∀ y t, teR T N ord 10 s = .ok (y, t) → ∀ w', FE w w' → TWQ T N w' t [] (apT ord y C) → QW w') (h0 : ∀ e, teR T N ord 10 s = .error e → ∀ w', FE w w' → BDE T N w' e → QW w') : wp_X5_readExpression 0 1 w QW := by
  have S := h.1.1.1
  have L0 := h.2.1.1
  have hN := h.1.1.2.1
  have hs := h.st
  have f0 : FE w (sV (sV w 0 29 0) 0 30 0) := (FE.rf.sV (Or.inl (by decide))).sV (Or.inl (by decide))
  unfold wp_X5_readExpression
  refine s_pfI (KF S rfl) ?_
  have S1 : SOK (sV w 0 29 0) := S
  refine s_pfI (KF S1 rfl) (s_ckI ⟨by decide, by decide⟩ (s_br (fun y => absurd y (by decide)) (fun _ => ?_)))
  unfold wp_X5_readExpression_19
  refine q5_teR (ord := ord) 10 QW _ FU 1 s _ [] C hs (cf.fe f0) (by have := h.2.2.2.2.1; omega) (fun p P2 e => by cases e) (by decide) (by unfold FU; omega) (fun y t e w2 g2 L2 E f2 h2 hL hf hG hg2 => ?_) (fun e q w2 f2 b => q5_76_bad b (fun w3 f3 b3 => h0 e q w3 (f0.tr (f2.tr f3)) b3))
  have S2 := h2.1.1.1
  obtain ⟨f, rfl⟩ : ∃ f, g2 = f + 1 := ⟨g2 - 1, by omega⟩
  have t2 := h2.2.1.1
  have iB : inB (L2 ++ []) = -1 := by rw [inB_app (fun p hp => by have := (hL p hp).2; omega)]; rfl
  refine l5_two h2 ?_
  unfold wp_X5_behindTest
  refine s_cO (KF S2 rfl) (y5_and h2 (s_ckI b2i_in ?_))
  rw [b2i_f hG.1]
  refine s_br (fun y => absurd rfl y) (fun _ => s_cO (KF S2 rfl) (y5_or h2 (s_ckI b2i_in ?_)))
  rw [b2i_f hG.2]
  refine s_br (fun _ => s_cO (KF S2 rfl) (y5_inner S2 h2.2.2.2.2.2.1 (by have := h2.n400; omega) ?_)) (fun y => absurd rfl y)
  rw [iB]
  refine s_ckI ⟨by decide, by decide⟩ (s_br (fun y => absurd rfl y) (fun _ => ?_))
  refine l5_four (by have := h2.1.1.2.1; omega) h2 (q5_76 h2 (fun p hp => (hL p hp).1) (fun w3 f3 h3 => ?_))
  rw [hf] at h3
  exact h1 y t e w3 (f0.tr (f2.tr f3)) h3
end TEXPR
