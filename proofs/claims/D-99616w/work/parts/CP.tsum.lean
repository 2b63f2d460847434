/-! THE PLAIN LAW: texts: the twin reads a part, a sum in brackets -/
set_option maxRecDepth 100000
def muN (T : Int → Int) (s : LX) : Prop := ¬ muB T s = true
def adN (T : Int → Int) (s : LX) : Prop := ¬ adB T s = true
/-- from here on (mode 1) the twin reads S, of level lev; cs: the tokens behind it -/
def KSU (T : Int → Int) (N : Int) (ord : Bool) (D lev : Int) (G : LX → Prop) (S : LX → PRS Su) : Prop := ∀ (x1 : Int) (QW X : Wd → Prop) (g c : Nat) (s : LX) (w : Wd) (P C : OPS), (x1 = 0 ∨ x1 = 1) → TWQ T N w s P C → CFG ord w → D ≤ s.2.2.2 → TB lev P → 4 * (N + 1 - s.1).toNat + c ≤ g → (∀ y t, S s = .ok (y, t) → ∀ w' g' L E, FE w w' → TWQ T N w' t (L ++ P) E → (∀ p ∈ L, lev ≤ bnd p.1 ∧ p.1 ≤ 24) → flush L E = apS ord y C → G t → 4 * (N + 1 - t.1).toNat + c + 1 ≤ g' → wp_X5_readExpression_20 QW X 0 x1 g' 3 w') → (∀ e, S s = .error e → ∀ w', FE w w' → BDE T N w' e → X w') → wp_X5_readExpression_20 QW X 0 x1 g 1 w
section TSUM
variable {T : Int → Int} {N : Int} {ord : Bool} {w w' w1 w2 : Wd} {k t n g : Nat} {s : LX} {p : Int × Int} {P C L : OPS} {v x i lo o a x1 : Int} {Q : Int → Wd → Prop} {QW X : Wd → Prop}
/-- a bracket opens -/
theorem q5_open (h : TWQ T N w s P C) (lt : s.1 < s.2.1) (ho : o = 31 ∨ o = 32) (h1 : s.2.2.2 ≠ 8 → ∀ w', FE w w' → TWQ T N w' (nxS T N (dpS s 1)) ((o, 0) :: P) C → QW w') (h0 : s.2.2.2 = 8 → ∀ w', FE w w' → BDE T N w' s.1 → QW w') : wp_X5_openBracket 0 o w QW := by
  have S := h.1.1.1
  have L := h.2.1
  have t9 := L.to
  have dp := L.2.2.2.2
  have hN := h.1.1.2.1
  have L0 := L.1
  unfold wp_X5_openBracket
  refine s_gfI (KF S rfl) h.2.2.2.2.1 (s_ckI ⟨by omega, by omega⟩ (s_br (fun y => ?_) (fun y => ?_)))
  · unfold wp_X5_openBracket_15
    refine s_cO (KF S rfl) (q5_must0 h (fun w' f b => ?_))
    have S' := b.1.1
    exact s_gfI (KF S' rfl) b.2.1 (s_ckI ⟨by decide, by decide⟩ (s_br (fun _ => h0 (by omega) w' f b) (fun y => absurd (by decide) y)))
  · unfold wp_X5_openBracket_15
    refine s_cO (KF S rfl) (q5_must1 h (fun w' f b => ?_))
    have S' := b.1.1.1
    refine s_gfI (KF S' rfl) b.2.2.1 (s_ckI ⟨by decide, by decide⟩ (s_br (fun y => absurd rfl y) (fun _ => s_gfI (KF S' rfl) b.2.2.2.2.1 (s_pfI (KF S' rfl) (s_cO (by exact KF S' rfl) ?_)))))
    have f1 : FE w' (sV w' 0 30 ((nxS T N s).2.2.2 + 1)) := FE.rf.sV (Or.inl (by decide))
    have S1 : SOK (sV w' 0 30 ((nxS T N s).2.2.2 + 1)) := S'
    obtain ⟨⟨t1, t2, t3, t4, t5⟩, q2, q3, q4, q5, r, q7⟩ := b
    have n7 := h.2.2.2.2.2.2
    have X1 : TWX T N (sV w' 0 30 ((nxS T N s).2.2.2 + 1)) (nxS T N s) := ⟨t1.fe f1, (gV_ne (by omega)).trans t2, (gV_ne (by omega)).trans t3, (gV_ne (by omega)).trans t4, (gV_ne (by omega)).trans t5⟩
    refine y5_push S1 (r.s0 (by decide)) (by omega) ⟨by omega, by decide⟩ (fun u => by omega) (fun w2 f2 a1 a2 a3 a4 a5 => ?_)
    have nx := L.nx
    refine h1 (by omega) w2 (f.tr (f1.tr f2.fe)) ⟨X1.fp f2, q2.dp (d := 1) (by show 0 ≤ s.2.2.2 + 1; omega) (by show s.2.2.2 + 1 ≤ 8; omega), (f2.2 0 19 (by omega) (by omega)).trans ((gV_ne (by omega)).trans q3), (f2.2 0 26 (by omega) (by omega)).trans ((gV_ne (by omega)).trans q4), (f2.2 0 30 (by omega) (by omega)).trans gV_at, ⟨a1, a2, a3, a4, ?_⟩, ?_⟩
    · intro p hp
      rcases List.mem_cons.mp hp with hp | hp
      · rw [hp]; exact ⟨by show 20 ≤ o ∧ o ≤ 32; omega, ⟨by show (0 : Int) ≤ 0; decide, by show (0 : Int) ≤ 400; decide⟩, fun u => absurd u (by show ¬ (o = 29 ∨ o = 30); omega)⟩
      · exact a5 p hp
    · show ((C.length + (P.length + 1) : Nat) : Int) ≤ (nxS T N s).1
      omega
/-- the pile settles, in the midst of an expression -/
theorem q5_settle {L : OPS} (h : TWQ T N w s (L ++ P) C) (hL : ∀ p ∈ L, x ≤ bnd p.1) (hP : TB x P) (hx : inI x) (hq : ∀ w', FE w w' → FP5 w w' → TWQ T N w' s P (flush L C) → QW w') : wp_X5_settle 0 x w QW := by
  have S := h.1.1.1
  have n4 := h.n400
  unfold wp_X5_settle
  have key : ∀ (L C : OPS), (flush L C).length ≤ C.length + L.length := by
    intro L
    induction L with
    | nil => intro C; exact Nat.le_refl _
    | cons p L ih =>
      intro C
      have h1 := ih (flu1 p C)
      have h2 : (flu1 p C).length ≤ C.length + 1 := by
        unfold flu1
        split
        · rw [setA_len]; omega
        · rw [List.length_append]; exact Nat.le_refl _
      show (flush L (flu1 p C)).length ≤ C.length + (L.length + 1)
      omega
  refine y5_settle_0 (P := P) L FU C w (by rw [List.length_append] at n4; unfold FU; omega) S h.2.2.2.2.2.1 hL hP hx n4 (fun w' f R => hq w' f.fe f ⟨h.1.fp f, h.2.1, (f.2 0 19 (by omega) (by omega)).trans h.2.2.1, (f.2 0 26 (by omega) (by omega)).trans h.2.2.2.1, (f.2 0 30 (by omega) (by omega)).trans h.2.2.2.2.1, R, ?_⟩)
  have b := h.2.2.2.2.2.2
  have k := key L C
  rw [List.length_append] at b
  omega
/-- no sign of a sum stands there: what is behind -/
theorem q5_noop (h : TWQ T N w s P C) (m : muN T s) (d : adN T s) (hq : wp_X5_behindSum_71 Q 0 x1 (-1) w) : wp_X5_behindSum 0 x1 w Q := by
  have S := h.1.1.1
  have n5 : ¬ tkT T 5 s = true := fun y => d (by unfold adB; rw [y]; rfl)
  have n6 : ¬ tkT T 6 s = true := fun y => d (by unfold adB; rw [y, Bool.or_true])
  have n2 : ¬ tkT T 2 s = true := fun y => m (by unfold muB; rw [y]; rfl)
  have n3 : ¬ tkT T 3 s = true := fun y => m (by unfold muB; rw [y, Bool.or_true]; rfl)
  have n4 : ¬ tkT T 4 s = true := fun y => m (by unfold muB; rw [y, Bool.or_true])
  unfold wp_X5_behindSum
  refine s_cO (KF S rfl) (y5_isSign (j := 5) h.1 h.2.1 rfl (by decide) (s_ckI b2i_in ?_))
  rw [b2i_f n5]
  refine s_br (fun _ => s_cO (KF S rfl) (y5_isSign (j := 6) h.1 h.2.1 rfl (by decide) (s_ckI b2i_in ?_))) (fun y => absurd rfl y)
  rw [b2i_f n6]
  refine s_br (fun _ => s_cO (KF S rfl) (y5_isSign (j := 2) h.1 h.2.1 rfl (by decide) (s_ckI b2i_in ?_))) (fun y => absurd rfl y)
  rw [b2i_f n2]
  refine s_br (fun _ => s_cO (KF S rfl) (y5_isSign (j := 3) h.1 h.2.1 rfl (by decide) (s_ckI b2i_in ?_))) (fun y => absurd rfl y)
  rw [b2i_f n3]
  refine s_br (fun _ => s_cO (KF S rfl) (y5_isSign (j := 4) h.1 h.2.1 rfl (by decide) (s_ckI b2i_in ?_))) (fun y => absurd rfl y)
  rw [b2i_f n4]
  exact s_br (fun _ => hq) (fun y => absurd rfl y)
/-- a part -/
theorem q5_part {D : Int} {S9 : LX → PRS Su} (hO : ∀ s, LOK T N s → RDO T N s (S9 s)) (hS : KSU T N ord (D + 1) 5 (fun t => muN T t ∧ adN T t) S9) : KSU T N ord D 7 (fun _ => True) (paS T N ord S9) := by
  intro x1 QW X g c s w P C hx h cf hD hT hg hq hX
  have S := h.1.1.1
  have L := h.2.1
  have L0 := L.1
  have t := L.to
  have hN := h.1.1.2.1
  obtain ⟨f, rfl⟩ : ∃ f, g = f + 1 := ⟨g - 1, by omega⟩
  refine l5_one h ?_
  unfold wp_X5_readPart
  refine s_cO (KF S rfl) (y5_isSign (j := 0) h.1 L rfl (by decide) (s_ckI b2i_in ?_))
  by_cases z : tkT T 0 s = true
  · rw [b2i_t z]
    have lt := tk_lt' L (by decide) z
    refine s_br (fun y => absurd y (by decide)) (fun _ => s_cO (KF S rfl) ?_)
    refine q5_open h lt.2 (Or.inr rfl) (fun y w1 f1 h1 => ?_) (fun y w1 f1 b1 => ?_)
    · have o1 : OKR T N (dpS s 1) (nxS T N (dpS s 1)) := OKR.nx (L.dp (by have := L.2.2.2.2; omega) (by have := L.2.2.2.2; omega)) lt.2
      have p1 : s.1 < (nxS T N (dpS s 1)).1 := o1.2.1
      have p2 := o1.1.1
      have e9 : paS T N ord S9 s = match S9 (nxS T N (dpS s 1)) with
        | .error e => .error e
        | .ok (x, s2) => if tkT T 1 s2 = true then .ok (x, dpS (nxS T N s2) (-1)) else .error s2.1 := by unfold paS; rw [if_pos z, if_neg y]; rfl
      refine hS x1 QW X f (c + 3) _ w1 ((32, 0) :: P) C hx h1 (cf.fe f1) (by have e2 : (nxS T N (dpS s 1)).2.2.2 = s.2.2.2 + 1 := rfl; omega) (fun p P2 e => by injection e with e1 e2; rw [← e1]; show bnd 32 < 5; decide) (by omega) (fun x t2 e w2 g2 L2 E f2 h2 hL hf hG hg2 => ?_) (fun e q w2 f2 b => hX e (by rw [e9, q]) w2 (f1.tr f2) b)
      have e8 : paS T N ord S9 s = if tkT T 1 t2 = true then .ok (x, dpS (nxS T N t2) (-1)) else .error t2.1 := by rw [e9, e]
      have S2 := h2.1.1.1
      have rO := hO _ o1.1
      rw [e] at rO
      have rO : OKR T N (nxS T N (dpS s 1)) t2 := rO
      obtain ⟨f3, rfl⟩ : ∃ f, g2 = f + 1 := ⟨g2 - 1, by omega⟩
      refine l5_three h2 (q5_noop h2 hG.1 hG.2 ?_)
      unfold wp_X5_behindSum_71
      have iB : inB (L2 ++ (32, 0) :: P) = 32 := by
        rw [inB_app (fun p hp => by have := (hL p hp).2; omega)]
        rfl
      refine s_ckI ⟨by decide, by decide⟩ (s_br (fun _ => s_cO (KF S2 rfl) (y5_inner S2 h2.2.2.2.2.2.1 (by have := h2.n400; omega) ?_)) (fun y => absurd rfl y))
      rw [iB]
      refine s_ckI ⟨by decide, by decide⟩ (s_br (fun y => absurd rfl y) (fun _ => s_cO (KF S2 rfl) (y5_isSign (j := 1) h2.1 h2.2.1 rfl (by decide) (s_cO (KF S2 rfl) (q5_must h2 (fun z3 w4 f4 h4 => ?_) (fun z3 w4 f4 b4 => ?_))))))
      · have S4 := h4.1.1.1
        rw [if_pos z3] at e8
        have lt3 := tk_lt' h2.2.1 (by decide) z3
        have o3 := OKR.nx h2.2.1 lt3.2
        have p3 := o3.2.1
        have p4 := o3.1.1
        refine s_gfI (KF S4 rfl) h4.2.2.1 (s_ckI ⟨by decide, by decide⟩ (s_br (fun y => absurd rfl y) (fun _ => s_cO (KF S4 rfl) ?_)))
        refine q5_settle h4 (fun p hp => (hL p hp).1) (fun p P2 e => by injection e with e1 e2; rw [← e1]; show bnd 32 < 5; decide) ⟨by decide, by decide⟩ (fun w5 f5 _ h5 => ?_)
        rw [hf] at h5
        have S5 := h5.1.1.1
        obtain ⟨⟨t1, t2', t3, t4, t5⟩, q2, q3, q4, q5, ⟨r1, r2, r3, r4, r5⟩, q7⟩ := h5
        have q5 : gV w5 0 30 = t2.2.2.2 := q5
        have r1 : gV w5 0 29 = ((P.length + 1 : Nat) : Int) := r1
        refine s_gfI (KF S5 rfl) r1 (s_pfI (KF S5 rfl) ?_)
        have S6 : SOK (sV w5 0 29 (((P.length + 1 : Nat) : Int) - 1)) := S5
        refine s_gfI (KF S6 rfl) ((gV_ne (by omega)).trans q5) (s_pfI (KF S6 rfl) ?_)
        have f6 : FE w5 (sV (sV w5 0 29 (((P.length + 1 : Nat) : Int) - 1)) 0 30 (t2.2.2.2 - 1)) := (FE.rf.sV (Or.inl (by decide))).sV (Or.inl (by decide))
        have e30 : t2.2.2.2 = s.2.2.2 + 1 := rO.2.2.1
        have ff := f1.tr (f2.tr (f4.tr (f5.tr f6)))
        refine hq x _ e8 _ f3 [] (apS ord x C) ff ⟨⟨t1.fe f6, (gV_ne (by omega)).trans ((gV_ne (by omega)).trans t2'), (gV_ne (by omega)).trans ((gV_ne (by omega)).trans t3), (gV_ne (by omega)).trans ((gV_ne (by omega)).trans t4), (gV_ne (by omega)).trans ((gV_ne (by omega)).trans t5)⟩, q2.dp (d := -1) ?_ ?_, (gV_ne (by omega)).trans ((gV_ne (by omega)).trans q3), (gV_ne (by omega)).trans ((gV_ne (by omega)).trans q4), gV_at, ⟨?_, (gV_ne (by omega)).trans ((gV_ne (by omega)).trans r2), r3.2.2.fr (fun i _ => ⟨(gV_ne (by omega)).trans (gV_ne (by omega)), (gV_ne (by omega)).trans (gV_ne (by omega))⟩), r4.fr (fun i _ => ⟨(gV_ne (by omega)).trans (gV_ne (by omega)), (gV_ne (by omega)).trans (gV_ne (by omega))⟩), fun p hp => r5 p (List.mem_cons_of_mem _ hp)⟩, ?_⟩ (fun p hp => by cases hp) rfl trivial ?_
        · have := L.2.2.2.2; show 0 ≤ t2.2.2.2 + -1; omega
        · have := L.2.2.2.2; show t2.2.2.2 + -1 ≤ 8; omega
        · refine (gV_ne (by omega)).trans (gV_at.trans ?_)
          show ((P.length + 1 : Nat) : Int) - 1 = (P.length : Nat)
          omega
        · have q7 : (((apS ord x C).length + (P.length + 1) : Nat) : Int) ≤ (nxS T N t2).1 := q7
          show (((apS ord x C).length + P.length : Nat) : Int) ≤ (nxS T N t2).1
          omega
        · show 4 * (N + 1 - (nxS T N t2).1).toNat + c + 1 ≤ f3
          omega
      · rw [if_neg z3] at e8
        have S4 := b4.1.1
        refine s_gfI (KF S4 rfl) b4.2.1 (s_ckI ⟨by decide, by decide⟩ (s_br (fun _ => l5_bad (by omega) b4 (hX _ e8 w4 (f1.tr (f2.tr f4)) b4)) (fun y => absurd (by decide) y)))
    · have e9 : paS T N ord S9 s = .error s.1 := by unfold paS; rw [if_pos z, if_pos y]
      exact l5_bad (by omega) b1 (hX _ e9 w1 f1 b1)
  · rw [b2i_f z]
    refine s_br (fun _ => ?_) (fun y => absurd rfl y)
    have go : wp_X5_readPart_35 (fun r w2 => wp_X5_readExpression_20 QW X 0 x1 f r w2) 0 (vaP T ord s) w := by
      refine q5_part0 (S9 := S9) h cf z (fun y t2 e w1 f1 h1 => ?_) (fun e q w1 f1 b1 => ?_)
      · have r := paS_ok (ord := ord) hO L
        rw [e] at r
        have r : OKR T N s t2 := r
        have p1 := r.2.1
        have p2 := r.1.1
        exact hq y t2 e w1 f [] (apS ord y C) f1 h1 (fun p hp => by cases hp) rfl trivial (by omega)
      · exact l5_bad (by omega) b1 (hX e q w1 f1 b1)
    refine s_gfI (KF S rfl) cf.1 ?_
    cases ord with
    | false => exact s_ckI ⟨by decide, by decide⟩ (s_br (fun _ => s_cO (KF S rfl) (y5_partAt h.1 L cf.2 go)) (fun y => absurd rfl y))
    | true => exact s_ckI ⟨by decide, by decide⟩ (s_br (fun y => absurd y (by decide)) (fun _ => s_cO (KF S rfl) (y5_orderPartAt h.1 L cf.2 go)))
end TSUM
