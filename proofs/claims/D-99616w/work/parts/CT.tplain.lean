/-! THE PLAIN LAW: texts: the twin reads a test in brackets, nots -/
set_option maxRecDepth 100000
section TPLAIN
variable {T : Int → Int} {N : Int} {ord : Bool} {w w' w1 w2 : Wd} {k t n g : Nat} {s : LX} {p : Int × Int} {P C L : OPS} {v x i lo o a x1 : Int} {Q : Int → Wd → Prop} {QW X : Wd → Prop}
/-- neither `and` nor `or` -/
def anN (T : Int → Int) (s : LX) : Prop := ¬ tkT T 13 s = true ∧ ¬ tkT T 14 s = true
theorem y5_and (h : TWQ T N w s P C) (hq : Q (b2i (tkT T 13 s = true)) w) : wp_X5_isWord 0 1476 w Q := y5_isWord (j := 13) h.1 h.2.1 (by decide) (by decide) (by decide) (by decide) ⟨by decide, by decide⟩ hq
theorem y5_or (h : TWQ T N w s P C) (hq : Q (b2i (tkT T 14 s = true)) w) : wp_X5_isWord 0 498 w Q := y5_isWord (j := 14) h.1 h.2.1 (by decide) (by decide) (by decide) (by decide) ⟨by decide, by decide⟩ hq
theorem q5_pos {D : Int} {S9 : LX → PRS Te} (hO : ∀ s, LOK T N s → RDO T N s (S9 s)) (hS : KTE T N ord (D + 1) 1 (anN T) S9) (g c : Nat) (s : LX) (w : Wd) (P C : OPS) (h : TWQ T N w s P C) (cf : CFG ord w) (hD : D ≤ s.2.2.2) (hT : TB 4 P) (hb : inB P ≠ 32) (z7 : ¬ tkT T 7 s = true) (hg : 4 * (N + 1 - s.1).toNat + c ≤ g) (hq : ∀ y t, poS T N ord S9 s = .ok (y, t) → ∀ w' g' L E, FE w w' → TWQ T N w' t (L ++ P) E → (∀ p ∈ L, 4 ≤ bnd p.1 ∧ p.1 ≤ 30) → flush L E = apT ord y C → 4 * (N + 1 - t.1).toNat + c ≤ g' → wp_X5_readExpression_20 QW X 0 1 g' 2 w') (hX : ∀ e, poS T N ord S9 s = .error e → ∀ w', FE w w' → BDE T N w' e → X w') : wp_X5_readExpression_20 QW X 0 1 g 0 w := by
  have S := h.1.1.1
  have L := h.2.1
  have L0 := L.1
  have hN := h.1.1.2.1
  obtain ⟨f, rfl⟩ : ∃ f, g = f + 1 := ⟨g - 1, by omega⟩
  refine l5_zero h ?_
  unfold wp_X5_readPlain
  refine s_cO (KF S rfl) (y5_not h (s_ckI b2i_in ?_))
  rw [b2i_f z7]
  refine s_br (fun _ => s_cO (KF S rfl) (y5_isSign (j := 8) h.1 L rfl (by decide) (s_ckI b2i_in ?_))) (fun y => absurd rfl y)
  by_cases z : tkT T 8 s = true
  · rw [b2i_t z]
    have lt := tk_lt' L (by decide) z
    refine s_br (fun y => absurd y (by decide)) (fun _ => s_cO (KF S rfl) ?_)
    refine q5_open h lt.2 (Or.inl rfl) (fun y w1 f1 h1 => ?_) (fun y w1 f1 b1 => ?_)
    · have o1 : OKR T N (dpS s 1) (nxS T N (dpS s 1)) := OKR.nx (L.dp (by have := L.2.2.2.2; omega) (by have := L.2.2.2.2; omega)) lt.2
      have p1 : s.1 < (nxS T N (dpS s 1)).1 := o1.2.1
      have p2 := o1.1.1
      have e9 : poS T N ord S9 s = match S9 (nxS T N (dpS s 1)) with
        | .error e => .error e
        | .ok (x, s2) => if tkT T 9 s2 = true then .ok (x, dpS (nxS T N s2) (-1)) else .error s2.1 := by unfold poS; rw [if_pos z, if_neg y]; rfl
      refine hS QW X f (c + 3) _ w1 ((31, 0) :: P) C h1 (cf.fe f1) (by have e2 : (nxS T N (dpS s 1)).2.2.2 = s.2.2.2 + 1 := rfl; omega) (fun p P2 e => by injection e with e1 e2; rw [← e1]; show bnd 31 < 1; decide) (by have e : inB ((31, 0) :: P) = 31 := rfl; rw [e]; decide) (by omega) (fun x t2 e w2 g2 L2 E f2 h2 hL hf hG hg2 => ?_) (fun e q w2 f2 b => hX e (by rw [e9, q]) w2 (f1.tr f2) b)
      have e8 : poS T N ord S9 s = if tkT T 9 t2 = true then .ok (x, dpS (nxS T N t2) (-1)) else .error t2.1 := by rw [e9, e]
      have S2 := h2.1.1.1
      have rO := hO _ o1.1
      rw [e] at rO
      have rO : OKR T N (nxS T N (dpS s 1)) t2 := rO
      obtain ⟨f3, rfl⟩ : ∃ f, g2 = f + 1 := ⟨g2 - 1, by omega⟩
      refine l5_two h2 ?_
      unfold wp_X5_behindTest
      have iB : inB (L2 ++ (31, 0) :: P) = 31 := by
        rw [inB_app (fun p hp => by have := (hL p hp).2; omega)]
        rfl
      refine s_cO (KF S2 rfl) (y5_and h2 (s_ckI b2i_in ?_))
      rw [b2i_f hG.1]
      refine s_br (fun y => absurd rfl y) (fun _ => s_cO (KF S2 rfl) (y5_or h2 (s_ckI b2i_in ?_)))
      rw [b2i_f hG.2]
      refine s_br (fun _ => s_cO (KF S2 rfl) (y5_inner S2 h2.2.2.2.2.2.1 (by have := h2.n400; omega) ?_)) (fun y => absurd rfl y)
      rw [iB]
      refine s_ckI ⟨by decide, by decide⟩ (s_br (fun _ => s_cO (KF S2 rfl) (y5_isSign (j := 9) h2.1 h2.2.1 rfl (by decide) (s_cO (KF S2 rfl) (q5_must h2 (fun z3 w4 f4 h4 => ?_) (fun z3 w4 f4 b4 => ?_))))) (fun y => absurd (by decide) y))
      · have S4 := h4.1.1.1
        rw [if_pos z3] at e8
        have lt3 := tk_lt' h2.2.1 (by decide) z3
        have o3 := OKR.nx h2.2.1 lt3.2
        have p3 := o3.2.1
        have p4 := o3.1.1
        refine s_gfI (KF S4 rfl) h4.2.2.1 (s_ckI ⟨by decide, by decide⟩ (s_br (fun y => absurd rfl y) (fun _ => s_cO (KF S4 rfl) ?_)))
        refine q5_settle h4 (fun p hp => (hL p hp).1) (fun p P2 e => by injection e with e1 e2; rw [← e1]; show bnd 31 < 1; decide) ⟨by decide, by decide⟩ (fun w5 f5 _ h5 => ?_)
        rw [hf] at h5
        have S5 := h5.1.1.1
        obtain ⟨⟨t1, t2', t3, t4, t5⟩, q2, q3, q4, q5, ⟨r1, r2, r3, r4, r5⟩, q7⟩ := h5
        have q5 : gV w5 0 30 = t2.2.2.2 := q5
        have r1 : gV w5 0 29 = ((P.length + 1 : Nat) : Int) := r1
        refine s_gfI (KF S5 rfl) r1 (s_pfI (KF S5 rfl) ?_)
        have S6 : SOK (sV w5 0 29 (((P.length + 1 : Nat) : Int) - 1)) := S5
        refine s_gfI (KF S6 rfl) ((gV_ne (by omega)).trans q5) (s_pfI (KF S6 rfl) ?_)
        have f6 : FE w5 (sV (sV w5 0 29 (((P.length + 1 : Nat) : Int) - 1)) 0 30 (t2.2.2.2 - 1)) := (FE.rf.sV (Or.inl (by decide))).sV (Or.inl (by decide))
        have e30 : t2.2.2.2 = s.2.2.2 + 1 := rO.2.2.1
        have ff := f1.tr (f2.tr (f4.tr (f5.tr f6)))
        refine hq x _ e8 _ f3 [] (apT ord x C) ff ⟨⟨t1.fe f6, (gV_ne (by omega)).trans ((gV_ne (by omega)).trans t2'), (gV_ne (by omega)).trans ((gV_ne (by omega)).trans t3), (gV_ne (by omega)).trans ((gV_ne (by omega)).trans t4), (gV_ne (by omega)).trans ((gV_ne (by omega)).trans t5)⟩, q2.dp (d := -1) ?_ ?_, (gV_ne (by omega)).trans ((gV_ne (by omega)).trans q3), (gV_ne (by omega)).trans ((gV_ne (by omega)).trans q4), gV_at, ⟨?_, (gV_ne (by omega)).trans ((gV_ne (by omega)).trans r2), r3.2.2.fr (fun i _ => ⟨(gV_ne (by omega)).trans (gV_ne (by omega)), (gV_ne (by omega)).trans (gV_ne (by omega))⟩), r4.fr (fun i _ => ⟨(gV_ne (by omega)).trans (gV_ne (by omega)), (gV_ne (by omega)).trans (gV_ne (by omega))⟩), fun p hp => r5 p (List.mem_cons_of_mem _ hp)⟩, ?_⟩ (fun p hp => by cases hp) rfl ?_
        · have := L.2.2.2.2; show 0 ≤ t2.2.2.2 + -1; omega
        · have := L.2.2.2.2; show t2.2.2.2 + -1 ≤ 8; omega
        · refine (gV_ne (by omega)).trans (gV_at.trans ?_)
          show ((P.length + 1 : Nat) : Int) - 1 = (P.length : Nat)
          omega
        · have q7 : (((apT ord x C).length + (P.length + 1) : Nat) : Int) ≤ (nxS T N t2).1 := q7
          show (((apT ord x C).length + P.length : Nat) : Int) ≤ (nxS T N t2).1
          omega
        · show 4 * (N + 1 - (nxS T N t2).1).toNat + c ≤ f3
          omega
      · rw [if_neg z3] at e8
        have S4 := b4.1.1
        refine s_gfI (KF S4 rfl) b4.2.1 (s_ckI ⟨by decide, by decide⟩ (s_br (fun _ => l5_bad (by omega) b4 (hX _ e8 w4 (f1.tr (f2.tr f4)) b4)) (fun y => absurd (by decide) y)))
    · have e9 : poS T N ord S9 s = .error s.1 := by unfold poS; rw [if_pos z, if_pos y]
      exact l5_bad (by omega) b1 (hX _ e9 w1 f1 b1)
  · rw [b2i_f z]
    refine s_br (fun _ => s_cO (KF S rfl) ?_) (fun y => absurd rfl y)
    exact q5_cmp (S9 := S9) f c h cf hT hb z hg hq hX
theorem flush_rep : ∀ (q : Nat) (C : OPS), flush (List.replicate q (28, 0)) C = C ++ List.replicate q (28, 0) := by
  intro q
  induction q with
  | zero => intro C; exact (List.append_nil C).symm
  | succ q ih =>
    intro C
    have e : List.replicate (q + 1) ((28 : Int), (0 : Int)) = (28, 0) :: List.replicate q (28, 0) := rfl
    rw [e]
    show flush (List.replicate q (28, 0)) (flu1 (28, 0) C) = _
    rw [ih]
    show (C ++ [(28, 0)]) ++ List.replicate q (28, 0) = C ++ (28, 0) :: List.replicate q (28, 0)
    rw [List.append_assoc]
    rfl
theorem q5_plL {D : Int} {S9 : LX → PRS Te} (hO : ∀ s, LOK T N s → RDO T N s (S9 s)) (hS : KTE T N ord (D + 1) 1 (anN T) S9) (hT : TB 3 P) (hb : inB P ≠ 32) : ∀ (m f2 q g c : Nat) (s : LX) (w : Wd), (N - s.1).toNat ≤ m → m < f2 → TWQ T N w s (List.replicate q (28, 0) ++ P) C → CFG ord w → D ≤ s.2.2.2 → 4 * (N + 1 - s.1).toNat + c ≤ g → (∀ y t, plL T N ord S9 f2 q s = .ok (y, t) → ∀ w' g' L E, FE w w' → TWQ T N w' t (L ++ P) E → (∀ p ∈ L, 3 ≤ bnd p.1 ∧ p.1 ≤ 30) → flush L E = apT ord y C → 4 * (N + 1 - t.1).toNat + c ≤ g' → wp_X5_readExpression_20 QW X 0 1 g' 2 w') → (∀ e, plL T N ord S9 f2 q s = .error e → ∀ w', FE w w' → BDE T N w' e → X w') → wp_X5_readExpression_20 QW X 0 1 g 0 w := by
  have top : ∀ q, TB 4 (List.replicate q ((28 : Int), (0 : Int)) ++ P) := fun q => by
    cases q with
    | zero => exact fun p P2 e => by have := hT p P2 e; omega
    | succ q => exact fun p P2 e => by injection e with e1 e2; rw [← e1]; show bnd 28 < 4; decide
  have inn : ∀ q, inB (List.replicate q ((28 : Int), (0 : Int)) ++ P) ≠ 32 := fun q => by
    rw [inB_app (fun p hp => by have := List.eq_of_mem_replicate hp; rw [this]; decide)]
    exact hb
  have no7 : ∀ (f2 q g c : Nat) (s : LX) (w : Wd), ¬ tkT T 7 s = true → TWQ T N w s (List.replicate q (28, 0) ++ P) C → CFG ord w → D ≤ s.2.2.2 → 4 * (N + 1 - s.1).toNat + c ≤ g → (∀ y t, plL T N ord S9 (f2 + 1) q s = .ok (y, t) → ∀ w' g' L E, FE w w' → TWQ T N w' t (L ++ P) E → (∀ p ∈ L, 3 ≤ bnd p.1 ∧ p.1 ≤ 30) → flush L E = apT ord y C → 4 * (N + 1 - t.1).toNat + c ≤ g' → wp_X5_readExpression_20 QW X 0 1 g' 2 w') → (∀ e, plL T N ord S9 (f2 + 1) q s = .error e → ∀ w', FE w w' → BDE T N w' e → X w') → wp_X5_readExpression_20 QW X 0 1 g 0 w := by
    intro f2 q g c s w z h cf hD hg hq hX
    have e9 : plL T N ord S9 (f2 + 1) q s = match poS T N ord S9 s with
      | .error e => .error e
      | .ok (t, s2) => .ok (.nots q t, s2) := by
      show (if tkT T 7 s = true then _ else _) = _
      rw [if_neg z]
      rfl
    refine q5_pos hO hS g c s w _ C h cf hD (top q) (inn q) z hg (fun y t e w1 g1 L E f1 h1 hL hf hg1 => ?_) (fun e q w1 f1 b => hX e (by rw [e9, q]) w1 f1 b)
    rw [e] at e9
    have h1' : TWQ T N w1 t ((L ++ List.replicate q (28, 0)) ++ P) E := by rw [List.append_assoc]; exact h1
    refine hq _ _ e9 w1 g1 (L ++ List.replicate q (28, 0)) E f1 h1' (fun p hp => ?_) ?_ hg1
    · rcases List.mem_append.mp hp with hp | hp
      · have := hL p hp; exact ⟨by omega, this.2⟩
      · have e := List.eq_of_mem_replicate hp
        rw [e]; decide
    · rw [flush_app, hf, flush_rep, apT_nots]
  intro m
  induction m with
  | zero =>
    intro f2 q g c s w hm hf h cf hD hg hq hX
    obtain ⟨f2, rfl⟩ : ∃ f, f2 = f + 1 := ⟨f2 - 1, by omega⟩
    have z : ¬ tkT T 7 s = true := fun y => by have := (tk_lt' h.2.1 (by decide) y).1; omega
    exact no7 f2 q g c s w z h cf hD hg hq hX
  | succ m ih =>
    intro f2 q g c s w hm hf h cf hD hg hq hX
    obtain ⟨f2, rfl⟩ : ∃ f, f2 = f + 1 := ⟨f2 - 1, by omega⟩
    by_cases z : tkT T 7 s = true
    · have S := h.1.1.1
      have L := h.2.1
      have L0 := L.1
      have hN := h.1.1.2.1
      have lt := tk_lt' L (by decide) z
      have t9 := L.to
      have o1 := OKR.nx L lt.2
      have p1 := o1.2.1
      have p2 := o1.1.1
      have b0 := h.2.2.2.2.2.2
      have e9 : plL T N ord S9 (f2 + 1) q s = plL T N ord S9 f2 (q + 1) (nxS T N s) := if_pos z
      obtain ⟨f, rfl⟩ : ∃ f, g = f + 1 := ⟨g - 1, by omega⟩
      refine l5_zero h ?_
      unfold wp_X5_readPlain
      refine s_cO (KF S rfl) (y5_not h (s_ckI b2i_in ?_))
      rw [b2i_t z]
      refine s_br (fun y => absurd y (by decide)) (fun _ => s_cO (KF S rfl) (y5_push S h.2.2.2.2.2.1 (by omega) (by decide) (fun u => by omega) (fun w2 f2' a1 a2 a3 a4 a5 => ?_)))
      have S2 : SOK w2 := S.sm f2'.1
      have X2 := h.1.fp f2'
      refine s_cO (KF S2 rfl) (y5_next X2 (by omega) t9.1.2 (fun w3 f3 X3 => ?_))
      have f13 := f2'.fe.tr f3.fe
      have R3 : RAW w3 ((28, 0) :: (List.replicate q (28, 0) ++ P)) C := RAW.fn ⟨a1, a2, a3, a4, fun p hp => by
        rcases List.mem_cons.mp hp with hp | hp
        · rw [hp]; exact ⟨by decide, by decide, fun u => absurd u (by decide)⟩
        · exact a5 p hp⟩ f3
      have h3 : TWQ T N w3 (nxS T N s) (List.replicate (q + 1) (28, 0) ++ P) C := ⟨X3, o1.1, (f3.2 0 19 (by omega)).trans ((f2'.2 0 19 (by omega) (by omega)).trans h.2.2.1), (f3.2 0 26 (by omega)).trans ((f2'.2 0 26 (by omega) (by omega)).trans h.2.2.2.1), (f3.2 0 30 (by omega)).trans ((f2'.2 0 30 (by omega) (by omega)).trans h.2.2.2.2.1), R3, by show ((C.length + ((List.replicate q ((28 : Int), (0 : Int)) ++ P).length + 1) : Nat) : Int) ≤ (nxS T N s).1; omega⟩
      exact ih f2 (q + 1) f c _ w3 (by omega) (by omega) h3 (cf.fe f13) hD (by omega) (fun y t e w4 g4 L4 E4 f4 h4 a b d => hq y t (e9.trans e) w4 g4 L4 E4 (f13.tr f4) h4 a b d) (fun e q w4 f4 b => hX e (e9.trans q) w4 (f13.tr f4) b)
    · exact no7 f2 q g c s w z h cf hD hg hq hX
theorem q5_plS {D : Int} {S9 : LX → PRS Te} (hO : ∀ s, LOK T N s → RDO T N s (S9 s)) (hS : KTE T N ord (D + 1) 1 (anN T) S9) : KTE T N ord D 3 (fun _ => True) (plS T N ord S9) := by
  intro QW X g c s w P C h cf hD hT hb hg hq hX
  have hN := h.1.1.2.1
  have L0 := h.2.1.1
  exact q5_plL hO hS hT hb 400 401 0 g c s w (by omega) (by decide) h cf hD hg (fun y t e w' g' L E f1 h1 a b d => hq y t e w' g' L E f1 h1 a b trivial d) hX
end TPLAIN
