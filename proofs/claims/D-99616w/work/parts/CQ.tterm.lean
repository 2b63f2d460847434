/-! THE PLAIN LAW: texts: the twin reads terms, sums -/
set_option maxRecDepth 100000
section TTERM
variable {T : Int → Int} {N : Int} {ord : Bool} {w w' w1 w2 : Wd} {k t n g : Nat} {s : LX} {p : Int × Int} {P C L : OPS} {v x i lo o a x1 : Int} {Q : Int → Wd → Prop} {QW X : Wd → Prop}
theorem flush_app : ∀ (L M C : OPS), flush (L ++ M) C = flush M (flush L C) := by
  intro L
  induction L with
  | nil => intro M C; rfl
  | cons p L ih => intro M C; exact ih M (flu1 p C)
theorem q5_op (h : TWQ T N w s P C) (m : muB T s = true ∨ adB T s = true) (hq : wp_X5_behindSum_71 Q 0 x1 (sgOp (T s.1)) w) : wp_X5_behindSum 0 x1 w Q := by
  have S := h.1.1.1
  have ch : ∀ j, j < 45 → tkT T j s = true → T s.1 = (wdS j).getD 0 0 := fun j hj y => by
    have hx := (rcT_iff (T := T) (f := s.1) (s.2.1 - s.1).toNat (wdS j)).mp (of_decide_eq_true y)
    have hw := wd_ne j hj
    have l0 : 0 < (wdS j).length := by
      cases e : wdS j with
      | nil => exact absurd e hw
      | cons _ _ => exact Nat.succ_pos _
    have g := hx.2 0 (by omega)
    have e0 : s.1 + ((0 : Nat) : Int) = s.1 := by omega
    rw [e0] at g
    exact g
  have t5 : tkT T 5 s = true → T s.1 = 43 := fun y => ch 5 (by decide) y
  have t6 : tkT T 6 s = true → T s.1 = 45 := fun y => ch 6 (by decide) y
  have t2 : tkT T 2 s = true → T s.1 = 42 := fun y => ch 2 (by decide) y
  have t3 : tkT T 3 s = true → T s.1 = 47 := fun y => ch 3 (by decide) y
  have t4 : tkT T 4 s = true → T s.1 = 37 := fun y => ch 4 (by decide) y
  unfold wp_X5_behindSum
  refine s_cO (KF S rfl) (y5_isSign (j := 5) h.1 h.2.1 rfl (by decide) (s_ckI b2i_in ?_))
  by_cases z5 : tkT T 5 s = true
  · rw [b2i_t z5]
    rw [t5 z5] at hq
    exact s_br (fun y => absurd y (by decide)) (fun _ => hq)
  rw [b2i_f z5]
  refine s_br (fun _ => s_cO (KF S rfl) (y5_isSign (j := 6) h.1 h.2.1 rfl (by decide) (s_ckI b2i_in ?_))) (fun y => absurd rfl y)
  by_cases z6 : tkT T 6 s = true
  · rw [b2i_t z6]
    rw [t6 z6] at hq
    exact s_br (fun y => absurd y (by decide)) (fun _ => hq)
  rw [b2i_f z6]
  refine s_br (fun _ => s_cO (KF S rfl) (y5_isSign (j := 2) h.1 h.2.1 rfl (by decide) (s_ckI b2i_in ?_))) (fun y => absurd rfl y)
  by_cases z2 : tkT T 2 s = true
  · rw [b2i_t z2]
    rw [t2 z2] at hq
    exact s_br (fun y => absurd y (by decide)) (fun _ => hq)
  rw [b2i_f z2]
  refine s_br (fun _ => s_cO (KF S rfl) (y5_isSign (j := 3) h.1 h.2.1 rfl (by decide) (s_ckI b2i_in ?_))) (fun y => absurd rfl y)
  by_cases z3 : tkT T 3 s = true
  · rw [b2i_t z3]
    rw [t3 z3] at hq
    exact s_br (fun y => absurd y (by decide)) (fun _ => hq)
  rw [b2i_f z3]
  refine s_br (fun _ => s_cO (KF S rfl) (y5_isSign (j := 4) h.1 h.2.1 rfl (by decide) (s_ckI b2i_in ?_))) (fun y => absurd rfl y)
  by_cases z4 : tkT T 4 s = true
  · rw [b2i_t z4]
    rw [t4 z4] at hq
    exact s_br (fun y => absurd y (by decide)) (fun _ => hq)
  exfalso
  rcases m with m | m
  · unfold muB at m
    rw [Bool.or_eq_true, Bool.or_eq_true] at m
    rcases m with (m | m) | m
    · exact z2 m
    · exact z3 m
    · exact z4 m
  · unfold adB at m
    rw [Bool.or_eq_true] at m
    rcases m with m | m
    · exact z5 m
    · exact z6 m
theorem bnd_mu (m : muB T s = true) : bnd (sgOp (T s.1)) = 6 ∧ 20 ≤ sgOp (T s.1) ∧ sgOp (T s.1) ≤ 24 := by
  have ch : ∀ j, j < 45 → tkT T j s = true → T s.1 = (wdS j).getD 0 0 := fun j hj y => by
    have hx := (rcT_iff (T := T) (f := s.1) (s.2.1 - s.1).toNat (wdS j)).mp (of_decide_eq_true y)
    have hw := wd_ne j hj
    have l0 : 0 < (wdS j).length := by
      cases e : wdS j with
      | nil => exact absurd e hw
      | cons _ _ => exact Nat.succ_pos _
    have g := hx.2 0 (by omega)
    have e0 : s.1 + ((0 : Nat) : Int) = s.1 := by omega
    rw [e0] at g
    exact g
  unfold muB at m
  rw [Bool.or_eq_true, Bool.or_eq_true] at m
  rcases m with (m | m) | m
  · have e : T s.1 = 42 := ch 2 (by decide) m
    rw [e]; decide
  · have e : T s.1 = 47 := ch 3 (by decide) m
    rw [e]; decide
  · have e : T s.1 = 37 := ch 4 (by decide) m
    rw [e]; decide
theorem bnd_ad (m : adB T s = true) : bnd (sgOp (T s.1)) = 5 ∧ 20 ≤ sgOp (T s.1) ∧ sgOp (T s.1) ≤ 24 := by
  have ch : ∀ j, j < 45 → tkT T j s = true → T s.1 = (wdS j).getD 0 0 := fun j hj y => by
    have hx := (rcT_iff (T := T) (f := s.1) (s.2.1 - s.1).toNat (wdS j)).mp (of_decide_eq_true y)
    have hw := wd_ne j hj
    have l0 : 0 < (wdS j).length := by
      cases e : wdS j with
      | nil => exact absurd e hw
      | cons _ _ => exact Nat.succ_pos _
    have g := hx.2 0 (by omega)
    have e0 : s.1 + ((0 : Nat) : Int) = s.1 := by omega
    rw [e0] at g
    exact g
  unfold adB at m
  rw [Bool.or_eq_true] at m
  rcases m with m | m
  · have e : T s.1 = 43 := ch 5 (by decide) m
    rw [e]; decide
  · have e : T s.1 = 45 := ch 6 (by decide) m
    rw [e]; decide
/-- signs of one level, one behind the other -/
theorem q5_loop {D lev : Int} {B : LX → Bool} {G9 : LX → Prop} {SP : LX → PRS Su} {LP : Nat → Su → LX → PRS Su} (hO : ∀ s, LOK T N s → RDO T N s (SP s)) (hS : KSU T N ord D (lev + 1) G9 SP) (hlev : lev = 5 ∨ lev = 6) (hB : ∀ s, B s = true → (muB T s = true ∨ adB T s = true) ∧ bnd (sgOp (T s.1)) = lev ∧ 20 ≤ sgOp (T s.1) ∧ sgOp (T s.1) ≤ 24) (hlt : ∀ s, LOK T N s → B s = true → s.1 < N ∧ s.1 < s.2.1) (e0 : ∀ k a s, ¬ B s = true → LP (k + 1) a s = .ok (a, s)) (eE : ∀ k a s e, B s = true → SP (nxS T N s) = .error e → LP (k + 1) a s = .error e) (eO : ∀ k a s b s2, B s = true → SP (nxS T N s) = .ok (b, s2) → LP (k + 1) a s = LP k (.two (T s.1) a b) s2) (hx : x1 = 0 ∨ x1 = 1) : ∀ (m f2 : Nat) (acc : Su) (s : LX) (w : Wd) (L E : OPS) (g c : Nat), (N - s.1).toNat ≤ m → m < f2 → TWQ T N w s (L ++ P) E → CFG ord w → D ≤ s.2.2.2 → TB lev P → (∀ p ∈ L, lev ≤ bnd p.1 ∧ p.1 ≤ 24) → flush L E = apS ord acc C → G9 s → 4 * (N + 1 - s.1).toNat + c + 1 ≤ g → (∀ y t, LP f2 acc s = .ok (y, t) → ∀ w' g' L2 E2, FE w w' → TWQ T N w' t (L2 ++ P) E2 → (∀ p ∈ L2, lev ≤ bnd p.1 ∧ p.1 ≤ 24) → flush L2 E2 = apS ord y C → (¬ B t = true ∧ G9 t) → 4 * (N + 1 - t.1).toNat + c + 1 ≤ g' → wp_X5_readExpression_20 QW X 0 x1 g' 3 w') → (∀ e, LP f2 acc s = .error e → ∀ w', FE w w' → BDE T N w' e → X w') → wp_X5_readExpression_20 QW X 0 x1 g 3 w := by
  intro m
  induction m with
  | zero =>
    intro f2 acc s w L E g c hm hf h cf hD hT hL hfl hG hg hq hX
    obtain ⟨f2, rfl⟩ : ∃ f, f2 = f + 1 := ⟨f2 - 1, by omega⟩
    have nb : ¬ B s = true := fun y => by have := (hlt s h.2.1 y).1; omega
    exact hq acc s (e0 f2 acc s nb) w g L E FE.rf h hL hfl ⟨nb, hG⟩ hg
  | succ m ih =>
    intro f2 acc s w L E g c hm hf h cf hD hT hL hfl hG hg hq hX
    obtain ⟨f2, rfl⟩ : ∃ f, f2 = f + 1 := ⟨f2 - 1, by omega⟩
    by_cases nb : B s = true
    · have S := h.1.1.1
      have Lk := h.2.1
      have L0 := Lk.1
      have lt := hlt s Lk nb
      have hN := h.1.1.2.1
      have t9 := Lk.to
      obtain ⟨b1, b2, b3, b4⟩ := hB s nb
      obtain ⟨f, rfl⟩ : ∃ f, g = f + 1 := ⟨g - 1, by omega⟩
      refine l5_three h (q5_op h b1 ?_)
      unfold wp_X5_behindSum_71
      refine s_ckI ⟨by omega, by omega⟩ (s_br (fun y => absurd y (by omega)) (fun _ => y5_binds ⟨b3, by omega⟩ (s_cO (KF S rfl) ?_)))
      rw [b2]
      refine q5_settle h (fun p hp => (hL p hp).1) hT ⟨by omega, by omega⟩ (fun w1 f1 _ h1 => ?_)
      rw [hfl] at h1
      have S1 := h1.1.1.1
      have n1 := h1.2.2.2.2.2.2
      refine s_cO (KF S1 rfl) (y5_push S1 h1.2.2.2.2.2.1 (by omega) ⟨⟨b3, by omega⟩, by decide⟩ (fun u => by omega) (fun w2 f2' a1 a2 a3 a4 a5 => ?_))
      -- pushed, the token still stands
      have S2 : SOK w2 := S1.sm f2'.1
      have X2 := h1.1.fp f2'
      have nx := Lk.nx
      have o1 := OKR.nx Lk lt.2
      have p1 := o1.2.1
      have p2 := o1.1.1
      refine s_cO (KF S2 rfl) (y5_next X2 (by omega) t9.1.2 (fun w3 f3 X3 => ?_))
      have f13 := f1.tr (f2'.fe.tr f3.fe)
      have R3 : RAW w3 ((sgOp (T s.1), 0) :: P) (apS ord acc C) := RAW.fn ⟨a1, a2, a3, a4, fun p hp => by
        rcases List.mem_cons.mp hp with hp | hp
        · rw [hp]; exact ⟨⟨b3, by show sgOp (T s.1) ≤ 32; omega⟩, ⟨by show (0 : Int) ≤ 0; decide, by show (0 : Int) ≤ 400; decide⟩, fun u => absurd u (by show ¬ (sgOp (T s.1) = 29 ∨ sgOp (T s.1) = 30); omega)⟩
        · exact a5 p hp⟩ f3
      have h3 : TWQ T N w3 (nxS T N s) ((sgOp (T s.1), 0) :: P) (apS ord acc C) := ⟨X3, o1.1, (f3.2 0 19 (by omega)).trans ((f2'.2 0 19 (by omega) (by omega)).trans h1.2.2.1), (f3.2 0 26 (by omega)).trans ((f2'.2 0 26 (by omega) (by omega)).trans h1.2.2.2.1), (f3.2 0 30 (by omega)).trans ((f2'.2 0 30 (by omega) (by omega)).trans h1.2.2.2.2.1), R3, by show (((apS ord acc C).length + (P.length + 1) : Nat) : Int) ≤ (nxS T N s).1; omega⟩
      refine hS x1 QW X f (c + 3) _ w3 _ _ hx h3 (cf.fe f13) hD (fun p P2 e => by injection e with e1 e2; rw [← e1]; show bnd (sgOp (T s.1)) < lev + 1; omega) (by omega) (fun b s2 e w4 g4 L4 E4 f4 h4 hL4 hf4 hG4 hg4 => ?_) (fun e q w4 f4 b => hX e (eE f2 acc s e nb q) w4 (f13.tr f4) b)
      have e8 := eO f2 acc s b s2 nb e
      have rp := hO _ o1.1
      rw [e] at rp
      have rp : OKR T N (nxS T N s) s2 := rp
      have p3 := rp.2.1
      have h4' : TWQ T N w4 s2 ((L4 ++ [(sgOp (T s.1), 0)]) ++ P) E4 := by rw [List.append_assoc]; exact h4
      have nj : ¬ (sgOp (T s.1) = 29 ∨ sgOp (T s.1) = 30) := by omega
      refine ih f2 (.two (T s.1) acc b) s2 w4 (L4 ++ [(sgOp (T s.1), 0)]) E4 g4 c (by omega) (by omega) h4' (cf.fe (f13.tr f4)) (by have := rp.2.2.1; have e : (nxS T N s).2.2.2 = s.2.2.2 := rfl; omega) hT (fun p hp => ?_) ?_ hG4 (by omega) (fun y t q w5 g5 L5 E5 f5 h5 a b c d => hq y t (e8.trans q) w5 g5 L5 E5 (f13.tr (f4.tr f5)) h5 a b c d) (fun e q w5 f5 b => hX e (e8.trans q) w5 (f13.tr (f4.tr f5)) b)
      · rcases List.mem_append.mp hp with hp | hp
        · have := hL4 p hp; exact ⟨by omega, this.2⟩
        · have e : p = (sgOp (T s.1), 0) := List.mem_singleton.mp hp
          rw [e]; exact ⟨by show lev ≤ bnd (sgOp (T s.1)); omega, b4⟩
      · rw [flush_app, hf4]
        show flu1 (sgOp (T s.1), 0) _ = apS ord b (apS ord acc C) ++ [(sgOp (T s.1), 0)]
        unfold flu1
        rw [if_neg nj]
    · exact hq acc s (e0 f2 acc s nb) w g L E FE.rf h hL hfl ⟨nb, hG⟩ hg
theorem q5_term {D : Int} {S9 : LX → PRS Su} (hO : ∀ s, LOK T N s → RDO T N s (S9 s)) (hS : KSU T N ord (D + 1) 5 (fun t => muN T t ∧ adN T t) S9) : KSU T N ord D 6 (muN T) (tmS T N ord S9) := by
  intro x1 QW X g c s w P C hx h cf hD hT hg hq hX
  have L := h.2.1
  have hN := h.1.1.2.1
  have rp := paS_ok (ord := ord) hO L
  refine q5_part hO hS x1 QW X g c s w P C hx h cf hD (fun p P2 e => by have := bnd_in (o := p.1); omega) hg (fun y t e w1 g1 L1 E1 f1 h1 hL1 hf1 _ hg1 => ?_) (fun e q w1 f1 b => hX e (by unfold tmS; rw [q]) w1 f1 b)
  rw [e] at rp
  have rp : OKR T N s t := rp
  have t1 := rp.1.1
  have e8 : tmS T N ord S9 s = tmL T N ord S9 401 y t := by unfold tmS; rw [e]
  refine q5_loop (D := D) (lev := 6) (B := muB T) (G9 := fun _ => True) (SP := paS T N ord S9) (LP := fun k a s => tmL T N ord S9 k a s) (fun s h => paS_ok hO h) (q5_part hO hS) (Or.inr rfl) (fun s m => ⟨Or.inl m, bnd_mu m⟩) (fun s L m => muB_lt L m) (fun k a s m => if_neg m) (fun k a s e m q => ?_) (fun k a s b s2 m q => ?_) hx 400 401 y t w1 L1 E1 g1 c (by omega) (by decide) h1 (cf.fe f1) (by have := rp.2.2.1; omega) hT (fun p hp => ?_) hf1 trivial hg1 (fun y2 t2 q w2 g2 L2 E2 f2 h2 a b c d => hq y2 t2 (e8.trans q) w2 g2 L2 E2 (f1.tr f2) h2 a b c.1 d) (fun e q w2 f2 b => hX e (e8.trans q) w2 (f1.tr f2) b)
  · show (if muB T s = true then _ else _) = _
    rw [if_pos m, q]
  · show (if muB T s = true then _ else _) = _
    rw [if_pos m, q]
  · have := hL1 p hp; exact ⟨by omega, this.2⟩
theorem q5_sum {D : Int} {S9 : LX → PRS Su} (hO : ∀ s, LOK T N s → RDO T N s (S9 s)) (hS : KSU T N ord (D + 1) 5 (fun t => muN T t ∧ adN T t) S9) : KSU T N ord D 5 (fun t => muN T t ∧ adN T t) (suS T N ord S9) := by
  intro x1 QW X g c s w P C hx h cf hD hT hg hq hX
  have L := h.2.1
  have hN := h.1.1.2.1
  have rp := tmS_ok (ord := ord) hO L
  refine q5_term hO hS x1 QW X g c s w P C hx h cf hD (fun p P2 e => by have := hT p P2 e; omega) hg (fun y t e w1 g1 L1 E1 f1 h1 hL1 hf1 hG1 hg1 => ?_) (fun e q w1 f1 b => hX e (by unfold suS; rw [q]) w1 f1 b)
  rw [e] at rp
  have rp : OKR T N s t := rp
  have t1 := rp.1.1
  have e8 : suS T N ord S9 s = suL T N ord S9 401 y t := by unfold suS; rw [e]
  refine q5_loop (D := D) (lev := 5) (B := adB T) (G9 := muN T) (SP := tmS T N ord S9) (LP := fun k a s => suL T N ord S9 k a s) (fun s h => tmS_ok hO h) (q5_term hO hS) (Or.inl rfl) (fun s m => ⟨Or.inr m, bnd_ad m⟩) (fun s L m => adB_lt L m) (fun k a s m => if_neg m) (fun k a s e m q => ?_) (fun k a s b s2 m q => ?_) hx 400 401 y t w1 L1 E1 g1 c (by omega) (by decide) h1 (cf.fe f1) (by have := rp.2.2.1; omega) hT (fun p hp => ?_) hf1 hG1 hg1 (fun y2 t2 q w2 g2 L2 E2 f2 h2 a b c d => hq y2 t2 (e8.trans q) w2 g2 L2 E2 (f1.tr f2) h2 a b ⟨c.2, c.1⟩ d) (fun e q w2 f2 b => hX e (e8.trans q) w2 (f1.tr f2) b)
  · show (if adB T s = true then _ else _) = _
    rw [if_pos m, q]
  · show (if adB T s = true then _ else _) = _
    rw [if_pos m, q]
  · have := hL1 p hp; exact ⟨by omega, this.2⟩
theorem q5_suR : ∀ n : Nat, KSU T N ord (9 - (n : Int)) 5 (fun t => muN T t ∧ adN T t) (suR T N ord n) := by
  intro n
  induction n with
  | zero =>
    intro x1 QW X g c s w P C hx h cf hD _ _ _ _
    have := h.2.1.2.2.2.2
    omega
  | succ n ih =>
    have e : (9 : Int) - ((n + 1 : Nat) : Int) + 1 = 9 - (n : Int) := by omega
    have h : KSU T N ord (9 - ((n + 1 : Nat) : Int) + 1) 5 (fun t => muN T t ∧ adN T t) (suR T N ord n) := by rw [e]; exact ih
    exact q5_sum (suR_ok n) h
end TTERM
