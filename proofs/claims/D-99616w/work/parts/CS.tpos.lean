/-! THE PLAIN LAW: texts: the twin reads a comparison -/
set_option maxRecDepth 100000
section TPOS
variable {T : Int → Int} {N : Int} {ord : Bool} {w w' w1 w2 : Wd} {k t n g : Nat} {s : LX} {p : Int × Int} {P C L : OPS} {v x i lo o a x1 : Int} {Q : Int → Wd → Prop} {QW X : Wd → Prop}
/-- the sign of a comparison: read, and pushed -/
theorem q5_224 {L E : OPS} (hm : o = 25 ∨ o = 26 ∨ o = 27) (h : TWQ T N w s (L ++ P) E) (lt : s.1 < s.2.1) (hL : ∀ p ∈ L, 5 ≤ bnd p.1 ∧ p.1 ≤ 24) (hT : TB 5 P) (hq : ∀ w', FE w w' → TWQ T N w' (nxS T N s) ((o, 0) :: P) (flush L E) → Q 1 w') : wp_X5_behindSum_224 Q 0 o 1 0 w := by
  have S := h.1.1.1
  have nx := h.2.1.nx
  have hN := h.1.1.2.1
  have b0 := h.2.2.2.2.2.2
  have t9 := h.2.1.to
  have key : ∀ (L C : OPS), (flush L C).length ≤ C.length + L.length := by
    intro L
    induction L with
    | nil => intro C; exact Nat.le_refl _
    | cons p L ih =>
      intro C
      have h1 := ih (flu1 p C)
      have h2 : (flu1 p C).length ≤ C.length + 1 := by
        unfold flu1
        split
        · rw [setA_len]; omega
        · rw [List.length_append]; exact Nat.le_refl _
      show (flush L (flu1 p C)).length ≤ C.length + (L.length + 1)
      omega
  have kL := key L E
  rw [List.length_append] at b0
  unfold wp_X5_behindSum_224
  refine s_cO (KF S rfl) (q5_must1 h (fun w1 f1 h1 => ?_))
  have S1 := h1.1.1.1
  refine s_gfI (KF S1 rfl) h1.2.2.1 (s_ckI ⟨by decide, by decide⟩ (s_br (fun y => absurd rfl y) (fun _ => s_cO (KF S1 rfl) ?_)))
  refine q5_settle h1 (fun p hp => (hL p hp).1) hT ⟨by decide, by decide⟩ (fun w2 f2 _ h2 => ?_)
  have S2 := h2.1.1.1
  refine s_cO (KF S2 rfl) (y5_push S2 h2.2.2.2.2.2.1 (by omega) ⟨by omega, by decide⟩ (fun u => by omega) (fun w3 f3 a1 a2 a3 a4 a5 => ?_))
  refine hq w3 (f1.tr (f2.tr f3.fe)) ⟨h2.1.fp f3, h2.2.1, (f3.2 0 19 (by omega) (by omega)).trans h2.2.2.1, (f3.2 0 26 (by omega) (by omega)).trans h2.2.2.2.1, (f3.2 0 30 (by omega) (by omega)).trans h2.2.2.2.2.1, ⟨a1, a2, a3, a4, fun p hp => ?_⟩, ?_⟩
  · rcases List.mem_cons.mp hp with hp | hp
    · rw [hp]; exact ⟨⟨by show 20 ≤ o; omega, by show o ≤ 32; omega⟩, ⟨by show (0 : Int) ≤ 0; decide, by show (0 : Int) ≤ 400; decide⟩, fun u => absurd u (by show ¬ (o = 29 ∨ o = 30); omega)⟩
    · exact a5 p hp
  · show (((flush L E).length + (P.length + 1) : Nat) : Int) ≤ (nxS T N s).1
    omega
/-- behind a first sum: the sign, or a fault -/
theorem q5_sign {L E : OPS} (h : TWQ T N w s (L ++ P) E) (hL : ∀ p ∈ L, 5 ≤ bnd p.1 ∧ p.1 ≤ 24) (hT : TB 4 P) (h1 : (tkT T 10 s = true ∨ tkT T 11 s = true ∨ tkT T 12 s = true) → ∀ w', FE w w' → TWQ T N w' (nxS T N s) ((cmOp (T s.1), 0) :: P) (flush L E) → Q 1 w') (h0 : ¬ (tkT T 10 s = true ∨ tkT T 11 s = true ∨ tkT T 12 s = true) → ∀ w', FE w w' → BDE T N w' s.1 → Q 1 w') : wp_X5_behindSum_163 Q 0 w := by
  have S := h.1.1.1
  have Lk := h.2.1
  have ch : ∀ j, j < 45 → tkT T j s = true → T s.1 = (wdS j).getD 0 0 := fun j hj y => (tk_ch hj y).2.2
  have hT5 : TB 5 P := fun p P2 e => by have := hT p P2 e; omega
  have ic : isC (L ++ P) = false := (isC_app (fun p hp => (hL p hp).2)).trans (isC_no hT)
  unfold wp_X5_behindSum_163
  refine s_cO (KF S rfl) (y5_isCompared S h.2.2.2.2.2.1 (by have := h.n400; omega) (s_ckI b2i_in ?_))
  rw [b2i_f (by rw [ic]; exact fun y => Bool.noConfusion y)]
  refine s_br (fun _ => s_cO (KF S rfl) (y5_isSign (j := 10) h.1 Lk rfl (by decide) (s_ckI b2i_in ?_))) (fun y => absurd rfl y)
  by_cases z1 : tkT T 10 s = true
  · rw [b2i_t z1]
    refine s_br (fun y => absurd y (by decide)) (fun _ => ?_)
    unfold wp_X5_behindSum_202 wp_X5_behindSum_219
    refine s_ckI ⟨by decide, by decide⟩ (s_br (fun _ => ?_) (fun y => absurd (by decide) y))
    have e : T s.1 = 60 := ch 10 (by decide) z1
    rw [e] at h1
    exact q5_224 (Or.inl rfl) h (tk_lt' Lk (by decide) z1).2 hL hT5 (h1 (Or.inl z1))
  rw [b2i_f z1]
  refine s_br (fun _ => s_cO (KF S rfl) (y5_isSign (j := 11) h.1 Lk rfl (by decide) (s_ckI b2i_in ?_))) (fun y => absurd rfl y)
  by_cases z2 : tkT T 11 s = true
  · rw [b2i_t z2]
    refine s_br (fun y => absurd y (by decide)) (fun _ => ?_)
    unfold wp_X5_behindSum_202 wp_X5_behindSum_219
    refine s_ckI ⟨by decide, by decide⟩ (s_br (fun _ => ?_) (fun y => absurd (by decide) y))
    have e : T s.1 = 62 := ch 11 (by decide) z2
    rw [e] at h1
    exact q5_224 (Or.inr (Or.inl rfl)) h (tk_lt' Lk (by decide) z2).2 hL hT5 (h1 (Or.inr (Or.inl z2)))
  rw [b2i_f z2]
  refine s_br (fun _ => ?_) (fun y => absurd rfl y)
  unfold wp_X5_behindSum_202
  refine s_ckI ⟨by decide, by decide⟩ (s_br (fun y => absurd rfl y) (fun _ => s_cO (KF S rfl) (y5_isSign (j := 12) h.1 Lk rfl (by decide) (s_ckI b2i_in ?_))))
  by_cases z3 : tkT T 12 s = true
  · rw [b2i_t z3]
    refine s_br (fun y => absurd y (by decide)) (fun _ => ?_)
    unfold wp_X5_behindSum_219
    have e : T s.1 = 61 := ch 12 (by decide) z3
    rw [e] at h1
    exact q5_224 (Or.inr (Or.inr rfl)) h (tk_lt' Lk (by decide) z3).2 hL hT5 (h1 (Or.inr (Or.inr z3)))
  · rw [b2i_f z3]
    refine s_br (fun _ => ?_) (fun y => absurd rfl y)
    unfold wp_X5_behindSum_224
    have nz : ¬ (tkT T 10 s = true ∨ tkT T 11 s = true ∨ tkT T 12 s = true) := by
      rintro (y | y | y)
      · exact z1 y
      · exact z2 y
      · exact z3 y
    refine s_cO (KF S rfl) (q5_must0 h (fun w' f b => ?_))
    have S' := b.1.1
    exact s_gfI (KF S' rfl) b.2.1 (s_ckI ⟨by decide, by decide⟩ (s_br (fun _ => h0 nz w' f b) (fun y => absurd (by decide) y)))
/-- two sums compared -/
theorem q5_cmp {S9 : LX → PRS Te} (g c : Nat) (h : TWQ T N w s P C) (cf : CFG ord w) (hT : TB 4 P) (hb : inB P ≠ 32) (z8 : ¬ tkT T 8 s = true) (hg : 4 * (N + 1 - s.1).toNat + c ≤ g + 1) (hq : ∀ y t, poS T N ord S9 s = .ok (y, t) → ∀ w' g' L E, FE w w' → TWQ T N w' t (L ++ P) E → (∀ p ∈ L, 4 ≤ bnd p.1 ∧ p.1 ≤ 30) → flush L E = apT ord y C → 4 * (N + 1 - t.1).toNat + c ≤ g' → wp_X5_readExpression_20 QW X 0 1 g' 2 w') (hX : ∀ e, poS T N ord S9 s = .error e → ∀ w', FE w w' → BDE T N w' e → X w') : wp_X5_readPart 0 w fun r w2 => wp_X5_readExpression_20 QW X 0 1 g r w2 := by
  have L := h.2.1
  have L0 := L.1
  have hN := h.1.1.2.1
  have dp := L.2.2.2.2
  have e9 : poS T N ord S9 s = match suR T N ord 10 s with
    | .error e => .error e
    | .ok (a, s2) => if tkT T 10 s2 = true ∨ tkT T 11 s2 = true ∨ tkT T 12 s2 = true then (match suR T N ord 10 (nxS T N s2) with
      | .error e => .error e
      | .ok (b, s3) => .ok (.cmp (T s2.1) a b, s3)) else .error s2.1 := by unfold poS; rw [if_neg z8]; rfl
  have hT5 : TB 5 P := fun p P2 e => by have := hT p P2 e; omega
  have rp := suR_ok (ord := ord) 10 s L
  refine l5_one_inv h.2.2.1 (q5_suR (ord := ord) 10 1 QW X (g + 1) c s w P C (Or.inr rfl) h cf (by omega) hT5 hg (fun a s2 e w1 g1 L1 E1 f1 h1 hL1 hf1 hG1 hg1 => ?_) (fun e q w1 f1 b => hX e (by rw [e9, q]) w1 f1 b))
  rw [e] at e9 rp
  dsimp only at e9
  have rp : OKR T N s s2 := rp
  have p1 := rp.1.1
  obtain ⟨f, rfl⟩ : ∃ f, g1 = f + 1 := ⟨g1 - 1, by omega⟩
  have ib : inB (L1 ++ P) ≠ 32 := by rw [inB_app (fun p hp => by have := (hL1 p hp).2; omega)]; exact hb
  refine l5_three h1 (q5_163 h1 hG1 ib rfl (q5_sign h1 hL1 hT (fun z w2 f2 h2 => ?_) (fun z w2 f2 b2 => ?_)))
  · rw [if_pos z] at e9
    rw [hf1] at h2
    have lt : s2.1 < N ∧ s2.1 < s2.2.1 := by
      rcases z with z | z | z
      · exact tk_lt' rp.1 (by decide) z
      · exact tk_lt' rp.1 (by decide) z
      · exact tk_lt' rp.1 (by decide) z
    have o1 := OKR.nx rp.1 lt.2
    have p2 := o1.2.1
    have p3 := o1.1.1
    have rp2 := suR_ok (ord := ord) 10 _ o1.1
    have cmi : 25 ≤ cmOp (T s2.1) ∧ cmOp (T s2.1) ≤ 27 := by
      unfold cmOp
      split
      · omega
      · split <;> omega
    refine q5_suR (ord := ord) 10 1 QW X f (c + 2) _ w2 _ _ (Or.inr rfl) h2 (cf.fe (f1.tr f2)) (by have := o1.1.2.2.2.2; omega) (fun p P2 e => by
      injection e with e1 e2
      rw [← e1]
      show bnd (cmOp (T s2.1)) < 5
      unfold bnd
      repeat' split
      all_goals omega) (by omega) (fun b s3 e3 w3 g3 L3 E3 f3 h3 hL3 hf3 hG3 hg3 => ?_) (fun e q w3 f3 b => hX e (by rw [e9, q]) w3 (f1.tr (f2.tr f3)) b)
    rw [e3] at e9 rp2
    dsimp only at e9
    have rp2 : OKR T N (nxS T N s2) s3 := rp2
    obtain ⟨f9, rfl⟩ : ∃ f, g3 = f + 1 := ⟨g3 - 1, by omega⟩
    have ib3 : inB (L3 ++ (cmOp (T s2.1), 0) :: P) ≠ 32 := by
      rw [inB_app (fun p hp => by have := (hL3 p hp).2; omega)]
      show (if 31 ≤ cmOp (T s2.1) then cmOp (T s2.1) else inB P) ≠ 32
      rw [if_neg (by omega)]
      exact hb
    have S3 := h3.1.1.1
    have ic : isC (L3 ++ (cmOp (T s2.1), 0) :: P) = true := by
      rw [isC_app (fun p hp => (hL3 p hp).2)]
      show (if cmOp (T s2.1) ≤ 24 then isC P else decide (cmOp (T s2.1) ≤ 27)) = true
      rw [if_neg (by omega)]
      exact decide_eq_true cmi.2
    refine l5_three h3 (q5_163 h3 hG3 ib3 rfl ?_)
    unfold wp_X5_behindSum_163
    refine s_cO (KF S3 rfl) (y5_isCompared S3 h3.2.2.2.2.2.1 (by have := h3.n400; omega) (s_ckI b2i_in ?_))
    rw [b2i_t ic]
    refine s_br (fun y => absurd y (by decide)) (fun _ => ?_)
    have h4 : TWQ T N w3 s3 ((L3 ++ [(cmOp (T s2.1), 0)]) ++ P) E3 := by rw [List.append_assoc]; exact h3
    have bb : bnd (cmOp (T s2.1)) = 4 := by
      unfold bnd
      rw [if_neg (by omega), if_neg (by omega), if_neg (by omega), if_neg (by omega), if_pos (by omega)]
    refine hq _ _ e9 w3 f9 (L3 ++ [(cmOp (T s2.1), 0)]) E3 (f1.tr (f2.tr f3)) h4 (fun p hp => ?_) ?_ (by omega)
    · rcases List.mem_append.mp hp with hp | hp
      · have := hL3 p hp; exact ⟨by omega, by omega⟩
      · have e : p = (cmOp (T s2.1), 0) := List.mem_singleton.mp hp
        rw [e]; exact ⟨by show 4 ≤ bnd (cmOp (T s2.1)); omega, by show cmOp (T s2.1) ≤ 30; omega⟩
    · rw [flush_app, hf3]
      show flu1 (cmOp (T s2.1), 0) _ = apT ord (.cmp (T s2.1) a b) C
      unfold flu1
      rw [if_neg (by show ¬ (cmOp (T s2.1) = 29 ∨ cmOp (T s2.1) = 30); omega), apT_cmp]
  · rw [if_neg z] at e9
    exact l5_bad (by omega) b2 (hX _ e9 w2 (f1.tr f2) b2)
end TPOS
