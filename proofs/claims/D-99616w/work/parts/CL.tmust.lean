/-! THE PLAIN LAW: texts: the twin must read, reads leaves -/
set_option maxRecDepth 100000
/-- the twin in the midst of an expression: token, pile, code -/
def TWQ (T : Int → Int) (N : Int) (w : Wd) (s : LX) (P C : OPS) : Prop := TWX T N w s ∧ LOK T N s ∧ gV w 0 19 = 0 ∧ gV w 0 26 = s.2.2.1 ∧ gV w 0 30 = s.2.2.2 ∧ RAW w P C ∧ ((C.length + P.length : Nat) : Int) ≤ s.1
/-- it has gone wrong at e -/
def BDE (T : Int → Int) (N : Int) (w : Wd) (e : Int) : Prop := TTX T N w ∧ gV w 0 19 = 1 ∧ gV w 0 18 = e ∧ ∃ P C, RAW w P C ∧ C.length + P.length ≤ 400
section MUST
variable {T : Int → Int} {N : Int} {w w' w1 w2 : Wd} {k t n : Nat} {s : LX} {p : Int × Int} {P C L : OPS} {v x i lo o a : Int} {Q : Int → Wd → Prop} {QW X : Wd → Prop}
theorem RAW.fn (h : RAW w P C) (f : FN 14 w w') : RAW w' P C := by
  obtain ⟨r1, r2, r3, r4, r5⟩ := h
  exact ⟨(f.2 0 29 (by omega)).trans r1, (f.2 0 23 (by omega)).trans r2, r3.fr (fun i _ => ⟨f.2 27 _ (by omega), f.2 28 _ (by omega)⟩), r4.fr (fun i _ => ⟨f.2 24 _ (by omega), f.2 25 _ (by omega)⟩), r5⟩
theorem RAW.s0 {j : Int} (h : RAW w P C) (hj : j ≠ 29 ∧ j ≠ 23) : RAW (sV w 0 j x) P C := by
  obtain ⟨r1, r2, r3, r4, r5⟩ := h
  exact ⟨(gV_ne (by omega)).trans r1, (gV_ne (by omega)).trans r2, r3.fr (fun i _ => ⟨gV_ne (by omega), gV_ne (by omega)⟩), r4.fr (fun i _ => ⟨gV_ne (by omega), gV_ne (by omega)⟩), r5⟩
theorem TWQ.n400 (h : TWQ T N w s P C) : C.length + P.length ≤ 400 := by
  have a := h.2.2.2.2.2.2
  have b := h.2.1.1
  have c := h.1.1.2.1
  omega
/-- one token on -/
theorem q5_next (h : TWQ T N w s P C) (hq : ∀ w', FE w w' → TWQ T N w' (nxS T N s) P C → QW w') : wp_X5_next 0 w QW := by
  obtain ⟨h1, h2, h3, h4, h5, h6, h7⟩ := h
  have t := h2.to
  have L0 := h2.1
  have nx := h2.nx
  exact y5_next h1 (by omega) t.1.2 (fun w' f R => hq w' f.fe ⟨R, nx.1, (f.2 0 19 (by omega)).trans h3, (f.2 0 26 (by omega)).trans h4, (f.2 0 30 (by omega)).trans h5, h6.fn f, by have := nx.2; omega⟩)
theorem q5_must (h : TWQ T N w s P C) {b : Prop} [Decidable b] (h1 : b → ∀ w', FE w w' → TWQ T N w' (nxS T N s) P C → QW w') (h0 : ¬ b → ∀ w', FE w w' → BDE T N w' s.1 → QW w') : wp_X5_must 0 (b2i b) w QW := by
  have S := h.1.1.1
  have e19 := h.2.2.1
  unfold wp_X5_must
  refine s_gfI (KF S rfl) e19 (s_ckI ⟨by decide, by decide⟩ (s_br (fun y => absurd rfl y) (fun _ => s_ckI b2i_in ?_)))
  by_cases z : b
  · rw [b2i_t z]
    refine s_br (fun _ => ?_) (fun y => absurd (by decide) y)
    unfold wp_X5_must_24
    exact s_gfI (KF S rfl) e19 (s_ckI ⟨by decide, by decide⟩ (s_br (fun y => absurd rfl y) (fun _ => s_cO (KF S rfl) (q5_next h (h1 z)))))
  · rw [b2i_f z]
    refine s_br (fun y => absurd rfl y) (fun _ => ?_)
    refine s_pfZ (KF S rfl) (Or.inr rfl) ?_
    have S1 : SOK (sV w 0 19 1) := S
    refine s_gfI (KF S1 rfl) ((gV_ne (by omega)).trans h.1.2.1) (s_pfI (KF S1 rfl) ?_)
    have S2 : SOK (sV (sV w 0 19 1) 0 18 s.1) := S
    unfold wp_X5_must_24
    have f2 : FE w (sV (sV w 0 19 1) 0 18 s.1) := fe_bad FE.rf
    refine s_gfI (KF S2 rfl) ((gV_ne (by omega)).trans gV_at) (s_ckI ⟨by decide, by decide⟩ (s_br (fun _ => h0 z _ f2 ⟨h.1.1.fe f2, (gV_ne (by omega)).trans gV_at, gV_at, P, C, (h.2.2.2.2.2.1.s0 (by decide)).s0 (by decide), h.n400⟩) (fun y => absurd (by decide) y)))
theorem q5_must1 (h : TWQ T N w s P C) (h1 : ∀ w', FE w w' → TWQ T N w' (nxS T N s) P C → QW w') : wp_X5_must 0 1 w QW := q5_must (b := True) h (fun _ => h1) (fun y => absurd trivial y)
theorem q5_must0 (h : TWQ T N w s P C) (h0 : ∀ w', FE w w' → BDE T N w' s.1 → QW w') : wp_X5_must 0 0 w QW := q5_must (b := False) h (fun y => y.elim) (fun _ => h0)
/-- the token's number -/
theorem dg_tv {f : Int} {m : Nat} (hd : ∀ j : Nat, j < m → 48 ≤ T (f + j) ∧ T (f + j) ≤ 57) : ∀ k : Nat, k ≤ m → dgT T f k = tvT T f k ∨ (1000000 < dgT T f k ∧ 1000000 < tvT T f k) := by
  intro k
  induction k with
  | zero => intro _; exact Or.inl rfl
  | succ k ih =>
    intro h
    have d := hd k (by omega)
    have b := dgT_in hd k (by omega)
    have e1 : dgT T f (k + 1) = if dgT T f k ≤ 1000000 then dgT T f k * 10 + T (f + k) - 48 else dgT T f k := rfl
    have e2 : tvT T f (k + 1) = 10 * tvT T f k + T (f + k) - 48 := rfl
    rcases ih (by omega) with g | ⟨g1, g2⟩
    · by_cases z : dgT T f k ≤ 1000000
      · rw [if_pos z] at e1; exact Or.inl (by omega)
      · rw [if_neg z] at e1; exact Or.inr (by omega)
    · rw [if_neg (by omega)] at e1
      exact Or.inr (by omega)
theorem so2 (L : LOK T N s) : soT T N s.1 = 2 ↔ s.1 < N ∧ dgB (T s.1) = true := by
  have L0 := L.1
  unfold soT
  by_cases g : N ≤ s.1
  · rw [if_pos g]; exact ⟨fun y => absurd y (by decide), fun y => absurd y.1 (by omega)⟩
  · rw [if_neg g]
    by_cases g1 : smB (T s.1) = true
    · rw [if_pos g1]
      refine ⟨fun y => absurd y (by decide), fun y => ?_⟩
      have a := y.2
      unfold smB at g1
      unfold dgB at a
      have := of_decide_eq_true g1
      have := of_decide_eq_true a
      omega
    · rw [if_neg g1]
      by_cases g2 : dgB (T s.1) = true
      · rw [if_pos g2]; exact ⟨fun _ => ⟨by omega, g2⟩, fun _ => rfl⟩
      · rw [if_neg g2]; exact ⟨fun y => absurd y (by decide), fun y => absurd y.2 g2⟩
theorem wo2 (L : LOK T N s) (h : soT T N s.1 = 2) : woT T N s.1 s.2.1 = dgT T s.1 (s.2.1 - s.1).toNat ∧ (0 ≤ woT T N s.1 s.2.1 ∧ woT T N s.1 s.2.1 ≤ 10000009) ∧ (woT T N s.1 s.2.1 = tvT T s.1 (s.2.1 - s.1).toNat ∨ (1000000 < woT T N s.1 s.2.1 ∧ 1000000 < tvT T s.1 (s.2.1 - s.1).toNat)) := by
  have hd := L.dg ((so2 L).mp h)
  have L0 := L.to
  have hd2 : ∀ j : Nat, j < (s.2.1 - s.1).toNat → 48 ≤ T (s.1 + j) ∧ T (s.1 + j) ≤ 57 := fun j hj => hd _ (by omega) (by omega)
  have e : woT T N s.1 s.2.1 = dgT T s.1 (s.2.1 - s.1).toNat := by unfold woT; rw [if_neg (by omega), if_pos h]
  rw [e]
  exact ⟨rfl, dgT_in hd2 _ (Nat.le_refl _), dg_tv hd2 _ (Nat.le_refl _)⟩
/-- a number from lo to hi, or a fault -/
theorem q5_number {hi : Int} (h : TWQ T N w s P C) (hb : 0 ≤ lo ∧ lo ≤ 1000 ∧ 0 ≤ hi ∧ hi ≤ 1000) (h1 : ∀ v t, nuS T N lo hi s = .ok (v, t) → ∀ w', FE w w' → TWQ T N w' t P C → Q v w') (h0 : nuS T N lo hi s = .error s.1 → ∀ v w', FE w w' → BDE T N w' s.1 → Q v w') : wp_X5_number 0 lo hi w Q := by
  obtain ⟨g1, g2, g3⟩ := h
  have h : TWQ T N w s P C := ⟨g1, g2, g3⟩
  have S := g1.1.1
  have so : 0 ≤ soT T N s.1 ∧ soT T N s.1 ≤ 3 := by
    unfold soT
    split
    · omega
    · split
      · omega
      · split <;> omega
  unfold wp_X5_number
  refine s_gfI (KF S rfl) g1.2.2.2.2 (s_gfI (KF S rfl) g1.2.2.2.1 (s_ckI ⟨by omega, by omega⟩ (s_br (fun y => ?_) (fun y => ?_))))
  · unfold wp_X5_number_32 wp_X5_number_33
    refine s_cO (KF S rfl) (q5_must0 h (fun w' f b => h0 (if_neg (fun z => y ((so2 g2).mpr ⟨z.1, z.2.1⟩))) _ w' f b))
  · have y : soT T N s.1 = 2 := Decidable.not_not.mp y
    have z := (so2 g2).mp y
    obtain ⟨w1, w2, w3⟩ := wo2 g2 y
    have tv : 0 ≤ tvT T s.1 (s.2.1 - s.1).toNat := by
      rcases w3 with w3 | w3 <;> omega
    refine s_gfI (KF S rfl) g1.2.2.2.2 ?_
    unfold wp_X5_in
    have bad : ¬ (lo ≤ woT T N s.1 s.2.1 ∧ woT T N s.1 s.2.1 ≤ hi) → wp_X5_number_32 Q (woT T N s.1 s.2.1) 0 w := by
      intro u
      unfold wp_X5_number_32 wp_X5_number_33
      refine s_cO (KF S rfl) (q5_must0 h (fun w' f b => h0 (if_neg (fun q => u ?_)) _ w' f b))
      obtain ⟨_, _, q1, q2⟩ := q
      rcases w3 with w3 | w3 <;> omega
    refine s_ckL ⟨by omega, by omega⟩ (s_ckL ⟨by omega, by omega⟩ (s_br (fun a => ?_) (fun a => s_ckL ⟨by omega, by omega⟩ (s_ckL ⟨by omega, by omega⟩ (s_br (fun b => ?_) (fun b => ?_))))))
    · exact s_zr (Or.inl rfl) (s_ckI ⟨by decide, by decide⟩ (s_br (fun _ => bad (by omega)) (fun y => absurd rfl y)))
    · exact s_zr (Or.inl rfl) (s_ckI ⟨by decide, by decide⟩ (s_br (fun _ => bad (by omega)) (fun y => absurd rfl y)))
    · refine s_zr (Or.inr rfl) (s_ckI ⟨by decide, by decide⟩ (s_br (fun y => absurd y (by decide)) (fun _ => ?_)))
      unfold wp_X5_number_33
      have ew : woT T N s.1 s.2.1 = tvT T s.1 (s.2.1 - s.1).toNat := by rcases w3 with w3 | w3 <;> omega
      refine s_cO (KF S rfl) (q5_must1 h (fun w' f b => h1 _ _ ?_ w' f b))
      rw [ew]
      exact if_pos ⟨z.1, z.2, by omega, by omega⟩
/-- a leaf of the code, or a fault -/
theorem q5_leaf {ok : Int} (h : TWQ T N w s P C) (hok : ok = 0 ∨ ok = 1) (lt : ok = 1 → s.1 < s.2.1) (h1 : ok = 1 → s.2.2.1 ≠ 50 → ∀ w', FE w w' → TWQ T N w' (nxS T N (lvS s)) P (C ++ [(o, a)]) → QW w') (h0 : ok = 0 ∨ s.2.2.1 = 50 → ∀ w', FE w w' → BDE T N w' s.1 → QW w') : wp_X5_leaf 0 ok o a w QW := by
  have S := h.1.1.1
  have L := h.2.1
  have lv := L.2.2.2.1
  have bad : (ok = 0 ∨ s.2.2.1 = 50) → wp_X5_leaf_18 QW 0 o a 0 w := by
    intro hb
    unfold wp_X5_leaf_18 wp_X5_leaf_19
    refine s_cO (KF S rfl) (q5_must0 h (fun w' f b => ?_))
    have S' := b.1.1
    exact s_gfI (KF S' rfl) b.2.1 (s_ckI ⟨by decide, by decide⟩ (s_br (fun _ => h0 hb w' f b) (fun y => absurd (by decide) y)))
  unfold wp_X5_leaf
  refine s_ckI ⟨by omega, by omega⟩ (s_br (fun y => bad (Or.inl y)) (fun y => s_gfI (KF S rfl) h.2.2.2.1 (s_ckI ⟨by omega, by omega⟩ (s_br (fun z => bad (Or.inr (by omega))) (fun z => ?_)))))
  have hk : ok = 1 := by omega
  unfold wp_X5_leaf_19
  refine s_cO (KF S rfl) (q5_must1 h (fun w' f b => ?_))
  have S' := b.1.1.1
  have n4 := h.n400
  have hlt := lt hk
  have nx := L.nx
  have b7 := h.2.2.2.2.2.2
  have t := L.to
  refine s_gfI (KF S' rfl) b.2.2.1 (s_ckI ⟨by decide, by decide⟩ (s_br (fun y => absurd rfl y) (fun _ => s_cO (KF S' rfl) (y5_emit S' b.2.2.2.2.2.1 (by have := h.1.1.2.1; omega) (fun w2 f2 R2 => ?_)))))
  have S2 := S'.sm f2.1
  have X2 := b.1.fp f2
  refine s_gfI (KF S2 rfl) ((f2.2 0 26 (by omega) (by omega)).trans b.2.2.2.1) (s_pfI (KF S2 rfl) ?_)
  have f3 : FE w2 (sV w2 0 26 (s.2.2.1 + 1)) := FE.rf.sV (Or.inl (by decide))
  refine h1 hk (by omega) _ (f.tr (f2.fe.tr f3)) ⟨⟨X2.1.fe f3, (gV_ne (by omega)).trans X2.2.1, (gV_ne (by omega)).trans X2.2.2.1, (gV_ne (by omega)).trans X2.2.2.2.1, (gV_ne (by omega)).trans X2.2.2.2.2⟩, ((L.lv (by omega)).nx).1, (gV_ne (by omega)).trans ((f2.2 0 19 (by omega) (by omega)).trans b.2.2.1), gV_at, (gV_ne (by omega)).trans ((f2.2 0 30 (by omega) (by omega)).trans b.2.2.2.2.1), R2.s0 (by decide), ?_⟩
  rw [List.length_append]
  show ((C.length + 1 + P.length : Nat) : Int) ≤ (nxS T N s).1
  omega
end MUST
