/-! THE PLAIN LAW: texts: the twin reads a part that is no bracket, whole -/
set_option maxRecDepth 100000
/-- a sum's code is laid -/
def apS (ord : Bool) : Su → OPS → OPS
  | .inner 0 v _ _ _, C => C ++ [(0, v)]
  | .inner 1 v _ _ _, C => C ++ [leC ord v]
  | .leaf, C => C ++ [(0, 0)]
  | .inner (_ + 2) sg _ l r, C => apS ord r (apS ord l C) ++ [(sgOp sg, 0)]
section TPART2
variable {T : Int → Int} {N : Int} {ord : Bool} {w w' w1 w2 : Wd} {k t n : Nat} {s : LX} {p : Int × Int} {P C L : OPS} {v x i lo o a : Int} {Q : Int → Wd → Prop} {QW X : Wd → Prop}
theorem vaI_so (L : LOK T N s) (h : vaI T ord s ≠ -1) : soT T N s.1 = 1 := by
  unfold vaI at h
  by_cases g : ord = true
  · rw [if_pos g] at h
    rcases fiW_in (T := T) (s := s) 6 30 0 with h1 | ⟨h1, h2⟩
    · exact absurd h1 h
    · have wa := wd_wb ⟨(fiW T 30 6 0 s - 0).toNat, by omega⟩
      dsimp only at wa
      exact ((word_iff (T := T) (N := N) L wa.1.1 wa.1.2 wa.2.1).mpr h2).1
  · rw [if_neg g] at h
    rcases fiW_in (T := T) (s := s) 9 20 0 with h1 | ⟨h1, h2⟩
    · exact absurd h1 h
    · have wa := wd_wa ⟨(fiW T 20 9 0 s - 0).toNat, by omega⟩
      dsimp only at wa
      exact ((word_iff (T := T) (N := N) L wa.1.1 wa.1.2 wa.2.1).mpr h2).1
theorem vaI_in : -1 ≤ vaI T ord s ∧ vaI T ord s ≤ 8 ∧ (ord = true → vaI T ord s ≤ 5) := by
  unfold vaI
  by_cases g : ord = true
  · rw [if_pos g]
    rcases fiW_in (T := T) (s := s) 6 30 0 with h | ⟨h, _⟩ <;> omega
  · rw [if_neg g]
    rcases fiW_in (T := T) (s := s) 9 20 0 with h | ⟨h, _⟩
    · exact ⟨by omega, by omega, fun y => absurd y g⟩
    · exact ⟨by omega, by omega, fun y => absurd y g⟩
theorem BDE.s25 {e : Int} (h : BDE T N w e) (ha : 0 ≤ a) : BDE T N (sV w 25 a v) e := by
  obtain ⟨h1, h2, h3, P, C, ⟨r1, r2, r3, r4, r5⟩, h4⟩ := h
  have f : FE w (sV w 25 a v) := FE.rf.sV (Or.inr (by decide))
  have f1 : FE w (sV w 25 a v) := f
  refine ⟨h1.fe f, (gV_ne (by omega)).trans h2, (gV_ne (by omega)).trans h3, P, ?_⟩
  by_cases g : a < (C.length : Nat)
  · refine ⟨setA C a v, ⟨(gV_ne (by omega)).trans r1, ?_, r3.fr (fun i _ => ⟨gV_ne (by omega), gV_ne (by omega)⟩), r4.set ⟨ha, g⟩, ?_⟩, ?_⟩
    · rw [setA_len]; exact (gV_ne (by omega)).trans r2
    · rw [setA_len]; exact r5
    · rw [setA_len]; exact h4
  · exact ⟨C, ⟨(gV_ne (by omega)).trans r1, (gV_ne (by omega)).trans r2, r3.fr (fun i _ => ⟨gV_ne (by omega), gV_ne (by omega)⟩), r4.fr (fun i hi => ⟨gV_ne (by omega), gV_ne (by omega)⟩), r5⟩, h4⟩
/-- leaf, and a number behind it -/
theorem q5_99 {ok x1 : Int} (h : TWQ T N w s P C) (cf : CFG ord w) (hx : -1 ≤ x1 ∧ x1 ≤ 9) (hok : ok = 0 ∨ ok = 1) (lt : ok = 1 → s.1 < s.2.1) (h1 : ok = 1 → s.2.2.1 ≠ 50 → ¬ (ord = true ∧ 5 ≤ x1) → ∀ w', FE w w' → TWQ T N w' (nxS T N (lvS s)) P (C ++ [(o, a)]) → Q 3 w') (h2 : ok = 1 → s.2.2.1 ≠ 50 → ord = true ∧ 5 ≤ x1 → ∀ v t, nuS T N 0 5 (nxS T N (lvS s)) = .ok (v, t) → ∀ w', FE w w' → TWQ T N w' t P (C ++ [(o, v)]) → Q 3 w') (h3 : ok = 1 → s.2.2.1 ≠ 50 → ord = true ∧ 5 ≤ x1 → nuS T N 0 5 (nxS T N (lvS s)) = .error (nxS T N (lvS s)).1 → ∀ w', FE w w' → BDE T N w' (nxS T N (lvS s)).1 → Q 3 w') (h0 : ok = 0 ∨ s.2.2.1 = 50 → ∀ w', FE w w' → BDE T N w' s.1 → Q 3 w') : wp_X5_readPart_99 Q 0 x1 a o ok 0 w := by
  have S := h.1.1.1
  unfold wp_X5_readPart_99
  refine s_cO (KF S rfl) (q5_leaf h hok lt (fun y1 y2 w' f b => ?_) (fun y w' f b => ?_))
  · have S' := b.1.1.1
    have cf' := cf.fe f
    refine s_gfI (KF S' rfl) cf'.1 ?_
    by_cases go : ord = true
    · rw [if_pos go]
      refine s_ckI ⟨by decide, by decide⟩ (s_br (fun z => absurd z (by decide)) (fun _ => s_ckI ⟨by omega, by omega⟩ (s_br (fun z => h1 y1 y2 (fun u => absurd u.2 (by omega)) w' f b) (fun z => ?_))))
      refine s_gfI (KF S' rfl) b.2.2.1 (s_ckI ⟨by decide, by decide⟩ (s_br (fun u => absurd rfl u) (fun _ => s_gfI (KF S' rfl) b.2.2.2.2.2.1.2.1 (s_gfA (KF S' rfl) (RF S' rfl) (s_cO (KF S' rfl) ?_)))))
      have el : (((C ++ [(o, a)]).length : Nat) : Int) - 1 = (C.length : Nat) := by rw [List.length_append]; show ((C.length + 1 : Nat) : Int) - 1 = _; omega
      have n4 := b.n400
      rw [List.length_append] at n4
      have n4 : C.length + 1 + P.length ≤ 400 := n4
      rw [el]
      refine q5_number b (by decide) (fun v t e w2 f2 b2 => ?_) (fun e v w2 f2 b2 => ?_)
      · have S2 := b2.1.1.1
        refine s_asI (KF S2 rfl) (by decide) ⟨by omega, by omega⟩ ?_
        have f3 : FE w2 (sV w2 25 (C.length : Nat) v) := FE.rf.sV (Or.inr (by decide))
        obtain ⟨⟨t1, t2, t3, t4, t5⟩, q2, q3, q4, q5, ⟨r1, r2, r3, r4, r5⟩, q7⟩ := b2
        have sl : setA (C ++ [(o, a)]) (C.length : Nat) v = C ++ [(o, v)] := by
          unfold setA
          have e1 : ((C.length : Nat) : Int).toNat = C.length := by omega
          rw [e1, List.getD_eq_getElem?_getD, List.getElem?_append_right (Nat.le_refl _), Nat.sub_self, List.set_append_right _ _ (Nat.le_refl _), Nat.sub_self]
          rfl
        have c3 := r4.set (a := (C.length : Nat)) (v := v) ⟨by omega, by rw [List.length_append]; show ((C.length : Nat) : Int) < ((C.length + 1 : Nat) : Int); omega⟩
        rw [sl] at c3
        have ll : (C ++ [(o, v)]).length = (C ++ [(o, a)]).length := by rw [List.length_append, List.length_append]; rfl
        refine h2 y1 y2 ⟨go, by omega⟩ v t e _ (f.tr (f2.tr f3)) ⟨⟨t1.fe f3, (gV_ne (by omega)).trans t2, (gV_ne (by omega)).trans t3, (gV_ne (by omega)).trans t4, (gV_ne (by omega)).trans t5⟩, q2, (gV_ne (by omega)).trans q3, (gV_ne (by omega)).trans q4, (gV_ne (by omega)).trans q5, ⟨(gV_ne (by omega)).trans r1, ?_, r3.fr (fun i _ => ⟨gV_ne (by omega), gV_ne (by omega)⟩), c3, by rw [ll]; exact r5⟩, by rw [ll]; exact q7⟩
        rw [ll]
        exact (gV_ne (by omega)).trans r2
      · have S2 := b2.1.1
        refine s_asI (KF S2 rfl) (by decide) ⟨by omega, by omega⟩ ?_
        have f3 : FE w2 (sV w2 25 (C.length : Nat) v) := FE.rf.sV (Or.inr (by decide))
        exact h3 y1 y2 ⟨go, by omega⟩ e _ (f.tr (f2.tr f3)) (b2.s25 (by omega))
    · rw [if_neg go]
      exact s_ckI ⟨by decide, by decide⟩ (s_br (fun _ => h1 y1 y2 (fun u => absurd u.1 go) w' f b) (fun z => absurd rfl z))
  · have S' := b.1.1
    have cf' := cf.fe f
    refine s_gfI (KF S' rfl) cf'.1 ?_
    by_cases go : ord = true
    · rw [if_pos go]
      refine s_ckI ⟨by decide, by decide⟩ (s_br (fun z => absurd z (by decide)) (fun _ => s_ckI ⟨by omega, by omega⟩ (s_br (fun z => h0 y w' f b) (fun z => ?_))))
      exact s_gfI (KF S' rfl) b.2.1 (s_ckI ⟨by decide, by decide⟩ (s_br (fun _ => h0 y w' f b) (fun u => absurd (by decide) u)))
    · rw [if_neg go]
      exact s_ckI ⟨by decide, by decide⟩ (s_br (fun _ => h0 y w' f b) (fun z => absurd rfl z))
theorem q5_part0 {S9 : LX → PRS Su} (h : TWQ T N w s P C) (cf : CFG ord w) (g : ¬ tkT T 0 s = true) (h1 : ∀ y t, paS T N ord S9 s = .ok (y, t) → ∀ w', FE w w' → TWQ T N w' t P (apS ord y C) → Q 3 w') (h0 : ∀ e, paS T N ord S9 s = .error e → ∀ w', FE w w' → BDE T N w' e → Q 3 w') : wp_X5_readPart_35 Q 0 (vaP T ord s) w := by
  have S := h.1.1.1
  have L := h.2.1
  have L0 := L.1
  have t := L.to
  have so : 0 ≤ soT T N s.1 ∧ soT T N s.1 ≤ 3 := by
    unfold soT
    split
    · omega
    · split
      · omega
      · split <;> omega
  have vi := vaI_in (T := T) (ord := ord) (s := s)
  unfold wp_X5_readPart_35
  refine s_gfI (KF S rfl) h.1.2.2.2.1 (s_ckI ⟨by omega, by omega⟩ (s_br (fun y => ?_) (fun y => ?_)))
  · -- no number
    have nd : ¬ (s.1 < N ∧ dgB (T s.1) = true) := fun z => y ((so2 L).mpr z)
    have e9 : paS T N ord S9 s = match vaS T N ord s with
      | .error e => .error e
      | .ok (v, s2) => if v = -1 then .error s2.1 else .ok (.val v, s2) := by unfold paS; rw [if_neg g, if_neg nd]; rfl
    unfold wp_X5_readPart_59 wp_X5_readPart_60
    by_cases z : vaI T ord s = -1
    · have ez : vaP T ord s = -1 := if_pos z
      rw [vaS_no z] at e9
      dsimp only at e9
      rw [if_pos rfl] at e9
      rw [ez]
      refine s_ckI ⟨by decide, by decide⟩ (s_br (fun u => absurd rfl u) (fun _ => s_ckI ⟨by decide, by decide⟩ (s_br (fun _ => ?_) (fun u => absurd rfl u))))
      unfold wp_X5_readPart_76
      refine s_ckI ⟨by decide, by decide⟩ (s_br (fun u => absurd rfl u) (fun _ => ?_))
      unfold wp_X5_readPart_86
      refine s_ckI ⟨by decide, by decide⟩ (s_br (fun _ => ?_) (fun u => absurd rfl u))
      exact q5_99 h cf (by decide) (Or.inl rfl) (fun u => absurd u (by decide)) (fun u => absurd u (by decide)) (fun u => absurd u (by decide)) (fun u => absurd u (by decide)) (fun _ => h0 _ e9)
    · have ez : vaP T ord s = vaI T ord s + 1 := if_neg z
      have lt := vaI_lt L z
      rw [ez]
      refine s_ckI ⟨by omega, by omega⟩ (s_br (fun _ => ?_) (fun u => absurd (by omega) u))
      unfold wp_X5_readPart_71 wp_X5_readPart_76
      refine s_ckI ⟨by omega, by omega⟩ (s_br (fun _ => ?_) (fun u => absurd (by omega) u))
      unfold wp_X5_readPart_86
      refine s_ckI ⟨by decide, by decide⟩ (s_br (fun _ => ?_) (fun u => absurd rfl u))
      refine q5_99 h cf (by omega) (Or.inr rfl) (fun _ => lt.1.2) (fun _ u1 u2 w' f b => ?_) (fun _ u1 u2 v2 t2 e w' f b => ?_) (fun _ u1 u2 e w' f b => ?_) (fun u w' f b => ?_)
      · rw [vaS_hit rfl z (fun q => u2 ⟨q.1, by omega⟩) u1] at e9
        dsimp only at e9
        rw [if_neg z] at e9
        refine h1 _ _ e9 w' f ?_
        have el : leC ord (vaI T ord s) = (vaI T ord s + 1, 0) := by
          unfold leC
          by_cases go : ord = true
          · rw [if_pos go, if_pos (by
              by_cases q : vaI T ord s < 4
              · exact q
              · exact absurd ⟨go, by omega⟩ u2)]
          · rw [if_neg go]
        show TWQ T N w' _ P (C ++ [leC ord (vaI T ord s)])
        rw [el]; exact b
      · have vo := vaS_num (N := N) (T := T) (ord := ord) (s := s) rfl z ⟨u2.1, by omega⟩ u1
        rw [e] at vo
        dsimp only at vo
        have e5 : 0 ≤ v2 ∧ v2 ≤ 5 := by
          unfold nuS at e
          split at e
          · next q => injection e with e; injection e with e1 e2; omega
          · cases e
        have v5 := vi.2.2 u2.1
        rw [vo] at e9
        dsimp only at e9
        rw [if_neg (by split <;> omega)] at e9
        refine h1 _ _ e9 w' f ?_
        have el : leC ord (if vaI T ord s = 4 then 4 + v2 else 10 + v2) = (vaI T ord s + 1, v2) := by
          unfold leC
          rw [if_pos u2.1]
          by_cases q : vaI T ord s = 4
          · rw [if_pos q, if_neg (by omega), if_pos (by omega), q]
            exact congrArg (fun z => ((5 : Int), z)) (by omega)
          · rw [if_neg q, if_neg (by omega), if_neg (by omega)]
            have q5 : vaI T ord s = 5 := by omega
            rw [q5]
            exact congrArg (fun z => ((6 : Int), z)) (by omega)
        show TWQ T N w' _ P (C ++ [leC ord (if vaI T ord s = 4 then 4 + v2 else 10 + v2)])
        rw [el]; exact b
      · have vo := vaS_num (N := N) (T := T) (ord := ord) (s := s) rfl z ⟨u2.1, by omega⟩ u1
        rw [e] at vo
        dsimp only at vo
        rw [vo] at e9
        exact h0 _ e9 w' f b
      · have u := u.resolve_left (by decide)
        rw [vaS_err rfl z u] at e9
        exact h0 _ e9 w' f b
  · have y : soT T N s.1 = 2 := Decidable.not_not.mp y
    have hd := (so2 L).mp y
    obtain ⟨_, wb, wc⟩ := wo2 L y
    have z : vaI T ord s = -1 := by
      by_cases q : vaI T ord s = -1
      · exact q
      · have := vaI_so L q; omega
    have ez : vaP T ord s = -1 := if_pos z
    rw [ez]
    have tv : 0 ≤ tvT T s.1 (s.2.1 - s.1).toNat := by
      rcases wc with w3 | w3 <;> omega
    refine s_gfI (KF S rfl) h.1.2.2.2.2 (s_ckL ⟨by omega, by omega⟩ (s_br (fun u => ?_) (fun u => ?_)))
    · have e9 : paS T N ord S9 s = .error s.1 := by
        unfold paS
        rw [if_neg g, if_pos hd]
        by_cases q : s.2.2.1 = 50
        · rw [if_pos q]
        · rw [if_neg q]
          have en : nuS T N 0 1000 (lvS s) = .error s.1 := if_neg (fun q => by
            obtain ⟨_, _, _, q2⟩ := q
            have q2 : tvT T s.1 (s.2.1 - s.1).toNat ≤ 1000 := q2
            rcases wc with w3 | w3 <;> omega)
          rw [en]
      unfold wp_X5_readPart_59 wp_X5_readPart_60
      refine s_ckI ⟨by decide, by decide⟩ (s_br (fun u => absurd rfl u) (fun _ => s_ckI ⟨by decide, by decide⟩ (s_br (fun _ => ?_) (fun u => absurd rfl u))))
      unfold wp_X5_readPart_76
      refine s_ckI ⟨by decide, by decide⟩ (s_br (fun u => absurd rfl u) (fun _ => ?_))
      unfold wp_X5_readPart_86
      refine s_ckI ⟨by decide, by decide⟩ (s_br (fun _ => ?_) (fun u => absurd rfl u))
      exact q5_99 h cf (by decide) (Or.inl rfl) (fun u => absurd u (by decide)) (fun u => absurd u (by decide)) (fun u => absurd u (by decide)) (fun u => absurd u (by decide)) (fun _ => h0 _ e9)
    · have ew : woT T N s.1 s.2.1 = tvT T s.1 (s.2.1 - s.1).toNat := by rcases wc with w3 | w3 <;> omega
      unfold wp_X5_readPart_60
      refine s_ckI ⟨by decide, by decide⟩ (s_br (fun u => absurd rfl u) (fun _ => s_ckI ⟨by decide, by decide⟩ (s_br (fun u => absurd u (by decide)) (fun _ => ?_))))
      unfold wp_X5_readPart_71 wp_X5_readPart_76
      refine s_ckI ⟨by decide, by decide⟩ (s_br (fun u => absurd rfl u) (fun _ => ?_))
      unfold wp_X5_readPart_86
      refine s_ckI ⟨by decide, by decide⟩ (s_br (fun u => absurd u (by decide)) (fun _ => s_gfI (KF S rfl) h.1.2.2.2.2 ?_))
      refine q5_99 h cf (by decide) (Or.inr rfl) (fun _ => t.2 hd.1) (fun _ u1 u2 w' f b => ?_) (fun _ _ u2 => absurd u2.2 (by decide)) (fun _ _ u2 => absurd u2.2 (by decide)) (fun u w' f b => ?_)
      · have en : nuS T N 0 1000 (lvS s) = .ok (woT T N s.1 s.2.1, nxS T N (lvS s)) := by
          rw [ew]
          exact if_pos ⟨hd.1, hd.2, tv, by show tvT T s.1 (s.2.1 - s.1).toNat ≤ 1000; omega⟩
        have e9 : paS T N ord S9 s = .ok (.num (woT T N s.1 s.2.1), nxS T N (lvS s)) := by
          unfold paS
          rw [if_neg g, if_pos hd, if_neg u1, en]
        exact h1 _ _ e9 w' f b
      · have u := u.resolve_left (by decide)
        have e9 : paS T N ord S9 s = .error s.1 := by
          unfold paS
          rw [if_neg g, if_pos hd, if_pos u]
        exact h0 _ e9 w' f b
end TPART2
