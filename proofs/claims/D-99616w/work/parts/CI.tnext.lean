/-! THE PLAIN LAW: texts: the twin's next token, its words -/
set_option maxRecDepth 100000
section TNEXT
variable {T : Int → Int} {N : Int} {w w' w1 w2 : Wd} {k t n : Nat} {s : LX} {P : Prop} {v x i lo : Int} {Q : Int → Wd → Prop} {QW X : Wd → Prop}
theorem y5_loops {f e h : Int} (R : TTX T N w) (h0 : 0 ≤ f) (hf : f ≤ N) (e14 : gV w 0 14 = f) (h16 : gV w 0 16 = soT T N f) (e15 : gV w 0 15 = if soT T N f = 3 then f + 1 else f) (e17 : gV w 0 17 = if soT T N f = 3 then T f else 0) (hq : ∀ w', FN 15 w w' → gV w' 0 16 = soT T N f → gV w' 0 15 = teN T N f → gV w' 0 17 = woT T N f (teN T N f) → QW w') : wp_X5_next_149 QW (fun w4 => wp_X5_next_243 QW 0 FU w4) 0 FU w := by
  have hN := R.2.1
  have z0 : (f - f).toNat = 0 := by omega
  by_cases c1 : f < N ∧ smB (T f) = true
  · have so : soT T N f = 1 := by unfold soT; rw [if_neg (by omega), if_pos c1.2]
    rw [so] at h16 e15 e17
    rw [if_neg (by decide)] at e15 e17
    have te : teN T N f = ruN T N smB f := by unfold teN; rw [if_pos c1]
    refine y5_next_149 (f := f) 400 FU f w (by omega) (by decide) h0 (Int.le_refl _) hf R e14 e15 h16 (by rw [z0]; exact e17) (fun w' f1 a b c => ?_)
    have S' := (R.fn f1 (by decide)).1
    unfold FU
    rw [wp_X5_next_243]
    refine s_gfI (KF S' rfl) a (s_ckI ⟨by decide, by decide⟩ (s_br (fun _ => ?_) (fun y => absurd (by decide) y)))
    refine hq w' f1 (a.trans so.symm) (b.trans te.symm) ?_
    unfold woT
    rw [if_pos so, te]
    exact c
  · have n1 : gV w 0 16 ≠ 1 := by
      rw [h16]
      intro y
      unfold soT at y
      split at y
      · omega
      · split at y
        · next g1 g2 => exact c1 ⟨by omega, g2⟩
        · split at y <;> omega
    have S := R.1
    have i16 : 0 ≤ soT T N f ∧ soT T N f ≤ 3 := by
      unfold soT
      split
      · omega
      · split
        · omega
        · split <;> omega
    have go : wp_X5_next_243 QW 0 FU w := by
      by_cases c2 : f < N ∧ dgB (T f) = true
      · have so : soT T N f = 2 := by
          unfold soT
          rw [if_neg (by omega), if_neg (fun y => c1 ⟨c2.1, y⟩), if_pos c2.2]
        rw [so] at h16 e15 e17
        rw [if_neg (by decide)] at e15 e17
        have te : teN T N f = ruN T N dgB f := by unfold teN; rw [if_neg c1, if_pos c2]
        refine y5_next_243 (f := f) 400 FU f w (by omega) (by decide) h0 (Int.le_refl _) hf (fun j hj => by omega) R e14 e15 h16 (by rw [z0]; exact e17) (fun w' f1 a b c => ?_)
        refine hq w' f1 (a.trans so.symm) (b.trans te.symm) ?_
        unfold woT
        rw [if_neg (by rw [so]; decide), if_pos so, te]
        exact c
      · have n2 : soT T N f ≠ 2 := by
          intro y
          unfold soT at y
          split at y
          · omega
          · split at y
            · omega
            · split at y
              · next g1 g2 g3 => exact c2 ⟨by omega, g3⟩
              · omega
        unfold FU
        rw [wp_X5_next_243]
        refine s_gfI (KF S rfl) h16 (s_ckI ⟨by omega, by omega⟩ (s_br (fun _ => ?_) (fun y => absurd n2 y)))
        refine hq w FN.rf h16 ?_ ?_
        · rw [e15]
          unfold teN
          rw [if_neg c1, if_neg c2]
          by_cases g : f < N
          · have so : soT T N f = 3 := by
              unfold soT
              rw [if_neg (by omega), if_neg (fun y => c1 ⟨g, y⟩), if_neg (fun y => c2 ⟨g, y⟩)]
            rw [if_pos so, if_pos g]
          · have so : soT T N f = 0 := by unfold soT; rw [if_pos (by omega)]
            rw [if_neg (by rw [so]; decide), if_neg g]
        · rw [e17]
          unfold woT
          have n1' : ¬ soT T N f = 1 := by rw [← h16]; exact n1
          rw [if_neg n1', if_neg n2]
    unfold FU
    rw [wp_X5_next_149]
    exact s_gfI (KF S rfl) h16 (s_ckI ⟨by omega, by omega⟩ (s_br (fun _ => go) (fun y => absurd (by rw [← h16]; exact n1) y)))
theorem y5_next0 (R : TTX T N w) (r15 : gV w 0 15 = s.2.1) (h0 : 0 ≤ s.2.1) (hN1 : s.2.1 ≤ N) (hq : ∀ w', FN 14 w w' → TWX T N w' (nxS T N s) → QW w') : wp_X5_next 0 w QW := by
  have S := R.1
  have hN := R.2.1
  have sk := skN_sp (T := T) hN1
  unfold wp_X5_next
  refine s_gfI (KF S rfl) r15 (s_pfI (KF S rfl) ?_)
  have f1 : FN 14 w (sV w 0 14 s.2.1) := FN.rf.sV (by decide)
  have R1 := R.fn f1 (by decide)
  refine y5_next_8 400 FU s.2.1 _ (by omega) (by decide) h0 hN1 R1 gV_at (fun w2 f2 e14 => ?_)
  have f02 := f1.tr f2
  have R2 := R.fn f02 (by decide)
  have S2 := R2.1
  unfold wp_X5_next_46
  refine s_gfI (KF S2 rfl) e14 (s_pfI (KF S2 rfl) ?_)
  have f3 : FN 14 w2 (sV w2 0 15 (skN T N s.2.1)) := FN.rf.sV (by decide)
  have S3 := (R2.fn f3 (by decide)).1
  refine s_pfI (KF S3 rfl) ?_
  have f4 : FN 14 w2 (sV (sV w2 0 15 (skN T N s.2.1)) 0 17 0) := f3.sV (by decide)
  have R4 := R2.fn f4 (by decide)
  have q14 : gV (sV (sV w2 0 15 (skN T N s.2.1)) 0 17 0) 0 14 = skN T N s.2.1 := (gV_ne (by omega)).trans ((gV_ne (by omega)).trans e14)
  have q15 : gV (sV (sV w2 0 15 (skN T N s.2.1)) 0 17 0) 0 15 = skN T N s.2.1 := (gV_ne (by omega)).trans gV_at
  have q17 : gV (sV (sV w2 0 15 (skN T N s.2.1)) 0 17 0) 0 17 = 0 := gV_at
  have f04 := f02.tr f4
  generalize sV (sV w2 0 15 (skN T N s.2.1)) 0 17 0 = w4 at *
  have S4 := R4.1
  have e13 := R4.2.2.1
  have hT := R4.2.2.2
  have fin : ∀ c : Int, c = soT T N (skN T N s.2.1) → wp_X5_next_114 QW 0 c 0 w4 := by
    intro c hc
    unfold wp_X5_next_114
    have ci : 0 ≤ c ∧ c ≤ 3 := by
      rw [hc]
      unfold soT
      split
      · omega
      · split
        · omega
        · split <;> omega
    refine s_pfI (KF S4 rfl) ?_
    have f5 : FN 14 w4 (sV w4 0 16 c) := FN.rf.sV (by decide)
    have R5 := R4.fn f5 (by decide)
    have S5 := R5.1
    refine s_gfI (KF S5 rfl) gV_at (s_ckI ⟨by omega, by omega⟩ (s_br (fun y => ?_) (fun y => ?_)))
    · refine y5_loops (e := 0) (h := 0) R5 (by omega) sk.1.2 ((gV_ne (by omega)).trans q14) (gV_at.trans hc) (by rw [if_neg (by rw [← hc]; exact y)]; exact (gV_ne (by omega)).trans q15) (by rw [if_neg (by rw [← hc]; exact y)]; exact (gV_ne (by omega)).trans q17) (fun w' f' a b d => ?_)
      have ff := f5.tr (f'.we (by decide))
      exact hq w' (f04.tr ff) ⟨R4.fn ff (by decide), (f'.2 0 14 (by omega)).trans ((gV_ne (by omega)).trans q14), b, a, d⟩
    · have y : c = 3 := Decidable.not_not.mp y
      have lt : skN T N s.2.1 < N := by
        by_cases g : skN T N s.2.1 < N
        · exact g
        · exfalso
          have so : soT T N (skN T N s.2.1) = 0 := by unfold soT; rw [if_pos (by omega)]
          omega
      have gq := R5.2.2.2 (skN T N s.2.1) (by omega) (by omega)
      refine s_gfA (KF S5 rfl) (RF S5 rfl) (s_gfI (KF S5 rfl) ((gV_ne (by omega)).trans q14) (s_alI (KF S5 rfl) (by decide) ⟨by omega, by omega⟩ gq.1 (s_ckI ⟨by omega, by omega⟩ (s_pfI (KF S5 rfl) ?_))))
      have f6 : FN 14 w4 (sV (sV w4 0 16 c) 0 17 (T (skN T N s.2.1))) := f5.sV (by decide)
      have R6 := R4.fn f6 (by decide)
      have S6 := R6.1
      refine s_gfI (KF S6 rfl) ((gV_ne (by omega)).trans ((gV_ne (by omega)).trans q15)) (s_pfI (KF S6 rfl) ?_)
      have f7 : FN 14 w4 (sV (sV (sV w4 0 16 c) 0 17 (T (skN T N s.2.1))) 0 15 (skN T N s.2.1 + 1)) := f6.sV (by decide)
      have R7 := R4.fn f7 (by decide)
      have so3 : soT T N (skN T N s.2.1) = 3 := by omega
      refine y5_loops (e := 0) (h := 0) R7 (by omega) sk.1.2 ((gV_ne (by omega)).trans ((gV_ne (by omega)).trans ((gV_ne (by omega)).trans q14))) ((gV_ne (by omega)).trans ((gV_ne (by omega)).trans (gV_at.trans hc))) (by rw [if_pos so3]; exact gV_at) (by rw [if_pos so3]; exact (gV_ne (by omega)).trans gV_at) (fun w' f' a b d => ?_)
      have ff := f7.tr (f'.we (by decide))
      exact hq w' (f04.tr ff) ⟨R4.fn ff (by decide), (f'.2 0 14 (by omega)).trans ((gV_ne (by omega)).trans ((gV_ne (by omega)).trans ((gV_ne (by omega)).trans q14))), b, a, d⟩
  refine s_gfI (KF S4 rfl) q14 (s_gfI (KF S4 rfl) e13 (s_ckI ⟨by omega, by omega⟩ (s_ckI ⟨by omega, by omega⟩ (s_br (fun y => ?_) (fun y => ?_)))))
  · have gq := hT (skN T N s.2.1) (by omega) (by omega)
    refine s_gfA (KF S4 rfl) (RF S4 rfl) (s_gfI (KF S4 rfl) q14 (s_alI (KF S4 rfl) (by decide) ⟨by omega, by omega⟩ gq.1 (y5_isSmall gq.2 (s_ckI b2i_in ?_))))
    by_cases z1 : smB (T (skN T N s.2.1)) = true
    · rw [b2i_t z1]
      exact s_br (fun y => absurd y (by decide)) (fun _ => fin 1 (by unfold soT; rw [if_neg (by omega), if_pos z1]))
    · rw [b2i_f z1]
      refine s_br (fun _ => ?_) (fun y => absurd rfl y)
      refine s_gfA (KF S4 rfl) (RF S4 rfl) (s_gfI (KF S4 rfl) q14 (s_alI (KF S4 rfl) (by decide) ⟨by omega, by omega⟩ gq.1 (y5_isDigit gq.2 (s_ckI b2i_in ?_))))
      by_cases z2 : dgB (T (skN T N s.2.1)) = true
      · rw [b2i_t z2]
        exact s_br (fun y => absurd y (by decide)) (fun _ => fin 2 (by unfold soT; rw [if_neg (by omega), if_neg z1, if_pos z2]))
      · rw [b2i_f z2]
        exact s_br (fun _ => fin 3 (by unfold soT; rw [if_neg (by omega), if_neg z1, if_neg z2])) (fun y => absurd rfl y)
  · exact fin 0 (by unfold soT; rw [if_pos (by omega)])
theorem y5_next (R : TWX T N w s) (h0 : 0 ≤ s.2.1) (hN1 : s.2.1 ≤ N) (hq : ∀ w', FN 14 w w' → TWX T N w' (nxS T N s) → QW w') : wp_X5_next 0 w QW := y5_next0 R.1 R.2.2.1 h0 hN1 hq
end TNEXT
