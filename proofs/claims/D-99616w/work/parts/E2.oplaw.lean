/-! THE PLAIN LAW: law -/
set_option maxRecDepth 100000
section OPLAW
variable {w w' w0 w1 w2 : Wd} {i : Int} {bc bs : Nat} {K : Int → Int → Wd → Prop} {T : Int → Int} {N : Int}
theorem SRt_144 : ∀ e ∈ SRt, e.1 ≠ 144 := by decide +kernel
/-- static cells but the laws' list stand -/
theorem SOK.o144 (S : SOK w) (h : ∀ k, k < 800 → k ≠ 144 → k ≠ 145 → gK w k ≠ none → gK w' k = gK w k ∧ ∀ j, gR w' k j = gR w k j) (h1 : gK w' 144 = some (.inl 18)) : SOK w' := by
  refine ⟨fun e he => ?_, fun e he => ?_⟩
  · have q := S.1 e he
    have r := SKt_in e he
    by_cases z : e.1 = 144
    · rw [z] at q ⊢
      rw [h1, ← q]
      exact (KF S (k := 144) rfl).symm
    · exact ((h e.1 r.1 z r.2.1 (kd_ne q)).1).trans q
  · have q := SRt_in e he
    obtain ⟨d, hd⟩ := Option.isSome_iff_exists.mp q.2.2
    have k9 := KF S hd
    exact ((h e.1 q.1.1 (SRt_144 e he) q.1.2.1 (kd_ne k9)).2 _).trans (S.2 e he)
/-- all told: a text was read -/
theorem ScaR.tx (h : ScaR w i) (h0 : gV w' 100 0 = 0) (h1 : gV w' 0 1 = 0) (h6 : gV w' 100 11 = gV w' 0 13 ∧ 0 ≤ gV w' 0 13 ∧ gV w' 0 13 ≤ 400) (h7 : gV w' 100 12 = gV w' 0 18 ∧ -1 ≤ gV w' 0 18 ∧ gV w' 0 18 ≤ 400) (h9 : gV w' 0 20 = 0) (hV : ∀ k j, (k = 0 ∧ j = 11) ∨ (k = 100 ∧ j = 13) ∨ (k = 0 ∧ j = 57) ∨ (k = 100 ∧ j = 14) ∨ k = 101 ∨ k = 2 ∨ k = 12 ∨ k = 110 ∨ k = 125 → gV w' k j = gV w k j) : ScaR w' (i + 6) := by
  obtain ⟨a1, a2, a3, a4, a5, a6, a7, a8, a9⟩ := h
  refine ⟨⟨h0.trans h1.symm, by rw [h1]; decide, by rw [h1]; decide⟩, fun q u v => ?_, h6, fun q u v => by rw [hV 12 _ (by omega), hV 110 _ (by omega)]; exact a4 q u v, h7, by rw [hV 100 13 (by omega), hV 0 11 (by omega)]; exact a6, by rw [hV 100 14 (by omega), hV 0 57 (by omega)]; exact a7, h9, fun q u v => by rw [hV 125 _ (by omega)]; exact a9 q u v⟩
  have := a2 q u v
  rw [hV 101 _ (by omega), hV 2 _ (by omega)]
  omega
/-- the tape, as the component sees it -/
theorem REL.tpe (R : REL w i) : TPE (gV w 12) (gV w 0 13) w := by
  have S := R.1
  obtain ⟨s1, s2, ⟨f, f0, f1⟩, s4, _⟩ := R.2.2.2.2.2.2.1
  refine ⟨⟨f0, f1⟩, KF S rfl, fun q u v => ?_⟩
  have h := s4 q u v
  refine ⟨⟨h.1, h.2.1⟩, ?_⟩
  by_cases y : gV w 12 q < 128
  · rw [if_pos y] at h; exact Or.inl ⟨h.2.2, y⟩
  · rw [if_neg y] at h; exact Or.inr ⟨h.2.2, by omega⟩
theorem REL.img0 (R : REL w i) : ∀ q : Nat, q < 2 → gV w 5 q = 0 → gR w 103 q = none := by
  intro q hq h0
  obtain ⟨h1, h2, h3, h4, _⟩ := R
  rcases (by omega : q = 0 ∨ q = 1) with r | r <;> subst r
  · rcases h3 with y | y
    · exact y.2
    · rw [y.1] at h0; cases h0
  · rcases h4 with y | y
    · exact y.2
    · rw [y.1] at h0; cases h0
/-- new cells, a text not read: the two refuse -/
theorem law_bad {e : Int} (R : REL w i) (f : KPW (sV w 100 11 0) w1) (I : TIW w1) (he : gV w 0 13 ≤ 400 ∧ 0 ≤ e ∧ e ≤ 400) (hr : rdS (gV w 12) (gV w 0 13) false = .error e) (hnl : gV w 3 3 ≠ 6) (hK : ∀ r r2 w', r = r2 → inI r → RKR w' (i + 6) → K r r2 w') : wp_X0_refuse 100 (-6) (sV w1 100 12 e) fun r w1 => wp_X5_law 0 w1 fun r2 w2 => K r r2 w2 := by
  have S := R.1
  have sc := R.2.2.2.2.2.2.1
  have lw := R.2.1.2.2.2
  have S1 : SOK w1 := SOK.old (w := sV w 100 11 0) S (fun k hk => ⟨(f k hk).1, (f k hk).2.1⟩)
  have V1 : ∀ k j, gK w k ≠ none → ¬ (k = 100 ∧ j = 11) → gV w1 k j = gV w k j := fun k j hk y => ((f k hk).2.2 j).trans (gV_ne y)
  have z11 : gV w1 100 11 = 0 := ((f 100 (kd_ne (KF S (k := 100) rfl))).2.2 11).trans gV_at
  have S2 : SOK (sV w1 100 12 e) := S1
  refine Eq.mpr (x0_refuse S2 (by omega)) ?_
  have S3 : SOK (sV (sV (sV w1 100 12 e) 100 0 (-6)) 101 (-(-6)) (gV (sV w1 100 12 e) 101 (-(-6)) + 1)) := S1
  have V3 : ∀ k j, gK w k ≠ none → ¬ (k = 100 ∧ (j = 11 ∨ j = 12 ∨ j = 0)) → ¬ (k = 101 ∧ j = 6) → gV (sV (sV (sV w1 100 12 e) 100 0 (-6)) 101 (-(-6)) (gV (sV w1 100 12 e) 101 (-(-6)) + 1)) k j = gV w k j := fun k j hk a b => (gV_ne (fun y => b ⟨y.1, y.2⟩)).trans ((gV_ne (by omega)).trans ((gV_ne (by omega)).trans (V1 k j hk (by omega))))
  have e0 : gV (sV (sV (sV w1 100 12 e) 100 0 (-6)) 101 (-(-6)) (gV (sV w1 100 12 e) 101 (-(-6)) + 1)) 100 0 = -6 := (gV_ne (by omega)).trans gV_at
  have e11 : gV (sV (sV (sV w1 100 12 e) 100 0 (-6)) 101 (-(-6)) (gV (sV w1 100 12 e) 101 (-(-6)) + 1)) 100 11 = 0 := (gV_ne (by omega)).trans ((gV_ne (by omega)).trans ((gV_ne (by omega)).trans z11))
  have e12 : gV (sV (sV (sV w1 100 12 e) 100 0 (-6)) 101 (-(-6)) (gV (sV w1 100 12 e) 101 (-(-6)) + 1)) 100 12 = e := (gV_ne (by omega)).trans ((gV_ne (by omega)).trans gV_at)
  have e6 : gV (sV (sV (sV w1 100 12 e) 100 0 (-6)) 101 (-(-6)) (gV (sV w1 100 12 e) 101 (-(-6)) + 1)) 101 6 = gV w 101 6 + 1 := by
    have q : gV (sV w1 100 12 e) 101 (-(-6)) = gV w 101 6 := (gV_ne (by omega)).trans (V1 101 6 (kd_ne (KF S (k := 101) rfl)) (by omega))
    rw [q]
    exact gV_at
  have f3 : KPW (sV w 100 11 0) w1 := f
  have m3 : Sm w1 (sV (sV (sV w1 100 12 e) 100 0 (-6)) 101 (-(-6)) (gV (sV w1 100 12 e) 101 (-(-6)) + 1)) := Sm.rf.sV.sV.sV
  generalize sV (sV (sV w1 100 12 e) 100 0 (-6)) 101 (-(-6)) (gV (sV w1 100 12 e) 101 (-(-6)) + 1) = w3 at *
  have lv : ∀ {k : Nat}, NEED k → gK w k ≠ none := fun h => need_lv S h
  unfold wp_X5_law
  refine s_pfI (KF S3 rfl) ?_
  have S4 : SOK (sV w3 0 0 0) := S3
  have V4 : ∀ k j, gK w k ≠ none → ¬ (k = 100 ∧ (j = 11 ∨ j = 12 ∨ j = 0)) → ¬ (k = 101 ∧ j = 6) → ¬ (k = 0 ∧ j = 0) → gV (sV w3 0 0 0) k j = gV w k j := fun k j hk a b c => (gV_ne c).trans (V3 k j hk a b)
  have z100 : ∀ j, gV (sV w3 0 0 0) 100 j = gV w3 100 j := fun j => gV_ne (by omega)
  have z101 : ∀ j, gV (sV w3 0 0 0) 101 j = gV w3 101 j := fun j => gV_ne (by omega)
  have m4 : Sm w1 (sV w3 0 0 0) := m3.sV
  generalize sV w3 0 0 0 = w4 at *
  have n3 : gV w4 3 3 = gV w 3 3 := V4 3 3 (lv (by omega)) (by omega) (by omega) (by omega)
  have hTT : TTX (gV w 12) (gV w 0 13) w4 := ⟨S4, ⟨sc.2.2.1.2.1, he.1⟩, V4 0 13 (lv (by omega)) (by omega) (by omega) (by omega), fun q a b => ⟨V4 12 q (lv (by omega)) (by omega) (by omega) (by omega), (sc.2.2.2.1 q a b).1, (sc.2.2.2.1 q a b).2.1⟩⟩
  have hC : ConR w4 := R.2.2.2.2.1.fr (fun k j hk => V4 k j (lv (by omega)) (by omega) (by omega) (by omega))
  refine s_gfA (KF S4 rfl) (RF S4 rfl) (s_alI (KF S4 rfl) (by decide) ⟨by decide, by decide⟩ n3 (s_ckI ⟨by have := lw.2.2.2.2.1; omega, by have := lw.2.2.2.2.2.1; omega⟩ (s_br (fun _ => s_cO (KF S4 rfl) ?_) (fun y => absurd hnl y))))
  refine q5_text_readLaw hTT hC (fun l t q => by rw [hr] at q; cases q) (fun e2 q w5 f5 v19 v18 v13 => ?_)
  rw [hr] at q
  injection q with q
  subst q
  have S5 := S4.sm f5.1
  refine s_gfI (KF S5 rfl) v19 (s_ckI ⟨by decide, by decide⟩ (s_br (fun y => absurd y (by decide)) (fun _ => s_cO (KF S5 rfl) (Eq.mpr (x5_no S5 ⟨by decide, by decide⟩) ?_))))
  have V5 : ∀ k j, gK w k ≠ none → ¬ (k = 100 ∧ (j = 11 ∨ j = 12 ∨ j = 0)) → ¬ (k = 101 ∧ j = 6) → ¬ (k = 0 ∧ (j = 0 ∨ j = 1 ∨ (13 ≤ j ∧ j ≤ 21) ∨ j = 23 ∨ j = 26 ∨ j = 29 ∨ j = 30)) → ¬ (22 ≤ k ∧ k ≤ 28) → k ≠ 54 → ¬ (k = 2 ∧ j = 6) → gV (sV (sV w5 0 1 (-6)) 2 (-(-6)) (gV w5 2 (-(-6)) + 1)) k j = gV w k j := fun k j hk a b c d e g => (gV_ne (fun y => g ⟨y.1, y.2⟩)).trans ((gV_ne (by omega)).trans ((f5.2 k j (by omega) d e).trans (V4 k j hk a b (by omega))))
  have m6 : Sm w1 (sV (sV w5 0 1 (-6)) 2 (-(-6)) (gV w5 2 (-(-6)) + 1)) := (m4.tr f5.1).sV.sV
  have g2 : gV (sV (sV w5 0 1 (-6)) 2 (-(-6)) (gV w5 2 (-(-6)) + 1)) 2 6 = gV w 2 6 + 1 := by
    have q : gV w5 2 (-(-6)) = gV w 2 6 := (f5.2 2 6 (by omega) (by omega) (by decide)).trans (V4 2 6 (lv (by omega)) (by omega) (by omega) (by omega))
    rw [q]
    exact gV_at
  have g1 : gV (sV (sV w5 0 1 (-6)) 2 (-(-6)) (gV w5 2 (-(-6)) + 1)) 0 1 = -6 := (gV_ne (by omega)).trans gV_at
  have z9 : ∀ k j, ¬ (k = 0 ∧ j = 1) → ¬ (k = 2 ∧ j = 6) → gV (sV (sV w5 0 1 (-6)) 2 (-(-6)) (gV w5 2 (-(-6)) + 1)) k j = gV w5 k j := fun k j a b => (gV_ne (fun y => b ⟨y.1, y.2⟩)).trans (gV_ne a)
  generalize sV (sV w5 0 1 (-6)) 2 (-(-6)) (gV w5 2 (-(-6)) + 1) = w6 at *
  have I6 : TIW w6 := I.sm m6
  have u100 : ∀ j, gV w6 100 j = gV w3 100 j := fun j => (z9 100 j (by omega) (by omega)).trans ((f5.2 100 j (by omega) (by omega) (by decide)).trans (z100 j))
  have u101 : ∀ j, gV w6 101 j = gV w3 101 j := fun j => (z9 101 j (by omega) (by omega)).trans ((f5.2 101 j (by omega) (by omega) (by decide)).trans (z101 j))
  have KR : ∀ k, gK w k ≠ none → gK w6 k = gK w k ∧ ∀ j, gR w6 k j = gR w k j := fun k hk => ⟨(m6.1 k).trans (f k hk).1, fun j => (m6.2 k j).trans ((f k hk).2.1 j)⟩
  have H : Hi w w6 := fun k hk hn => ⟨(KR k hn).1, fun j => V5 k j hn (by omega) (by omega) (by omega) (by omega) (by omega) (by omega), (KR k hn).2⟩
  have v5q : ∀ q : Int, gV w6 5 q = gV w 5 q := fun q => V5 5 q (lv (by omega)) (by omega) (by omega) (by omega) (by omega) (by omega) (by omega)
  refine hK _ _ _ rfl ⟨by decide, by decide⟩ (REL.rkr (REL.lawE R (S.old KR) H (fun k _ _ hk => ⟨(KR k hk).1, fun _ _ => (KR k hk).2⟩) (fun j => (KR 104 (lv (by omega))).2 j) (fun k j hk h1 h2 => V5 k j hk (by omega) (by omega) (by omega) (by omega) (by omega) (by omega)) ?_ ?_ (I6.tid (fun q hq h0 => ((KR 103 (lv (by omega))).2 _).trans (R.img0 q hq (by rw [← v5q]; exact h0))))))
  · have q18 : gV w6 0 18 = e := (z9 0 18 (by omega) (by omega)).trans v18
    have q13 : gV w6 0 13 = 0 := (z9 0 13 (by omega) (by omega)).trans v13.1
    refine ScaR.ref3 sc (-6) ⟨by decide, by decide⟩ ((u100 0).trans e0) g1 ((u101 6).trans e6) (fun q hq => ?_) g2 (fun q hq => ?_) ⟨?_, ?_, ?_⟩ ⟨?_, ?_, ?_⟩ ⟨?_, ?_, ?_⟩ ((z9 0 20 (by omega) (by omega)).trans v13.2) (fun k j hk => ?_)
    · exact V5 101 q (lv (by omega)) (by omega) (by omega) (by omega) (by omega) (by omega) (by omega)
    · exact V5 2 q (lv (by omega)) (by omega) (by omega) (by omega) (by omega) (by omega) (by omega)
    · rw [u100, e11, q13]
    · rw [q13]; decide
    · rw [q13]; decide
    · rw [u100, e12, q18]
    · rw [q18]; omega
    · rw [q18]; omega
    · rw [V5 100 14 (lv (by omega)) (by omega) (by omega) (by omega) (by omega) (by omega) (by omega), V5 0 57 (lv (by omega)) (by omega) (by omega) (by omega) (by omega) (by omega) (by omega)]; exact sc.2.2.2.2.2.2.1.1
    · rw [V5 0 57 (lv (by omega)) (by omega) (by omega) (by omega) (by omega) (by omega) (by omega)]; exact sc.2.2.2.2.2.2.1.2.1
    · rw [V5 0 57 (lv (by omega)) (by omega) (by omega) (by omega) (by omega) (by omega) (by omega)]; exact sc.2.2.2.2.2.2.1.2.2
    · exact V5 k j (lv (by omega)) (by omega) (by omega) (by omega) (by omega) (by omega) (by omega)
  · obtain ⟨n, l2, l3, l4, l5⟩ := lw.2.2.1
    exact lw.fr H ⟨(KR 144 (kd_ne lw.1)).1, (KR 145 (kd_ne l2)).1⟩ (KR 144 (kd_ne lw.1)).2 (KR 145 (kd_ne l2)).2 (V5 144 2 (kd_ne lw.1) (by omega) (by omega) (by omega) (by omega) (by omega) (by omega)) (fun j _ _ => V5 3 j (lv (by omega)) (by omega) (by omega) (by omega) (by omega) (by omega) (by omega))
end OPLAW
