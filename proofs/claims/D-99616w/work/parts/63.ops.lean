/-! THE PLAIN LAW: the simple calls, one by one -/
set_option maxRecDepth 100000
/-- both refuse, the numbers by equations -/
theorem REL.ref2 {w : Wd} {i : Int} (R : REL w i) {c u v : Int} (hc : -6 ≤ c ∧ c ≤ -1) (hu : u = gV w 101 (-c) + 1) (hv : v = gV w 2 (-c) + 1) : REL (sV (sV (sV (sV (sV w 100 0 c) 101 (-c) u) 0 0 0) 0 1 c) 2 (-c) v) (i + 6) := R.ref c hc (by rw [hu, hv])
/-- what was heard, ears, wants: the state's own rows change, and what is told -/
theorem REL.sta {w w' : Wd} {i i' : Int} (R : REL w i) (m : Sm w w') (hV : ∀ k j, ¬ Scr k j → ¬ Sca k j → k ≠ 3 → ¬ (140 ≤ k ∧ k ≤ 143) → gV w' k j = gV w k j) (hs : ScaR w' i') (hst : StaR w' 140 (gV w' 3)) (hrow : ∀ j, j = 0 ∨ j = 1 ∨ (3 ≤ j ∧ j < 80) ∨ 116 ≤ j → gV w' 3 j = gV w 3 j) : REL w' i' := by
  obtain ⟨h1, ⟨t1, t2, t3, t4⟩, h3, h4, h5, h6, h7, h8⟩ := R
  have hV2 : ∀ k j, ¬ ((k = 0 ∧ j ≠ 8 ∧ j ≠ 61) ∨ (k = 100 ∧ j ≠ 15 ∧ j ≠ 32) ∨ (8 ≤ k ∧ k < 60 ∧ k ≠ 31 ∧ k ≠ 32 ∧ k ≠ 33 ∧ k ≠ 52 ∧ k ≠ 53) ∨ (107 ≤ k ∧ k < 144) ∨ (190 ≤ k ∧ k < 300) ∨ (306 ≤ k ∧ k < 318) ∨ (432 ≤ k ∧ k < 1000) ∨ k = 101 ∨ k = 2 ∨ k = 3) → gV w' k j = gV w k j := fun k j hn => hV k j (by unfold Scr; omega) (by unfold Sca; omega) (by omega) (by omega)
  have hb := t3.1.2.2
  refine ⟨h1.sm m, ⟨t1.fr (fun k j a b => hV2 k j (by omega)) (fun j a b => hrow _ (by omega)), ?_, hst, ?_⟩, h3.fr (by decide) m (fun k j hk => hV2 k j (by omega)), h4.fr (by decide) m (fun k j hk => hV2 k j (by omega)), h5.fr (fun k j hk => hV2 k j (by omega)), h6.fr hb m (fun k j hk => hV2 k j (by omega)) ⟨hrow _ (by omega), hrow _ (by omega), hrow _ (by omega), hrow _ (by omega)⟩, hs, h8.1.fr (fun k j hk => hV2 k j (by omega)), h8.2.fr m (fun q => hV2 5 q (by omega))⟩
  · rw [hrow 0 (by omega), hrow 1 (by omega)]
    exact t2.fr hb (fun j a b => hrow _ (by omega))
  · obtain ⟨l1, l2, ⟨n, l3, l4, l5, l6⟩, l7, l8, l9, l10, l11, l12⟩ := t4
    refine ⟨(m.1 _).trans l1, (m.2 _ _).trans l2, ⟨n, (m.1 _).trans l3, l4, l5, by rw [hrow 3 (by omega)]; exact ⟨l6.1, fun q hq => (m.2 _ _).trans (l6.2 q hq)⟩⟩, by rw [hV2 144 2 (by omega), hrow 3 (by omega)]; exact l7, by rw [hrow 3 (by omega)]; exact l8, by rw [hrow 3 (by omega)]; exact l9, by rw [hrow 4 (by omega)]; exact l10, by rw [hrow 3 (by omega), hrow 4 (by omega)]; exact l11, fun q a b => ?_⟩
    rw [hrow 3 (by omega)] at b
    obtain ⟨k, g1, g2⟩ := l12 q a b
    exact ⟨k, (m.2 _ _).trans g1, LawR.hi (Hi.of m.1 m.2 (fun k hk j => hV2 k j (by omega))) (fun j a b => hrow _ (by omega)) g2⟩
/-- both are done: the status is 0 -/
theorem ScaR.done {w w' : Wd} {i : Int} (h : ScaR w i) (h0 : gV w' 100 0 = 0) (h1 : gV w' 0 1 = 0)
    (hV : ∀ k j, (k = 0 ∧ (j = 13 ∨ j = 18 ∨ j = 11 ∨ j = 57 ∨ j = 20)) ∨ (k = 100 ∧ (j = 11 ∨ j = 12 ∨ j = 13 ∨ j = 14)) ∨ k = 12 ∨ k = 110 ∨ k = 125 ∨ k = 101 ∨ k = 2 → gV w' k j = gV w k j) : ScaR w' (i + 6) := by
  obtain ⟨a1, a2, a3, a4, a5, a6, a7, a8, a9⟩ := h
  refine ⟨by omega, fun q a b => ?_, by rw [hV 100 11 (by omega), hV 0 13 (by omega)]; exact a3, fun q a b => by rw [hV 12 _ (by omega), hV 110 _ (by omega)]; exact a4 q a b, by rw [hV 100 12 (by omega), hV 0 18 (by omega)]; exact a5, by rw [hV 100 13 (by omega), hV 0 11 (by omega)]; exact a6, by rw [hV 100 14 (by omega), hV 0 57 (by omega)]; exact a7, by rw [hV 0 20 (by omega)]; exact a8, fun q a b => by rw [hV 125 _ (by omega)]; exact a9 q a b⟩
  rw [hV 101 _ (by omega), hV 2 _ (by omega)]
  have := a2 q a b
  omega
theorem op_hear {w : Wd} {i a b c : Int} (R : REL w i) (h1 : inI a) (h2 : inI b) (h3 : inI c) {K : Int → Int → Wd → Prop} (hK : ∀ r w', inI r → REL w' (i + 6) → K r r w') : wp_X0_hear 100 a b c w fun r w1 => wp_X5_hear 0 a b c w1 fun r2 w2 => K r r2 w2 := by
  have S := R.1
  have hn := R.2.1.2.2.1.2.2.1
  obtain ⟨e1, n1, n2⟩ := hn
  unfold wp_X0_hear wp_X0_hear_23 wp_X5_hear wp_X5_hear_29
  repeat' (with_reducible first | refine s_gfI (by with_unfolding_all exact KF S rfl) (by repeat (first | exact rd_at | (apply rd_eq; omega) | (apply rd_ne; focus omega) | exact rfl)) ?_ | refine s_gfA (by with_unfolding_all exact KF S rfl) (by with_unfolding_all exact RF S rfl) ?_ | refine s_gfR (by with_unfolding_all exact KF S rfl) (by with_unfolding_all exact RF S rfl) ?_ | refine s_dO ?_ | refine s_cO (by with_unfolding_all exact KF S rfl) ?_ | refine s_alI (by with_unfolding_all exact KF S rfl) (by decide) ⟨by omega, by omega⟩ (by repeat (first | exact rd_at | (apply rd_eq; omega) | (apply rd_ne; focus omega) | exact rfl)) ?_ | refine s_asI (by with_unfolding_all exact KF S rfl) (by decide) ⟨by omega, by omega⟩ ?_ | refine s_pfI (by with_unfolding_all exact KF S rfl) ?_ | refine s_pfZ (by with_unfolding_all exact KF S rfl) (by omega) ?_ | refine s_ckI (by first | assumption | exact b2i_in | exact ⟨by omega, by omega⟩) ?_ | refine s_ckL (by first | assumption | exact b2i_in | exact ⟨by omega, by omega⟩) ?_ | refine s_ckN (by omega) ?_ | refine s_zrb ?_ | refine s_zr (by omega) ?_ | (refine s_br0 (fun _ => ?_) (fun _ => ?_) <;> try (exfalso; omega)) | (refine s_br1 (fun _ => ?_) (fun _ => ?_) <;> try (exfalso; omega)) | (refine s_br (fun _ => ?_) (fun _ => ?_) <;> try (exfalso; omega)) | refine Eq.mpr (x0_in (by first | assumption | exact b2i_in | exact ⟨by omega, by omega⟩) (by first | assumption | exact b2i_in | exact ⟨by omega, by omega⟩) (by first | assumption | exact b2i_in | exact ⟨by omega, by omega⟩)) ?_ | refine Eq.mpr (x5_in (by first | assumption | exact b2i_in | exact ⟨by omega, by omega⟩) (by first | assumption | exact b2i_in | exact ⟨by omega, by omega⟩) (by first | assumption | exact b2i_in | exact ⟨by omega, by omega⟩)) ?_ | refine Eq.mpr (x0_isBar (by first | assumption | exact b2i_in | exact ⟨by omega, by omega⟩)) ?_ | refine Eq.mpr (x0_isTooth (by first | assumption | exact b2i_in | exact ⟨by omega, by omega⟩)) ?_ | refine Eq.mpr (x0_isSet (by first | assumption | exact b2i_in | exact ⟨by omega, by omega⟩)) ?_ | refine Eq.mpr (x5_isBar (by first | assumption | exact b2i_in | exact ⟨by omega, by omega⟩)) ?_ | refine Eq.mpr (x5_isTooth (by first | assumption | exact b2i_in | exact ⟨by omega, by omega⟩)) ?_ | refine Eq.mpr (x0_table (by with_unfolding_all exact S)) ?_ | refine Eq.mpr (x0_isBox (by with_unfolding_all exact S) (by first | assumption | exact b2i_in | exact ⟨by omega, by omega⟩) (by omega)) ?_ | refine Eq.mpr (x0_isSuitor (by with_unfolding_all exact S) (by first | assumption | exact b2i_in | exact ⟨by omega, by omega⟩) (by omega)) ?_ | refine Eq.mpr (x5_isBox (by with_unfolding_all exact S) (by first | assumption | exact b2i_in | exact ⟨by omega, by omega⟩) (by omega)) ?_ | refine Eq.mpr (x5_isSuitor (by with_unfolding_all exact S) (by first | assumption | exact b2i_in | exact ⟨by omega, by omega⟩) (by omega)) ?_ | refine Eq.mpr (x0_refuse (by with_unfolding_all exact S) (by omega)) ?_ | refine Eq.mpr (x0_done (by with_unfolding_all exact S)) ?_ | refine Eq.mpr (x0_settled (by with_unfolding_all exact S)) ?_ | refine Eq.mpr (x5_settled (by with_unfolding_all exact S) (by omega)) ?_ | refine Eq.mpr (x5_change (by with_unfolding_all exact S) (by omega)) ?_ | refine Eq.mpr (x5_no (by with_unfolding_all exact S) (by omega)) ?_ | refine Eq.mpr (x5_yes (by with_unfolding_all exact S) (by omega)) ?_)
  case refine_2.refine_2.refine_1.refine_1.refine_2.refine_2.refine_1.refine_1 =>
    rw [e1]
    have st := R.2.1.2.2.1
    generalize hN : gV w 3 2 = N at *
    refine hK _ _ ⟨by omega, by omega⟩ (R.sta (Sm.rf (w := w)) (fun k j u1 u2 u3 u4 => ?_) (R.2.2.2.2.2.2.1.done ?_ ?_ (fun k j hk => ?_)) ?_ (fun j hj => ?_))
    · unfold Scr at u1; unfold Sca at u2
      iterate 13 (first | rw [gV_ne (by omega)] | skip)
    · iterate 13 (first | rw [gV_at] | rw [gV_ne (by omega)] | skip)
    · iterate 13 (first | rw [gV_at] | rw [gV_ne (by omega)] | skip)
    · iterate 13 (first | rw [gV_ne (by omega)] | skip)
    · obtain ⟨a1, a2, a3, a4, a5, a6, a7, a8, a9⟩ := st
      refine ⟨?_, ?_, ?_, ?_, ?_, ?_, fun j u v => ?_, fun j u v => ?_, fun j u v => ?_⟩
      · simp (disch := omega) only [gV_ne]; exact a1
      · simp (disch := omega) only [gV_ne]; exact a2
      · simp (disch := omega) only [gV_ne, gV_at, true_and]; omega
      · simp (disch := omega) only [gV_ne]; exact a4
      · simp (disch := omega) only [gV_ne]; exact a5
      · simp (disch := omega) only [gV_ne]; exact a6
      · simp (disch := omega) only [gV_ne]; exact a7 j u v
      · by_cases q2 : j = 3 * N + 2
        · subst q2
          simp (disch := omega) only [gV_ne, gV_at, rd_eq]
        · by_cases q1 : j = 3 * N + 1
          · subst q1
            simp (disch := omega) only [gV_ne, gV_at, rd_eq]
          · by_cases q0 : j = 3 * N
            · subst q0
              simp (disch := omega) only [gV_ne, gV_at, rd_eq]
            · simp (disch := omega) only [gV_ne]; exact a8 j u v
      · have v : j < N + 1 := by simpa (disch := omega) only [gV_ne, gV_at] using v
        by_cases q0 : j = N
        · subst q0
          simp (disch := omega) only [gV_ne, gV_at, rd_eq]
          omega
        · simp (disch := omega) only [gV_ne]
          exact a9 j u (by omega)
    · simp (disch := omega) only [gV_ne]
  all_goals exact hK _ _ ⟨by decide, by decide⟩ (R.ref2 ⟨by decide, by decide⟩ rfl (by rw [gV_ne (by omega), gV_ne (by omega), gV_ne (by omega)]))

