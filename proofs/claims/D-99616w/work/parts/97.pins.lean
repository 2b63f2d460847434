/-! THE PLAIN LAW: pins -/
set_option maxRecDepth 100000
theorem op_pins {w : Wd} {i a b c : Int} (R : REL w i) (h1 : inI a) (h2 : inI b) (h3 : inI c) {K : Int → Int → Wd → Prop} (hK : ∀ r r2 w', r = r2 → inI r → REL w' (i + 6) → K r r2 w') : wp_X0_pins 100 a b c w fun r w1 => wp_X5_pins 0 a b c w1 fun r2 w2 => K r r2 w2 := by
  have S := R.1
  have sc := R.2.2.2.2.2.2.1
  have st := R.2.1.2.2.1
  have tb := R.2.1.1
  have ok := R.2.1.2.1
  have f0 := st.1
  unfold wp_X0_pins wp_X5_pins wp_X0_pins_14 wp_X5_pins_24 wp_X2_pinsAt
  repeat' (with_reducible first | (refine s_gfI (by with_unfolding_all exact KF S rfl) (by repeat (first | exact rd_at | (apply rd_eq; omega) | (apply rd_ne; focus omega) | assumption | exact rfl)) ?_) | refine s_gfA (by with_unfolding_all exact KF S rfl) (by with_unfolding_all exact RF S rfl) ?_ | refine s_gfR (by with_unfolding_all exact KF S rfl) (by with_unfolding_all exact RF S rfl) ?_ | refine s_dO ?_ | refine s_cO (by with_unfolding_all exact KF S rfl) ?_ | (refine s_alI (by with_unfolding_all exact KF S rfl) (by decide) ⟨by omega, by omega⟩ (by repeat (first | exact rd_at | (apply rd_eq; omega) | (apply rd_ne; focus omega) | assumption | exact rfl)) ?_) | refine s_asI (by with_unfolding_all exact KF S rfl) (by decide) ⟨by omega, by omega⟩ ?_ | refine s_pfI (by with_unfolding_all exact KF S rfl) ?_ | refine s_pfZ (by with_unfolding_all exact KF S rfl) (by omega) ?_ | refine s_ckI (by first | assumption | exact b2i_in | exact ⟨by omega, by omega⟩) ?_ | refine s_ckL (by first | assumption | exact ⟨by omega, by omega⟩ | exact inIL b2i_in) ?_ | refine s_ckN (by omega) ?_ | refine s_zrb ?_ | refine s_zr (by omega) ?_ | ((refine s_br0 (fun _ => ?_) (fun _ => ?_) <;> try (exfalso; first | omega | contradiction))) | ((refine s_br1 (fun _ => ?_) (fun _ => ?_) <;> try (exfalso; first | omega | contradiction))) | ((refine s_br (fun _ => ?_) (fun _ => ?_) <;> try (exfalso; first | omega | contradiction))) | refine Eq.mpr (x0_in (by first | assumption | exact b2i_in | exact ⟨by omega, by omega⟩) (by first | assumption | exact b2i_in | exact ⟨by omega, by omega⟩) (by first | assumption | exact b2i_in | exact ⟨by omega, by omega⟩)) ?_ | refine Eq.mpr (x5_in (by first | assumption | exact ⟨by omega, by omega⟩ | exact inIL b2i_in) (by first | assumption | exact ⟨by omega, by omega⟩ | exact inIL b2i_in) (by first | assumption | exact ⟨by omega, by omega⟩ | exact inIL b2i_in)) ?_ | refine Eq.mpr (x0_isBar (by first | assumption | exact b2i_in | exact ⟨by omega, by omega⟩)) ?_ | refine Eq.mpr (x0_isTooth (by first | assumption | exact b2i_in | exact ⟨by omega, by omega⟩)) ?_ | refine Eq.mpr (x0_isSet (by first | assumption | exact b2i_in | exact ⟨by omega, by omega⟩)) ?_ | refine Eq.mpr (x5_isBar (by first | assumption | exact b2i_in | exact ⟨by omega, by omega⟩)) ?_ | refine Eq.mpr (x5_isTooth (by first | assumption | exact b2i_in | exact ⟨by omega, by omega⟩)) ?_ | refine Eq.mpr (x0_table (by with_unfolding_all exact S)) ?_ | (refine Eq.mpr (x0_isBox' (by with_unfolding_all exact S) (by first | assumption | exact b2i_in | exact ⟨by omega, by omega⟩) (by repeat (first | exact rd_at | (apply rd_eq; omega) | (apply rd_ne; focus omega) | assumption | exact rfl)) (by omega)) ?_) | (refine Eq.mpr (x0_isSuitor' (by with_unfolding_all exact S) (by first | assumption | exact b2i_in | exact ⟨by omega, by omega⟩) (by repeat (first | exact rd_at | (apply rd_eq; omega) | (apply rd_ne; focus omega) | assumption | exact rfl)) (by omega)) ?_) | (refine Eq.mpr (x5_isBox' (by with_unfolding_all exact S) (by first | assumption | exact b2i_in | exact ⟨by omega, by omega⟩) (by repeat (first | exact rd_at | (apply rd_eq; omega) | (apply rd_ne; focus omega) | assumption | exact rfl)) (by omega)) ?_) | (refine Eq.mpr (x5_isSuitor' (by with_unfolding_all exact S) (by first | assumption | exact b2i_in | exact ⟨by omega, by omega⟩) (by repeat (first | exact rd_at | (apply rd_eq; omega) | (apply rd_ne; focus omega) | assumption | exact rfl)) (by omega)) ?_) | refine Eq.mpr (x0_refuse (by with_unfolding_all exact S) (by omega)) ?_ | refine Eq.mpr (x0_done (by with_unfolding_all exact S)) ?_ | refine Eq.mpr (x0_settled (by with_unfolding_all exact S)) ?_ | refine Eq.mpr (x5_settled (by with_unfolding_all exact S) (by omega)) ?_ | (refine Eq.mpr (x5_change' (by with_unfolding_all exact S) (by omega) (by repeat (first | exact rd_at | (apply rd_eq; omega) | (apply rd_ne; focus omega) | assumption | exact rfl))) ?_) | refine Eq.mpr (x5_no (by with_unfolding_all exact S) (by omega)) ?_ | refine Eq.mpr (x5_yes (by with_unfolding_all exact S) (by omega)) ?_ | refine Eq.mpr (x0_ones (by first | omega)) ?_ | refine x5_ones' (by first | omega) ?_ | refine Eq.mpr x0_isOf ?_ | refine Eq.mpr x5_is ?_)
  all_goals first
    | exact hK _ _ _ rfl ⟨by decide, by decide⟩ (R.ref2 ⟨by decide, by decide⟩ rfl (by rw [gV_ne (by omega), gV_ne (by omega), gV_ne (by omega)]))
    | skip
  have e1 : gV w 301 (8 * a + b) = gV w 3 (8 + 8 * a + b) := by
    have := tb.2.1 (8 * a + b) (by omega) (by omega)
    have e2 : (5 : Int) + (3 + (8 * a + b)) = 8 + 8 * a + b := by omega
    rw [← e2]; exact this
  have e3 := ok.2.2.2.1 (8 * a + b) (by omega) (by omega)
  have e4 : (5 : Int) + (3 + (8 * a + b)) = 8 + 8 * a + b := by omega
  dsimp only at e3
  rw [e4] at e3
  refine hK _ _ _ e1 (by rw [e1]; exact ⟨by omega, by omega⟩) ?_
  refine R.stl (Sm.rf (w := w)) (fun k j u1 u2 u3 u4 u5 u6 u7 => ?_) (sc.done ?_ ?_ (fun k j hk => ?_)) ⟨?_, ?_⟩ ?_ ?_ (st.fr (fun k j u v => ?_) (fun j u v z => ?_)) (fun j hj => ?_)
  · unfold Scr at u1; unfold Sca at u2
    simp (disch := omega) only [gV_ne]
  · simp (disch := omega) only [gV_ne, gV_at]
  · simp (disch := omega) only [gV_ne, gV_at]
  · simp (disch := omega) only [gV_ne]
  · simp (disch := omega) only [gV_ne, gV_at]
  · simp (disch := omega) only [gV_ne, gV_at]
  · obtain ⟨t1, t2, t3⟩ := tb
    refine ⟨?_, fun j u v => ?_, fun j u v => ?_⟩
    · simp (disch := omega) only [gV_ne]; exact t1
    · by_cases q : j = 8 * a + b
      · simp (disch := omega) only [gV_ne, gV_at, rd_eq]
      · simp (disch := omega) only [gV_ne]; exact t2 j u v
    · simp (disch := omega) only [gV_ne]; exact t3 j u v
  · obtain ⟨o1, o2, o3, o4, o5, o6, o7⟩ := ok
    refine ⟨?_, ?_, ?_, fun j u v => ?_, fun j u v => ?_, fun j u v => ?_, fun p j u v u2 v2 => ?_⟩
    · simp (disch := omega) only [gV_ne]; exact o1
    · simp (disch := omega) only [gV_ne]; exact o2
    · simp (disch := omega) only [gV_ne]; exact o3
    · by_cases q : j = 8 * a + b
      · simp (disch := omega) only [gV_ne, gV_at, rd_eq]; omega
      · simp (disch := omega) only [gV_ne]; exact o4 j u v
    · simp (disch := omega) only [gV_ne]; exact o5 j u v
    · have v : j < gV w 3 0 := by simpa (disch := omega) only [gV_ne, gV_at] using v
      simp (disch := omega) only [gV_ne, gV_at]; exact o6 j u v
    · have v : p < gV w 3 0 := by simpa (disch := omega) only [gV_ne, gV_at] using v
      have v2 : j < gV w 3 0 := by simpa (disch := omega) only [gV_ne, gV_at] using v2
      simp (disch := omega) only [gV_ne, gV_at]; exact o7 p j u v u2 v2
  · simp (disch := omega) only [gV_ne]
  · simp (disch := omega) only [gV_ne]
  · simp (disch := omega) only [gV_ne]
