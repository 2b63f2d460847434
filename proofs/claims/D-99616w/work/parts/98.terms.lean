/-! THE PLAIN LAW: terms, force -/
set_option maxRecDepth 100000
theorem op_terms {w : Wd} {i a b : Int} (R : REL w i) (h1 : inI a) (h2 : inI b) {K : Int → Int → Wd → Prop} (hK : ∀ r r2 w', r = r2 → inI r → REL w' (i + 6) → K r r2 w') : wp_X0_terms 100 a b w fun r w1 => wp_X5_terms 0 a b w1 fun r2 w2 => K r r2 w2 := by
  have S := R.1
  have sc := R.2.2.2.2.2.2.1
  have st := R.2.1.2.2.1
  have tb := R.2.1.1
  have ok := R.2.1.2.1
  unfold wp_X0_terms wp_X5_terms wp_X0_terms_33 wp_X0_terms_81 wp_X0_terms_39 wp_X0_terms_121 wp_X5_terms_59 wp_X5_terms_60
  repeat' (with_reducible first | (refine s_gfI (by with_unfolding_all exact KF S rfl) (by repeat (first | exact rd_at | (apply rd_eq; omega) | (apply rd_ne; focus omega) | assumption | exact rfl)) ?_) | refine s_gfA (by with_unfolding_all exact KF S rfl) (by with_unfolding_all exact RF S rfl) ?_ | refine s_gfR (by with_unfolding_all exact KF S rfl) (by with_unfolding_all exact RF S rfl) ?_ | refine s_dO ?_ | refine s_cO (by with_unfolding_all exact KF S rfl) ?_ | (refine s_alI (by with_unfolding_all exact KF S rfl) (by decide) ⟨by omega, by omega⟩ (by repeat (first | exact rd_at | (apply rd_eq; omega) | (apply rd_ne; focus omega) | assumption | exact rfl)) ?_) | refine s_asI (by with_unfolding_all exact KF S rfl) (by decide) ⟨by omega, by omega⟩ ?_ | refine s_pfI (by with_unfolding_all exact KF S rfl) ?_ | refine s_pfZ (by with_unfolding_all exact KF S rfl) (by omega) ?_ | refine s_ckI (by first | assumption | exact b2i_in | exact ⟨by omega, by omega⟩) ?_ | refine s_ckL (by first | assumption | exact ⟨by omega, by omega⟩ | exact inIL b2i_in) ?_ | refine s_ckN (by omega) ?_ | refine s_zrb ?_ | refine s_zr (by omega) ?_ | ((refine s_br0 (fun _ => ?_) (fun _ => ?_) <;> try (exfalso; first | omega | contradiction))) | ((refine s_br1 (fun _ => ?_) (fun _ => ?_) <;> try (exfalso; first | omega | contradiction))) | ((refine s_br (fun _ => ?_) (fun _ => ?_) <;> try (exfalso; first | omega | contradiction))) | refine Eq.mpr (x0_in (by first | assumption | exact b2i_in | exact ⟨by omega, by omega⟩) (by first | assumption | exact b2i_in | exact ⟨by omega, by omega⟩) (by first | assumption | exact b2i_in | exact ⟨by omega, by omega⟩)) ?_ | refine Eq.mpr (x5_in (by first | assumption | exact ⟨by omega, by omega⟩ | exact inIL b2i_in) (by first | assumption | exact ⟨by omega, by omega⟩ | exact inIL b2i_in) (by first | assumption | exact ⟨by omega, by omega⟩ | exact inIL b2i_in)) ?_ | refine Eq.mpr (x0_isBar (by first | assumption | exact b2i_in | exact ⟨by omega, by omega⟩)) ?_ | refine Eq.mpr (x0_isTooth (by first | assumption | exact b2i_in | exact ⟨by omega, by omega⟩)) ?_ | refine Eq.mpr (x0_isSet (by first | assumption | exact b2i_in | exact ⟨by omega, by omega⟩)) ?_ | refine Eq.mpr (x5_isBar (by first | assumption | exact b2i_in | exact ⟨by omega, by omega⟩)) ?_ | refine Eq.mpr (x5_isTooth (by first | assumption | exact b2i_in | exact ⟨by omega, by omega⟩)) ?_ | refine Eq.mpr (x0_table (by with_unfolding_all exact S)) ?_ | (refine Eq.mpr (x0_isBox' (by with_unfolding_all exact S) (by first | assumption | exact b2i_in | exact ⟨by omega, by omega⟩) (by repeat (first | exact rd_at | (apply rd_eq; omega) | (apply rd_ne; focus omega) | assumption | exact rfl)) (by omega)) ?_) | (refine Eq.mpr (x0_isSuitor' (by with_unfolding_all exact S) (by first | assumption | exact b2i_in | exact ⟨by omega, by omega⟩) (by repeat (first | exact rd_at | (apply rd_eq; omega) | (apply rd_ne; focus omega) | assumption | exact rfl)) (by omega)) ?_) | (refine Eq.mpr (x5_isBox' (by with_unfolding_all exact S) (by first | assumption | exact b2i_in | exact ⟨by omega, by omega⟩) (by repeat (first | exact rd_at | (apply rd_eq; omega) | (apply rd_ne; focus omega) | assumption | exact rfl)) (by omega)) ?_) | (refine Eq.mpr (x5_isSuitor' (by with_unfolding_all exact S) (by first | assumption | exact b2i_in | exact ⟨by omega, by omega⟩) (by repeat (first | exact rd_at | (apply rd_eq; omega) | (apply rd_ne; focus omega) | assumption | exact rfl)) (by omega)) ?_) | refine Eq.mpr (x0_refuse (by with_unfolding_all exact S) (by omega)) ?_ | refine Eq.mpr (x0_done (by with_unfolding_all exact S)) ?_ | refine Eq.mpr (x0_settled (by with_unfolding_all exact S)) ?_ | refine Eq.mpr (x5_settled (by with_unfolding_all exact S) (by omega)) ?_ | (refine Eq.mpr (x5_change' (by with_unfolding_all exact S) (by omega) (by repeat (first | exact rd_at | (apply rd_eq; omega) | (apply rd_ne; focus omega) | assumption | exact rfl))) ?_) | refine Eq.mpr (x5_no (by with_unfolding_all exact S) (by omega)) ?_ | refine Eq.mpr (x5_yes (by with_unfolding_all exact S) (by omega)) ?_ | refine Eq.mpr (x0_ones (by first | omega)) ?_ | refine x5_ones' (by first | omega) ?_ | refine Eq.mpr x0_isOf ?_ | refine Eq.mpr x5_is ?_)
  all_goals first
    | exact hK _ _ _ rfl ⟨by decide, by decide⟩ (R.ref2 ⟨by decide, by decide⟩ rfl (by rw [gV_ne (by omega), gV_ne (by omega), gV_ne (by omega)]))
    | skip
  all_goals
    obtain ⟨a1, a2, a3, a4, a5, a6, a7, a8, a9⟩ := st
    obtain ⟨t1, t2, t3⟩ := tb
    obtain ⟨o1, o2, o3, o4, o5, o6, o7⟩ := ok
    dsimp only at o1 o2 o3 t1
    have e : a = 0 ∨ a = 1 ∨ a = 2 := by omega
    have f0 : (5 : Int) + 0 = 5 := rfl
    have f1 : (5 : Int) + 1 = 6 := rfl
    have f2 : (5 : Int) + 2 = 7 := rfl
    rw [f0] at o1 t1
    rw [f1] at o2
    rw [f2] at o3
    rcases e with rfl | rfl | rfl
    all_goals try (exfalso; omega)
    first | rw [f0] | rw [f1] | rw [f2]
  all_goals skip
  all_goals
    refine hK _ _ _ (by first | exact t1 | exact a4 | exact a5) ⟨by omega, by omega⟩ ?_
    refine R.stl (Sm.rf (w := w)) (fun k j u1 u2 u3 u4 u5 u6 u7 => ?_) (sc.done ?_ ?_ (fun k j hk => ?_)) ⟨?_, ?_⟩ ⟨?_, fun j u v => ?_, fun j u v => ?_⟩ ⟨?_, ?_, ?_, fun j u v => ?_, fun j u v => ?_, fun j u v => ?_, fun p j u v u2 v2 => ?_⟩ ⟨?_, ?_, ?_, ?_, ?_, ?_, fun j u v => ?_, fun j u v => ?_, fun j u v => ?_⟩ (fun j hj => ?_)
    all_goals try (unfold Scr at u1; unfold Sca at u2)
    all_goals try (first | (have u9 : j < gV w 3 0 := by simpa (disch := omega) only [gV_ne, gV_at] using v) | (have u9 : p < gV w 3 0 := by simpa (disch := omega) only [gV_ne, gV_at] using u2))
    all_goals try (have u8 : j < gV w 3 0 := by simpa (disch := omega) only [gV_ne, gV_at] using v2)
    all_goals try (have u7 : j < gV w 3 2 := by simpa (disch := omega) only [gV_ne, gV_at] using v)
    all_goals simp (disch := omega) only [gV_ne, gV_at, rd_eq]
    all_goals first
      | done
      | omega
      | exact a1 | exact a2 | exact a3 | exact a4 | exact a5 | exact a6 | exact a7 j u v | exact a8 j u v
      | exact o1 | exact o2 | exact o3 | exact o4 j u v | exact o5 j u v
      | exact t1 | exact t2 j u v | exact t3 j u v | exact a9 j u (by assumption) | exact o6 j u (by assumption) | exact o7 p j u (by assumption) u2 (by assumption) | skip
