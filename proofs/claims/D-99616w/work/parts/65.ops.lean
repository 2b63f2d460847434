/-! THE PLAIN LAW: forget -/
set_option maxRecDepth 100000
theorem op_forget {w : Wd} {i : Int} (R : REL w i) {K : Int → Int → Wd → Prop} (hK : ∀ r r2 w', r = r2 → inI r → REL w' (i + 6) → K r r2 w') : wp_X0_forget 100 w fun r w1 => wp_X5_forget 0 w1 fun r2 w2 => K r r2 w2 := by
  have S := R.1
  have sc := R.2.2.2.2.2.2.1
  have st := R.2.1.2.2.1
  have f := st.2.2.1
  unfold wp_X0_forget wp_X5_forget
  repeat' (with_reducible first | refine s_gfI (by with_unfolding_all exact KF S rfl) (by repeat (first | exact rd_at | (apply rd_eq; omega) | (apply rd_ne; focus omega) | exact rfl)) ?_ | refine s_gfA (by with_unfolding_all exact KF S rfl) (by with_unfolding_all exact RF S rfl) ?_ | refine s_gfR (by with_unfolding_all exact KF S rfl) (by with_unfolding_all exact RF S rfl) ?_ | refine s_dO ?_ | refine s_cO (by with_unfolding_all exact KF S rfl) ?_ | refine s_alI (by with_unfolding_all exact KF S rfl) (by decide) ⟨by omega, by omega⟩ (by repeat (first | exact rd_at | (apply rd_eq; omega) | (apply rd_ne; focus omega) | exact rfl)) ?_ | refine s_asI (by with_unfolding_all exact KF S rfl) (by decide) ⟨by omega, by omega⟩ ?_ | refine s_pfI (by with_unfolding_all exact KF S rfl) ?_ | refine s_pfZ (by with_unfolding_all exact KF S rfl) (by omega) ?_ | refine s_ckI (by first | assumption | exact b2i_in | exact ⟨by omega, by omega⟩) ?_ | refine s_ckL (by first | assumption | exact b2i_in | exact ⟨by omega, by omega⟩) ?_ | refine s_ckN (by omega) ?_ | refine s_zrb ?_ | refine s_zr (by omega) ?_ | (refine s_br0 (fun _ => ?_) (fun _ => ?_) <;> try (exfalso; omega)) | (refine s_br1 (fun _ => ?_) (fun _ => ?_) <;> try (exfalso; omega)) | (refine s_br (fun _ => ?_) (fun _ => ?_) <;> try (exfalso; omega)) | refine Eq.mpr (x0_in (by first | assumption | exact b2i_in | exact ⟨by omega, by omega⟩) (by first | assumption | exact b2i_in | exact ⟨by omega, by omega⟩) (by first | assumption | exact b2i_in | exact ⟨by omega, by omega⟩)) ?_ | refine Eq.mpr (x5_in (by first | assumption | exact b2i_in | exact ⟨by omega, by omega⟩) (by first | assumption | exact b2i_in | exact ⟨by omega, by omega⟩) (by first | assumption | exact b2i_in | exact ⟨by omega, by omega⟩)) ?_ | refine Eq.mpr (x0_isBar (by first | assumption | exact b2i_in | exact ⟨by omega, by omega⟩)) ?_ | refine Eq.mpr (x0_isTooth (by first | assumption | exact b2i_in | exact ⟨by omega, by omega⟩)) ?_ | refine Eq.mpr (x0_isSet (by first | assumption | exact b2i_in | exact ⟨by omega, by omega⟩)) ?_ | refine Eq.mpr (x5_isBar (by first | assumption | exact b2i_in | exact ⟨by omega, by omega⟩)) ?_ | refine Eq.mpr (x5_isTooth (by first | assumption | exact b2i_in | exact ⟨by omega, by omega⟩)) ?_ | refine Eq.mpr (x0_table (by with_unfolding_all exact S)) ?_ | refine Eq.mpr (x0_isBox (by with_unfolding_all exact S) (by first | assumption | exact b2i_in | exact ⟨by omega, by omega⟩) (by omega)) ?_ | refine Eq.mpr (x0_isSuitor (by with_unfolding_all exact S) (by first | assumption | exact b2i_in | exact ⟨by omega, by omega⟩) (by omega)) ?_ | refine Eq.mpr (x5_isBox (by with_unfolding_all exact S) (by first | assumption | exact b2i_in | exact ⟨by omega, by omega⟩) (by omega)) ?_ | refine Eq.mpr (x5_isSuitor (by with_unfolding_all exact S) (by first | assumption | exact b2i_in | exact ⟨by omega, by omega⟩) (by omega)) ?_ | refine Eq.mpr (x0_refuse (by with_unfolding_all exact S) (by omega)) ?_ | refine Eq.mpr (x0_done (by with_unfolding_all exact S)) ?_ | refine Eq.mpr (x0_settled (by with_unfolding_all exact S)) ?_ | refine Eq.mpr (x5_settled (by with_unfolding_all exact S) (by omega)) ?_ | refine Eq.mpr (x5_change (by with_unfolding_all exact S) (by omega)) ?_ | refine Eq.mpr (x5_no (by with_unfolding_all exact S) (by omega)) ?_ | refine Eq.mpr (x5_yes (by with_unfolding_all exact S) (by omega)) ?_)
  refine hK _ _ _ (by omega) ⟨by omega, by omega⟩ (R.sta (Sm.rf (w := w)) (fun k j u1 u2 u3 u4 => ?_) (sc.fr (by omega) (fun k j hk => ?_)) ?_ (fun j hj => ?_))
  · unfold Scr at u1; unfold Sca at u2
    simp (disch := omega) only [gV_ne]
  · simp (disch := omega) only [gV_ne]
  · obtain ⟨a1, a2, a3, a4, a5, a6, a7, a8, a9⟩ := st
    refine ⟨?_, ?_, ?_, ?_, ?_, ?_, fun j u v => ?_, fun j u v => ?_, fun j u v => ?_⟩
    · simp (disch := omega) only [gV_ne]; exact a1
    · simp (disch := omega) only [gV_ne]; exact a2
    · simp (disch := omega) only [gV_ne, gV_at, true_and]; omega
    · simp (disch := omega) only [gV_ne]; exact a4
    · simp (disch := omega) only [gV_ne]; exact a5
    · simp (disch := omega) only [gV_ne]; exact a6
    · simp (disch := omega) only [gV_ne]; exact a7 j u v
    · simp (disch := omega) only [gV_ne]; exact a8 j u v
    · have v : j < 0 := by simpa (disch := omega) only [gV_ne, gV_at] using v
      omega
  · simp (disch := omega) only [gV_ne]

