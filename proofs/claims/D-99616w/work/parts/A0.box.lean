/-! THE PLAIN LAW: rows filled; box -/
set_option maxRecDepth 100000
/-- row k from lo up to hi is f, all else is the same -/
def FL (w w' : Wd) (k : Nat) (lo hi : Int) (f : Int → Int) : Prop := Sm w w' ∧ (∀ k' j, ¬ (k' = k ∧ lo ≤ j ∧ j < hi) → gV w' k' j = gV w k' j) ∧ ∀ j, lo ≤ j → j < hi → gV w' k j = f j
theorem FL.nil {w : Wd} {k : Nat} {lo hi : Int} {f : Int → Int} (h : hi ≤ lo) : FL w w k lo hi f := ⟨Sm.rf, fun _ _ _ => rfl, fun j u v => absurd v (by omega)⟩
theorem FL.cons {w w' : Wd} {k : Nat} {lo hi v : Int} {f : Int → Int} (h : FL (sV w k lo v) w' k (lo + 1) hi f) (hl : lo < hi) (hv : v = f lo) : FL w w' k lo hi f := by
  obtain ⟨h1, h2, h3⟩ := h
  refine ⟨h1, fun k' j n => ?_, fun j u q => ?_⟩
  · rw [h2 k' j (fun z => n ⟨z.1, by omega, z.2.2⟩), gV_ne (fun z => n ⟨z.1, by omega, by omega⟩)]
  · by_cases z : j = lo
    · rw [h2 k j (by omega), z, gV_at, hv]
    · exact h3 j (by omega) q
section BOX
variable {w0 w : Wd} {ρ : Int → Int} {Q : Int → Wd → Prop} {X : Wd → Prop} {i a b c d n p : Int} {K : Int → Int → Wd → Prop}
theorem x0_box_45 (hn : 0 ≤ n ∧ n ≤ 5) : ∀ (m fuel : Nat) (x : Int) (w : Wd), x + m = 8 → 0 ≤ x → m < fuel → SOK w → (∀ w', SOK w' → FL w w' 301 (8 * n + x) (8 * n + 8) (fun _ => 0) → gV w' 140 5 = gV w 140 5 → gV w' 3 0 = gV w 3 0 → X w') → wp_X0_box_45 Q X 100 p n (some 300) fuel x w := by
  intro m
  induction m with
  | zero =>
    intro fuel x w h1 h2 h3 S hq
    obtain ⟨f, rfl⟩ : ∃ f, fuel = f + 1 := ⟨fuel - 1, by omega⟩
    rw [wp_X0_box_45]
    repeat' (with_reducible first | (refine s_gfI (by with_unfolding_all exact KF S rfl) (by repeat (first | exact rd_at | (apply rd_eq; omega) | (apply rd_ne; focus omega) | assumption | exact rfl)) ?_) | refine s_gfA (by with_unfolding_all exact KF S rfl) (by with_unfolding_all exact RF S rfl) ?_ | refine s_gfR (by with_unfolding_all exact KF S rfl) (by with_unfolding_all exact RF S rfl) ?_ | refine s_dO ?_ | refine s_cO (by with_unfolding_all exact KF S rfl) ?_ | (refine s_alI (by with_unfolding_all exact KF S rfl) (by decide) ⟨by omega, by omega⟩ (by repeat (first | exact rd_at | (apply rd_eq; omega) | (apply rd_ne; focus omega) | assumption | exact rfl)) ?_) | refine s_asI (by with_unfolding_all exact KF S rfl) (by decide) ⟨by omega, by omega⟩ ?_ | refine s_pfI (by with_unfolding_all exact KF S rfl) ?_ | refine s_pfZ (by with_unfolding_all exact KF S rfl) (by omega) ?_ | refine s_ckI (by first | assumption | exact b2i_in | exact ⟨by omega, by omega⟩) ?_ | refine s_ckL (by first | assumption | exact ⟨by omega, by omega⟩ | exact inIL b2i_in) ?_ | refine s_ckN (by omega) ?_ | refine s_zrb ?_ | refine s_zr (by omega) ?_ | ((refine s_br0 (fun _ => ?_) (fun _ => ?_) <;> try (exfalso; first | omega | contradiction))) | ((refine s_br1 (fun _ => ?_) (fun _ => ?_) <;> try (exfalso; first | omega | contradiction))) | ((refine s_br (fun _ => ?_) (fun _ => ?_) <;> try (exfalso; first | omega | contradiction))) | refine Eq.mpr (x0_in (by first | assumption | exact b2i_in | exact ⟨by omega, by omega⟩) (by first | assumption | exact b2i_in | exact ⟨by omega, by omega⟩) (by first | assumption | exact b2i_in | exact ⟨by omega, by omega⟩)) ?_ | refine Eq.mpr (x5_in (by first | assumption | exact ⟨by omega, by omega⟩ | exact inIL b2i_in) (by first | assumption | exact ⟨by omega, by omega⟩ | exact inIL b2i_in) (by first | assumption | exact ⟨by omega, by omega⟩ | exact inIL b2i_in)) ?_ | refine Eq.mpr (x0_isBar (by first | assumption | exact b2i_in | exact ⟨by omega, by omega⟩)) ?_ | refine Eq.mpr (x0_isTooth (by first | assumption | exact b2i_in | exact ⟨by omega, by omega⟩)) ?_ | refine Eq.mpr (x0_isSet (by first | assumption | exact b2i_in | exact ⟨by omega, by omega⟩)) ?_ | refine Eq.mpr (x5_isBar (by first | assumption | exact b2i_in | exact ⟨by omega, by omega⟩)) ?_ | refine Eq.mpr (x5_isTooth (by first | assumption | exact b2i_in | exact ⟨by omega, by omega⟩)) ?_ | refine Eq.mpr (x0_table (by with_unfolding_all exact S)) ?_ | (refine Eq.mpr (x0_isBox' (by with_unfolding_all exact S) (by first | assumption | exact b2i_in | exact ⟨by omega, by omega⟩) (by repeat (first | exact rd_at | (apply rd_eq; omega) | (apply rd_ne; focus omega) | assumption | exact rfl)) (by omega)) ?_) | (refine Eq.mpr (x0_isSuitor' (by with_unfolding_all exact S) (by first | assumption | exact b2i_in | exact ⟨by omega, by omega⟩) (by repeat (first | exact rd_at | (apply rd_eq; omega) | (apply rd_ne; focus omega) | assumption | exact rfl)) (by omega)) ?_) | (refine Eq.mpr (x5_isBox' (by with_unfolding_all exact S) (by first | assumption | exact b2i_in | exact ⟨by omega, by omega⟩) (by repeat (first | exact rd_at | (apply rd_eq; omega) | (apply rd_ne; focus omega) | assumption | exact rfl)) (by omega)) ?_) | (refine Eq.mpr (x5_isSuitor' (by with_unfolding_all exact S) (by first | assumption | exact b2i_in | exact ⟨by omega, by omega⟩) (by repeat (first | exact rd_at | (apply rd_eq; omega) | (apply rd_ne; focus omega) | assumption | exact rfl)) (by omega)) ?_) | refine Eq.mpr (x0_refuse (by with_unfolding_all exact S) (by omega)) ?_ | refine Eq.mpr (x0_done (by with_unfolding_all exact S)) ?_ | refine Eq.mpr (x0_settled (by with_unfolding_all exact S)) ?_ | refine Eq.mpr (x5_settled (by with_unfolding_all exact S) (by omega)) ?_ | (refine Eq.mpr (x5_change' (by with_unfolding_all exact S) (by omega) (by repeat (first | exact rd_at | (apply rd_eq; omega) | (apply rd_ne; focus omega) | assumption | exact rfl))) ?_) | refine Eq.mpr (x5_no (by with_unfolding_all exact S) (by omega)) ?_ | refine Eq.mpr (x5_yes (by with_unfolding_all exact S) (by omega)) ?_ | refine Eq.mpr (x0_ones (by first | omega)) ?_ | refine x5_ones' (by first | omega) ?_ | refine Eq.mpr x0_isOf ?_ | refine Eq.mpr x5_is ?_)
    exact hq w S (FL.nil (by omega)) rfl rfl
  | succ m ih =>
    intro fuel x w h1 h2 h3 S hq
    obtain ⟨f, rfl⟩ : ∃ f, fuel = f + 1 := ⟨fuel - 1, by omega⟩
    rw [wp_X0_box_45]
    repeat' (with_reducible first | (refine s_gfI (by with_unfolding_all exact KF S rfl) (by repeat (first | exact rd_at | (apply rd_eq; omega) | (apply rd_ne; focus omega) | assumption | exact rfl)) ?_) | refine s_gfA (by with_unfolding_all exact KF S rfl) (by with_unfolding_all exact RF S rfl) ?_ | refine s_gfR (by with_unfolding_all exact KF S rfl) (by with_unfolding_all exact RF S rfl) ?_ | refine s_dO ?_ | refine s_cO (by with_unfolding_all exact KF S rfl) ?_ | (refine s_alI (by with_unfolding_all exact KF S rfl) (by decide) ⟨by omega, by omega⟩ (by repeat (first | exact rd_at | (apply rd_eq; omega) | (apply rd_ne; focus omega) | assumption | exact rfl)) ?_) | refine s_asI (by with_unfolding_all exact KF S rfl) (by decide) ⟨by omega, by omega⟩ ?_ | refine s_pfI (by with_unfolding_all exact KF S rfl) ?_ | refine s_pfZ (by with_unfolding_all exact KF S rfl) (by omega) ?_ | refine s_ckI (by first | assumption | exact b2i_in | exact ⟨by omega, by omega⟩) ?_ | refine s_ckL (by first | assumption | exact ⟨by omega, by omega⟩ | exact inIL b2i_in) ?_ | refine s_ckN (by omega) ?_ | refine s_zrb ?_ | refine s_zr (by omega) ?_ | ((refine s_br0 (fun _ => ?_) (fun _ => ?_) <;> try (exfalso; first | omega | contradiction))) | ((refine s_br1 (fun _ => ?_) (fun _ => ?_) <;> try (exfalso; first | omega | contradiction))) | ((refine s_br (fun _ => ?_) (fun _ => ?_) <;> try (exfalso; first | omega | contradiction))) | refine Eq.mpr (x0_in (by first | assumption | exact b2i_in | exact ⟨by omega, by omega⟩) (by first | assumption | exact b2i_in | exact ⟨by omega, by omega⟩) (by first | assumption | exact b2i_in | exact ⟨by omega, by omega⟩)) ?_ | refine Eq.mpr (x5_in (by first | assumption | exact ⟨by omega, by omega⟩ | exact inIL b2i_in) (by first | assumption | exact ⟨by omega, by omega⟩ | exact inIL b2i_in) (by first | assumption | exact ⟨by omega, by omega⟩ | exact inIL b2i_in)) ?_ | refine Eq.mpr (x0_isBar (by first | assumption | exact b2i_in | exact ⟨by omega, by omega⟩)) ?_ | refine Eq.mpr (x0_isTooth (by first | assumption | exact b2i_in | exact ⟨by omega, by omega⟩)) ?_ | refine Eq.mpr (x0_isSet (by first | assumption | exact b2i_in | exact ⟨by omega, by omega⟩)) ?_ | refine Eq.mpr (x5_isBar (by first | assumption | exact b2i_in | exact ⟨by omega, by omega⟩)) ?_ | refine Eq.mpr (x5_isTooth (by first | assumption | exact b2i_in | exact ⟨by omega, by omega⟩)) ?_ | refine Eq.mpr (x0_table (by with_unfolding_all exact S)) ?_ | (refine Eq.mpr (x0_isBox' (by with_unfolding_all exact S) (by first | assumption | exact b2i_in | exact ⟨by omega, by omega⟩) (by repeat (first | exact rd_at | (apply rd_eq; omega) | (apply rd_ne; focus omega) | assumption | exact rfl)) (by omega)) ?_) | (refine Eq.mpr (x0_isSuitor' (by with_unfolding_all exact S) (by first | assumption | exact b2i_in | exact ⟨by omega, by omega⟩) (by repeat (first | exact rd_at | (apply rd_eq; omega) | (apply rd_ne; focus omega) | assumption | exact rfl)) (by omega)) ?_) | (refine Eq.mpr (x5_isBox' (by with_unfolding_all exact S) (by first | assumption | exact b2i_in | exact ⟨by omega, by omega⟩) (by repeat (first | exact rd_at | (apply rd_eq; omega) | (apply rd_ne; focus omega) | assumption | exact rfl)) (by omega)) ?_) | (refine Eq.mpr (x5_isSuitor' (by with_unfolding_all exact S) (by first | assumption | exact b2i_in | exact ⟨by omega, by omega⟩) (by repeat (first | exact rd_at | (apply rd_eq; omega) | (apply rd_ne; focus omega) | assumption | exact rfl)) (by omega)) ?_) | refine Eq.mpr (x0_refuse (by with_unfolding_all exact S) (by omega)) ?_ | refine Eq.mpr (x0_done (by with_unfolding_all exact S)) ?_ | refine Eq.mpr (x0_settled (by with_unfolding_all exact S)) ?_ | refine Eq.mpr (x5_settled (by with_unfolding_all exact S) (by omega)) ?_ | (refine Eq.mpr (x5_change' (by with_unfolding_all exact S) (by omega) (by repeat (first | exact rd_at | (apply rd_eq; omega) | (apply rd_ne; focus omega) | assumption | exact rfl))) ?_) | refine Eq.mpr (x5_no (by with_unfolding_all exact S) (by omega)) ?_ | refine Eq.mpr (x5_yes (by with_unfolding_all exact S) (by omega)) ?_ | refine Eq.mpr (x0_ones (by first | omega)) ?_ | refine x5_ones' (by first | omega) ?_ | refine Eq.mpr x0_isOf ?_ | refine Eq.mpr x5_is ?_)
    refine ih f _ _ (by omega) (by omega) (by omega) S (fun w' S' e g g2 => hq w' S' (FL.cons (v := 0) ?_ (by omega) rfl) (g.trans (gV_ne (by omega))) (g2.trans (gV_ne (by omega))))
    rw [Int.add_assoc]
    exact e
theorem x5_box_45 (hn : 0 ≤ n ∧ n ≤ 5) : ∀ (m fuel : Nat) (x : Int) (w : Wd), x + m = 8 → 0 ≤ x → m < fuel → SOK w → (∀ w', SOK w' → FL w w' 3 (8 + 8 * n + x) (8 + 8 * n + 8) (fun _ => 0) → gV w' 3 0 = gV w 3 0 → X w') → wp_X5_box_45 Q X 0 p n fuel x w := by
  intro m
  induction m with
  | zero =>
    intro fuel x w h1 h2 h3 S hq
    obtain ⟨f, rfl⟩ : ∃ f, fuel = f + 1 := ⟨fuel - 1, by omega⟩
    rw [wp_X5_box_45]
    repeat' (with_reducible first | (refine s_gfI (by with_unfolding_all exact KF S rfl) (by repeat (first | exact rd_at | (apply rd_eq; omega) | (apply rd_ne; focus omega) | assumption | exact rfl)) ?_) | refine s_gfA (by with_unfolding_all exact KF S rfl) (by with_unfolding_all exact RF S rfl) ?_ | refine s_gfR (by with_unfolding_all exact KF S rfl) (by with_unfolding_all exact RF S rfl) ?_ | refine s_dO ?_ | refine s_cO (by with_unfolding_all exact KF S rfl) ?_ | (refine s_alI (by with_unfolding_all exact KF S rfl) (by decide) ⟨by omega, by omega⟩ (by repeat (first | exact rd_at | (apply rd_eq; omega) | (apply rd_ne; focus omega) | assumption | exact rfl)) ?_) | refine s_asI (by with_unfolding_all exact KF S rfl) (by decide) ⟨by omega, by omega⟩ ?_ | refine s_pfI (by with_unfolding_all exact KF S rfl) ?_ | refine s_pfZ (by with_unfolding_all exact KF S rfl) (by omega) ?_ | refine s_ckI (by first | assumption | exact b2i_in | exact ⟨by omega, by omega⟩) ?_ | refine s_ckL (by first | assumption | exact ⟨by omega, by omega⟩ | exact inIL b2i_in) ?_ | refine s_ckN (by omega) ?_ | refine s_zrb ?_ | refine s_zr (by omega) ?_ | ((refine s_br0 (fun _ => ?_) (fun _ => ?_) <;> try (exfalso; first | omega | contradiction))) | ((refine s_br1 (fun _ => ?_) (fun _ => ?_) <;> try (exfalso; first | omega | contradiction))) | ((refine s_br (fun _ => ?_) (fun _ => ?_) <;> try (exfalso; first | omega | contradiction))) | refine Eq.mpr (x0_in (by first | assumption | exact b2i_in | exact ⟨by omega, by omega⟩) (by first | assumption | exact b2i_in | exact ⟨by omega, by omega⟩) (by first | assumption | exact b2i_in | exact ⟨by omega, by omega⟩)) ?_ | refine Eq.mpr (x5_in (by first | assumption | exact ⟨by omega, by omega⟩ | exact inIL b2i_in) (by first | assumption | exact ⟨by omega, by omega⟩ | exact inIL b2i_in) (by first | assumption | exact ⟨by omega, by omega⟩ | exact inIL b2i_in)) ?_ | refine Eq.mpr (x0_isBar (by first | assumption | exact b2i_in | exact ⟨by omega, by omega⟩)) ?_ | refine Eq.mpr (x0_isTooth (by first | assumption | exact b2i_in | exact ⟨by omega, by omega⟩)) ?_ | refine Eq.mpr (x0_isSet (by first | assumption | exact b2i_in | exact ⟨by omega, by omega⟩)) ?_ | refine Eq.mpr (x5_isBar (by first | assumption | exact b2i_in | exact ⟨by omega, by omega⟩)) ?_ | refine Eq.mpr (x5_isTooth (by first | assumption | exact b2i_in | exact ⟨by omega, by omega⟩)) ?_ | refine Eq.mpr (x0_table (by with_unfolding_all exact S)) ?_ | (refine Eq.mpr (x0_isBox' (by with_unfolding_all exact S) (by first | assumption | exact b2i_in | exact ⟨by omega, by omega⟩) (by repeat (first | exact rd_at | (apply rd_eq; omega) | (apply rd_ne; focus omega) | assumption | exact rfl)) (by omega)) ?_) | (refine Eq.mpr (x0_isSuitor' (by with_unfolding_all exact S) (by first | assumption | exact b2i_in | exact ⟨by omega, by omega⟩) (by repeat (first | exact rd_at | (apply rd_eq; omega) | (apply rd_ne; focus omega) | assumption | exact rfl)) (by omega)) ?_) | (refine Eq.mpr (x5_isBox' (by with_unfolding_all exact S) (by first | assumption | exact b2i_in | exact ⟨by omega, by omega⟩) (by repeat (first | exact rd_at | (apply rd_eq; omega) | (apply rd_ne; focus omega) | assumption | exact rfl)) (by omega)) ?_) | (refine Eq.mpr (x5_isSuitor' (by with_unfolding_all exact S) (by first | assumption | exact b2i_in | exact ⟨by omega, by omega⟩) (by repeat (first | exact rd_at | (apply rd_eq; omega) | (apply rd_ne; focus omega) | assumption | exact rfl)) (by omega)) ?_) | refine Eq.mpr (x0_refuse (by with_unfolding_all exact S) (by omega)) ?_ | refine Eq.mpr (x0_done (by with_unfolding_all exact S)) ?_ | refine Eq.mpr (x0_settled (by with_unfolding_all exact S)) ?_ | refine Eq.mpr (x5_settled (by with_unfolding_all exact S) (by omega)) ?_ | (refine Eq.mpr (x5_change' (by with_unfolding_all exact S) (by omega) (by repeat (first | exact rd_at | (apply rd_eq; omega) | (apply rd_ne; focus omega) | assumption | exact rfl))) ?_) | refine Eq.mpr (x5_no (by with_unfolding_all exact S) (by omega)) ?_ | refine Eq.mpr (x5_yes (by with_unfolding_all exact S) (by omega)) ?_ | refine Eq.mpr (x0_ones (by first | omega)) ?_ | refine x5_ones' (by first | omega) ?_ | refine Eq.mpr x0_isOf ?_ | refine Eq.mpr x5_is ?_)
    exact hq w S (FL.nil (by omega)) rfl
  | succ m ih =>
    intro fuel x w h1 h2 h3 S hq
    obtain ⟨f, rfl⟩ : ∃ f, fuel = f + 1 := ⟨fuel - 1, by omega⟩
    rw [wp_X5_box_45]
    repeat' (with_reducible first | (refine s_gfI (by with_unfolding_all exact KF S rfl) (by repeat (first | exact rd_at | (apply rd_eq; omega) | (apply rd_ne; focus omega) | assumption | exact rfl)) ?_) | refine s_gfA (by with_unfolding_all exact KF S rfl) (by with_unfolding_all exact RF S rfl) ?_ | refine s_gfR (by with_unfolding_all exact KF S rfl) (by with_unfolding_all exact RF S rfl) ?_ | refine s_dO ?_ | refine s_cO (by with_unfolding_all exact KF S rfl) ?_ | (refine s_alI (by with_unfolding_all exact KF S rfl) (by decide) ⟨by omega, by omega⟩ (by repeat (first | exact rd_at | (apply rd_eq; omega) | (apply rd_ne; focus omega) | assumption | exact rfl)) ?_) | refine s_asI (by with_unfolding_all exact KF S rfl) (by decide) ⟨by omega, by omega⟩ ?_ | refine s_pfI (by with_unfolding_all exact KF S rfl) ?_ | refine s_pfZ (by with_unfolding_all exact KF S rfl) (by omega) ?_ | refine s_ckI (by first | assumption | exact b2i_in | exact ⟨by omega, by omega⟩) ?_ | refine s_ckL (by first | assumption | exact ⟨by omega, by omega⟩ | exact inIL b2i_in) ?_ | refine s_ckN (by omega) ?_ | refine s_zrb ?_ | refine s_zr (by omega) ?_ | ((refine s_br0 (fun _ => ?_) (fun _ => ?_) <;> try (exfalso; first | omega | contradiction))) | ((refine s_br1 (fun _ => ?_) (fun _ => ?_) <;> try (exfalso; first | omega | contradiction))) | ((refine s_br (fun _ => ?_) (fun _ => ?_) <;> try (exfalso; first | omega | contradiction))) | refine Eq.mpr (x0_in (by first | assumption | exact b2i_in | exact ⟨by omega, by omega⟩) (by first | assumption | exact b2i_in | exact ⟨by omega, by omega⟩) (by first | assumption | exact b2i_in | exact ⟨by omega, by omega⟩)) ?_ | refine Eq.mpr (x5_in (by first | assumption | exact ⟨by omega, by omega⟩ | exact inIL b2i_in) (by first | assumption | exact ⟨by omega, by omega⟩ | exact inIL b2i_in) (by first | assumption | exact ⟨by omega, by omega⟩ | exact inIL b2i_in)) ?_ | refine Eq.mpr (x0_isBar (by first | assumption | exact b2i_in | exact ⟨by omega, by omega⟩)) ?_ | refine Eq.mpr (x0_isTooth (by first | assumption | exact b2i_in | exact ⟨by omega, by omega⟩)) ?_ | refine Eq.mpr (x0_isSet (by first | assumption | exact b2i_in | exact ⟨by omega, by omega⟩)) ?_ | refine Eq.mpr (x5_isBar (by first | assumption | exact b2i_in | exact ⟨by omega, by omega⟩)) ?_ | refine Eq.mpr (x5_isTooth (by first | assumption | exact b2i_in | exact ⟨by omega, by omega⟩)) ?_ | refine Eq.mpr (x0_table (by with_unfolding_all exact S)) ?_ | (refine Eq.mpr (x0_isBox' (by with_unfolding_all exact S) (by first | assumption | exact b2i_in | exact ⟨by omega, by omega⟩) (by repeat (first | exact rd_at | (apply rd_eq; omega) | (apply rd_ne; focus omega) | assumption | exact rfl)) (by omega)) ?_) | (refine Eq.mpr (x0_isSuitor' (by with_unfolding_all exact S) (by first | assumption | exact b2i_in | exact ⟨by omega, by omega⟩) (by repeat (first | exact rd_at | (apply rd_eq; omega) | (apply rd_ne; focus omega) | assumption | exact rfl)) (by omega)) ?_) | (refine Eq.mpr (x5_isBox' (by with_unfolding_all exact S) (by first | assumption | exact b2i_in | exact ⟨by omega, by omega⟩) (by repeat (first | exact rd_at | (apply rd_eq; omega) | (apply rd_ne; focus omega) | assumption | exact rfl)) (by omega)) ?_) | (refine Eq.mpr (x5_isSuitor' (by with_unfolding_all exact S) (by first | assumption | exact b2i_in | exact ⟨by omega, by omega⟩) (by repeat (first | exact rd_at | (apply rd_eq; omega) | (apply rd_ne; focus omega) | assumption | exact rfl)) (by omega)) ?_) | refine Eq.mpr (x0_refuse (by with_unfolding_all exact S) (by omega)) ?_ | refine Eq.mpr (x0_done (by with_unfolding_all exact S)) ?_ | refine Eq.mpr (x0_settled (by with_unfolding_all exact S)) ?_ | refine Eq.mpr (x5_settled (by with_unfolding_all exact S) (by omega)) ?_ | (refine Eq.mpr (x5_change' (by with_unfolding_all exact S) (by omega) (by repeat (first | exact rd_at | (apply rd_eq; omega) | (apply rd_ne; focus omega) | assumption | exact rfl))) ?_) | refine Eq.mpr (x5_no (by with_unfolding_all exact S) (by omega)) ?_ | refine Eq.mpr (x5_yes (by with_unfolding_all exact S) (by omega)) ?_ | refine Eq.mpr (x0_ones (by first | omega)) ?_ | refine x5_ones' (by first | omega) ?_ | refine Eq.mpr x0_isOf ?_ | refine Eq.mpr x5_is ?_)
    refine ih f _ _ (by omega) (by omega) (by omega) S (fun w' S' e g => hq w' S' (FL.cons (v := 0) ?_ (by omega) rfl) (g.trans (gV_ne (by omega))))
    have e9 : 8 + 8 * n + x + 1 = 8 + 8 * n + (x + 1) := by omega
    rw [e9]
    exact e
theorem op_box (R : REL w i) (h1 : inI a) (hK : ∀ r r2 w', r = r2 → inI r → REL w' (i + 6) → K r r2 w') : wp_X0_box 100 a w fun r w1 => wp_X5_box 0 a w1 fun r2 w2 => K r r2 w2 := by
  have S := R.1
  have sc := R.2.2.2.2.2.2.1
  have st := R.2.1.2.2.1
  have tb := R.2.1.1
  have ok := R.2.1.2.1
  obtain ⟨f, f0, f1⟩ := st.1
  unfold wp_X0_box wp_X5_box
  repeat' (with_reducible first | refine x0_box_45 (by omega) 8 FU 0 _ (by decide) (by decide) (by decide) (by with_unfolding_all exact S) (fun w1 S e1 g1 g3 => ?_) | refine x5_box_45 (by omega) 8 FU 0 _ (by decide) (by decide) (by decide) (by with_unfolding_all exact S) (fun w2 S e2 g2 => ?_) | (refine s_gfI (by with_unfolding_all exact KF S rfl) (by repeat (first | exact rd_at | (apply rd_eq; omega) | (apply rd_ne; focus omega) | assumption | exact rfl)) ?_) | refine s_gfA (by with_unfolding_all exact KF S rfl) (by with_unfolding_all exact RF S rfl) ?_ | refine s_gfR (by with_unfolding_all exact KF S rfl) (by with_unfolding_all exact RF S rfl) ?_ | refine s_dO ?_ | refine s_cO (by with_unfolding_all exact KF S rfl) ?_ | (refine s_alI (by with_unfolding_all exact KF S rfl) (by decide) ⟨by omega, by omega⟩ (by repeat (first | exact rd_at | (apply rd_eq; omega) | (apply rd_ne; focus omega) | assumption | exact rfl)) ?_) | refine s_asI (by with_unfolding_all exact KF S rfl) (by decide) ⟨by omega, by omega⟩ ?_ | refine s_pfI (by with_unfolding_all exact KF S rfl) ?_ | refine s_pfZ (by with_unfolding_all exact KF S rfl) (by omega) ?_ | refine s_ckI (by first | assumption | exact b2i_in | exact ⟨by omega, by omega⟩) ?_ | refine s_ckL (by first | assumption | exact ⟨by omega, by omega⟩ | exact inIL b2i_in) ?_ | refine s_ckN (by omega) ?_ | refine s_zrb ?_ | refine s_zr (by omega) ?_ | ((refine s_br0 (fun _ => ?_) (fun _ => ?_) <;> try (exfalso; first | omega | contradiction))) | ((refine s_br1 (fun _ => ?_) (fun _ => ?_) <;> try (exfalso; first | omega | contradiction))) | ((refine s_br (fun _ => ?_) (fun _ => ?_) <;> try (exfalso; first | omega | contradiction))) | refine Eq.mpr (x0_in (by first | assumption | exact b2i_in | exact ⟨by omega, by omega⟩) (by first | assumption | exact b2i_in | exact ⟨by omega, by omega⟩) (by first | assumption | exact b2i_in | exact ⟨by omega, by omega⟩)) ?_ | refine Eq.mpr (x5_in (by first | assumption | exact ⟨by omega, by omega⟩ | exact inIL b2i_in) (by first | assumption | exact ⟨by omega, by omega⟩ | exact inIL b2i_in) (by first | assumption | exact ⟨by omega, by omega⟩ | exact inIL b2i_in)) ?_ | refine Eq.mpr (x0_isBar (by first | assumption | exact b2i_in | exact ⟨by omega, by omega⟩)) ?_ | refine Eq.mpr (x0_isTooth (by first | assumption | exact b2i_in | exact ⟨by omega, by omega⟩)) ?_ | refine Eq.mpr (x0_isSet (by first | assumption | exact b2i_in | exact ⟨by omega, by omega⟩)) ?_ | refine Eq.mpr (x5_isBar (by first | assumption | exact b2i_in | exact ⟨by omega, by omega⟩)) ?_ | refine Eq.mpr (x5_isTooth (by first | assumption | exact b2i_in | exact ⟨by omega, by omega⟩)) ?_ | refine Eq.mpr (x0_table (by with_unfolding_all exact S)) ?_ | (refine Eq.mpr (x0_isBox' (by with_unfolding_all exact S) (by first | assumption | exact b2i_in | exact ⟨by omega, by omega⟩) (by repeat (first | exact rd_at | (apply rd_eq; omega) | (apply rd_ne; focus omega) | assumption | exact rfl)) (by omega)) ?_) | (refine Eq.mpr (x0_isSuitor' (by with_unfolding_all exact S) (by first | assumption | exact b2i_in | exact ⟨by omega, by omega⟩) (by repeat (first | exact rd_at | (apply rd_eq; omega) | (apply rd_ne; focus omega) | assumption | exact rfl)) (by omega)) ?_) | (refine Eq.mpr (x5_isBox' (by with_unfolding_all exact S) (by first | assumption | exact b2i_in | exact ⟨by omega, by omega⟩) (by repeat (first | exact rd_at | (apply rd_eq; omega) | (apply rd_ne; focus omega) | assumption | exact rfl)) (by omega)) ?_) | (refine Eq.mpr (x5_isSuitor' (by with_unfolding_all exact S) (by first | assumption | exact b2i_in | exact ⟨by omega, by omega⟩) (by repeat (first | exact rd_at | (apply rd_eq; omega) | (apply rd_ne; focus omega) | assumption | exact rfl)) (by omega)) ?_) | refine Eq.mpr (x0_refuse (by with_unfolding_all exact S) (by omega)) ?_ | refine Eq.mpr (x0_done (by with_unfolding_all exact S)) ?_ | refine Eq.mpr (x0_settled (by with_unfolding_all exact S)) ?_ | refine Eq.mpr (x5_settled (by with_unfolding_all exact S) (by omega)) ?_ | (refine Eq.mpr (x5_change' (by with_unfolding_all exact S) (by omega) (by repeat (first | exact rd_at | (apply rd_eq; omega) | (apply rd_ne; focus omega) | assumption | exact rfl))) ?_) | refine Eq.mpr (x5_no (by with_unfolding_all exact S) (by omega)) ?_ | refine Eq.mpr (x5_yes (by with_unfolding_all exact S) (by omega)) ?_ | refine Eq.mpr (x0_ones (by first | omega)) ?_ | refine x5_ones' (by first | omega) ?_ | refine Eq.mpr x0_isOf ?_ | refine Eq.mpr x5_is ?_)
  all_goals first
    | exact hK _ _ _ rfl ⟨by decide, by decide⟩ (R.ref2 ⟨by decide, by decide⟩ rfl (by rw [gV_ne (by omega), gV_ne (by omega), gV_ne (by omega)]))
    | skip
  refine hK _ _ _ (by omega) ⟨by omega, by omega⟩ ?_
  generalize hW : sV _ 0 1 0 = W
  have m : Sm w W := by
    rw [← hW]
    exact e1.1.tr e2.1
  have F : ∀ k j, ¬ ((k = 301 ∧ 8 * gV w 3 0 ≤ j ∧ j < 8 * gV w 3 0 + 8) ∨ (302 ≤ k ∧ k ≤ 305 ∧ j = gV w 3 0) ∨ (k = 140 ∧ j = 5) ∨ (k = 100 ∧ (j = 15 ∨ j = 0)) ∨ (k = 0 ∧ (j = 0 ∨ j = 1 ∨ j = 8)) ∨ (k = 3 ∧ ((8 + 8 * gV w 3 0 ≤ j ∧ j < 16 + 8 * gV w 3 0) ∨ j = 56 + gV w 3 0 ∨ j = 62 + gV w 3 0 ∨ j = 68 + gV w 3 0 ∨ j = 74 + gV w 3 0 ∨ j = 0))) → gV W k j = gV w k j := fun k j n => by
    rw [← hW]
    iterate 7 rw [gV_ne (by omega)]
    rw [e2.2.1 k j (by omega)]
    iterate 8 rw [gV_ne (by omega)]
    exact e1.2.1 k j (by omega)
  have q0 : gV W 3 0 = gV w 3 0 + 1 := by
    rw [← hW]
    simp (disch := omega) only [gV_ne, gV_at]
    omega
  have q1 : gV W 140 5 = gV w 3 0 + 1 := by
    rw [← hW]
    simp (disch := omega) only [gV_ne, gV_at]
    rw [e2.2.1 140 5 (by omega)]
    simp (disch := omega) only [gV_ne, gV_at]
    omega
  have q2 : gV W 100 15 = 0 ∧ gV W 0 8 = 0 ∧ gV W 100 0 = 0 ∧ gV W 0 1 = 0 := by
    rw [← hW]
    refine ⟨?_, ?_, ?_, ?_⟩
    all_goals simp (disch := omega) only [gV_ne, gV_at]
    all_goals rw [e2.2.1 _ _ (by omega)]
    all_goals simp (disch := omega) only [gV_ne, gV_at]
  have q3 : gV W 302 (gV w 3 0) = 0 ∧ gV W 303 (gV w 3 0) = a ∧ gV W 304 (gV w 3 0) = -1 ∧ gV W 305 (gV w 3 0) = 0 := by
    rw [← hW]
    refine ⟨?_, ?_, ?_, ?_⟩
    all_goals simp (disch := omega) only [gV_ne, gV_at]
    all_goals rw [e2.2.1 _ _ (by omega)]
    all_goals simp (disch := omega) only [gV_ne, gV_at]
  have q4 : gV W 3 (56 + gV w 3 0) = 0 ∧ gV W 3 (62 + gV w 3 0) = a ∧ gV W 3 (68 + gV w 3 0) = -1 ∧ gV W 3 (74 + gV w 3 0) = 0 := by
    rw [← hW]
    refine ⟨?_, ?_, ?_, ?_⟩
    all_goals simp (disch := omega) only [gV_ne, gV_at]
  have q5 : ∀ j, 8 * gV w 3 0 ≤ j → j < 8 * gV w 3 0 + 8 → gV W 301 j = 0 ∧ gV W 3 (8 + j) = 0 := fun j u v => by
    rw [← hW]
    refine ⟨?_, ?_⟩
    · iterate 7 rw [gV_ne (by omega)]
      rw [e2.2.1 301 j (by omega)]
      iterate 8 rw [gV_ne (by omega)]
      exact e1.2.2 j (by omega) (by omega)
    · iterate 7 rw [gV_ne (by omega)]
      exact e2.2.2 _ (by omega) (by omega)
  clear hW e1 e2 g1 g2 g3
  obtain ⟨a1, a2, a3, a4, a5, a6, a7, a8, a9⟩ := st
  obtain ⟨t1, t2, t3⟩ := tb
  obtain ⟨o1, o2, o3, o4, o5, o6, o7⟩ := ok
  have A : ∀ x y : Int, 5 + (x + y) = (5 + x) + y := fun x y => (Int.add_assoc 5 x y).symm
  simp only [A] at t1 t2 t3 o1 o2 o3 o4 o5 o6 o7
  refine R.stl m (fun k j u1 u2 u3 u4 u5 u6 u7 => F k j ?_) (sc.done q2.2.2.1 q2.2.2.2 (fun k j hk => F k j (by omega))) ⟨q2.1, q2.2.1⟩ ⟨?_, fun j u v => ?_, fun j u v => ?_⟩ ⟨?_, ?_, ?_, fun j u v => ?_, fun j u v => ?_, fun j u v => ?_, fun p j u v u2 v2 => ?_⟩ ⟨by omega, ?_, ?_, ?_, ?_, ?_, fun j u v => ?_, fun j u v => ?_, fun j u v => ?_⟩ (fun j hj => F 3 j (by omega))
  all_goals try simp only [A]
  · unfold Scr at u1; unfold Sca at u2; omega
  · rw [F 300 5 (by omega), F 3 _ (by omega)]; exact t1
  · by_cases z : 8 * gV w 3 0 ≤ j ∧ j < 8 * gV w 3 0 + 8
    · have := q5 j z.1 z.2
      exact this.1.trans this.2.symm
    · rw [F 301 _ (by omega), F 3 _ (by omega)]; exact t2 j u v
  · by_cases z : j = gV w 3 0
    · rw [z]
      exact ⟨q3.1.trans q4.1.symm, q3.2.1.trans q4.2.1.symm, q3.2.2.1.trans q4.2.2.1.symm, q3.2.2.2.trans q4.2.2.2.symm⟩
    · rw [F 302 _ (by omega), F 303 _ (by omega), F 304 _ (by omega), F 305 _ (by omega), F 3 _ (by omega), F 3 _ (by omega), F 3 _ (by omega), F 3 _ (by omega)]
      exact t3 j u v
  · rw [F 3 _ (by omega)]; exact o1
  · rw [F 3 _ (by omega)]; exact o2
  · rw [F 3 _ (by omega)]; exact o3
  · by_cases z : 8 * gV w 3 0 ≤ j ∧ j < 8 * gV w 3 0 + 8
    · have := (q5 j z.1 z.2).2
      show 0 ≤ gV W 3 (8 + j) ∧ gV W 3 (8 + j) ≤ 255
      omega
    · rw [F 3 _ (by omega)]; exact o4 j u v
  · by_cases z : j = gV w 3 0
    · rw [z]
      show (0 ≤ gV W 3 (56 + gV w 3 0) ∧ gV W 3 (56 + gV w 3 0) ≤ 255) ∧ (0 ≤ gV W 3 (62 + gV w 3 0) ∧ gV W 3 (62 + gV w 3 0) ≤ 20) ∧ (-1 ≤ gV W 3 (68 + gV w 3 0) ∧ gV W 3 (68 + gV w 3 0) ≤ 5) ∧ (0 ≤ gV W 3 (74 + gV w 3 0) ∧ gV W 3 (74 + gV w 3 0) ≤ 60)
      omega
    · rw [F 3 _ (by omega), F 3 _ (by omega), F 3 _ (by omega), F 3 _ (by omega)]
      exact o5 j u v
  · by_cases z : j = gV w 3 0
    · rw [z]
      show (gV W 3 (68 + gV w 3 0) = -1 → gV W 3 (74 + gV w 3 0) = 0) ∧ (gV W 3 (68 + gV w 3 0) ≠ -1 → gV W 3 (68 + gV w 3 0) < gV W 3 1 ∧ 1 ≤ gV W 3 (74 + gV w 3 0))
      omega
    · rw [F 3 _ (by omega), F 3 _ (by omega), F 3 1 (by omega)]
      exact o6 j u (by omega)
  · intro hh hn
    by_cases z : p = gV w 3 0
    · exact absurd (by rw [z]; exact q4.2.2.1) hn
    · by_cases y : j = gV w 3 0
      · exact absurd (hh.trans (by rw [y]; exact q4.2.2.1)) hn
      · rw [F 3 _ (by omega)] at hn
        rw [F 3 _ (by omega), F 3 _ (by omega)] at hh
        exact o7 p j u (by omega) u2 (by omega) hh hn
  · rw [F 140 _ (by omega), F 3 _ (by omega)]; exact a2
  · rw [F 140 _ (by omega), F 3 _ (by omega)]; exact a3
  · rw [F 140 _ (by omega), F 3 _ (by omega)]; exact a4
  · rw [F 140 _ (by omega), F 3 _ (by omega)]; exact a5
  · rw [F 140 _ (by omega), F 3 _ (by omega)]; exact a6
  · rw [F 141 _ (by omega), F 142 _ (by omega), F 3 _ (by omega), F 3 _ (by omega)]; exact a7 j u v
  · rw [F 143 _ (by omega), F 3 _ (by omega)]; exact a8 j u v
  · rw [F 3 2 (by omega)] at v
    rw [F 3 _ (by omega), F 3 _ (by omega), F 3 _ (by omega)]; exact a9 j u v
end BOX
