/-! THE PLAIN LAW: the twin's pile over the code of a whole sum, a whole test -/
set_option maxRecDepth 100000
section RECKT
variable {w0 w : Wd} {Q : Wd → Prop} {X : Int → Wd → Prop} {K : Int → Int → Wd → Prop} {E : Int → Int} {ord : Bool} {op ar : Int → Int} {lo up last sp a o g v v1 v2 : Int} {f : Nat}
theorem t_not (S : SOK w) (hs : 0 ≤ sp ∧ sp < 400) (e1 : gV w 37 sp = v) (hv : v = 0 ∨ v = 1) (hq : K (sp + 1) (a + 1) (sV w 37 sp (1 - v))) : wp_X5_reckonAll_95 Q K X 0 last (sp + 1) a 28 g w := by
  have i1 : sp + 1 - 1 = sp := by omega
  unfold wp_X5_reckonAll_95 wp_X5_reckonAll_344
  simp only [i1]
  repeat' (with_reducible first | (refine s_gfI (by with_unfolding_all exact KF S rfl) (by repeat (first | exact rd_at | (apply rd_eq; omega) | (apply rd_ne; focus omega) | assumption | exact rfl)) ?_) | refine s_gfA (by with_unfolding_all exact KF S rfl) (by with_unfolding_all exact RF S rfl) ?_ | refine s_gfR (by with_unfolding_all exact KF S rfl) (by with_unfolding_all exact RF S rfl) ?_ | refine s_dO ?_ | refine s_cO (by with_unfolding_all exact KF S rfl) ?_ | (refine s_alI (by with_unfolding_all exact KF S rfl) (by decide) ⟨by omega, by omega⟩ (by repeat (first | exact rd_at | (apply rd_eq; omega) | (apply rd_ne; focus omega) | assumption | exact rfl)) ?_) | refine s_asI (by with_unfolding_all exact KF S rfl) (by decide) ⟨by omega, by omega⟩ ?_ | refine s_pfI (by with_unfolding_all exact KF S rfl) ?_ | refine s_pfZ (by with_unfolding_all exact KF S rfl) (by omega) ?_ | refine s_ckI (by first | assumption | exact b2i_in | exact ⟨by omega, by omega⟩) ?_ | refine s_ckL (by first | assumption | exact ⟨by omega, by omega⟩ | exact inIL b2i_in) ?_ | refine s_ckN (by omega) ?_ | refine s_zrb ?_ | refine s_zr (by omega) ?_ | ((refine s_br0 (fun _ => ?_) (fun _ => ?_) <;> try (exfalso; first | omega | contradiction))) | ((refine s_br1 (fun _ => ?_) (fun _ => ?_) <;> try (exfalso; first | omega | contradiction))) | ((refine s_br (fun _ => ?_) (fun _ => ?_) <;> try (exfalso; first | omega | contradiction))) | refine Eq.mpr (x0_in (by first | assumption | exact b2i_in | exact ⟨by omega, by omega⟩) (by first | assumption | exact b2i_in | exact ⟨by omega, by omega⟩) (by first | assumption | exact b2i_in | exact ⟨by omega, by omega⟩)) ?_ | refine Eq.mpr (x5_in (by first | assumption | exact ⟨by omega, by omega⟩ | exact inIL b2i_in) (by first | assumption | exact ⟨by omega, by omega⟩ | exact inIL b2i_in) (by first | assumption | exact ⟨by omega, by omega⟩ | exact inIL b2i_in)) ?_ | refine Eq.mpr (x0_isBar (by first | assumption | exact b2i_in | exact ⟨by omega, by omega⟩)) ?_ | refine Eq.mpr (x0_isTooth (by first | assumption | exact b2i_in | exact ⟨by omega, by omega⟩)) ?_ | refine Eq.mpr (x0_isSet (by first | assumption | exact b2i_in | exact ⟨by omega, by omega⟩)) ?_ | refine Eq.mpr (x5_isBar (by first | assumption | exact b2i_in | exact ⟨by omega, by omega⟩)) ?_ | refine Eq.mpr (x5_isTooth (by first | assumption | exact b2i_in | exact ⟨by omega, by omega⟩)) ?_ | refine Eq.mpr (x0_table (by with_unfolding_all exact S)) ?_ | (refine Eq.mpr (x0_isBox' (by with_unfolding_all exact S) (by first | assumption | exact b2i_in | exact ⟨by omega, by omega⟩) (by repeat (first | exact rd_at | (apply rd_eq; omega) | (apply rd_ne; focus omega) | assumption | exact rfl)) (by omega)) ?_) | (refine Eq.mpr (x0_isSuitor' (by with_unfolding_all exact S) (by first | assumption | exact b2i_in | exact ⟨by omega, by omega⟩) (by repeat (first | exact rd_at | (apply rd_eq; omega) | (apply rd_ne; focus omega) | assumption | exact rfl)) (by omega)) ?_) | (refine Eq.mpr (x5_isBox' (by with_unfolding_all exact S) (by first | assumption | exact b2i_in | exact ⟨by omega, by omega⟩) (by repeat (first | exact rd_at | (apply rd_eq; omega) | (apply rd_ne; focus omega) | assumption | exact rfl)) (by omega)) ?_) | (refine Eq.mpr (x5_isSuitor' (by with_unfolding_all exact S) (by first | assumption | exact b2i_in | exact ⟨by omega, by omega⟩) (by repeat (first | exact rd_at | (apply rd_eq; omega) | (apply rd_ne; focus omega) | assumption | exact rfl)) (by omega)) ?_) | refine Eq.mpr (x0_refuse (by with_unfolding_all exact S) (by omega)) ?_ | refine Eq.mpr (x0_done (by with_unfolding_all exact S)) ?_ | refine Eq.mpr (x0_settled (by with_unfolding_all exact S)) ?_ | refine Eq.mpr (x5_settled (by with_unfolding_all exact S) (by omega)) ?_ | (refine Eq.mpr (x5_change' (by with_unfolding_all exact S) (by omega) (by repeat (first | exact rd_at | (apply rd_eq; omega) | (apply rd_ne; focus omega) | assumption | exact rfl))) ?_) | refine Eq.mpr (x5_no (by with_unfolding_all exact S) (by omega)) ?_ | refine Eq.mpr (x5_yes (by with_unfolding_all exact S) (by omega)) ?_ | refine Eq.mpr (x0_ones (by first | omega)) ?_ | refine x5_ones' (by first | omega) ?_ | refine Eq.mpr x0_isOf ?_ | refine Eq.mpr x5_is ?_)
  exact hq
theorem t_and (S : SOK w) (hs : 0 ≤ sp ∧ sp < 400) (ho : o = 29 ∨ o = 30) (e1 : gV w 37 sp = v) (hv : v = 0 ∨ v = 1) (hq1 : v = o - 29 → K (sp + 1) g w) (hq2 : v ≠ o - 29 → K sp (a + 1) w) : wp_X5_reckonAll_95 Q K X 0 last (sp + 1) a o g w := by
  have i1 : sp + 1 - 1 = sp := by omega
  have i2 : sp + 1 + -1 = sp := by omega
  unfold wp_X5_reckonAll_95 wp_X5_reckonAll_330 wp_X5_reckonAll_344
  simp only [i1, i2]
  rcases ho with z | z <;> subst z
  · repeat' (with_reducible first | (refine s_gfI (by with_unfolding_all exact KF S rfl) (by repeat (first | exact rd_at | (apply rd_eq; omega) | (apply rd_ne; focus omega) | assumption | exact rfl)) ?_) | refine s_gfA (by with_unfolding_all exact KF S rfl) (by with_unfolding_all exact RF S rfl) ?_ | refine s_gfR (by with_unfolding_all exact KF S rfl) (by with_unfolding_all exact RF S rfl) ?_ | refine s_dO ?_ | refine s_cO (by with_unfolding_all exact KF S rfl) ?_ | (refine s_alI (by with_unfolding_all exact KF S rfl) (by decide) ⟨by omega, by omega⟩ (by repeat (first | exact rd_at | (apply rd_eq; omega) | (apply rd_ne; focus omega) | assumption | exact rfl)) ?_) | refine s_asI (by with_unfolding_all exact KF S rfl) (by decide) ⟨by omega, by omega⟩ ?_ | refine s_pfI (by with_unfolding_all exact KF S rfl) ?_ | refine s_pfZ (by with_unfolding_all exact KF S rfl) (by omega) ?_ | refine s_ckI (by first | assumption | exact b2i_in | exact ⟨by omega, by omega⟩) ?_ | refine s_ckL (by first | assumption | exact ⟨by omega, by omega⟩ | exact inIL b2i_in) ?_ | refine s_ckN (by omega) ?_ | refine s_zrb ?_ | refine s_zr (by omega) ?_ | ((refine s_br0 (fun _ => ?_) (fun _ => ?_) <;> try (exfalso; first | omega | contradiction))) | ((refine s_br1 (fun _ => ?_) (fun _ => ?_) <;> try (exfalso; first | omega | contradiction))) | ((refine s_br (fun _ => ?_) (fun _ => ?_) <;> try (exfalso; first | omega | contradiction))) | refine Eq.mpr (x0_in (by first | assumption | exact b2i_in | exact ⟨by omega, by omega⟩) (by first | assumption | exact b2i_in | exact ⟨by omega, by omega⟩) (by first | assumption | exact b2i_in | exact ⟨by omega, by omega⟩)) ?_ | refine Eq.mpr (x5_in (by first | assumption | exact ⟨by omega, by omega⟩ | exact inIL b2i_in) (by first | assumption | exact ⟨by omega, by omega⟩ | exact inIL b2i_in) (by first | assumption | exact ⟨by omega, by omega⟩ | exact inIL b2i_in)) ?_ | refine Eq.mpr (x0_isBar (by first | assumption | exact b2i_in | exact ⟨by omega, by omega⟩)) ?_ | refine Eq.mpr (x0_isTooth (by first | assumption | exact b2i_in | exact ⟨by omega, by omega⟩)) ?_ | refine Eq.mpr (x0_isSet (by first | assumption | exact b2i_in | exact ⟨by omega, by omega⟩)) ?_ | refine Eq.mpr (x5_isBar (by first | assumption | exact b2i_in | exact ⟨by omega, by omega⟩)) ?_ | refine Eq.mpr (x5_isTooth (by first | assumption | exact b2i_in | exact ⟨by omega, by omega⟩)) ?_ | refine Eq.mpr (x0_table (by with_unfolding_all exact S)) ?_ | (refine Eq.mpr (x0_isBox' (by with_unfolding_all exact S) (by first | assumption | exact b2i_in | exact ⟨by omega, by omega⟩) (by repeat (first | exact rd_at | (apply rd_eq; omega) | (apply rd_ne; focus omega) | assumption | exact rfl)) (by omega)) ?_) | (refine Eq.mpr (x0_isSuitor' (by with_unfolding_all exact S) (by first | assumption | exact b2i_in | exact ⟨by omega, by omega⟩) (by repeat (first | exact rd_at | (apply rd_eq; omega) | (apply rd_ne; focus omega) | assumption | exact rfl)) (by omega)) ?_) | (refine Eq.mpr (x5_isBox' (by with_unfolding_all exact S) (by first | assumption | exact b2i_in | exact ⟨by omega, by omega⟩) (by repeat (first | exact rd_at | (apply rd_eq; omega) | (apply rd_ne; focus omega) | assumption | exact rfl)) (by omega)) ?_) | (refine Eq.mpr (x5_isSuitor' (by with_unfolding_all exact S) (by first | assumption | exact b2i_in | exact ⟨by omega, by omega⟩) (by repeat (first | exact rd_at | (apply rd_eq; omega) | (apply rd_ne; focus omega) | assumption | exact rfl)) (by omega)) ?_) | refine Eq.mpr (x0_refuse (by with_unfolding_all exact S) (by omega)) ?_ | refine Eq.mpr (x0_done (by with_unfolding_all exact S)) ?_ | refine Eq.mpr (x0_settled (by with_unfolding_all exact S)) ?_ | refine Eq.mpr (x5_settled (by with_unfolding_all exact S) (by omega)) ?_ | (refine Eq.mpr (x5_change' (by with_unfolding_all exact S) (by omega) (by repeat (first | exact rd_at | (apply rd_eq; omega) | (apply rd_ne; focus omega) | assumption | exact rfl))) ?_) | refine Eq.mpr (x5_no (by with_unfolding_all exact S) (by omega)) ?_ | refine Eq.mpr (x5_yes (by with_unfolding_all exact S) (by omega)) ?_ | refine Eq.mpr (x0_ones (by first | omega)) ?_ | refine x5_ones' (by first | omega) ?_ | refine Eq.mpr x0_isOf ?_ | refine Eq.mpr x5_is ?_)
    · exact hq2 (by omega)
    · exact hq1 (by omega)
  · repeat' (with_reducible first | (refine s_gfI (by with_unfolding_all exact KF S rfl) (by repeat (first | exact rd_at | (apply rd_eq; omega) | (apply rd_ne; focus omega) | assumption | exact rfl)) ?_) | refine s_gfA (by with_unfolding_all exact KF S rfl) (by with_unfolding_all exact RF S rfl) ?_ | refine s_gfR (by with_unfolding_all exact KF S rfl) (by with_unfolding_all exact RF S rfl) ?_ | refine s_dO ?_ | refine s_cO (by with_unfolding_all exact KF S rfl) ?_ | (refine s_alI (by with_unfolding_all exact KF S rfl) (by decide) ⟨by omega, by omega⟩ (by repeat (first | exact rd_at | (apply rd_eq; omega) | (apply rd_ne; focus omega) | assumption | exact rfl)) ?_) | refine s_asI (by with_unfolding_all exact KF S rfl) (by decide) ⟨by omega, by omega⟩ ?_ | refine s_pfI (by with_unfolding_all exact KF S rfl) ?_ | refine s_pfZ (by with_unfolding_all exact KF S rfl) (by omega) ?_ | refine s_ckI (by first | assumption | exact b2i_in | exact ⟨by omega, by omega⟩) ?_ | refine s_ckL (by first | assumption | exact ⟨by omega, by omega⟩ | exact inIL b2i_in) ?_ | refine s_ckN (by omega) ?_ | refine s_zrb ?_ | refine s_zr (by omega) ?_ | ((refine s_br0 (fun _ => ?_) (fun _ => ?_) <;> try (exfalso; first | omega | contradiction))) | ((refine s_br1 (fun _ => ?_) (fun _ => ?_) <;> try (exfalso; first | omega | contradiction))) | ((refine s_br (fun _ => ?_) (fun _ => ?_) <;> try (exfalso; first | omega | contradiction))) | refine Eq.mpr (x0_in (by first | assumption | exact b2i_in | exact ⟨by omega, by omega⟩) (by first | assumption | exact b2i_in | exact ⟨by omega, by omega⟩) (by first | assumption | exact b2i_in | exact ⟨by omega, by omega⟩)) ?_ | refine Eq.mpr (x5_in (by first | assumption | exact ⟨by omega, by omega⟩ | exact inIL b2i_in) (by first | assumption | exact ⟨by omega, by omega⟩ | exact inIL b2i_in) (by first | assumption | exact ⟨by omega, by omega⟩ | exact inIL b2i_in)) ?_ | refine Eq.mpr (x0_isBar (by first | assumption | exact b2i_in | exact ⟨by omega, by omega⟩)) ?_ | refine Eq.mpr (x0_isTooth (by first | assumption | exact b2i_in | exact ⟨by omega, by omega⟩)) ?_ | refine Eq.mpr (x0_isSet (by first | assumption | exact b2i_in | exact ⟨by omega, by omega⟩)) ?_ | refine Eq.mpr (x5_isBar (by first | assumption | exact b2i_in | exact ⟨by omega, by omega⟩)) ?_ | refine Eq.mpr (x5_isTooth (by first | assumption | exact b2i_in | exact ⟨by omega, by omega⟩)) ?_ | refine Eq.mpr (x0_table (by with_unfolding_all exact S)) ?_ | (refine Eq.mpr (x0_isBox' (by with_unfolding_all exact S) (by first | assumption | exact b2i_in | exact ⟨by omega, by omega⟩) (by repeat (first | exact rd_at | (apply rd_eq; omega) | (apply rd_ne; focus omega) | assumption | exact rfl)) (by omega)) ?_) | (refine Eq.mpr (x0_isSuitor' (by with_unfolding_all exact S) (by first | assumption | exact b2i_in | exact ⟨by omega, by omega⟩) (by repeat (first | exact rd_at | (apply rd_eq; omega) | (apply rd_ne; focus omega) | assumption | exact rfl)) (by omega)) ?_) | (refine Eq.mpr (x5_isBox' (by with_unfolding_all exact S) (by first | assumption | exact b2i_in | exact ⟨by omega, by omega⟩) (by repeat (first | exact rd_at | (apply rd_eq; omega) | (apply rd_ne; focus omega) | assumption | exact rfl)) (by omega)) ?_) | (refine Eq.mpr (x5_isSuitor' (by with_unfolding_all exact S) (by first | assumption | exact b2i_in | exact ⟨by omega, by omega⟩) (by repeat (first | exact rd_at | (apply rd_eq; omega) | (apply rd_ne; focus omega) | assumption | exact rfl)) (by omega)) ?_) | refine Eq.mpr (x0_refuse (by with_unfolding_all exact S) (by omega)) ?_ | refine Eq.mpr (x0_done (by with_unfolding_all exact S)) ?_ | refine Eq.mpr (x0_settled (by with_unfolding_all exact S)) ?_ | refine Eq.mpr (x5_settled (by with_unfolding_all exact S) (by omega)) ?_ | (refine Eq.mpr (x5_change' (by with_unfolding_all exact S) (by omega) (by repeat (first | exact rd_at | (apply rd_eq; omega) | (apply rd_ne; focus omega) | assumption | exact rfl))) ?_) | refine Eq.mpr (x5_no (by with_unfolding_all exact S) (by omega)) ?_ | refine Eq.mpr (x5_yes (by with_unfolding_all exact S) (by omega)) ?_ | refine Eq.mpr (x0_ones (by first | omega)) ?_ | refine x5_ones' (by first | omega) ?_ | refine Eq.mpr x0_isOf ?_ | refine Eq.mpr x5_is ?_)
    · exact hq2 (by omega)
    · exact hq1 (by omega)
theorem SOK.fr {w w' : Wd} {sp : Int} (S : SOK w) (f : FR sp w w') : SOK w' := S.sm f.1
theorem sgOp_in {c : Int} : 20 ≤ sgOp c ∧ sgOp c < 28 := by
  unfold sgOp
  split
  · omega
  · split
    · omega
    · split
      · omega
      · split <;> omega
theorem cmOp_in {c : Int} : 20 ≤ cmOp c ∧ cmOp c < 28 := by
  unfold cmOp
  split
  · omega
  · split <;> omega
theorem t_sum (hl : last ≤ 400) (hE : ∀ j, 0 ≤ j → j < 16 → -1000000 ≤ E j ∧ E j ≤ 1000000) : ∀ (n k : Nat) (a b : Int), SumR w0 ord op ar n k a b → lo ≤ a → b ≤ up → b ≤ last → 0 ≤ a → ∀ (sp : Int) (f : Nat) (w : Wd), SOK w → gV w 0 38 = 0 → CA w ord op ar lo up → VA w ord E → 0 ≤ sp → sp ≤ a → last - a < f → (∀ (v : Int) (f' : Nat) (w' : Wd), evS w0 E n k = some v → -1000000000 ≤ v → v ≤ 1000000000 → FR sp w w' → gV w' 37 sp = v → gV w' 0 38 = 0 → last - b < f' → wp_X5_reckonAll_10 Q X 0 last f' (sp + 1) b w') → (∀ (sp' : Int) (w' : Wd), evS w0 E n k = none → FR sp w w' → gV w' 0 38 = 1 → 0 ≤ sp' → sp' ≤ 400 → X sp' w') → wp_X5_reckonAll_10 Q X 0 last f sp a w := by
  intro n
  induction n with
  | zero => intro k a b h; exact h.elim
  | succ n ih =>
    intro k a b h hlo hup hla h0 sp f w S hb hc hV hs hsa hf hQ hX
    have hlt := SumR.lt _ _ _ _ h
    obtain ⟨f, rfl⟩ : ∃ f', f = f' + 1 := ⟨f - 1, by omega⟩
    obtain ⟨hk, h⟩ := h
    rcases h with h | h | h
    · obtain ⟨g, e, h1, h2, h3, h4⟩ := h
      subst e
      have ev : evS w0 E (n + 1) k = some (gV w0 k 0) := by rw [evS, if_pos g]
      refine t_fetch S hb hc hlo (by omega) (by omega) h0 hl ?_
      rw [h1, h2]
      rw [h2] at h3 h4
      refine t_push (v := gV w0 k 0) S hV ⟨hs, by omega⟩ hE (Or.inl ⟨rfl, ⟨by omega, by omega⟩, rfl⟩) ?_
      exact hQ _ _ _ ev (by omega) (by omega) (FR.rf.s37 (by omega)) gV_at (by rw [gV_ne (by omega)]; exact hb) (by omega)
    · obtain ⟨g, e, h1, h2⟩ := h
      subst e
      have hj := hE _ h1 (valOp_lt h2)
      have ev : evS w0 E (n + 1) k = some (E (gV w0 k 0)) := by rw [evS, if_neg (by rw [g]; exact fun z => by cases z), if_pos g]
      refine t_fetch S hb hc hlo (by omega) (by omega) h0 hl ?_
      refine t_push (v := E (gV w0 k 0)) S hV ⟨hs, by omega⟩ hE (Or.inr ⟨_, h1, h2, rfl⟩) ?_
      exact hQ _ _ _ ev (by omega) (by omega) (FR.rf.s37 (by omega)) gV_at (by rw [gV_ne (by omega)]; exact hb) (by omega)
    · obtain ⟨g, h1, h2, l, r, mm, e1, e2, s1, s2⟩ := h
      have l1 := SumR.lt _ _ _ _ s1
      have l2 := SumR.lt _ _ _ _ s2
      have ev : evS w0 E (n + 1) k = match evS w0 E n l with
        | none => none
        | some a => match evS w0 E n r with
          | none => none
          | some b => bO (gV w0 k 0) a b := by
        have r1 : rK w0 k 1 = l := by unfold rK; rw [e1]; rfl
        have r2 : rK w0 k 2 = r := by unfold rK; rw [e2]; rfl
        rw [evS, if_neg (by rw [g]; exact fun z => by cases z), if_neg (by rw [g]; exact fun z => by cases z), r1, r2]
        rfl
      refine ih l a mm s1 hlo (by omega) (by omega) h0 sp (f + 1) w S hb hc hV hs hsa hf (fun v1 f1 w1 ev1 b1 b2 F1 c1 d1 hf1 => ?_) (fun sp' w' ev1 F1 c1 d1 d2 => hX sp' w' (by rw [ev, ev1]) F1 c1 d1 d2)
      refine ih r mm (b - 1) s2 (by omega) (by omega) (by omega) (by omega) (sp + 1) f1 w1 (S.fr F1) d1 (hc.fr F1) (hV.fr F1) (by omega) (by omega) hf1 (fun v2 f2 w2 ev2 b3 b4 F2 c2 d2 hf2 => ?_) (fun sp' w' ev2 F2 c2 d2 d3 => hX sp' w' (by rw [ev, ev1, ev2]) (F1.tr F2 (by omega)) c2 d2 d3)
      rw [ev1, ev2] at ev
      have ev : evS w0 E (n + 1) k = bO (gV w0 k 0) v1 v2 := ev
      rw [ev, ← rO_sg h1] at hQ hX
      have F12 := F1.tr F2 (by omega)
      obtain ⟨f2, rfl⟩ : ∃ f', f2 = f' + 1 := ⟨f2 - 1, by omega⟩
      refine t_fetch (S.fr F12) d2 (hc.fr F12) (by omega) (by omega) (by omega) (by omega) hl ?_
      rw [h2]
      have esp : sp + 1 + 1 = sp + 2 := by omega
      have eb : b - 1 + 1 = b := by omega
      rw [esp]
      refine t_bin (S.fr F12) d2 sgOp_in ⟨hs, by omega⟩ ((F2.2 37 sp (by omega) (by omega)).trans c1) c2 ⟨b1, b2⟩ ⟨b3, b4⟩ (fun v w' er F3 c3 d3 => ?_) (fun w' er F3 c3 => ?_)
      · rw [eb]
        have hb9 : -1000000000 ≤ v ∧ v ≤ 1000000000 := by
          rw [rO_sg h1] at er
          exact ⟨(bO_some er).1, (bO_some er).2.1⟩
        exact hQ v f2 w' er hb9.1 hb9.2 (F12.tr F3 (by omega)) c3 d3 (by omega)
      · obtain ⟨f3, rfl⟩ : ∃ f', f2 = f' + 1 := ⟨f2 - 1, by omega⟩
        exact t_broken (S.fr (F12.tr F3 (by omega))) c3 ⟨by omega, by omega⟩ ⟨by omega, by omega⟩ (hX (sp + 1) w' er (F12.tr F3 (by omega)) c3 (by omega) (by omega))
/-- NOTs by twos -/
theorem t_nots (hl : last ≤ 400) {b : Int} (hla : b ≤ last) (hup : b ≤ up) : ∀ (q : Nat) (c : Int), b = c + 2 * q → (∀ i, c ≤ i → i < b → op i = 28) → lo ≤ c → 0 ≤ c → ∀ (sp v : Int) (f : Nat) (w : Wd), SOK w → gV w 0 38 = 0 → CA w ord op ar lo up → 0 ≤ sp → sp < c → gV w 37 sp = v → (v = 0 ∨ v = 1) → last - c < f → (∀ (f' : Nat) (w' : Wd), FR sp w w' → gV w' 37 sp = v → gV w' 0 38 = 0 → last - b < f' → wp_X5_reckonAll_10 Q X 0 last f' (sp + 1) b w') → wp_X5_reckonAll_10 Q X 0 last f (sp + 1) c w := by
  intro q
  induction q with
  | zero =>
    intro c hb _ hlo h0 sp v f w S hb0 hc hs hsa e1 hv hf hQ
    have : c = b := by omega
    rw [this]
    exact hQ f w FR.rf e1 hb0 (by omega)
  | succ q ih =>
    intro c hb ho hlo h0 sp v f w S hb0 hc hs hsa e1 hv hf hQ
    obtain ⟨f, rfl⟩ : ∃ f', f = f' + 1 := ⟨f - 1, by omega⟩
    refine t_fetch S hb0 hc hlo (by omega) (by omega) h0 hl ?_
    rw [ho c (by omega) (by omega)]
    refine t_not S ⟨hs, by omega⟩ e1 hv ?_
    obtain ⟨f, rfl⟩ : ∃ f', f = f' + 1 := ⟨f - 1, by omega⟩
    have F1 : FR sp w (sV w 37 sp (1 - v)) := FR.rf.s37 (by omega)
    refine t_fetch (S.fr F1) (by rw [gV_ne (by omega)]; exact hb0) (hc.fr F1) (by omega) (by omega) (by omega) (by omega) hl ?_
    rw [ho (c + 1) (by omega) (by omega)]
    refine t_not (S.fr F1) ⟨hs, by omega⟩ gV_at (by omega) ?_
    have e2 : (1 : Int) - (1 - v) = v := by omega
    rw [e2]
    have F2 : FR sp w (sV (sV w 37 sp (1 - v)) 37 sp v) := (FR.rf.s37 (by omega)).s37 (by omega)
    have e3 : c + 1 + 1 = c + 2 := by omega
    rw [e3]
    exact ih (c + 2) (by omega) (fun i a b => ho i (by omega) b) (by omega) (by omega) sp v f _ (S.fr F2) (by rw [gV_ne (by omega), gV_ne (by omega)]; exact hb0) (hc.fr F2) hs (by omega) gV_at hv (by omega) (fun f' w' F c d e => hQ f' w' (F2.tr F (by omega)) c d e)
end RECKT
