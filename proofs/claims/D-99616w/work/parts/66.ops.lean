/-! THE PLAIN LAW: calls behind which nothing can be undone -/
set_option maxRecDepth 100000
/-- the main state changes (but its laws), what could be undone is gone -/
theorem REL.stl {w w' : Wd} {i i' : Int} (R : REL w i) (m : Sm w w') (hV : ∀ k j, ¬ Scr k j → ¬ Sca k j → k ≠ 3 → ¬ (140 ≤ k ∧ k ≤ 143) → ¬ (300 ≤ k ∧ k ≤ 305) → ¬ (k = 0 ∧ j = 8) → ¬ (k = 100 ∧ j = 15) → gV w' k j = gV w k j) (hs : ScaR w' i') (hu : gV w' 100 15 = 0 ∧ gV w' 0 8 = 0) (hT : TabEq w' 300 (fun j => gV w' 3 (5 + j))) (hO : TabOK (fun j => gV w' 3 (5 + j)) (gV w' 3 0) (gV w' 3 1)) (hst : StaR w' 140 (gV w' 3)) (hrow : ∀ j, j = 3 ∨ j = 4 ∨ 116 ≤ j → gV w' 3 j = gV w 3 j) : REL w' i' := by
  obtain ⟨h1, ⟨t1, t2, t3, t4⟩, h3, h4, h5, h6, h7, h8⟩ := R
  have hV2 : ∀ k j, ¬ ((k = 0 ∧ j ≠ 61) ∨ (k = 100 ∧ j ≠ 32) ∨ (8 ≤ k ∧ k < 60 ∧ k ≠ 31 ∧ k ≠ 32 ∧ k ≠ 33 ∧ k ≠ 52 ∧ k ≠ 53) ∨ (107 ≤ k ∧ k < 144) ∨ (190 ≤ k ∧ k < 318) ∨ (432 ≤ k ∧ k < 1000) ∨ k = 101 ∨ k = 2 ∨ k = 3) → gV w' k j = gV w k j := fun k j hn => hV k j (by unfold Scr; omega) (by unfold Sca; omega) (by omega) (by omega) (by omega) (by omega) (by omega)
  refine ⟨h1.sm m, ⟨hT, hO, hst, ?_⟩, h3.fr (by decide) m (fun k j hk => hV2 k j (by omega)), h4.fr (by decide) m (fun k j hk => hV2 k j (by omega)), h5.fr (fun k j hk => hV2 k j (by omega)), ?_, hs, h8.1.fr (fun k j hk => hV2 k j (by omega)), h8.2.fr m (fun q => hV2 5 q (by omega))⟩
  · obtain ⟨l1, l2, ⟨n, l3, l4, l5, l6⟩, l7, l8, l9, l10, l11, l12⟩ := t4
    refine ⟨(m.1 _).trans l1, (m.2 _ _).trans l2, ⟨n, (m.1 _).trans l3, l4, l5, by rw [hrow 3 (by omega)]; exact ⟨l6.1, fun q hq => (m.2 _ _).trans (l6.2 q hq)⟩⟩, by rw [hV2 144 2 (by omega), hrow 3 (by omega)]; exact l7, by rw [hrow 3 (by omega)]; exact l8, by rw [hrow 3 (by omega)]; exact l9, by rw [hrow 4 (by omega)]; exact l10, by rw [hrow 3 (by omega), hrow 4 (by omega)]; exact l11, fun q a b => ?_⟩
    rw [hrow 3 (by omega)] at b
    obtain ⟨k, g1, g2⟩ := l12 q a b
    exact ⟨k, (m.2 _ _).trans g1, LawR.hi (Hi.of m.1 m.2 (fun k hk j => hV2 k j (by omega))) (fun j a b => hrow _ (by omega)) g2⟩
  · obtain ⟨u1, u2, u3, π, u4, u5, u6⟩ := h6
    refine ⟨by rw [hu.1, hu.2]; exact ⟨rfl, by decide, by decide⟩, fun q a b => by rw [hV2 106 _ (by omega), hV2 7 _ (by omega)]; exact u2 q a b, fun q hq => (m.2 _ _).trans (u3 q hq), π, fun q hq => ⟨(u4 q hq).1, (m.2 _ _).trans (u4 q hq).2⟩, u5, fun q hq => ?_⟩
    rw [hu.2] at hq
    omega

