/-! THE PLAIN LAW: parts of the relation kept -/
/-- the same keys and references -/
def Sm (w w' : Wd) : Prop := (∀ k, gK w' k = gK w k) ∧ ∀ k j, gR w' k j = gR w k j
theorem Sm.rf {w : Wd} : Sm w w := ⟨fun _ => rfl, fun _ _ => rfl⟩
theorem Sm.sV {w w' : Wd} {k : Nat} {i x : Int} (h : Sm w w') : Sm w (sV w' k i x) := h
theorem Sm.tr {w w1 w2 : Wd} (h1 : Sm w w1) (h2 : Sm w1 w2) : Sm w w2 := ⟨fun k => (h2.1 k).trans (h1.1 k), fun k j => (h2.2 k j).trans (h1.2 k j)⟩
theorem TabEq.fr {w w' : Wd} {t : Nat} {o o' : Int → Int} (h : TabEq w t o) (hV : ∀ k j, t ≤ k → k ≤ t + 5 → gV w' k j = gV w k j) (ho : ∀ j, 0 ≤ j → j < 75 → o' j = o j) : TabEq w' t o' := by
  obtain ⟨h1, h2, h3⟩ := h
  refine ⟨by rw [hV _ _ (by omega) (by omega), ho 0 (by omega) (by omega)]; exact h1, fun j a b => by rw [hV _ _ (by omega) (by omega), ho _ (by omega) (by omega)]; exact h2 j a b, fun j a b => ?_⟩
  rw [hV (t + 2) _ (by omega) (by omega), hV (t + 3) _ (by omega) (by omega), hV (t + 4) _ (by omega) (by omega), hV (t + 5) _ (by omega) (by omega), ho (51 + j) (by omega) (by omega), ho (57 + j) (by omega) (by omega), ho (63 + j) (by omega) (by omega), ho (69 + j) (by omega) (by omega)]
  exact h3 j a b
theorem TabOK.fr {o o' : Int → Int} {nb ns : Int} (h : TabOK o nb ns) (hb : nb ≤ 6) (ho : ∀ j, 0 ≤ j → j < 75 → o' j = o j) : TabOK o' nb ns := by
  obtain ⟨h1, h2, h3, h4, h5, h6, h7⟩ := h
  refine ⟨by rw [ho 0 (by omega) (by omega)]; exact h1, by rw [ho 1 (by omega) (by omega)]; exact h2, by rw [ho 2 (by omega) (by omega)]; exact h3, fun j a b => by rw [ho _ (by omega) (by omega)]; exact h4 j a b, fun j a b => ?_, fun j a b => ?_, fun i j a b c d => ?_⟩
  · rw [ho (51 + j) (by omega) (by omega), ho (57 + j) (by omega) (by omega), ho (63 + j) (by omega) (by omega), ho (69 + j) (by omega) (by omega)]
    exact h5 j a b
  · rw [ho (63 + j) (by omega) (by omega), ho (69 + j) (by omega) (by omega)]
    exact h6 j a b
  · rw [ho (63 + i) (by omega) (by omega), ho (63 + j) (by omega) (by omega)]
    exact h7 i j a b c d
theorem StaR.fr {w w' : Wd} {s : Nat} {o o' : Int → Int} (h : StaR w s o) (hV : ∀ k j, s ≤ k → k ≤ s + 3 → gV w' k j = gV w k j) (ho : ∀ j, 0 ≤ j → j < 116 → (j < 8 ∨ 80 ≤ j) → o' j = o j) : StaR w' s o' := by
  obtain ⟨h1, h2, h3, h4, h5, h6, h7, h8, h9⟩ := h
  refine ⟨by rw [hV _ _ (by omega) (by omega), ho 0 (by omega) (by omega) (by omega)]; exact h1, by rw [hV _ _ (by omega) (by omega), ho 1 (by omega) (by omega) (by omega)]; exact h2, by rw [hV _ _ (by omega) (by omega), ho 2 (by omega) (by omega) (by omega)]; exact h3, by rw [hV _ _ (by omega) (by omega), ho 6 (by omega) (by omega) (by omega)]; exact h4, by rw [hV _ _ (by omega) (by omega), ho 7 (by omega) (by omega) (by omega)]; exact h5, by rw [hV _ _ (by omega) (by omega), ho 4 (by omega) (by omega) (by omega)]; exact h6, fun j a b => ?_, fun j a b => by rw [hV _ _ (by omega) (by omega), ho _ (by omega) (by omega) (by omega)]; exact h8 j a b, fun j a b => ?_⟩
  · rw [hV (s + 1) _ (by omega) (by omega), hV (s + 2) _ (by omega) (by omega), ho (80 + j) (by omega) (by omega) (by omega), ho (86 + j) (by omega) (by omega) (by omega)]
    exact h7 j a b
  · rw [ho 2 (by omega) (by omega) (by omega)] at b
    rw [ho (92 + 3 * j) (by omega) (by omega) (by omega), ho (93 + 3 * j) (by omega) (by omega) (by omega), ho (94 + 3 * j) (by omega) (by omega) (by omega)]
    exact h9 j a b
theorem LawsR.fr {w w' : Wd} {lk ek : Nat} {o o' : Int → Int} (h : LawsR w lk ek o) (H : Hi w w') (hK : gK w' lk = gK w lk ∧ gK w' ek = gK w ek) (hR : ∀ j, gR w' lk j = gR w lk j) (hR2 : ∀ j, gR w' ek j = gR w ek j) (hV : gV w' lk 2 = gV w lk 2) (ho : ∀ j, 0 ≤ j → j < 5516 → o' j = o j) : LawsR w' lk ek o' := by
  obtain ⟨h1, h2, ⟨n, h3, h4, h5, h6⟩, h7, h8, h9, h10, h11, h12⟩ := h
  have e3 := ho 3 (by omega) (by omega)
  have e4 := ho 4 (by omega) (by omega)
  refine ⟨hK.1.trans h1, (hR 1).trans h2, ⟨n, hK.2.trans h3, h4, h5, by rw [e3]; exact h6.1, fun q hq => (hR2 q).trans (h6.2 q (by rw [← e3]; exact hq))⟩, by rw [hV, e3]; exact h7, by rw [e3]; exact h8, by rw [e3]; exact h9, by rw [e4]; exact h10, by rw [e3, e4]; exact h11, fun q a b => ?_⟩
  rw [e3] at b
  obtain ⟨k, g1, g2⟩ := h12 q a b
  exact ⟨k, (hR2 q).trans g1, LawR.hi H (fun j a b => ho _ (by omega) (by omega)) g2⟩
theorem StR.fr {w w' : Wd} {s t lk ek : Nat} {o o' : Int → Int} (h : StR w s t lk ek o) (m : Sm w w') (hV : ∀ k j, (s ≤ k ∧ k ≤ s + 3) ∨ (t ≤ k ∧ k ≤ t + 5) ∨ k = lk ∨ 1000 ≤ k → gV w' k j = gV w k j) (ho : ∀ j, 0 ≤ j → j < 5516 → o' j = o j) : StR w' s t lk ek o' := by
  obtain ⟨h1, h2, h3, h4⟩ := h
  have hb := h3.1.2.2
  refine ⟨h1.fr (fun k j a b => hV k j (by omega)) (fun j a b => ho _ (by omega) (by omega)), ?_, h3.fr (fun k j a b => hV k j (by omega)) (fun j a b _ => ho _ (by omega) (by omega)), h4.fr (Hi.of m.1 m.2 (fun k hk j => hV k j (by omega))) ⟨m.1 _, m.1 _⟩ (m.2 _) (m.2 _) (hV _ _ (by omega)) ho⟩
  rw [ho 0 (by omega) (by omega), ho 1 (by omega) (by omega)]
  exact h2.fr hb (fun j a b => ho _ (by omega) (by omega))
theorem ImgR.fr {w w' : Wd} {q : Nat} (h : ImgR w q) (hq : q < 2) (m : Sm w w') (hV : ∀ k j, (k = 4 ∨ k = 5 ∨ (150 ≤ k ∧ k < 170) ∨ (324 ≤ k ∧ k < 336) ∨ 1000 ≤ k) → gV w' k j = gV w k j) : ImgR w' q := by
  rcases h with ⟨h1, h2⟩ | ⟨h1, h2, h3, h4, h5, h6, h7, h8, h9⟩
  · exact Or.inl ⟨by rw [hV _ _ (by omega)]; exact h1, (m.2 _ _).trans h2⟩
  · refine Or.inr ⟨by rw [hV _ _ (by omega)]; exact h1, (m.2 _ _).trans h2, (m.1 _).trans h3, (m.2 _ _).trans h4, (m.2 _ _).trans h5, fun j hj => ⟨(m.2 _ _).trans (h6 j hj).1, (m.1 _).trans (h6 j hj).2⟩, (m.1 _).trans h7, fun j hj => ⟨(m.2 _ _).trans (h8 j hj).1, (m.1 _).trans (h8 j hj).2⟩, h9.fr m (fun k j hk => hV k j (by omega)) (fun j _ _ => hV _ _ (by omega))⟩
theorem ConR.fr {w w' : Wd} (h : ConR w) (hV : ∀ k j, (k = 31 ∨ k = 32 ∨ k = 33 ∨ k = 52 ∨ k = 53) → gV w' k j = gV w k j) : ConR w' := by
  obtain ⟨h1, h2, h3, h4, h5⟩ := h
  exact ⟨fun j hj => by rw [hV _ _ (by omega)]; exact h1 j hj, fun j hj => by rw [hV _ _ (by omega)]; exact h2 j hj, fun j hj => by rw [hV _ _ (by omega)]; exact h3 j hj, fun j hj => by rw [hV _ _ (by omega)]; exact h4 j hj, fun j hj => by rw [hV _ _ (by omega)]; exact h5 j hj⟩
theorem UndR.fr {w w' : Wd} (h : UndR w) (hb : gV w 3 0 ≤ 6) (m : Sm w w') (hV : ∀ k j, (k = 0 ∧ j = 8) ∨ (k = 100 ∧ j = 15) ∨ k = 106 ∨ k = 6 ∨ k = 7 ∨ (336 ≤ k ∧ k < 432) → gV w' k j = gV w k j) (h3 : gV w' 3 0 = gV w 3 0 ∧ gV w' 3 1 = gV w 3 1 ∧ gV w' 3 6 = gV w 3 6 ∧ gV w' 3 7 = gV w 3 7) : UndR w' := by
  obtain ⟨h1, h2, h4, π, h6, h7, h5⟩ := h
  refine ⟨by rw [hV 100 15 (by omega), hV 0 8 (by omega)]; exact h1, fun q a b => by rw [hV 106 _ (by omega), hV 7 _ (by omega)]; exact h2 q a b, fun q hq => (m.2 _ _).trans (h4 q hq), π, fun q hq => ⟨(h6 q hq).1, (m.2 _ _).trans (h6 q hq).2⟩, h7, fun q hq => ?_⟩
  rw [hV 0 8 (by omega)] at hq
  have hp := (h6 q (by omega)).1
  obtain ⟨g1, g2, g3, g4⟩ := h5 q hq
  refine ⟨g1.fr (fun k j a b => hV k j (by omega)) (fun j _ _ => hV _ _ (by omega)), ?_, ?_, ?_⟩
  · rw [h3.1, h3.2.1]
    exact g2.fr hb (fun j _ _ => hV _ _ (by omega))
  · rw [hV 6 _ (by omega), h3.2.2.1]; exact g3
  · rw [hV 6 _ (by omega), h3.2.2.2]; exact g4
theorem ScaR.fr {w w' : Wd} {i i' : Int} (h : ScaR w i) (hi : i ≤ i') (hV : ∀ k j, (k = 0 ∧ (j = 1 ∨ j = 13 ∨ j = 18 ∨ j = 11 ∨ j = 57 ∨ j = 20)) ∨ (k = 100 ∧ (j = 0 ∨ j = 11 ∨ j = 12 ∨ j = 13 ∨ j = 14)) ∨ k = 101 ∨ k = 2 ∨ k = 12 ∨ k = 110 ∨ k = 125 → gV w' k j = gV w k j) : ScaR w' i' := by
  obtain ⟨h1, h2, h3, h4, h5, h6, h7, h8, h9⟩ := h
  refine ⟨by rw [hV 100 0 (by omega), hV 0 1 (by omega)]; exact h1, fun q a b => ?_, by rw [hV 100 11 (by omega), hV 0 13 (by omega)]; exact h3, fun q a b => by rw [hV 12 _ (by omega), hV 110 _ (by omega)]; exact h4 q a b, by rw [hV 100 12 (by omega), hV 0 18 (by omega)]; exact h5, by rw [hV 100 13 (by omega), hV 0 11 (by omega)]; exact h6, by rw [hV 100 14 (by omega), hV 0 57 (by omega)]; exact h7, by rw [hV 0 20 (by omega)]; exact h8, fun q a b => by rw [hV 125 _ (by omega)]; exact h9 q a b⟩
  rw [hV 101 _ (by omega), hV 2 _ (by omega)]
  have := h2 q a b
  omega
theorem ntb_fr {p p' b b' : Int → Int} {q : Int} (hq : 0 ≤ q) (hq6 : q < 6) (hp : ∀ j, 0 ≤ j → j < 48 → p' j = p j) (hb : ∀ j, 0 ≤ j → j < 6 → b' j = b j) : ntb p' b' q = ntb p b q := by
  unfold ntb
  rw [hp (8 * q) (by omega) (by omega), hp (8 * q + 1) (by omega) (by omega), hp (8 * q + 2) (by omega) (by omega), hp (8 * q + 3) (by omega) (by omega), hp (8 * q + 4) (by omega) (by omega), hp (8 * q + 5) (by omega) (by omega), hp (8 * q + 6) (by omega) (by omega), hp (8 * q + 7) (by omega) (by omega), hb q hq hq6]
theorem DraR.fr {w w' : Wd} (h : DraR w) (hV : ∀ k j, (k = 0 ∧ j = 61) ∨ (k = 100 ∧ j = 32) ∨ (318 ≤ k ∧ k < 324) ∨ k = 60 → gV w' k j = gV w k j) : DraR w' := by
  obtain ⟨h1, h2, h3, h4⟩ := h
  refine ⟨by rw [hV 100 32 (by omega), hV 0 61 (by omega)]; exact h1, fun j a b => by rw [hV 319 _ (by omega)]; exact h2 j a b, fun j a b => by rw [hV 320 _ (by omega)]; exact h3 j a b, fun j a b => ?_⟩
  rw [hV 0 61 (by omega)] at b
  rw [hV 60 j (by omega), hV 321 j (by omega), hV 60 (6 + j) (by omega), hV 323 j (by omega), hV 60 (12 + j) (by omega), ntb_fr a (by omega) (fun j _ _ => hV 319 j (by omega)) (fun j _ _ => hV 320 j (by omega))]
  exact h4 j a b
theorem SOK.sm {w w' : Wd} (h : SOK w) (m : Sm w w') : SOK w' := h.same m.1 m.2
/-- what is no part of the relation, or of what is counted and told -/
def Scr (k : Nat) (j : Int) : Prop := (k = 0 ∧ j ≠ 1 ∧ j ≠ 8 ∧ j ≠ 11 ∧ j ≠ 13 ∧ j ≠ 18 ∧ j ≠ 20 ∧ j ≠ 57 ∧ j ≠ 61) ∨ (k = 100 ∧ j ≠ 0 ∧ j ≠ 11 ∧ j ≠ 12 ∧ j ≠ 13 ∧ j ≠ 14 ∧ j ≠ 15 ∧ j ≠ 32) ∨ (8 ≤ k ∧ k < 60 ∧ k ≠ 12 ∧ k ≠ 31 ∧ k ≠ 32 ∧ k ≠ 33 ∧ k ≠ 52 ∧ k ≠ 53) ∨ (107 ≤ k ∧ k < 140 ∧ k ≠ 110 ∧ k ≠ 125) ∨ (190 ≤ k ∧ k < 300) ∨ (306 ≤ k ∧ k < 318) ∨ (432 ≤ k ∧ k < 1000)
def Sca (k : Nat) (j : Int) : Prop := (k = 0 ∧ (j = 1 ∨ j = 13 ∨ j = 18 ∨ j = 11 ∨ j = 57 ∨ j = 20)) ∨ (k = 100 ∧ (j = 0 ∨ j = 11 ∨ j = 12 ∨ j = 13 ∨ j = 14)) ∨ k = 101 ∨ k = 2 ∨ k = 12 ∨ k = 110 ∨ k = 125
theorem TID.fr {w w' : Wd} (h : TID w) (m : Sm w w') (hV : ∀ q : Int, gV w' 5 q = gV w 5 q) : TID w' := by
  obtain ⟨h1, h2, h3⟩ := h
  refine ⟨fun k hk => h1 k (by rw [← m.1 k]; exact hk), fun k j r hk hr => ?_, fun q hq h0 j hj => ?_⟩
  · rw [m.1] at hk ⊢
    rw [m.2] at hr
    exact h2 k j r hk hr
  · rw [m.1, m.1]
    exact h3 q hq (by rw [← hV]; exact h0) j hj
theorem REL.sca {w w' : Wd} {i i' : Int} (h : REL w i) (m : Sm w w') (hV : ∀ k j, ¬ Scr k j → ¬ Sca k j → gV w' k j = gV w k j) (hs : ScaR w' i') : REL w' i' := by
  obtain ⟨h1, h2, h3, h4, h5, h6, h7, h8⟩ := h
  have hV : ∀ k j, ¬ ((k = 0 ∧ j ≠ 8 ∧ j ≠ 61) ∨ (k = 100 ∧ j ≠ 15 ∧ j ≠ 32) ∨ (8 ≤ k ∧ k < 60 ∧ k ≠ 31 ∧ k ≠ 32 ∧ k ≠ 33 ∧ k ≠ 52 ∧ k ≠ 53) ∨ (107 ≤ k ∧ k < 140) ∨ (190 ≤ k ∧ k < 300) ∨ (306 ≤ k ∧ k < 318) ∨ (432 ≤ k ∧ k < 1000) ∨ k = 101 ∨ k = 2) → gV w' k j = gV w k j := fun k j hn => hV k j (by unfold Scr; omega) (by unfold Sca; omega)
  refine ⟨h1.sm m, h2.fr m (fun k j hk => hV k j (by omega)) (fun j _ _ => hV 3 j (by omega)), h3.fr (by decide) m (fun k j hk => hV k j (by omega)), h4.fr (by decide) m (fun k j hk => hV k j (by omega)), h5.fr (fun k j hk => hV k j (by omega)), h6.fr h2.2.2.1.1.2.2 m (fun k j hk => hV k j (by omega)) ⟨hV _ _ (by omega), hV _ _ (by omega), hV _ _ (by omega), hV _ _ (by omega)⟩, hs, h8.1.fr (fun k j hk => hV k j (by omega)), h8.2.fr m (fun q => hV 5 q (by omega))⟩
theorem REL.scr {w w' : Wd} {i i' : Int} (h : REL w i) (hi : i ≤ i') (m : Sm w w') (hV : ∀ k j, ¬ Scr k j → gV w' k j = gV w k j) : REL w' i' :=
  h.sca m (fun k j a _ => hV k j a) (h.2.2.2.2.2.2.1.fr hi (fun k j hk => hV k j (by unfold Scr; omega)))
