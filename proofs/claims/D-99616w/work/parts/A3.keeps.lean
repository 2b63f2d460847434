/-! THE PLAIN LAW: what is kept over a turn of the undo tables -/
set_option maxRecDepth 100000
/-- the same keys and references, but the places of the undo tables -/
def Sq (w w' : Wd) : Prop := (∀ k, gK w' k = gK w k) ∧ (∀ k j, k ≠ 104 → gR w' k j = gR w k j) ∧ ∀ j r, gR w' 104 j = some r → ∃ j2, gR w 104 j2 = some r
theorem Sq.rf {w : Wd} : Sq w w := ⟨fun _ => rfl, fun _ _ _ => rfl, fun j _ h => ⟨j, h⟩⟩
theorem Sq.tr {w w1 w2 : Wd} (h1 : Sq w w1) (h2 : Sq w1 w2) : Sq w w2 := ⟨fun k => (h2.1 k).trans (h1.1 k), fun k j n => (h2.2.1 k j n).trans (h1.2.1 k j n), fun j r h => by
  obtain ⟨j2, e2⟩ := h2.2.2 j r h
  exact h1.2.2 j2 r e2⟩
theorem Sq.sV {w w' : Wd} {k : Nat} {i x : Int} (h : Sq w w') : Sq w (sV w' k i x) := h
theorem Sm.sq {w w' : Wd} (h : Sm w w') : Sq w w' := ⟨h.1, fun k j _ => h.2 k j, fun j r e => ⟨j, (h.2 104 j).symm.trans e⟩⟩
theorem Sq.hi {w w' : Wd} (h : Sq w w') (hV : ∀ k, 1000 ≤ k → ∀ j, gV w' k j = gV w k j) : Hi w w' := fun k hk _ => ⟨h.1 k, hV k hk, fun j => h.2.1 k j (by omega)⟩
theorem SRt_ne : ∀ e ∈ SRt, e.1 ≠ 104 := by decide
theorem SOK.sq {w w' : Wd} (h : SOK w) (m : Sq w w') : SOK w' := ⟨fun e he => (m.1 _).trans (h.1 e he), fun e he => (m.2.1 _ _ (SRt_ne e he)).trans (h.2 e he)⟩
theorem ImgR.fq {w w' : Wd} {q : Nat} (h : ImgR w q) (hq : q < 2) (m : Sq w w') (hV : ∀ k j, (k = 4 ∨ k = 5 ∨ (150 ≤ k ∧ k < 170) ∨ (324 ≤ k ∧ k < 336) ∨ 1000 ≤ k) → gV w' k j = gV w k j) : ImgR w' q := by
  rcases h with ⟨h1, h2⟩ | ⟨h1, h2, h3, h4, h5, h6, h7, h8, h9⟩
  · exact Or.inl ⟨by rw [hV _ _ (by omega)]; exact h1, (m.2.1 _ _ (by decide)).trans h2⟩
  · obtain ⟨r1, r2, r3, r4⟩ := h9
    have hb := r3.1.2.2
    refine Or.inr ⟨by rw [hV _ _ (by omega)]; exact h1, (m.2.1 _ _ (by decide)).trans h2, (m.1 _).trans h3, (m.2.1 _ _ (by omega)).trans h4, (m.2.1 _ _ (by omega)).trans h5, fun j hj => ⟨(m.2.1 _ _ (by omega)).trans (h6 j hj).1, (m.1 _).trans (h6 j hj).2⟩, (m.1 _).trans h7, fun j hj => ⟨(m.2.1 _ _ (by omega)).trans (h8 j hj).1, (m.1 _).trans (h8 j hj).2⟩, r1.fr (fun k j a b => hV k j (by omega)) (fun j _ _ => hV _ _ (by omega)), ?_, r3.fr (fun k j a b => hV k j (by omega)) (fun j _ _ _ => hV _ _ (by omega)), r4.fr (m.hi (fun k hk j => hV k j (by omega))) ⟨m.1 _, m.1 _⟩ (fun j => m.2.1 _ j (by omega)) (fun j => m.2.1 _ j (by omega)) (hV _ _ (by omega)) (fun j _ _ => hV _ _ (by omega))⟩
    dsimp only
    rw [hV 4 (5516 * (q : Int) + 0) (by omega), hV 4 (5516 * (q : Int) + 1) (by omega)]
    exact r2.fr hb (fun j a b => hV _ _ (by omega))
theorem TID.fq {w w' : Wd} (h : TID w) (m : Sq w w') (h104 : gK w 104 ≠ none) (hV : ∀ q : Int, gV w' 5 q = gV w 5 q) : TID w' := by
  obtain ⟨h1, h2, h3⟩ := h
  refine ⟨fun k hk => h1 k (by rw [← m.1 k]; exact hk), fun k j r hk hr => ?_, fun q hq h0 j hj => ?_⟩
  · rw [m.1] at hk ⊢
    by_cases z : k = 104
    · subst z
      obtain ⟨j2, e2⟩ := m.2.2 j r hr
      have g := h2 104 j2 r hk e2
      exact ⟨g.1, fun y => absurd (g.2.1 y).1 (by decide), fun y => absurd (g.2.2.1 y).1 (by decide), fun y => absurd (g.2.2.2 y).1 (by decide)⟩
    · rw [m.2.1 k j z] at hr
      exact h2 k j r hk hr
  · rw [m.1, m.1]
    exact h3 q hq (by rw [← hV]; exact h0) j hj
