/-! THE PLAIN LAW: image, back: what was taken stands beside the row -/
set_option maxRecDepth 100000
section IMGS
variable {w w' : Wd} {i : Int}
theorem StaR.cp {s s' : Nat} {o o' : Int → Int} (h : StaR w s o) (h5 : ∀ j, 5 ≤ j → j ≤ 10 → gV w' s' j = gV w s j) (r1 : ∀ j, 0 ≤ j → j < 6 → gV w' (s' + 1) j = gV w (s + 1) j) (r2 : ∀ j, 0 ≤ j → j < 6 → gV w' (s' + 2) j = gV w (s + 2) j) (r3 : ∀ j, 0 ≤ j → j < 24 → gV w' (s' + 3) j = gV w (s + 3) j) (ho : ∀ j, 0 ≤ j → j < 116 → o' j = o j) : StaR w' s' o' := by
  obtain ⟨⟨a1, a2, a3⟩, ⟨b1, b2, b3⟩, ⟨c1, c2, c3⟩, d1, d2, d3, e1, e2, e3⟩ := h
  have q0 := ho 0 (by decide) (by decide)
  have q1 := ho 1 (by decide) (by decide)
  have q2 := ho 2 (by decide) (by decide)
  have q4 := ho 4 (by decide) (by decide)
  have q6 := ho 6 (by decide) (by decide)
  have q7 := ho 7 (by decide) (by decide)
  refine ⟨⟨by rw [h5 5 (by decide) (by decide), q0]; exact a1, by rw [q0]; exact a2, by rw [q0]; exact a3⟩, ⟨by rw [h5 6 (by decide) (by decide), q1]; exact b1, by rw [q1]; exact b2, by rw [q1]; exact b3⟩, ⟨by rw [h5 7 (by decide) (by decide), q2]; exact c1, by rw [q2]; exact c2, by rw [q2]; exact c3⟩, by rw [h5 8 (by decide) (by decide), q6]; exact d1, by rw [h5 9 (by decide) (by decide), q7]; exact d2, by rw [h5 10 (by decide) (by decide), q4]; exact d3, fun j a b => ?_, fun j a b => ?_, fun j a b => ?_⟩
  · rw [r1 j a b, r2 j a b, ho (80 + j) (by omega) (by omega), ho (86 + j) (by omega) (by omega)]
    exact e1 j a b
  · rw [r3 j a b, ho (92 + j) (by omega) (by omega)]
    exact e2 j a b
  · rw [q2] at b
    rw [ho (92 + 3 * j) (by omega) (by omega), ho (93 + 3 * j) (by omega) (by omega), ho (94 + 3 * j) (by omega) (by omega)]
    exact e3 j a b
theorem LawsR.cp {lk ek lk' ek' n' : Nat} {o o' : Int → Int} (h : LawsR w lk ek o) (H : Hi w w') (h1 : gK w' lk' = some (.inl 18)) (h2 : gR w' lk' 1 = some ek') (h3 : gK w' ek' = some (.inr (4, n'))) (h4 : 2 ≤ n' ∧ n' < 1000 ∧ o 3 ≤ n') (h5 : gV w' lk' 2 = o 3) (h6 : ∀ q, gR w' ek' q = if 0 ≤ q ∧ q < o 3 then gR w ek q else none) (ho : ∀ j, 0 ≤ j → j < 5516 → o' j = o j) : LawsR w' lk' ek' o' := by
  obtain ⟨l1, l2, l3, l4, l5, l6, l7, l8, l9⟩ := h
  have q3 := ho 3 (by decide) (by decide)
  have q4 := ho 4 (by decide) (by decide)
  refine ⟨h1, h2, ⟨n', h3, h4.1, h4.2.1, by rw [q3]; exact h4.2.2, fun q hq => ?_⟩, by rw [h5, q3], by rw [q3]; exact l5, by rw [q3]; exact l6, by rw [q4]; exact l7, by rw [q4, q3]; exact l8, fun q a b => ?_⟩
  · rw [q3] at hq
    rw [h6, if_neg hq]
  · rw [q3] at b
    obtain ⟨k, g1, g2⟩ := l9 q a b
    exact ⟨k, by rw [h6, if_pos ⟨a, b⟩]; exact g1, g2.hi H (fun j u v => ho _ (by omega) (by omega))⟩
/-- an image's cells -/
theorem img_stk {q : Nat} (h : ImgR w q) (h5 : gV w 5 q = 1) : ∃ n, STK w (150 + 10 * q) (324 + 6 * q) n := by
  rcases h with ⟨h1, _⟩ | ⟨h1, h2, h3, h4, h6, h7, h8, h9, h10⟩
  · rw [h5] at h1
    cases h1
  · obtain ⟨l1, l2, ⟨n, l3, l4, l5, _⟩, _⟩ := h10.2.2.2
    have a := h7 0 (by decide)
    have b := h7 1 (by decide)
    have c := h7 2 (by decide)
    have t0 := h9 0 (by decide)
    have t1 := h9 1 (by decide)
    have t2 := h9 2 (by decide)
    have t3 := h9 3 (by decide)
    have t4 := h9 4 (by decide)
    have e : ∀ x, 325 + 6 * q + x = 324 + 6 * q + (x + 1) := fun x => by omega
    have e2 : ∀ x, 151 + 10 * q + x = 150 + 10 * q + (x + 1) := fun x => by omega
    have e4 : 154 + 10 * q = 150 + 10 * q + 4 := by omega
    have e5 : 155 + 10 * q = 150 + 10 * q + 5 := by omega
    rw [e] at t0 t1 t2 t3 t4
    rw [e2] at a b c
    rw [e4] at h6 l1 l2
    rw [e5] at l2 l3
    exact ⟨n, ⟨h3, h4, a.1, b.1, c.1, h6⟩, ⟨a.2, b.2, c.2⟩, ⟨h8, ⟨t0.1, t1.1, t2.1, t3.1, t4.1⟩, t0.2, t1.2, t2.2, t3.2, t4.2⟩, l1, l2, l3, l4, l5⟩
theorem main_stk {o : Int → Int} (S : SOK w) (h : LawsR w 144 145 o) : ∃ n, STK w 140 300 n := by
  obtain ⟨l1, l2, ⟨n, l3, l4, l5, _⟩, _⟩ := h
  exact ⟨n, ⟨KF S rfl, RF S rfl, RF S rfl, RF S rfl, RF S rfl, RF S rfl⟩, ⟨KF S rfl, KF S rfl, KF S rfl⟩, tk_of S tk300, l1, l2, l3, l4, l5⟩
end IMGS
