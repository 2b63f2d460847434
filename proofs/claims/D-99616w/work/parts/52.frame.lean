/-! THE PLAIN LAW: what a part of the relation looks at -/
/-- the same cells from 1000 on -/
def Hi (w w' : Wd) : Prop := ∀ k, 1000 ≤ k → gK w k ≠ none → gK w' k = gK w k ∧ (∀ j, gV w' k j = gV w k j) ∧ ∀ j, gR w' k j = gR w k j
theorem Hi.rf {w : Wd} : Hi w w := fun _ _ _ => ⟨rfl, fun _ => rfl, fun _ => rfl⟩
theorem Hi.tr {w w1 w2 : Wd} (h1 : Hi w w1) (h2 : Hi w1 w2) : Hi w w2 := fun k hk hn => by
  obtain ⟨a, b, c⟩ := h1 k hk hn
  obtain ⟨a2, b2, c2⟩ := h2 k hk (by rw [a]; exact hn)
  exact ⟨a2.trans a, fun j => (b2 j).trans (b j), fun j => (c2 j).trans (c j)⟩
theorem Hi.of {w w' : Wd} (hK : ∀ k, gK w' k = gK w k) (hR : ∀ k j, gR w' k j = gR w k j) (hV : ∀ k, 1000 ≤ k → ∀ j, gV w' k j = gV w k j) : Hi w w' := fun k hk _ => ⟨hK k, hV k hk, hR k⟩
theorem Hi.sV {w : Wd} {k : Nat} {i x : Int} (h : k < 1000) : Hi w (sV w k i x) := Hi.of (fun _ => rfl) (fun _ _ => rfl) (fun k' hk' j => by rw [gV_sV, if_neg (by omega)])
theorem Hi.sR {w : Wd} {k : Nat} {i : Int} {r : Option Nat} (h : k < 1000) : Hi w (sR w k i r) := fun k' hk' _ => ⟨rfl, fun _ => rfl, fun j => by rw [gR_sR, if_neg (by omega)]⟩
theorem Hi.nK {w : Wd} {k : Nat} {d : Kd} (h : gK w k = none) : Hi w (nK w k d) := fun k' _ hn => by
  have hne : k' ≠ k := fun e => hn (e ▸ h)
  exact ⟨by rw [gK_nK, if_neg hne], fun j => by rw [gV_nK, if_neg hne], fun j => by rw [gR_nK, if_neg hne]⟩
theorem SumR.hi {w w' : Wd} (H : Hi w w') {ord : Bool} {op ar op' ar' : Int → Int} {lo up : Int} (ho : ∀ j, lo ≤ j → j < up → op' j = op j ∧ ar' j = ar j) : ∀ (n k : Nat) (a b : Int), lo ≤ a → b ≤ up → SumR w ord op ar n k a b → SumR w' ord op' ar' n k a b := by
  intro n
  induction n with
  | zero => intro k a b _ _ h; exact h
  | succ n ih =>
    have hlt : ∀ (n k : Nat) (a b : Int), SumR w ord op ar n k a b → a < b := by
      intro n
      induction n with
      | zero => intro k a b h; exact h.elim
      | succ n ih =>
        intro k a b h
        obtain ⟨-, h | h | h⟩ := h
        · have := h.2.1; omega
        · have := h.2.1; omega
        · obtain ⟨-, -, -, l, r, m, -, -, h1, h2⟩ := h
          have := ih l a m h1
          have := ih r m (b - 1) h2
          omega
    intro k a b hlo hup h
    obtain ⟨hk, h⟩ := h
    refine ⟨hk, ?_⟩
    rcases h with h | h | h
    · obtain ⟨g, e, h1, h2, h3⟩ := h
      obtain ⟨q1, q2, q3⟩ := H k hk (by rw [g]; exact fun z => by cases z)
      obtain ⟨o1, o2⟩ := ho a hlo (by omega)
      exact Or.inl ⟨q1.trans g, e, by rw [o1]; exact h1, by rw [o2, q2]; exact h2, by rw [o2]; exact h3⟩
    · obtain ⟨g, e, h1, h2⟩ := h
      obtain ⟨q1, q2, q3⟩ := H k hk (by rw [g]; exact fun z => by cases z)
      obtain ⟨o1, o2⟩ := ho a hlo (by omega)
      exact Or.inr (Or.inl ⟨q1.trans g, e, by rw [q2]; exact h1, by rw [q2, o1, o2]; exact h2⟩)
    · obtain ⟨g, h0, h1, l, r, m, e1, e2, s1, s2⟩ := h
      obtain ⟨q1, q2, q3⟩ := H k hk (by rw [g]; exact fun z => by cases z)
      have l1 := hlt n l a m s1
      have l2 := hlt n r m (b - 1) s2
      obtain ⟨o1, o2⟩ := ho (b - 1) (by omega) (by omega)
      refine Or.inr (Or.inr ⟨q1.trans g, by rw [q2]; exact h0, by rw [o1, q2]; exact h1, l, r, m, by rw [q3]; exact e1, by rw [q3]; exact e2, ih l a m hlo (by omega) s1, ih r m (b - 1) (by omega) (by omega) s2⟩)
theorem SumR.lt {w : Wd} {ord : Bool} {op ar : Int → Int} : ∀ (n k : Nat) (a b : Int), SumR w ord op ar n k a b → a < b := by
  intro n
  induction n with
  | zero => intro k a b h; exact h.elim
  | succ n ih =>
    intro k a b h
    obtain ⟨-, h | h | h⟩ := h
    · have := h.2.1; omega
    · have := h.2.1; omega
    · obtain ⟨-, -, -, l, r, m, -, -, h1, h2⟩ := h
      have := ih l a m h1
      have := ih r m (b - 1) h2
      omega
theorem seq_up {f : Nat → Int} {m : Nat} (h : ∀ i, i < m → f i ≤ f (i + 1)) : ∀ i j, i ≤ j → j ≤ m → f i ≤ f j := by
  intro i j hij
  induction j with
  | zero => intro _; rw [Nat.le_zero.mp hij]; exact Int.le_refl _
  | succ j ih =>
    intro hj
    rcases Nat.lt_or_ge i (j + 1) with g | g
    · exact Int.le_trans (ih (by omega) (by omega)) (h j (by omega))
    · rw [Nat.le_antisymm hij g]; exact Int.le_refl _
theorem TestR.lt {w : Wd} {ord : Bool} {op ar : Int → Int} : ∀ (n k : Nat) (a b : Int), TestR w ord op ar n k a b → a < b := by
  intro n
  induction n with
  | zero => intro k a b h; exact h.elim
  | succ n ih =>
    intro k a b h
    obtain ⟨-, c, q, hb, -, h⟩ := h
    rcases h with h | h | h
    · obtain ⟨-, -, -, l, r, m, -, -, s1, s2⟩ := h
      have := SumR.lt _ _ _ _ s1
      have := SumR.lt _ _ _ _ s2
      omega
    · obtain ⟨-, -, t, -, h⟩ := h
      have := ih t a (c - 1) h
      omega
    · obtain ⟨-, -, li, E, n9, f, -, -, -, -, -, -, -, h2, h3, e0, e1, hs⟩ := h
      have hlt : ∀ i : Nat, (i : Int) < gV w li 2 → f i < f (i + 1) - 1 := fun i hi => by
        obtain ⟨t, -, ht, -⟩ := hs i hi
        exact ih t _ _ ht
      have hup := seq_up (f := f) (m := (gV w li 2).toNat) (fun i hi => by have := hlt i (by omega); omega)
      have h1 : f 0 < f 1 - 1 := hlt 0 (by omega)
      have h4 := hup 1 (gV w li 2).toNat (by omega) (Nat.le_refl _)
      rw [e1] at h4
      rw [e0] at h1
      omega
theorem TestR.hi {w w' : Wd} (H : Hi w w') {ord : Bool} {op ar op' ar' : Int → Int} {lo up : Int} (ho : ∀ j, lo ≤ j → j < up → op' j = op j ∧ ar' j = ar j) : ∀ (n k : Nat) (a b : Int), lo ≤ a → b ≤ up → TestR w ord op ar n k a b → TestR w' ord op' ar' n k a b := by
  intro n
  induction n with
  | zero => intro k a b _ _ h; exact h
  | succ n ih =>
    intro k a b hlo hup h
    have hab := TestR.lt _ _ _ _ h
    obtain ⟨hk, c, q, hb, hq, h⟩ := h
    have hac : a < c := by
      rcases h with h | h | h
      · obtain ⟨-, -, -, l, r, m, -, -, s1, s2⟩ := h
        have := SumR.lt _ _ _ _ s1
        have := SumR.lt _ _ _ _ s2
        omega
      · obtain ⟨-, -, t, -, h⟩ := h
        have := TestR.lt _ _ _ _ h
        omega
      · obtain ⟨-, -, li, E, n9, f, -, -, -, -, -, -, -, h2, h3, e0, e1, hs⟩ := h
        have hlt : ∀ i : Nat, (i : Int) < gV w li 2 → f i < f (i + 1) - 1 := fun i hi => by
          obtain ⟨t, -, ht, -⟩ := hs i hi
          exact TestR.lt _ _ _ _ ht
        have hup := seq_up (f := f) (m := (gV w li 2).toNat) (fun i hi => by have := hlt i (by omega); omega)
        have h1 : f 0 < f 1 - 1 := hlt 0 (by omega)
        have h4 := hup 1 (gV w li 2).toNat (by omega) (Nat.le_refl _)
        rw [e1] at h4
        rw [e0] at h1
        omega
    refine ⟨hk, c, q, hb, fun i hi hi2 => by rw [(ho i (by omega) (by omega)).1]; exact hq i hi hi2, ?_⟩
    have hc := ho (c - 1) (by omega) (by omega)
    rcases h with h | h | h
    · obtain ⟨g, h0, h1, l, r, m, e1, e2, s1, s2⟩ := h
      obtain ⟨q1, q2, q3⟩ := H k hk (by rw [g]; exact fun z => by cases z)
      have l1 := SumR.lt _ _ _ _ s1
      have l2 := SumR.lt _ _ _ _ s2
      exact Or.inl ⟨q1.trans g, by rw [q2]; exact h0, by rw [hc.1, q2]; exact h1, l, r, m, by rw [q3]; exact e1, by rw [q3]; exact e2, SumR.hi H ho _ _ _ _ hlo (by omega) s1, SumR.hi H ho _ _ _ _ (by omega) (by omega) s2⟩
    · obtain ⟨g, h1, t, e1, s1⟩ := h
      obtain ⟨q1, q2, q3⟩ := H k hk (by rw [g]; exact fun z => by cases z)
      exact Or.inr (Or.inl ⟨q1.trans g, by rw [hc.1]; exact h1, t, by rw [q3]; exact e1, ih _ _ _ hlo (by omega) s1⟩)
    · obtain ⟨g, h0, li, E, n9, f, e1, g1, k1, e2, k2, g2, n1, h2, h3, f0, f1, hs⟩ := h
      obtain ⟨q1, q2, q3⟩ := H k hk (by rw [g]; exact fun z => by cases z)
      obtain ⟨u1, u2, u3⟩ := H li k1 (by rw [g1]; exact fun z => by cases z)
      obtain ⟨v1, v2, v3⟩ := H E k2 (by rw [g2]; exact fun z => by cases z)
      have hlt : ∀ i : Nat, (i : Int) < gV w li 2 → f i < f (i + 1) - 1 := fun i hi => by
        obtain ⟨t, -, ht, -⟩ := hs i hi
        exact TestR.lt _ _ _ _ ht
      have hup9 := seq_up (f := f) (m := (gV w li 2).toNat) (fun i hi => by have := hlt i (by omega); omega)
      refine Or.inr (Or.inr ⟨q1.trans g, by rw [q2]; exact h0, li, E, n9, f, by rw [q3]; exact e1, u1.trans g1, k1, by rw [u3]; exact e2, k2, v1.trans g2, n1, by rw [u2]; exact h2, by rw [u2]; exact h3, f0, by rw [u2]; exact f1, fun i hi => ?_⟩)
      rw [u2] at hi
      obtain ⟨t, e3, s1, s2⟩ := hs i hi
      have b1 := hup9 0 i (by omega) (by omega)
      have b2 := hup9 (i + 1) (gV w li 2).toNat (by omega) (Nat.le_refl _)
      have b3 := hlt i hi
      rw [f0] at b1
      rw [f1] at b2
      refine ⟨t, by rw [v3]; exact e3, ih _ _ _ (by omega) (by omega) s1, fun hi2 => ?_⟩
      rw [u2] at hi2
      obtain ⟨o1, o2⟩ := ho (f (i + 1) - 1) (by omega) (by
        have b4 := hlt (i + 1) (by omega)
        have b5 := hup9 (i + 2) (gV w li 2).toNat (by omega) (Nat.le_refl _)
        have b4 : f (i + 1) < f (i + 2) - 1 := b4
        omega)
      rw [o1, o2, q2]
      exact s2 hi2
theorem ClauR.hi {w w' : Wd} (H : Hi w w') {op ar op' ar' : Int → Int} {k : Nat} {hd s1 s2 t1 t2 : Int} (ho : ∀ j, 0 ≤ j → j < 400 → op' j = op j ∧ ar' j = ar j) (h : ClauR w op ar k hd s1 s2 t1 t2) : ClauR w' op' ar' k hd s1 s2 t1 t2 := by
  obtain ⟨hk, g, h1, h2, h3, h4, h5, h6, h7, h8, h9, h10⟩ := h
  obtain ⟨q1, q2, q3⟩ := H k hk (by rw [g]; exact fun z => by cases z)
  refine ⟨hk, q1.trans g, by rw [q2]; exact h1, h2, h3, h4, h5, h6, h7, h8, ?_, ?_⟩
  · by_cases e : hd = 3
    · rw [if_pos e] at h9 ⊢
      rw [q3]; exact h9
    · rw [if_neg e] at h9 ⊢
      obtain ⟨s, e1, s9⟩ := h9
      exact ⟨s, by rw [q3]; exact e1, SumR.hi H ho _ _ _ _ h4 (by omega) s9⟩
  · by_cases e : t1 = t2
    · rw [if_pos e] at h10 ⊢
      rw [q3]; exact h10
    · rw [if_neg e] at h10 ⊢
      obtain ⟨s, e1, s9⟩ := h10
      exact ⟨s, by rw [q3]; exact e1, TestR.hi H ho _ _ _ _ (by omega) h8 s9⟩
theorem LawR.hi {w w' : Wd} (H : Hi w w') {k : Nat} {c c' : Int → Int} (hc : ∀ j, 0 ≤ j → j < 900 → c' j = c j) (h : LawR w k c) : LawR w' k c' := by
  obtain ⟨hk, g, li, E, n, e1, k1, g1, e2, k2, g2, n1, h1, h2, h3, h4, h5⟩ := h
  obtain ⟨q1, q2, q3⟩ := H k hk (by rw [g]; exact fun z => by cases z)
  obtain ⟨u1, u2, u3⟩ := H li k1 (by rw [g1]; exact fun z => by cases z)
  obtain ⟨v1, v2, v3⟩ := H E k2 (by rw [g2]; exact fun z => by cases z)
  have e9 := hc 1 (by decide) (by decide)
  refine ⟨hk, q1.trans g, li, E, n, by rw [q3]; exact e1, k1, u1.trans g1, by rw [u3]; exact e2, k2, v1.trans g2, n1, by rw [u2, e9]; exact h1, by rw [e9]; exact h2, by rw [e9]; exact h3, by rw [e9]; exact h4, fun q hq0 hq => ?_⟩
  rw [e9] at hq
  obtain ⟨cl, e3, s⟩ := h5 q hq0 hq
  refine ⟨cl, by rw [v3]; exact e3, ?_⟩
  rw [hc (2 + 8 * q) (by omega) (by omega), hc (5 + 8 * q) (by omega) (by omega), hc (6 + 8 * q) (by omega) (by omega), hc (7 + 8 * q) (by omega) (by omega), hc (8 + 8 * q) (by omega) (by omega)]
  exact ClauR.hi H (fun j h0 h9 => ⟨hc _ (by omega) (by omega), hc _ (by omega) (by omega)⟩) s
