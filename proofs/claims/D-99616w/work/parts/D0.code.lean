/-! THE PLAIN LAW: texts: what the code of a sum is (no machine in sight) -/
set_option maxRecDepth 100000
section CODE
variable {ord : Bool}
theorem apS_pre : ∀ (x : Su) (C : OPS), ∃ X : OPS, apS ord x C = C ++ X ∧ X ≠ [] := by
  intro x
  induction x with
  | leaf => intro C; exact ⟨[(0, 0)], rfl, fun y => by cases y⟩
  | inner n sg _ l r il ir =>
  rcases n with _ | _ | n
  · intro C; exact ⟨[(0, sg)], rfl, fun y => by cases y⟩
  · intro C; exact ⟨[leC ord sg], rfl, fun y => by cases y⟩
  · intro C
    obtain ⟨X, e1, n1⟩ := il C
    obtain ⟨Y, e2, n2⟩ := ir (C ++ X)
    refine ⟨X ++ (Y ++ [(sgOp sg, 0)]), ?_, fun y => n1 (List.append_eq_nil_iff.mp y).1⟩
    show apS ord r (apS ord l C) ++ [(sgOp sg, 0)] = _
    rw [e1, e2, List.append_assoc, List.append_assoc]
/-- the depth of a sum's tree -/
def dpU : Su → Nat
  | .leaf => 1
  | .inner 0 _ _ _ _ => 1
  | .inner 1 _ _ _ _ => 1
  | .inner (_ + 2) _ _ l r => max (dpU l) (dpU r) + 1
/-- its leaves -/
def lvU : Su → Nat
  | .leaf => 1
  | .inner 0 _ _ _ _ => 1
  | .inner 1 _ _ _ _ => 1
  | .inner (_ + 2) _ _ l r => lvU l + lvU r
theorem lvU_pos : ∀ x : Su, 1 ≤ lvU x := by
  intro x
  induction x with
  | leaf => exact Nat.le_refl _
  | inner n sg _ l r il ir =>
  rcases n with _ | _ | n
  · exact Nat.le_refl _
  · exact Nat.le_refl _
  · show 1 ≤ lvU l + lvU r; omega
theorem dpU_le : ∀ x : Su, dpU x ≤ lvU x := by
  intro x
  induction x with
  | leaf => exact Nat.le_refl _
  | inner n sg _ l r il ir =>
  rcases n with _ | _ | n
  · exact Nat.le_refl _
  · exact Nat.le_refl _
  · have := lvU_pos l
    have := lvU_pos r
    show max (dpU l) (dpU r) + 1 ≤ lvU l + lvU r
    omega
end CODE
