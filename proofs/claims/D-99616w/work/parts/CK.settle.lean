/-! THE PLAIN LAW: texts: the twin's pile settles -/
set_option maxRecDepth 100000
abbrev OPS : Type := List (Int × Int)
def setA (C : OPS) (a v : Int) : OPS := C.set a.toNat ((C.getD a.toNat (0, 0)).1, v)
/-- one leaves the pile -/
def flu1 (p : Int × Int) (C : OPS) : OPS := if p.1 = 29 ∨ p.1 = 30 then setA C p.2 (C.length : Nat) else C ++ [(p.1, 0)]
def flush : OPS → OPS → OPS
  | [], C => C
  | p :: L, C => flush L (flu1 p C)
def RAW (w : Wd) (P C : OPS) : Prop := gV w 0 29 = (P.length : Nat) ∧ gV w 0 23 = (C.length : Nat) ∧ PIL w P ∧ COD w C ∧ PBD C.length P
def FP5 (w w' : Wd) : Prop := Sm w w' ∧ ∀ k j, ¬ (k = 0 ∧ (j = 23 ∨ j = 29)) → ¬ (24 ≤ k ∧ k ≤ 28) → gV w' k j = gV w k j
section SETTLE
variable {T : Int → Int} {N : Int} {w w' w1 w2 : Wd} {k t n : Nat} {s : LX} {p : Int × Int} {P C L : OPS} {v x i lo o a : Int} {Q : Int → Wd → Prop} {QW X : Wd → Prop}
theorem FP5.rf : FP5 w w := ⟨Sm.rf, fun _ _ _ _ => rfl⟩
theorem FP5.tr (h1 : FP5 w w1) (h2 : FP5 w1 w2) : FP5 w w2 := ⟨h1.1.tr h2.1, fun k j a b => (h2.2 k j a b).trans (h1.2 k j a b)⟩
theorem FP5.sV (h : FP5 w w') (hj : (k = 0 ∧ (i = 23 ∨ i = 29)) ∨ (24 ≤ k ∧ k ≤ 28)) : FP5 w (sV w' k i x) := ⟨h.1.sV, fun k' j' a b => by
  rw [gV_ne (fun e => by
    rcases hj with hj | hj
    · exact a ⟨e.1.trans hj.1, by omega⟩
    · exact b (by omega))]
  exact h.2 k' j' a b⟩
theorem FP5.fe (h : FP5 w w') : FE w w' := ⟨h.1, fun k j a b => h.2 k j (fun y => a ⟨y.1, by omega⟩) b⟩
theorem TWX.fp (h : TWX T N w s) (f : FP5 w w') : TWX T N w' s := ⟨h.1.fe f.fe, (f.2 0 14 (by omega) (by omega)).trans h.2.1, (f.2 0 15 (by omega) (by omega)).trans h.2.2.1, (f.2 0 16 (by omega) (by omega)).trans h.2.2.2.1, (f.2 0 17 (by omega) (by omega)).trans h.2.2.2.2⟩
theorem PBD.mo {c c' : Nat} (h : PBD c P) (hc : c ≤ c') : PBD c' P := fun p hp => by
  obtain ⟨a, b, d⟩ := h p hp
  exact ⟨a, b, fun e => by have := d e; omega⟩
theorem COD.app (h : COD w C) (e1 : gV w 24 (C.length : Nat) = o) (e2 : gV w 25 (C.length : Nat) = a) : COD w (C ++ [(o, a)]) := fun i c hc => by
  by_cases g : i < C.length
  · rw [List.getElem?_append_left g] at hc; exact h i c hc
  · rw [List.getElem?_append_right (by omega)] at hc
    have z : i - C.length = 0 := by
      by_cases z : i - C.length = 0
      · exact z
      · rw [List.getElem?_eq_none (by show 1 ≤ i - C.length; omega)] at hc; cases hc
    rw [z] at hc
    have hc : (o, a) = c := by injection hc
    subst hc
    have ei : i = C.length := by omega
    rw [ei]
    exact ⟨e1, e2⟩
/-- one more of the code -/
theorem y5_emit (S : SOK w) (R : RAW w P C) (hl : C.length < 400) (hq : ∀ w', FP5 w w' → RAW w' P (C ++ [(o, a)]) → QW w') : wp_X5_emit 0 o a w QW := by
  obtain ⟨r1, r2, r3, r4, r5⟩ := R
  unfold wp_X5_emit
  refine s_gfA (KF S rfl) (RF S rfl) (s_gfI (KF S rfl) r2 (s_asI (KF S rfl) (by decide) ⟨by omega, by omega⟩ ?_))
  have S1 : SOK (sV w 24 (C.length : Nat) o) := S
  refine s_gfA (KF S1 rfl) (RF S1 rfl) (s_gfI (KF S1 rfl) ((gV_ne (by omega)).trans r2) (s_asI (KF S1 rfl) (by decide) ⟨by omega, by omega⟩ ?_))
  have S2 : SOK (sV (sV w 24 (C.length : Nat) o) 25 (C.length : Nat) a) := S
  refine s_gfI (KF S2 rfl) ((gV_ne (by omega)).trans ((gV_ne (by omega)).trans r2)) (s_pfI (KF S2 rfl) ?_)
  have f3 : FP5 w (sV (sV (sV w 24 (C.length : Nat) o) 25 (C.length : Nat) a) 0 23 ((C.length : Nat) + 1)) := ((FP5.rf.sV (Or.inr (by decide))).sV (Or.inr (by decide))).sV (Or.inl (by decide))
  refine hq _ f3 ⟨(gV_ne (by omega)).trans ((gV_ne (by omega)).trans ((gV_ne (by omega)).trans r1)), ?_, r3.fr (fun i hi => ⟨?_, ?_⟩), COD.app (r4.fr (fun i hi => ⟨?_, ?_⟩)) ?_ ?_, r5.mo (by rw [List.length_append]; omega)⟩
  · rw [gV_at, List.length_append]; rfl
  · exact (gV_ne (by omega)).trans ((gV_ne (by omega)).trans (gV_ne (by omega)))
  · exact (gV_ne (by omega)).trans ((gV_ne (by omega)).trans (gV_ne (by omega)))
  · exact (gV_ne (by omega)).trans ((gV_ne (by omega)).trans (gV_ne (by omega)))
  · exact (gV_ne (by omega)).trans ((gV_ne (by omega)).trans (gV_ne (by omega)))
  · exact (gV_ne (by omega)).trans ((gV_ne (by omega)).trans gV_at)
  · exact (gV_ne (by omega)).trans gV_at
/-- one more on the pile -/
theorem y5_push (S : SOK w) (R : RAW w P C) (hl : P.length < 400) (hp : (20 ≤ o ∧ o ≤ 32) ∧ (0 ≤ a ∧ a ≤ 400)) (hpc : o = 29 ∨ o = 30 → a < (C.length : Nat) + 1) (hq : ∀ w', FP5 w w' → gV w' 0 29 = ((P.length + 1 : Nat) : Int) → gV w' 0 23 = (C.length : Nat) → PIL w' ((o, a) :: P) → COD w' C → PBD C.length P → QW w') : wp_X5_push 0 o a w QW := by
  obtain ⟨r1, r2, r3, r4, r5⟩ := R
  unfold wp_X5_push
  refine s_gfA (KF S rfl) (RF S rfl) (s_gfI (KF S rfl) r1 (s_asI (KF S rfl) (by decide) ⟨by omega, by omega⟩ ?_))
  have S1 : SOK (sV w 27 (P.length : Nat) o) := S
  refine s_gfA (KF S1 rfl) (RF S1 rfl) (s_gfI (KF S1 rfl) ((gV_ne (by omega)).trans r1) (s_asI (KF S1 rfl) (by decide) ⟨by omega, by omega⟩ ?_))
  have S2 : SOK (sV (sV w 27 (P.length : Nat) o) 28 (P.length : Nat) a) := S
  refine s_gfI (KF S2 rfl) ((gV_ne (by omega)).trans ((gV_ne (by omega)).trans r1)) (s_pfI (KF S2 rfl) ?_)
  have f3 : FP5 w (sV (sV (sV w 27 (P.length : Nat) o) 28 (P.length : Nat) a) 0 29 ((P.length : Nat) + 1)) := ((FP5.rf.sV (Or.inr (by decide))).sV (Or.inr (by decide))).sV (Or.inl (by decide))
  refine hq _ f3 gV_at ((gV_ne (by omega)).trans ((gV_ne (by omega)).trans ((gV_ne (by omega)).trans r2))) ⟨?_, ?_, r3.fr (fun i hi => ⟨?_, ?_⟩)⟩ (r4.fr (fun i hi => ⟨?_, ?_⟩)) r5
  · exact (gV_ne (by omega)).trans ((gV_ne (by omega)).trans gV_at)
  · exact (gV_ne (by omega)).trans gV_at
  · exact (gV_ne (by omega)).trans ((gV_ne (by omega)).trans (gV_ne (by omega)))
  · exact (gV_ne (by omega)).trans ((gV_ne (by omega)).trans (gV_ne (by omega)))
  · exact (gV_ne (by omega)).trans ((gV_ne (by omega)).trans (gV_ne (by omega)))
  · exact (gV_ne (by omega)).trans ((gV_ne (by omega)).trans (gV_ne (by omega)))
theorem setA_len {a v : Int} : (setA C a v).length = C.length := by unfold setA; rw [List.length_set]
theorem COD.set (h : COD w C) (ha : 0 ≤ a ∧ a < (C.length : Nat)) : COD (sV w 25 a v) (setA C a v) := fun i c hc => by
  unfold setA at hc
  by_cases g : i = a.toNat
  · have gi : a.toNat < C.length := by omega
    rw [g, List.getElem?_set_self gi] at hc
    injection hc with hc
    subst hc
    have e := h a.toNat (C[a.toNat]) (List.getElem?_eq_getElem gi)
    have ea : ((a.toNat : Nat) : Int) = a := by omega
    rw [ea] at e
    rw [g, ea]
    refine ⟨?_, gV_at⟩
    rw [gV_ne (by omega), e.1, List.getD_eq_getElem?_getD, List.getElem?_eq_getElem gi]
    rfl
  · rw [List.getElem?_set_ne (fun y => g y.symm)] at hc
    have e := h i c hc
    exact ⟨(gV_ne (by omega)).trans e.1, (gV_ne (by omega)).trans e.2⟩
/-- the pile gives way down to what binds less -/
theorem y5_settle_0 : ∀ (L : OPS) (fuel : Nat) (C : OPS) (w : Wd), L.length < fuel → SOK w → RAW w (L ++ P) C → (∀ p ∈ L, x ≤ bnd p.1) → (∀ p P2, P = p :: P2 → bnd p.1 < x) → inI x → C.length + (L ++ P).length ≤ 400 → (∀ w', FP5 w w' → RAW w' P (flush L C) → QW w') → wp_X5_settle_0 QW 0 x fuel w := by
  intro L
  induction L with
  | nil =>
    intro fuel C w hf S R _ hP hx hl hq
    obtain ⟨f, rfl⟩ : ∃ f, fuel = f + 1 := ⟨fuel - 1, by omega⟩
    have R : RAW w P C := R
    have hl : C.length + P.length ≤ 400 := hl
    rw [wp_X5_settle_0]
    refine s_gfI (KF S rfl) R.1 (s_ckI ⟨by omega, by omega⟩ (s_br (fun _ => hq w FP5.rf R) (fun y => ?_)))
    cases hp : P with
    | nil => rw [hp] at y; exact absurd (Int.le_refl _) y
    | cons p P2 =>
      subst hp
      have b := hP p P2 rfl
      obtain ⟨r1, r2, r3, r4, r5⟩ := R
      have hb := r5 p (List.mem_cons_self ..)
      have e1 : ((P2.length + 1 : Nat) : Int) - 1 = (P2.length : Nat) := by omega
      have r1 : gV w 0 29 = ((P2.length + 1 : Nat) : Int) := r1
      have hl : C.length + (P2.length + 1) ≤ 400 := hl
      refine s_gfA (KF S rfl) (RF S rfl) (s_gfI (KF S rfl) r1 ?_)
      rw [e1]
      refine s_alI (KF S rfl) (by decide) ⟨by omega, by omega⟩ r3.1 (y5_binds hb.1 (s_ckI ⟨by have := bnd_in (o := p.1); omega, by have := bnd_in (o := p.1); omega⟩ (s_ckI hx (s_br (fun _ => hq w FP5.rf ⟨r1, r2, r3, r4, r5⟩) (fun z => absurd b z)))))
  | cons p L ih =>
    intro fuel C w hf S R hL hP hx hl hq
    obtain ⟨f, rfl⟩ : ∃ f, fuel = f + 1 := ⟨fuel - 1, by omega⟩
    obtain ⟨r1, r2, r3, r4, r5⟩ := R
    have b := hL p (List.mem_cons_self ..)
    have hb := r5 p (List.mem_cons_self ..)
    have r1 : gV w 0 29 = (((L ++ P).length + 1 : Nat) : Int) := r1
    have hl : C.length + ((L ++ P).length + 1) ≤ 400 := hl
    have hf : L.length + 1 < f + 1 := hf
    obtain ⟨q1, q2, q3⟩ := r3
    have e1 : (((L ++ P).length + 1 : Nat) : Int) - 1 = ((L ++ P).length : Nat) := by omega
    rw [wp_X5_settle_0]
    refine s_gfI (KF S rfl) r1 (s_ckI ⟨by omega, by omega⟩ (s_br (fun y => absurd y (by omega)) (fun _ => ?_)))
    refine s_gfA (KF S rfl) (RF S rfl) (s_gfI (KF S rfl) r1 ?_)
    rw [e1]
    refine s_alI (KF S rfl) (by decide) ⟨by omega, by omega⟩ q1 (y5_binds hb.1 (s_ckI ⟨by have := bnd_in (o := p.1); omega, by have := bnd_in (o := p.1); omega⟩ (s_ckI hx (s_br (fun z => absurd z (by omega)) (fun _ => ?_)))))
    refine s_gfI (KF S rfl) r1 ?_
    rw [e1]
    refine s_pfI (KF S rfl) ?_
    have f1 : FP5 w (sV w 0 29 ((L ++ P).length : Nat)) := FP5.rf.sV (Or.inl (by decide))
    have S1 : SOK (sV w 0 29 ((L ++ P).length : Nat)) := S
    have R1 : RAW (sV w 0 29 ((L ++ P).length : Nat)) (L ++ P) C := ⟨gV_at, (gV_ne (by omega)).trans r2, q3.fr (fun i hi => ⟨gV_ne (by omega), gV_ne (by omega)⟩), r4.fr (fun i hi => ⟨gV_ne (by omega), gV_ne (by omega)⟩), fun p hp => r5 p (List.mem_cons_of_mem _ hp)⟩
    have q1' : gV (sV w 0 29 ((L ++ P).length : Nat)) 27 ((L ++ P).length : Nat) = p.1 := (gV_ne (by omega)).trans q1
    have q2' : gV (sV w 0 29 ((L ++ P).length : Nat)) 28 ((L ++ P).length : Nat) = p.2 := (gV_ne (by omega)).trans q2
    generalize sV w 0 29 ((L ++ P).length : Nat) = w1 at *
    have join : p.1 = 29 ∨ p.1 = 30 → wp_X5_settle_63 QW (wp_X5_settle_0 QW 0 x f) 0 x w1 := by
      intro hj
      have pc := hb.2.2 hj
      unfold wp_X5_settle_63
      refine s_gfA (KF S1 rfl) (RF S1 rfl) (s_gfA (KF S1 rfl) (RF S1 rfl) (s_gfI (KF S1 rfl) R1.1 (s_alI (KF S1 rfl) (by decide) ⟨by omega, by omega⟩ q2' (s_gfI (KF S1 rfl) R1.2.1 (s_asI (KF S1 rfl) (by decide) ⟨by omega, by omega⟩ ?_)))))
      have e9 : flush (p :: L) C = flush L (setA C p.2 (C.length : Nat)) := by show flush L (flu1 p C) = _; unfold flu1; rw [if_pos hj]
      rw [e9] at hq
      have f2 : FP5 w1 (sV w1 25 p.2 (C.length : Nat)) := FP5.rf.sV (Or.inr (by decide))
      refine ih f (setA C p.2 (C.length : Nat)) _ (by omega) S1 ⟨(gV_ne (by omega)).trans R1.1, ?_, R1.2.2.1.fr (fun i hi => ⟨gV_ne (by omega), gV_ne (by omega)⟩), R1.2.2.2.1.set ⟨hb.2.1.1, by omega⟩, by rw [setA_len]; exact R1.2.2.2.2⟩ (fun q hq => hL q (List.mem_cons_of_mem _ hq)) hP hx (by rw [setA_len]; omega) (fun w' f' R' => hq w' (f1.tr (f2.tr f')) R')
      rw [setA_len]
      exact (gV_ne (by omega)).trans R1.2.1
    refine s_gfA (KF S1 rfl) (RF S1 rfl) (s_gfI (KF S1 rfl) R1.1 (s_alI (KF S1 rfl) (by decide) ⟨by omega, by omega⟩ q1' (s_ckI ⟨by omega, by omega⟩ (s_br (fun y => join (Or.inl y)) (fun y => ?_)))))
    refine s_gfA (KF S1 rfl) (RF S1 rfl) (s_gfI (KF S1 rfl) R1.1 (s_alI (KF S1 rfl) (by decide) ⟨by omega, by omega⟩ q1' (s_ckI ⟨by omega, by omega⟩ (s_br (fun y2 => ?_) (fun y2 => join (Or.inr (Decidable.not_not.mp y2)))))))
    refine s_gfA (KF S1 rfl) (RF S1 rfl) (s_gfI (KF S1 rfl) R1.1 (s_alI (KF S1 rfl) (by decide) ⟨by omega, by omega⟩ q1' (s_cO (KF S1 rfl) (y5_emit S1 R1 (by omega) (fun w2 f2 R2 => ?_)))))
    have e9 : flush (p :: L) C = flush L (C ++ [(p.1, 0)]) := by
      show flush L (flu1 p C) = _
      unfold flu1
      have ny : ¬ (p.1 = 29 ∨ p.1 = 30) := fun z => z.elim y (fun u => (Decidable.not_not.mpr u) y2)
      rw [if_neg ny]
    rw [e9] at hq
    exact ih f (C ++ [(p.1, 0)]) w2 (by omega) (S1.sm f2.1) R2 (fun q hq => hL q (List.mem_cons_of_mem _ hq)) hP hx (by rw [List.length_append]; show C.length + 1 + (L ++ P).length ≤ 400; omega) (fun w' f' R' => hq w' (f1.tr (f2.tr f')) R')
end SETTLE
