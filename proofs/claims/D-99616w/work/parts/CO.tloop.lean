/-! THE PLAIN LAW: texts: the twin's loop over an expression: its steps -/
set_option maxRecDepth 100000
/-- the topmost bracket -/
def inB : OPS → Int
  | [] => -1
  | p :: P => if 31 ≤ p.1 then p.1 else inB P
/-- a comparison stands under the sum -/
def isC : OPS → Bool
  | [] => false
  | p :: P => if p.1 ≤ 24 then isC P else decide (p.1 ≤ 27)
def TB (x : Int) (P : OPS) : Prop := ∀ p P2, P = p :: P2 → bnd p.1 < x
section TLOOP
variable {T : Int → Int} {N : Int} {ord : Bool} {w w' w1 w2 : Wd} {k t n g : Nat} {s : LX} {p : Int × Int} {P C L : OPS} {v x i lo o a x1 : Int} {Q : Int → Wd → Prop} {QW X : Wd → Prop}
theorem PIL.at : ∀ {A B : OPS}, PIL w (A ++ p :: B) → gV w 27 (B.length : Nat) = p.1 ∧ gV w 28 (B.length : Nat) = p.2 := by
  intro A
  induction A with
  | nil => intro B h; exact ⟨h.1, h.2.1⟩
  | cons q A ih => intro B h; exact ih h.2.2
theorem inB_app {A : OPS} (h : ∀ p ∈ A, p.1 < 31) : inB (A ++ P) = inB P := by
  induction A with
  | nil => rfl
  | cons q A ih =>
    have g := h q (List.mem_cons_self ..)
    show (if 31 ≤ q.1 then q.1 else inB (A ++ P)) = _
    rw [if_neg (by omega)]
    exact ih (fun p hp => h p (List.mem_cons_of_mem _ hp))
theorem isC_app {A : OPS} (h : ∀ p ∈ A, p.1 ≤ 24) : isC (A ++ P) = isC P := by
  induction A with
  | nil => rfl
  | cons q A ih =>
    have g := h q (List.mem_cons_self ..)
    show (if q.1 ≤ 24 then isC (A ++ P) else decide (q.1 ≤ 27)) = _
    rw [if_pos g]
    exact ih (fun p hp => h p (List.mem_cons_of_mem _ hp))
theorem y5_inner_4 (S : SOK w) (R : RAW w P C) (hl : P.length ≤ 400) (hq : Q (inB P) w) : ∀ (m fuel : Nat) (A B : OPS), A.length = m → P = A ++ B → m < fuel → wp_X5_inner_4 Q 0 fuel (inB B) (B.length : Nat) w := by
  intro m
  induction m with
  | zero =>
    intro fuel A B hA hP hf
    obtain ⟨f, rfl⟩ : ∃ f, fuel = f + 1 := ⟨fuel - 1, by omega⟩
    have e : A = [] := List.eq_nil_of_length_eq_zero hA
    subst e
    have hP : P = B := hP
    subst hP
    rw [wp_X5_inner_4]
    exact s_gfI (KF S rfl) R.1 (s_ckI ⟨by omega, by omega⟩ (s_ckI ⟨by omega, by omega⟩ (s_br (fun _ => hq) (fun y => absurd (Int.le_refl _) y))))
  | succ m ih =>
    intro fuel A B hA hP hf
    obtain ⟨f, rfl⟩ : ∃ f, fuel = f + 1 := ⟨fuel - 1, by omega⟩
    obtain ⟨A2, p, rfl⟩ : ∃ A2 p, A = A2 ++ [p] := by
      rcases List.eq_nil_or_concat A with h | ⟨A2, p, h⟩
      · rw [h] at hA; cases hA
      · exact ⟨A2, p, by rw [h, List.concat_eq_append]⟩
    have hA2 : A2.length = m := by rw [List.length_append] at hA; have hA : A2.length + 1 = m + 1 := hA; omega
    have hP2 : P = A2 ++ (p :: B) := by rw [hP, List.append_assoc]; rfl
    have hPl : P.length = m + (B.length + 1) := by rw [hP2, List.length_append, hA2]; rfl
    have hp := (hP2 ▸ R.2.2.1 : PIL w (A2 ++ p :: B)).at
    have hb := (R.2.2.2.2 p (by rw [hP2]; exact List.mem_append_right _ (List.mem_cons_self ..))).1
    have e1 : ((B.length : Nat) : Int) + 1 = (((p :: B).length : Nat) : Int) := rfl
    have r1 := R.1
    rw [hPl] at r1
    rw [wp_X5_inner_4]
    refine s_gfI (KF S rfl) r1 (s_ckI ⟨by omega, by omega⟩ (s_ckI ⟨by omega, by omega⟩ (s_br (fun y => absurd y (by omega)) (fun _ => s_gfA (KF S rfl) (RF S rfl) (s_alI (KF S rfl) (by decide) ⟨by omega, by omega⟩ hp.1 (s_ckI ⟨by omega, by omega⟩ (s_br (fun y => ?_) (fun y => ?_))))))))
    · unfold wp_X5_inner_33
      have e2 : inB B = inB (p :: B) := by show _ = if 31 ≤ p.1 then p.1 else inB B; rw [if_neg (by omega)]
      rw [e1, e2]
      exact ih f A2 (p :: B) hA2 hP2 (by omega)
    · refine s_gfA (KF S rfl) (RF S rfl) (s_alI (KF S rfl) (by decide) ⟨by omega, by omega⟩ hp.1 ?_)
      unfold wp_X5_inner_33
      have e2 : p.1 = inB (p :: B) := by show _ = if 31 ≤ p.1 then p.1 else inB B; rw [if_pos (by omega)]
      rw [e1, e2]
      exact ih f A2 (p :: B) hA2 hP2 (by omega)
theorem y5_inner (S : SOK w) (R : RAW w P C) (hl : P.length ≤ 400) (hq : Q (inB P) w) : wp_X5_inner 0 w Q := by
  unfold wp_X5_inner
  have e : P = P ++ [] := (List.append_nil P).symm
  exact y5_inner_4 S R hl hq P.length FU P [] rfl e (by unfold FU; omega)
theorem y5_isCompared_7 (S : SOK w) (hq : Q (b2i (isC P = true)) w) : ∀ (P2 : OPS) (fuel : Nat) (C : OPS), isC P2 = isC P → PIL w P2 → (∀ p ∈ P2, 20 ≤ p.1 ∧ p.1 ≤ 32) → P2.length ≤ 400 → P2.length < fuel → wp_X5_isCompared_7 Q (fun z2 w3 => wp_X5_isCompared_36 Q 0 z2 w3) 0 fuel ((P2.length : Nat) - 1) w := by
  intro P2
  induction P2 with
  | nil =>
    intro fuel C e hp hb hl hf
    obtain ⟨f, rfl⟩ : ∃ f, fuel = f + 1 := ⟨fuel - 1, by omega⟩
    rw [wp_X5_isCompared_7]
    rw [b2i_f (by rw [← e]; exact fun y => Bool.noConfusion y)] at hq
    refine s_ckI ⟨by decide, by decide⟩ (s_br (fun _ => ?_) (fun y => absurd (by decide) y))
    unfold wp_X5_isCompared_36
    exact s_ckI ⟨by decide, by decide⟩ (s_br (fun _ => s_zr (Or.inl rfl) hq) (fun y => absurd (by decide) y))
  | cons p P2 ih =>
    intro fuel C e hp hb hl hf
    obtain ⟨f, rfl⟩ : ∃ f, fuel = f + 1 := ⟨fuel - 1, by omega⟩
    have e1 : (((p :: P2).length : Nat) : Int) - 1 = (P2.length : Nat) := by show ((P2.length + 1 : Nat) : Int) - 1 = _; omega
    have hl : P2.length + 1 ≤ 400 := hl
    have hf : P2.length + 1 < f + 1 := hf
    have b := hb p (List.mem_cons_self ..)
    have ic : isC (p :: P2) = if p.1 ≤ 24 then isC P2 else decide (p.1 ≤ 27) := rfl
    rw [e1]
    rw [wp_X5_isCompared_7]
    refine s_ckI ⟨by omega, by omega⟩ (s_br (fun y => absurd y (by omega)) (fun _ => s_gfA (KF S rfl) (RF S rfl) (s_alI (KF S rfl) (by decide) ⟨by omega, by omega⟩ hp.1 (s_ckI ⟨by omega, by omega⟩ ?_))))
    unfold wp_X5_in
    have last : ¬ p.1 ≤ 24 → wp_X5_isCompared_36 Q 0 (P2.length : Nat) w := by
      intro y
      rw [if_neg y] at ic
      unfold wp_X5_isCompared_36
      refine s_ckI ⟨by omega, by omega⟩ (s_br (fun y => absurd y (by omega)) (fun _ => s_gfA (KF S rfl) (RF S rfl) (s_alI (KF S rfl) (by decide) ⟨by omega, by omega⟩ hp.1 (s_ckI ⟨by omega, by omega⟩ ?_))))
      unfold wp_X5_in
      refine s_ckL ⟨by omega, by omega⟩ (s_ckL ⟨by decide, by decide⟩ (s_br (fun u => absurd u (by omega)) (fun _ => s_ckL ⟨by omega, by omega⟩ (s_ckL ⟨by decide, by decide⟩ (s_br (fun u => ?_) (fun u => ?_))))))
      · rw [b2i_f (by rw [← e, ic]; exact fun q => by have := of_decide_eq_true q; omega)] at hq
        exact s_zr (Or.inl rfl) (s_ckI ⟨by decide, by decide⟩ (s_br (fun _ => s_zr (Or.inl rfl) hq) (fun q => absurd rfl q)))
      · rw [b2i_t (by rw [← e, ic]; exact decide_eq_true (by omega))] at hq
        exact s_zr (Or.inr rfl) (s_ckI ⟨by decide, by decide⟩ (s_br (fun q => absurd q (by decide)) (fun _ => s_zr (Or.inr rfl) hq)))
    refine s_ckL ⟨by omega, by omega⟩ (s_ckL ⟨by decide, by decide⟩ (s_br (fun u => absurd u (by omega)) (fun _ => s_ckL ⟨by omega, by omega⟩ (s_ckL ⟨by decide, by decide⟩ (s_br (fun u => ?_) (fun u => ?_))))))
    · exact s_zr (Or.inl rfl) (s_ckI ⟨by decide, by decide⟩ (s_br (fun _ => last (by omega)) (fun q => absurd rfl q)))
    · refine s_zr (Or.inr rfl) (s_ckI ⟨by decide, by decide⟩ (s_br (fun q => absurd q (by decide)) (fun _ => ?_)))
      have e2 : ((P2.length : Nat) : Int) + -1 = (P2.length : Nat) - 1 := by omega
      rw [e2]
      rw [if_pos (by omega)] at ic
      exact ih f C (ic.symm.trans e) hp.2.2 (fun q hq => hb q (List.mem_cons_of_mem _ hq)) (by omega) (by omega)
theorem y5_isCompared (S : SOK w) (R : RAW w P C) (hl : P.length ≤ 400) (hq : Q (b2i (isC P = true)) w) : wp_X5_isCompared 0 w Q := by
  unfold wp_X5_isCompared
  exact s_gfI (KF S rfl) R.1 (y5_isCompared_7 S hq P FU C rfl R.2.2.1 (fun p hp => (R.2.2.2.2 p hp).1) hl (by unfold FU; omega))
/-- the loop leaves at once when it has gone wrong -/
theorem l5_bad {e : Int} (hg : 0 < g) (h : BDE T N w e) (hq : X w) {m : Int} : wp_X5_readExpression_20 QW X 0 x1 g m w := by
  obtain ⟨f, rfl⟩ : ∃ f, g = f + 1 := ⟨g - 1, by omega⟩
  have S := h.1.1
  rw [wp_X5_readExpression_20]
  exact s_gfI (KF S rfl) h.2.1 (s_ckI ⟨by decide, by decide⟩ (s_br (fun _ => hq) (fun y => absurd (by decide) y)))
theorem l5_one (h : TWQ T N w s P C) (hq : wp_X5_readPart 0 w fun r w2 => wp_X5_readExpression_20 QW X 0 x1 g r w2) : wp_X5_readExpression_20 QW X 0 x1 (g + 1) 1 w := by
  have S := h.1.1.1
  rw [wp_X5_readExpression_20]
  exact s_gfI (KF S rfl) h.2.2.1 (s_ckI ⟨by decide, by decide⟩ (s_br (fun y => absurd rfl y) (fun _ => s_ckI ⟨by decide, by decide⟩ (s_br (fun y => absurd y (by decide)) (fun _ => s_ckI ⟨by decide, by decide⟩ (s_br (fun _ => s_ckI ⟨by decide, by decide⟩ (s_br (fun y => absurd rfl y) (fun _ => s_cO (KF S rfl) hq))) (fun y => absurd (by decide) y)))))))
theorem l5_three (h : TWQ T N w s P C) (hq : wp_X5_behindSum 0 x1 w fun r w2 => wp_X5_readExpression_20 QW X 0 x1 g r w2) : wp_X5_readExpression_20 QW X 0 x1 (g + 1) 3 w := by
  have S := h.1.1.1
  rw [wp_X5_readExpression_20]
  exact s_gfI (KF S rfl) h.2.2.1 (s_ckI ⟨by decide, by decide⟩ (s_br (fun y => absurd rfl y) (fun _ => s_ckI ⟨by decide, by decide⟩ (s_br (fun y => absurd y (by decide)) (fun _ => s_ckI ⟨by decide, by decide⟩ (s_br (fun _ => s_ckI ⟨by decide, by decide⟩ (s_br (fun _ => s_ckI ⟨by decide, by decide⟩ (s_br (fun y => absurd rfl y) (fun _ => s_cO (KF S rfl) hq))) (fun y => absurd (by decide) y))) (fun y => absurd (by decide) y)))))))
end TLOOP
