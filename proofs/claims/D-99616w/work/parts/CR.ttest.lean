/-! THE PLAIN LAW: texts: the twin reads one test -/
set_option maxRecDepth 100000
/-- a test's code is laid -/
def apT (ord : Bool) : Te → OPS → OPS
  | .inner 0 sg p _ _, C => apS ord p.2 (apS ord p.1 C) ++ [(cmOp sg, 0)]
  | .inner 1 _ _ _ _, C => C
  | .inner 2 all _ l r, C => if teL all l = [] then apT ord r C else setA (apT ord r (apT ord l C ++ [(30 - all, 0)])) ((apT ord l C).length : Nat) ((apT ord r (apT ord l C ++ [(30 - all, 0)])).length : Nat)
  | .inner (q + 3) _ _ t _, C => apT ord t C ++ List.replicate q (28, 0)
  | .leaf, C => C
def stp (ord : Bool) (all : Int) (t : Te) (D : OPS) : OPS := setA (apT ord t (D ++ [(30 - all, 0)])) (D.length : Nat) ((apT ord t (D ++ [(30 - all, 0)])).length : Nat)
def apL (ord : Bool) (all : Int) : List Te → OPS → OPS
  | [], C => C
  | t :: ts, C => ts.foldl (fun D u => stp ord all u D) (apT ord t C)
theorem apT_cmp {ord : Bool} {sg : Int} {l r : Su} {C : OPS} : apT ord (.cmp sg l r) C = apS ord r (apS ord l C) ++ [(cmOp sg, 0)] := rfl
theorem apT_nots {ord : Bool} {q : Nat} {t : Te} {C : OPS} : apT ord (.nots q t) C = apT ord t C ++ List.replicate q (28, 0) := rfl
theorem apL_snoc {ord : Bool} {all : Int} (t : Te) (l : List Te) (hl : l ≠ []) (C : OPS) : apL ord all (l ++ [t]) C = stp ord all t (apL ord all l C) := by
  cases l with
  | nil => exact absurd rfl hl
  | cons u ts =>
    show (ts ++ [t]).foldl (fun D u => stp ord all u D) (apT ord u C) = _
    rw [List.foldl_append]
    rfl
/-- tests joined: their code is that of the list -/
theorem apT_L {ord : Bool} {all : Int} : ∀ (x : Te) (C : OPS), teL all x ≠ [] → apT ord x C = apL ord all (teL all x) C := by
  intro x
  induction x with
  | leaf => intro C h; exact absurd rfl h
  | inner n a p l r il ir =>
    rcases n with _ | _ | _ | n
    · intro C h; exact absurd rfl h
    · intro C h; exact absurd rfl h
    · intro C h
      have e1 : teL all (.inner 2 a p l r) = if a = all then teL all l ++ [r] else [] := rfl
      have h : teL all (.inner 2 a p l r) ≠ [] := h
      show apT ord (.inner 2 a p l r) C = apL ord all (teL all (.inner 2 a p l r)) C
      by_cases g : a = all
      · subst g
        rw [e1, if_pos rfl]
        show (if teL a l = [] then apT ord r C else stp ord a r (apT ord l C)) = _
        by_cases q : teL a l = []
        · rw [if_pos q, q]; rfl
        · rw [if_neg q, apL_snoc r _ q, il C q]
      · rw [e1, if_neg g] at h; exact absurd rfl h
    · intro C h; exact absurd rfl h
theorem apT_V {ord : Bool} {all : Int} {x : Te} {ts : List Te} (h : teV x = .inr (.inr (all, ts))) (C : OPS) : apT ord x C = apL ord all ts C := by
  cases x with
  | leaf => injection h with h; injection h with h; injection h with h1 h2; subst h2; rfl
  | inner n a p l r =>
    rcases n with _ | _ | _ | n
    · cases h
    · injection h with h; injection h with h; injection h with h1 h2; subst h2; rfl
    · injection h with h; injection h with h; injection h with h1 h2
      subst h1
      have e1 : teL a (.inner 2 a p l r) = teL a l ++ [r] := if_pos rfl
      have e2 := apT_L (ord := ord) (all := a) (.inner 2 a p l r) C (by rw [e1]; exact fun z => List.append_ne_nil_of_right_ne_nil _ (fun y => by cases y) z)
      rw [e1, h2] at e2
      exact e2
    · injection h with h; cases h
theorem apT_sev {ord : Bool} {all : Int} {ts : List Te} {C : OPS} : apT ord (.sev all ts) C = apL ord all ts C := apT_V teV_sev C
/-- from here on (mode 0) the twin reads S, of level lev -/
def KTE (T : Int → Int) (N : Int) (ord : Bool) (D lev : Int) (G : LX → Prop) (S : LX → PRS Te) : Prop := ∀ (QW X : Wd → Prop) (g c : Nat) (s : LX) (w : Wd) (P C : OPS), TWQ T N w s P C → CFG ord w → D ≤ s.2.2.2 → TB lev P → inB P ≠ 32 → 4 * (N + 1 - s.1).toNat + c ≤ g → (∀ y t, S s = .ok (y, t) → ∀ w' g' L E, FE w w' → TWQ T N w' t (L ++ P) E → (∀ p ∈ L, lev ≤ bnd p.1 ∧ p.1 ≤ 30) → flush L E = apT ord y C → G t → 4 * (N + 1 - t.1).toNat + c ≤ g' → wp_X5_readExpression_20 QW X 0 1 g' 2 w') → (∀ e, S s = .error e → ∀ w', FE w w' → BDE T N w' e → X w') → wp_X5_readExpression_20 QW X 0 1 g 0 w
section TTEST
variable {T : Int → Int} {N : Int} {ord : Bool} {w w' w1 w2 : Wd} {k t n g : Nat} {s : LX} {p : Int × Int} {P C L : OPS} {v x i lo o a x1 : Int} {Q : Int → Wd → Prop} {QW X : Wd → Prop}
theorem l5_one_inv (h : gV w 0 19 = 0) (hq : wp_X5_readExpression_20 QW X 0 x1 (g + 1) 1 w) : wp_X5_readPart 0 w fun r w2 => wp_X5_readExpression_20 QW X 0 x1 g r w2 := by
  rw [wp_X5_readExpression_20] at hq
  obtain ⟨_, _, _, hq⟩ := hq
  have hq := hq (fun y => y h)
  obtain ⟨_, _, hq⟩ := hq
  have hq := hq (by decide)
  obtain ⟨_, hq, _⟩ := hq
  have hq := hq (by decide)
  obtain ⟨_, _, hq⟩ := hq
  have hq := hq (fun y => y rfl)
  exact hq.2
theorem l5_zero (h : TWQ T N w s P C) (hq : wp_X5_readPlain 0 w fun r w2 => wp_X5_readExpression_20 QW X 0 x1 g r w2) : wp_X5_readExpression_20 QW X 0 x1 (g + 1) 0 w := by
  have S := h.1.1.1
  rw [wp_X5_readExpression_20]
  exact s_gfI (KF S rfl) h.2.2.1 (s_ckI ⟨by decide, by decide⟩ (s_br (fun y => absurd rfl y) (fun _ => s_ckI ⟨by decide, by decide⟩ (s_br (fun y => absurd y (by decide)) (fun _ => s_ckI ⟨by decide, by decide⟩ (s_br (fun y => absurd rfl y) (fun _ => s_cO (KF S rfl) hq)))))))
theorem l5_two (h : TWQ T N w s P C) (hq : wp_X5_behindTest 0 w fun r w2 => wp_X5_readExpression_20 QW X 0 x1 g r w2) : wp_X5_readExpression_20 QW X 0 x1 (g + 1) 2 w := by
  have S := h.1.1.1
  rw [wp_X5_readExpression_20]
  exact s_gfI (KF S rfl) h.2.2.1 (s_ckI ⟨by decide, by decide⟩ (s_br (fun y => absurd rfl y) (fun _ => s_ckI ⟨by decide, by decide⟩ (s_br (fun y => absurd y (by decide)) (fun _ => s_ckI ⟨by decide, by decide⟩ (s_br (fun _ => s_ckI ⟨by decide, by decide⟩ (s_br (fun _ => s_ckI ⟨by decide, by decide⟩ (s_br (fun _ => s_cO (KF S rfl) hq) (fun y => absurd (by decide) y))) (fun y => absurd (by decide) y))) (fun y => absurd (by decide) y)))))))
theorem isC_no (h : TB 4 P) : isC P = false := by
  cases P with
  | nil => rfl
  | cons p P2 =>
    have b := h p P2 rfl
    have o : 28 ≤ p.1 := by
      unfold bnd at b
      repeat' split at b
      all_goals omega
    show (if p.1 ≤ 24 then isC P2 else decide (p.1 ≤ 27)) = false
    rw [if_neg (by omega)]
    exact decide_eq_false (by omega)
/-- the word `not` -/
theorem y5_not (h : TWQ T N w s P C) (hq : Q (b2i (tkT T 7 s = true)) w) : wp_X5_isWord 0 14836 w Q := y5_isWord (j := 7) h.1 h.2.1 (by decide) (by decide) (by decide) (by decide) ⟨by decide, by decide⟩ hq
/-- behind a sum, in a test: no bracket of a sum is open -/
theorem q5_163 (h : TWQ T N w s P C) (m : muN T s ∧ adN T s) (hb : inB P ≠ 32) (hx : x1 = 1) (hq : wp_X5_behindSum_163 Q 0 w) : wp_X5_behindSum 0 x1 w Q := by
  have S := h.1.1.1
  refine q5_noop h m.1 m.2 ?_
  unfold wp_X5_behindSum_71
  have ib : -1 ≤ inB P ∧ inB P ≤ 32 := by
    have key : ∀ P : OPS, (∀ p ∈ P, 20 ≤ p.1 ∧ p.1 ≤ 32) → -1 ≤ inB P ∧ inB P ≤ 32 := by
      intro P
      induction P with
      | nil => intro _; exact ⟨by decide, by decide⟩
      | cons p P ih =>
        intro hp
        have a := hp p (List.mem_cons_self ..)
        have b := ih (fun q hq => hp q (List.mem_cons_of_mem _ hq))
        show -1 ≤ (if 31 ≤ p.1 then p.1 else inB P) ∧ (if 31 ≤ p.1 then p.1 else inB P) ≤ 32
        split <;> omega
    exact key P (fun p hp => (h.2.2.2.2.2.1.2.2.2.2 p hp).1)
  refine s_ckI ⟨by decide, by decide⟩ (s_br (fun _ => s_cO (KF S rfl) (y5_inner S h.2.2.2.2.2.1 (by have := h.n400; omega) ?_)) (fun y => absurd rfl y))
  refine s_ckI ⟨by omega, by omega⟩ (s_br (fun _ => s_ckI ⟨by omega, by omega⟩ (s_br (fun _ => hq) (fun _ => s_ckI ⟨by omega, by omega⟩ (s_br (fun _ => hq) (fun y => absurd (by omega) y))))) (fun y => absurd (Decidable.not_not.mp y) hb))
end TTEST
