/-! THE PLAIN LAW: texts: the twin's words and signs; its pile, its code -/
set_option maxRecDepth 100000
section TWORDS
variable {T : Int → Int} {N : Int} {w w' w1 w2 : Wd} {k t n : Nat} {s : LX} {P : Prop} {v x i lo : Int} {Q : Int → Wd → Prop} {QW X : Wd → Prop}
theorem hs_in {f : Int} {m : Nat} (hd : ∀ j : Nat, j < m → 97 ≤ T (f + j) ∧ T (f + j) ≤ 122) : ∀ k : Nat, k ≤ m → (k ≤ 10 → 0 ≤ hsT T f k ∧ hsT T f k + 1 ≤ (32 : Int) ^ k) ∧ (10 < k → hsT T f k = -1) := by
  intro k
  induction k with
  | zero => intro _; exact ⟨fun _ => ⟨Int.le_refl _, by show (0 : Int) + 1 ≤ 32 ^ 0; decide⟩, fun h => absurd h (by decide)⟩
  | succ k ih =>
    intro h
    obtain ⟨i1, i2⟩ := ih (by omega)
    have d := hd k (by omega)
    have e : hsT T f (k + 1) = if 10 ≤ k then -1 else hsT T f k * 32 + T (f + k) - 96 := rfl
    refine ⟨fun h10 => ?_, fun h10 => by rw [e, if_pos (by omega)]⟩
    rw [e, if_neg (by omega)]
    have j := i1 (by omega)
    have p : (32 : Int) ^ (k + 1) = 32 ^ k * 32 := Int.pow_succ 32 k
    rw [p]
    omega
theorem p32 : ∀ k : Fin 11, (32 : Int) ^ k.val ≤ 1125899906842624 := by decide +kernel
theorem wo_in (R : TTX T N w) (L : LOK T N s) (h : soT T N s.1 = 1) : -1 ≤ woT T N s.1 s.2.1 ∧ woT T N s.1 s.2.1 ≤ 1125899906842624 := by
  unfold woT
  rw [if_pos h]
  have c1 : s.1 < N ∧ smB (T s.1) = true := by
    unfold soT at h
    split at h
    · omega
    · split at h
      · next g1 g2 => exact ⟨by omega, g2⟩
      · split at h <;> omega
  have te : s.2.1 = ruN T N smB s.1 := by rw [L.2.1]; unfold teN; rw [if_pos c1]
  obtain ⟨_, r2, _⟩ := ruN_sp (T := T) (P := smB) (p := s.1) (N := N) L.1.2
  have hd : ∀ j : Nat, j < (s.2.1 - s.1).toNat → 97 ≤ T (s.1 + j) ∧ T (s.1 + j) ≤ 122 := fun j hj => by
    have := r2 (s.1 + j) (by omega) (by rw [← te]; omega)
    unfold smB at this
    exact of_decide_eq_true this
  obtain ⟨a, b⟩ := hs_in hd _ (Nat.le_refl _)
  by_cases g : (s.2.1 - s.1).toNat ≤ 10
  · have a := a g
    have q := p32 ⟨(s.2.1 - s.1).toNat, by omega⟩
    dsimp only at q
    omega
  · rw [b (by omega)]; decide
/-- a word? -/
theorem y5_isWord {j : Nat} {c : Int} (R : TWX T N w s) (L : LOK T N s) (h1 : 1 ≤ (wdS j).length) (h10 : (wdS j).length ≤ 10) (hl : ∀ c ∈ wdS j, 97 ≤ c ∧ c ≤ 122) (hc : c = hvR (wdS j).reverse) (hL : inL c) (hq : Q (b2i (tkT T j s = true)) w) : wp_X5_isWord 0 c w Q := by
  obtain ⟨R, r14, r15, r16, r17⟩ := R
  have S := R.1
  have hw : (soT T N s.1 = 1 ∧ woT T N s.1 s.2.1 = hvR (wdS j).reverse) ↔ tkT T j s = true := word_iff (T := T) (N := N) (l := wdS j) L h1 h10 hl
  have so : 0 ≤ soT T N s.1 ∧ soT T N s.1 ≤ 3 := by
    unfold soT
    split
    · omega
    · split
      · omega
      · split <;> omega
  unfold wp_X5_isWord
  refine s_gfI (KF S rfl) r16 (s_ckI ⟨by omega, by omega⟩ (s_br (fun y => ?_) (fun y => ?_)))
  · rw [b2i_f (fun z => y (hw.mpr z).1)] at hq
    exact s_zr (Or.inl rfl) hq
  · have y : soT T N s.1 = 1 := Decidable.not_not.mp y
    have wi := wo_in R L y
    refine s_gfI (KF S rfl) r17 (s_ckL ⟨by omega, by omega⟩ (s_ckL hL (s_br (fun z => ?_) (fun z => ?_))))
    · rw [b2i_f (fun u => z (by rw [hc]; exact (hw.mpr u).2))] at hq
      exact s_zr (Or.inl rfl) hq
    · rw [b2i_t (hw.mp ⟨y, by rw [← hc]; exact Decidable.not_not.mp z⟩)] at hq
      exact s_zr (Or.inr rfl) hq
/-- a sign? -/
theorem y5_isSign {j : Nat} {c : Int} (R : TWX T N w s) (L : LOK T N s) (hj : wdS j = [c]) (hc : (33 ≤ c ∧ c ≤ 47) ∨ (58 ≤ c ∧ c ≤ 96)) (hq : Q (b2i (tkT T j s = true)) w) : wp_X5_isSign 0 c w Q := by
  obtain ⟨R, r14, r15, r16, r17⟩ := R
  have S := R.1
  have L0 := L.1
  have hN := R.2.1
  have hw0 := sign_iff (T := T) (N := N) (c := c) L ⟨by omega, by omega⟩
  rw [← hj] at hw0
  have hw : (soT T N s.1 = 3 ∧ woT T N s.1 s.2.1 = c) ↔ tkT T j s = true := hw0
  have so : 0 ≤ soT T N s.1 ∧ soT T N s.1 ≤ 3 := by
    unfold soT
    split
    · omega
    · split
      · omega
      · split <;> omega
  unfold wp_X5_isSign
  refine s_gfI (KF S rfl) r16 (s_ckI ⟨by omega, by omega⟩ (s_br (fun y => ?_) (fun y => ?_)))
  · rw [b2i_f (fun z => y (hw.mpr z).1)] at hq
    exact s_zr (Or.inl rfl) hq
  · have y : soT T N s.1 = 3 := Decidable.not_not.mp y
    have lt : s.1 < N := by
      by_cases g : s.1 < N
      · exact g
      · exfalso
        have : soT T N s.1 = 0 := by unfold soT; rw [if_pos (by omega)]
        omega
    have gq := R.2.2.2 s.1 L0.1 (by omega)
    have wo : woT T N s.1 s.2.1 = T s.1 := by unfold woT; rw [if_neg (by omega), if_neg (by omega), if_pos y]
    refine s_gfI (KF S rfl) r17 (s_ckI ⟨by omega, by omega⟩ (s_ckL ⟨by omega, by omega⟩ (s_ckL ⟨by omega, by omega⟩ (s_br (fun z => ?_) (fun z => ?_)))))
    · rw [b2i_f (fun u => z (hw.mpr u).2)] at hq
      exact s_zr (Or.inl rfl) hq
    · rw [b2i_t (hw.mp ⟨y, Decidable.not_not.mp z⟩)] at hq
      exact s_zr (Or.inr rfl) hq
end TWORDS
/-- the pile, the top first -/
def PIL (w : Wd) : List (Int × Int) → Prop
  | [] => True
  | p :: P => gV w 27 (P.length : Nat) = p.1 ∧ gV w 28 (P.length : Nat) = p.2 ∧ PIL w P
/-- the code -/
def COD (w : Wd) (C : List (Int × Int)) : Prop := ∀ (i : Nat) (c : Int × Int), C[i]? = some c → gV w 24 (i : Int) = c.1 ∧ gV w 25 (i : Int) = c.2
def bnd (o : Int) : Int := if 31 ≤ o then 0 else if o = 30 then 1 else if o = 29 then 2 else if o = 28 then 3 else if 25 ≤ o then 4 else if 22 ≤ o then 6 else 5
def PBD (c : Nat) (P : List (Int × Int)) : Prop := ∀ p ∈ P, (20 ≤ p.1 ∧ p.1 ≤ 32) ∧ (0 ≤ p.2 ∧ p.2 ≤ 400) ∧ (p.1 = 29 ∨ p.1 = 30 → p.2 < c)
/-- the twin in the midst of an expression -/
def TWP (T : Int → Int) (N : Int) (w : Wd) (s : LX) (P C : List (Int × Int)) : Prop := TWX T N w s ∧ LOK T N s ∧ gV w 0 19 = 0 ∧ gV w 0 26 = s.2.2.1 ∧ gV w 0 30 = s.2.2.2 ∧ gV w 0 29 = (P.length : Nat) ∧ gV w 0 23 = (C.length : Nat) ∧ PIL w P ∧ COD w C ∧ PBD C.length P ∧ ((C.length + P.length : Nat) : Int) ≤ s.1
/-- what reading an expression changes -/
def FE (w w' : Wd) : Prop := Sm w w' ∧ ∀ k j, ¬ (k = 0 ∧ ((14 ≤ j ∧ j ≤ 17) ∨ (18 ≤ j ∧ j ≤ 19 ∧ gV w' 0 19 ≠ 0) ∨ j = 23 ∨ j = 26 ∨ j = 29 ∨ j = 30)) → ¬ (24 ≤ k ∧ k ≤ 28) → gV w' k j = gV w k j
/-- it has gone wrong at e -/
def TBD (T : Int → Int) (N : Int) (w : Wd) (e : Int) : Prop := TTX T N w ∧ gV w 0 19 = 1 ∧ gV w 0 18 = e
section PILE
variable {T : Int → Int} {N : Int} {w w' w1 w2 : Wd} {k t n : Nat} {s : LX} {p : Int × Int} {P C : List (Int × Int)} {v x i lo : Int} {Q : Int → Wd → Prop} {QW X : Wd → Prop}
theorem bnd_in {o : Int} : 0 ≤ bnd o ∧ bnd o ≤ 6 := by
  unfold bnd
  repeat' split
  all_goals omega
theorem y5_binds {o : Int} (ho : 20 ≤ o ∧ o ≤ 32) (hq : Q (bnd o) w) : wp_X5_binds o w Q := by
  unfold bnd at hq
  unfold wp_X5_binds
  refine s_ckI ⟨by omega, by omega⟩ (s_br (fun a => ?_) (fun a => ?_))
  · rw [if_neg (by omega)] at hq
    refine s_ckI ⟨by omega, by omega⟩ (s_br (fun b => ?_) (fun b => ?_))
    · rw [if_neg b] at hq
      refine s_ckI ⟨by omega, by omega⟩ (s_br (fun c => ?_) (fun c => ?_))
      · rw [if_neg c] at hq
        refine s_ckI ⟨by omega, by omega⟩ (s_br (fun d => ?_) (fun d => ?_))
        · rw [if_neg d] at hq
          refine s_ckI ⟨by omega, by omega⟩ (s_br (fun e => ?_) (fun e => ?_))
          · rw [if_neg (by omega)] at hq
            refine s_ckI ⟨by omega, by omega⟩ (s_br (fun f => ?_) (fun f => ?_))
            · rw [if_neg (by omega)] at hq; exact hq
            · rw [if_pos (by omega)] at hq; exact hq
          · rw [if_pos (by omega)] at hq; exact hq
        · rw [if_pos (by omega)] at hq; exact hq
      · rw [if_pos (by omega)] at hq; exact hq
    · rw [if_pos (by omega)] at hq; exact hq
  · rw [if_pos (by omega)] at hq; exact hq
theorem FE.rf : FE w w := ⟨Sm.rf, fun _ _ _ _ => rfl⟩
theorem FE.tr (h1 : FE w w1) (h2 : FE w1 w2) : FE w w2 := ⟨h1.1.tr h2.1, fun k j a b => (h2.2 k j a b).trans (h1.2 k j (fun y => a ⟨y.1, by
  rcases y.2 with u | u | u
  · exact Or.inl u
  · by_cases z : gV w2 0 19 = 0
    · exact absurd ((h2.2 0 19 (by omega) (by omega)).symm.trans z) u.2.2
    · exact Or.inr (Or.inl ⟨u.1, u.2.1, z⟩)
  · exact Or.inr (Or.inr u)⟩) b)⟩
theorem fe_19 (hj : (k = 0 ∧ ((14 ≤ i ∧ i ≤ 17) ∨ i = 23 ∨ i = 26 ∨ i = 29 ∨ i = 30)) ∨ (24 ≤ k ∧ k ≤ 28)) : gV (sV w k i x) 0 19 = gV w 0 19 := gV_ne (by omega)
theorem FE.sV (h : FE w w') (hj : (k = 0 ∧ ((14 ≤ i ∧ i ≤ 17) ∨ i = 23 ∨ i = 26 ∨ i = 29 ∨ i = 30)) ∨ (24 ≤ k ∧ k ≤ 28)) : FE w (sV w' k i x) := ⟨h.1.sV, fun k' j' a b => by
  rw [fe_19 hj] at a
  rw [gV_ne (fun e => by
    rcases hj with hj | hj
    · exact a ⟨e.1.trans hj.1, by omega⟩
    · exact b (by omega))]
  exact h.2 k' j' a b⟩
theorem fe_bad (h : FE w w') : FE w (sV (sV w' 0 19 1) 0 18 x) := ⟨h.1.sV.sV, fun k' j' a b => by
  have e19 : gV (sV (sV w' 0 19 1) 0 18 x) 0 19 = 1 := (gV_ne (by omega)).trans gV_at
  rw [e19] at a
  have n : ¬ (k' = 0 ∧ 18 ≤ j' ∧ j' ≤ 19) := fun y => a ⟨y.1, Or.inr (Or.inl ⟨y.2.1, y.2.2, by decide⟩)⟩
  rw [gV_ne (by omega), gV_ne (by omega)]
  exact h.2 k' j' (fun y => a ⟨y.1, by
    rcases y.2 with u | u | u
    · exact Or.inl u
    · exact absurd ⟨y.1, u.1, u.2.1⟩ n
    · exact Or.inr (Or.inr u)⟩) b⟩
theorem FN.fe (h : FN 14 w w') : FE w w' := ⟨h.1, fun k j a _ => h.2 k j (fun y => a ⟨y.1, Or.inl ⟨y.2.1, y.2.2⟩⟩)⟩
theorem TTX.fe (h : TTX T N w) (f : FE w w') : TTX T N w' := ⟨h.1.sm f.1, h.2.1, (f.2 0 13 (by omega) (by omega)).trans h.2.2.1, fun q a b => by rw [f.2 12 q (by omega) (by omega)]; exact h.2.2.2 q a b⟩
theorem PIL.fr (h : PIL w P) (h1 : ∀ i : Nat, i < P.length → gV w' 27 (i : Int) = gV w 27 (i : Int) ∧ gV w' 28 (i : Int) = gV w 28 (i : Int)) : PIL w' P := by
  induction P with
  | nil => trivial
  | cons p P ih =>
    obtain ⟨a, b, c⟩ := h
    have g := h1 P.length (Nat.lt_succ_self _)
    exact ⟨g.1.trans a, g.2.trans b, ih c (fun i hi => h1 i (Nat.lt_succ_of_lt hi))⟩
theorem COD.fr (h : COD w C) (h1 : ∀ i : Nat, i < C.length → gV w' 24 (i : Int) = gV w 24 (i : Int) ∧ gV w' 25 (i : Int) = gV w 25 (i : Int)) : COD w' C := fun i c hc => by
  have hi : i < C.length := by
    by_cases g : i < C.length
    · exact g
    · rw [List.getElem?_eq_none (by omega)] at hc; cases hc
  have g := h1 i hi
  have a := h i c hc
  exact ⟨g.1.trans a.1, g.2.trans a.2⟩
end PILE
