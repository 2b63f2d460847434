/-! THE PLAIN LAW: texts: the twin reads a part that is no bracket -/
set_option maxRecDepth 100000
def CFG (ord : Bool) (w : Wd) : Prop := gV w 0 20 = (if ord = true then 1 else 0) ∧ ConR w
/-- the code of a value -/
def leC (ord : Bool) (v : Int) : Int × Int := if ord = true then (if v < 4 then (v + 1, 0) else if v < 10 then (5, v - 4) else (6, v - 10)) else (v + 1, 0)
section TPART
variable {T : Int → Int} {N : Int} {ord : Bool} {w w' w1 w2 : Wd} {k t n : Nat} {s : LX} {p : Int × Int} {P C L : OPS} {v x i lo o a : Int} {Q : Int → Wd → Prop} {QW X : Wd → Prop}
theorem CFG.fe (h : CFG ord w) (f : FE w w') : CFG ord w' := by
  obtain ⟨h1, h2, h3, h4, h5, h6⟩ := h
  exact ⟨(f.2 0 20 (by omega) (by omega)).trans h1, fun j hj => (f.2 31 j (by omega) (by omega)).trans (h2 j hj), fun j hj => (f.2 32 j (by omega) (by omega)).trans (h3 j hj), fun j hj => (f.2 33 j (by omega) (by omega)).trans (h4 j hj), fun j hj => (f.2 52 j (by omega) (by omega)).trans (h5 j hj), fun j hj => (f.2 53 j (by omega) (by omega)).trans (h6 j hj)⟩
theorem tk_two {i j : Nat} (h1 : tkT T i s = true) (h2 : tkT T j s = true) : wdS i = wdS j := by
  have a : rcT T s.1 (s.2.1 - s.1).toNat = (wdS i).reverse := of_decide_eq_true h1
  have b : rcT T s.1 (s.2.1 - s.1).toNat = (wdS j).reverse := of_decide_eq_true h2
  have c : (wdS i).reverse = (wdS j).reverse := a.symm.trans b
  exact List.reverse_inj.mp c
theorem wd_va : ∀ i : Fin 9, ∀ j : Fin 9, wdS (20 + i.val) = wdS (20 + j.val) → i = j := by decide +kernel
theorem wd_vb : ∀ i : Fin 6, ∀ j : Fin 6, wdS (30 + i.val) = wdS (30 + j.val) → i = j := by decide +kernel
theorem wd_wa : ∀ j : Fin 9, (1 ≤ (wdS (20 + j.val)).length ∧ (wdS (20 + j.val)).length ≤ 10) ∧ (∀ c ∈ wdS (20 + j.val), 97 ≤ c ∧ c ≤ 122) ∧ wordsT.getD j.val 0 = hvR (wdS (20 + j.val)).reverse ∧ -1 ≤ wordsT.getD j.val 0 ∧ wordsT.getD j.val 0 ≤ 1125899906842624 := by decide +kernel
theorem wd_wb : ∀ j : Fin 6, (1 ≤ (wdS (30 + j.val)).length ∧ (wdS (30 + j.val)).length ≤ 10) ∧ (∀ c ∈ wdS (30 + j.val), 97 ≤ c ∧ c ≤ 122) ∧ ordersT.getD j.val 0 = hvR (wdS (30 + j.val)).reverse ∧ -1 ≤ ordersT.getD j.val 0 ∧ ordersT.getD j.val 0 ≤ 1125899906842624 := by decide +kernel
theorem y5_partAt_4 (R : TWX T N w s) (L : LOK T N s) (hC : ConR w) : ∀ (m fuel j : Nat) (x1 : Int), j + m = 9 → m < fuel → Q (if fiW T (20 + j) m j s = -1 then x1 else fiW T (20 + j) m j s + 1) w → wp_X5_partAt_4 Q 0 fuel x1 j w := by
  have S := R.1.1
  intro m
  induction m with
  | zero =>
    intro fuel j x1 hj hf hq
    obtain ⟨f, rfl⟩ : ∃ f, fuel = f + 1 := ⟨fuel - 1, by omega⟩
    rw [wp_X5_partAt_4]
    refine s_ckI ⟨by omega, by omega⟩ (s_br (fun _ => ?_) (fun y => absurd (by omega) y))
    have e : fiW T (20 + j) 0 j s = -1 := rfl
    rw [if_pos e] at hq
    exact hq
  | succ m ih =>
    intro fuel j x1 hj hf hq
    obtain ⟨f, rfl⟩ : ∃ f, fuel = f + 1 := ⟨fuel - 1, by omega⟩
    have wa := wd_wa ⟨j, by omega⟩
    dsimp only at wa
    have ew := hC.1 j (by omega)
    rw [wp_X5_partAt_4]
    refine s_ckI ⟨by omega, by omega⟩ (s_br (fun y => absurd y (by omega)) (fun _ => s_gfA (KF S rfl) (RF S rfl) (s_alI (KF S rfl) (by decide) ⟨by omega, by omega⟩ ew (s_cO (KF S rfl) (y5_isWord (j := 20 + j) R L wa.1.1 wa.1.2 wa.2.1 wa.2.2.1 ⟨by omega, by omega⟩ (s_ckI b2i_in ?_))))))
    have ej : (j : Int) + 1 = ((j + 1 : Nat) : Int) := by omega
    have e20 : 20 + j + 1 = 20 + (j + 1) := by omega
    by_cases z : tkT T (20 + j) s = true
    · rw [b2i_t z]
      refine s_br (fun y => absurd y (by decide)) (fun _ => ?_)
      unfold wp_X5_partAt_30
      rw [ej]
      refine ih f (j + 1) _ (by omega) (by omega) ?_
      have e1 : fiW T (20 + j) (m + 1) j s = j := fiW_t z
      have e2 : fiW T (20 + (j + 1)) m ((j + 1 : Nat) : Int) s = -1 := by
        rcases fiW_in (T := T) (s := s) m (20 + (j + 1)) ((j + 1 : Nat) : Int) with g | ⟨g1, g2⟩
        · exact g
        · exfalso
          have q := wd_va ⟨j, by omega⟩ ⟨j + 1 + (fiW T (20 + (j + 1)) m ((j + 1 : Nat) : Int) s - ((j + 1 : Nat) : Int)).toNat, by omega⟩ (by
            have := tk_two z g2
            dsimp only
            rw [this, Nat.add_assoc])
          have q := congrArg Fin.val q
          dsimp only at q
          omega
      rw [if_pos e2]
      rw [if_neg (by omega), e1, ej] at hq
      exact hq
    · rw [b2i_f z]
      refine s_br (fun _ => ?_) (fun y => absurd rfl y)
      unfold wp_X5_partAt_30
      rw [ej]
      refine ih f (j + 1) _ (by omega) (by omega) ?_
      have e1 : fiW T (20 + j) (m + 1) j s = fiW T (20 + j + 1) m (j + 1) s := fiW_s z
      rw [e1, e20, ej] at hq
      exact hq
theorem y5_orderPartAt_4 (R : TWX T N w s) (L : LOK T N s) (hC : ConR w) : ∀ (m fuel j : Nat) (x1 : Int), j + m = 6 → m < fuel → Q (if fiW T (30 + j) m j s = -1 then x1 else fiW T (30 + j) m j s + 1) w → wp_X5_orderPartAt_4 Q 0 fuel x1 j w := by
  have S := R.1.1
  intro m
  induction m with
  | zero =>
    intro fuel j x1 hj hf hq
    obtain ⟨f, rfl⟩ : ∃ f, fuel = f + 1 := ⟨fuel - 1, by omega⟩
    rw [wp_X5_orderPartAt_4]
    refine s_ckI ⟨by omega, by omega⟩ (s_br (fun _ => ?_) (fun y => absurd (by omega) y))
    have e : fiW T (30 + j) 0 j s = -1 := rfl
    rw [if_pos e] at hq
    exact hq
  | succ m ih =>
    intro fuel j x1 hj hf hq
    obtain ⟨f, rfl⟩ : ∃ f, fuel = f + 1 := ⟨fuel - 1, by omega⟩
    have wa := wd_wb ⟨j, by omega⟩
    dsimp only at wa
    have ew := hC.2.1 j (by omega)
    rw [wp_X5_orderPartAt_4]
    refine s_ckI ⟨by omega, by omega⟩ (s_br (fun y => absurd y (by omega)) (fun _ => s_gfA (KF S rfl) (RF S rfl) (s_alI (KF S rfl) (by decide) ⟨by omega, by omega⟩ ew (s_cO (KF S rfl) (y5_isWord (j := 30 + j) R L wa.1.1 wa.1.2 wa.2.1 wa.2.2.1 ⟨by omega, by omega⟩ (s_ckI b2i_in ?_))))))
    have ej : (j : Int) + 1 = ((j + 1 : Nat) : Int) := by omega
    have e20 : 30 + j + 1 = 30 + (j + 1) := by omega
    by_cases z : tkT T (30 + j) s = true
    · rw [b2i_t z]
      refine s_br (fun y => absurd y (by decide)) (fun _ => ?_)
      unfold wp_X5_orderPartAt_30
      rw [ej]
      refine ih f (j + 1) _ (by omega) (by omega) ?_
      have e1 : fiW T (30 + j) (m + 1) j s = j := fiW_t z
      have e2 : fiW T (30 + (j + 1)) m ((j + 1 : Nat) : Int) s = -1 := by
        rcases fiW_in (T := T) (s := s) m (30 + (j + 1)) ((j + 1 : Nat) : Int) with g | ⟨g1, g2⟩
        · exact g
        · exfalso
          have q := wd_vb ⟨j, by omega⟩ ⟨j + 1 + (fiW T (30 + (j + 1)) m ((j + 1 : Nat) : Int) s - ((j + 1 : Nat) : Int)).toNat, by omega⟩ (by
            have := tk_two z g2
            dsimp only
            rw [this, Nat.add_assoc])
          have q := congrArg Fin.val q
          dsimp only at q
          omega
      rw [if_pos e2]
      rw [if_neg (by omega), e1, ej] at hq
      exact hq
    · rw [b2i_f z]
      refine s_br (fun _ => ?_) (fun y => absurd rfl y)
      unfold wp_X5_orderPartAt_30
      rw [ej]
      refine ih f (j + 1) _ (by omega) (by omega) ?_
      have e1 : fiW T (30 + j) (m + 1) j s = fiW T (30 + j + 1) m (j + 1) s := fiW_s z
      rw [e1, e20, ej] at hq
      exact hq
/-- which value stands there, by the twin -/
def vaP (T : Int → Int) (ord : Bool) (s : LX) : Int := if vaI T ord s = -1 then -1 else vaI T ord s + 1
theorem y5_partAt (R : TWX T N w s) (L : LOK T N s) (hC : ConR w) (hq : Q (vaP T false s) w) : wp_X5_partAt 0 w Q := by
  unfold wp_X5_partAt
  exact y5_partAt_4 R L hC 9 FU 0 (-1) (by decide) (by decide) hq
theorem y5_orderPartAt (R : TWX T N w s) (L : LOK T N s) (hC : ConR w) (hq : Q (vaP T true s) w) : wp_X5_orderPartAt 0 w Q := by
  unfold wp_X5_orderPartAt
  exact y5_orderPartAt_4 R L hC 6 FU 0 (-1) (by decide) (by decide) hq
end TPART
