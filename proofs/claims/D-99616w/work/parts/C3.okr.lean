/-! THE PLAIN LAW: texts: what reading keeps (no machine in sight) -/
set_option maxRecDepth 100000
/-- on from s to t -/
def OKR (T : Int → Int) (N : Int) (s t : LX) : Prop := LOK T N t ∧ s.1 < t.1 ∧ t.2.2.2 = s.2.2.2 ∧ s.2.2.1 ≤ t.2.2.1
/-- a reading: on, or a place -/
def RDO (T : Int → Int) (N : Int) {α : Type} (s : LX) (r : PRS α) : Prop := match r with
  | .ok (_, t) => OKR T N s t
  | .error e => 0 ≤ e ∧ e ≤ N
section OKRS
variable {T : Int → Int} {N : Int} {ord : Bool} {s t u : LX} {α β : Type}
theorem LOK.er (h : LOK T N s) : 0 ≤ s.1 ∧ s.1 ≤ N := h.1
theorem tk_lt (h : LOK T N s) {i : Nat} (hw : wdS i ≠ []) (hk : tkT T i s = true) : s.1 < N ∧ s.1 < s.2.1 := by
  have g := isT_len hk
  have t := h.to
  have : (wdS i).length ≠ 0 := fun e => hw (List.eq_nil_of_length_eq_zero e)
  omega
theorem wd_ne : ∀ i, i < 45 → wdS i ≠ [] := by decide
theorem tk_lt' (h : LOK T N s) {i : Nat} (hi : i < 45) (hk : tkT T i s = true) : s.1 < N ∧ s.1 < s.2.1 := tk_lt h (wd_ne i hi) hk
/-- one token on -/
theorem OKR.nx (h : LOK T N s) (hl : s.1 < s.2.1) : OKR T N s (nxS T N s) := ⟨h.nx.1, by have := h.nx.2; omega, rfl, Int.le_refl _⟩
theorem OKR.tr (h1 : OKR T N s t) (h2 : OKR T N t u) : OKR T N s u := ⟨h2.1, by have := h1.2.1; have := h2.2.1; omega, h2.2.2.1.trans h1.2.2.1, Int.le_trans h1.2.2.2 h2.2.2.2⟩
theorem LOK.lv (h : LOK T N s) (hl : s.2.2.1 ≠ 50) : LOK T N (lvS s) := ⟨h.1, h.2.1, h.2.2.1, ⟨by have := h.2.2.2.1; show 0 ≤ s.2.2.1 + 1; omega, by have := h.2.2.2.1; show s.2.2.1 + 1 ≤ 50; omega⟩, h.2.2.2.2⟩
theorem LOK.dp (h : LOK T N s) {d : Int} (h0 : 0 ≤ s.2.2.2 + d) (h8 : s.2.2.2 + d ≤ 8) : LOK T N (dpS s d) := ⟨h.1, h.2.1, h.2.2.1, h.2.2.2.1, h0, h8⟩
theorem nuS_ok {a b : Int} (h : LOK T N s) : RDO T N s (nuS T N a b s) := by
  have t := h.to
  unfold nuS
  split
  · next g => exact OKR.nx h (t.2 g.1)
  · exact h.1
theorem fiW_in : ∀ (k : Nat) (i0 : Nat) (j : Int), (fiW T i0 k j s = -1) ∨ ((j ≤ fiW T i0 k j s ∧ fiW T i0 k j s < j + k) ∧ tkT T (i0 + (fiW T i0 k j s - j).toNat) s = true) := by
  intro k
  induction k with
  | zero => intro i0 j; exact Or.inl rfl
  | succ k ih =>
    intro i0 j
    have e : fiW T i0 (k + 1) j s = if tkT T i0 s = true then j else fiW T (i0 + 1) k (j + 1) s := rfl
    rw [e]
    by_cases g : tkT T i0 s = true
    · rw [if_pos g]
      refine Or.inr ⟨by omega, ?_⟩
      have e : (j - j).toNat = 0 := by omega
      rw [e]; exact g
    · rw [if_neg g]
      rcases ih (i0 + 1) (j + 1) with h | ⟨h1, h2⟩
      · exact Or.inl h
      · refine Or.inr ⟨by omega, ?_⟩
        have e : i0 + (fiW T (i0 + 1) k (j + 1) s - j).toNat = i0 + 1 + (fiW T (i0 + 1) k (j + 1) s - (j + 1)).toNat := by omega
        rw [e]; exact h2
theorem vaI_lt (h : LOK T N s) (hv : vaI T ord s ≠ -1) : (s.1 < N ∧ s.1 < s.2.1) ∧ 0 ≤ vaI T ord s ∧ vaI T ord s ≤ 8 := by
  unfold vaI at hv ⊢
  by_cases g : ord = true
  · rw [if_pos g] at hv ⊢
    rcases fiW_in (T := T) (s := s) 6 30 0 with h1 | ⟨h1, h2⟩
    · exact absurd h1 hv
    · exact ⟨tk_lt' h (by omega) h2, by omega, by omega⟩
  · rw [if_neg g] at hv ⊢
    rcases fiW_in (T := T) (s := s) 9 20 0 with h1 | ⟨h1, h2⟩
    · exact absurd h1 hv
    · exact ⟨tk_lt' h (by omega) h2, by omega, by omega⟩
/-- a value: none, or one on -/
theorem vaS_ok (h : LOK T N s) : match vaS T N ord s with
  | .ok (v, t) => (v = -1 ∧ t = s) ∨ (v ≠ -1 ∧ OKR T N s t ∧ 0 ≤ v ∧ v < if ord = true then 16 else 9)
  | .error e => 0 ≤ e ∧ e ≤ N := by
  unfold vaS
  by_cases g : vaI T ord s = -1
  · rw [if_pos g]; exact Or.inl ⟨rfl, rfl⟩
  · rw [if_neg g]
    have l := vaI_lt h g
    by_cases g2 : s.2.2.1 = 50
    · rw [if_pos g2]; exact h.1
    · rw [if_neg g2]
      have h2 := h.lv g2
      have o1 : OKR T N s (nxS T N (lvS s)) := by
        obtain ⟨a1, a2, a3, a4⟩ := OKR.nx h2 l.1.2
        exact ⟨a1, a2, a3, by have a4 : s.2.2.1 + 1 ≤ (nxS T N (lvS s)).2.2.1 := a4; omega⟩
      by_cases g3 : ord = true ∧ 4 ≤ vaI T ord s
      · rw [if_pos g3]
        have n1 := nuS_ok (a := 0) (b := 5) o1.1
        unfold nuS at n1 ⊢
        split at n1
        · next q =>
          rw [if_pos q]
          refine Or.inr ⟨?_, o1.tr n1, ?_, ?_⟩
          · split <;> omega
          · split <;> omega
          · rw [if_pos g3.1]; split <;> omega
        · next q => rw [if_neg q]; exact n1
      · rw [if_neg g3]
        refine Or.inr ⟨g, o1, l.2.1, ?_⟩
        by_cases g4 : ord = true
        · rw [if_pos g4]; omega
        · rw [if_neg g4]; omega
theorem paS_ok {S : LX → PRS Su} (hS : ∀ s, LOK T N s → RDO T N s (S s)) (h : LOK T N s) : RDO T N s (paS T N ord S s) := by
  unfold paS
  by_cases g : tkT T 0 s = true
  · rw [if_pos g]
    have l := tk_lt' h (by decide) g
    by_cases g2 : s.2.2.2 = 8
    · rw [if_pos g2]; exact h.1
    · rw [if_neg g2]
      have h2 : LOK T N (dpS s 1) := h.dp (by have := h.2.2.2.2; omega) (by have := h.2.2.2.2; omega)
      have o1 := OKR.nx h2 l.2
      have r := hS _ o1.1
      cases e : S (nxS T N (dpS s 1)) with
      | error p => rw [e] at r; exact r
      | ok y =>
        obtain ⟨x, s2⟩ := y
        rw [e] at r
        dsimp only
        have o2 := o1.tr r
        have d1 : s2.2.2.2 = s.2.2.2 + 1 := o2.2.2.1
        by_cases g3 : tkT T 1 s2 = true
        · rw [if_pos g3]
          have l3 := tk_lt' o2.1 (by decide) g3
          have o3 := OKR.nx o2.1 l3.2
          have d3 : (nxS T N s2).2.2.2 = s.2.2.2 + 1 := o3.2.2.1.trans d1
          have q1 : s.1 < s2.1 := o2.2.1
          have q2 : s.2.2.1 ≤ s2.2.2.1 := o2.2.2.2
          exact ⟨o3.1.dp (by have := h.2.2.2.2; omega) (by have := h.2.2.2.2; omega), by have := o3.2.1; show s.1 < (nxS T N s2).1; omega, by show (nxS T N s2).2.2.2 + -1 = _; omega, q2⟩
        · rw [if_neg g3]; exact o2.1.1
  · rw [if_neg g]
    by_cases g2 : s.1 < N ∧ dgB (T s.1) = true
    · rw [if_pos g2]
      by_cases g3 : s.2.2.1 = 50
      · rw [if_pos g3]; exact h.1
      · rw [if_neg g3]
        have n1 := nuS_ok (a := 0) (b := 1000) (h.lv g3)
        cases e : nuS T N 0 1000 (lvS s) with
        | error p => rw [e] at n1; exact n1
        | ok y =>
          obtain ⟨x, s2⟩ := y
          rw [e] at n1
          obtain ⟨a1, a2, a3, a4⟩ := n1
          exact ⟨a1, a2, a3, by have a4 : s.2.2.1 + 1 ≤ s2.2.2.1 := a4; omega⟩
    · rw [if_neg g2]
      have v := vaS_ok (ord := ord) h
      cases e : vaS T N ord s with
      | error p => rw [e] at v; exact v
      | ok y =>
        obtain ⟨x, s2⟩ := y
        rw [e] at v
        dsimp only
        rcases v with ⟨v1, v2⟩ | ⟨v1, v2, v3⟩
        · rw [if_pos v1, v2]; exact h.1
        · rw [if_neg v1]; exact v2
theorem muB_lt (h : LOK T N s) (g : muB T s = true) : s.1 < N ∧ s.1 < s.2.1 := by
  unfold muB at g
  rw [Bool.or_eq_true, Bool.or_eq_true] at g
  rcases g with (g | g) | g
  · exact tk_lt' h (by decide) g
  · exact tk_lt' h (by decide) g
  · exact tk_lt' h (by decide) g
theorem adB_lt (h : LOK T N s) (g : adB T s = true) : s.1 < N ∧ s.1 < s.2.1 := by
  unfold adB at g
  rw [Bool.or_eq_true] at g
  rcases g with g | g
  · exact tk_lt' h (by decide) g
  · exact tk_lt' h (by decide) g
/-- a loop's reading: it may stand where it is -/
def RDL (T : Int → Int) (N : Int) {α : Type} (s : LX) (r : PRS α) : Prop := match r with
  | .ok (_, t) => t = s ∨ OKR T N s t
  | .error e => 0 ≤ e ∧ e ≤ N
theorem RDO.rl {r : PRS α} (h : RDO T N s r) : RDL T N s r := by
  cases r with
  | error p => exact h
  | ok y => exact Or.inr h
theorem OKR.rl {r : PRS α} (o : OKR T N s t) (h : RDL T N t r) : RDO T N s r := by
  cases r with
  | error p => exact h
  | ok y =>
    obtain ⟨x, u⟩ := y
    have h : u = t ∨ OKR T N t u := h
    rcases h with h | h
    · rw [h]; exact o
    · exact o.tr h
theorem tmL_ok {S : LX → PRS Su} (hS : ∀ s, LOK T N s → RDO T N s (S s)) : ∀ (k : Nat) (a : Su) (s : LX), LOK T N s → RDL T N s (tmL T N ord S k a s) := by
  intro k
  induction k with
  | zero => intro a s h; exact h.1
  | succ k ih =>
    intro a s h
    have e9 : tmL T N ord S (k + 1) a s = if muB T s = true then (match paS T N ord S (nxS T N s) with
      | .error e => .error e
      | .ok (b, s2) => tmL T N ord S k (.two (T s.1) a b) s2) else .ok (a, s) := rfl
    rw [e9]
    by_cases g : muB T s = true
    · rw [if_pos g]
      have o1 := OKR.nx h (muB_lt h g).2
      have r := paS_ok (ord := ord) hS o1.1
      cases e : paS T N ord S (nxS T N s) with
      | error p => rw [e] at r; exact r
      | ok y =>
        obtain ⟨x, s2⟩ := y
        rw [e] at r
        have o2 : OKR T N s s2 := o1.tr r
        exact (o2.rl (ih _ s2 o2.1)).rl
    · rw [if_neg g]; exact Or.inl rfl
theorem tmS_ok {S : LX → PRS Su} (hS : ∀ s, LOK T N s → RDO T N s (S s)) (h : LOK T N s) : RDO T N s (tmS T N ord S s) := by
  unfold tmS
  have r := paS_ok (ord := ord) hS h
  cases e : paS T N ord S s with
  | error p => rw [e] at r; exact r
  | ok y =>
    obtain ⟨x, s2⟩ := y
    rw [e] at r
    have o2 : OKR T N s s2 := r
    exact o2.rl (tmL_ok hS _ _ s2 o2.1)
theorem suL_ok {S : LX → PRS Su} (hS : ∀ s, LOK T N s → RDO T N s (S s)) : ∀ (k : Nat) (a : Su) (s : LX), LOK T N s → RDL T N s (suL T N ord S k a s) := by
  intro k
  induction k with
  | zero => intro a s h; exact h.1
  | succ k ih =>
    intro a s h
    have e9 : suL T N ord S (k + 1) a s = if adB T s = true then (match tmS T N ord S (nxS T N s) with
      | .error e => .error e
      | .ok (b, s2) => suL T N ord S k (.two (T s.1) a b) s2) else .ok (a, s) := rfl
    rw [e9]
    by_cases g : adB T s = true
    · rw [if_pos g]
      have o1 := OKR.nx h (adB_lt h g).2
      have r := tmS_ok (ord := ord) hS o1.1
      cases e : tmS T N ord S (nxS T N s) with
      | error p => rw [e] at r; exact r
      | ok y =>
        obtain ⟨x, s2⟩ := y
        rw [e] at r
        have o2 : OKR T N s s2 := o1.tr r
        exact (o2.rl (ih _ s2 o2.1)).rl
    · rw [if_neg g]; exact Or.inl rfl
theorem suS_ok {S : LX → PRS Su} (hS : ∀ s, LOK T N s → RDO T N s (S s)) (h : LOK T N s) : RDO T N s (suS T N ord S s) := by
  unfold suS
  have r := tmS_ok (ord := ord) hS h
  cases e : tmS T N ord S s with
  | error p => rw [e] at r; exact r
  | ok y =>
    obtain ⟨x, s2⟩ := y
    rw [e] at r
    have o2 : OKR T N s s2 := r
    exact o2.rl (suL_ok hS _ _ s2 o2.1)
theorem suR_ok : ∀ (n : Nat) (s : LX), LOK T N s → RDO T N s (suR T N ord n s) := by
  intro n
  induction n with
  | zero => intro s h; exact h.1
  | succ n ih => intro s h; exact suS_ok ih h
theorem poS_ok {S : LX → PRS Te} (hS : ∀ s, LOK T N s → RDO T N s (S s)) (h : LOK T N s) : RDO T N s (poS T N ord S s) := by
  unfold poS
  by_cases g : tkT T 8 s = true
  · rw [if_pos g]
    have l := tk_lt' h (by decide) g
    by_cases g2 : s.2.2.2 = 8
    · rw [if_pos g2]; exact h.1
    · rw [if_neg g2]
      have h2 : LOK T N (dpS s 1) := h.dp (by have := h.2.2.2.2; omega) (by have := h.2.2.2.2; omega)
      have o1 := OKR.nx h2 l.2
      have r := hS _ o1.1
      cases e : S (nxS T N (dpS s 1)) with
      | error p => rw [e] at r; exact r
      | ok y =>
        obtain ⟨x, s2⟩ := y
        rw [e] at r
        dsimp only
        have o2 := o1.tr r
        have d1 : s2.2.2.2 = s.2.2.2 + 1 := o2.2.2.1
        by_cases g3 : tkT T 9 s2 = true
        · rw [if_pos g3]
          have l3 := tk_lt' o2.1 (by decide) g3
          have o3 := OKR.nx o2.1 l3.2
          have d3 : (nxS T N s2).2.2.2 = s.2.2.2 + 1 := o3.2.2.1.trans d1
          have q1 : s.1 < s2.1 := o2.2.1
          have q2 : s.2.2.1 ≤ s2.2.2.1 := o2.2.2.2
          exact ⟨o3.1.dp (by have := h.2.2.2.2; omega) (by have := h.2.2.2.2; omega), by have := o3.2.1; show s.1 < (nxS T N s2).1; omega, by show (nxS T N s2).2.2.2 + -1 = _; omega, q2⟩
        · rw [if_neg g3]; exact o2.1.1
  · rw [if_neg g]
    have r := suR_ok (ord := ord) 10 s h
    cases e : suR T N ord 10 s with
    | error p => rw [e] at r; exact r
    | ok y =>
      obtain ⟨x, s2⟩ := y
      rw [e] at r
      have o2 : OKR T N s s2 := r
      dsimp only
      by_cases g3 : tkT T 10 s2 = true ∨ tkT T 11 s2 = true ∨ tkT T 12 s2 = true
      · rw [if_pos g3]
        have l3 : s2.1 < N ∧ s2.1 < s2.2.1 := by
          rcases g3 with g3 | g3 | g3
          · exact tk_lt' o2.1 (by decide) g3
          · exact tk_lt' o2.1 (by decide) g3
          · exact tk_lt' o2.1 (by decide) g3
        have o3 := o2.tr (OKR.nx o2.1 l3.2)
        have r3 := suR_ok (ord := ord) 10 _ o3.1
        cases e3 : suR T N ord 10 (nxS T N s2) with
        | error p => rw [e3] at r3; exact r3
        | ok y =>
          obtain ⟨x3, s3⟩ := y
          rw [e3] at r3
          exact o3.tr r3
      · rw [if_neg g3]; exact o2.1.1
theorem plL_ok {S : LX → PRS Te} (hS : ∀ s, LOK T N s → RDO T N s (S s)) : ∀ (k q : Nat) (s : LX), LOK T N s → RDO T N s (plL T N ord S k q s) := by
  intro k
  induction k with
  | zero => intro q s h; exact h.1
  | succ k ih =>
    intro q s h
    have e9 : plL T N ord S (k + 1) q s = if tkT T 7 s = true then plL T N ord S k (q + 1) (nxS T N s) else match poS T N ord S s with
      | .error e => .error e
      | .ok (t, s2) => .ok (.nots q t, s2) := rfl
    rw [e9]
    by_cases g : tkT T 7 s = true
    · rw [if_pos g]
      have o1 := OKR.nx h (tk_lt' h (by decide) g).2
      exact o1.rl (ih _ _ o1.1).rl
    · rw [if_neg g]
      have r := poS_ok (ord := ord) hS h
      cases e : poS T N ord S s with
      | error p => rw [e] at r; exact r
      | ok y =>
        obtain ⟨x, s2⟩ := y
        rw [e] at r
        exact r
theorem moL_ok {P : LX → PRS Te} {i : Nat} (hi : i < 45) (hP : ∀ s, LOK T N s → RDO T N s (P s)) : ∀ (k : Nat) (l : List Te) (s : LX), LOK T N s → RDL T N s (moL T N i P k l s) := by
  intro k
  induction k with
  | zero => intro l s h; exact h.1
  | succ k ih =>
    intro l s h
    have e9 : moL T N i P (k + 1) l s = if tkT T i s = true then (match P (nxS T N s) with
      | .error e => .error e
      | .ok (t, s2) => moL T N i P k (l ++ [t]) s2) else .ok (l, s) := rfl
    rw [e9]
    by_cases g : tkT T i s = true
    · rw [if_pos g]
      have o1 := OKR.nx h (tk_lt' h hi g).2
      have r := hP _ o1.1
      cases e : P (nxS T N s) with
      | error p => rw [e] at r; exact r
      | ok y =>
        obtain ⟨x, s2⟩ := y
        rw [e] at r
        have o2 : OKR T N s s2 := o1.tr r
        exact (o2.rl (ih _ s2 o2.1)).rl
    · rw [if_neg g]; exact Or.inl rfl
theorem jnS_ok {P : LX → PRS Te} {i : Nat} {a : Int} (hi : i < 45) (hP : ∀ s, LOK T N s → RDO T N s (P s)) (h : LOK T N s) : RDO T N s (jnS T N i a P s) := by
  unfold jnS
  have r := hP s h
  cases e : P s with
  | error p => rw [e] at r; exact r
  | ok y =>
    obtain ⟨x, s2⟩ := y
    rw [e] at r
    have o2 : OKR T N s s2 := r
    dsimp only
    by_cases g : tkT T i s2 = true
    · rw [if_pos g]
      have r2 := o2.rl (moL_ok hi hP 401 [x] s2 o2.1)
      cases e2 : moL T N i P 401 [x] s2 with
      | error p => rw [e2] at r2; exact r2
      | ok y =>
        obtain ⟨x2, s3⟩ := y
        rw [e2] at r2
        exact r2
    · rw [if_neg g]; exact r
theorem teS_ok {S : LX → PRS Te} (hS : ∀ s, LOK T N s → RDO T N s (S s)) (h : LOK T N s) : RDO T N s (teS T N ord S s) := jnS_ok (by decide) (fun s h => jnS_ok (by decide) (fun s h => plL_ok hS 401 0 s h) h) h
theorem teR_ok : ∀ (n : Nat) (s : LX), LOK T N s → RDO T N s (teR T N ord n s) := by
  intro n
  induction n with
  | zero => intro s h; exact h.1
  | succ n ih => intro s h; exact teS_ok ih h
end OKRS
