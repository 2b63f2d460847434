/-! THE PLAIN LAW: texts: what is read is well formed (no machine in sight) -/
set_option maxRecDepth 100000
def PSu (T : Int → Int) (N : Int) (ord : Bool) (S : LX → PRS Su) : Prop := ∀ s y t, LOK T N s → S s = .ok (y, t) → (LOK T N t ∧ t.2.2.2 = s.2.2.2) ∧ WFS ord y ∧ (lvU y : Int) + s.2.2.1 ≤ t.2.2.1
def PTe (T : Int → Int) (N : Int) (ord : Bool) (m : Nat) (S : LX → PRS Te) : Prop := ∀ s y t, LOK T N s → S s = .ok (y, t) → (LOK T N t ∧ t.2.2.2 = s.2.2.2) ∧ WFT ord m y
/-- a clause is well formed -/
def WFC (ord : Bool) (c : Cl) : Prop := (0 ≤ c.1 ∧ c.1 ≤ 3) ∧ (∀ a, a ∈ c.2.1 → WFS ord a ∧ dpU a ≤ 60) ∧ c.2.1.length = (if c.1 = 3 then 0 else if ord = false then 1 else if c.1 = 0 then 3 else 2) ∧ (1 ≤ c.2.2.1 ∧ c.2.2.1 ≤ 20) ∧ ∀ t, c.2.2.2 = some t → WFT ord 31 t
section WF
variable {T : Int → Int} {N : Int} {ord : Bool} {s t : LX} {a b v : Int}
theorem ws_nu (L : LOK T N s) (h : nuS T N a b s = .ok (v, t)) : (a ≤ v ∧ v ≤ b) ∧ (LOK T N t ∧ t.2.2.2 = s.2.2.2) ∧ t.2.2.1 = s.2.2.1 := by
  unfold nuS at h
  split at h
  · next g =>
    injection h with h
    injection h with h1 h2
    subst h1
    subst h2
    exact ⟨g.2.2, ⟨L.nx.1, rfl⟩, rfl⟩
  · cases h
theorem ws_va (L : LOK T N s) (h : vaS T N ord s = .ok (v, t)) (hv : v ≠ -1) : (0 ≤ v ∧ (if ord = true then v < 16 else v < 9)) ∧ (LOK T N t ∧ t.2.2.2 = s.2.2.2) ∧ t.2.2.1 = s.2.2.1 + 1 := by
  unfold vaS at h
  have vi := vaI_in (T := T) (ord := ord) (s := s)
  split at h
  · injection h with h
    injection h with h1 _
    exact absurd h1.symm hv
  · next g =>
    split at h
    · cases h
    · next g2 =>
      have L1 := (L.lv g2).nx.1
      split at h
      · next g3 =>
        cases e : nuS T N 0 5 (nxS T N (lvS s)) with
        | error p => rw [e] at h; cases h
        | ok q =>
          obtain ⟨v9, t9⟩ := q
          rw [e] at h
          have n := ws_nu L1 e
          injection h with h
          injection h with h1 h2
          subst h2
          have hv2 : v = 4 + v9 ∨ v = 10 + v9 := by
            rw [← h1]
            split
            · exact Or.inl rfl
            · exact Or.inr rfl
          refine ⟨⟨by omega, ?_⟩, ⟨n.2.1.1, n.2.1.2⟩, n.2.2⟩
          rw [if_pos g3.1]
          omega
      · next g3 =>
        injection h with h
        injection h with h1 h2
        subst h1
        subst h2
        refine ⟨⟨by omega, ?_⟩, ⟨L1, rfl⟩, rfl⟩
        cases ord with
        | false => rw [if_neg (by decide)]; omega
        | true =>
          rw [if_pos rfl]
          have := vi.2.2 rfl
          omega
theorem ws_pa {S : LX → PRS Su} (hS : PSu T N ord S) : PSu T N ord (paS T N ord S) := by
  intro s y t L h
  have L8 := L.2.2.2.2
  unfold paS at h
  split at h
  · split at h
    · cases h
    · next g8 =>
      have L1 := (L.dp (d := 1) (by omega) (by omega)).nx.1
      cases e : S (nxS T N (dpS s 1)) with
      | error p => rw [e] at h; cases h
      | ok q =>
        obtain ⟨x9, s2⟩ := q
        rw [e] at h
        dsimp only at h
        obtain ⟨⟨q1, q2⟩, q3, q4⟩ := hS _ _ _ L1 e
        have q2 : s2.2.2.2 = s.2.2.2 + 1 := q2
        have q4 : (lvU x9 : Int) + s.2.2.1 ≤ s2.2.2.1 := q4
        split at h
        · injection h with h
          injection h with h1 h2
          subst h1
          subst h2
          refine ⟨⟨LOK.dp q1.nx.1 (by show 0 ≤ s2.2.2.2 + -1; omega) (by show s2.2.2.2 + -1 ≤ 8; omega), ?_⟩, q3, q4⟩
          show s2.2.2.2 + -1 = s.2.2.2
          omega
        · cases h
  · split at h
    · split at h
      · cases h
      · next g2 =>
        cases e : nuS T N 0 1000 (lvS s) with
        | error p => rw [e] at h; cases h
        | ok q =>
          obtain ⟨v9, s2⟩ := q
          rw [e] at h
          obtain ⟨n1, n2, n3⟩ := ws_nu (L.lv g2) e
          injection h with h
          injection h with h1 h2
          subst h1
          subst h2
          have n3 : s2.2.2.1 = s.2.2.1 + 1 := n3
          exact ⟨⟨n2.1, n2.2⟩, n1, by show (1 : Int) + s.2.2.1 ≤ s2.2.2.1; omega⟩
    · cases e : vaS T N ord s with
      | error p => rw [e] at h; cases h
      | ok q =>
        obtain ⟨v9, s2⟩ := q
        rw [e] at h
        dsimp only at h
        split at h
        · cases h
        · next g =>
          obtain ⟨n1, n2, n3⟩ := ws_va L e g
          injection h with h
          injection h with h1 h2
          subst h1
          subst h2
          exact ⟨⟨n2.1, n2.2⟩, n1, by show (1 : Int) + s.2.2.1 ≤ s2.2.2.1; omega⟩
theorem mu_sg (m : muB T s = true) : T s.1 = 42 ∨ T s.1 = 47 ∨ T s.1 = 37 := by
  have ch : ∀ j, j < 45 → tkT T j s = true → T s.1 = (wdS j).getD 0 0 := fun j hj y => (tk_ch hj y).2.2
  unfold muB at m
  rw [Bool.or_eq_true, Bool.or_eq_true] at m
  rcases m with (m | m) | m
  · exact Or.inl (ch 2 (by decide) m)
  · exact Or.inr (Or.inl (ch 3 (by decide) m))
  · exact Or.inr (Or.inr (ch 4 (by decide) m))
theorem ad_sg (m : adB T s = true) : T s.1 = 43 ∨ T s.1 = 45 := by
  have ch : ∀ j, j < 45 → tkT T j s = true → T s.1 = (wdS j).getD 0 0 := fun j hj y => (tk_ch hj y).2.2
  unfold adB at m
  rw [Bool.or_eq_true] at m
  rcases m with m | m
  · exact Or.inl (ch 5 (by decide) m)
  · exact Or.inr (ch 6 (by decide) m)
theorem ws_tmL {S : LX → PRS Su} (hS : PSu T N ord S) : ∀ (k : Nat) (a : Su) (s : LX) (y : Su) (t : LX), LOK T N s → WFS ord a → tmL T N ord S k a s = .ok (y, t) → (LOK T N t ∧ t.2.2.2 = s.2.2.2) ∧ WFS ord y ∧ (lvU y : Int) + s.2.2.1 ≤ t.2.2.1 + lvU a := by
  intro k
  induction k with
  | zero => intro a s y t _ _ h; cases h
  | succ k ih =>
    intro a s y t L wa h
    have h : (if muB T s = true then (match paS T N ord S (nxS T N s) with
      | .error e => .error e
      | .ok (b, s2) => tmL T N ord S k (.two (T s.1) a b) s2) else .ok (a, s)) = Except.ok (y, t) := h
    split at h
    · next g =>
      cases e : paS T N ord S (nxS T N s) with
      | error p => rw [e] at h; cases h
      | ok q =>
        obtain ⟨b, s2⟩ := q
        rw [e] at h
        dsimp only at h
        obtain ⟨⟨q1, q2⟩, q3, q4⟩ := ws_pa hS _ _ _ L.nx.1 e
        have q4 : (lvU b : Int) + s.2.2.1 ≤ s2.2.2.1 := q4
        have sg := mu_sg g
        have w9 : WFS ord (Su.two (T s.1) a b) := ⟨by omega, wa, q3⟩
        obtain ⟨⟨r1, r2⟩, r3, r4⟩ := ih (Su.two (T s.1) a b) s2 y t q1 w9 h
        have r4 : (lvU y : Int) + s2.2.2.1 ≤ t.2.2.1 + ((lvU a + lvU b : Nat) : Int) := r4
        exact ⟨⟨r1, r2.trans q2⟩, r3, by omega⟩
    · injection h with h
      injection h with h1 h2
      subst h1
      subst h2
      exact ⟨⟨L, rfl⟩, wa, by omega⟩
theorem ws_tm {S : LX → PRS Su} (hS : PSu T N ord S) : PSu T N ord (tmS T N ord S) := by
  intro s y t L h
  unfold tmS at h
  cases e : paS T N ord S s with
  | error p => rw [e] at h; cases h
  | ok q =>
    obtain ⟨b, s2⟩ := q
    rw [e] at h
    dsimp only at h
    obtain ⟨⟨q1, q2⟩, q3, q4⟩ := ws_pa hS _ _ _ L e
    obtain ⟨⟨r1, r2⟩, r3, r4⟩ := ws_tmL hS _ _ _ _ _ q1 q3 h
    exact ⟨⟨r1, r2.trans q2⟩, r3, by omega⟩
theorem ws_suL {S : LX → PRS Su} (hS : PSu T N ord S) : ∀ (k : Nat) (a : Su) (s : LX) (y : Su) (t : LX), LOK T N s → WFS ord a → suL T N ord S k a s = .ok (y, t) → (LOK T N t ∧ t.2.2.2 = s.2.2.2) ∧ WFS ord y ∧ (lvU y : Int) + s.2.2.1 ≤ t.2.2.1 + lvU a := by
  intro k
  induction k with
  | zero => intro a s y t _ _ h; cases h
  | succ k ih =>
    intro a s y t L wa h
    have h : (if adB T s = true then (match tmS T N ord S (nxS T N s) with
      | .error e => .error e
      | .ok (b, s2) => suL T N ord S k (.two (T s.1) a b) s2) else .ok (a, s)) = Except.ok (y, t) := h
    split at h
    · next g =>
      cases e : tmS T N ord S (nxS T N s) with
      | error p => rw [e] at h; cases h
      | ok q =>
        obtain ⟨b, s2⟩ := q
        rw [e] at h
        dsimp only at h
        obtain ⟨⟨q1, q2⟩, q3, q4⟩ := ws_tm hS _ _ _ L.nx.1 e
        have q4 : (lvU b : Int) + s.2.2.1 ≤ s2.2.2.1 := q4
        have sg := ad_sg g
        have w9 : WFS ord (Su.two (T s.1) a b) := ⟨by omega, wa, q3⟩
        obtain ⟨⟨r1, r2⟩, r3, r4⟩ := ih (Su.two (T s.1) a b) s2 y t q1 w9 h
        have r4 : (lvU y : Int) + s2.2.2.1 ≤ t.2.2.1 + ((lvU a + lvU b : Nat) : Int) := r4
        exact ⟨⟨r1, r2.trans q2⟩, r3, by omega⟩
    · injection h with h
      injection h with h1 h2
      subst h1
      subst h2
      exact ⟨⟨L, rfl⟩, wa, by omega⟩
theorem ws_su {S : LX → PRS Su} (hS : PSu T N ord S) : PSu T N ord (suS T N ord S) := by
  intro s y t L h
  unfold suS at h
  cases e : tmS T N ord S s with
  | error p => rw [e] at h; cases h
  | ok q =>
    obtain ⟨b, s2⟩ := q
    rw [e] at h
    dsimp only at h
    obtain ⟨⟨q1, q2⟩, q3, q4⟩ := ws_tm hS _ _ _ L e
    obtain ⟨⟨r1, r2⟩, r3, r4⟩ := ws_suL hS _ _ _ _ _ q1 q3 h
    exact ⟨⟨r1, r2.trans q2⟩, r3, by omega⟩
theorem ws_suR : ∀ n : Nat, PSu T N ord (suR T N ord n) := by
  intro n
  induction n with
  | zero => intro s y t _ h; cases h
  | succ n ih => exact ws_su ih
/-- a whole sum: its depth is small -/
theorem ws_sum {y : Su} (L : LOK T N s) (h : suR T N ord 10 s = .ok (y, t)) : (LOK T N t ∧ t.2.2.2 = s.2.2.2) ∧ WFS ord y ∧ dpU y ≤ 60 := by
  obtain ⟨q1, q2, q3⟩ := ws_suR (T := T) (N := N) (ord := ord) 10 _ _ _ L h
  have d := dpU_le y
  have a := q1.1.2.2.2.1
  have b := L.2.2.2.1
  exact ⟨q1, q2, by omega⟩
theorem WFT.up : ∀ (m : Nat) (x : Te), WFT ord m x → WFT ord (m + 1) x := by
  intro m
  induction m with
  | zero => intro x h; exact h.elim
  | succ m ih =>
    intro x h
    have h : WFB ord (WFT ord m) (teV x) := h
    show WFB ord (WFT ord (m + 1)) (teV x)
    generalize teV x = v9 at h ⊢
    rcases v9 with ⟨sg, l, r⟩ | ⟨q, t⟩ | ⟨all, ts⟩
    · exact h
    · exact ih t h
    · exact ⟨h.1, h.2.1, fun t ht => ih t (h.2.2 t ht)⟩
theorem ws_po {m : Nat} {S : LX → PRS Te} (hS : PTe T N ord (m + 1) S) : PTe T N ord (m + 1) (poS T N ord S) := by
  intro s y t L h
  have L8 := L.2.2.2.2
  unfold poS at h
  split at h
  · split at h
    · cases h
    · next g8 =>
      have L1 := (L.dp (d := 1) (by omega) (by omega)).nx.1
      cases e : S (nxS T N (dpS s 1)) with
      | error p => rw [e] at h; cases h
      | ok q =>
        obtain ⟨x9, s2⟩ := q
        rw [e] at h
        dsimp only at h
        obtain ⟨⟨q1, q2⟩, q3⟩ := hS _ _ _ L1 e
        have q2 : s2.2.2.2 = s.2.2.2 + 1 := q2
        split at h
        · injection h with h
          injection h with h1 h2
          subst h1
          subst h2
          refine ⟨⟨LOK.dp q1.nx.1 (by show 0 ≤ s2.2.2.2 + -1; omega) (by show s2.2.2.2 + -1 ≤ 8; omega), ?_⟩, q3⟩
          show s2.2.2.2 + -1 = s.2.2.2
          omega
        · cases h
  · cases e : suR T N ord 10 s with
    | error p => rw [e] at h; cases h
    | ok q =>
      obtain ⟨a, s2⟩ := q
      rw [e] at h
      dsimp only at h
      obtain ⟨⟨q1, q2⟩, q3, q4⟩ := ws_sum L e
      split at h
      · next g =>
        cases e2 : suR T N ord 10 (nxS T N s2) with
        | error p => rw [e2] at h; cases h
        | ok q =>
          obtain ⟨b, s3⟩ := q
          rw [e2] at h
          obtain ⟨⟨r1, r2⟩, r3, r4⟩ := ws_sum q1.nx.1 e2
          injection h with h
          injection h with h1 h2
          subst h1
          subst h2
          have sg : T s2.1 = 60 ∨ T s2.1 = 62 ∨ T s2.1 = 61 := by
            rcases g with g | g | g
            · exact Or.inl (tk_ch (j := 10) (by decide) g).2.2
            · exact Or.inr (Or.inl (tk_ch (j := 11) (by decide) g).2.2)
            · exact Or.inr (Or.inr (tk_ch (j := 12) (by decide) g).2.2)
          exact ⟨⟨r1, r2.trans q2⟩, sg, ⟨q3, q4⟩, r3, r4⟩
      · cases h
theorem ws_plL {m : Nat} {S : LX → PRS Te} (hS : PTe T N ord (m + 1) S) : ∀ (k q : Nat) (s : LX) (y : Te) (t : LX), LOK T N s → plL T N ord S k q s = .ok (y, t) → (LOK T N t ∧ t.2.2.2 = s.2.2.2) ∧ WFT ord (m + 2) y := by
  intro k
  induction k with
  | zero => intro q s y t _ h; cases h
  | succ k ih =>
    intro q s y t L h
    have h : (if tkT T 7 s = true then plL T N ord S k (q + 1) (nxS T N s) else match poS T N ord S s with
      | .error e => .error e
      | .ok (t, s2) => .ok (.nots q t, s2)) = Except.ok (y, t) := h
    split at h
    · exact ih _ (nxS T N s) _ _ L.nx.1 h
    · cases e : poS T N ord S s with
      | error p => rw [e] at h; cases h
      | ok z =>
        obtain ⟨x, s2⟩ := z
        rw [e] at h
        obtain ⟨q1, q2⟩ := ws_po hS _ _ _ L e
        injection h with h
        injection h with h1 h2
        subst h1
        subst h2
        exact ⟨q1, q2⟩
theorem ws_moL {m i : Nat} {P : LX → PRS Te} (hP : PTe T N ord m P) : ∀ (k : Nat) (l : List Te) (s : LX) (l2 : List Te) (t : LX), LOK T N s → (∀ x, x ∈ l → WFT ord m x) → moL T N i P k l s = .ok (l2, t) → (LOK T N t ∧ t.2.2.2 = s.2.2.2) ∧ (∀ x, x ∈ l2 → WFT ord m x) ∧ l.length ≤ l2.length ∧ (tkT T i s = true → l.length < l2.length) := by
  intro k
  induction k with
  | zero => intro l s l2 t _ _ h; cases h
  | succ k ih =>
    intro l s l2 t L hl h
    have h : (if tkT T i s = true then (match P (nxS T N s) with
      | .error e => .error e
      | .ok (t, s2) => moL T N i P k (l ++ [t]) s2) else .ok (l, s)) = Except.ok (l2, t) := h
    split at h
    · cases e : P (nxS T N s) with
      | error p => rw [e] at h; cases h
      | ok z =>
        obtain ⟨x, s2⟩ := z
        rw [e] at h
        dsimp only at h
        obtain ⟨⟨q1, q2⟩, q3⟩ := hP _ _ _ L.nx.1 e
        obtain ⟨⟨r1, r2⟩, r3, r4, _⟩ := ih _ _ _ _ q1 (fun y hy => by
          rcases List.mem_append.mp hy with hy | hy
          · exact hl y hy
          · rw [List.mem_singleton.mp hy]; exact q3) h
        rw [List.length_append] at r4
        have r4 : l.length + 1 ≤ l2.length := r4
        exact ⟨⟨r1, r2.trans q2⟩, r3, by omega, fun _ => r4⟩
    · next g =>
      injection h with h
      injection h with h1 h2
      subst h1
      subst h2
      exact ⟨⟨L, rfl⟩, hl, Nat.le_refl _, fun y => absurd y g⟩
theorem ws_jn {m i : Nat} {all : Int} {P : LX → PRS Te} (ha : all = 0 ∨ all = 1) (hP : PTe T N ord m P) : PTe T N ord (m + 1) (jnS T N i all P) := by
  intro s y t L h
  unfold jnS at h
  cases e : P s with
  | error p => rw [e] at h; cases h
  | ok z =>
    obtain ⟨x, s2⟩ := z
    rw [e] at h
    dsimp only at h
    obtain ⟨⟨q1, q2⟩, q3⟩ := hP _ _ _ L e
    split at h
    · next g =>
      cases e2 : moL T N i P 401 [x] s2 with
      | error p => rw [e2] at h; cases h
      | ok z =>
        obtain ⟨l, s3⟩ := z
        rw [e2] at h
        obtain ⟨⟨r1, r2⟩, r3, _, r5⟩ := ws_moL hP _ _ _ _ _ q1 (fun y hy => by rw [List.mem_singleton.mp hy]; exact q3) e2
        injection h with h
        injection h with h1 h2
        subst h1
        subst h2
        refine ⟨⟨r1, r2.trans q2⟩, ?_⟩
        show WFB ord (WFT ord m) (teV (Te.sev all l))
        rw [teV_sev]
        exact ⟨ha, r5 g, r3⟩
    · injection h with h
      injection h with h1 h2
      subst h1
      subst h2
      exact ⟨⟨q1, q2⟩, WFT.up _ _ q3⟩
theorem ws_teR : ∀ n : Nat, PTe T N ord (3 * n + 1) (teR T N ord n) := by
  intro n
  induction n with
  | zero => intro s y t _ h; cases h
  | succ n ih =>
    have e : 3 * (n + 1) + 1 = 3 * n + 2 + 1 + 1 := by omega
    rw [e]
    exact ws_jn (Or.inl rfl) (ws_jn (Or.inr rfl) (fun s y t L h => ws_plL ih 401 0 s y t L h))
theorem ws_test {y : Te} (L : LOK T N s) (h : teR T N ord 10 s = .ok (y, t)) : (LOK T N t ∧ t.2.2.2 = s.2.2.2) ∧ WFT ord 31 y := ws_teR (T := T) (N := N) (ord := ord) 10 _ _ _ L h
theorem ws_beh {i : Nat} {y : Su} (L : LOK T N s) (h : behS T N ord i s = .ok (y, t)) : (LOK T N t ∧ t.2.2.2 = s.2.2.2) ∧ WFS ord y ∧ dpU y ≤ 60 := by
  unfold behS at h
  split at h
  · exact ws_sum (s := nxS T N s) L.nx.1 h
  · cases h
theorem ws_sums {hd : Int} {l : List Su} (L : LOK T N s) (h : sumsS T N ord hd s = .ok (l, t)) : LOK T N t ∧ (∀ a, a ∈ l → WFS ord a ∧ dpU a ≤ 60) ∧ l.length = (if hd = 3 then 0 else if ord = false then 1 else if hd = 0 then 3 else 2) := by
  unfold sumsS at h
  split at h
  · next g =>
    injection h with h
    injection h with h1 h2
    subst h1
    subst h2
    exact ⟨L, (fun a ha => by cases ha), by rw [if_pos g]; rfl⟩
  · next g =>
    rw [if_neg g]
    cases e : suR T N ord 10 s with
    | error p => rw [e] at h; cases h
    | ok z =>
      obtain ⟨a, s2⟩ := z
      rw [e] at h
      dsimp only at h
      obtain ⟨⟨q1, _⟩, q3⟩ := ws_sum L e
      split at h
      · next g2 =>
        injection h with h
        injection h with h1 h2
        subst h1
        subst h2
        exact ⟨q1, (fun x hx => by rw [List.mem_singleton.mp hx]; exact q3), by rw [if_pos g2]; rfl⟩
      · next g2 =>
        rw [if_neg g2]
        cases e2 : behS T N ord (if hd = 0 then 40 else if hd = 1 then 41 else 42) s2 with
        | error p => rw [e2] at h; cases h
        | ok z =>
          obtain ⟨b, s3⟩ := z
          rw [e2] at h
          dsimp only at h
          obtain ⟨⟨r1, _⟩, r3⟩ := ws_beh q1 e2
          split at h
          · next g3 =>
            cases e3 : behS T N ord 41 s3 with
            | error p => rw [e3] at h; cases h
            | ok z =>
              obtain ⟨c, s4⟩ := z
              rw [e3] at h
              obtain ⟨⟨u1, _⟩, u3⟩ := ws_beh r1 e3
              injection h with h
              injection h with h1 h2
              subst h1
              subst h2
              refine ⟨u1, fun x hx => ?_, by rw [if_pos g3]; rfl⟩
              rcases List.mem_cons.mp hx with hx | hx
              · rw [hx]; exact q3
              rcases List.mem_cons.mp hx with hx | hx
              · rw [hx]; exact r3
              · rw [List.mem_singleton.mp hx]; exact u3
          · next g3 =>
            injection h with h
            injection h with h1 h2
            subst h1
            subst h2
            refine ⟨r1, fun x hx => ?_, by rw [if_neg g3]; rfl⟩
            rcases List.mem_cons.mp hx with hx | hx
            · rw [hx]; exact q3
            · rw [List.mem_singleton.mp hx]; exact r3
theorem ws_tim {n : Int} (L : LOK T N s) (h : timS T N ord s = .ok (n, t)) : LOK T N t ∧ 1 ≤ n ∧ n ≤ 20 := by
  unfold timS at h
  split at h
  · obtain ⟨n1, n2, _⟩ := ws_nu L.nx.1 h
    exact ⟨n2.1, n1⟩
  · injection h with h
    injection h with h1 h2
    subst h1
    subst h2
    exact ⟨L, by decide, by decide⟩
theorem ws_whn {o : Option Te} (L : LOK T N s) (h : whnS T N ord s = .ok (o, t)) : LOK T N t ∧ ∀ y, o = some y → WFT ord 31 y := by
  have h : (if tkT T (if ord = true then 44 else 29) s = true then (match teR T N ord 10 (nxS T N s) with
    | .error e => .error e
    | .ok (t, s2) => .ok (some t, s2)) else .ok (none, s)) = Except.ok (o, t) := h
  generalize (if ord = true then 44 else 29 : Nat) = ix at h
  split at h
  · cases e : teR T N ord 10 (nxS T N s) with
    | error p => rw [e] at h; cases h
    | ok z =>
      obtain ⟨y, s2⟩ := z
      rw [e] at h
      obtain ⟨q1, q2⟩ := ws_test L.nx.1 e
      injection h with h
      injection h with h1 h2
      subst h1
      subst h2
      exact ⟨q1.1, fun x hx => by injection hx with hx; rw [← hx]; exact q2⟩
  · injection h with h
    injection h with h1 h2
    subst h1
    subst h2
    exact ⟨L, fun y hy => by cases hy⟩
theorem ws_cla {c : Cl} {m : Int} (L : LOK T N s) (h : claS T N ord m s = .ok (c, t)) : LOK T N t ∧ WFC ord c := by
  have hi := hd_in (T := T) (ord := ord) (s := s)
  unfold claS at h
  split at h
  · cases h
  · next g =>
    cases e : sumsS T N ord (hdI T ord s) (nxS T N s) with
    | error p => rw [e] at h; cases h
    | ok z =>
      obtain ⟨l, s2⟩ := z
      rw [e] at h
      dsimp only at h
      obtain ⟨q1, q2, q3⟩ := ws_sums L.nx.1 e
      cases e2 : timS T N ord s2 with
      | error p => rw [e2] at h; cases h
      | ok z =>
        obtain ⟨n, s3⟩ := z
        rw [e2] at h
        dsimp only at h
        obtain ⟨r1, r2⟩ := ws_tim q1 e2
        cases e3 : whnS T N ord s3 with
        | error p => rw [e3] at h; cases h
        | ok z =>
          obtain ⟨o, s4⟩ := z
          rw [e3] at h
          obtain ⟨u1, u2⟩ := ws_whn r1 e3
          injection h with h
          injection h with h1 h2
          subst h1
          subst h2
          have g2 : hdI T ord s ≠ -1 := fun y => g (Or.inr y)
          exact ⟨u1, ⟨by show 0 ≤ hdI T ord s; omega, hi.2⟩, q2, q3, r2, u2⟩
theorem ws_rdL : ∀ (k : Nat) (l : List Cl) (s : LX) (l2 : List Cl) (t : LX), LOK T N s → (∀ c, c ∈ l → WFC ord c) → rdL T N ord k l s = .ok (l2, t) → ∀ c, c ∈ l2 → WFC ord c := by
  intro k
  induction k with
  | zero => intro l s l2 t _ _ h; cases h
  | succ k ih =>
    intro l s l2 t L hl h
    have h : (if tkT T 15 s = true then (match claS T N ord l.length (nxS T N s) with
      | .error e => .error e
      | .ok (c, s2) => rdL T N ord k (l ++ [c]) s2) else if s.1 < N then .error s.1 else .ok (l, s)) = Except.ok (l2, t) := h
    split at h
    · cases e : claS T N ord l.length (nxS T N s) with
      | error p => rw [e] at h; cases h
      | ok z =>
        obtain ⟨c, s2⟩ := z
        rw [e] at h
        dsimp only at h
        obtain ⟨q1, q2⟩ := ws_cla L.nx.1 e
        exact ih _ _ _ _ q1 (fun y hy => by
          rcases List.mem_append.mp hy with hy | hy
          · exact hl y hy
          · rw [List.mem_singleton.mp hy]; exact q2) h
    · split at h
      · cases h
      · injection h with h
        injection h with h1 h2
        subst h1
        exact hl
/-- all clauses read are well formed -/
theorem ws_rd {l : List Cl} (hN : 0 ≤ N) (h : rdS T N ord = .ok (l, t)) : ∀ c, c ∈ l → WFC ord c := by
  unfold rdS at h
  have L0 := LOK.st (T := T) hN
  cases e : claS T N ord 0 (nxS T N (0, 0, 0, 0)) with
  | error p => rw [e] at h; cases h
  | ok z =>
    obtain ⟨c, s2⟩ := z
    rw [e] at h
    dsimp only at h
    obtain ⟨q1, q2⟩ := ws_cla L0 e
    exact ws_rdL _ _ _ _ _ q1 (fun y hy => by rw [List.mem_singleton.mp hy]; exact q2) h
end WF
