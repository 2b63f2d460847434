/-! THE PLAIN LAW: what is reckoned with; loops as iterations -/
set_option maxRecDepth 100000
def itI {α : Type} (f : Int → α → α) : Int → Nat → α → α
  | _, 0, a => a
  | x, n + 1, a => itI f (x + 1) n (f x a)
section IT
variable {α β : Type} {f g : Int → α → α} {h : Int → β → β}
theorem itI_0 {x : Int} {a : α} : itI f x 0 a = a := rfl
theorem itI_s {x : Int} {n : Nat} {a : α} : itI f x (n + 1) a = itI f (x + 1) n (f x a) := rfl
theorem itI_congr : ∀ (n : Nat) (x : Int) (a : α), (∀ i a, x ≤ i → i < x + n → f i a = g i a) → itI f x n a = itI g x n a := by
  intro n
  induction n with
  | zero => intro x a _; rfl
  | succ n ih =>
    intro x a q
    rw [itI_s, itI_s, q x a (by omega) (by omega)]
    exact ih _ _ (fun i a h1 h2 => q i a (by omega) (by omega))
theorem itI_inv {P : Int → α → Prop} : ∀ (n : Nat) (x : Int) (a : α), P x a → (∀ i a, x ≤ i → i < x + n → P i a → P (i + 1) (f i a)) → P (x + n) (itI f x n a) := by
  intro n
  induction n with
  | zero =>
    intro x a p _
    have e : x + ((0 : Nat) : Int) = x := by omega
    rw [e]
    exact p
  | succ n ih =>
    intro x a p q
    have e : x + ((n + 1 : Nat) : Int) = x + 1 + n := by omega
    rw [e, itI_s]
    exact ih (x + 1) (f x a) (q x a (by omega) (by omega) p) (fun i a h1 h2 h3 => q i a (by omega) (by omega) h3)
theorem itI_rel {P : Int → α → β → Prop} : ∀ (n : Nat) (x : Int) (a : α) (b : β), P x a b → (∀ i a b, x ≤ i → i < x + n → P i a b → P (i + 1) (f i a) (h i b)) → P (x + n) (itI f x n a) (itI h x n b) := by
  intro n
  induction n with
  | zero =>
    intro x a b p _
    have e : x + ((0 : Nat) : Int) = x := by omega
    rw [e]
    exact p
  | succ n ih =>
    intro x a b p q
    have e : x + ((n + 1 : Nat) : Int) = x + 1 + n := by omega
    rw [e, itI_s, itI_s]
    exact ih (x + 1) (f x a) (h x b) (q x a b (by omega) (by omega) p) (fun i a b h1 h2 h3 => q i a b (by omega) (by omega) h3)
theorem itI_last : ∀ (n : Nat) (x : Int) (a : α), itI f x (n + 1) a = f (x + n) (itI f x n a) := by
  intro n
  induction n with
  | zero =>
    intro x a
    have e : x + ((0 : Nat) : Int) = x := by omega
    rw [e]
    rfl
  | succ n ih =>
    intro x a
    rw [itI_s, ih, itI_s]
    have e : x + 1 + (n : Int) = x + ((n + 1 : Nat) : Int) := by omega
    rw [e]
end IT
/-- the first place of a run where p holds, or d -/
def fiI (p : Int → Bool) (d : Int) : Int → Nat → Int
  | _, 0 => d
  | x, n + 1 => if p x then x else fiI p d (x + 1) n
theorem fiI_no {p : Int → Bool} {d : Int} : ∀ (n : Nat) (x : Int), (∀ i, x ≤ i → i < x + n → p i = false) → fiI p d x n = d := by
  intro n
  induction n with
  | zero => intro x _; rfl
  | succ n ih =>
    intro x h
    show (if p x then x else fiI p d (x + 1) n) = d
    rw [h x (by omega) (by omega), if_neg (by decide)]
    exact ih _ (fun i a b => h i (by omega) (by omega))
theorem fiI_yes {p : Int → Bool} {d : Int} : ∀ (n : Nat) (x j : Int), x ≤ j → j < x + n → p j = true → (∀ i, x ≤ i → i < j → p i = false) → fiI p d x n = j := by
  intro n
  induction n with
  | zero => intro x j a b; omega
  | succ n ih =>
    intro x j a b c h
    show (if p x then x else fiI p d (x + 1) n) = j
    by_cases e : x = j
    · subst e
      rw [if_pos c]
    · rw [h x (by omega) (by omega), if_neg (by decide)]
      exact ih _ _ (by omega) (by omega) c (fun i a b => h i (by omega) (by omega))
/-- one of the two: none, or the first -/
theorem fiI_or {p : Int → Bool} {d : Int} : ∀ (n : Nat) (x : Int), (fiI p d x n = d ∧ ∀ i, x ≤ i → i < x + n → p i = false) ∨ (x ≤ fiI p d x n ∧ fiI p d x n < x + n ∧ p (fiI p d x n) = true ∧ ∀ i, x ≤ i → i < fiI p d x n → p i = false) := by
  intro n
  induction n with
  | zero => intro x; exact Or.inl ⟨rfl, fun i a b => absurd b (by omega)⟩
  | succ n ih =>
    intro x
    show ((if p x then x else fiI p d (x + 1) n) = d ∧ _) ∨ (x ≤ (if p x then x else fiI p d (x + 1) n) ∧ (if p x then x else fiI p d (x + 1) n) < _ ∧ p (if p x then x else fiI p d (x + 1) n) = true ∧ ∀ i, x ≤ i → i < (if p x then x else fiI p d (x + 1) n) → p i = false)
    by_cases e : p x = true
    · rw [if_pos e]
      exact Or.inr ⟨by omega, by omega, e, fun i a b => absurd b (by omega)⟩
    · rw [if_neg e]
      have e : p x = false := by simpa using e
      rcases ih (x + 1) with ⟨h1, h2⟩ | ⟨h1, h2, h3, h4⟩
      · refine Or.inl ⟨h1, fun i a b => ?_⟩
        by_cases q : i = x
        · rw [q]; exact e
        · exact h2 i (by omega) (by omega)
      · refine Or.inr ⟨by omega, by omega, h3, fun i a b => ?_⟩
        by_cases q : i = x
        · rw [q]; exact e
        · exact h4 i (by omega) b
/-- cells that reckoning changes -/
def Ev (k : Nat) (j : Int) : Prop := k = 191 ∨ k = 35 ∨ k = 37 ∨ (k = 0 ∧ (j = 34 ∨ j = 38 ∨ j = 39 ∨ j = 40))
def EV (w w' : Wd) : Prop := Sm w w' ∧ ∀ k j, ¬ Ev k j → gV w' k j = gV w k j
theorem EV.rf {w : Wd} : EV w w := ⟨Sm.rf, fun _ _ _ => rfl⟩
theorem EV.tr {w w1 w2 : Wd} (h1 : EV w w1) (h2 : EV w1 w2) : EV w w2 := ⟨h1.1.tr h2.1, fun k j h => (h2.2 k j h).trans (h1.2 k j h)⟩
theorem EV.sV {w w' : Wd} {k : Nat} {j x : Int} (h : EV w w') (hk : Ev k j) : EV w (sV w' k j x) := ⟨h.1.sV, fun k' j' hn => by
  rw [gV_ne (fun e => hn (by rw [e.1, e.2]; exact hk))]
  exact h.2 k' j' hn⟩
def rK (w : Wd) (k : Nat) (j : Int) : Nat := (gR w k j).getD 0
def CO (w0 w : Wd) (t : Nat) (ρ : Int → Int) : Prop := SOK w ∧ gV w 3 = ρ ∧ (t = 300 ∨ t = 318) ∧ StR w 140 t 144 145 ρ ∧ Hi w0 w ∧ (∀ q, gR w 145 q = gR w0 145 q) ∧ gV w 0 20 = 0 ∧ ∀ q, 0 ≤ q → q < ρ 3 → LawR w0 (rK w0 145 q) (fun j => ρ (116 + 900 * q + j))
section CORE
variable {w0 w w' : Wd} {t : Nat} {ρ : Int → Int} {j : Int}
theorem CO.ev (C : CO w0 w t ρ) (e : EV w w') : CO w0 w' t ρ := by
  obtain ⟨c1, c2, c3, c4, c5, c6, c7, c8⟩ := C
  have e2 : ∀ k j, ¬ (k = 191 ∨ k = 35 ∨ k = 37 ∨ (k = 0 ∧ (j = 34 ∨ j = 38 ∨ j = 39 ∨ j = 40))) → gV w' k j = gV w k j := e.2
  refine ⟨c1.sm e.1, ?_, c3, c4.fr e.1 (fun k j hk => e2 k j (by omega)) (fun _ _ _ => rfl), c5.tr (Hi.of e.1.1 e.1.2 (fun k hk j => e2 k j (by omega))), fun q => (e.1.2 _ _).trans (c6 q), (e2 0 20 (by omega)).trans c7, c8⟩
  rw [← c2]
  exact funext fun j => e2 3 j (by omega)
theorem CO.sV {k : Nat} {i x : Int} (C : CO w0 w t ρ) (h : Ev k i) : CO w0 (sV w k i x) t ρ := C.ev (EV.rf.sV h)
theorem CO.row (C : CO w0 w t ρ) : gV w 3 j = ρ j := congrFun C.2.1 j
theorem CO.tb (C : CO w0 w t ρ) : TabEq w t (fun j => ρ (5 + j)) := C.2.2.2.1.1
theorem CO.ok (C : CO w0 w t ρ) : TabOK (fun j => ρ (5 + j)) (ρ 0) (ρ 1) := C.2.2.2.1.2.1
theorem CO.st (C : CO w0 w t ρ) : StaR w 140 ρ := C.2.2.2.1.2.2.1
theorem CO.la (C : CO w0 w t ρ) : LawsR w 144 145 ρ := C.2.2.2.1.2.2.2
theorem CO.nb (C : CO w0 w t ρ) : 0 ≤ ρ 0 ∧ ρ 0 ≤ 6 := C.st.1.2
theorem CO.ns (C : CO w0 w t ρ) : 0 ≤ ρ 1 ∧ ρ 1 ≤ 6 := C.st.2.1.2
theorem CO.nh (C : CO w0 w t ρ) : 0 ≤ ρ 2 ∧ ρ 2 ≤ 8 := C.st.2.2.1.2
theorem CO.nl (C : CO w0 w t ρ) : 0 ≤ ρ 3 ∧ ρ 3 ≤ 6 := ⟨C.la.2.2.2.2.1, C.la.2.2.2.2.2.1⟩
theorem CO.fo (C : CO w0 w t ρ) : -1 ≤ ρ 4 ∧ ρ 4 < ρ 3 := ⟨C.la.2.2.2.2.2.2.1, C.la.2.2.2.2.2.2.2.1⟩
theorem CO.yr (C : CO w0 w t ρ) : 0 ≤ ρ 5 ∧ ρ 5 ≤ 999 := C.ok.1
theorem CO.dm (C : CO w0 w t ρ) : 0 ≤ ρ 6 ∧ ρ 6 ≤ 10 := C.ok.2.1
theorem CO.md (C : CO w0 w t ρ) : 0 ≤ ρ 7 ∧ ρ 7 ≤ 9 := C.ok.2.2.1
theorem ro5 {a b c : Int} (h : a + b = c) : ρ (a + b) = ρ c := by rw [h]
theorem CO.pi (C : CO w0 w t ρ) (h0 : 0 ≤ j) (h1 : j < 48) : 0 ≤ ρ (8 + j) ∧ ρ (8 + j) ≤ 255 := by
  have h := C.ok.2.2.2.1 j h0 h1
  have e : (5 : Int) + (3 + j) = 8 + j := by omega
  dsimp only at h
  rw [e] at h
  exact h
theorem CO.to (C : CO w0 w t ρ) (h0 : 0 ≤ j) (h1 : j < 6) : (0 ≤ ρ (56 + j) ∧ ρ (56 + j) ≤ 255) ∧ (0 ≤ ρ (62 + j) ∧ ρ (62 + j) ≤ 20) ∧ (-1 ≤ ρ (68 + j) ∧ ρ (68 + j) ≤ 5) ∧ (0 ≤ ρ (74 + j) ∧ ρ (74 + j) ≤ 60) := by
  have h := C.ok.2.2.2.2.1 j h0 h1
  have e1 : (5 : Int) + (51 + j) = 56 + j := by omega
  have e2 : (5 : Int) + (57 + j) = 62 + j := by omega
  have e3 : (5 : Int) + (63 + j) = 68 + j := by omega
  have e4 : (5 : Int) + (69 + j) = 74 + j := by omega
  dsimp only at h
  rw [e1, e2, e3, e4] at h
  exact h
theorem CO.we (C : CO w0 w t ρ) (h0 : 0 ≤ j) (h1 : j < ρ 0) : (ρ (68 + j) = -1 → ρ (74 + j) = 0) ∧ (ρ (68 + j) ≠ -1 → ρ (68 + j) < ρ 1 ∧ 1 ≤ ρ (74 + j)) := by
  have h := C.ok.2.2.2.2.2.1 j h0 h1
  have e3 : (5 : Int) + (63 + j) = 68 + j := by omega
  have e4 : (5 : Int) + (69 + j) = 74 + j := by omega
  dsimp only at h
  rw [e3, e4] at h
  exact h
theorem CO.un (C : CO w0 w t ρ) {i : Int} (h0 : 0 ≤ i) (h1 : i < ρ 0) (h2 : 0 ≤ j) (h3 : j < ρ 0) (e : ρ (68 + i) = ρ (68 + j)) (n : ρ (68 + i) ≠ -1) : i = j := by
  have h := C.ok.2.2.2.2.2.2 i j h0 h1 h2 h3
  have e3 : (5 : Int) + (63 + j) = 68 + j := by omega
  have e4 : (5 : Int) + (63 + i) = 68 + i := by omega
  dsimp only at h
  rw [e3, e4] at h
  exact h e n
theorem CO.ea (C : CO w0 w t ρ) (h0 : 0 ≤ j) (h1 : j < 6) : 0 ≤ ρ (80 + j) ∧ ρ (80 + j) ≤ 7 := (C.st.2.2.2.2.2.2.1 j h0 h1).1.2
theorem CO.wa (C : CO w0 w t ρ) (h0 : 0 ≤ j) (h1 : j < 6) : 0 ≤ ρ (86 + j) ∧ ρ (86 + j) ≤ 60 := (C.st.2.2.2.2.2.2.1 j h0 h1).2.2
theorem CO.he (C : CO w0 w t ρ) (h0 : 0 ≤ j) (h1 : j < ρ 2) : (0 ≤ ρ (92 + 3 * j) ∧ ρ (92 + 3 * j) ≤ 7) ∧ (0 ≤ ρ (93 + 3 * j) ∧ ρ (93 + 3 * j) ≤ 7) ∧ 0 ≤ ρ (94 + 3 * j) ∧ ρ (94 + 3 * j) ≤ 1 := C.st.2.2.2.2.2.2.2.2 j h0 h1
theorem CO.rI (C : CO w0 w t ρ) (h0 : 0 ≤ j) (h1 : j < 92) : inI (ρ j) := by
  have c0 := C.nb; have c1 := C.ns; have c2 := C.nh; have c3 := C.nl; have c4 := C.fo; have c5 := C.yr; have c6 := C.dm; have c7 := C.md
  by_cases g0 : j < 8
  · have : j = 0 ∨ j = 1 ∨ j = 2 ∨ j = 3 ∨ j = 4 ∨ j = 5 ∨ j = 6 ∨ j = 7 := by omega
    rcases this with h | h | h | h | h | h | h | h <;> subst h <;> exact ⟨by omega, by omega⟩
  · by_cases g1 : j < 56
    · have h := C.pi (j := j - 8) (by omega) (by omega)
      have e : (8 : Int) + (j - 8) = j := by omega
      rw [e] at h
      exact ⟨by omega, by omega⟩
    · by_cases g2 : j < 62
      · have h := (C.to (j := j - 56) (by omega) (by omega)).1
        have e : (56 : Int) + (j - 56) = j := by omega
        rw [e] at h
        exact ⟨by omega, by omega⟩
      · by_cases g3 : j < 68
        · have h := (C.to (j := j - 62) (by omega) (by omega)).2.1
          have e : (62 : Int) + (j - 62) = j := by omega
          rw [e] at h
          exact ⟨by omega, by omega⟩
        · by_cases g4 : j < 74
          · have h := (C.to (j := j - 68) (by omega) (by omega)).2.2.1
            have e : (68 : Int) + (j - 68) = j := by omega
            rw [e] at h
            exact ⟨by omega, by omega⟩
          · by_cases g5 : j < 80
            · have h := (C.to (j := j - 74) (by omega) (by omega)).2.2.2
              have e : (74 : Int) + (j - 74) = j := by omega
              rw [e] at h
              exact ⟨by omega, by omega⟩
            · by_cases g6 : j < 86
              · have h := C.ea (j := j - 80) (by omega) (by omega)
                have e : (80 : Int) + (j - 80) = j := by omega
                rw [e] at h
                exact ⟨by omega, by omega⟩
              · have h := C.wa (j := j - 86) (by omega) (by omega)
                have e : (86 : Int) + (j - 86) = j := by omega
                rw [e] at h
                exact ⟨by omega, by omega⟩
theorem CO.c5 (C : CO w0 w t ρ) : gV w 140 5 = ρ 0 := C.st.1.1
theorem CO.c6 (C : CO w0 w t ρ) : gV w 140 6 = ρ 1 := C.st.2.1.1
theorem CO.c7 (C : CO w0 w t ρ) : gV w 140 7 = ρ 2 := C.st.2.2.1.1
theorem CO.c8 (C : CO w0 w t ρ) : gV w 140 8 = ρ 6 := C.st.2.2.2.1
theorem CO.c9 (C : CO w0 w t ρ) : gV w 140 9 = ρ 7 := C.st.2.2.2.2.1
theorem CO.c10 (C : CO w0 w t ρ) : gV w 140 10 = ρ 4 := C.st.2.2.2.2.2.1
theorem CO.l2 (C : CO w0 w t ρ) : gV w 144 2 = ρ 3 := C.la.2.2.2.1
theorem CO.e1 (C : CO w0 w t ρ) (h0 : 0 ≤ j) (h1 : j < 6) : gV w 141 j = ρ (80 + j) := (C.st.2.2.2.2.2.2.1 j h0 h1).1.1
theorem CO.e2 (C : CO w0 w t ρ) (h0 : 0 ≤ j) (h1 : j < 6) : gV w 142 j = ρ (86 + j) := (C.st.2.2.2.2.2.2.1 j h0 h1).2.1
theorem CO.e3 (C : CO w0 w t ρ) (h0 : 0 ≤ j) (h1 : j < 24) : gV w 143 j = ρ (92 + j) := C.st.2.2.2.2.2.2.2.1 j h0 h1
theorem CO.t0 (C : CO w0 w t ρ) : gV w t 5 = ρ 5 := C.tb.1
theorem CO.t1 (C : CO w0 w t ρ) (h0 : 0 ≤ j) (h1 : j < 48) : gV w (t + 1) j = ρ (8 + j) := (C.tb.2.1 j h0 h1).trans (ro5 (by omega))
theorem CO.t2 (C : CO w0 w t ρ) (h0 : 0 ≤ j) (h1 : j < 6) : gV w (t + 2) j = ρ (56 + j) := (C.tb.2.2 j h0 h1).1.trans (ro5 (by omega))
theorem CO.t3 (C : CO w0 w t ρ) (h0 : 0 ≤ j) (h1 : j < 6) : gV w (t + 3) j = ρ (62 + j) := (C.tb.2.2 j h0 h1).2.1.trans (ro5 (by omega))
theorem CO.t4 (C : CO w0 w t ρ) (h0 : 0 ≤ j) (h1 : j < 6) : gV w (t + 4) j = ρ (68 + j) := (C.tb.2.2 j h0 h1).2.2.1.trans (ro5 (by omega))
theorem CO.t5 (C : CO w0 w t ρ) (h0 : 0 ≤ j) (h1 : j < 6) : gV w (t + 5) j = ρ (74 + j) := (C.tb.2.2 j h0 h1).2.2.2.trans (ro5 (by omega))
theorem CO.a0 (C : CO w0 w 300 ρ) : gV w 300 5 = ρ 5 := C.t0
theorem CO.a1 (C : CO w0 w 300 ρ) (h0 : 0 ≤ j) (h1 : j < 48) : gV w 301 j = ρ (8 + j) := C.t1 h0 h1
theorem CO.a2 (C : CO w0 w 300 ρ) (h0 : 0 ≤ j) (h1 : j < 6) : gV w 302 j = ρ (56 + j) := C.t2 h0 h1
theorem CO.a3 (C : CO w0 w 300 ρ) (h0 : 0 ≤ j) (h1 : j < 6) : gV w 303 j = ρ (62 + j) := C.t3 h0 h1
theorem CO.a4 (C : CO w0 w 300 ρ) (h0 : 0 ≤ j) (h1 : j < 6) : gV w 304 j = ρ (68 + j) := C.t4 h0 h1
theorem CO.a5 (C : CO w0 w 300 ρ) (h0 : 0 ≤ j) (h1 : j < 6) : gV w 305 j = ρ (74 + j) := C.t5 h0 h1
theorem CO.b0 (C : CO w0 w 318 ρ) : gV w 318 5 = ρ 5 := C.t0
theorem CO.b1 (C : CO w0 w 318 ρ) (h0 : 0 ≤ j) (h1 : j < 48) : gV w 319 j = ρ (8 + j) := C.t1 h0 h1
theorem CO.b2 (C : CO w0 w 318 ρ) (h0 : 0 ≤ j) (h1 : j < 6) : gV w 320 j = ρ (56 + j) := C.t2 h0 h1
theorem CO.b3 (C : CO w0 w 318 ρ) (h0 : 0 ≤ j) (h1 : j < 6) : gV w 321 j = ρ (62 + j) := C.t3 h0 h1
theorem CO.b4 (C : CO w0 w 318 ρ) (h0 : 0 ≤ j) (h1 : j < 6) : gV w 322 j = ρ (68 + j) := C.t4 h0 h1
theorem CO.b5 (C : CO w0 w 318 ρ) (h0 : 0 ≤ j) (h1 : j < 6) : gV w 323 j = ρ (74 + j) := C.t5 h0 h1
theorem REL.co {i : Int} (R : REL w i) : CO w w 300 (gV w 3) := ⟨R.1, rfl, Or.inl rfl, R.2.1, Hi.rf, fun _ => rfl, R.2.2.2.2.2.2.1.2.2.2.2.2.2.2.1, fun q a b => by
  obtain ⟨k, e, h⟩ := R.2.1.2.2.2.2.2.2.2.2.2.2.2 q a b
  have e2 : rK w 145 q = k := by unfold rK; rw [e]; rfl
  rw [e2]
  exact h⟩
theorem REL.ev {i i' : Int} (R : REL w i) (h : i ≤ i') (e : EV w w') : REL w' i' := R.scr h e.1 (fun k j hn => e.2 k j (by unfold Ev; unfold Scr at hn; omega))
end CORE
