/-! THE PLAIN LAW: shares: what is laid -/
set_option maxRecDepth 100000
theorem itI_app {α : Type} {f : Int → α → α} : ∀ (n m : Nat) (x : Int) (a : α), itI f x (n + m) a = itI f (x + n) m (itI f x n a) := by
  intro n
  induction n with
  | zero =>
    intro m x a
    have e : x + ((0 : Nat) : Int) = x := by omega
    rw [e, Nat.zero_add]
    rfl
  | succ n ih =>
    intro m x a
    have e : n + 1 + m = (n + m) + 1 := by omega
    have e2 : x + ((n + 1 : Nat) : Int) = x + 1 + n := by omega
    rw [e, itI_s, ih, itI_s, e2]
def pdv (p : Int → Int) (j v : Int) : Int → Int := fun i => if i = j then v else p i
/-- the code of a row of digits -/
def cod (k : Int) (r : Int → Int) : Nat → Int
  | 0 => 0
  | n + 1 => cod k r n * k + r n
def suD (W r : Int → Int) (s : Int) : Nat → Int
  | 0 => 0
  | n + 1 => suD W r s n + if r n = s then W n else 0
def hsF (k : Int) (W : Int → Int) : Nat → Int → (Int → Int) → (Int → Int)
  | 0, _, h => h
  | n + 1, c, h => hsF k W n (Int.tdiv c k) (pdv h (Int.tmod c k) (h (Int.tmod c k) + W n))
def hs0 (k s : Int) : Int := if k ≤ s then 100000000 else 0
def mn3 (h : Int → Int) : Int := if (if h 1 ≤ h 0 then h 1 else h 0) < h 2 then (if h 1 ≤ h 0 then h 1 else h 0) else h 2
def lsC (k : Int) (W : Int → Int) (N : Nat) (c : Int) : Int := mn3 (hsF k W N c (hs0 k))
def lsS (k : Int) (h : Int → Int) : Int := itI (fun s m => iMn m (h s)) 0 k.toNat 1000000
/-- the twin: over all codes -/
def twF (k : Int) (W : Int → Int) (N : Nat) (c : Int) (p : Int × Int) : Int × Int := if p.2 < lsC k W N c then (c, lsC k W N c) else p
/-- the component: over all rows -/
def shR (k : Int) (W : Int → Int) : Nat → Nat → (Int → Int) → (Int → Int) → Int × (Int → Int) → Int × (Int → Int)
  | 0, _, r, h, st => if st.1 < lsS k h then (lsS k h, r) else st
  | n + 1, b, r, h, st => itI (fun s st => shR k W n (b + 1) (pdv r b s) (pdv h s (h s + W b)) st) 0 k.toNat st
section SHA
variable {k : Int} {W r : Int → Int} {N : Nat}
theorem cod_s {n : Nat} : cod k r (n + 1) = cod k r n * k + r n := rfl
theorem suD_s {n : Nat} {s : Int} : suD W r s (n + 1) = suD W r s n + if r n = s then W n else 0 := rfl
theorem cod_ext {r' : Int → Int} : ∀ (n : Nat), (∀ b : Nat, b < n → r b = r' b) → cod k r n = cod k r' n := by
  intro n
  induction n with
  | zero => intro _; rfl
  | succ n ih => intro h; rw [cod_s, cod_s, ih (fun b hb => h b (by omega)), h n (by omega)]
theorem suD_ext {r' : Int → Int} {s : Int} : ∀ (n : Nat), (∀ b : Nat, b < n → r b = r' b) → suD W r s n = suD W r' s n := by
  intro n
  induction n with
  | zero => intro _; rfl
  | succ n ih => intro h; rw [suD_s, suD_s, ih (fun b hb => h b (by omega)), h n (by omega)]
theorem cod_nn (hk : 1 ≤ k) : ∀ (n : Nat), (∀ b : Nat, b < n → 0 ≤ r b ∧ r b < k) → 0 ≤ cod k r n := by
  intro n
  induction n with
  | zero => intro _; exact Int.le_refl _
  | succ n ih =>
    intro h
    have := ih (fun b hb => h b (by omega))
    have h2 := h n (by omega)
    have := Int.mul_nonneg this (by omega : 0 ≤ k)
    rw [cod_s]
    omega
theorem cod_dm (hk : 1 ≤ k) {n : Nat} (h : ∀ b : Nat, b < n + 1 → 0 ≤ r b ∧ r b < k) : Int.tdiv (cod k r (n + 1)) k = cod k r n ∧ Int.tmod (cod k r (n + 1)) k = r n := by
  have c0 := cod_nn hk n (fun b hb => h b (by omega))
  have h2 := h n (by omega)
  have c1 : 0 ≤ cod k r n * k + r n := by have := Int.mul_nonneg c0 (by omega : 0 ≤ k); omega
  rw [cod_s]
  rw [Int.tdiv_eq_ediv_of_nonneg c1, Int.tmod_eq_emod_of_nonneg c1]
  constructor
  · rw [Int.add_comm, Int.add_mul_ediv_right _ _ (by omega), Int.ediv_eq_zero_of_lt h2.1 h2.2, Int.zero_add]
  · rw [Int.add_comm, Int.add_mul_emod_self_right, Int.emod_eq_of_lt h2.1 h2.2]
theorem hsF_eq (hk : 1 ≤ k) : ∀ (n : Nat) (h : Int → Int) (s : Int), (∀ b : Nat, b < n → 0 ≤ r b ∧ r b < k) → hsF k W n (cod k r n) h s = h s + suD W r s n := by
  intro n
  induction n with
  | zero => intro h s _; exact (Int.add_zero _).symm
  | succ n ih =>
    intro h s hr
    obtain ⟨e1, e2⟩ := cod_dm hk hr
    unfold hsF
    rw [e1, e2, ih _ _ (fun b hb => hr b (by omega))]
    rw [suD_s]
    unfold pdv
    by_cases z : s = r n
    · rw [if_pos z, if_pos z.symm, z]
      omega
    · rw [if_neg z, if_neg (fun q => z q.symm)]
      omega
theorem suD_in (hW : ∀ b : Nat, b < N → 0 ≤ W b ∧ W b ≤ 60) {s : Int} : ∀ n : Nat, n ≤ N → 0 ≤ suD W r s n ∧ suD W r s n ≤ 60 * n := by
  intro n
  induction n with
  | zero => intro _; exact ⟨Int.le_refl _, Int.le_refl _⟩
  | succ n ih =>
    intro h
    have := ih (by omega)
    have h2 := hW n (by omega)
    rw [suD_s]
    split <;> omega
/-- what a full row's least share is, on both sides -/
theorem ls_eq (hk : 1 ≤ k ∧ k ≤ 3) (hN : N ≤ 6) (hW : ∀ b : Nat, b < N → 0 ≤ W b ∧ W b ≤ 60) (hr : ∀ b : Nat, b < N → 0 ≤ r b ∧ r b < k) {h : Int → Int} (hh : ∀ s, 0 ≤ s → s < k → h s = suD W r s N) : lsC k W N (cod k r N) = lsS k h ∧ 0 ≤ lsS k h ∧ lsS k h ≤ 360 := by
  have a0 := suD_in (r := r) (s := 0) hW N (Nat.le_refl _)
  have a1 := suD_in (r := r) (s := 1) hW N (Nat.le_refl _)
  have a2 := suD_in (r := r) (s := 2) hW N (Nat.le_refl _)
  unfold lsC mn3
  rw [hsF_eq hk.1 N _ 0 hr, hsF_eq hk.1 N _ 1 hr, hsF_eq hk.1 N _ 2 hr]
  have : k = 1 ∨ k = 2 ∨ k = 3 := by omega
  rcases this with z | z | z <;> subst z
  · have h0 := hh 0 (by decide) (by decide)
    have e : lsS 1 h = iMn 1000000 (h 0) := rfl
    rw [e]
    unfold hs0 iMn
    rw [if_pos (by decide : (1 : Int) ≤ 1), if_pos (by decide : (1 : Int) ≤ 2), if_neg (by decide : ¬ (1 : Int) ≤ 0)]
    rw [h0]
    repeat (first | omega | split)
  · have h0 := hh 0 (by decide) (by decide)
    have h1 := hh 1 (by decide) (by decide)
    have e : lsS 2 h = iMn (iMn 1000000 (h 0)) (h 1) := rfl
    rw [e]
    unfold hs0 iMn
    rw [if_pos (by decide : (2 : Int) ≤ 2), if_neg (by decide : ¬ (2 : Int) ≤ 1), if_neg (by decide : ¬ (2 : Int) ≤ 0)]
    rw [h0, h1]
    repeat (first | omega | split)
  · have h0 := hh 0 (by decide) (by decide)
    have h1 := hh 1 (by decide) (by decide)
    have h2 := hh 2 (by decide) (by decide)
    have e : lsS 3 h = iMn (iMn (iMn 1000000 (h 0)) (h 1)) (h 2) := rfl
    rw [e]
    unfold hs0 iMn
    rw [if_neg (by decide : ¬ (3 : Int) ≤ 2), if_neg (by decide : ¬ (3 : Int) ≤ 1), if_neg (by decide : ¬ (3 : Int) ≤ 0)]
    rw [h0, h1, h2]
    repeat (first | omega | split)
def ShT (k : Int) (N : Nat) (st : Int × (Int → Int)) (p : Int × Int) : Prop := st.1 = p.2 ∧ -1 ≤ p.2 ∧ p.2 ≤ 360 ∧ (p.2 = -1 ∨ ((∀ b : Nat, b < N → 0 ≤ st.2 b ∧ st.2 b < k) ∧ cod k st.2 N = p.1))
theorem sh_tw (hk : 1 ≤ k ∧ k ≤ 3) (hN : N ≤ 6) (hW : ∀ b : Nat, b < N → 0 ≤ W b ∧ W b ≤ 60) : ∀ (n b : Nat) (r h : Int → Int) (st : Int × (Int → Int)) (p : Int × Int), b + n = N → (∀ q : Nat, q < b → 0 ≤ r q ∧ r q < k) → (∀ s, 0 ≤ s → s < k → h s = suD W r s b) → ShT k N st p → ShT k N (shR k W n b r h st) (itI (twF k W N) (cod k r b * (k.toNat ^ n : Nat)) (k.toNat ^ n) p) := by
  intro n
  induction n with
  | zero =>
    intro b r h st p hb hr hh hS
    have hb : b = N := by omega
    subst hb
    obtain ⟨e1, e2, e3⟩ := ls_eq hk hN hW hr hh
    have ex : cod k r b * ((k.toNat ^ 0 : Nat) : Int) = cod k r b := by rw [Nat.pow_zero]; exact Int.mul_one _
    rw [ex, Nat.pow_zero]
    show ShT k b (if st.1 < lsS k h then (lsS k h, r) else st) (twF k W b (cod k r b) p)
    unfold twF
    rw [e1]
    obtain ⟨s1, s2, s3, s4⟩ := hS
    by_cases z : p.2 < lsS k h
    · rw [if_pos z, if_pos (by omega)]
      exact ⟨rfl, by show -1 ≤ lsS k h; omega, e3, Or.inr ⟨hr, rfl⟩⟩
    · rw [if_neg z, if_neg (by omega)]
      exact ⟨s1, s2, s3, s4⟩
  | succ n ih =>
    intro b r h st p hb hr hh hS
    have inner : ∀ (m : Nat) (s : Int) (st : Int × (Int → Int)) (p : Int × Int), s + m = k → 0 ≤ s → ShT k N st p → ShT k N (itI (fun s st => shR k W n (b + 1) (pdv r b s) (pdv h s (h s + W b)) st) s m st) (itI (twF k W N) ((cod k r b * k + s) * (k.toNat ^ n : Nat)) (m * k.toNat ^ n) p) := by
      intro m
      induction m with
      | zero =>
        intro s st p _ _ hS
        rw [Nat.zero_mul]
        exact hS
      | succ m ihm =>
        intro s st p hs h0 hS
        have e1 : (m + 1) * k.toNat ^ n = k.toNat ^ n + m * k.toNat ^ n := by rw [Nat.succ_mul]; omega
        rw [itI_s, e1, itI_app]
        have er : ∀ q : Nat, q < b → r q = pdv r b s q := fun q hq => by unfold pdv; rw [if_neg (by omega)]
        have ec : cod k (pdv r b s) (b + 1) = cod k r b * k + s := by
          have e9 : pdv r b s b = s := by unfold pdv; rw [if_pos rfl]
          rw [cod_s]
          rw [← cod_ext b er, e9]
        have st2 := ih (b + 1) (pdv r b s) (pdv h s (h s + W b)) st p (by omega) (fun q hq => by
          unfold pdv
          by_cases z : (q : Int) = b
          · rw [if_pos z]; omega
          · rw [if_neg z]; exact hr q (by omega)) (fun s' u v => by
          have e9 : pdv r b s b = s := by unfold pdv; rw [if_pos rfl]
          rw [suD_s]
          rw [← suD_ext b er, e9]
          unfold pdv
          by_cases z : s' = s
          · rw [if_pos z, if_pos z.symm, z, hh s h0 (by omega)]
          · rw [if_neg z, if_neg (fun q => z q.symm), hh s' u v]
            omega) hS
        rw [ec] at st2
        have e3 : (cod k r b * k + s) * ((k.toNat ^ n : Nat) : Int) + ((k.toNat ^ n : Nat) : Int) = (cod k r b * k + (s + 1)) * ((k.toNat ^ n : Nat) : Int) := by
          rw [← Int.add_assoc, Int.add_mul (cod k r b * k + s) 1, Int.one_mul]
        rw [e3]
        exact ihm (s + 1) _ _ (by omega) (by omega) st2
    have e4 : cod k r b * ((k.toNat ^ (n + 1) : Nat) : Int) = (cod k r b * k + 0) * ((k.toNat ^ n : Nat) : Int) := by
      have ek : ((k.toNat : Nat) : Int) = k := by omega
      rw [Int.add_zero, Nat.pow_succ, Int.natCast_mul, ek, Int.mul_assoc, Int.mul_comm k]
    have e5 : k.toNat ^ (n + 1) = k.toNat * k.toNat ^ n := by rw [Nat.pow_succ, Nat.mul_comm]
    rw [e4, e5]
    exact inner k.toNat 0 st p (by omega) (by decide) hS
end SHA
