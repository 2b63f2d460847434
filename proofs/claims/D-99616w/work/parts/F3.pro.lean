/-! THE PLAIN LAW: at the start the two stand beside one another -/
set_option maxRecDepth 100000
def U0 : Wd := MW e0 LF0 RF0 VF0
theorem u0_all : (LF0.all (fun e => Nat.blt e.1 800)) = true := by decide +kernel
theorem lkV_ne {k : Nat} {j : Int} : ∀ {V : List (Nat × Nat × Int)}, (∀ e ∈ V, ¬ (k = e.1 ∧ j = (e.2.1 : Int))) → lkV V k j = none := by
  intro V
  induction V with
  | nil => intro _; rfl
  | cons e l ih =>
    intro h
    show (if k = e.1 ∧ j = (e.2.1 : Int) then some e.2.2 else lkV l k j) = none
    rw [if_neg (h e (List.mem_cons_self ..))]
    exact ih (fun e' he => h e' (List.mem_cons_of_mem _ he))
theorem lkR_mem {k r : Nat} {j : Int} : ∀ {R : List (Nat × Nat × Nat)}, lkR R k j = some r → ∃ e ∈ R, k = e.1 ∧ j = (e.2.1 : Int) ∧ e.2.2 = r := by
  intro R
  induction R with
  | nil => intro h; cases h
  | cons e l ih =>
    intro h
    have h : (if k = e.1 ∧ j = (e.2.1 : Int) then some e.2.2 else lkR l k j) = some r := h
    by_cases c : k = e.1 ∧ j = (e.2.1 : Int)
    · rw [if_pos c] at h
      injection h with h
      exact ⟨e, List.mem_cons_self .., c.1, c.2, h⟩
    · rw [if_neg c] at h
      obtain ⟨e', he, q⟩ := ih h
      exact ⟨e', List.mem_cons_of_mem _ he, q⟩
theorem u0_v {k : Nat} {j : Int} (h : ∀ e ∈ VF0, ¬ (k = e.1 ∧ j = (e.2.1 : Int))) : gV U0 k j = 0 := by
  have q := lkV_ne h
  show (match lkV VF0 k j with
    | some x => x
    | none => match lkK LF0 k with
      | some _ => 0
      | none => gV e0 k j) = 0
  rw [q]
  cases lkK LF0 k <;> rfl
theorem u0_r {k r : Nat} {j : Int} (h : gR U0 k j = some r) : lkR RF0 k j = some r := by
  have h : (match lkR RF0 k j with
    | some x => some x
    | none => match lkK LF0 k with
      | some _ => none
      | none => gR e0 k j) = some r := h
  cases e : lkR RF0 k j with
  | some x =>
    rw [e] at h
    exact h
  | none =>
    rw [e] at h
    cases g : lkK LF0 k with
    | some d =>
      rw [g] at h
      cases h
    | none =>
      rw [g] at h
      cases h
theorem u0_keys : ∀ e ∈ VF0, e.1 = 100 ∧ (e.2.1 = 12 ∨ e.2.1 = 14 ∨ e.2.1 = 32) ∨ e.1 = 140 ∧ (e.2.1 = 8 ∨ e.2.1 = 10) ∨ e.1 = 144 ∧ e.2.1 = 0 ∨ e.1 = 0 ∧ (e.2.1 = 18 ∨ e.2.1 = 57 ∨ e.2.1 = 61) ∨ e.1 = 31 ∨ e.1 = 32 ∨ e.1 = 33 ∨ e.1 = 52 ∨ e.1 = 53 ∨ e.1 = 3 ∧ (e.2.1 = 4 ∨ e.2.1 = 6) := by decide +kernel
/-- all is nought, but for a few -/
theorem u0_z {k : Nat} {j : Int} (h : ¬ (k = 100 ∧ (j = 12 ∨ j = 14 ∨ j = 32) ∨ k = 140 ∧ (j = 8 ∨ j = 10) ∨ k = 0 ∧ (j = 18 ∨ j = 57 ∨ j = 61) ∨ k = 144 ∨ k = 31 ∨ k = 32 ∨ k = 33 ∨ k = 52 ∨ k = 53 ∨ k = 3 ∧ (j = 4 ∨ j = 6))) : gV U0 k j = 0 := u0_v (fun e he c => by
  have q := u0_keys e he
  obtain ⟨c1, c2⟩ := c
  omega)
theorem u0_sok : SOK U0 := ⟨by decide +kernel, by decide +kernel⟩
theorem u0_ref : ∀ e ∈ RF0, (lkK LF0 e.2.2).isSome = true ∧ (e.2.2 = 145 → e.1 = 144 ∧ e.2.1 = 1) ∧ e.2.2 ≠ 155 ∧ e.2.2 ≠ 165 := by decide +kernel
theorem u0_lv {k : Nat} (h : (lkK LF0 k).isSome = true) : gK U0 k ≠ none := by
  obtain ⟨d, hd⟩ := Option.isSome_iff_exists.mp h
  show (match lkK LF0 k with
    | some d => some d
    | none => gK e0 k) ≠ none
  rw [hd]
  exact fun z => by cases z
theorem u0_tid : TID U0 := by
  refine ⟨fun k hk => ?_, fun k j r hk hr => ?_, ?_⟩
  · by_cases h : k < 800
    · exact Or.inl h
    · exact absurd (mw_ge u0_all (by omega)) hk
  · obtain ⟨e, he, c1, c2, c3⟩ := lkR_mem (u0_r hr)
    have q := u0_ref e he
    rw [c3] at q
    refine ⟨u0_lv q.1, fun y => ?_, fun y => absurd y q.2.2.1, fun y => absurd y q.2.2.2⟩
    have g := q.2.1 y
    exact ⟨c1.trans g.1, by rw [c2, g.2]; rfl⟩
  · have q : ∀ q : Nat, q < 2 → ∀ j : Nat, j < 6 → gK U0 (150 + 10 * q + j) = none ∧ gK U0 (324 + 6 * q + j) = none := by decide +kernel
    exact fun a b _ j hj => q a b j hj
theorem u0_145 : ∀ e ∈ RF0, e.1 ≠ 145 := by decide +kernel
theorem u0_con : ConR U0 := ⟨by decide +kernel, by decide +kernel, by decide +kernel, by decide +kernel, by decide +kernel⟩
theorem u0_34 : gV U0 3 4 = -1 := by decide +kernel
theorem u0_36 : gV U0 3 6 = 2 := by decide +kernel
theorem u0_st : StR U0 140 300 144 145 (gV U0 3) := by
  have z3 : ∀ j, j ≠ 4 → j ≠ 6 → gV U0 3 j = 0 := fun j a b => u0_z (by omega)
  have zk : ∀ (k : Nat) j, (300 ≤ k ∧ k < 400) ∨ (141 ≤ k ∧ k ≤ 143) → gV U0 k j = 0 := fun k j h => u0_z (by omega)
  have h8 : gV U0 140 8 = 2 := by decide +kernel
  have h10 : gV U0 140 10 = -1 := by decide +kernel
  have z140 : ∀ j, j ≠ 8 → j ≠ 10 → gV U0 140 j = 0 := fun j a b => u0_z (by omega)
  refine ⟨⟨?_, fun j a b => ?_, fun j a b => ⟨?_, ?_, ?_, ?_⟩⟩, ⟨?_, ?_, ?_, fun j a b => ?_, fun j a b => ⟨?_, ?_, ?_, ?_⟩, fun j a b => ?_, fun i j a b => ?_⟩, ⟨⟨?_, ?_⟩, ⟨?_, ?_⟩, ⟨?_, ?_⟩, ?_, ?_, ?_, fun j a b => ⟨⟨?_, ?_⟩, ?_, ?_⟩, fun j a b => ?_, fun j a b => ?_⟩, ⟨?_, ?_, ⟨2, ?_, by decide, by decide, ?_, fun q _ => ?_⟩, ?_, ?_, ?_, ?_⟩⟩
  · rw [zk _ _ (by omega)]; exact (z3 _ (by omega) (by omega)).symm
  · rw [zk _ _ (by omega)]; exact (z3 _ (by omega) (by omega)).symm
  · rw [zk _ _ (by omega)]; exact (z3 _ (by omega) (by omega)).symm
  · rw [zk _ _ (by omega)]; exact (z3 _ (by omega) (by omega)).symm
  · rw [zk _ _ (by omega)]; exact (z3 _ (by omega) (by omega)).symm
  · rw [zk _ _ (by omega)]; exact (z3 _ (by omega) (by omega)).symm
  · dsimp only; rw [z3 _ (by omega) (by omega)]; decide
  · have e : gV U0 3 (5 + 1) = 2 := u0_36
    dsimp only; rw [e]; decide
  · dsimp only; rw [z3 _ (by omega) (by omega)]; decide
  · dsimp only; rw [z3 _ (by omega) (by omega)]; decide
  · dsimp only; rw [z3 _ (by omega) (by omega)]; decide
  · dsimp only; rw [z3 _ (by omega) (by omega)]; decide
  · dsimp only; rw [z3 _ (by omega) (by omega)]; decide
  · dsimp only; rw [z3 _ (by omega) (by omega)]; decide
  · rw [z3 0 (by decide) (by decide)] at b; omega
  · rw [z3 0 (by decide) (by decide)] at b; omega
  · rw [z140 _ (by decide) (by decide), z3 _ (by decide) (by decide)]
  · rw [z3 _ (by decide) (by decide)]; decide
  · rw [z140 _ (by decide) (by decide), z3 _ (by decide) (by decide)]
  · rw [z3 _ (by decide) (by decide)]; decide
  · rw [z140 _ (by decide) (by decide), z3 _ (by decide) (by decide)]
  · rw [z3 _ (by decide) (by decide)]; decide
  · rw [h8, u0_36]
  · rw [z140 _ (by decide) (by decide), z3 _ (by decide) (by decide)]
  · rw [h10, u0_34]
  · rw [zk _ _ (by omega), z3 _ (by omega) (by omega)]
  · rw [z3 _ (by omega) (by omega)]; decide
  · rw [zk _ _ (by omega), z3 _ (by omega) (by omega)]
  · rw [z3 _ (by omega) (by omega)]; decide
  · rw [zk _ _ (by omega), z3 _ (by omega) (by omega)]
  · rw [z3 2 (by decide) (by decide)] at b; omega
  · decide +kernel
  · decide +kernel
  · decide +kernel
  · rw [z3 _ (by decide) (by decide)]; decide
  · cases h : gR U0 145 q with
    | none => rfl
    | some r =>
      obtain ⟨e, he, c1, _⟩ := lkR_mem (u0_r h)
      exact absurd c1.symm (u0_145 e he)
  · rw [z3 3 (by decide) (by decide)]; decide +kernel
  · rw [z3 3 (by decide) (by decide)]; decide
  · rw [z3 3 (by decide) (by decide)]; decide
  · refine ⟨?_, ?_, fun q a b => ?_⟩
    · rw [u0_34]; decide
    · rw [u0_34, z3 3 (by decide) (by decide)]; decide
    rw [z3 3 (by decide) (by decide)] at b
    omega
theorem u0_und : UndR U0 := by
  have z8 : gV U0 0 8 = 0 := u0_z (by decide)
  refine ⟨⟨?_, ?_, ?_⟩, fun q a b => ⟨?_, ?_, ?_⟩, by decide +kernel, fun q => q, fun q a => ⟨a, ?_⟩, fun _ _ _ _ e => e, fun q a => ?_⟩
  · rw [z8]; exact u0_z (by decide)
  · rw [z8]; decide
  · rw [z8]; decide
  · rw [u0_z (by omega), u0_z (by omega)]
  · rw [u0_z (by omega)]; decide
  · rw [u0_z (by omega)]; decide
  · have h : ∀ q : Nat, q < 16 → gR U0 104 q = some (336 + 6 * q) := by decide +kernel
    exact h q a
  · rw [z8] at a; omega
theorem rel0 : REL U0 0 := by
  refine ⟨u0_sok, u0_st, Or.inl ⟨u0_z (by decide), by decide +kernel⟩, Or.inl ⟨u0_z (by decide), by decide +kernel⟩, u0_con, u0_und, ⟨⟨?_, ?_, ?_⟩, fun q a b => ⟨?_, ?_, ?_⟩, ⟨?_, ?_, ?_⟩, fun q a b => ⟨?_, ?_, ?_⟩, ⟨?_, ?_, ?_⟩, ⟨?_, ?_, ?_⟩, ⟨?_, ?_, ?_⟩, ?_, fun q a b => ?_⟩, ⟨⟨?_, ?_, ?_⟩, fun j a b => ⟨?_, ?_⟩, fun j a b => ⟨?_, ?_⟩, fun j a b => ?_⟩, u0_tid⟩
  · rw [u0_z (by omega), u0_z (by omega)]
  · rw [u0_z (by omega)]; decide
  · rw [u0_z (by omega)]; decide
  · rw [u0_z (by omega), u0_z (by omega)]
  · rw [u0_z (by omega)]; decide
  · rw [u0_z (by omega)]; decide
  · rw [u0_z (by omega), u0_z (by omega)]
  · rw [u0_z (by omega)]; decide
  · rw [u0_z (by omega)]; decide
  · rw [u0_z (by omega)]; decide
  · rw [u0_z (by omega)]; decide
  · rw [u0_z (k := 12) (by omega), u0_z (by omega)]; decide
  · decide +kernel
  · decide +kernel
  · decide +kernel
  · rw [u0_z (by omega), u0_z (by omega)]
  · rw [u0_z (by omega)]; decide
  · rw [u0_z (by omega)]; decide
  · decide +kernel
  · decide +kernel
  · decide +kernel
  · exact u0_z (by omega)
  · exact u0_z (by omega)
  · decide +kernel
  · decide +kernel
  · decide +kernel
  · rw [u0_z (by omega)]; decide
  · rw [u0_z (by omega)]; decide
  · rw [u0_z (by omega)]; decide
  · rw [u0_z (by omega)]; decide
  · have e : gV U0 0 61 = -1 := by decide +kernel
    rw [e] at b
    omega
/-- both constructors come to where the two stand beside one another -/
theorem pro_inv : PRO INV := fun w hw => by
  have M0 : MM e0 (fun k => k) w [] [] [] := ⟨⟨⟨fun k h => absurd rfl h, fun k h => absurd rfl h, fun k _ h => absurd rfl h, fun k _ h => absurd rfl h, fun k _ _ h => absurd rfl h, fun k _ h => absurd rfl h⟩, fun k _ _ h => absurd rfl h⟩, ⟨fun e he => (by cases he), fun e he => (by cases he)⟩⟩
  unfold wp_L_law
  refine mm_O M0 100 (by decide) rfl (by decide) (fun σ1 w1 M1 s1 => ⟨300, 6000, by decide, ?_⟩)
  refine x0_ini M1 rfl (fun σ2 w2 M2 e2 => ?_)
  refine mm_O M2 0 (by decide) (by decide +kernel) (by decide) (fun σ3 w3 M3 s3 => ⟨40, 25000, by decide, ?_⟩)
  refine x5_ini M3 rfl (fun σ4 w4 M4 e4 e5 => ?_)
  exact ⟨σ4, U0, M4.1.1, e5.trans ((s3 100 (by decide)).trans e2), e4, ⟨by decide, by decide⟩, by decide, by decide, rel0⟩
