/-! THE PLAIN LAW: constructors, piece by piece -/
set_option maxRecDepth 100000
section CTOR
variable {w w' u u' u0 : Wd} {σ : Nat → Nat} {a b k p T s t : Nat} {d : Kd} {i j x n : Int} {ci bc bs : Nat} {Q : Wd → Prop} {L : List (Nat × Kd)} {R : List (Nat × Nat × Nat)} {V : List (Nat × Nat × Int)}
theorem mw_tb {y : Nat} (h : y < a + 1 ∨ a + 5 < y) : gK (MW u0 (tbL a L) R V) y = gK (MW u0 L R V) y := (mw_tl (by omega)).trans ((mw_tl (by omega)).trans ((mw_tl (by omega)).trans ((mw_tl (by omega)).trans (mw_tl (by omega)))))
theorem MM.same (M : MM u0 σ w L R V) (hK : ∀ y, gK w' y = gK w y) (hV : ∀ y j, gV w' y j = gV w y j) (hR : ∀ y j, gR w' y j = gR w y j) : MM u0 σ w' L R V := by
  obtain ⟨⟨⟨r1, r2, r3, r4, r5, r6⟩, c⟩, W⟩ := M
  exact ⟨⟨⟨r1, fun y hy => (hK _).trans (r2 y hy), fun y i hy => (hV _ _).trans (r3 y i hy), fun y i hy => (hR _ _).trans (r4 y i hy), r5, r6⟩, c⟩, W⟩
def stL (s t : Nat) (L : List (Nat × Kd)) : List (Nat × Kd) := (s + 5, .inr (4, 2)) :: (s + 4, .inl 18) :: (s + 3, .inr (0, 24)) :: (s + 2, .inr (0, 6)) :: (s + 1, .inr (0, 6)) :: tbL t ((t, .inl 3) :: L)
def stR (s t : Nat) (R : List (Nat × Nat × Nat)) : List (Nat × Nat × Nat) := (s, 4, s + 4) :: (s + 4, 1, s + 5) :: (s, 3, s + 3) :: (s, 2, s + 2) :: (s, 1, s + 1) :: (s, 0, t) :: tbR t R
def stV (s : Nat) (V : List (Nat × Nat × Int)) : List (Nat × Nat × Int) := (s, 10, -1) :: (s, 8, 2) :: (s + 4, 0, 0) :: V
/-- a state -/
theorem x1_ini (M : MM u0 σ w L R V) (hT : σ s = T) (hst : s + 5 < t ∧ t + 5 < 800) (hp : gK (MW u0 L R V) s = some (.inl 2)) (hd : ∀ y, (s < y ∧ y ≤ s + 5) ∨ (t ≤ y ∧ y ≤ t + 5) → gK (MW u0 L R V) y = none) (hb : 11 ≤ bc ∧ 119 ≤ bs) (h : ∀ σ' w', MM u0 σ' w' (stL s t L) (stR s t R) (stV s V) → (∀ y, ¬ ((s < y ∧ y ≤ s + 5) ∨ (t ≤ y ∧ y ≤ t + 5)) → σ' y = σ y) → Q w') : wp_X1_init T bc bs w Q := by
  have t24 : Int.toNat 24 = 24 := rfl
  have t6 : Int.toNat 6 = 6 := rfl
  have n3 : nfA 3 = 6 := rfl
  have n18 : nfA 18 = 3 := rfl
  unfold wp_X1_init
  refine mm_O M t (by omega) (hd t (by omega)) ⟨by omega, by omega⟩ (fun σ1 w1 M1 s1 => ?_)
  refine ⟨5, 72, ⟨by omega, by omega⟩, ?_⟩
  refine x2_ini M1 rfl (by omega) mw_hd (fun j a b => (mw_tl (by omega)).trans (hd _ (by omega))) ⟨Nat.le_refl _, Nat.le_refl _⟩ (fun σ2 w2 M2 s2 => ?_)
  have e2 : σ2 s = T := (s2 s (by omega)).trans ((s1 s (by omega)).trans hT)
  have p2 : gK (MW u0 (tbL t ((t, .inl 3) :: L)) (tbR t R) V) s = some (.inl 2) := (mw_tb (by omega)).trans ((mw_tl (by omega)).trans hp)
  rw [← s2 t (by omega)]
  refine mm_pfR M2 e2 p2 (kd_ne ((mw_tb (by omega)).trans mw_hd)) (fun w3 M3 => ?_)
  refine mm_AR M3 e2 p2 (s + 1) (by omega) ((mw_tb (by omega)).trans ((mw_tl (by omega)).trans (hd _ (by omega)))) ⟨by decide, by decide, by omega, by omega⟩ (fun σ4 w4 M4 s4 => ?_)
  have e4 : σ4 s = T := (s4 s (by omega)).trans e2
  have p4 := (mw_tl (u0 := u0) (d := .inr (0, Int.toNat 6)) (L := tbL t ((t, .inl 3) :: L)) (R := tbR t R) (V := V) (a := s + 1) (by omega : s ≠ s + 1)).trans p2
  refine mm_AR M4 e4 p4 (s + 2) (by omega) ((mw_tl (by omega)).trans ((mw_tb (by omega)).trans ((mw_tl (by omega)).trans (hd _ (by omega))))) ⟨by decide, by decide, by omega, by omega⟩ (fun σ5 w5 M5 s5 => ?_)
  have e5 : σ5 s = T := (s5 s (by omega)).trans e4
  refine mm_AR M5 e5 ((mw_tl (by omega)).trans p4) (s + 3) (by omega) ((mw_tl (by omega)).trans ((mw_tl (by omega)).trans ((mw_tb (by omega)).trans ((mw_tl (by omega)).trans (hd _ (by omega)))))) ⟨by decide, by decide, by omega, by omega⟩ (fun σ6 w6 M6 s6 => ?_)
  have e6 : σ6 s = T := (s6 s (by omega)).trans e5
  refine mm_O M6 (s + 4) (by omega) ((mw_tl (by omega)).trans ((mw_tl (by omega)).trans ((mw_tl (by omega)).trans ((mw_tb (by omega)).trans ((mw_tl (by omega)).trans (hd _ (by omega))))))) ⟨by omega, by omega⟩ (fun σ7 w7 M7 s7 => ?_)
  have e7 : σ7 s = T := (s7 s (by omega)).trans e6
  refine ⟨1, 2, ⟨by omega, by omega⟩, ?_⟩
  unfold wp_J2_init wp_J1_init wp_J0_init
  refine mm_pfI M7 rfl mw_hd (fun w8 M8 => ?_)
  refine s_ckI ⟨by decide, by decide⟩ (s_br (fun y => absurd y (by decide)) (fun _ => ?_))
  refine mm_QR M8 rfl mw_hd (s + 5) (by omega) ((mw_tl (by omega)).trans ((mw_tl (by omega)).trans ((mw_tl (by omega)).trans ((mw_tl (by omega)).trans ((mw_tb (by omega)).trans ((mw_tl (by omega)).trans (hd _ (by omega)))))))) ⟨by decide, by decide, by decide, by decide⟩ (fun σ9 w9 M9 s9 => ?_)
  have e9 : σ9 s = T := (s9 s (by omega)).trans e7
  have p9 := ((mw_tl (u0 := u0) (L := (s + 4, .inl 18) :: (s + 3, .inr (0, Int.toNat 24)) :: (s + 2, .inr (0, Int.toNat 6)) :: (s + 1, .inr (0, Int.toNat 6)) :: tbL t ((t, .inl 3) :: L)) (R := R) (V := V) (d := .inr (4, Int.toNat 2)) (by omega : s ≠ s + 5)).trans ((mw_tl (by omega)).trans ((mw_tl (by omega)).trans ((mw_tl (by omega)).trans p4))))
  rw [← s9 (s + 4) (by omega)]
  refine mm_pfR M9 e9 p9 (kd_ne ((mw_tl (by omega)).trans mw_hd)) (fun w10 M10 => ?_)
  refine mm_pfI M10 e9 p9 (fun w11 M11 => mm_pfI M11 e9 p9 (fun w12 M12 => ?_))
  exact h σ9 w12 M12 (fun y hy => (s9 y (by omega)).trans ((s7 y (by omega)).trans ((s6 y (by omega)).trans ((s5 y (by omega)).trans ((s4 y (by omega)).trans ((s2 y (by omega)).trans (s1 y (by omega))))))))
theorem x4_ini (hk : gK w k = some (.inl 5)) (h0 : ∀ j, gR w k j = none) (h : ∀ w', (∀ y, gK w' y = gK w y) → (∀ y j, gV w' y j = gV w y j) → (∀ y j, gR w' y j = gR w y j) → Q w') : wp_X4_init k w Q := by
  unfold wp_X4_init wp_J4_init wp_J3_init_2
  refine ⟨Or.inl hk, fun o2 => ⟨Or.inl hk, fun o4 => ⟨Or.inl hk, s_ckI ⟨by decide, by decide⟩ (s_br (fun _ => ⟨Or.inl hk, ⟨Or.inl hk, ⟨Or.inl hk, s_ckI ⟨by decide, by decide⟩ (s_br (fun y => absurd rfl y) (fun _ => ⟨Or.inl hk, ?_⟩))⟩⟩⟩) (fun y => absurd rfl y))⟩⟩⟩
  refine h _ (fun _ => rfl) (fun _ _ => rfl) (fun y j => ?_)
  rw [gR_sR]
  by_cases c2 : y = k ∧ j = ((2 : Nat) : Int)
  · rw [if_pos c2, c2.1, h0]
  rw [if_neg c2, gR_sR]
  by_cases c0 : y = k ∧ j = ((0 : Nat) : Int)
  · rw [if_pos c0, c0.1, h0]
  rw [if_neg c0, gR_sR]
  by_cases c3 : y = k ∧ j = ((3 : Nat) : Int)
  · rw [if_pos c3, c3.1, h0]
  rw [if_neg c3, gR_sR]
  by_cases c1 : y = k ∧ j = ((1 : Nat) : Int)
  · rw [if_pos c1, c1.1, h0]
  rw [if_neg c1, gR_sR, if_neg c2, gR_sR, if_neg c1, gR_sR, if_neg c0]
/-- the setting -/
theorem x3_ini (M : MM u0 σ w L R V) (hT : σ 190 = T) (hp : gK (MW u0 L R V) 190 = some (.inl 4)) (h2 : gK (MW u0 L R V) 192 = none) (h1 : gK (MW u0 L R V) 191 = none) (hb : 2 ≤ bc ∧ 22 ≤ bs) (h : ∀ σ' w', MM u0 σ' w' ((191, .inr (1, 16)) :: (192, .inl 5) :: L) ((190, 1, 191) :: (190, 0, 192) :: R) V → (∀ y, y ≠ 191 → y ≠ 192 → σ' y = σ y) → Q w') : wp_X3_init T bc bs w Q := by
  have t16 : Int.toNat 16 = 16 := rfl
  have n5 : nfA 5 = 6 := rfl
  unfold wp_X3_init
  refine ⟨⟨by omega, by omega⟩, fun k _ hk => ?_⟩
  refine x4_ini (by rw [gK_nK, if_pos rfl]) (fun j => by rw [gR_nK, if_pos rfl]) (fun w2 q1 q2 q3 => ?_)
  have M2 := (M.new (d := .inl 5) (by decide) h2 hk).same q1 q2 q3
  have e2 : upK σ 192 k 190 = T := (upK_ne (by decide)).trans hT
  have ek : k = upK σ 192 k 192 := upK_at.symm
  have p2 : gK (MW u0 ((192, .inl 5) :: L) R V) 190 = some (.inl 4) := (mw_tl (by decide)).trans hp
  have s2 : ∀ y, y ≠ 192 → upK σ 192 k y = σ y := fun y hy => upK_ne hy
  generalize upK σ 192 k = σ2 at *
  rw [ek]
  refine mm_pfR M2 e2 p2 (kd_ne mw_hd) (fun w3 M3 => ?_)
  refine mm_AR M3 e2 p2 191 (by decide) ((mw_tl (by decide)).trans h1) ⟨by decide, by decide, by omega, by omega⟩ (fun σ4 w4 M4 s4 => ?_)
  exact h σ4 w4 M4 (fun y a b => (s4 y a).trans (s2 y b))
/-! the tables of what can be undone, of what was ahead -/
def uqL : Nat → List (Nat × Kd) → List (Nat × Kd)
  | 0, L => L
  | i + 1, L => tbL (432 + 6 * i) ((432 + 6 * i, .inl 3) :: tbL (336 + 6 * i) ((336 + 6 * i, .inl 3) :: uqL i L))
def uqR : Nat → List (Nat × Nat × Nat) → List (Nat × Nat × Nat)
  | 0, R => R
  | i + 1, R => (105, i, 432 + 6 * i) :: tbR (432 + 6 * i) ((104, i, 336 + 6 * i) :: tbR (336 + 6 * i) (uqR i R))
theorem un_lk {y : Nat} : ∀ {i : Nat}, y < 336 ∨ (336 + 6 * i ≤ y ∧ y < 432) ∨ 432 + 6 * i ≤ y → gK (MW u0 (uqL i L) R V) y = gK (MW u0 L R V) y := by
  intro i
  induction i with
  | zero => intro _; rfl
  | succ i ih =>
    intro h
    exact (mw_tb (by omega)).trans ((mw_tl (by omega)).trans ((mw_tb (by omega)).trans ((mw_tl (by omega)).trans (ih (by omega)))))
theorem lkR_ne {e : Nat × Nat × Nat} {l : List (Nat × Nat × Nat)} {y : Nat} (h : y ≠ e.1) : lkR (e :: l) y j = lkR l y j := if_neg (fun z => h z.1)
theorem tb_rf {y : Nat} (h : y ≠ a) : lkR (tbR a R) y j = lkR R y j := (lkR_ne h).trans ((lkR_ne h).trans ((lkR_ne h).trans ((lkR_ne h).trans (lkR_ne h))))
theorem un_rf {y : Nat} (h : y < 336) (h4 : y ≠ 104) (h5 : y ≠ 105) : ∀ {i : Nat}, lkR (uqR i R) y j = lkR R y j := by
  intro i
  induction i with
  | zero => rfl
  | succ i ih =>
    show lkR ((105, i, 432 + 6 * i) :: tbR (432 + 6 * i) ((104, i, 336 + 6 * i) :: tbR (336 + 6 * i) (uqR i R))) y j = _
    rw [lkR, if_neg (fun z => h5 z.1), tb_rf (by omega), lkR, if_neg (fun z => h4 z.1), tb_rf (by omega)]
    exact ih
theorem mw_rf {R' : List (Nat × Nat × Nat)} {L' : List (Nat × Kd)} {y r : Nat} (h : lkR R y j = some r) (e : lkR R' y j = lkR R y j) : gR (MW u0 L' R' V) y j = some r := by
  rw [h] at e
  show (match lkR R' y j with
    | some x => some x
    | none => match lkK L' y with
      | some _ => none
      | none => gR u0 y j) = _
  rw [e]
theorem x0_232 (h0 : gK (MW u0 L R V) 100 = some (.inl 1)) (h4 : gK (MW u0 L R V) 104 = some (.inr (6, 16))) (h5 : gK (MW u0 L R V) 105 = some (.inr (6, 16))) (r4 : lkR R 100 4 = some 104) (r5 : lkR R 100 5 = some 105) (hd : ∀ y, 336 ≤ y → y < 528 → gK (MW u0 L R V) y = none) (h : ∀ σ' w', MM u0 σ' w' (uqL 16 L) (uqR 16 R) V → (∀ y, y < 336 → σ' y = σ y) → Q w') : ∀ (m i fuel bc bs : Nat) (w : Wd) (σ1 : Nat → Nat), i + m = 16 → m < fuel → MM u0 σ1 w (uqL i L) (uqR i R) V → (∀ y, y < 336 → σ1 y = σ y) → σ 100 = T → 12 * m ≤ bc → 156 * m ≤ bs → wp_X0_init_232 Q T fuel (i : Int) bc bs w := by
  have n3 : nfA 3 = 6 := rfl
  intro m
  induction m with
  | zero =>
    intro i fuel bc bs w σ1 hi hf M hs hT _ _
    obtain ⟨f, rfl⟩ : ∃ f, fuel = f + 1 := ⟨fuel - 1, by omega⟩
    have e : i = 16 := by omega
    subst e
    exact s_ckI ⟨by decide, by decide⟩ (s_br (fun _ => h σ1 w M hs) (fun y => absurd (by decide) y))
  | succ m ih =>
    intro i fuel bc bs w σ1 hi hf M hs hT hbc hbs
    obtain ⟨f, rfl⟩ : ∃ f, fuel = f + 1 := ⟨fuel - 1, by omega⟩
    refine s_ckI ⟨by omega, by omega⟩ (s_br (fun y => absurd y (by omega)) (fun _ => ?_))
    have T1 : σ1 100 = T := (hs 100 (by decide)).trans hT
    refine mm_gfA M T1 ((un_lk (by omega)).trans h0) (mw_rf (R := R) r4 (un_rf (by decide) (by decide) (by decide))) ?_
    refine mm_O M (336 + 6 * i) (by omega) ((un_lk (by omega)).trans (hd _ (by omega) (by omega))) ⟨by omega, by omega⟩ (fun σ2 w2 M2 s2 => ⟨5, 72, ⟨by omega, by omega⟩, ?_⟩)
    refine x2_ini M2 rfl (by omega) mw_hd (fun j a b => (mw_tl (by omega)).trans ((un_lk (by omega)).trans (hd _ (by omega) (by omega)))) ⟨Nat.le_refl _, Nat.le_refl _⟩ (fun σ3 w3 M3 s3 => ?_)
    have g3 : ∀ y, y < 336 ∨ (336 + 6 * (i + 1) ≤ y ∧ y < 432) ∨ 432 + 6 * i ≤ y → gK (MW u0 (tbL (336 + 6 * i) ((336 + 6 * i, .inl 3) :: uqL i L)) (tbR (336 + 6 * i) (uqR i R)) V) y = gK (MW u0 L R V) y := fun y hy => (mw_tb (by omega)).trans ((mw_tl (by omega)).trans (un_lk (by omega)))
    rw [← s3 (336 + 6 * i) (by omega), ← (s3 104 (by omega)).trans (s2 104 (by omega))]
    refine mm_asQ M3 i rfl ((g3 104 (by omega)).trans h4) ⟨by omega, by decide⟩ ((mw_tb (by omega)).trans mw_hd) rfl (fun w4 M4 => ?_)
    have T3 : σ3 100 = T := (s3 100 (by omega)).trans ((s2 100 (by omega)).trans T1)
    refine mm_gfA M4 T3 ((g3 100 (by omega)).trans h0) (mw_rf (R := R) r5 ?_) ?_
    · refine (lkR_ne (by show (100 : Nat) ≠ 104; decide)).trans ((tb_rf (by omega)).trans ?_)
      exact un_rf (by decide) (by decide) (by decide)
    refine mm_O M4 (432 + 6 * i) (by omega) ((g3 _ (by omega)).trans (hd _ (by omega) (by omega))) ⟨by omega, by omega⟩ (fun σ5 w5 M5 s5 => ⟨5, 72, ⟨by omega, by omega⟩, ?_⟩)
    refine x2_ini M5 rfl (by omega) mw_hd (fun j a b => (mw_tl (by omega)).trans ((g3 _ (by omega)).trans (hd _ (by omega) (by omega)))) ⟨Nat.le_refl _, Nat.le_refl _⟩ (fun σ6 w6 M6 s6 => ?_)
    rw [← s6 (432 + 6 * i) (by omega), ← (s6 105 (by omega)).trans (s5 105 (by omega))]
    refine mm_asQ M6 i rfl ((mw_tb (by omega)).trans ((mw_tl (by omega)).trans ((g3 105 (by omega)).trans h5))) ⟨by omega, by decide⟩ ((mw_tb (by omega)).trans mw_hd) rfl (fun w7 M7 => ?_)
    exact ih (i + 1) f _ _ w7 σ6 (by omega) (by omega) M7 (fun y hy => (s6 y (by omega)).trans ((s5 y (by omega)).trans ((s3 y (by omega)).trans ((s2 y (by omega)).trans (hs y hy))))) hT (by omega) (by omega)
end CTOR
