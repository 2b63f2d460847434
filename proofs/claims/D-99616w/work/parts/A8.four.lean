/-! THE PLAIN LAW: pull, snap, wed, pass, undo -/
set_option maxRecDepth 100000
def UOK (s : US) : Prop := (∀ q : Nat, (q : Int) < s.2.1 → TabOK (s.2.2.1 q) (s.1 0) (s.1 1) ∧ s.2.2.1 q 1 = s.1 6 ∧ s.2.2.1 q 2 = s.1 7) ∧ ∀ q : Int, 0 ≤ q → q < 16 → 0 ≤ s.2.2.2 q ∧ s.2.2.2 q ≤ 3
def US0 (w : Wd) : US := (gV w 3, gV w 0 8, (fun q j => gV w 6 (75 * (q : Int) + j)), gV w 7)
section FOUR
variable {w0 w w' : Wd} {s : US} {i i' x a b c t r : Int} {ρ' : Int → Int} {K : Int → Int → Wd → Prop}
theorem REL.cu (R : REL w i) : CU w w (US0 w) := by
  obtain ⟨u1, u2, u3, π, u4, u5, u6⟩ := R.2.2.2.2.2.1
  exact ⟨R.co.cx, ⟨u1.1, u1.2⟩, fun q a b => (u2 q a b).1, π, u4, u5, fun q a => (u6 q a).1⟩
theorem REL.tu (R : REL w i) : TU w w (US0 w) := by
  obtain ⟨u1, u2, u3, π, u4, u5, u6⟩ := R.2.2.2.2.2.1
  have C := R.co
  exact ⟨⟨C.1, rfl, C.rg, C.2.2.2.2.2.2.1, C.2.2.2.2.2.2.2⟩, C.ok, ⟨rfl, u1.2⟩, fun q _ _ => rfl, fun q _ j _ _ => rfl⟩
theorem REL.uok (R : REL w i) : UOK (US0 w) := by
  obtain ⟨u1, u2, u3, π, u4, u5, u6⟩ := R.2.2.2.2.2.1
  exact ⟨fun q a => (u6 q a).2, fun q a b => (u2 q a b).2⟩
theorem TU.fr (T : TU w0 w s) (S : SOK w') (hV : ∀ k j, k = 3 ∨ (k = 0 ∧ (j = 20 ∨ j = 8)) ∨ k = 7 ∨ (k = 6 ∧ 0 ≤ j ∧ j < 1200) → gV w' k j = gV w k j) : TU w0 w' s := ⟨T.1.fr S (fun k j hk => hV k j (by omega)), T.2.1, T.2.2.fr (fun k j hk => hV k j (by omega))⟩
theorem CU.fr (C : CU w0 w s) (m : Sm w w') (hV : ∀ k j, (140 ≤ k ∧ k ≤ 144) ∨ (300 ≤ k ∧ k ≤ 305) ∨ 1000 ≤ k ∨ (k = 100 ∧ j = 15) ∨ k = 106 ∨ (336 ≤ k ∧ k < 432) → gV w' k j = gV w k j) : CU w0 w' s := ⟨C.1.fr m.sq (fun k j hk => hV k j (by omega)), C.2.fr (fun j => m.2 _ _) (fun k j hk => hV k j (by omega))⟩
/-- the relation, when the tables, what can be undone, what was drawn and the row have moved alike -/
theorem REL.und2 (R : REL w i) (m : Sq w w') (hV : ∀ k j, ¬ ((k = 0 ∧ j ≠ 61) ∨ (k = 100 ∧ j ≠ 32) ∨ (8 ≤ k ∧ k < 60 ∧ k ≠ 31 ∧ k ≠ 32 ∧ k ≠ 33 ∧ k ≠ 52 ∧ k ≠ 53) ∨ (106 ≤ k ∧ k < 140) ∨ (190 ≤ k ∧ k < 318) ∨ (336 ≤ k ∧ k < 1000) ∨ k = 101 ∨ k = 2 ∨ k = 3 ∨ k = 6 ∨ k = 7) → ¬ ((k = 0 ∧ j = 61) ∨ (k = 100 ∧ j = 32) ∨ (318 ≤ k ∧ k < 324) ∨ k = 60) → gV w' k j = gV w k j) (hs : ScaR w' i') (hD : DraR w') (C : CU w w' s) (T : TU w w' s) (U : UOK s) : REL w' i' := by
  obtain ⟨h1, h2, h3, h4, h5, h6, h7, h8⟩ := R
  obtain ⟨u1, u2, u3, π, u4, u5, u6⟩ := h6
  obtain ⟨C, c1, c2, π2, c4, c5, c6⟩ := C
  obtain ⟨T, O, t1, t2, t3⟩ := T
  have e3 := T.2.1
  refine ⟨C.1, ?_, h3.fq (by decide) m (fun k j hk => hV k j (by omega) (by omega)), h4.fq (by decide) m (fun k j hk => hV k j (by omega) (by omega)), h5.fr (fun k j hk => hV k j (by omega) (by omega)), ?_, hs, hD, h8.2.fq m (by rw [KF h1 (k := 104) rfl]; exact fun z => by cases z) (fun q => hV 5 q (by omega) (by omega))⟩
  · rw [e3]; exact C.2.2.2.1
  · refine ⟨⟨by rw [t1.1]; exact c1.1, by rw [t1.1]; exact t1.2.1, by rw [t1.1]; exact t1.2.2⟩, fun q a b => ?_, fun q hq => (m.2.1 _ _ (by decide)).trans (u3 q hq), π2, c4, c5, fun q hq => ?_⟩
    · rw [c2 q a b, t2 q a b]
      exact ⟨rfl, U.2 q a b⟩
    · rw [t1.1] at hq
      have g := U.1 q hq
      have hn := t1.2.2
      refine ⟨(c6 q hq).fr (fun _ _ _ _ => rfl) (fun j a b => t3 q hq j a b), ?_, ?_, ?_⟩
      · rw [e3]
        exact g.1.fr C.nb.2 (fun j a b => t3 q hq j a b)
      · rw [t3 q hq 1 (by decide) (by decide), e3]; exact g.2.1
      · rw [t3 q hq 2 (by decide) (by decide), e3]; exact g.2.2
theorem REL.und (R : REL w i) (m : Sq w w') (hV : ∀ k j, ¬ Scr k j → ¬ Sca k j → ¬ (k = 3 ∧ 5 ≤ j ∧ j < 80) → ¬ (300 ≤ k ∧ k ≤ 305) → ¬ (k = 0 ∧ j = 8) → ¬ (k = 100 ∧ j = 15) → ¬ (k = 106 ∨ k = 6 ∨ k = 7) → ¬ (336 ≤ k ∧ k < 432) → gV w' k j = gV w k j) (hs : ScaR w' i') (C : CU w w' s) (T : TU w w' s) (U : UOK s) : REL w' i' := by
  have hV2 : ∀ k j, ¬ ((k = 0 ∧ j ≠ 61) ∨ (k = 100 ∧ j ≠ 32) ∨ (8 ≤ k ∧ k < 60 ∧ k ≠ 31 ∧ k ≠ 32 ∧ k ≠ 33 ∧ k ≠ 52 ∧ k ≠ 53) ∨ (106 ≤ k ∧ k < 140) ∨ (190 ≤ k ∧ k < 318) ∨ (336 ≤ k ∧ k < 1000) ∨ k = 101 ∨ k = 2 ∨ k = 3 ∨ k = 6 ∨ k = 7) → gV w' k j = gV w k j := fun k j hn => hV k j (by unfold Scr; omega) (by unfold Sca; omega) (by omega) (by omega) (by omega) (by omega) (by omega) (by omega)
  exact R.und2 m (fun k j a _ => hV2 k j a) hs (R.2.2.2.2.2.2.2.1.fr (fun k j hk => hV2 k j (by omega))) C T U
theorem UOK.ke (U : UOK s) (O : TabOK (fun j => s.1 (5 + j)) (s.1 0) (s.1 1)) (hx : 0 ≤ x ∧ x ≤ 3) (hn : 0 ≤ s.2.1 ∧ s.2.1 ≤ 16) (h : ρ' 0 = s.1 0 ∧ ρ' 1 = s.1 1 ∧ ρ' 6 = s.1 6 ∧ ρ' 7 = s.1 7) : UOK (kpS s x ρ') := by
  obtain ⟨ρ, n, U9, S9⟩ := s
  obtain ⟨g1, g2⟩ := U
  dsimp only at g1 g2 O hn h
  obtain ⟨e0, e1, e6, e7⟩ := h
  refine ⟨fun q hq => ?_, fun q a b => ?_⟩
  · show TabOK (uU n U9 (fun j => ρ (5 + j)) q) (ρ' 0) (ρ' 1) ∧ uU n U9 (fun j => ρ (5 + j)) q 1 = ρ' 6 ∧ uU n U9 (fun j => ρ (5 + j)) q 2 = ρ' 7
    have hq : (q : Int) < uN n := hq
    rw [e0, e1, e6, e7]
    unfold uU
    unfold uN at hq
    by_cases z : n = 16
    · rw [if_pos z]
      rw [if_pos z] at hq
      by_cases z2 : q = 15
      · rw [if_pos z2]; exact ⟨O, rfl, rfl⟩
      · rw [if_neg z2]; exact g1 (q + 1) (by omega)
    · rw [if_neg z]
      rw [if_neg z] at hq
      by_cases z2 : (q : Int) = n
      · rw [if_pos z2]; exact ⟨O, rfl, rfl⟩
      · rw [if_neg z2]; exact g1 q (by omega)
  · show 0 ≤ uS n S9 x q ∧ uS n S9 x q ≤ 3
    unfold uS
    by_cases z : n = 16
    · rw [if_pos z]
      by_cases z2 : q = 15
      · rw [if_pos z2]; exact hx
      · rw [if_neg z2]; exact g2 (q + 1) (by omega) (by omega)
    · rw [if_neg z]
      by_cases z2 : q = n
      · rw [if_pos z2]; exact hx
      · rw [if_neg z2]; exact g2 q a b
/-- what a step keeps -/
def SOKs (s : US) : Prop := UOK s ∧ TabOK (fun j => s.1 (5 + j)) (s.1 0) (s.1 1) ∧ (0 ≤ s.1 0 ∧ s.1 0 ≤ 6) ∧ (0 ≤ s.1 1 ∧ s.1 1 ≤ 6) ∧ 0 ≤ s.2.1 ∧ s.2.1 ≤ 16
def Fok (s : US) (p : Int × US) : Prop := -3 ≤ p.1 ∧ p.1 ≤ 1000 ∧ SOKs p.2 ∧ ∀ j, j < 5 ∨ j = 6 ∨ j = 7 ∨ 80 ≤ j → p.2.1 j = s.1 j
theorem Fok.no {v : Int} (U : SOKs s) (h : -3 ≤ v ∧ v ≤ 1000) : Fok s (v, s) := ⟨h.1, h.2, U, fun _ _ => rfl⟩
theorem Fok.ke {v : Int} (U : SOKs s) (h : -3 ≤ v ∧ v ≤ 1000) (hx : 0 ≤ x ∧ x ≤ 3) (ho : ∀ j, j < 5 ∨ j = 6 ∨ j = 7 ∨ 80 ≤ j → ρ' j = s.1 j) (O : TabOK (fun j => ρ' (5 + j)) (s.1 0) (s.1 1)) : Fok s (v, kpS s x ρ') := by
  obtain ⟨U1, U2, U3, U4, U5⟩ := U
  have e0 : (kpS s x ρ').1 0 = s.1 0 := ho 0 (by omega)
  have e1 : (kpS s x ρ').1 1 = s.1 1 := ho 1 (by omega)
  refine ⟨h.1, h.2, ⟨U1.ke U2 hx U5 ⟨ho 0 (by omega), ho 1 (by omega), ho 6 (by omega), ho 7 (by omega)⟩, ?_, ?_, ?_, ?_⟩, ho⟩
  · show TabOK _ ((kpS s x ρ').1 0) ((kpS s x ρ').1 1)
    rw [e0, e1]; exact O
  · show 0 ≤ (kpS s x ρ').1 0 ∧ (kpS s x ρ').1 0 ≤ 6
    rw [e0]; exact U3
  · show 0 ≤ (kpS s x ρ').1 1 ∧ (kpS s x ρ').1 1 ≤ 6
    rw [e1]; exact U4
  · show 0 ≤ uN s.2.1 ∧ uN s.2.1 ≤ 16
    unfold uN
    split <;> omega
theorem pulF_ok (U : SOKs s) : Fok s (pulF s t r b) := by
  have U0 := U
  obtain ⟨U1, U2, U3, U4, U5⟩ := U
  unfold pulF
  by_cases z1 : ¬ (0 ≤ t ∧ t ≤ 7) ∨ ¬ (0 ≤ r ∧ r ≤ 7)
  · rw [if_pos z1]; exact Fok.no U0 (by omega)
  · rw [if_neg z1]
    by_cases z2 : ¬ (0 ≤ b ∧ b ≤ s.1 0 - 1)
    · rw [if_pos z2]; exact Fok.no U0 (by omega)
    · rw [if_neg z2]
      by_cases z3 : ¬ ian (isr (s.1 (8 + 8 * b + r)) t) 1 = 1
      · rw [if_pos z3]; exact Fok.no U0 (by omega)
      · rw [if_neg z3]
        have g := ro_pull (t := t) (r := r) (b := b) U2 (by omega) (by omega) (by omega) (by omega)
        have nn := nNo_in (ρ := up1 s.1 (8 + 8 * b + r) (s.1 (8 + 8 * b + r) - isl 1 t)) (b := b)
        exact Fok.ke U0 (by omega) (by omega) (fun j hj => up1_ne (by omega)) (U2.p1 U3.2 (by omega) g.2)
theorem snaF_ok (U : SOKs s) : Fok s (snaF s t b) := by
  have U0 := U
  obtain ⟨U1, U2, U3, U4, U5⟩ := U
  unfold snaF
  by_cases z1 : ¬ (0 ≤ t ∧ t ≤ 7)
  · rw [if_pos z1]; exact Fok.no U0 (by omega)
  · rw [if_neg z1]
    by_cases z2 : ¬ (0 ≤ b ∧ b ≤ s.1 0 - 1)
    · rw [if_pos z2]; exact Fok.no U0 (by omega)
    · rw [if_neg z2]
      by_cases z3 : ian (isr (s.1 (56 + b)) t) 1 = 1
      · rw [if_pos z3]; exact Fok.no U0 (by omega)
      · rw [if_neg z3]
        have g := ro_snap (t := t) (b := b) U2 (by omega) (by omega) z3
        have nn := nNo_in (ρ := up1 s.1 (56 + b) (s.1 (56 + b) + isl 1 t)) (b := b)
        exact Fok.ke U0 (by omega) (by omega) (fun j hj => up1_ne (by omega)) (U2.p2 U3.2 (by omega) g.2)
theorem wedF_ok (U : SOKs s) : Fok s (wedF w0 s b x) := by
  have U0 := U
  obtain ⟨U1, U2, U3, U4, U5⟩ := U
  unfold wedF
  have n2 := laV_in (w0 := w0) (ρ := s.1) (law := s.1 4) (b := b)
  by_cases z1 : ¬ (0 ≤ b ∧ b ≤ s.1 0 - 1) ∨ ¬ (0 ≤ x ∧ x ≤ s.1 1 - 1)
  · rw [if_pos z1]; exact Fok.no U0 (by omega)
  · rw [if_neg z1]
    by_cases z2 : caW w0 s.1 b x = 0 ∨ laV w0 s.1 (s.1 4) b = 0
    · rw [if_pos z2]; exact Fok.no U0 (by omega)
    · rw [if_neg z2]
      have g := caW_1 (w0 := w0) (ρ := s.1) (b := b) (x := x) (by omega)
      exact Fok.ke U0 (by omega) (by omega) (fun j hj => by rw [up1_ne (by omega), up1_ne (by omega)]) (U2.p45 (by omega) U3.2 (by omega) U4.2 (by omega) (boS_no U3.1 g.2.1))
theorem pasF_ok (U : SOKs s) : Fok s (pasF w0 s) := by
  have U0 := U
  obtain ⟨U1, U2, U3, U4, U5⟩ := U
  have h := U2.row.1
  unfold pasF
  by_cases z1 : s.1 5 = 999
  · rw [if_pos z1]; exact Fok.no U0 (by omega)
  · rw [if_neg z1]
    exact Fok.ke U0 (by omega) (by omega) (paR_ho U3) (paR_ok U2 U3 (by omega) (fun j _ _ => loV_in.1))
theorem REL.soks (R : REL w i) : SOKs (US0 w) := ⟨R.uok, R.2.1.2.1, R.co.nb, R.co.ns, R.2.2.2.2.2.1.1.2⟩
theorem op_four (R : REL w i) {A B : (Int → Wd → Prop) → Wd → Prop} {p : Int × US} (hA : ∀ (w1 : Wd) (Q : Int → Wd → Prop), CU w w1 (US0 w) → (∀ w', FCW w1 w' → CU w w' p.2 → Q p.1 w') → A Q w1) (hB : ∀ (w1 : Wd) (Q : Int → Wd → Prop), TU w w1 (US0 w) → (∀ w', FTW w1 w' → TU w w' p.2 → Q p.1 w') → B Q w1) (hF : Fok (US0 w) p) (hK : ∀ r r2 w', r = r2 → inI r → REL w' (i + 6) → K r r2 w') : A (fun r1 w1 => cO w1 100 1 <| wp_X0_doneOr 100 r1 w1 fun r2 w2 => pfI w2 0 0 0 0 fun w3 => cO w3 0 0 <| B (fun r4 w4 => cO w4 0 0 <| wp_X5_tell 0 r4 w4 fun r5 w5 => K r2 r5 w5) w3) w := by
  obtain ⟨f1, f2, f3, f4⟩ := hF
  have sc := R.2.2.2.2.2.2.1
  refine hA w _ R.cu (fun w1 q1 C1 => ?_)
  have S1 : SOK w1 := C1.1.1
  have Fr : ∀ k j, ¬ Fc k j → gV w1 k j = gV w k j := q1.2
  refine s_cO (KF S1 rfl) ?_
  rw [x0_doneOr S1 ⟨by omega, by omega⟩]
  by_cases z : 0 ≤ p.1
  · rw [if_pos z]
    refine s_pfI (KF S1 rfl) (s_cO (KF S1 rfl) ?_)
    have T3 : TU w (sV (sV w1 100 0 0) 0 0 0) (US0 w) := R.tu.fr S1 (fun k j hk => by rw [gV_ne (by omega), gV_ne (by omega), Fr k j (by unfold Fc Ev; omega)])
    refine hB _ _ T3 (fun w4 q4 T4 => ?_)
    have S4 : SOK w4 := T4.1.1
    refine s_cO (KF S4 rfl) ?_
    rw [x5_tell S4 ⟨by omega, by omega⟩, if_pos z]
    have C4 : CU w (sV w4 0 1 0) p.2 := C1.fr (q4.1) (fun k j hk => by rw [gV_ne (by omega), q4.2 k j (by unfold Ft Ev; omega), gV_ne (by omega), gV_ne (by omega)])
    have F4 : ∀ k j, ¬ Fc k j → ¬ Ft k j → ¬ (k = 100 ∧ j = 0) → ¬ (k = 0 ∧ (j = 0 ∨ j = 1)) → gV (sV w4 0 1 0) k j = gV w k j := fun k j a1 a2 a3 a4 => by
      rw [gV_ne (by omega), q4.2 k j a2, gV_ne (by omega), gV_ne (by omega), Fr k j a1]
    refine hK _ _ _ rfl ⟨by omega, by omega⟩ (R.und (q1.1.tr q4.1.sq) (fun k j a1 a2 a3 a4 a5 a6 a7 a8 => F4 k j ?_ ?_ ?_ ?_) (sc.done ?_ gV_at (fun k j hk => F4 k j ?_ ?_ ?_ ?_)) C4 (T4.fr S4 (fun k j hk => gV_ne (by omega))) f3.1)
    · unfold Fc Ev; unfold Scr at a1; omega
    · unfold Ft Ev; unfold Scr at a1; omega
    · unfold Sca at a2; omega
    · unfold Sca at a2; unfold Scr at a1; omega
    · rw [gV_ne (by omega), q4.2 100 0 (by unfold Ft Ev; omega), gV_ne (by omega), gV_at]
    · unfold Fc Ev; omega
    · unfold Ft Ev; omega
    · omega
    · omega
  · rw [if_neg z]
    refine s_pfI (KF S1 rfl) (s_cO (KF S1 rfl) ?_)
    have T3 : TU w (sV (sV (sV w1 100 0 p.1) 101 (-p.1) (gV w1 101 (-p.1) + 1)) 0 0 0) (US0 w) := R.tu.fr S1 (fun k j hk => by rw [gV_ne (by omega), gV_ne (by omega), gV_ne (by omega), Fr k j (by unfold Fc Ev; omega)])
    refine hB _ _ T3 (fun w4 q4 T4 => ?_)
    have S4 : SOK w4 := T4.1.1
    refine s_cO (KF S4 rfl) ?_
    rw [x5_tell S4 ⟨by omega, by omega⟩, if_neg z]
    have C4 : CU w (sV (sV w4 0 1 p.1) 2 (-p.1) (gV w4 2 (-p.1) + 1)) p.2 := C1.fr (q4.1) (fun k j hk => by rw [gV_ne (by omega), gV_ne (by omega), q4.2 k j (by unfold Ft Ev; omega), gV_ne (by omega), gV_ne (by omega), gV_ne (by omega)])
    have F4 : ∀ k j, ¬ Fc k j → ¬ Ft k j → ¬ (k = 100 ∧ j = 0) → ¬ (k = 0 ∧ (j = 0 ∨ j = 1)) → ¬ (k = 101 ∧ j = -p.1) → ¬ (k = 2 ∧ j = -p.1) → gV (sV (sV w4 0 1 p.1) 2 (-p.1) (gV w4 2 (-p.1) + 1)) k j = gV w k j := fun k j a1 a2 a3 a4 a5 a6 => by
      rw [gV_ne (by omega), gV_ne (by omega), q4.2 k j a2, gV_ne (by omega), gV_ne (by omega), gV_ne (by omega), Fr k j a1]
    have v2 : gV w4 2 (-p.1) = gV w 2 (-p.1) := by
      rw [q4.2 2 _ (by unfold Ft Ev; omega), gV_ne (by omega), gV_ne (by omega), gV_ne (by omega), Fr 2 _ (by unfold Fc Ev; omega)]
    have v1 : gV w1 101 (-p.1) = gV w 101 (-p.1) := Fr 101 _ (by unfold Fc Ev; omega)
    refine hK _ _ _ rfl ⟨by omega, by omega⟩ (R.und (q1.1.tr q4.1.sq) (fun k j a1 a2 a3 a4 a5 a6 a7 a8 => F4 k j ?_ ?_ ?_ ?_ ?_ ?_) (ScaR.ref sc p.1 ⟨by omega, by omega⟩ ?_ ?_ (fun q u v => ?_) (fun q u v => ?_) (fun k j hk => F4 k j ?_ ?_ ?_ ?_ ?_ ?_)) C4 (T4.fr S4 (fun k j hk => by rw [gV_ne (by omega), gV_ne (by omega)])) f3.1)
    · unfold Fc Ev; unfold Scr at a1; omega
    · unfold Ft Ev; unfold Scr at a1; omega
    · unfold Sca at a2; omega
    · unfold Sca at a2; unfold Scr at a1; omega
    · unfold Sca at a2; omega
    · unfold Sca at a2; omega
    · rw [gV_ne (by omega), gV_ne (by omega), q4.2 100 0 (by unfold Ft Ev; omega), gV_ne (by omega), gV_ne (by omega), gV_at]
    · rw [gV_ne (by omega), gV_at]
    · by_cases y : q = -p.1
      · rw [if_pos y, y, gV_ne (by omega), gV_ne (by omega), q4.2 101 _ (by unfold Ft Ev; omega), gV_ne (by omega), gV_at, v1]
      · rw [if_neg y]
        exact F4 101 q (by unfold Fc Ev; omega) (by unfold Ft Ev; omega) (by omega) (by omega) (by omega) (by omega)
    · by_cases y : q = -p.1
      · rw [if_pos y, y, gV_at, v2]
      · rw [if_neg y]
        exact F4 2 q (by unfold Fc Ev; omega) (by unfold Ft Ev; omega) (by omega) (by omega) (by omega) (by omega)
    · unfold Fc Ev; omega
    · unfold Ft Ev; omega
    · omega
    · omega
    · omega
    · omega
theorem op_pull (R : REL w i) (h1 : inI a) (h2 : inI b) (h3 : inI c) (hK : ∀ r r2 w', r = r2 → inI r → REL w' (i + 6) → K r r2 w') : wp_X0_pull 100 a b c w fun r w1 => wp_X5_pull 0 a b c w1 fun r2 w2 => K r r2 w2 := by
  unfold wp_X0_pull wp_X5_pull
  exact s_cO (KF R.1 rfl) (op_four R (A := fun Q w => wp_X0_pullsKept 100 a b c w Q) (B := fun Q w => wp_X5_pullNow 0 a b c w Q) (p := pulF (US0 w) a b c) (fun w1 Q C hq => z0_pullsKept C h1 h2 h3 hq) (fun w1 Q C hq => y5_pullNow C h1 h2 h3 hq) (pulF_ok R.soks) hK)
theorem op_snap (R : REL w i) (h1 : inI a) (h2 : inI b) (hK : ∀ r r2 w', r = r2 → inI r → REL w' (i + 6) → K r r2 w') : wp_X0_snap 100 a b w fun r w1 => wp_X5_snap 0 a b w1 fun r2 w2 => K r r2 w2 := by
  unfold wp_X0_snap wp_X5_snap
  exact s_cO (KF R.1 rfl) (op_four R (A := fun Q w => wp_X0_snapsKept 100 a b w Q) (B := fun Q w => wp_X5_snapNow 0 a b w Q) (p := snaF (US0 w) a b) (fun w1 Q C hq => z0_snapsKept C h1 h2 hq) (fun w1 Q C hq => y5_snapNow C h1 h2 hq) (snaF_ok R.soks) hK)
theorem op_wed (R : REL w i) (h1 : inI a) (h2 : inI b) (hK : ∀ r r2 w', r = r2 → inI r → REL w' (i + 6) → K r r2 w') : wp_X0_wed 100 a b w fun r w1 => wp_X5_wed 0 a b w1 fun r2 w2 => K r r2 w2 := by
  unfold wp_X0_wed wp_X5_wed
  exact s_cO (KF R.1 rfl) (op_four R (A := fun Q w => wp_X0_wedsKept 100 a b w Q) (B := fun Q w => wp_X5_wedNow 0 a b w Q) (p := wedF w (US0 w) a b) (fun w1 Q C hq => z0_wedsKept C h1 h2 hq) (fun w1 Q C hq => y5_wedNow C h1 h2 hq) (wedF_ok R.soks) hK)
theorem op_pass (R : REL w i) (hK : ∀ r r2 w', r = r2 → inI r → REL w' (i + 6) → K r r2 w') : wp_X0_pass 100 w fun r w1 => wp_X5_pass 0 w1 fun r2 w2 => K r r2 w2 := by
  unfold wp_X0_pass wp_X5_pass
  exact s_cO (KF R.1 rfl) (op_four R (A := fun Q w => wp_X0_passesKept 100 w Q) (B := fun Q w => wp_X5_passNow 0 w Q) (p := pasF w (US0 w)) (fun w1 Q C hq => z0_passesKept C hq) (fun w1 Q C hq => y5_passNow C hq) (pasF_ok R.soks) hK)
/-- the row put back -/
def unR (ρ u : Int → Int) : Int → Int := fun j => if 5 ≤ j ∧ j < 80 then u (j - 5) else ρ j
theorem unR_in {ρ u : Int → Int} {j : Int} (h : 0 ≤ j ∧ j < 75) : unR ρ u (5 + j) = u j := by
  unfold unR
  have e : (5 : Int) + j - 5 = j := by omega
  rw [if_pos (by omega), e]
theorem unR_ou {ρ u : Int → Int} {j : Int} (h : ¬ (5 ≤ j ∧ j < 80)) : unR ρ u j = ρ j := if_neg h
theorem op_undo (R : REL w i) (hK : ∀ r r2 w', r = r2 → inI r → REL w' (i + 6) → K r r2 w') : wp_X0_undo 100 w fun r w1 => wp_X5_undo 0 w1 fun r2 w2 => K r r2 w2 := by
  have S := R.1
  have sc := R.2.2.2.2.2.2.1
  have C := R.cu
  have T := R.tu
  have U := R.soks
  obtain ⟨C, ⟨c1, c2, c3⟩, c4, π, c5, c6, c7⟩ := C
  obtain ⟨T, O, ⟨t1, t2, t3⟩, t4, t5⟩ := T
  have c1 : gV w 100 15 = gV w 0 8 := c1
  have c2 : 0 ≤ gV w 0 8 := c2
  have c3 : gV w 0 8 ≤ 16 := c3
  unfold wp_X0_undo
  by_cases z : gV w 0 8 = 0
  · unfold wp_X5_undo
    repeat' (with_reducible first | (refine s_gfI (by with_unfolding_all exact KF S rfl) (by repeat (first | exact rd_at | (apply rd_eq; omega) | (apply rd_ne; focus omega) | assumption | exact rfl)) ?_) | refine s_gfA (by with_unfolding_all exact KF S rfl) (by with_unfolding_all exact RF S rfl) ?_ | refine s_gfR (by with_unfolding_all exact KF S rfl) (by with_unfolding_all exact RF S rfl) ?_ | refine s_dO ?_ | refine s_cO (by with_unfolding_all exact KF S rfl) ?_ | (refine s_alI (by with_unfolding_all exact KF S rfl) (by decide) ⟨by omega, by omega⟩ (by repeat (first | exact rd_at | (apply rd_eq; omega) | (apply rd_ne; focus omega) | assumption | exact rfl)) ?_) | refine s_asI (by with_unfolding_all exact KF S rfl) (by decide) ⟨by omega, by omega⟩ ?_ | refine s_pfI (by with_unfolding_all exact KF S rfl) ?_ | refine s_pfZ (by with_unfolding_all exact KF S rfl) (by omega) ?_ | refine s_ckI (by first | assumption | exact b2i_in | exact ⟨by omega, by omega⟩) ?_ | refine s_ckL (by first | assumption | exact ⟨by omega, by omega⟩ | exact inIL b2i_in) ?_ | refine s_ckN (by omega) ?_ | refine s_zrb ?_ | refine s_zr (by omega) ?_ | ((refine s_br0 (fun _ => ?_) (fun _ => ?_) <;> try (exfalso; first | omega | contradiction))) | ((refine s_br1 (fun _ => ?_) (fun _ => ?_) <;> try (exfalso; first | omega | contradiction))) | ((refine s_br (fun _ => ?_) (fun _ => ?_) <;> try (exfalso; first | omega | contradiction))) | refine Eq.mpr (x0_in (by first | assumption | exact b2i_in | exact ⟨by omega, by omega⟩) (by first | assumption | exact b2i_in | exact ⟨by omega, by omega⟩) (by first | assumption | exact b2i_in | exact ⟨by omega, by omega⟩)) ?_ | refine Eq.mpr (x5_in (by first | assumption | exact ⟨by omega, by omega⟩ | exact inIL b2i_in) (by first | assumption | exact ⟨by omega, by omega⟩ | exact inIL b2i_in) (by first | assumption | exact ⟨by omega, by omega⟩ | exact inIL b2i_in)) ?_ | refine Eq.mpr (x0_isBar (by first | assumption | exact b2i_in | exact ⟨by omega, by omega⟩)) ?_ | refine Eq.mpr (x0_isTooth (by first | assumption | exact b2i_in | exact ⟨by omega, by omega⟩)) ?_ | refine Eq.mpr (x0_isSet (by first | assumption | exact b2i_in | exact ⟨by omega, by omega⟩)) ?_ | refine Eq.mpr (x5_isBar (by first | assumption | exact b2i_in | exact ⟨by omega, by omega⟩)) ?_ | refine Eq.mpr (x5_isTooth (by first | assumption | exact b2i_in | exact ⟨by omega, by omega⟩)) ?_ | refine Eq.mpr (x0_table (by with_unfolding_all exact S)) ?_ | (refine Eq.mpr (x0_isBox' (by with_unfolding_all exact S) (by first | assumption | exact b2i_in | exact ⟨by omega, by omega⟩) (by repeat (first | exact rd_at | (apply rd_eq; omega) | (apply rd_ne; focus omega) | assumption | exact rfl)) (by omega)) ?_) | (refine Eq.mpr (x0_isSuitor' (by with_unfolding_all exact S) (by first | assumption | exact b2i_in | exact ⟨by omega, by omega⟩) (by repeat (first | exact rd_at | (apply rd_eq; omega) | (apply rd_ne; focus omega) | assumption | exact rfl)) (by omega)) ?_) | (refine Eq.mpr (x5_isBox' (by with_unfolding_all exact S) (by first | assumption | exact b2i_in | exact ⟨by omega, by omega⟩) (by repeat (first | exact rd_at | (apply rd_eq; omega) | (apply rd_ne; focus omega) | assumption | exact rfl)) (by omega)) ?_) | (refine Eq.mpr (x5_isSuitor' (by with_unfolding_all exact S) (by first | assumption | exact b2i_in | exact ⟨by omega, by omega⟩) (by repeat (first | exact rd_at | (apply rd_eq; omega) | (apply rd_ne; focus omega) | assumption | exact rfl)) (by omega)) ?_) | refine Eq.mpr (x0_refuse (by with_unfolding_all exact S) (by omega)) ?_ | refine Eq.mpr (x0_done (by with_unfolding_all exact S)) ?_ | refine Eq.mpr (x0_settled (by with_unfolding_all exact S)) ?_ | refine Eq.mpr (x5_settled (by with_unfolding_all exact S) (by omega)) ?_ | (refine Eq.mpr (x5_change' (by with_unfolding_all exact S) (by omega) (by repeat (first | exact rd_at | (apply rd_eq; omega) | (apply rd_ne; focus omega) | assumption | exact rfl))) ?_) | refine Eq.mpr (x5_no (by with_unfolding_all exact S) (by omega)) ?_ | refine Eq.mpr (x5_yes (by with_unfolding_all exact S) (by omega)) ?_ | refine Eq.mpr (x0_ones (by first | omega)) ?_ | refine x5_ones' (by first | omega) ?_ | refine Eq.mpr x0_isOf ?_ | refine Eq.mpr x5_is ?_)
    exact hK _ _ _ rfl ⟨by decide, by decide⟩ (R.ref2 ⟨by decide, by decide⟩ rfl (by rw [gV_ne (by omega), gV_ne (by omega), gV_ne (by omega)]))
  · generalize hq : (gV w 0 8 - 1).toNat = q
    have eq : ((q : Nat) : Int) = gV w 0 8 - 1 := by omega
    obtain ⟨p1, p2⟩ := c5 q (by omega)
    rw [eq] at p2
    have tk := tk_of S (tkU ⟨π q, p1⟩)
    have tk3 := tk_of S tk300
    dsimp only at tk
    have uq := U.1.1 q (by show (q : Int) < gV w 0 8; omega)
    have sq := U.1.2 (gV w 0 8 - 1) (by omega) (by omega)
    have s9 := c4 (gV w 0 8 - 1) (by omega) (by omega)
    have tq := c7 q (by show (q : Int) < gV w 0 8; omega)
    have gq : ∀ j, 0 ≤ j → j < 75 → gV w 6 (75 * (gV w 0 8 - 1) + j) = gV w 6 (75 * (q : Int) + j) := fun j _ _ => by rw [eq]
    have S1 : SOK (sV w 100 15 (gV w 0 8 - 1)) := S
    refine s_gfI (KF S rfl) c1 (s_ckI ⟨by omega, by omega⟩ (s_br (fun _ => ?_) (fun y => absurd z y)))
    refine s_gfI (KF S rfl) c1 (s_pfI (KF S rfl) (s_cO (KF S rfl) ?_))
    rw [x0_table S1]
    refine s_gfA (KF S1 rfl) (RF S1 rfl) (s_gfI (KF S1 rfl) gV_at (s_alR (KF S1 rfl) (by decide) ⟨by omega, by omega⟩ p2 (s_dO ?_)))
    refine s_cO tk3.1 (x2_takes tk3 tk (by omega) (fun w1 m1 f1 k1 => ?_))
    have S2 : SOK w1 := S1.sm m1
    have e106 : gV w1 106 (gV w 0 8 - 1) = gV w 7 (gV w 0 8 - 1) := by
      rw [f1 106 _ (by omega), gV_ne (by omega)]; exact s9
    refine s_gfA (KF S2 rfl) (RF S2 rfl) (s_gfI (KF S2 rfl) ((f1 100 15 (by omega)).trans gV_at) (s_alI (KF S2 rfl) (by decide) ⟨by omega, by omega⟩ e106 (s_cO (KF S2 rfl) ?_)))
    rw [x0_done S2]
    unfold wp_X5_undo
    have e8 : gV (sV (sV w1 100 0 0) 0 0 0) 0 8 = gV w 0 8 := by rw [gV_ne (by omega), gV_ne (by omega), f1 0 8 (by omega), gV_ne (by omega)]
    have S3 : SOK (sV (sV (sV w1 100 0 0) 0 0 0) 0 8 (gV w 0 8 - 1)) := S2
    refine s_pfI (KF S2 rfl) (s_gfI (KF S2 rfl) e8 (s_ckI ⟨by omega, by omega⟩ (s_br (fun _ => ?_) (fun y => absurd z y))))
    refine s_gfI (KF S2 rfl) e8 (s_pfI (KF S2 rfl) (s_gfI (KF S3 rfl) gV_at (s_cO (KF S3 rfl) ?_)))
    refine x5_putBack (s := gV w 0 8 - 1) (o := fun j => gV w 6 (75 * (q : Int) + j)) ⟨by omega, by omega⟩ S3 (fun j u v => ?_) (fun w3 S4 e3 => ?_)
    · rw [gV_ne (by omega), gV_ne (by omega), gV_ne (by omega), f1 6 _ (by omega), gV_ne (by omega)]
      exact gq j u v
    have F3 : ∀ k j, ¬ (k = 100 ∧ (j = 15 ∨ j = 0)) → ¬ (k = 0 ∧ (j = 0 ∨ j = 8)) → ¬ (300 ≤ k ∧ k ≤ 305) → ¬ (k = 3 ∧ 5 ≤ j ∧ j < 80) → gV w3 k j = gV w k j := fun k j a1 a2 a3 a4 => by
      rw [e3.2.1 k j a4, gV_ne (by omega), gV_ne (by omega), gV_ne (by omega), f1 k j (by omega), gV_ne (by omega)]
    have n8 : gV w3 0 8 = gV w 0 8 - 1 := (e3.2.1 0 8 (by omega)).trans gV_at
    refine s_gfA (KF S4 rfl) (RF S4 rfl) (s_gfI (KF S4 rfl) n8 (s_alI (KF S4 rfl) (by decide) ⟨by omega, by omega⟩ (F3 7 _ (by omega) (by omega) (by omega) (by omega)) (s_cO (KF S4 rfl) ?_)))
    have sq : 0 ≤ gV w 7 (gV w 0 8 - 1) ∧ gV w 7 (gV w 0 8 - 1) ≤ 3 := sq
    rw [x5_tell S4 ⟨by omega, by omega⟩, if_pos sq.1]
    have m3 : Sm w (sV w3 0 1 0) := m1.tr e3.1
    have F : ∀ k j, ¬ (k = 100 ∧ (j = 15 ∨ j = 0)) → ¬ (k = 0 ∧ (j = 0 ∨ j = 1 ∨ j = 8)) → ¬ (300 ≤ k ∧ k ≤ 305) → ¬ (k = 3 ∧ 5 ≤ j ∧ j < 80) → gV (sV w3 0 1 0) k j = gV w k j := fun k j a1 a2 a3 a4 => (gV_ne (by omega)).trans (F3 k j a1 (by omega) a3 a4)
    have ou : ∀ j, j < 5 ∨ j = 6 ∨ j = 7 ∨ 80 ≤ j → unR (gV w 3) (fun j => gV w 6 (75 * (q : Int) + j)) j = gV w 3 j := fun j hj => by
      by_cases y6 : j = 6
      · rw [y6]; exact uq.2.1
      · by_cases y7 : j = 7
        · rw [y7]; exact uq.2.2
        · exact unR_ou (by omega)
    have hO : TabOK (fun j => unR (gV w 3) (fun j => gV w 6 (75 * (q : Int) + j)) (5 + j)) (gV w 3 0) (gV w 3 1) := uq.1.fr U.2.2.1.2 (fun j u v => unR_in ⟨u, v⟩)
    have h0 := ou 0 (by omega)
    have h1 := ou 1 (by omega)
    have h6 := ou 6 (by omega)
    have h7 := ou 7 (by omega)
    have g15 : gV (sV w3 0 1 0) 100 15 = gV w 0 8 - 1 := by
      rw [gV_ne (by omega), e3.2.1 100 15 (by omega), gV_ne (by omega), gV_ne (by omega), gV_ne (by omega), f1 100 15 (by omega), gV_at]
    refine hK _ _ _ rfl ⟨by omega, by omega⟩ (R.und (s := (unR (gV w 3) (fun j => gV w 6 (75 * (q : Int) + j)), gV w 0 8 - 1, (fun q j => gV w 6 (75 * (q : Int) + j)), gV w 7)) m3.sq (fun k j a1 a2 a3 a4 a5 a6 a7 a8 => F k j ?_ ?_ a4 a3) (sc.done ?_ gV_at (fun k j hk => F k j (by omega) (by omega) (by omega) (by omega))) ⟨?_, ⟨g15, (by show 0 ≤ gV w 0 8 - 1; omega), (by show gV w 0 8 - 1 ≤ 16; omega)⟩, fun p u v => ?_, π, fun p hp => ⟨(c5 p hp).1, (m3.2 _ _).trans (c5 p hp).2⟩, c6, fun p hp => ?_⟩ ⟨?_, ?_, ⟨(gV_ne (by omega)).trans n8, (by show 0 ≤ gV w 0 8 - 1; omega), (by show gV w 0 8 - 1 ≤ 16; omega)⟩, fun p u v => ?_, fun p hp j u v => ?_⟩ ⟨fun p hp => ?_, U.1.2⟩)
    · unfold Scr at a1; unfold Sca at a2; omega
    · unfold Scr at a1; unfold Sca at a2; omega
    · rw [gV_ne (by omega), e3.2.1 100 0 (by omega), gV_ne (by omega), gV_ne (by omega), gV_at]
    · refine R.co.cx.up m3.sq (fun k j hk => F k j (by omega) (by omega) (by omega) (by omega)) ?_ hO ou
      refine (k1 _ (tq.fr (fun k j a b => ?_) (fun _ _ _ => rfl))).fr (fun k j a b => ?_) (fun j u v => (unR_in ⟨u, v⟩ : unR (gV w 3) (fun j => gV w 6 (75 * (q : Int) + j)) (5 + j) = gV w 6 (75 * (q : Int) + j)))
      · exact gV_ne (by omega)
      · rw [gV_ne (by omega), e3.2.1 k j (by omega), gV_ne (by omega), gV_ne (by omega), gV_ne (by omega)]
    · rw [F 106 p (by omega) (by omega) (by omega) (by omega)]; exact c4 p u v
    · have hp : (p : Int) < gV w 0 8 - 1 := hp
      have hp2 := (c5 p (by omega)).1
      exact (c7 p (by show (p : Int) < gV w 0 8; omega)).fr (fun k j a b => F k j (by omega) (by omega) (by omega) (by omega)) (fun _ _ _ => rfl)
    · refine T.up S4 (funext fun j => ?_) (by rw [F 0 20 (by omega) (by omega) (by omega) (by omega)]; exact T.2.2.2.1) hO ou
      by_cases y : 5 ≤ j ∧ j < 80
      · rw [gV_ne (by omega), e3.2.2 j y.1 y.2]
        exact (if_pos y).symm
      · rw [F 3 j (by omega) (by omega) (by omega) (by omega)]
        exact (unR_ou y : unR (gV w 3) (fun j => gV w 6 (75 * (q : Int) + j)) j = gV w 3 j).symm
    · dsimp only
      rw [h0, h1]; exact hO
    · exact F 7 p (by omega) (by omega) (by omega) (by omega)
    · exact F 6 _ (by omega) (by omega) (by omega) (by omega)
    · dsimp only
      rw [h0, h1, h6, h7]
      exact U.1.1 p (by have hp : (p : Int) < gV w 0 8 - 1 := hp; show (p : Int) < gV w 0 8; omega)
end FOUR
