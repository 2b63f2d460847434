/-! THE PLAIN LAW: orders, in the component: all of them -/
set_option maxRecDepth 100000
/-- the orders that a reader at r has read: m of them, at keys kO, beside rows fO -/
def ORDS (w : Wd) (r m : Nat) (kO : Int → Nat) (op ar : Int → Int) (L : Int) (fO : Int → Int → Int) : Prop := ∃ li E n : Nat, (1000 ≤ r ∧ gK w r = some (.inl 17) ∧ gR w r 7 = some li) ∧ (1000 ≤ li ∧ gK w li = some (.inl 18) ∧ gR w li 1 = some E ∧ gV w li 2 = m) ∧ (1000 ≤ E ∧ gK w E = some (.inr (4, n)) ∧ n < 1000 ∧ m ≤ n ∧ m ≤ 12) ∧ ∀ i : Int, 0 ≤ i → i < m → gR w E i = some (kO i) ∧ OrdR w op ar L (kO i) (fO i)
section CORDERS
variable {w0 w w' : Wd} {op ar : Int → Int} {fO : Int → Int → Int} {kO : Int → Nat} {r m9 : Nat} {Q : Int → Wd → Prop} {QW X : Wd → Prop} {s s2 : US} {x L : Int} {U : Nat → Int → Int} {π : Nat → Nat}
theorem z0_114 {X114 : Int → Nat → Nat → Wd → Prop} {x3 : Int} {bc bs : Nat} (hR : ORDS w0 r m9 kO op ar L fO) : ∀ (n fuel : Nat) (x B : Int) (st : OS) (w : Wd), x + n = m9 → n < fuel → 0 ≤ x → B + 20 * n ≤ 1000 → CU w0 w st.1 → OOK st B → (∀ st2 w', ordL w0 kO n x st = .ok st2 → FCW w w' → CU w0 w' st2.1 → OOK st2 1000 → (∀ j, j < 5 ∨ j = 6 ∨ j = 7 ∨ 80 ≤ j → st2.1.1 j = st.1.1 j) → X114 st2.2.1 bc bs w') → (∀ w' s2 p, ordL w0 kO n x st = .error p → FCW w w' → CU w0 w' s2 → (∀ j, j < 5 ∨ j = 6 ∨ j = 7 ∨ 80 ≤ j → s2.1 j = st.1.1 j) → OFL Q x3 p w') → wp_X0_orders_114 Q X114 100 r x3 fuel st.2.1 st.2.2 x bc bs w := by
  obtain ⟨li, E, n9, ⟨r1, r2, r3⟩, ⟨l1, l2, l3, l4⟩, ⟨e1, e2, e3, e4, e5⟩, h9⟩ := hR
  intro n
  induction n with
  | zero =>
    intro fuel x B st w hx hf h0 hB C hs hq hX
    obtain ⟨g, rfl⟩ : ∃ g, fuel = g + 1 := ⟨fuel - 1, by omega⟩
    have H := C.1.2.2.2.2.1
    have hr := H r r1 (kd_ne r2)
    have hl := H li l1 (kd_ne l2)
    have d2 := hs.2.1.2
    rw [wp_X0_orders_114]
    refine s_gfR (hr.1.trans r2) ((hr.2.2 7).trans r3) (s_dO (s_cO (hl.1.trans l2) (c_size (hl.1.trans l2) ((hl.2.1 2).trans l4) (s_ckI ⟨by omega, by omega⟩ (s_ckI ⟨by omega, by omega⟩ (s_br (fun _ => ?_) (fun y => absurd (by omega) y)))))))
    exact hq st w rfl FCW.rf C ⟨hs.1, ⟨hs.2.1.1, by omega⟩, hs.2.2⟩ (fun _ _ => rfl)
  | succ n ih =>
    intro fuel x B st w hx hf h0 hB C hs hq hX
    obtain ⟨g, rfl⟩ : ∃ g, fuel = g + 1 := ⟨fuel - 1, by omega⟩
    have S := C.1.1
    have H := C.1.2.2.2.2.1
    have hr := H r r1 (kd_ne r2)
    have hl := H li l1 (kd_ne l2)
    have hE := H E e1 (kd_ne e2)
    obtain ⟨g1, g2⟩ := h9 x h0 (by omega)
    have hk := H (kO x) g2.1.1 (kd_ne g2.1.2)
    have t9 := g2.2.2.1
    have e0 : ordL w0 kO (n + 1) x st = match ordT w0 (kO x) (gV w0 (kO x) 4).toNat st with
      | none => .error x
      | some st2 => ordL w0 kO n (x + 1) st2 := rfl
    rw [t9.1] at e0
    rw [wp_X0_orders_114]
    refine s_gfR (hr.1.trans r2) ((hr.2.2 7).trans r3) (s_dO (s_cO (hl.1.trans l2) (c_size (hl.1.trans l2) ((hl.2.1 2).trans l4) (s_ckI ⟨by omega, by omega⟩ (s_ckI ⟨by omega, by omega⟩ (s_br (fun y => absurd y (by omega)) (fun _ => ?_)))))))
    refine s_gfR (hr.1.trans r2) ((hr.2.2 7).trans r3) (s_dO (s_cO (hl.1.trans l2) (c_get (hl.1.trans l2) ((hl.2.1 2).trans l4) ((hl.2.2 1).trans l3) (hE.1.trans e2) ⟨h0, by omega⟩ (by omega) e3 ((hE.2.2 x).trans g1) ⟨Or.inr ⟨kO x, 15, rfl, hk.1.trans g2.1.2, by decide⟩, ?_⟩)))
    refine z0_143 g2 (fO x 9).toNat FU 0 B st w (by omega) (by unfold FU; omega) (by decide) (by omega) C hs (fun st2 w2 e f2 C2 h2 j2 => ?_) (fun w2 s2 e f2 C2 j2 => ?_)
    · rw [e] at e0
      have e0 : ordL w0 kO (n + 1) x st = ordL w0 kO n (x + 1) st2 := e0
      have h2' : OOK st2 (B + 20) := ⟨h2.1, ⟨h2.2.1.1, by have := h2.2.1.2; omega⟩, h2.2.2⟩
      exact ih g (x + 1) (B + 20) st2 w2 (by omega) (by omega) (by omega) (by omega) C2 h2' (fun st3 w3 e3 f3 C3 h3 j3 => hq st3 w3 (e0.trans e3) (f2.tr f3) C3 h3 (fun j hj => (j3 j hj).trans (j2 j hj))) (fun w3 s3 p e3 f3 C3 j3 => hX w3 s3 p (e0.trans e3) (f2.tr f3) C3 (fun j hj => (j3 j hj).trans (j2 j hj)))
    · rw [e] at e0
      exact hX w2 s2 x e0 f2 C2 j2
/-- tables at 336 .. by pi -/
def PIT (w : Wd) (π : Nat → Nat) : Prop := (∀ q : Nat, q < 16 → π q < 16 ∧ gR w 104 q = some (336 + 6 * π q)) ∧ ∀ p q : Nat, p < 16 → q < 16 → π p = π q → p = q
theorem z0_orders_56 {X56 : Nat → Nat → Wd → Prop} {x2 bc bs : Nat} {n : Int} (hn : 0 ≤ n ∧ n ≤ 16) : ∀ (m fuel : Nat) (x : Int) (w : Wd), x + m = n → m < fuel → 0 ≤ x → SOK w → gV w 100 15 = n → (∀ q : Nat, q < 16 → gR w 105 q = some (432 + 6 * q)) → PIT w π → (∀ q : Nat, (q : Int) < n → TabEq w (336 + 6 * π q) (U q)) → (∀ q : Nat, (q : Int) < x → TabEq w (432 + 6 * q) (U q)) → (∀ w', Sm w w' → (∀ k j, ¬ (432 ≤ k ∧ k < 528) → gV w' k j = gV w k j) → (∀ q : Nat, (q : Int) < n → TabEq w' (432 + 6 * q) (U q)) → X56 bc bs w') → wp_X0_orders_56 Q X56 100 x2 fuel x bc bs w := by
  intro m
  induction m with
  | zero =>
    intro fuel x w hx hf h0 S h15 h5 P hA hB hq
    obtain ⟨g, rfl⟩ : ∃ g, fuel = g + 1 := ⟨fuel - 1, by omega⟩
    rw [wp_X0_orders_56]
    exact s_gfI (KF S rfl) h15 (s_ckI ⟨by omega, by omega⟩ (s_ckI ⟨by omega, by omega⟩ (s_br (fun _ => hq w Sm.rf (fun _ _ _ => rfl) (fun q a => hB q (by omega))) (fun y => absurd (by omega) y))))
  | succ m ih =>
    intro fuel x w hx hf h0 S h15 h5 P hA hB hq
    obtain ⟨g, rfl⟩ : ∃ g, fuel = g + 1 := ⟨fuel - 1, by omega⟩
    obtain ⟨p, rfl⟩ : ∃ p : Nat, x = p := ⟨x.toNat, by omega⟩
    have p16 : p < 16 := by omega
    have pp := P.1 p p16
    have T1 := tk_of S (tkO ⟨p, p16⟩)
    have T2 := tk_of S (tkU ⟨π p, pp.1⟩)
    have T1 : TK w (432 + 6 * p) := T1
    have T2 : TK w (336 + 6 * π p) := T2
    rw [wp_X0_orders_56]
    refine s_gfI (KF S rfl) h15 (s_ckI ⟨by omega, by omega⟩ (s_ckI ⟨by omega, by omega⟩ (s_br (fun y => absurd y (by omega)) (fun _ => s_gfA (KF S rfl) (RF S rfl) (s_alR (KF S rfl) (by decide) ⟨by omega, by omega⟩ (h5 p p16) (s_gfA (KF S rfl) (RF S rfl) (s_alR (KF S rfl) (by decide) ⟨by omega, by omega⟩ pp.2 (s_dO (s_cO T1.1 (x2_takes T1 T2 (by omega) (fun w2 m2 v2 t2 => ?_)))))))))))
    refine ih g ((p : Int) + 1) w2 (by omega) (by omega) (by omega) (S.sm m2) ((v2 _ _ (by omega)).trans h15) (fun q a => (m2.2 _ _).trans (h5 q a)) ⟨fun q a => ⟨(P.1 q a).1, (m2.2 _ _).trans (P.1 q a).2⟩, P.2⟩ (fun q a => (hA q a).fr (fun k j b c => v2 k j (by have := (P.1 q (by omega)).1; omega)) (fun _ _ _ => rfl)) (fun q a => ?_) (fun w3 m3 v3 t3 => hq w3 (m2.tr m3) (fun k j a => (v3 k j a).trans (v2 k j (by omega))) t3)
    by_cases z : q = p
    · subst z
      exact t2 _ (hA q (by omega))
    · exact (hB q (by omega)).fr (fun k j b c => v2 k j (by omega)) (fun _ _ _ => rfl)
theorem z0_putsBack_13 {n : Int} (hn : 0 ≤ n ∧ n ≤ 16) : ∀ (m fuel : Nat) (x : Int) (w : Wd), x + m = n → m < fuel → 0 ≤ x → SOK w → (∀ q : Nat, q < 16 → gR w 105 q = some (432 + 6 * q)) → PIT w π → (∀ q : Nat, (q : Int) < n → TabEq w (432 + 6 * q) (U q)) → (∀ q : Nat, (q : Int) < x → TabEq w (336 + 6 * π q) (U q)) → (∀ w', Sm w w' → (∀ k j, ¬ (336 ≤ k ∧ k < 432) → gV w' k j = gV w k j) → (∀ q : Nat, (q : Int) < n → TabEq w' (336 + 6 * π q) (U q)) → X w') → wp_X0_putsBack_13 QW X 100 n fuel x w := by
  intro m
  induction m with
  | zero =>
    intro fuel x w hx hf h0 S h5 P hA hB hq
    obtain ⟨g, rfl⟩ : ∃ g, fuel = g + 1 := ⟨fuel - 1, by omega⟩
    rw [wp_X0_putsBack_13]
    exact s_ckI ⟨by omega, by omega⟩ (s_ckI ⟨by omega, by omega⟩ (s_br (fun _ => hq w Sm.rf (fun _ _ _ => rfl) (fun q a => hB q (by omega))) (fun y => absurd (by omega) y)))
  | succ m ih =>
    intro fuel x w hx hf h0 S h5 P hA hB hq
    obtain ⟨g, rfl⟩ : ∃ g, fuel = g + 1 := ⟨fuel - 1, by omega⟩
    obtain ⟨p, rfl⟩ : ∃ p : Nat, x = p := ⟨x.toNat, by omega⟩
    have p16 : p < 16 := by omega
    have pp := P.1 p p16
    have T1 := tk_of S (tkO ⟨p, p16⟩)
    have T2 := tk_of S (tkU ⟨π p, pp.1⟩)
    have T1 : TK w (432 + 6 * p) := T1
    have T2 : TK w (336 + 6 * π p) := T2
    rw [wp_X0_putsBack_13]
    refine s_ckI ⟨by omega, by omega⟩ (s_ckI ⟨by omega, by omega⟩ (s_br (fun y => absurd y (by omega)) (fun _ => s_gfA (KF S rfl) (RF S rfl) (s_alR (KF S rfl) (by decide) ⟨by omega, by omega⟩ pp.2 (s_gfA (KF S rfl) (RF S rfl) (s_alR (KF S rfl) (by decide) ⟨by omega, by omega⟩ (h5 p p16) (s_dO (s_cO T2.1 (x2_takes T2 T1 (by omega) (fun w2 m2 v2 t2 => ?_))))))))))
    refine ih g ((p : Int) + 1) w2 (by omega) (by omega) (by omega) (S.sm m2) (fun q a => (m2.2 _ _).trans (h5 q a)) ⟨fun q a => ⟨(P.1 q a).1, (m2.2 _ _).trans (P.1 q a).2⟩, P.2⟩ (fun q a => (hA q a).fr (fun k j b c => v2 k j (by omega)) (fun _ _ _ => rfl)) (fun q a => ?_) (fun w3 m3 v3 t3 => hq w3 (m2.tr m3) (fun k j a => (v3 k j a).trans (v2 k j (by omega))) t3)
    by_cases z : q = p
    · subst z
      exact t2 _ (hA q (by omega))
    · refine (hB q (by omega)).fr (fun k j b c => v2 k j ?_) (fun _ _ _ => rfl)
      have n1 : π q ≠ π p := fun y => z (P.2 q p (by omega) p16 y)
      omega
/-- what is laid by, ahead of orders -/
def AHD (w : Wd) (s : US) : Prop := TabEq w 306 (fun j => s.1 (5 + j)) ∧ (∀ q : Nat, q < 16 → gR w 105 q = some (432 + 6 * q)) ∧ (∀ q : Nat, (q : Int) < s.2.1 → TabEq w (432 + 6 * q) (s.2.2.1 q)) ∧ ∀ q : Int, 0 ≤ q → q < 16 → gV w 107 q = s.2.2.2 q
theorem AHD.fr (h : AHD w s) (hn : s.2.1 ≤ 16) (hR : ∀ j, gR w' 105 j = gR w 105 j) (hV : ∀ k j, (306 ≤ k ∧ k ≤ 311) ∨ k = 107 ∨ (432 ≤ k ∧ k < 528) → gV w' k j = gV w k j) : AHD w' s := by
  obtain ⟨h1, h2, h3, h4⟩ := h
  exact ⟨h1.fr (fun k j a b => hV k j (by omega)) (fun _ _ _ => rfl), fun q a => (hR _).trans (h2 q a), fun q a => (h3 q a).fr (fun k j b c => hV k j (by omega)) (fun _ _ _ => rfl), fun q a b => (hV _ _ (by omega)).trans (h4 q a b)⟩
theorem z0_putsBack (C : CU w0 w s2) (A : AHD w s) (hs : SOKs s) (hj : ∀ j, j < 5 ∨ j = 6 ∨ j = 7 ∨ 80 ≤ j → s2.1 j = s.1 j) (hq : ∀ w', FCW w w' → CU w0 w' s → QW w') : wp_X0_putsBack 100 s.2.1 w QW := by
  obtain ⟨C1, ⟨c1, c2, π, p1, p2, c3⟩⟩ := C
  obtain ⟨a1, a2, a3, a4⟩ := A
  obtain ⟨U1, U2, U3, U4, U5⟩ := hs
  have S := C1.1
  unfold wp_X0_putsBack
  refine s_cO (KF S rfl) (Eq.mpr (x0_table S) (s_gfR (KF S rfl) (RF S rfl) (s_dO (s_cO (KF S rfl) (x2_takes (tk_of S tk300) (tk_of S tk306) (by decide) (fun w2 m2 v2 t2 => ?_))))))
  have S2 := S.sm m2
  have T2 := t2 _ a1
  refine z0_putsBack_13 (U := s.2.2.1) (π := π) U5 s.2.1.toNat FU 0 w2 (by omega) (by unfold FU; omega) (by decide) S2 (fun q a => (m2.2 _ _).trans (a2 q a)) ⟨fun q a => ⟨(p1 q a).1, (m2.2 _ _).trans (p1 q a).2⟩, p2⟩ (fun q a => (a3 q a).fr (fun k j b c => v2 k j (by omega)) (fun _ _ _ => rfl)) (fun q a => absurd a (by omega)) (fun w3 m3 v3 t3 => ?_)
  have S3 := S2.sm m3
  refine s_gfA (KF S3 rfl) (RF S3 rfl) (s_gfA (KF S3 rfl) (RF S3 rfl) ⟨16, 16, KF S3 rfl, KF S3 rfl, ⟨by decide, by decide, by decide, by decide, by decide, by decide, by decide⟩, ?_⟩)
  have S4 : SOK (cpV w3 107 0 106 0 16) := S3.sm ⟨fun _ => rfl, fun _ _ => rfl⟩
  refine s_pfI (KF S4 rfl) ?_
  have V5 : ∀ k j, ¬ (300 ≤ k ∧ k ≤ 305) → ¬ (336 ≤ k ∧ k < 432) → k ≠ 106 → ¬ (k = 100 ∧ j = 15) → gV (sV (cpV w3 107 0 106 0 16) 100 15 s.2.1) k j = gV w k j := fun k j a b c d => (gV_ne d).trans ((cp_ne (by omega)).trans ((v3 k j b).trans (v2 k j a)))
  have m5 : Sm w (sV (cpV w3 107 0 106 0 16) 100 15 s.2.1) := (m2.tr m3).tr ⟨fun _ => rfl, fun _ _ => rfl⟩
  have V6 : ∀ k j, k ≠ 106 → ¬ (k = 100 ∧ j = 15) → gV (sV (cpV w3 107 0 106 0 16) 100 15 s.2.1) k j = gV w3 k j := fun k j a b => (gV_ne b).trans (cp_ne (by omega))
  refine hq _ ⟨m5.sq, fun k j n => V5 k j (by unfold Fc Ev at n; omega) (by unfold Fc Ev at n; omega) (by unfold Fc Ev at n; omega) (by unfold Fc Ev at n; omega)⟩ ⟨C1.up m5.sq (fun k j hk => V5 k j (by omega) (by omega) (by omega) (by omega)) ?_ ?_ (fun j h => (hj j h).symm), ⟨gV_at, U5⟩, fun q a b => ?_, π, fun q a => ⟨(p1 q a).1, (m5.2 _ _).trans (p1 q a).2⟩, p2, fun q a => ?_⟩
  · refine T2.fr (fun k j a b => (V6 k j (by omega) (by omega)).trans (v3 k j (by omega))) (fun _ _ _ => rfl)
  · rw [hj 0 (by omega), hj 1 (by omega)]
    exact U2
  · rw [gV_ne (by omega), cp_at ⟨a, b⟩, v3 107 q (by omega), v2 107 q (by omega)]
    exact a4 q a b
  · refine (t3 q a).fr (fun k j b c => V6 k j ?_ ?_) (fun _ _ _ => rfl)
    · have := (p1 q (by omega)).1; omega
    · have := (p1 q (by omega)).1; omega
end CORDERS
