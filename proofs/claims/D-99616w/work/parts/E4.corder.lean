/-! THE PLAIN LAW: orders, in the component: one order, once -/
set_option maxRecDepth 100000
/-- what an order looks at -/
def orE (ρ : Int → Int) (dn la j : Int) : Int := if j = 0 then ρ 5 else if j = 1 then dn else if j = 2 then la else if j = 3 then cou ρ else if j < 10 then (if j - 4 ≤ ρ 0 - 1 then ρ (74 + (j - 4)) else -1) else (if j - 10 ≤ ρ 0 - 1 then nNo ρ (j - 10) else -1)
/-- what a sum tells an order -/
def tolV (w : Wd) (E : Int → Int) (o : Option Nat) : Int := match o with
  | none => -1
  | some k => match evS w E 60 k with
    | none => -1
    | some v => if 0 ≤ v ∧ v < 1000000 then v else -1
/-- whether an order is to be done -/
def nowV (w : Wd) (E : Int → Int) (k : Nat) : Int := match gR w k 5 with
  | none => 1
  | some t => match evT w E 40 t with
    | none => 0
    | some v => v
def runF (w : Wd) (k : Nat) (E : Int → Int) (s : US) : Int × US := if gV w k 0 = 3 then pasF w s else if gV w k 0 = 0 then pulF s (tolV w E (gR w k 1)) (tolV w E (gR w k 2)) (tolV w E (gR w k 3)) else if gV w k 0 = 1 then snaF s (tolV w E (gR w k 1)) (tolV w E (gR w k 2)) else wedF w s (tolV w E (gR w k 1)) (tolV w E (gR w k 2))
/-- the tables, how many were done, what was told last -/
abbrev OS : Type := US × Int × Int
def ordF (w : Wd) (k : Nat) (st : OS) : Option OS := if nowV w (orE st.1.1 st.2.1 st.2.2) k = 0 then some st else if (runF w k (orE st.1.1 st.2.1 st.2.2) st.1).1 < 0 then none else some ((runF w k (orE st.1.1 st.2.1 st.2.2) st.1).2, st.2.1 + 1, if gV w k 0 = 2 then (runF w k (orE st.1.1 st.2.1 st.2.2) st.1).1 else st.2.2)
def ordT (w : Wd) (k : Nat) : Nat → OS → Option OS
  | 0, st => some st
  | n + 1, st => match ordF w k st with
    | none => none
    | some st2 => ordT w k n st2
def ordL (w : Wd) (kO : Int → Nat) : Nat → Int → OS → Except Int OS
  | 0, _, st => .ok st
  | m + 1, x, st => match ordT w (kO x) (gV w (kO x) 4).toNat st with
    | none => .error x
    | some st2 => ordL w kO m (x + 1) st2
def OOK (st : OS) (B : Int) : Prop := SOKs st.1 ∧ (0 ≤ st.2.1 ∧ st.2.1 ≤ B) ∧ -1 ≤ st.2.2 ∧ st.2.2 ≤ 1000
section CORDER
variable {w0 w w' : Wd} {ρ f : Int → Int} {op ar E : Int → Int} {k : Nat} {dn la i x a b v L : Int} {Q : Int → Wd → Prop} {QW X : Wd → Prop} {s : US} {st : OS}
theorem orE_a (h : 0 ≤ x ∧ x < 6) : orE ρ dn la (4 + x) = if x ≤ ρ 0 - 1 then ρ (74 + x) else -1 := by
  unfold orE
  rw [if_neg (by omega), if_neg (by omega), if_neg (by omega), if_neg (by omega), if_pos (by omega)]
  have e : 4 + x - 4 = x := by omega
  rw [e]
theorem orE_b (h : 0 ≤ x ∧ x < 6) : orE ρ dn la (10 + x) = if x ≤ ρ 0 - 1 then nNo ρ x else -1 := by
  unfold orE
  rw [if_neg (by omega), if_neg (by omega), if_neg (by omega), if_neg (by omega), if_neg (by omega)]
  have e : 10 + x - 10 = x := by omega
  rw [e]
theorem z0_tells_48 : ∀ (m fuel : Nat) (x : Int) (w : Wd), x + m = 6 → 0 ≤ x → m < fuel → CX w0 w 300 ρ → (∀ j, 0 ≤ j → (j < 4 + x ∨ (10 ≤ j ∧ j < 10 + x)) → gV w 191 j = orE ρ dn la j) → (∀ w', EV w w' → CX w0 w' 300 ρ → (∀ j, 0 ≤ j → j < 16 → gV w' 191 j = orE ρ dn la j) → QW w') → wp_X0_tellsOrder_48 QW 100 (some 300) 191 fuel x w := by
  intro m
  induction m with
  | zero =>
    intro fuel x w hx h0 hf C hv hq
    obtain ⟨g, rfl⟩ : ∃ g, fuel = g + 1 := ⟨fuel - 1, by omega⟩
    rw [wp_X0_tellsOrder_48]
    exact s_ckI ⟨by omega, by omega⟩ (s_br (fun _ => hq w EV.rf C (fun j a b => hv j a (by omega))) (fun y => absurd (by omega) y))
  | succ m ih =>
    intro fuel x w hx h0 hf C hv hq
    obtain ⟨g, rfl⟩ : ∃ g, fuel = g + 1 := ⟨fuel - 1, by omega⟩
    have S := C.1
    have nb := C.nb
    rw [wp_X0_tellsOrder_48]
    -- the last steps, with both numbers
    have fin : ∀ v1 v2 : Int, v1 = orE ρ dn la (4 + x) → v2 = orE ρ dn la (10 + x) → wp_X0_tellsOrder_114 QW (wp_X0_tellsOrder_48 QW 100 (some 300) 191 g) 100 (some 300) 191 x v2 (10 + x) 191 (sV w 191 (4 + x) v1) := by
      intro v1 v2 e1 e2
      unfold wp_X0_tellsOrder_114
      have S1 : SOK (sV w 191 (4 + x) v1) := S
      refine s_asI (KF S1 rfl) (by decide) ⟨by omega, by omega⟩ ?_
      have ev : EV w (sV (sV w 191 (4 + x) v1) 191 (10 + x) v2) := (EV.rf.sV (by unfold Ev; omega)).sV (by unfold Ev; omega)
      refine ih g (x + 1) _ (by omega) (by omega) (by omega) (C.ev ev) (fun j a b => ?_) (fun w' e' C' h' => hq w' (ev.tr e') C' h')
      by_cases z2 : j = 10 + x
      · rw [z2, ← e2]; exact gV_at
      · rw [gV_ne (by omega)]
        by_cases z1 : j = 4 + x
        · rw [z1, ← e1]; exact gV_at
        · rw [gV_ne (by omega)]; exact hv j a (by omega)
    refine s_ckI ⟨by omega, by omega⟩ (s_br (fun y => absurd y (by omega)) (fun _ => s_cO (KF S rfl) (Eq.mpr (x0_isBox' S ⟨by omega, by omega⟩ C.c5 nb) (s_ckI b2i_in ?_))))
    have second : ∀ v1 : Int, v1 = orE ρ dn la (4 + x) → wp_X0_tellsOrder_84 QW (wp_X0_tellsOrder_48 QW 100 (some 300) 191 g) 100 (some 300) 191 x v1 (4 + x) 191 w := by
      intro v1 e1
      unfold wp_X0_tellsOrder_84
      refine s_asI (KF S rfl) (by decide) ⟨by omega, by omega⟩ ?_
      have C1 : CX w0 (sV w 191 (4 + x) v1) 300 ρ := C.sV (by unfold Ev; omega)
      have S1 := C1.1
      refine s_cO (KF S1 rfl) (Eq.mpr (x0_isBox' S1 ⟨by omega, by omega⟩ C1.c5 nb) (s_ckI b2i_in ?_))
      by_cases z : 0 ≤ x ∧ x ≤ ρ 0 - 1
      · rw [b2i_t z]
        have nn := nNo_in (ρ := ρ) (b := x)
        refine s_br (fun y => absurd y (by decide)) (fun _ => s_dO (s_cO (KF S1 rfl) (z2_notes C1 ⟨h0, by omega⟩ (s_ckI ⟨by omega, by omega⟩ (fin v1 _ e1 ?_)))))
        rw [orE_b ⟨h0, by omega⟩, if_pos z.2]
      · rw [b2i_f z]
        refine s_br (fun _ => fin v1 (-1) e1 ?_) (fun y => absurd rfl y)
        rw [orE_b ⟨h0, by omega⟩, if_neg (by omega)]
    by_cases z : 0 ≤ x ∧ x ≤ ρ 0 - 1
    · rw [b2i_t z]
      have t5 := (C.to (j := x) h0 (by omega)).2.2.2
      refine s_br (fun y => absurd y (by decide)) (fun _ => s_dO (s_gfA (KF S rfl) (RF S rfl) (s_alI (KF S rfl) (by decide) ⟨by omega, by omega⟩ (C.a5 h0 (by omega)) (s_ckI ⟨by omega, by omega⟩ (second _ ?_)))))
      rw [orE_a ⟨h0, by omega⟩, if_pos z.2]
    · rw [b2i_f z]
      refine s_br (fun _ => second (-1) ?_) (fun y => absurd rfl y)
      rw [orE_a ⟨h0, by omega⟩, if_neg (by omega)]
theorem orE_in (C : CX w0 w 300 ρ) (hd : 0 ≤ dn ∧ dn ≤ 1000) (hl : -1 ≤ la ∧ la ≤ 1000) : ∀ j, 0 ≤ j → j < 16 → -1000000 ≤ orE ρ dn la j ∧ orE ρ dn la j ≤ 1000000 := by
  intro j h0 h1
  have n1 := C.yr
  have n2 := C.cou_in
  unfold orE
  split
  · omega
  · split
    · omega
    · split
      · omega
      · split
        · omega
        · split
          · split
            · have := (C.to (j := j - 4) (by omega) (by omega)).2.2.2
              omega
            · omega
          · split
            · have := nNo_in (ρ := ρ) (b := j - 10)
              omega
            · omega
theorem z0_tellsOrder (C : CX w0 w 300 ρ) (hd : 0 ≤ dn ∧ dn ≤ 1000) (hl : -1 ≤ la ∧ la ≤ 1000) (hq : ∀ w', EV w w' → CX w0 w' 300 ρ → SetE w' (orE ρ dn la) 16 → QW w') : wp_X0_tellsOrder 100 dn la w QW := by
  have S := C.1
  have n1 := C.yr
  have n2 := C.cou_in
  unfold wp_X0_tellsOrder
  refine s_cO (KF S rfl) (Eq.mpr (x0_table S) (s_gfR (KF S rfl) (RF S rfl) (s_dO (s_gfA (KF S rfl) (RF S rfl) (s_dO (s_gfI (KF S rfl) C.a0 (s_ckI ⟨by omega, by omega⟩ (s_asI (KF S rfl) (by decide) ⟨by decide, by decide⟩ (s_ckI ⟨by omega, by omega⟩ ?_)))))))))
  have C1 : CX w0 (sV w 191 0 (ρ 5)) 300 ρ := C.sV (by unfold Ev; omega)
  have S1 := C1.1
  refine s_asI (KF S1 rfl) (by decide) ⟨by decide, by decide⟩ (s_ckI ⟨by omega, by omega⟩ ?_)
  have C2 : CX w0 (sV (sV w 191 0 (ρ 5)) 191 1 dn) 300 ρ := C1.sV (by unfold Ev; omega)
  have S2 := C2.1
  refine s_asI (KF S2 rfl) (by decide) ⟨by decide, by decide⟩ ?_
  have C3 : CX w0 (sV (sV (sV w 191 0 (ρ 5)) 191 1 dn) 191 2 la) 300 ρ := C2.sV (by unfold Ev; omega)
  have S3 := C3.1
  refine s_cO (KF S3 rfl) (z0_couples C3 (s_ckI ⟨by omega, by omega⟩ (s_asI (KF S3 rfl) (by decide) ⟨by decide, by decide⟩ ?_)))
  have ev : EV w (sV (sV (sV (sV w 191 0 (ρ 5)) 191 1 dn) 191 2 la) 191 3 (cou ρ)) := (((EV.rf.sV (by unfold Ev; omega)).sV (by unfold Ev; omega)).sV (by unfold Ev; omega)).sV (by unfold Ev; omega)
  refine z0_tells_48 (dn := dn) (la := la) 6 FU 0 _ (by decide) (by decide) (by decide) (C.ev ev) (fun j a b => ?_) (fun w' e' C' h' => hq w' (ev.tr e') C' (fun j a b => ⟨h' j a b, orE_in C hd hl j a b⟩))
  rcases (by omega : j = 0 ∨ j = 1 ∨ j = 2 ∨ j = 3) with z | z | z | z <;> subst z
  · exact (gV_ne (by omega)).trans ((gV_ne (by omega)).trans ((gV_ne (by omega)).trans gV_at))
  · exact (gV_ne (by omega)).trans ((gV_ne (by omega)).trans gV_at)
  · exact (gV_ne (by omega)).trans gV_at
  · exact gV_at
/-- what a sum tells -/
theorem z0_told (C : CX w0 w 300 ρ) (hE : SetE w E 16) (hs : SumR w0 true op ar 60 k a b) (hq : Q (tolV w0 E (some k)) w) : wp_X18_told (some k) (some 190) w Q := by
  have S := C.1
  have hq : Q (match evS w0 E 60 k with
    | none => -1
    | some v => if 0 ≤ v ∧ v < 1000000 then v else -1) w := hq
  unfold wp_X18_told
  refine s_dO (c_sum (N := 16) S C.2.2.2.2.1 (by decide) (fun v a b h => valOp_lt h) hE 60 60 k a b (by decide) hs _ _ (fun v ev h1 h2 => ?_) (fun ev => ?_))
  · rw [ev] at hq
    dsimp only at hq
    refine s_ckL ⟨by omega, by omega⟩ (s_br (fun y => ?_) (fun y => s_ckL ⟨by omega, by omega⟩ (s_br (fun z => ?_) (fun z => ?_))))
    · rw [if_neg (by omega)] at hq; exact hq
    · rw [if_pos ⟨by omega, z⟩] at hq; exact hq
    · rw [if_neg (by omega)] at hq; exact hq
  · rw [ev] at hq
    exact s_cO (KF S rfl) hq
theorem tolV_in {o : Option Nat} : -1 ≤ tolV w E o ∧ tolV w E o < 1000000 := by
  unfold tolV
  cases o with
  | none => show (-1 : Int) ≤ -1 ∧ (-1 : Int) < 1000000; decide
  | some k =>
    dsimp only
    cases evS w E 60 k with
    | none => show (-1 : Int) ≤ -1 ∧ (-1 : Int) < 1000000; decide
    | some v =>
      dsimp only
      split <;> omega
/-- whether it is so -/
theorem z0_isNow (C : CX w0 w 300 ρ) (hE : SetE w E 16) (hO : OrdR w0 op ar L k f) (hq : (nowV w0 E k = 0 ∨ nowV w0 E k = 1) → Q (nowV w0 E k) w) : wp_X18_isNow k (some 190) w Q := by
  have S := C.1
  have H := C.2.2.2.2.1
  obtain ⟨⟨o1, o2⟩, _, _, _, _, o6⟩ := hO
  have hk := H k o1 (by rw [o2]; exact fun z => by cases z)
  have kk : gK w k = some (.inl 15) := hk.1.trans o2
  unfold wp_X18_isNow
  unfold nowV at hq
  split at o6
  · rw [o6] at hq
    refine s_gfR kk ((hk.2.2 5).trans o6) (s_br (fun _ => ?_) (fun y => absurd rfl y))
    unfold wp_X18_isNow_18
    exact s_zr (Or.inr rfl) (hq (Or.inr rfl))
  · obtain ⟨t, g1, g2⟩ := o6
    rw [g1] at hq
    dsimp only at hq
    refine s_gfR kk ((hk.2.2 5).trans g1) (s_br (fun y => by cases y) (fun _ => s_gfR kk ((hk.2.2 5).trans g1) (s_dO (c_test (N := 16) S H (by decide) (fun v a b h => valOp_lt h) hE 40 40 t _ _ (by decide) g2 _ _ (fun v ev hv => ?_) (fun ev => ?_)))))
    · rw [ev] at hq
      dsimp only at hq
      refine s_ckI ⟨by omega, by omega⟩ (s_br (fun y => ?_) (fun y => ?_))
      · rw [y] at hq
        exact s_zr (Or.inl rfl) (hq (Or.inl rfl))
      · unfold wp_X18_isNow_18
        have e : v = 1 := by omega
        rw [e] at hq
        exact s_zr (Or.inr rfl) (hq (Or.inr rfl))
    · rw [ev] at hq
      exact s_cO (KF S rfl) (s_zr (Or.inl rfl) (hq (Or.inl rfl)))
/-- an order is run -/
theorem z0_runs (C : CU w0 w s) (hE : SetE w E 16) (hO : OrdR w0 op ar L k f) (hq : ∀ w', FCW w w' → CU w0 w' (runF w0 k E s).2 → Q (runF w0 k E s).1 w') : wp_X0_runs 100 (some k) w Q := by
  have S := C.1.1
  have H := C.1.2.2.2.2.1
  obtain ⟨⟨o1, o2⟩, ⟨o3, o4, o5⟩, _, o6, _, _⟩ := hO
  have hk := H k o1 (by rw [o2]; exact fun z => by cases z)
  have kk : gK w k = some (.inl 15) := hk.1.trans o2
  have v0 : gV w k 0 = f 0 := (hk.2.1 0).trans o3
  unfold runF at hq
  rw [o3] at hq
  have t1 := tolV_in (w := w0) (E := E) (o := gR w0 k 1)
  have t2 := tolV_in (w := w0) (E := E) (o := gR w0 k 2)
  have t3 := tolV_in (w := w0) (E := E) (o := gR w0 k 3)
  unfold wp_X0_runs
  refine s_dO (s_gfI kk v0 (s_ckI ⟨by omega, by omega⟩ (s_br (fun z => ?_) (fun z => ?_))))
  · rw [if_neg z] at hq
    have n2 : 2 ≤ nsO (f 0) := by
      unfold nsO
      rw [if_neg z]
      split <;> decide
    have p0 := o6 0 (by decide)
    have p1 := o6 1 (by decide)
    rw [if_pos (by omega)] at p0 p1
    obtain ⟨s0, g0, g1, _⟩ := p0
    obtain ⟨s1, h0, h1, _⟩ := p1
    have g0 : gR w0 k 1 = some s0 := g0
    have h0 : gR w0 k 2 = some s1 := h0
    rw [g0] at t1
    rw [h0] at t2
    rw [g0, h0] at hq
    refine s_gfR kk ((hk.2.2 1).trans g0) (s_gfR (KF S rfl) (RF S rfl) (z0_told C.1 hE g1 (s_gfR kk ((hk.2.2 2).trans h0) (s_gfR (KF S rfl) (RF S rfl) (z0_told C.1 hE h1 (s_gfI kk v0 (s_ckI ⟨by omega, by omega⟩ (s_br (fun z0 => s_gfI kk v0 (s_ckI ⟨by omega, by omega⟩ (s_br (fun z1 => s_cO (KF S rfl) ?_) (fun z1 => s_cO (KF S rfl) ?_)))) (fun z0 => ?_)))))))))
    · rw [if_neg z0, if_neg z1] at hq
      exact z0_wedsKept C ⟨by omega, by omega⟩ ⟨by omega, by omega⟩ hq
    · rw [if_neg z0, if_pos (Decidable.not_not.mp z1)] at hq
      exact z0_snapsKept C ⟨by omega, by omega⟩ ⟨by omega, by omega⟩ hq
    · have z0 : f 0 = 0 := Decidable.not_not.mp z0
      rw [if_pos z0] at hq
      have p2 := o6 2 (by decide)
      have n3 : nsO (f 0) = 3 := by rw [z0]; rfl
      rw [n3, if_pos (by decide)] at p2
      obtain ⟨s2, i0, i1, _⟩ := p2
      have i0 : gR w0 k 3 = some s2 := i0
      rw [i0] at t3 hq
      exact s_gfR kk ((hk.2.2 3).trans i0) (s_gfR (KF S rfl) (RF S rfl) (z0_told C.1 hE i1 (s_cO (KF S rfl) (z0_pullsKept C ⟨by omega, by omega⟩ ⟨by omega, by omega⟩ ⟨by omega, by omega⟩ hq))))
  · rw [if_pos (Decidable.not_not.mp z)] at hq
    exact s_cO (KF S rfl) (z0_passesKept C hq)
theorem runF_ok (U : SOKs s) : Fok s (runF w0 k E s) := by
  unfold runF
  split
  · exact pasF_ok U
  · split
    · exact pulF_ok U
    · split
      · exact snaF_ok U
      · exact wedF_ok U
theorem ordF_ok {B : Int} {st2 : OS} (h : OOK st B) (e : ordF w0 k st = some st2) : OOK st2 (B + 1) ∧ ∀ j, j < 5 ∨ j = 6 ∨ j = 7 ∨ 80 ≤ j → st2.1.1 j = st.1.1 j := by
  obtain ⟨h1, h2, h3⟩ := h
  unfold ordF at e
  split at e
  · injection e with e
    subst e
    exact ⟨⟨h1, ⟨h2.1, by omega⟩, h3⟩, fun _ _ => rfl⟩
  · split at e
    · cases e
    · next z =>
      injection e with e
      have r := runF_ok (w0 := w0) (k := k) (E := orE st.1.1 st.2.1 st.2.2) h1
      generalize runF w0 k (orE st.1.1 st.2.1 st.2.2) st.1 = p at e r z
      subst e
      obtain ⟨r1, r2, r3, r4⟩ := r
      refine ⟨⟨r3, ⟨by show 0 ≤ st.2.1 + 1; omega, by show st.2.1 + 1 ≤ B + 1; omega⟩, ?_⟩, r4⟩
      show -1 ≤ (if gV w0 k 0 = 2 then p.1 else st.2.2) ∧ (if gV w0 k 0 = 2 then p.1 else st.2.2) ≤ 1000
      split <;> omega
/-- when it can't be -/
def OFL (Q : Int → Wd → Prop) (x3 x6 : Int) (w : Wd) : Prop := cO w 100 1 <| wp_X0_putsBack 100 x3 w fun w18 => pfI w18 100 1 14 x6 fun w20 => cO w20 100 1 <| wp_X0_refuse 100 (-3) w20 fun r21 w22 => Q r21 w22
/-- one order, by times -/
theorem z0_143 {K114 : Int → Int → Int → Nat → Nat → Wd → Prop} {X114 : Int → Nat → Nat → Wd → Prop} {X143 : Int → Int → Nat → Nat → Wd → Prop} {x2 bc bs : Nat} {x3 x6 : Int} (hO : OrdR w0 op ar L k f) : ∀ (n fuel : Nat) (x8 B : Int) (st : OS) (w : Wd), x8 + n = f 9 → n < fuel → 0 ≤ x8 → B + n ≤ 1000 → CU w0 w st.1 → OOK st B → (∀ st2 w', ordT w0 k n st = some st2 → FCW w w' → CU w0 w' st2.1 → OOK st2 (B + n) → (∀ j, j < 5 ∨ j = 6 ∨ j = 7 ∨ 80 ≤ j → st2.1.1 j = st.1.1 j) → X143 st2.2.1 st2.2.2 bc bs w') → (∀ w' s2, ordT w0 k n st = none → FCW w w' → CU w0 w' s2 → (∀ j, j < 5 ∨ j = 6 ∨ j = 7 ∨ 80 ≤ j → s2.1 j = st.1.1 j) → OFL Q x3 x6 w') → wp_X0_orders_143 Q K114 X114 X143 100 x2 x3 x6 (some k) fuel st.2.1 st.2.2 x8 bc bs w := by
  have o1 := hO.1
  have o4 := hO.2.2.1
  intro n
  induction n with
  | zero =>
    intro fuel x8 B st w hx hf h8 hB C hs hq hX
    obtain ⟨g, rfl⟩ : ∃ g, fuel = g + 1 := ⟨fuel - 1, by omega⟩
    have hk := C.1.2.2.2.2.1 k o1.1 (by rw [o1.2]; exact fun z => by cases z)
    rw [wp_X0_orders_143]
    refine s_dO (s_gfI (hk.1.trans o1.2) ((hk.2.1 4).trans o4.1) (s_ckI ⟨by omega, by omega⟩ (s_ckI ⟨by omega, by omega⟩ (s_br (fun _ => ?_) (fun y => absurd (by omega) y)))))
    exact hq st w rfl FCW.rf C ⟨hs.1, ⟨hs.2.1.1, by have := hs.2.1.2; omega⟩, hs.2.2⟩ (fun _ _ => rfl)
  | succ n ih =>
    intro fuel x8 B st w hx hf h8 hB C hs hq hX
    obtain ⟨g, rfl⟩ : ∃ g, fuel = g + 1 := ⟨fuel - 1, by omega⟩
    have S := C.1.1
    have hk := C.1.2.2.2.2.1 k o1.1 (by rw [o1.2]; exact fun z => by cases z)
    have e0 : ordT w0 k (n + 1) st = match ordF w0 k st with
      | none => none
      | some st2 => ordT w0 k n st2 := rfl
    -- behind one that was done or left
    have go : ∀ (st2 : OS) (w2 : Wd), ordF w0 k st = some st2 → FCW w w2 → CU w0 w2 st2.1 → wp_X0_orders_143 Q K114 X114 X143 100 x2 x3 x6 (some k) g st2.2.1 st2.2.2 (x8 + 1) bc bs w2 := by
      intro st2 w2 e f2 C2
      rw [e] at e0
      have e0 : ordT w0 k (n + 1) st = ordT w0 k n st2 := e0
      obtain ⟨q1, q2⟩ := ordF_ok hs e
      refine ih g (x8 + 1) (B + 1) st2 w2 (by omega) (by omega) (by omega) (by omega) C2 q1 (fun st3 w3 e3 f3 C3 h3 j3 => hq st3 w3 (e0.trans e3) (f2.tr f3) C3 ?_ (fun j hj => (j3 j hj).trans (q2 j hj))) (fun w3 s3 e3 f3 C3 j3 => hX w3 s3 (e0.trans e3) (f2.tr f3) C3 (fun j hj => (j3 j hj).trans (q2 j hj)))
      have eB : B + ((n + 1 : Nat) : Int) = B + 1 + n := by omega
      rw [eB]
      exact h3
    rw [wp_X0_orders_143]
    have hd := hs.2.1
    have hl := hs.2.2
    refine s_dO (s_gfI (hk.1.trans o1.2) ((hk.2.1 4).trans o4.1) (s_ckI ⟨by omega, by omega⟩ (s_ckI ⟨by omega, by omega⟩ (s_br (fun y => absurd y (by omega)) (fun _ => s_cO (KF S rfl) (z0_tellsOrder C.1 ⟨hd.1, by omega⟩ hl (fun w1 e1 C1 E1 => ?_)))))))
    have S1 := C1.1
    have CU1 : CU w0 w1 st.1 := ⟨C1, C.2.ev e1⟩
    have hk1 := C1.2.2.2.2.1 k o1.1 (by rw [o1.2]; exact fun z => by cases z)
    refine s_gfR (KF S1 rfl) (RF S1 rfl) (s_cO (hk1.1.trans o1.2) (z0_isNow C1 E1 hO (fun hn => s_ckI ⟨by omega, by omega⟩ (s_br (fun y => ?_) (fun y => ?_)))))
    · refine s_cO (KF S1 rfl) (z0_runs CU1 E1 hO (fun w2 f2 C2 => ?_))
      have r := runF_ok (w0 := w0) (k := k) (E := orE st.1.1 st.2.1 st.2.2) hs.1
      have S2 := C2.1.1
      have hk2 := C2.1.2.2.2.2.1 k o1.1 (by rw [o1.2]; exact fun z => by cases z)
      refine s_ckI ⟨by have := r.1; omega, by have := r.2.1; omega⟩ (s_br (fun z => ?_) (fun z => ?_))
      · have e : ordF w0 k st = some ((runF w0 k (orE st.1.1 st.2.1 st.2.2) st.1).2, st.2.1 + 1, if gV w0 k 0 = 2 then (runF w0 k (orE st.1.1 st.2.1 st.2.2) st.1).1 else st.2.2) := by
          unfold ordF
          rw [if_neg y, if_neg (by omega)]
        have ge := go _ w2 e (e1.fc.tr f2) C2
        have v0 : gV w2 k 0 = gV w0 k 0 := hk2.2.1 0
        have v1 := hO.2.1
        refine s_gfI (hk2.1.trans o1.2) v0 (s_ckI ⟨by omega, by omega⟩ (s_br (fun z2 => ?_) (fun z2 => ?_)))
        · rw [if_neg z2] at ge
          exact ge
        · rw [if_pos (Decidable.not_not.mp z2)] at ge
          exact ge
      · have e : ordF w0 k st = none := by
          unfold ordF
          rw [if_neg y, if_pos (by omega)]
        rw [e] at e0
        exact hX w2 _ e0 (e1.fc.tr f2) C2 r.2.2.2
    · have y : nowV w0 (orE st.1.1 st.2.1 st.2.2) k = 0 := Decidable.not_not.mp y
      have e : ordF w0 k st = some st := by
        unfold ordF
        rw [if_pos y]
      exact go st w1 e e1.fc CU1
end CORDER
