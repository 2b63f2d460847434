/-! THE PLAIN LAW: texts: the component's reader, token by token -/
set_option maxRecDepth 100000
def k67 (w : Wd) (r : Nat) : Prop := gK w r = some (.inl 16) ∨ gK w r = some (.inl 17)
/-- the tape -/
def TPE (T : Int → Int) (N : Int) (w : Wd) : Prop := (0 ≤ N ∧ N ≤ 400) ∧ gK w 110 = some (.inr (2, 400)) ∧ ∀ q, 0 ≤ q → q < 400 → (0 ≤ T q ∧ T q ≤ 255) ∧ ((gV w 110 q = T q ∧ T q < 128) ∨ (gV w 110 q = T q - 256 ∧ 128 ≤ T q))
/-- the reader at r stands at s -/
def RDX (T : Int → Int) (N : Int) (w : Wd) (r : Nat) (s : LX) : Prop := (1000 ≤ r ∧ k67 w r ∧ gR w r 0 = some 110 ∧ TPE T N w) ∧ gV w r 1 = N ∧ gV w r 3 = s.1 ∧ gV w r 4 = s.2.1 ∧ gV w r 5 = s.2.2.1 ∧ gV w r 6 = s.2.2.2
/-- what lexing changes -/
def LW (r : Nat) (w w' : Wd) : Prop := Sm w w' ∧ ∀ k j, ¬ (k = r ∧ 3 ≤ j ∧ j ≤ 6) → gV w' k j = gV w k j
section LEX
variable {T : Int → Int} {N : Int} {w w' w1 w2 : Wd} {r k t n : Nat} {s : LX} {P : Prop} {v x i : Int} {KI : Int → Prop} {KN : Nat → Prop} {KW : Wd → Prop} {Q : Int → Wd → Prop} {QW X : Wd → Prop}
theorem s_gf2 (h : k67 w k) (q : P) : gf2 w k 16 17 P := ⟨h, q⟩
theorem s_gfI2 {m : Nat} (h : k67 w k) (e : gV w k (OfNat.ofNat m : Int) = v) (q : KI v) : gfI2 w k 16 17 (OfNat.ofNat m : Nat) KI := ⟨h, by subst e; exact q⟩
theorem s_gfA2 {m : Nat} (h : k67 w k) (e : gR w k (OfNat.ofNat m : Int) = some t) (q : KN t) : gfA2 w k 16 17 (OfNat.ofNat m : Nat) KN := ⟨h, t, e, q⟩
theorem s_pfI2 {m : Nat} (h : k67 w k) (q : KW (sV w k (OfNat.ofNat m : Int) x)) : pfI2 w k 16 17 (OfNat.ofNat m : Nat) x KW := ⟨h, q⟩
theorem LW.rf : LW r w w := ⟨Sm.rf, fun _ _ _ => rfl⟩
theorem LW.tr (h1 : LW r w w1) (h2 : LW r w1 w2) : LW r w w2 := ⟨h1.1.tr h2.1, fun k j h => (h2.2 k j h).trans (h1.2 k j h)⟩
theorem LW.sV {j : Int} (h : LW r w w') (hj : 3 ≤ j ∧ j ≤ 6) : LW r w (sV w' r j x) := ⟨h.1.sV, fun k' j' hn => by
  rw [gV_ne (fun e => hn ⟨e.1, by omega⟩)]
  exact h.2 k' j' hn⟩
theorem TPE.fr (h : TPE T N w) (hK : gK w' 110 = gK w 110) (hV : ∀ q, gV w' 110 q = gV w 110 q) : TPE T N w' := ⟨h.1, hK.trans h.2.1, fun q a b => by rw [hV]; exact h.2.2 q a b⟩
theorem RDX.lw {s2 : LX} (h : RDX T N w r s) (f : LW r w w') (e3 : gV w' r 3 = s2.1) (e4 : gV w' r 4 = s2.2.1) (e5 : gV w' r 5 = s2.2.2.1) (e6 : gV w' r 6 = s2.2.2.2) : RDX T N w' r s2 := by
  obtain ⟨⟨h1, h2, h3, h4⟩, h5, _⟩ := h
  exact ⟨⟨h1, by unfold k67; rw [f.1.1]; exact h2, (f.1.2 _ _).trans h3, h4.fr (f.1.1 _) (fun q => f.2 110 q (by omega))⟩, (f.2 r 1 (by omega)).trans h5, e3, e4, e5, e6⟩
theorem k67.sV {j : Int} (h : k67 w r) : k67 (sV w k j x) r := h
/-- a sign of the tape, compared with one of 0 .. 127 -/
theorem x6_isIn {lo hi p : Int} (h : RDX T N w r s) (hp : 0 ≤ p ∧ p ≤ 400) (hl : 0 < lo ∧ lo ≤ hi ∧ hi ≤ 127) (hq : Q (b2i (p < N ∧ lo ≤ T p ∧ T p ≤ hi)) w) : wp_X6_isIn r p lo hi w Q := by
  obtain ⟨⟨h1, h2, h3, h4⟩, h5, _⟩ := h
  obtain ⟨t1, t2, t3⟩ := h4
  unfold wp_X6_isIn
  refine s_gfI2 h2 h5 (s_ckI ⟨by omega, by omega⟩ (s_ckI ⟨by omega, by omega⟩ (s_br (fun z => ?_) (fun z => ?_))))
  · rw [b2i_f (by omega)] at hq
    exact s_zr (Or.inl rfl) hq
  · have g := t3 p hp.1 (by omega)
    obtain ⟨c, hc⟩ : ∃ c, gV w 110 p = c := ⟨_, rfl⟩
    rw [hc] at g
    refine s_gfA2 h2 h3 (s_alI t2 (by decide) ⟨by omega, by omega⟩ hc (s_ckI ⟨by omega, by omega⟩ (s_ckI ⟨by omega, by omega⟩ (s_br (fun z2 => ?_) (fun z2 => ?_)))))
    · rw [b2i_f (by omega)] at hq
      exact s_zr (Or.inl rfl) hq
    · refine s_gfA2 h2 h3 (s_alI t2 (by decide) ⟨by omega, by omega⟩ hc (s_ckI ⟨by omega, by omega⟩ (s_ckI ⟨by omega, by omega⟩ (s_br (fun z3 => ?_) (fun z3 => ?_)))))
      · rw [b2i_f (by omega)] at hq
        exact s_zr (Or.inl rfl) hq
      · rw [b2i_t (by omega)] at hq
        exact s_zr (Or.inr rfl) hq
theorem x6_next_8 : ∀ (m fuel : Nat) (s : LX) (w : Wd), (N - s.1).toNat ≤ m → m < fuel → 0 ≤ s.1 → s.1 ≤ N → RDX T N w r s → (∀ w', LW r w w' → RDX T N w' r (skN T N s.1, s.2) → X w') → wp_X6_next_8 QW X r fuel w := by
  intro m
  induction m with
  | zero =>
    intro fuel s w h1 h2 h3 h4 R hq
    obtain ⟨f, rfl⟩ : ∃ f, fuel = f + 1 := ⟨fuel - 1, by omega⟩
    have hN := R.1.2.2.2.1
    rw [wp_X6_next_8]
    refine s_gfI2 R.1.2.1 R.2.2.1 (s_gf2 R.1.2.1 (x6_isIn R ⟨h3, by omega⟩ (by decide) ?_))
    rw [b2i_f (by omega)]
    refine s_ckI ⟨by decide, by decide⟩ (s_br (fun _ => ?_) (fun y => absurd rfl y))
    refine hq w LW.rf ?_
    have e : skN T N s.1 = s.1 := ruN_en (by omega)
    rw [e]; exact R
  | succ m ih =>
    intro fuel s w h1 h2 h3 h4 R hq
    obtain ⟨f, rfl⟩ : ∃ f, fuel = f + 1 := ⟨fuel - 1, by omega⟩
    have hN := R.1.2.2.2.1
    rw [wp_X6_next_8]
    refine s_gfI2 R.1.2.1 R.2.2.1 (s_gf2 R.1.2.1 (x6_isIn R ⟨h3, by omega⟩ (by decide) ?_))
    refine s_ckI b2i_in ?_
    by_cases z : s.1 < N ∧ 32 ≤ T s.1 ∧ T s.1 ≤ 32
    · rw [b2i_t z]
      refine s_br (fun y => absurd y (by decide)) (fun _ => ?_)
      have e : skN T N s.1 = skN T N (s.1 + 1) := ruN_st z.1 (by unfold blB; exact decide_eq_true (by omega))
      have f1 : LW r w (sV w r 3 (s.1 + 1)) := LW.rf.sV (by decide)
      refine s_gfI2 R.1.2.1 R.2.2.1 (s_pfI2 R.1.2.1 ?_)
      refine ih f (s.1 + 1, s.2) _ (by show (N - (s.1 + 1)).toNat ≤ m; omega) (by omega) (by show 0 ≤ s.1 + 1; omega) (by show s.1 + 1 ≤ N; omega) (R.lw f1 gV_at ((gV_ne (by omega)).trans R.2.2.2.1) ((gV_ne (by omega)).trans R.2.2.2.2.1) ((gV_ne (by omega)).trans R.2.2.2.2.2)) (fun w' f2 R2 => hq w' (f1.tr f2) ?_)
      rw [e]; exact R2
    · rw [b2i_f z]
      refine s_br (fun _ => ?_) (fun y => absurd rfl y)
      refine hq w LW.rf ?_
      have e : skN T N s.1 = s.1 := ruN_en (fun y => z ⟨y.1, by have := y.2; unfold blB at this; have := of_decide_eq_true this; omega⟩)
      rw [e]; exact R
theorem x6_next_59 : ∀ (m fuel : Nat) (s : LX) (w : Wd), (N - s.2.1).toNat ≤ m → m < fuel → 0 ≤ s.2.1 → s.2.1 ≤ N → RDX T N w r s → (∀ w', LW r w w' → RDX T N w' r (s.1, ruN T N smB s.2.1, s.2.2) → QW w') → wp_X6_next_59 QW r fuel w := by
  intro m
  induction m with
  | zero =>
    intro fuel s w h1 h2 h3 h4 R hq
    obtain ⟨f, rfl⟩ : ∃ f, fuel = f + 1 := ⟨fuel - 1, by omega⟩
    have hN := R.1.2.2.2.1
    rw [wp_X6_next_59]
    refine s_gfI2 R.1.2.1 R.2.2.2.1 (s_gf2 R.1.2.1 (x6_isIn R ⟨h3, by omega⟩ (by decide) ?_))
    rw [b2i_f (by omega)]
    refine s_ckI ⟨by decide, by decide⟩ (s_br (fun _ => ?_) (fun y => absurd rfl y))
    refine hq w LW.rf ?_
    have e : ruN T N smB s.2.1 = s.2.1 := ruN_en (by omega)
    rw [e]; exact R
  | succ m ih =>
    intro fuel s w h1 h2 h3 h4 R hq
    obtain ⟨f, rfl⟩ : ∃ f, fuel = f + 1 := ⟨fuel - 1, by omega⟩
    have hN := R.1.2.2.2.1
    rw [wp_X6_next_59]
    refine s_gfI2 R.1.2.1 R.2.2.2.1 (s_gf2 R.1.2.1 (x6_isIn R ⟨h3, by omega⟩ (by decide) ?_))
    refine s_ckI b2i_in ?_
    by_cases z : s.2.1 < N ∧ 97 ≤ T s.2.1 ∧ T s.2.1 ≤ 122
    · rw [b2i_t z]
      refine s_br (fun y => absurd y (by decide)) (fun _ => ?_)
      have e : ruN T N smB s.2.1 = ruN T N smB (s.2.1 + 1) := ruN_st z.1 (by unfold smB; exact decide_eq_true z.2)
      have f1 : LW r w (sV w r 4 (s.2.1 + 1)) := LW.rf.sV (by decide)
      refine s_gfI2 R.1.2.1 R.2.2.2.1 (s_pfI2 R.1.2.1 ?_)
      refine ih f (s.1, s.2.1 + 1, s.2.2) _ (by show (N - (s.2.1 + 1)).toNat ≤ m; omega) (by omega) (by show 0 ≤ s.2.1 + 1; omega) (by show s.2.1 + 1 ≤ N; omega) (R.lw f1 ((gV_ne (by omega)).trans R.2.2.1) gV_at ((gV_ne (by omega)).trans R.2.2.2.2.1) ((gV_ne (by omega)).trans R.2.2.2.2.2)) (fun w' f2 R2 => hq w' (f1.tr f2) ?_)
      rw [e]; exact R2
    · rw [b2i_f z]
      refine s_br (fun _ => ?_) (fun y => absurd rfl y)
      refine hq w LW.rf ?_
      have e : ruN T N smB s.2.1 = s.2.1 := ruN_en (fun y => z ⟨y.1, by have := y.2; unfold smB at this; exact of_decide_eq_true this⟩)
      rw [e]; exact R
theorem x6_next_102 : ∀ (m fuel : Nat) (s : LX) (w : Wd), (N - s.2.1).toNat ≤ m → m < fuel → 0 ≤ s.2.1 → s.2.1 ≤ N → RDX T N w r s → (∀ w', LW r w w' → RDX T N w' r (s.1, ruN T N dgB s.2.1, s.2.2) → QW w') → wp_X6_next_102 QW r fuel w := by
  intro m
  induction m with
  | zero =>
    intro fuel s w h1 h2 h3 h4 R hq
    obtain ⟨f, rfl⟩ : ∃ f, fuel = f + 1 := ⟨fuel - 1, by omega⟩
    have hN := R.1.2.2.2.1
    rw [wp_X6_next_102]
    refine s_gfI2 R.1.2.1 R.2.2.2.1 (s_gf2 R.1.2.1 (x6_isIn R ⟨h3, by omega⟩ (by decide) ?_))
    rw [b2i_f (by omega)]
    refine s_ckI ⟨by decide, by decide⟩ (s_br (fun _ => ?_) (fun y => absurd rfl y))
    refine hq w LW.rf ?_
    have e : ruN T N dgB s.2.1 = s.2.1 := ruN_en (by omega)
    rw [e]; exact R
  | succ m ih =>
    intro fuel s w h1 h2 h3 h4 R hq
    obtain ⟨f, rfl⟩ : ∃ f, fuel = f + 1 := ⟨fuel - 1, by omega⟩
    have hN := R.1.2.2.2.1
    rw [wp_X6_next_102]
    refine s_gfI2 R.1.2.1 R.2.2.2.1 (s_gf2 R.1.2.1 (x6_isIn R ⟨h3, by omega⟩ (by decide) ?_))
    refine s_ckI b2i_in ?_
    by_cases z : s.2.1 < N ∧ 48 ≤ T s.2.1 ∧ T s.2.1 ≤ 57
    · rw [b2i_t z]
      refine s_br (fun y => absurd y (by decide)) (fun _ => ?_)
      have e : ruN T N dgB s.2.1 = ruN T N dgB (s.2.1 + 1) := ruN_st z.1 (by unfold dgB; exact decide_eq_true z.2)
      have f1 : LW r w (sV w r 4 (s.2.1 + 1)) := LW.rf.sV (by decide)
      refine s_gfI2 R.1.2.1 R.2.2.2.1 (s_pfI2 R.1.2.1 ?_)
      refine ih f (s.1, s.2.1 + 1, s.2.2) _ (by show (N - (s.2.1 + 1)).toNat ≤ m; omega) (by omega) (by show 0 ≤ s.2.1 + 1; omega) (by show s.2.1 + 1 ≤ N; omega) (R.lw f1 ((gV_ne (by omega)).trans R.2.2.1) gV_at ((gV_ne (by omega)).trans R.2.2.2.2.1) ((gV_ne (by omega)).trans R.2.2.2.2.2)) (fun w' f2 R2 => hq w' (f1.tr f2) ?_)
      rw [e]; exact R2
    · rw [b2i_f z]
      refine s_br (fun _ => ?_) (fun y => absurd rfl y)
      refine hq w LW.rf ?_
      have e : ruN T N dgB s.2.1 = s.2.1 := ruN_en (fun y => z ⟨y.1, by have := y.2; unfold dgB at this; exact of_decide_eq_true this⟩)
      rw [e]; exact R
theorem x6_next (R : RDX T N w r s) (h0 : 0 ≤ s.2.1) (hN : s.2.1 ≤ N) (hq : ∀ w', LW r w w' → RDX T N w' r (nxS T N s) → QW w') : wp_X6_next r w QW := by
  have hN9 := R.1.2.2.2.1
  have sk := skN_sp (T := T) hN
  unfold wp_X6_next
  refine s_gfI2 R.1.2.1 R.2.2.2.1 (s_pfI2 R.1.2.1 ?_)
  have f1 : LW r w (sV w r 3 s.2.1) := LW.rf.sV (by decide)
  have R1 : RDX T N (sV w r 3 s.2.1) r (s.2.1, s.2) := R.lw f1 gV_at ((gV_ne (by omega)).trans R.2.2.2.1) ((gV_ne (by omega)).trans R.2.2.2.2.1) ((gV_ne (by omega)).trans R.2.2.2.2.2)
  refine x6_next_8 400 FU (s.2.1, s.2) _ (by show (N - s.2.1).toNat ≤ 400; omega) (by decide) h0 hN R1 (fun w2 f2 R2 => ?_)
  have R2 : RDX T N w2 r (skN T N s.2.1, s.2) := R2
  refine s_gfI2 R2.1.2.1 R2.2.2.1 (s_pfI2 R2.1.2.1 ?_)
  have f3 : LW r w2 (sV w2 r 4 (skN T N s.2.1)) := LW.rf.sV (by decide)
  have R3 : RDX T N (sV w2 r 4 (skN T N s.2.1)) r (skN T N s.2.1, skN T N s.2.1, s.2.2) := R2.lw f3 ((gV_ne (by omega)).trans R2.2.2.1) gV_at ((gV_ne (by omega)).trans R2.2.2.2.2.1) ((gV_ne (by omega)).trans R2.2.2.2.2.2)
  have f03 := f1.tr (f2.tr f3)
  clear f1 f2 f3 R1 R2
  generalize sV w2 r 4 (skN T N s.2.1) = w3 at *
  have fin : ∀ w' e, LW r w3 w' → RDX T N w' r (skN T N s.2.1, e, s.2.2) → e = teN T N (skN T N s.2.1) → QW w' := fun w' e f R e9 => hq w' (f03.tr f) (by rw [e9] at R; exact R)
  clear hq
  unfold teN at fin
  refine s_gfI2 R3.1.2.1 R3.2.2.1 (s_gf2 R3.1.2.1 (x6_isIn R3 ⟨by omega, by omega⟩ (by decide) (s_ckI b2i_in ?_)))
  by_cases z1 : skN T N s.2.1 < N ∧ 97 ≤ T (skN T N s.2.1) ∧ T (skN T N s.2.1) ≤ 122
  · rw [b2i_t z1]
    refine s_br (fun y => absurd y (by decide)) (fun _ => ?_)
    refine x6_next_59 400 FU (skN T N s.2.1, skN T N s.2.1, s.2.2) w3 (by show (N - skN T N s.2.1).toNat ≤ 400; omega) (by decide) (by show 0 ≤ skN T N s.2.1; omega) sk.1.2 R3 (fun w' f R => fin w' _ f R ?_)
    rw [if_pos ⟨z1.1, by unfold smB; exact decide_eq_true z1.2⟩]
  · have n1 : ¬ (skN T N s.2.1 < N ∧ smB (T (skN T N s.2.1)) = true) := fun y => z1 ⟨y.1, by have := y.2; unfold smB at this; exact of_decide_eq_true this⟩
    rw [b2i_f z1]
    refine s_br (fun _ => ?_) (fun y => absurd rfl y)
    refine s_gfI2 R3.1.2.1 R3.2.2.1 (s_gf2 R3.1.2.1 (x6_isIn R3 ⟨by omega, by omega⟩ (by decide) (s_ckI b2i_in ?_)))
    by_cases z2 : skN T N s.2.1 < N ∧ 48 ≤ T (skN T N s.2.1) ∧ T (skN T N s.2.1) ≤ 57
    · rw [b2i_t z2]
      refine s_br (fun y => absurd y (by decide)) (fun _ => ?_)
      refine x6_next_102 400 FU (skN T N s.2.1, skN T N s.2.1, s.2.2) w3 (by show (N - skN T N s.2.1).toNat ≤ 400; omega) (by decide) (by show 0 ≤ skN T N s.2.1; omega) sk.1.2 R3 (fun w' f R => fin w' _ f R ?_)
      rw [if_neg n1, if_pos ⟨z2.1, by unfold dgB; exact decide_eq_true z2.2⟩]
    · have n2 : ¬ (skN T N s.2.1 < N ∧ dgB (T (skN T N s.2.1)) = true) := fun y => z2 ⟨y.1, by have := y.2; unfold dgB at this; exact of_decide_eq_true this⟩
      rw [b2i_f z2]
      refine s_br (fun _ => ?_) (fun y => absurd rfl y)
      refine s_gfI2 R3.1.2.1 R3.2.2.1 (s_gfI2 R3.1.2.1 R3.2.1 (s_ckI ⟨by omega, by omega⟩ (s_ckI ⟨by omega, by omega⟩ (s_br (fun z3 => ?_) (fun z3 => ?_)))))
      · refine fin w3 _ LW.rf R3 ?_
        rw [if_neg n1, if_neg n2, if_neg (by omega)]
      · refine s_gfI2 R3.1.2.1 R3.2.2.2.1 (s_pfI2 R3.1.2.1 ?_)
        refine fin _ (skN T N s.2.1 + 1) (LW.rf.sV (by decide)) (R3.lw (LW.rf.sV (by decide)) ((gV_ne (by omega)).trans R3.2.2.1) gV_at ((gV_ne (by omega)).trans R3.2.2.2.2.1) ((gV_ne (by omega)).trans R3.2.2.2.2.2)) ?_
        rw [if_neg n1, if_neg n2, if_pos (by omega)]
theorem str_in : ∀ i, i < 45 → ∀ c ∈ (strA i).2.2.2, 1 ≤ c ∧ c ≤ 127 := by decide +kernel
theorem isr0 : ∀ l : Fin 16, isr (l.val : Int) 0 = (l.val : Int) := by decide +kernel
theorem str_16 : ∀ i, i < 45 → (strA i).2.2.2.length < 16 := by decide +kernel
theorem x9_length {i : Nat} (hi : i < 45) (hq : Q ((wdS i).length : Int) w) : wp_J9_length (900 + i) w Q := by
  unfold wp_J9_length wp_J9_coder
  have e : isr ((strA i).2.2.2.length : Int) 0 = ((strA i).2.2.2.length : Int) := isr0 ⟨(strA i).2.2.2.length, str_16 i hi⟩
  refine ⟨i, hi, rfl, i, hi, rfl, ⟨i, hi, rfl⟩, s_br (fun y => absurd y (by decide)) (fun _ => ⟨i, hi, rfl, s_zr (Or.inl rfl) ?_⟩)⟩
  show Q (isr ((strA i).2.2.2.length : Int) 0) w
  rw [e]
  exact hq
theorem nC8 : ∀ c : Fin 128, nC (ian (c.val : Int) 255) = (c.val : Int) := by decide +kernel
theorem x9_charAt {i j : Nat} (hi : i < 45) (hj : j < (wdS i).length) (hq : Q ((wdS i).getD j 0) w) : wp_J9_charAt (900 + i) (j : Int) w Q := by
  have hl := str_16 i hi
  have hj2 : j < (strA i).2.2.2.length := hj
  have hc := str_in i hi ((strA i).2.2.2.getD j 0) (by
    rw [List.getD_eq_getElem?_getD, List.getElem?_eq_getElem hj2]
    exact List.getElem_mem _)
  have e : nC (ian ((strA i).2.2.2.getD j 0) 255) = (strA i).2.2.2.getD j 0 := by
    have h := nC8 ⟨((strA i).2.2.2.getD j 0).toNat, by omega⟩
    have e2 : ((((strA i).2.2.2.getD j 0).toNat : Nat) : Int) = (strA i).2.2.2.getD j 0 := by omega
    dsimp only at h
    rw [e2] at h
    exact h
  have hq : Q ((strA i).2.2.2.getD j 0) w := hq
  unfold wp_J9_charAt wp_J9_isLatin1 wp_J10_charAt
  refine ⟨⟨i, hi, rfl⟩, s_br (fun y => absurd y (by decide)) (fun _ => ⟨i, hi, rfl, s_ckI ⟨by decide, by decide⟩ (s_br (fun y => absurd rfl y) (fun _ => s_zr (Or.inr rfl) ?_))⟩)⟩
  refine s_ckI ⟨by decide, by decide⟩ (s_br (fun y => absurd y (by decide)) (fun _ => ?_))
  refine ⟨i, hi, rfl, s_dO ⟨i, hi, rfl, ?_⟩⟩
  unfold wp_J9_checkIndex wp_J7_checkIndex
  intro o1
  refine s_ckI ⟨by omega, by omega⟩ (s_br (fun y => absurd y (by omega)) (fun _ => s_ckI ⟨by omega, by omega⟩ (s_ckI ⟨by omega, by omega⟩ (s_br (fun _ => ?_) (fun y => absurd (by omega) y)))))
  refine ⟨i, hi, rfl, ⟨by omega, by omega⟩, ?_⟩
  have ej : ((j : Int)).toNat = j := by omega
  rw [ej]
  show cr (nC (ian ((strA i).2.2.2.getD j 0) 255)) (cr (nC (ian ((strA i).2.2.2.getD j 0) 255)) (Q (nC (ian ((strA i).2.2.2.getD j 0) 255)) w))
  rw [e]
  exact ⟨⟨by omega, by omega⟩, ⟨by omega, by omega⟩, hq⟩
theorem x6_is_20 {i : Nat} (hi : i < 45) (R : RDX T N w r s) (h0 : 0 ≤ s.1) (hl : s.1 + (wdS i).length ≤ N) : ∀ (m fuel j : Nat), j + m = (wdS i).length → m < fuel → (∀ q : Nat, q < j → T (s.1 + q) = (wdS i).getD q 0) → ((∀ q : Nat, q < (wdS i).length → T (s.1 + q) = (wdS i).getD q 0) → Q 1 w) → ((∃ q : Nat, q < (wdS i).length ∧ T (s.1 + q) ≠ (wdS i).getD q 0) → Q 0 w) → wp_X6_is_20 Q r (some (900 + i)) fuel (j : Int) w := by
  have hN9 := R.1.2.2.2.1
  have h16 := str_16 i hi
  have h16 : (wdS i).length < 16 := h16
  intro m
  induction m with
  | zero =>
    intro fuel j h1 h2 hp hy hn
    obtain ⟨f, rfl⟩ : ∃ f, fuel = f + 1 := ⟨fuel - 1, by omega⟩
    rw [wp_X6_is_20]
    refine s_dO ⟨⟨i, hi, rfl⟩, x9_length hi (s_ckI ⟨by omega, by omega⟩ (s_ckI ⟨by omega, by omega⟩ (s_br (fun _ => s_zr (Or.inr rfl) (hy (fun q hq => hp q (by omega)))) (fun y => absurd (by omega) y))))⟩
  | succ m ih =>
    intro fuel j h1 h2 hp hy hn
    obtain ⟨f, rfl⟩ : ∃ f, fuel = f + 1 := ⟨fuel - 1, by omega⟩
    have g := R.1.2.2.2.2.2 (s.1 + j) (by omega) (by omega)
    obtain ⟨c, hc⟩ : ∃ c, gV w 110 (s.1 + j) = c := ⟨_, rfl⟩
    rw [hc] at g
    have hm := str_in i hi ((wdS i).getD j 0) (by
      rw [List.getD_eq_getElem?_getD, List.getElem?_eq_getElem (show j < (wdS i).length by omega)]
      exact List.getElem_mem _)
    rw [wp_X6_is_20]
    refine s_dO ⟨⟨i, hi, rfl⟩, x9_length hi (s_ckI ⟨by omega, by omega⟩ (s_ckI ⟨by omega, by omega⟩ (s_br (fun y => absurd y (by omega)) (fun _ => ?_))))⟩
    refine s_gfA2 R.1.2.1 R.1.2.2.1 (s_gfI2 R.1.2.1 R.2.2.1 (s_alI R.1.2.2.2.2.1 (by decide) ⟨by omega, by omega⟩ hc ⟨⟨i, hi, rfl⟩, x9_charAt hi (by omega) (s_ckI ⟨by omega, by omega⟩ (s_ckI ⟨by omega, by omega⟩ (s_br (fun y => ?_) (fun y => ?_))))⟩))
    · have ej : (j : Int) + 1 = ((j + 1 : Nat) : Int) := by omega
      rw [ej]
      refine ih f (j + 1) (by omega) (by omega) (fun q hq => ?_) hy hn
      by_cases e : q = j
      · rw [e]; omega
      · exact hp q (by omega)
    · exact s_zr (Or.inl rfl) (hn ⟨j, by omega, by omega⟩)
theorem x6_is {i : Nat} (hi : i < 45) (R : RDX T N w r s) (L : LOK T N s) (hq : Q (b2i (tkT T i s = true)) w) : wp_X6_is r (some (900 + i)) w Q := by
  have hN9 := R.1.2.2.2.1
  have t := L.to
  have h16 := str_16 i hi
  have h16 : (wdS i).length < 16 := h16
  have L0 := L.1
  unfold wp_X6_is
  refine s_gfI2 R.1.2.1 R.2.2.2.1 (s_gfI2 R.1.2.1 R.2.2.1 (s_dO ⟨⟨i, hi, rfl⟩, x9_length hi (s_ckI ⟨by omega, by omega⟩ (s_ckI ⟨by omega, by omega⟩ (s_br (fun z => ?_) (fun z => ?_))))⟩))
  · have en : (s.2.1 - s.1).toNat = (wdS i).length := by omega
    have hx := rcT_iff (T := T) (f := s.1) (s.2.1 - s.1).toNat (wdS i)
    refine x6_is_20 hi R (by omega) (by omega) (wdS i).length FU 0 (by omega) (by unfold FU; omega) (fun q hq => absurd hq (by omega)) (fun ha => ?_) (fun ha => ?_)
    · rw [b2i_t (by unfold tkT isT; exact decide_eq_true (hx.mpr ⟨en, fun k hk => ha k (by omega)⟩))] at hq
      exact hq
    · rw [b2i_f (by
        unfold tkT isT
        intro y
        obtain ⟨q, q1, q2⟩ := ha
        exact q2 ((hx.mp (of_decide_eq_true y)).2 q (by omega)))] at hq
      exact hq
  · rw [b2i_f (by intro y; have := isT_len y; omega)] at hq
    exact s_zr (Or.inl rfl) hq
theorem x6_takes {i : Nat} (hi : i < 45) (R : RDX T N w r s) (L : LOK T N s) (h1 : tkT T i s = true → ∀ w', LW r w w' → RDX T N w' r (nxS T N s) → Q 1 w') (h0 : ¬ tkT T i s = true → Q 0 w) : wp_X6_takes r (some (900 + i)) w Q := by
  have t := L.to
  have L0 := L.1
  unfold wp_X6_takes
  refine s_gf2 R.1.2.1 (x6_is hi R L (s_ckI b2i_in ?_))
  by_cases z : tkT T i s = true
  · rw [b2i_t z]
    refine s_br (fun y => absurd y (by decide)) (fun _ => s_gf2 R.1.2.1 (x6_next R (by omega) t.1.2 (fun w' f R' => s_zr (Or.inr rfl) (h1 z w' f R'))))
  · rw [b2i_f z]
    exact s_br (fun _ => s_zr (Or.inl rfl) (h0 z)) (fun y => absurd rfl y)
end LEX
