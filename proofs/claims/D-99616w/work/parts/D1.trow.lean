/-! THE PLAIN LAW: texts: the twin's clauses: heads, rows -/
set_option maxRecDepth 100000
/-- the code of sums, of a test that may be, of a clause, of clauses -/
def cdU (ord : Bool) (l : List Su) (C : OPS) : OPS := l.foldl (fun D a => apS ord a D) C
def cdT (ord : Bool) (o : Option Te) (C : OPS) : OPS := match o with
  | none => C
  | some t => apT ord t C
def cdC (ord : Bool) (c : Cl) (C : OPS) : OPS := cdT ord c.2.2.2 (cdU ord c.2.1 C)
def cdL (ord : Bool) (l : List Cl) : OPS := l.foldl (fun D c => cdC ord c D) []
theorem cdL_snoc {ord : Bool} {l : List Cl} {c : Cl} : cdL ord (l ++ [c]) = cdC ord c (cdL ord l) := by
  unfold cdL
  rw [List.foldl_append]
  rfl
/-- all the same but what reading a text writes; but the rows of clauses -/
def FX (w w' : Wd) : Prop := Sm w w' ∧ ∀ k j, ¬ (k = 0 ∧ ((14 ≤ j ∧ j ≤ 17) ∨ (18 ≤ j ∧ j ≤ 19 ∧ gV w' 0 19 ≠ 0) ∨ j = 21 ∨ j = 23 ∨ j = 26 ∨ j = 29 ∨ j = 30)) → ¬ (22 ≤ k ∧ k ≤ 28) → k ≠ 54 → gV w' k j = gV w k j
def FRW (w w' : Wd) : Prop := Sm w w' ∧ ∀ k j, ¬ (k = 0 ∧ j = 21) → k ≠ 22 → k ≠ 54 → gV w' k j = gV w k j
/-- a row of a clause: m places from b on -/
def ROW (kk : Nat) (w : Wd) (b m : Int) (f : Int → Int) : Prop := ∀ o, 0 ≤ o → o < m → gV w kk (b + o) = f o
def udp (f : Int → Int) (o v : Int) : Int → Int := fun j => if j = o then v else f j
/-- gone wrong at e, outside expressions -/
def BDC (T : Int → Int) (N : Int) (w : Wd) (e : Int) : Prop := TTX T N w ∧ gV w 0 19 = 1 ∧ gV w 0 18 = e
section TROW
variable {T : Int → Int} {N : Int} {ord : Bool} {w w' w1 w2 : Wd} {kk k t n g : Nat} {s : LX} {p : Int × Int} {P C L : OPS} {v x i lo o a x1 b m e : Int} {Q : Int → Wd → Prop} {QW X : Wd → Prop} {f : Int → Int}
theorem FX.rf : FX w w := ⟨Sm.rf, fun _ _ _ _ _ => rfl⟩
theorem FX.tr (h1 : FX w w1) (h2 : FX w1 w2) : FX w w2 := ⟨h1.1.tr h2.1, fun k j a b c => (h2.2 k j a b c).trans (h1.2 k j (fun y => a ⟨y.1, by
  rcases y.2 with u | u | u
  · exact Or.inl u
  · by_cases z : gV w2 0 19 = 0
    · exact absurd ((h2.2 0 19 (by omega) (by omega) (by decide)).symm.trans z) u.2.2
    · exact Or.inr (Or.inl ⟨u.1, u.2.1, z⟩)
  · exact Or.inr (Or.inr u)⟩) b c)⟩
theorem FRW.rf : FRW w w := ⟨Sm.rf, fun _ _ _ _ _ => rfl⟩
theorem FRW.tr (h1 : FRW w w1) (h2 : FRW w1 w2) : FRW w w2 := ⟨h1.1.tr h2.1, fun k j a b c => (h2.2 k j a b c).trans (h1.2 k j a b c)⟩
theorem FRW.sV (h : FRW w w') (hj : (k = 0 ∧ i = 21) ∨ k = 22 ∨ k = 54) : FRW w (sV w' k i x) := ⟨h.1.sV, fun k' j' a b c => by
  rw [gV_ne (by rintro ⟨rfl, rfl⟩; rcases hj with y | y | y <;> contradiction)]
  exact h.2 k' j' a b c⟩
theorem FRW.fx (h : FRW w w') : FX w w' := ⟨h.1, fun k j a b c => h.2 k j (fun y => a ⟨y.1, by omega⟩) (fun y => b (by omega)) c⟩
theorem FE.fx (h : FE w w') : FX w w' := ⟨h.1, fun k j a b _ => h.2 k j (fun y => a ⟨y.1, by omega⟩) (fun y => b (by omega))⟩
theorem TTX.fx (h : TTX T N w) (f : FX w w') : TTX T N w' := ⟨h.1.sm f.1, h.2.1, (f.2 0 13 (by omega) (by omega) (by decide)).trans h.2.2.1, fun q a b => by rw [f.2 12 q (by omega) (by omega) (by decide)]; exact h.2.2.2 q a b⟩
theorem CFG.fx (h : CFG ord w) (f : FX w w') : CFG ord w' := by
  obtain ⟨h1, h2, h3, h4, h5, h6⟩ := h
  exact ⟨(f.2 0 20 (by omega) (by omega) (by decide)).trans h1, fun j hj => (f.2 31 j (by omega) (by omega) (by decide)).trans (h2 j hj), fun j hj => (f.2 32 j (by omega) (by omega) (by decide)).trans (h3 j hj), fun j hj => (f.2 33 j (by omega) (by omega) (by decide)).trans (h4 j hj), fun j hj => (f.2 52 j (by omega) (by omega) (by decide)).trans (h5 j hj), fun j hj => (f.2 53 j (by omega) (by omega) (by decide)).trans (h6 j hj)⟩
theorem TWC.fr (h : TWC T N w s C) (f : FRW w w') : TWC T N w' s C := by
  obtain ⟨⟨t1, t2, t3, t4, t5⟩, q2, q3, q4, q5, r2, r4, q7⟩ := h
  exact ⟨⟨t1.fx f.fx, (f.2 0 14 (by omega) (by decide) (by decide)).trans t2, (f.2 0 15 (by omega) (by decide) (by decide)).trans t3, (f.2 0 16 (by omega) (by decide) (by decide)).trans t4, (f.2 0 17 (by omega) (by decide) (by decide)).trans t5⟩, q2, (f.2 0 19 (by omega) (by decide) (by decide)).trans q3, (f.2 0 26 (by omega) (by decide) (by decide)).trans q4, q5, (f.2 0 23 (by omega) (by decide) (by decide)).trans r2, r4.fr (fun i _ => ⟨f.2 24 _ (by omega) (by decide) (by decide), f.2 25 _ (by omega) (by decide) (by decide)⟩), q7⟩
theorem BDE.c (h : BDE T N w e) : BDC T N w e := ⟨h.1, h.2.1, h.2.2.1⟩
theorem BDC.fr (h : BDC T N w e) (f : FRW w w') : BDC T N w' e := ⟨h.1.fx f.fx, (f.2 0 19 (by omega) (by decide) (by decide)).trans h.2.1, (f.2 0 18 (by omega) (by decide) (by decide)).trans h.2.2⟩
theorem TWQ.c (h : TWQ T N w s [] C) (hd : s.2.2.2 = 0) : TWC T N w s C := by
  obtain ⟨h1, h2, h3, h4, h5, ⟨r1, r2, r3, r4, r5⟩, h7⟩ := h
  exact ⟨h1, h2, h3, h4, hd, r2, r4, by have h7 : ((C.length + 0 : Nat) : Int) ≤ s.1 := h7; omega⟩
theorem TWC.n400 (h : TWC T N w s C) : C.length ≤ 400 := by
  have a := h.2.2.2.2.2.2.2
  have b := h.2.1.1
  have c := h.1.1.2.1
  omega
theorem TWC.fn {t9 : LX} (h : TWC T N w s C) (f : FN 14 w w') (R : TWX T N w' t9) (Lk : LOK T N t9) (h1 : t9.2.2.1 = s.2.2.1) (h2 : t9.2.2.2 = 0) (h3 : s.1 ≤ t9.1) : TWC T N w' t9 C := by
  obtain ⟨_, _, q3, q4, q5, r2, r4, q7⟩ := h
  exact ⟨R, Lk, (f.2 0 19 (by omega)).trans q3, by rw [h1]; exact (f.2 0 26 (by omega)).trans q4, h2, (f.2 0 23 (by omega)).trans r2, r4.fr (fun i _ => ⟨f.2 24 _ (by omega), f.2 25 _ (by omega)⟩), by omega⟩
/-- one token on, outside expressions -/
theorem c5_next (h : TWC T N w s C) (hq : ∀ w', FN 14 w w' → TWC T N w' (nxS T N s) C → QW w') : wp_X5_next 0 w QW := by
  have h2 := h.2.1
  have t := h2.to
  have L0 := h2.1
  have nx := h2.nx
  exact y5_next h.1 (by omega) t.1.2 (fun w' f R => hq w' f (h.fn f R nx.1 rfl h.2.2.2.2.1 (by omega)))
theorem c5_must (h : TWC T N w s C) {b : Prop} [Decidable b] (h1 : b → ∀ w', FE w w' → TWC T N w' (nxS T N s) C → QW w') (h0 : ¬ b → ∀ w', FE w w' → BDC T N w' s.1 → QW w') : wp_X5_must 0 (b2i b) w QW := by
  have S := h.1.1.1
  have e19 := h.2.2.1
  unfold wp_X5_must
  refine s_gfI (KF S rfl) e19 (s_ckI ⟨by decide, by decide⟩ (s_br (fun y => absurd rfl y) (fun _ => s_ckI b2i_in ?_)))
  by_cases z : b
  · rw [b2i_t z]
    refine s_br (fun _ => ?_) (fun y => absurd (by decide) y)
    unfold wp_X5_must_24
    exact s_gfI (KF S rfl) e19 (s_ckI ⟨by decide, by decide⟩ (s_br (fun y => absurd rfl y) (fun _ => s_cO (KF S rfl) (c5_next h (fun w' f h' => h1 z w' f.fe h')))))
  · rw [b2i_f z]
    refine s_br (fun y => absurd rfl y) (fun _ => ?_)
    refine s_pfZ (KF S rfl) (Or.inr rfl) ?_
    have S1 : SOK (sV w 0 19 1) := S
    refine s_gfI (KF S1 rfl) ((gV_ne (by omega)).trans h.1.2.1) (s_pfI (KF S1 rfl) ?_)
    have S2 : SOK (sV (sV w 0 19 1) 0 18 s.1) := S
    unfold wp_X5_must_24
    have f2 : FE w (sV (sV w 0 19 1) 0 18 s.1) := fe_bad FE.rf
    refine s_gfI (KF S2 rfl) ((gV_ne (by omega)).trans gV_at) (s_ckI ⟨by decide, by decide⟩ (s_br (fun _ => h0 z _ f2 ⟨h.1.1.fe f2, (gV_ne (by omega)).trans gV_at, gV_at⟩) (fun y => absurd (by decide) y)))
theorem c5_must1 (h : TWC T N w s C) (h1 : ∀ w', FE w w' → TWC T N w' (nxS T N s) C → QW w') : wp_X5_must 0 1 w QW := c5_must (b := True) h (fun _ => h1) (fun y => absurd trivial y)
theorem c5_must0 (h : TWC T N w s C) (h0 : ∀ w', FE w w' → BDC T N w' s.1 → QW w') : wp_X5_must 0 0 w QW := c5_must (b := False) h (fun y => y.elim) (fun _ => h0)
theorem ROW.set (h : ROW kk w b m f) : ROW kk (sV w kk (b + o) v) b m (udp f o v) := fun j h0 hm => by
  unfold udp
  by_cases z : j = o
  · rw [if_pos z, z]; exact gV_at
  · rw [if_neg z, gV_ne (by omega)]; exact h j h0 hm
theorem ROW.fr (h : ROW kk w b m f) (hv : ∀ j, b ≤ j → j < b + m → gV w' kk j = gV w kk j) : ROW kk w' b m f := fun j h0 hm => (hv (b + j) (by omega) (by omega)).trans (h j h0 hm)
theorem wd_vc : ∀ i : Fin 4, ∀ j : Fin 4, wdS (16 + i.val) = wdS (16 + j.val) → i = j := by decide +kernel
theorem wd_vd : ∀ i : Fin 4, ∀ j : Fin 4, wdS (36 + i.val) = wdS (36 + j.val) → i = j := by decide +kernel
theorem wd_wc : ∀ j : Fin 4, (1 ≤ (wdS (16 + j.val)).length ∧ (wdS (16 + j.val)).length ≤ 10) ∧ (∀ c ∈ wdS (16 + j.val), 97 ≤ c ∧ c ≤ 122) ∧ headsT.getD j.val 0 = hvR (wdS (16 + j.val)).reverse ∧ -1 ≤ headsT.getD j.val 0 ∧ headsT.getD j.val 0 ≤ 1125899906842624 := by decide +kernel
theorem wd_wd : ∀ j : Fin 4, (1 ≤ (wdS (36 + j.val)).length ∧ (wdS (36 + j.val)).length ≤ 10) ∧ (∀ c ∈ wdS (36 + j.val), 97 ≤ c ∧ c ≤ 122) ∧ actsT.getD j.val 0 = hvR (wdS (36 + j.val)).reverse ∧ -1 ≤ actsT.getD j.val 0 ∧ actsT.getD j.val 0 ≤ 1125899906842624 := by decide +kernel
theorem y5_readLaw_4 {X9 : Int → Wd → Prop} (R : TWX T N w s) (L : LOK T N s) (hC : ConR w) : ∀ (m fuel j : Nat) (x1 : Int), j + m = 4 → m < fuel → (-1 ≤ x1 ∧ x1 ≤ 3) → (∀ z, -1 ≤ z ∧ z ≤ 3 → z = (if fiW T (16 + j) m j s = -1 then x1 else fiW T (16 + j) m j s) → (X9 z w)) → wp_X5_readLaw_4 QW X9 0 fuel x1 j w := by
  have S := R.1.1
  intro m
  induction m with
  | zero =>
    intro fuel j x1 hj hf hx hq
    obtain ⟨f, rfl⟩ : ∃ f, fuel = f + 1 := ⟨fuel - 1, by omega⟩
    rw [wp_X5_readLaw_4]
    refine s_ckI ⟨by omega, by omega⟩ (s_br (fun _ => ?_) (fun y => absurd (by omega) y))
    have e : fiW T (16 + j) 0 j s = -1 := rfl
    refine hq x1 hx ?_
    rw [if_pos e]
  | succ m ih =>
    intro fuel j x1 hj hf hx hq
    obtain ⟨f, rfl⟩ : ∃ f, fuel = f + 1 := ⟨fuel - 1, by omega⟩
    have wa := wd_wc ⟨j, by omega⟩
    dsimp only at wa
    have ew := hC.2.2.1 j (by omega)
    rw [wp_X5_readLaw_4]
    refine s_ckI ⟨by omega, by omega⟩ (s_br (fun y => absurd y (by omega)) (fun _ => s_gfA (KF S rfl) (RF S rfl) (s_alI (KF S rfl) (by decide) ⟨by omega, by omega⟩ ew (s_cO (KF S rfl) (y5_isWord (j := 16 + j) R L wa.1.1 wa.1.2 wa.2.1 wa.2.2.1 ⟨by omega, by omega⟩ (s_ckI b2i_in ?_))))))
    have ej : (j : Int) + 1 = ((j + 1 : Nat) : Int) := by omega
    have e20 : 16 + j + 1 = 16 + (j + 1) := by omega
    by_cases z : tkT T (16 + j) s = true
    · rw [b2i_t z]
      refine s_br (fun y => absurd y (by decide)) (fun _ => ?_)
      unfold wp_X5_readLaw_27
      rw [ej]
      have e1 : fiW T (16 + j) (m + 1) j s = j := fiW_t z
      have e2 : fiW T (16 + (j + 1)) m ((j + 1 : Nat) : Int) s = -1 := by
        rcases fiW_in (T := T) (s := s) m (16 + (j + 1)) ((j + 1 : Nat) : Int) with g | ⟨g1, g2⟩
        · exact g
        · exfalso
          have q := wd_vc ⟨j, by omega⟩ ⟨j + 1 + (fiW T (16 + (j + 1)) m ((j + 1 : Nat) : Int) s - ((j + 1 : Nat) : Int)).toNat, by omega⟩ (by
            have := tk_two z g2
            dsimp only
            rw [this, Nat.add_assoc])
          have q := congrArg Fin.val q
          dsimp only at q
          omega
      refine ih f (j + 1) _ (by omega) (by omega) ⟨by omega, by omega⟩ (fun y9 b9 e9 => hq y9 b9 ?_)
      rw [if_pos e2] at e9
      rw [if_neg (by omega), e1]
      exact e9
    · rw [b2i_f z]
      refine s_br (fun _ => ?_) (fun y => absurd rfl y)
      unfold wp_X5_readLaw_27
      rw [ej]
      have e1 : fiW T (16 + j) (m + 1) j s = fiW T (16 + j + 1) m (j + 1) s := fiW_s z
      refine ih f (j + 1) _ (by omega) (by omega) hx (fun y9 b9 e9 => hq y9 b9 ?_)
      rw [e1, e20, ej]
      exact e9
theorem y5_readOrder_4 {X9 : Int → Wd → Prop} (R : TWX T N w s) (L : LOK T N s) (hC : ConR w) : ∀ (m fuel j : Nat) (x1 : Int), j + m = 4 → m < fuel → (-1 ≤ x1 ∧ x1 ≤ 3) → (∀ z, -1 ≤ z ∧ z ≤ 3 → z = (if fiW T (36 + j) m j s = -1 then x1 else fiW T (36 + j) m j s) → (X9 z w)) → wp_X5_readOrder_4 QW X9 0 fuel x1 j w := by
  have S := R.1.1
  intro m
  induction m with
  | zero =>
    intro fuel j x1 hj hf hx hq
    obtain ⟨f, rfl⟩ : ∃ f, fuel = f + 1 := ⟨fuel - 1, by omega⟩
    rw [wp_X5_readOrder_4]
    refine s_ckI ⟨by omega, by omega⟩ (s_br (fun _ => ?_) (fun y => absurd (by omega) y))
    have e : fiW T (36 + j) 0 j s = -1 := rfl
    refine hq x1 hx ?_
    rw [if_pos e]
  | succ m ih =>
    intro fuel j x1 hj hf hx hq
    obtain ⟨f, rfl⟩ : ∃ f, fuel = f + 1 := ⟨fuel - 1, by omega⟩
    have wa := wd_wd ⟨j, by omega⟩
    dsimp only at wa
    have ew := hC.2.2.2.1 j (by omega)
    rw [wp_X5_readOrder_4]
    refine s_ckI ⟨by omega, by omega⟩ (s_br (fun y => absurd y (by omega)) (fun _ => s_gfA (KF S rfl) (RF S rfl) (s_alI (KF S rfl) (by decide) ⟨by omega, by omega⟩ ew (s_cO (KF S rfl) (y5_isWord (j := 36 + j) R L wa.1.1 wa.1.2 wa.2.1 wa.2.2.1 ⟨by omega, by omega⟩ (s_ckI b2i_in ?_))))))
    have ej : (j : Int) + 1 = ((j + 1 : Nat) : Int) := by omega
    have e20 : 36 + j + 1 = 36 + (j + 1) := by omega
    by_cases z : tkT T (36 + j) s = true
    · rw [b2i_t z]
      refine s_br (fun y => absurd y (by decide)) (fun _ => ?_)
      unfold wp_X5_readOrder_27
      rw [ej]
      have e1 : fiW T (36 + j) (m + 1) j s = j := fiW_t z
      have e2 : fiW T (36 + (j + 1)) m ((j + 1 : Nat) : Int) s = -1 := by
        rcases fiW_in (T := T) (s := s) m (36 + (j + 1)) ((j + 1 : Nat) : Int) with g | ⟨g1, g2⟩
        · exact g
        · exfalso
          have q := wd_vd ⟨j, by omega⟩ ⟨j + 1 + (fiW T (36 + (j + 1)) m ((j + 1 : Nat) : Int) s - ((j + 1 : Nat) : Int)).toNat, by omega⟩ (by
            have := tk_two z g2
            dsimp only
            rw [this, Nat.add_assoc])
          have q := congrArg Fin.val q
          dsimp only at q
          omega
      refine ih f (j + 1) _ (by omega) (by omega) ⟨by omega, by omega⟩ (fun y9 b9 e9 => hq y9 b9 ?_)
      rw [if_pos e2] at e9
      rw [if_neg (by omega), e1]
      exact e9
    · rw [b2i_f z]
      refine s_br (fun _ => ?_) (fun y => absurd rfl y)
      unfold wp_X5_readOrder_27
      rw [ej]
      have e1 : fiW T (36 + j) (m + 1) j s = fiW T (36 + j + 1) m (j + 1) s := fiW_s z
      refine ih f (j + 1) _ (by omega) (by omega) hx (fun y9 b9 e9 => hq y9 b9 ?_)
      rw [e1, e20, ej]
      exact e9
theorem y5_readLaw_75 {x2 : Int} (S : SOK w) (hb : 0 ≤ b ∧ b ≤ 88) : ∀ (m fuel : Nat) (j : Int) (w : Wd), j + m = 8 → m < fuel → 0 ≤ j → SOK w → (∀ o, 0 ≤ o → o < j → gV w 22 (b + o) = 0) → (∀ w', FRW w w' → gV w' 0 21 = gV w 0 21 → (∀ q, q < b → gV w' 22 q = gV w 22 q) → ROW 22 w' b 8 (fun _ => 0) → X w') → wp_X5_readLaw_75 QW X 0 x2 b fuel j w := by
  intro m
  induction m with
  | zero =>
    intro fuel j w hj hf h0 S hz hq
    obtain ⟨f, rfl⟩ : ∃ f, fuel = f + 1 := ⟨fuel - 1, by omega⟩
    rw [wp_X5_readLaw_75]
    exact s_ckI ⟨by omega, by omega⟩ (s_br (fun _ => hq w FRW.rf rfl (fun _ _ => rfl) (fun o a c => hz o a (by omega))) (fun y => absurd (by omega) y))
  | succ m ih =>
    intro fuel j w hj hf h0 S hz hq
    obtain ⟨f, rfl⟩ : ∃ f, fuel = f + 1 := ⟨fuel - 1, by omega⟩
    rw [wp_X5_readLaw_75]
    refine s_ckI ⟨by omega, by omega⟩ (s_br (fun y => absurd y (by omega)) (fun _ => s_gfA (KF S rfl) (RF S rfl) (s_asI (KF S rfl) (by decide) ⟨by omega, by omega⟩ ?_)))
    have S1 : SOK (sV w 22 (b + j) 0) := S
    refine ih f (j + 1) _ (by omega) (by omega) (by omega) S1 (fun o a c => ?_) (fun w' f1 e1 e2 r => hq w' ((FRW.rf.sV (Or.inr (Or.inl rfl))).tr f1) (e1.trans (gV_ne (by omega))) (fun q hq2 => (e2 q hq2).trans (gV_ne (by omega))) r)
    by_cases z : o = j
    · rw [z]; exact gV_at
    · exact (gV_ne (by omega)).trans (hz o a (by omega))
theorem y5_readOrder_85 {x2 : Int} (S : SOK w) (hb : 0 ≤ b ∧ b ≤ 110) : ∀ (m fuel : Nat) (j : Int) (w : Wd), j + m = 10 → m < fuel → 0 ≤ j → SOK w → (∀ o, 0 ≤ o → o < j → gV w 54 (b + o) = 0) → (∀ w', FRW w w' → gV w' 0 21 = gV w 0 21 → (∀ q, q < b → gV w' 54 q = gV w 54 q) → ROW 54 w' b 10 (fun _ => 0) → X w') → wp_X5_readOrder_85 QW X 0 x2 b fuel j w := by
  intro m
  induction m with
  | zero =>
    intro fuel j w hj hf h0 S hz hq
    obtain ⟨f, rfl⟩ : ∃ f, fuel = f + 1 := ⟨fuel - 1, by omega⟩
    rw [wp_X5_readOrder_85]
    exact s_ckI ⟨by omega, by omega⟩ (s_br (fun _ => hq w FRW.rf rfl (fun _ _ => rfl) (fun o a c => hz o a (by omega))) (fun y => absurd (by omega) y))
  | succ m ih =>
    intro fuel j w hj hf h0 S hz hq
    obtain ⟨f, rfl⟩ : ∃ f, fuel = f + 1 := ⟨fuel - 1, by omega⟩
    rw [wp_X5_readOrder_85]
    refine s_ckI ⟨by omega, by omega⟩ (s_br (fun y => absurd y (by omega)) (fun _ => s_gfA (KF S rfl) (RF S rfl) (s_asI (KF S rfl) (by decide) ⟨by omega, by omega⟩ ?_)))
    have S1 : SOK (sV w 54 (b + j) 0) := S
    refine ih f (j + 1) _ (by omega) (by omega) (by omega) S1 (fun o a c => ?_) (fun w' f1 e1 e2 r => hq w' ((FRW.rf.sV (Or.inr (Or.inr rfl))).tr f1) (e1.trans (gV_ne (by omega))) (fun q hq2 => (e2 q hq2).trans (gV_ne (by omega))) r)
    by_cases z : o = j
    · rw [z]; exact gV_at
    · exact (gV_ne (by omega)).trans (hz o a (by omega))
end TROW
