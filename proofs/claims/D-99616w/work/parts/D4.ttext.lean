/-! THE PLAIN LAW: texts: the twin reads a whole text -/
set_option maxRecDepth 100000
/-- all the same but what a text's reading writes, from its begin to its end -/
def FZ (w w' : Wd) : Prop := Sm w w' ∧ ∀ k j, ¬ (k = 0 ∧ ((13 ≤ j ∧ j ≤ 21) ∨ j = 23 ∨ j = 26 ∨ j = 29 ∨ j = 30)) → ¬ (22 ≤ k ∧ k ≤ 28) → k ≠ 54 → gV w' k j = gV w k j
/-- a text is read: clauses and code lie there -/
def DNT (ord : Bool) (kk : Nat) (m : Int) (w : Wd) (l : List Cl) : Prop := (gV w 0 13 = 0 ∧ gV w 0 20 = 0) ∧ gV w 0 21 = (l.length : Nat) ∧ l.length ≤ 12 ∧ gV w 0 23 = ((cdL ord l).length : Nat) ∧ (cdL ord l).length ≤ 400 ∧ COD w (cdL ord l) ∧ ∀ (i : Nat) (c : Cl), l[i]? = some c → ROW kk w (m * i) m (rwC ord c (cdL ord (l.take i)))
section TTEXT
variable {T : Int → Int} {N : Int} {ord : Bool} {w w' w0 w1 w2 : Wd} {kk k n g : Nat} {s t : LX} {C D : OPS} {v x i o a b m e : Int} {Q : Int → Wd → Prop} {QW X Y : Wd → Prop} {f f' : Int → Int} {l : List Cl} {c : Cl}
theorem FZ.rf : FZ w w := ⟨Sm.rf, fun _ _ _ _ _ => rfl⟩
theorem FZ.tr (h1 : FZ w w1) (h2 : FZ w1 w2) : FZ w w2 := ⟨h1.1.tr h2.1, fun k j a b c => (h2.2 k j a b c).trans (h1.2 k j a b c)⟩
theorem FZ.sV (h : FZ w w') (hj : (13 ≤ i ∧ i ≤ 21) ∨ i = 23 ∨ i = 26 ∨ i = 29 ∨ i = 30) : FZ w (sV w' 0 i x) := ⟨h.1.sV, fun k' j' a b c => by
  rw [gV_ne (fun y => a ⟨y.1, by rw [y.2]; exact hj⟩)]
  exact h.2 k' j' a b c⟩
theorem FX.fz (h : FX w w') : FZ w w' := ⟨h.1, fun k j a b c => h.2 k j (fun y => a ⟨y.1, by omega⟩) b c⟩
theorem FN.fz (h : FN 14 w w') : FZ w w' := ⟨h.1, fun k j a _ _ => h.2 k j (fun y => a ⟨y.1, by omega⟩)⟩
/-- the twin begins a text -/
theorem q5_begin (R : TTX T N w) (hC : ConR w) (hx : x = if ord = true then 1 else 0) (hq : ∀ w', FZ w w' → TWL T N ord kk m w' (nxS T N (0, 0, 0, 0)) [] → gV w' 0 18 = -1 → QW w') : wp_X5_beginText 0 x w QW := by
  have S := R.1
  have x01 : x = 0 ∨ x = 1 := by rw [hx]; cases ord; exact Or.inl rfl; exact Or.inr rfl
  unfold wp_X5_beginText
  refine s_pfZ (KF S rfl) x01 ?_
  have S1 : SOK (sV w 0 20 x) := S
  refine s_cO (KF S1 rfl) ?_
  unfold wp_X5_begin
  refine s_pfI (KF S1 rfl) ?_
  have S2 : SOK (sV (sV w 0 20 x) 0 15 0) := S
  refine s_pfZ (KF S2 rfl) (Or.inl rfl) ?_
  have S3 : SOK (sV (sV (sV w 0 20 x) 0 15 0) 0 19 0) := S
  refine s_pfI (KF S3 rfl) ?_
  have S4 : SOK (sV (sV (sV (sV w 0 20 x) 0 15 0) 0 19 0) 0 18 (-1)) := S
  have f4 : FZ w (sV (sV (sV (sV w 0 20 x) 0 15 0) 0 19 0) 0 18 (-1)) := (((FZ.rf.sV (by decide)).sV (by decide)).sV (by decide)).sV (by decide)
  have e15 : gV (sV (sV (sV (sV w 0 20 x) 0 15 0) 0 19 0) 0 18 (-1)) 0 15 = 0 := (gV_ne (by omega)).trans ((gV_ne (by omega)).trans gV_at)
  have e18 : gV (sV (sV (sV (sV w 0 20 x) 0 15 0) 0 19 0) 0 18 (-1)) 0 18 = -1 := gV_at
  have e19 : gV (sV (sV (sV (sV w 0 20 x) 0 15 0) 0 19 0) 0 18 (-1)) 0 19 = 0 := (gV_ne (by omega)).trans gV_at
  have e20 : gV (sV (sV (sV (sV w 0 20 x) 0 15 0) 0 19 0) 0 18 (-1)) 0 20 = x := (gV_ne (by omega)).trans ((gV_ne (by omega)).trans ((gV_ne (by omega)).trans gV_at))
  have R4 : TTX T N (sV (sV (sV (sV w 0 20 x) 0 15 0) 0 19 0) 0 18 (-1)) := ⟨S4, R.2.1, (gV_ne (by omega)).trans ((gV_ne (by omega)).trans ((gV_ne (by omega)).trans ((gV_ne (by omega)).trans R.2.2.1))), fun q a b => by
    rw [gV_ne (by omega), gV_ne (by omega), gV_ne (by omega), gV_ne (by omega)]
    exact R.2.2.2 q a b⟩
  generalize sV (sV (sV (sV w 0 20 x) 0 15 0) 0 19 0) 0 18 (-1) = w4 at *
  refine s_cO (KF S4 rfl) (y5_next0 (s := (0, 0, 0, 0)) R4 e15 (by decide) R.2.1.1 (fun w5 f5 R5 => ?_))
  have S5 := R5.1.1
  refine s_pfI (KF S5 rfl) ?_
  have S6 : SOK (sV w5 0 21 0) := S5
  refine s_pfI (KF S6 rfl) ?_
  have S7 : SOK (sV (sV w5 0 21 0) 0 23 0) := S5
  refine s_pfI (KF S7 rfl) ?_
  have f7 : FX w5 (sV (sV (sV w5 0 21 0) 0 23 0) 0 26 0) := (FRW.rf.sV (Or.inl ⟨rfl, rfl⟩)).fx.tr ((FE.rf.sV (Or.inl (by decide))).sV (Or.inl (by decide))).fx
  have f8 : FZ w (sV (sV (sV w5 0 21 0) 0 23 0) 0 26 0) := f4.tr (f5.fz.tr f7.fz)
  have v9 : ∀ j : Int, j ≠ 21 → j ≠ 23 → j ≠ 26 → gV (sV (sV (sV w5 0 21 0) 0 23 0) 0 26 0) 0 j = gV w5 0 j := fun j a b c => (gV_ne (by omega)).trans ((gV_ne (by omega)).trans (gV_ne (by omega)))
  have z19 : gV w5 0 19 = 0 := (f5.2 0 19 (by omega)).trans e19
  refine hq _ f8 ⟨⟨⟨R5.1.fx f7, (v9 14 (by decide) (by decide) (by decide)).trans R5.2.1, (v9 15 (by decide) (by decide) (by decide)).trans R5.2.2.1, (v9 16 (by decide) (by decide) (by decide)).trans R5.2.2.2.1, (v9 17 (by decide) (by decide) (by decide)).trans R5.2.2.2.2⟩, LOK.st R.2.1.1, (v9 19 (by decide) (by decide) (by decide)).trans z19, gV_at, rfl, (gV_ne (by omega)).trans gV_at, fun i c hc => ?_, ?_⟩, ⟨?_, ?_⟩, ?_, Nat.zero_le _, fun i c hc => ?_⟩ ((v9 18 (by decide) (by decide) (by decide)).trans ((f5.2 0 18 (by omega)).trans e18))
  · have hc : ([] : OPS)[i]? = some c := hc
    rw [List.getElem?_nil] at hc
    cases hc
  · exact (LOK.st (T := T) R.2.1.1).1.1
  · exact (v9 20 (by decide) (by decide) (by decide)).trans ((f5.2 0 20 (by omega)).trans (e20.trans hx))
  · obtain ⟨h2, h3, h4, h5, h6⟩ := hC
    exact ⟨fun j hj => (f8.2 31 j (by omega) (by omega) (by decide)).trans (h2 j hj), fun j hj => (f8.2 32 j (by omega) (by omega) (by decide)).trans (h3 j hj), fun j hj => (f8.2 33 j (by omega) (by omega) (by decide)).trans (h4 j hj), fun j hj => (f8.2 52 j (by omega) (by omega) (by decide)).trans (h5 j hj), fun j hj => (f8.2 53 j (by omega) (by omega) (by decide)).trans (h6 j hj)⟩
  · exact (gV_ne (by omega)).trans ((gV_ne (by omega)).trans gV_at)
  · rw [List.getElem?_nil] at hc
    cases hc
theorem y5_semi (h : TWC T N w s C) (hq : Q (b2i (tkT T 15 s = true)) w) : wp_X5_isSign 0 59 w Q := y5_isSign (j := 15) h.1 h.2.1 (by decide) (Or.inr ⟨by decide, by decide⟩) hq
theorem TWL.fn (hk : KM ord kk m) (h : TWL T N ord kk m w s l) (f3 : FN 14 w w') (h3 : TWC T N w' t (cdL ord l)) : TWL T N ord kk m w' t l := ⟨h3, h.2.1.fe f3.fe, (f3.2 0 21 (by omega)).trans h.2.2.1, h.2.2.2.1, fun i c hc => (h.2.2.2.2 i c hc).fr (fun j _ _ => f3.2 kk j (by have := hk.key0; omega))⟩
/-- the text's further clauses -/
theorem q5_law_37 : ∀ (m9 f1 f2 : Nat) (l : List Cl) (s : LX) (w : Wd), (N - s.1).toNat ≤ m9 → m9 < f1 → m9 < f2 → TWL T N false 22 8 w s l → (∀ l2 t, rdL T N false f2 l s = .ok (l2, t) → ∀ w', FX w w' → TWL T N false 22 8 w' t l2 → N ≤ t.1 → X w') → (∀ e, rdL T N false f2 l s = .error e → ∀ w', FX w w' → (BDC T N w' e ∨ ∃ t l2, TWL T N false 22 8 w' t l2 ∧ t.1 < N ∧ e = t.1) → X w') → wp_X5_law_37 Q X 0 f1 w := by
  have hk : KM false 22 8 := Or.inl ⟨rfl, rfl, rfl⟩
  intro m9
  induction m9 with
  | zero =>
    intro f1 f2 l s w hm h1 h2 h hq hE
    obtain ⟨g1, rfl⟩ : ∃ g, f1 = g + 1 := ⟨f1 - 1, by omega⟩
    obtain ⟨g2, rfl⟩ : ∃ g, f2 = g + 1 := ⟨f2 - 1, by omega⟩
    have S := h.1.1.1.1
    have e0 : rdL T N false (g2 + 1) l s = if tkT T 15 s = true then (match claS T N false l.length (nxS T N s) with
      | .error e => .error e
      | .ok (c, s2) => rdL T N false g2 (l ++ [c]) s2) else if s.1 < N then .error s.1 else .ok (l, s) := rfl
    rw [wp_X5_law_37]
    refine s_gfI (KF S rfl) h.1.2.2.1 (s_ckI ⟨by decide, by decide⟩ (s_br (fun y => absurd rfl y) (fun _ => s_cO (KF S rfl) (y5_semi h.1 (s_ckI b2i_in ?_)))))
    by_cases z : tkT T 15 s = true
    · have := (tk_lt' h.1.2.1 (by decide) z).1; omega
    · rw [b2i_f z]
      rw [if_neg z] at e0
      refine s_br (fun _ => ?_) (fun y => absurd rfl y)
      by_cases u : s.1 < N
      · rw [if_pos u] at e0
        exact hE _ e0 w FX.rf (Or.inr ⟨s, l, h, u, rfl⟩)
      · rw [if_neg u] at e0
        exact hq l s e0 w FX.rf h (by omega)
  | succ m9 ih =>
    intro f1 f2 l s w hm h1 h2 h hq hE
    obtain ⟨g1, rfl⟩ : ∃ g, f1 = g + 1 := ⟨f1 - 1, by omega⟩
    obtain ⟨g2, rfl⟩ : ∃ g, f2 = g + 1 := ⟨f2 - 1, by omega⟩
    have S := h.1.1.1.1
    have e0 : rdL T N false (g2 + 1) l s = if tkT T 15 s = true then (match claS T N false l.length (nxS T N s) with
      | .error e => .error e
      | .ok (c, s2) => rdL T N false g2 (l ++ [c]) s2) else if s.1 < N then .error s.1 else .ok (l, s) := rfl
    rw [wp_X5_law_37]
    refine s_gfI (KF S rfl) h.1.2.2.1 (s_ckI ⟨by decide, by decide⟩ (s_br (fun y => absurd rfl y) (fun _ => s_cO (KF S rfl) (y5_semi h.1 (s_ckI b2i_in ?_)))))
    by_cases z : tkT T 15 s = true
    · rw [b2i_t z]
      rw [if_pos z] at e0
      have lt := tk_lt' h.1.2.1 (by decide) z
      have nx := h.1.2.1.nx
      refine s_br (fun y => absurd y (by decide)) (fun _ => s_cO (KF S rfl) (c5_next h.1 (fun w3 f3 h3 => ?_)))
      have B3 := h.fn hk f3 h3
      have S3 := h3.1.1.1
      refine s_cO (KF S3 rfl) (q5_readLaw B3 (fun c t ec w4 f4 h4 => ?_) (fun e1 ec w4 f4 b4 => ?_))
      · have rp : OKR T N (nxS T N s) t := by
          have q := claS_ok (T := T) (N := N) (ord := false) (m := (l.length : Nat)) nx.1
          rw [ec] at q
          exact q
        have p1 := rp.2.1
        rw [ec] at e0
        have e0 : rdL T N false (g2 + 1) l s = rdL T N false g2 (l ++ [c]) t := e0
        exact ih g1 g2 (l ++ [c]) t w4 (by omega) (by omega) (by omega) h4 (fun l2 t2 q w5 f5 => hq l2 t2 (e0.trans q) w5 (f3.fe.fx.tr (f4.tr f5))) (fun e2 q w5 f5 => hE e2 (e0.trans q) w5 (f3.fe.fx.tr (f4.tr f5)))
      · rw [ec] at e0
        have S4 := b4.1.1
        obtain ⟨g3, rfl⟩ : ∃ g, g1 = g + 1 := ⟨g1 - 1, by omega⟩
        rw [wp_X5_law_37]
        exact s_gfI (KF S4 rfl) b4.2.1 (s_ckI ⟨by decide, by decide⟩ (s_br (fun _ => hE e1 e0 w4 (f3.fe.fx.tr f4) (Or.inl b4)) (fun y => absurd (by decide) y)))
    · rw [b2i_f z]
      rw [if_neg z] at e0
      refine s_br (fun _ => ?_) (fun y => absurd rfl y)
      by_cases u : s.1 < N
      · rw [if_pos u] at e0
        exact hE _ e0 w FX.rf (Or.inr ⟨s, l, h, u, rfl⟩)
      · rw [if_neg u] at e0
        exact hq l s e0 w FX.rf h (by omega)
/-- the text's further clauses -/
theorem q5_orders_19 : ∀ (m9 f1 f2 : Nat) (l : List Cl) (s : LX) (w : Wd), (N - s.1).toNat ≤ m9 → m9 < f1 → m9 < f2 → TWL T N true 54 10 w s l → (∀ l2 t, rdL T N true f2 l s = .ok (l2, t) → ∀ w', FX w w' → TWL T N true 54 10 w' t l2 → N ≤ t.1 → X w') → (∀ e, rdL T N true f2 l s = .error e → ∀ w', FX w w' → (BDC T N w' e ∨ ∃ t l2, TWL T N true 54 10 w' t l2 ∧ t.1 < N ∧ e = t.1) → X w') → wp_X5_orders_19 Q X 0 f1 w := by
  have hk : KM true 54 10 := Or.inr ⟨rfl, rfl, rfl⟩
  intro m9
  induction m9 with
  | zero =>
    intro f1 f2 l s w hm h1 h2 h hq hE
    obtain ⟨g1, rfl⟩ : ∃ g, f1 = g + 1 := ⟨f1 - 1, by omega⟩
    obtain ⟨g2, rfl⟩ : ∃ g, f2 = g + 1 := ⟨f2 - 1, by omega⟩
    have S := h.1.1.1.1
    have e0 : rdL T N true (g2 + 1) l s = if tkT T 15 s = true then (match claS T N true l.length (nxS T N s) with
      | .error e => .error e
      | .ok (c, s2) => rdL T N true g2 (l ++ [c]) s2) else if s.1 < N then .error s.1 else .ok (l, s) := rfl
    rw [wp_X5_orders_19]
    refine s_gfI (KF S rfl) h.1.2.2.1 (s_ckI ⟨by decide, by decide⟩ (s_br (fun y => absurd rfl y) (fun _ => s_cO (KF S rfl) (y5_semi h.1 (s_ckI b2i_in ?_)))))
    by_cases z : tkT T 15 s = true
    · have := (tk_lt' h.1.2.1 (by decide) z).1; omega
    · rw [b2i_f z]
      rw [if_neg z] at e0
      refine s_br (fun _ => ?_) (fun y => absurd rfl y)
      by_cases u : s.1 < N
      · rw [if_pos u] at e0
        exact hE _ e0 w FX.rf (Or.inr ⟨s, l, h, u, rfl⟩)
      · rw [if_neg u] at e0
        exact hq l s e0 w FX.rf h (by omega)
  | succ m9 ih =>
    intro f1 f2 l s w hm h1 h2 h hq hE
    obtain ⟨g1, rfl⟩ : ∃ g, f1 = g + 1 := ⟨f1 - 1, by omega⟩
    obtain ⟨g2, rfl⟩ : ∃ g, f2 = g + 1 := ⟨f2 - 1, by omega⟩
    have S := h.1.1.1.1
    have e0 : rdL T N true (g2 + 1) l s = if tkT T 15 s = true then (match claS T N true l.length (nxS T N s) with
      | .error e => .error e
      | .ok (c, s2) => rdL T N true g2 (l ++ [c]) s2) else if s.1 < N then .error s.1 else .ok (l, s) := rfl
    rw [wp_X5_orders_19]
    refine s_gfI (KF S rfl) h.1.2.2.1 (s_ckI ⟨by decide, by decide⟩ (s_br (fun y => absurd rfl y) (fun _ => s_cO (KF S rfl) (y5_semi h.1 (s_ckI b2i_in ?_)))))
    by_cases z : tkT T 15 s = true
    · rw [b2i_t z]
      rw [if_pos z] at e0
      have lt := tk_lt' h.1.2.1 (by decide) z
      have nx := h.1.2.1.nx
      refine s_br (fun y => absurd y (by decide)) (fun _ => s_cO (KF S rfl) (c5_next h.1 (fun w3 f3 h3 => ?_)))
      have B3 := h.fn hk f3 h3
      have S3 := h3.1.1.1
      refine s_cO (KF S3 rfl) (q5_readOrder B3 (fun c t ec w4 f4 h4 => ?_) (fun e1 ec w4 f4 b4 => ?_))
      · have rp : OKR T N (nxS T N s) t := by
          have q := claS_ok (T := T) (N := N) (ord := true) (m := (l.length : Nat)) nx.1
          rw [ec] at q
          exact q
        have p1 := rp.2.1
        rw [ec] at e0
        have e0 : rdL T N true (g2 + 1) l s = rdL T N true g2 (l ++ [c]) t := e0
        exact ih g1 g2 (l ++ [c]) t w4 (by omega) (by omega) (by omega) h4 (fun l2 t2 q w5 f5 => hq l2 t2 (e0.trans q) w5 (f3.fe.fx.tr (f4.tr f5))) (fun e2 q w5 f5 => hE e2 (e0.trans q) w5 (f3.fe.fx.tr (f4.tr f5)))
      · rw [ec] at e0
        have S4 := b4.1.1
        obtain ⟨g3, rfl⟩ : ∃ g, g1 = g + 1 := ⟨g1 - 1, by omega⟩
        rw [wp_X5_orders_19]
        exact s_gfI (KF S4 rfl) b4.2.1 (s_ckI ⟨by decide, by decide⟩ (s_br (fun _ => hE e1 e0 w4 (f3.fe.fx.tr f4) (Or.inl b4)) (fun y => absurd (by decide) y)))
    · rw [b2i_f z]
      rw [if_neg z] at e0
      refine s_br (fun _ => ?_) (fun y => absurd rfl y)
      by_cases u : s.1 < N
      · rw [if_pos u] at e0
        exact hE _ e0 w FX.rf (Or.inr ⟨s, l, h, u, rfl⟩)
      · rw [if_neg u] at e0
        exact hq l s e0 w FX.rf h (by omega)
/-- the twin ends a text -/
theorem q5_end (S : SOK w) (hq : QW (sV (sV w 0 20 0) 0 13 0)) : wp_X5_endText_19 QW 0 w := by
  unfold wp_X5_endText_19
  have S1 : SOK (sV w 0 20 0) := S
  exact s_pfZ (KF S rfl) (Or.inl rfl) (s_pfI (KF S1 rfl) hq)
theorem so_in (f : Int) : 0 ≤ soT T N f ∧ soT T N f ≤ 3 := by
  unfold soT
  split
  · omega
  · split
    · omega
    · split <;> omega
theorem q5_end_ok (h : TWL T N ord kk m w s l) (hN : N ≤ s.1) (hq : QW (sV (sV w 0 20 0) 0 13 0)) : wp_X5_endText 0 w QW := by
  have S := h.1.1.1.1
  have so : soT T N s.1 = 0 := if_pos hN
  unfold wp_X5_endText
  exact s_gfI (KF S rfl) h.1.2.2.1 (s_ckI ⟨by decide, by decide⟩ (s_br (fun y => absurd rfl y) (fun _ => s_gfI (KF S rfl) (h.1.1.2.2.2.1.trans so) (s_ckI ⟨by decide, by decide⟩ (s_br (fun _ => q5_end S hq) (fun y => absurd rfl y))))))
theorem q5_end_bad (h : BDC T N w e ∨ ∃ t l2, TWL T N ord kk m w t l2 ∧ t.1 < N ∧ e = t.1) (hq : ∀ w1, FX w w1 → BDC T N w1 e → QW (sV (sV w1 0 20 0) 0 13 0)) : wp_X5_endText 0 w QW := by
  unfold wp_X5_endText
  rcases h with b | ⟨t, l2, h, lt, rfl⟩
  · have S := b.1.1
    exact s_gfI (KF S rfl) b.2.1 (s_ckI ⟨by decide, by decide⟩ (s_br (fun _ => q5_end S (hq w FX.rf b)) (fun y => absurd (by decide) y)))
  · have S := h.1.1.1.1
    have si := so_in (T := T) (N := N) t.1
    have so : soT T N t.1 ≠ 0 := by
      unfold soT
      rw [if_neg (by omega)]
      split
      · decide
      · split <;> decide
    exact s_gfI (KF S rfl) h.1.2.2.1 (s_ckI ⟨by decide, by decide⟩ (s_br (fun y => absurd rfl y) (fun _ => s_gfI (KF S rfl) h.1.1.2.2.2.1 (s_ckI ⟨by omega, by omega⟩ (s_br (fun y => absurd y so) (fun _ => s_cO (KF S rfl) (c5_must0 h.1 (fun w1 f1 b1 => q5_end b1.1.1 (hq w1 f1.fx b1)))))))))
theorem DNT.of (hk : KM ord kk m) (h : TWL T N ord kk m w s l) : DNT ord kk m (sV (sV w 0 20 0) 0 13 0) l := by
  have n4 := h.1.n400
  have v9 : ∀ j : Int, j ≠ 20 → j ≠ 13 → gV (sV (sV w 0 20 0) 0 13 0) 0 j = gV w 0 j := fun j a b => (gV_ne (by omega)).trans (gV_ne (by omega))
  exact ⟨⟨gV_at, (gV_ne (by omega)).trans gV_at⟩, (v9 21 (by decide) (by decide)).trans h.2.2.1, h.2.2.2.1, (v9 23 (by decide) (by decide)).trans h.1.2.2.2.2.2.1, n4, h.1.2.2.2.2.2.2.1.fr (fun i _ => ⟨(gV_ne (by omega)).trans (gV_ne (by omega)), (gV_ne (by omega)).trans (gV_ne (by omega))⟩), fun i c hc => (h.2.2.2.2 i c hc).fr (fun j _ _ => (gV_ne (by have := hk.key0; omega)).trans (gV_ne (by have := hk.key0; omega)))⟩
/-- the twin reads a whole text (readLaw) -/
theorem q5_text_readLaw (R : TTX T N w) (hC : ConR w) (hq : ∀ l t, rdS T N false = .ok (l, t) → ∀ w', FZ w w' → gV w' 0 19 = 0 → gV w' 0 18 = -1 → DNT false 22 8 w' l → Y w') (hE : ∀ e, rdS T N false = .error e → ∀ w', FZ w w' → gV w' 0 19 = 1 → gV w' 0 18 = e → (gV w' 0 13 = 0 ∧ gV w' 0 20 = 0) → Y w') : wp_X5_beginText 0 0 w fun w5 => cO w5 0 0 <| wp_X5_readLaw 0 w5 fun w7 => wp_X5_law_37 Q (fun w9 => cO w9 0 0 <| wp_X5_endText 0 w9 Y) 0 FU w7 := by
  have hk : KM false 22 8 := Or.inl ⟨rfl, rfl, rfl⟩
  have L0 := (LOK.st (T := T) R.2.1.1).1
  have hN := R.2.1
  have e0 : rdS T N false = match claS T N false 0 (nxS T N (0, 0, 0, 0)) with
    | .error e => .error e
    | .ok (c, s2) => rdL T N false 401 [c] s2 := rfl
  refine q5_begin (ord := false) (kk := 22) (m := 8) R hC rfl (fun w1 f1 h1 z18 => ?_)
  have S1 := h1.1.1.1.1
  have z19 := h1.1.2.2.1
  -- the fault's place, if all went well
  have hf : ∀ w2, FX w1 w2 → gV w2 0 19 = 0 → gV w2 0 18 = -1 := fun w2 f2 q => (f2.2 0 18 (by omega) (by omega) (by decide)).trans z18
  have vE : ∀ (u : Wd) (j : Int), j ≠ 20 → j ≠ 13 → gV (sV (sV u 0 20 0) 0 13 0) 0 j = gV u 0 j := fun u j a b => (gV_ne (by omega)).trans (gV_ne (by omega))
  have fE : ∀ u : Wd, FZ u (sV (sV u 0 20 0) 0 13 0) := fun u => (FZ.rf.sV (by decide)).sV (by decide)
  have endE : ∀ (e : Int) (w2 : Wd), rdS T N false = .error e → FX w1 w2 → (BDC T N w2 e ∨ ∃ t l2, TWL T N false 22 8 w2 t l2 ∧ t.1 < N ∧ e = t.1) → cO w2 0 0 (wp_X5_endText 0 w2 Y) := by
    intro e w2 q f2 hb
    have S2 := S1.sm f2.1
    refine s_cO (KF S2 rfl) (q5_end_bad hb (fun w3 f3 b3 => ?_))
    exact hE e q _ (f1.tr (f2.fz.tr (f3.fz.tr (fE _)))) ((vE _ 19 (by decide) (by decide)).trans b3.2.1) ((vE _ 18 (by decide) (by decide)).trans b3.2.2) ⟨gV_at, (gV_ne (by omega)).trans gV_at⟩
  refine s_cO (KF S1 rfl) (q5_readLaw h1 (fun c t ec w2 f2 h2 => ?_) (fun e1 ec w2 f2 b2 => ?_))
  · have ec : claS T N false 0 (nxS T N (0, 0, 0, 0)) = .ok (c, t) := ec
    rw [ec] at e0
    have e0 : rdS T N false = rdL T N false 401 [c] t := e0
    have L2 := h2.1.2.1.1
    refine q5_law_37 400 FU 401 [c] t w2 (by omega) (by decide) (by decide) h2 (fun l2 t2 q w3 f3 h3 hN3 => ?_) (fun e2 q w3 f3 b3 => endE e2 w3 (e0.trans q) (f2.tr f3) b3)
    have S3 := h3.1.1.1.1
    have y19 := h3.1.2.2.1
    exact s_cO (KF S3 rfl) (q5_end_ok h3 hN3 (hq l2 t2 (e0.trans q) _ (f1.tr (f2.fz.tr (f3.fz.tr (fE _)))) ((vE _ 19 (by decide) (by decide)).trans y19) ((vE _ 18 (by decide) (by decide)).trans (hf w3 (f2.tr f3) y19)) (DNT.of hk h3)))
  · have ec : claS T N false 0 (nxS T N (0, 0, 0, 0)) = .error e1 := ec
    rw [ec] at e0
    have S2 := b2.1.1
    have eF : FU = 99999 + 1 := rfl
    rw [eF, wp_X5_law_37]
    exact s_gfI (KF S2 rfl) b2.2.1 (s_ckI ⟨by decide, by decide⟩ (s_br (fun _ => endE e1 w2 e0 f2 (Or.inl b2)) (fun y => absurd (by decide) y)))
/-- the twin reads a whole text (readOrder) -/
theorem q5_text_readOrder (R : TTX T N w) (hC : ConR w) (hq : ∀ l t, rdS T N true = .ok (l, t) → ∀ w', FZ w w' → gV w' 0 19 = 0 → gV w' 0 18 = -1 → DNT true 54 10 w' l → Y w') (hE : ∀ e, rdS T N true = .error e → ∀ w', FZ w w' → gV w' 0 19 = 1 → gV w' 0 18 = e → (gV w' 0 13 = 0 ∧ gV w' 0 20 = 0) → Y w') : wp_X5_beginText 0 1 w fun w5 => cO w5 0 0 <| wp_X5_readOrder 0 w5 fun w7 => wp_X5_orders_19 Q (fun w9 => cO w9 0 0 <| wp_X5_endText 0 w9 Y) 0 FU w7 := by
  have hk : KM true 54 10 := Or.inr ⟨rfl, rfl, rfl⟩
  have L0 := (LOK.st (T := T) R.2.1.1).1
  have hN := R.2.1
  have e0 : rdS T N true = match claS T N true 0 (nxS T N (0, 0, 0, 0)) with
    | .error e => .error e
    | .ok (c, s2) => rdL T N true 401 [c] s2 := rfl
  refine q5_begin (ord := true) (kk := 54) (m := 10) R hC rfl (fun w1 f1 h1 z18 => ?_)
  have S1 := h1.1.1.1.1
  have z19 := h1.1.2.2.1
  -- the fault's place, if all went well
  have hf : ∀ w2, FX w1 w2 → gV w2 0 19 = 0 → gV w2 0 18 = -1 := fun w2 f2 q => (f2.2 0 18 (by omega) (by omega) (by decide)).trans z18
  have vE : ∀ (u : Wd) (j : Int), j ≠ 20 → j ≠ 13 → gV (sV (sV u 0 20 0) 0 13 0) 0 j = gV u 0 j := fun u j a b => (gV_ne (by omega)).trans (gV_ne (by omega))
  have fE : ∀ u : Wd, FZ u (sV (sV u 0 20 0) 0 13 0) := fun u => (FZ.rf.sV (by decide)).sV (by decide)
  have endE : ∀ (e : Int) (w2 : Wd), rdS T N true = .error e → FX w1 w2 → (BDC T N w2 e ∨ ∃ t l2, TWL T N true 54 10 w2 t l2 ∧ t.1 < N ∧ e = t.1) → cO w2 0 0 (wp_X5_endText 0 w2 Y) := by
    intro e w2 q f2 hb
    have S2 := S1.sm f2.1
    refine s_cO (KF S2 rfl) (q5_end_bad hb (fun w3 f3 b3 => ?_))
    exact hE e q _ (f1.tr (f2.fz.tr (f3.fz.tr (fE _)))) ((vE _ 19 (by decide) (by decide)).trans b3.2.1) ((vE _ 18 (by decide) (by decide)).trans b3.2.2) ⟨gV_at, (gV_ne (by omega)).trans gV_at⟩
  refine s_cO (KF S1 rfl) (q5_readOrder h1 (fun c t ec w2 f2 h2 => ?_) (fun e1 ec w2 f2 b2 => ?_))
  · have ec : claS T N true 0 (nxS T N (0, 0, 0, 0)) = .ok (c, t) := ec
    rw [ec] at e0
    have e0 : rdS T N true = rdL T N true 401 [c] t := e0
    have L2 := h2.1.2.1.1
    refine q5_orders_19 400 FU 401 [c] t w2 (by omega) (by decide) (by decide) h2 (fun l2 t2 q w3 f3 h3 hN3 => ?_) (fun e2 q w3 f3 b3 => endE e2 w3 (e0.trans q) (f2.tr f3) b3)
    have S3 := h3.1.1.1.1
    have y19 := h3.1.2.2.1
    exact s_cO (KF S3 rfl) (q5_end_ok h3 hN3 (hq l2 t2 (e0.trans q) _ (f1.tr (f2.fz.tr (f3.fz.tr (fE _)))) ((vE _ 19 (by decide) (by decide)).trans y19) ((vE _ 18 (by decide) (by decide)).trans (hf w3 (f2.tr f3) y19)) (DNT.of hk h3)))
  · have ec : claS T N true 0 (nxS T N (0, 0, 0, 0)) = .error e1 := ec
    rw [ec] at e0
    have S2 := b2.1.1
    have eF : FU = 99999 + 1 := rfl
    rw [eF, wp_X5_orders_19]
    exact s_gfI (KF S2 rfl) b2.2.1 (s_ckI ⟨by decide, by decide⟩ (s_br (fun _ => endE e1 w2 e0 f2 (Or.inl b2)) (fun y => absurd (by decide) y)))
end TTEXT
