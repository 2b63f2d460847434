/-! THE PLAIN LAW: texts: the twin reads a law's clause -/
set_option maxRecDepth 100000
/-- a law's clause in its row -/
def rwL (c : Cl) (C : OPS) : Int → Int := udp (udp (udp (udp (udp (fun _ => 0) 0 c.1) 3 (C.length : Nat)) 4 ((cdU false c.2.1 C).length : Nat)) 5 ((cdU false c.2.1 C).length : Nat)) 6 ((cdC false c C).length : Nat)
/-- an order's sums in its row -/
def rwS (ord : Bool) : List Su → Int → OPS → (Int → Int) → (Int → Int)
  | [], _, _, f => f
  | a :: l, o, C, f => rwS ord l (o + 2) (apS ord a C) (udp (udp f o (C.length : Nat)) (o + 1) ((apS ord a C).length : Nat))
def rwO (c : Cl) (C : OPS) : Int → Int := udp (udp (udp (rwS true c.2.1 1 C (udp (fun _ => 0) 0 c.1)) 9 c.2.2.1) 7 ((cdU true c.2.1 C).length : Nat)) 8 ((cdC true c C).length : Nat)
def rwC (ord : Bool) (c : Cl) (C : OPS) : Int → Int := if ord = true then rwO c C else rwL c C
def KM (ord : Bool) (kk : Nat) (m : Int) : Prop := (ord = false ∧ kk = 22 ∧ m = 8) ∨ (ord = true ∧ kk = 54 ∧ m = 10)
/-- between clauses -/
def TWL (T : Int → Int) (N : Int) (ord : Bool) (kk : Nat) (m : Int) (w : Wd) (s : LX) (l : List Cl) : Prop := TWC T N w s (cdL ord l) ∧ CFG ord w ∧ gV w 0 21 = (l.length : Nat) ∧ l.length ≤ 12 ∧ ∀ (i : Nat) (c : Cl), l[i]? = some c → ROW kk w (m * i) m (rwC ord c (cdL ord (l.take i)))
/-- in the midst of clause n -/
def TWB (T : Int → Int) (N : Int) (ord : Bool) (kk : Nat) (m : Int) (w0 w : Wd) (s : LX) (C : OPS) (n : Nat) (b : Int) (f : Int → Int) : Prop := TWC T N w s C ∧ CFG ord w ∧ gV w 0 21 = (n : Int) + 1 ∧ FX w0 w ∧ (∀ q, q < b → gV w kk q = gV w0 kk q) ∧ ROW kk w b m f
/-- behind it: what is to be shown if it goes wrong -/
def BDX (T : Int → Int) (N : Int) (w0 : Wd) (QW : Wd → Prop) {α : Type} (rr : PRS α) : Prop := ∀ e, rr = .error e → ∀ w', FX w0 w' → BDC T N w' e → QW w'
section TLAW
variable {T : Int → Int} {N : Int} {ord : Bool} {w w' w0 w1 w2 : Wd} {kk k n g : Nat} {s t : LX} {C D : OPS} {v x i o a b m e : Int} {Q : Int → Wd → Prop} {QW X : Wd → Prop} {f f' : Int → Int} {l : List Cl} {c : Cl}
theorem KM.key (h : KM ord kk m) : kk = 22 ∨ kk = 54 := by
  rcases h with ⟨_, h, _⟩ | ⟨_, h, _⟩
  · exact Or.inl h
  · exact Or.inr h
theorem KM.key0 (h : KM ord kk m) : kk ≠ 0 := by rcases h.key with h | h <;> omega
theorem TWB.set (hk : KM ord kk m) (h : TWB T N ord kk m w0 w s C n b f) (ho : 0 ≤ o) : TWB T N ord kk m w0 (sV w kk (b + o) v) s C n b (udp f o v) := by
  obtain ⟨h1, h2, h3, h4, h5, h6⟩ := h
  have k0 := hk.key0
  have f1 : FRW w (sV w kk (b + o) v) := FRW.rf.sV (Or.inr hk.key)
  exact ⟨h1.fr f1, h2.fx f1.fx, (gV_ne (fun y => k0 y.1.symm)).trans h3, h4.tr f1.fx, fun q hq => (gV_ne (by omega)).trans (h5 q hq), h6.set⟩
theorem TWB.fe (hk : KM ord kk m) (h : TWB T N ord kk m w0 w s C n b f) (f1 : FE w w') (h' : TWC T N w' t D) : TWB T N ord kk m w0 w' t D n b f := by
  obtain ⟨h1, h2, h3, h4, h5, h6⟩ := h
  have kv : ∀ q, gV w' kk q = gV w kk q := fun q => f1.2 kk q (by rcases hk.key with y | y <;> omega) (by rcases hk.key with y | y <;> omega)
  exact ⟨h', h2.fx f1.fx, (f1.2 0 21 (by omega) (by omega)).trans h3, h4.tr f1.fx, fun q hq => (kv q).trans (h5 q hq), h6.fr (fun j _ _ => kv j)⟩
theorem TWB.S (h : TWB T N ord kk m w0 w s C n b f) : SOK w := h.1.1.1.1
theorem TWB.n23 (h : TWB T N ord kk m w0 w s C n b f) : gV w 0 23 = (C.length : Nat) := h.1.2.2.2.2.2.1
theorem TWB.b19 (h : TWB T N ord kk m w0 w s C n b f) : gV w 0 19 = 0 := h.1.2.2.1
theorem ROW.cg (h : ROW kk w b m f) (e : ∀ o, 0 ≤ o → o < m → f o = f' o) : ROW kk w b m f' := fun o a c => (h o a c).trans (e o a c)
/-- a clause more -/
theorem TWL.add (hk : KM ord kk m) (h0 : TWL T N ord kk m w0 s l) (hl : l.length < 12) (h : TWB T N ord kk m w0 w t (cdC ord c (cdL ord l)) l.length (m * l.length) f) (hf : ∀ o, 0 ≤ o → o < m → f o = rwC ord c (cdL ord l) o) : TWL T N ord kk m w t (l ++ [c]) := by
  obtain ⟨h1, h2, h3, h4, h5, h6⟩ := h
  obtain ⟨a1, a2, a3, a4, a5⟩ := h0
  refine ⟨by rw [cdL_snoc]; exact h1, h2, by rw [h3, List.length_append]; rfl, by rw [List.length_append]; exact hl, fun i c9 hc => ?_⟩
  have hi : i < l.length + 1 := by
    have := (List.getElem?_eq_some_iff.mp hc).1
    rw [List.length_append] at this
    exact this
  by_cases z : i = l.length
  · subst z
    rw [List.getElem?_append_right (Nat.le_refl _), Nat.sub_self] at hc
    injection hc with hc
    subst hc
    rw [List.take_append_of_le_length (Nat.le_refl _), List.take_length]
    exact h6.cg hf
  · rw [List.getElem?_append_left (by omega)] at hc
    rw [List.take_append_of_le_length (by omega)]
    refine (a5 i c9 hc).fr (fun j j1 j2 => h5 j ?_)
    rcases hk with ⟨_, _, rfl⟩ | ⟨_, _, rfl⟩ <;> omega
/-- the last place of a law's clause -/
theorem q5_185 (hk : KM false 22 8) (hb : 0 ≤ b ∧ b + 8 ≤ 96) (h : TWB T N false 22 8 w0 w s C n b f) (hq : ∀ w', TWB T N false 22 8 w0 w' s C n b (udp f 6 (C.length : Nat)) → QW w') : wp_X5_readLaw_185 QW 0 b w := by
  have S := h.S
  unfold wp_X5_readLaw_185
  exact s_gfA (KF S rfl) (RF S rfl) (s_gfI (KF S rfl) h.n23 (s_asI (KF S rfl) (by decide) ⟨by omega, by omega⟩ (hq _ (h.set hk (by decide)))))
theorem q5_185_bad (hb : 0 ≤ b ∧ b + 8 ≤ 96) (h : BDC T N w e) (hf : FX w0 w) (hq : ∀ w', FX w0 w' → BDC T N w' e → QW w') : wp_X5_readLaw_185 QW 0 b w := by
  have S := h.1.1
  unfold wp_X5_readLaw_185
  exact s_gfA (KF S rfl) (RF S rfl) (s_gfI (KF S rfl) rfl (s_asI (KF S rfl) (by decide) ⟨by omega, by omega⟩ (hq _ (hf.tr (FRW.rf.sV (Or.inr (Or.inl rfl))).fx) (h.fr (FRW.rf.sV (Or.inr (Or.inl rfl)))))))
theorem y5_if (h : TWC T N w s C) (hq : Q (b2i (tkT T 29 s = true)) w) : wp_X5_isWord 0 294 w Q := y5_isWord (j := 29) h.1 h.2.1 (by decide) (by decide) (by decide) (by decide) ⟨by decide, by decide⟩ hq
theorem whnS_law : whnS T N false s = if tkT T 29 s = true then (match teR T N false 10 (nxS T N s) with
  | .error e => .error e
  | .ok (t, s2) => .ok (some t, s2)) else .ok (none, s) := rfl
/-- a law's clause, behind its sum -/
theorem q5_135 (hk : KM false 22 8) (hb : 0 ≤ b ∧ b + 8 ≤ 96) (h : TWB T N false 22 8 w0 w s C n b f) (hq : ∀ ot t, whnS T N false s = .ok (ot, t) → ∀ w', TWB T N false 22 8 w0 w' t (cdT false ot C) n b (udp (udp (udp f 4 (C.length : Nat)) 5 (C.length : Nat)) 6 ((cdT false ot C).length : Nat)) → QW w') (hE : BDX T N w0 QW (whnS T N false s)) : wp_X5_readLaw_135 QW 0 b w := by
  have S := h.S
  unfold wp_X5_readLaw_135
  refine s_gfA (KF S rfl) (RF S rfl) (s_gfI (KF S rfl) h.n23 (s_asI (KF S rfl) (by decide) ⟨by omega, by omega⟩ ?_))
  have h1 := h.set (o := 4) (v := (C.length : Nat)) hk (by decide)
  have S1 := h1.S
  refine s_gfA (KF S1 rfl) (RF S1 rfl) (s_gfI (KF S1 rfl) h1.n23 (s_asI (KF S1 rfl) (by decide) ⟨by omega, by omega⟩ ?_))
  have h2 := h1.set (o := 5) (v := (C.length : Nat)) hk (by decide)
  have S2 := h2.S
  refine s_gfI (KF S2 rfl) h2.b19 (s_ckI ⟨by decide, by decide⟩ (s_br (fun y => absurd rfl y) (fun _ => s_cO (KF S2 rfl) (y5_if h2.1 (s_ckI b2i_in ?_)))))
  have ew := whnS_law (T := T) (N := N) (s := s)
  by_cases z : tkT T 29 s = true
  · rw [b2i_t z]
    rw [if_pos z] at ew
    refine s_br (fun y => absurd y (by decide)) (fun _ => s_cO (KF S2 rfl) (c5_next h2.1 (fun w3 f3 h3 => ?_)))
    have B3 := h2.fe hk f3.fe h3
    have S3 := B3.S
    refine s_cO (KF S3 rfl) (q5_testE B3.1 B3.2.1 (fun y t ey w4 f4 h4 => ?_) (fun e1 ey w4 f4 b4 => ?_))
    · have rp : OKR T N (nxS T N s) t := by
        have q := teR_ok (T := T) (N := N) (ord := false) 10 (nxS T N s) B3.1.2.1
        rw [ey] at q
        exact q
      have d0 : t.2.2.2 = 0 := rp.2.2.1.trans B3.1.2.2.2.2.1
      have B4 := B3.fe hk f4 (h4.c d0)
      rw [ey] at ew
      exact q5_185 hk hb B4 (fun w5 B5 => hq (some y) t ew w5 B5)
    · rw [ey] at ew
      exact q5_185_bad hb b4.c (B3.2.2.2.1.tr f4.fx) (fun w5 f5 b5 => hE e1 ew w5 f5 b5)
  · rw [b2i_f z]
    rw [if_neg z] at ew
    exact s_br (fun _ => q5_185 hk hb h2 (fun w5 B5 => hq none s ew w5 B5)) (fun y => absurd rfl y)
theorem tlA_law3 : tlA T N false 3 s = match whnS T N false s with
  | .error e => .error e
  | .ok (o, s4) => .ok ((3, [], 1, o), s4) := rfl
theorem tlA_law {hd : Int} (h3 : hd ≠ 3) : tlA T N false hd s = match suR T N false 10 s with
  | .error e => .error e
  | .ok (y, s2) => match whnS T N false s2 with
    | .error e => .error e
    | .ok (o, s4) => .ok ((hd, [y], 1, o), s4) := by
  unfold tlA sumsS
  rw [if_neg h3]
  cases suR T N false 10 s with
  | error e => rfl
  | ok q => rfl
/-- a clause that has begun well -/
theorem q5_law54 {hd : Int} (h : TWL T N false 22 8 w s l) (hl : l.length < 12) (hi : 0 ≤ hd ∧ hd ≤ 3) (hq : ∀ c t, tlA T N false hd (nxS T N s) = .ok (c, t) → ∀ w', FX w w' → TWL T N false 22 8 w' t (l ++ [c]) → QW w') (hE : BDX T N w QW (tlA T N false hd (nxS T N s))) : wp_X5_readLaw_54 QW 0 hd 1 0 w := by
  have hk : KM false 22 8 := Or.inl ⟨rfl, rfl, rfl⟩
  have S := h.1.1.1.1
  unfold wp_X5_readLaw_54
  refine s_cO (KF S rfl) (c5_must1 h.1 (fun w1 f1 h1 => ?_))
  have S1 := h1.1.1.1
  have n1 : gV w1 0 21 = (l.length : Nat) := (f1.2 0 21 (by omega) (by omega)).trans h.2.2.1
  refine s_gfI (KF S1 rfl) h1.2.2.1 (s_ckI ⟨by decide, by decide⟩ (s_br (fun _ => ?_) (fun y => absurd rfl y)))
  refine s_gfI (KF S1 rfl) n1 (y5_readLaw_75 (b := 8 * (l.length : Nat)) S1 ⟨by omega, by omega⟩ 8 FU 0 w1 (by decide) (by decide) (by decide) S1 (fun o a c => absurd a (by omega)) (fun w2 f2 e21 eo r2 => ?_))
  have S2 := S1.sm f2.1
  refine s_gfA (KF S2 rfl) (RF S2 rfl) (s_asI (KF S2 rfl) (by decide) ⟨by omega, by omega⟩ ?_)
  have S3 : SOK (sV w2 22 (8 * (l.length : Nat)) hd) := S2
  refine s_gfI (KF S3 rfl) ((gV_ne (by omega)).trans (e21.trans n1)) (s_pfI (KF S3 rfl) ?_)
  have f3 : FRW w1 (sV (sV w2 22 (8 * (l.length : Nat)) hd) 0 21 ((l.length : Nat) + 1)) := (f2.sV (Or.inr (Or.inl rfl))).sV (Or.inl ⟨rfl, rfl⟩)
  have r3 : ROW 22 (sV (sV w2 22 (8 * (l.length : Nat)) hd) 0 21 ((l.length : Nat) + 1)) (8 * (l.length : Nat)) 8 (udp (fun _ => 0) 0 hd) := by
    have q := r2.set (o := 0) (v := hd)
    rw [Int.add_zero] at q
    exact q.fr (fun j _ _ => gV_ne (by omega))
  have B3 : TWB T N false 22 8 w (sV (sV w2 22 (8 * (l.length : Nat)) hd) 0 21 ((l.length : Nat) + 1)) (nxS T N s) (cdL false l) l.length (8 * (l.length : Nat)) (udp (fun _ => 0) 0 hd) := by
    refine ⟨h1.fr f3, (h.2.1.fx f1.fx).fx f3.fx, gV_at, f1.fx.tr f3.fx, fun q hq2 => ?_, r3⟩
    exact (gV_ne (by omega)).trans ((gV_ne (by omega)).trans ((eo q hq2).trans (f1.2 22 q (by omega) (by omega))))
  generalize sV (sV w2 22 (8 * (l.length : Nat)) hd) 0 21 ((l.length : Nat) + 1) = w3 at B3 ⊢
  have S3 := B3.S
  refine s_gfA (KF S3 rfl) (RF S3 rfl) (s_gfI (KF S3 rfl) B3.n23 (s_asI (KF S3 rfl) (by decide) ⟨by omega, by omega⟩ ?_))
  have B4 := B3.set (o := 3) (v := ((cdL false l).length : Nat)) hk (by decide)
  have hbb : 0 ≤ 8 * ((l.length : Nat) : Int) ∧ 8 * ((l.length : Nat) : Int) + 8 ≤ 96 := ⟨by omega, by omega⟩
  refine s_ckI ⟨by omega, by omega⟩ (s_br (fun z => ?_) (fun z => ?_))
  · subst z
    have et := tlA_law3 (T := T) (N := N) (s := nxS T N s)
    refine q5_135 hk hbb B4 (fun ot t ew w5 B5 => ?_) (fun e ew w5 f5 b5 => ?_)
    · rw [ew] at et
      refine hq _ t et w5 B5.2.2.2.1 (TWL.add (c := (3, [], 1, ot)) hk h hl B5 (fun o _ _ => rfl))
    · rw [ew] at et
      exact hE e et w5 f5 b5
  · have et := tlA_law (T := T) (N := N) (s := nxS T N s) z
    have S4 := B4.S
    refine s_cO (KF S4 rfl) (q5_sumE B4.1 B4.2.1 (fun y t ey w5 f5 h5 => ?_) (fun e ey w5 f5 b5 => ?_))
    · have rp : OKR T N (nxS T N s) t := by
        have q := suR_ok (T := T) (N := N) (ord := false) 10 (nxS T N s) B4.1.2.1
        rw [ey] at q
        exact q
      have d0 : t.2.2.2 = 0 := rp.2.2.1.trans B4.1.2.2.2.2.1
      have B5 := B4.fe hk f5 (h5.c d0)
      rw [ey] at et
      have et : tlA T N false hd (nxS T N s) = match whnS T N false t with
        | .error e => .error e
        | .ok (o, s4) => .ok ((hd, [y], 1, o), s4) := et
      refine q5_135 hk hbb B5 (fun ot t2 ew w6 B6 => ?_) (fun e ew w6 f6 b6 => ?_)
      · rw [ew] at et
        refine hq _ t2 et w6 B6.2.2.2.1 (TWL.add (c := (hd, [y], 1, ot)) hk h hl B6 (fun o _ _ => rfl))
      · rw [ew] at et
        exact hE e et w6 f6 b6
    · rw [ey] at et
      have S5 := b5.1.1
      have f05 := B4.2.2.2.1.tr f5.fx
      -- all the places are written all the same
      unfold wp_X5_readLaw_135
      refine s_gfA (KF S5 rfl) (RF S5 rfl) (s_gfI (KF S5 rfl) rfl (s_asI (KF S5 rfl) (by decide) ⟨by omega, by omega⟩ ?_))
      have b6 := b5.c.fr (FRW.rf.sV (k := 22) (i := 8 * ((l.length : Nat) : Int) + 4) (x := gV w5 0 23) (Or.inr (Or.inl rfl)))
      have f6 := f05.tr (FRW.rf.sV (w := w5) (w' := w5) (k := 22) (i := 8 * ((l.length : Nat) : Int) + 4) (x := gV w5 0 23) (Or.inr (Or.inl rfl))).fx
      have S6 := b6.1.1
      refine s_gfA (KF S6 rfl) (RF S6 rfl) (s_gfI (KF S6 rfl) rfl (s_asI (KF S6 rfl) (by decide) ⟨by omega, by omega⟩ ?_))
      have fr7 : ∀ (u : Wd) (x : Int), FRW u (sV u 22 (8 * ((l.length : Nat) : Int) + 5) x) := fun u x => FRW.rf.sV (Or.inr (Or.inl rfl))
      have b7 := b6.fr (fr7 (sV w5 22 (8 * ((l.length : Nat) : Int) + 4) (gV w5 0 23)) (gV (sV w5 22 (8 * ((l.length : Nat) : Int) + 4) (gV w5 0 23)) 0 23))
      have f7 := f6.tr (fr7 (sV w5 22 (8 * ((l.length : Nat) : Int) + 4) (gV w5 0 23)) (gV (sV w5 22 (8 * ((l.length : Nat) : Int) + 4) (gV w5 0 23)) 0 23)).fx
      have S7 := b7.1.1
      exact s_gfI (KF S7 rfl) b7.2.1 (s_ckI ⟨by decide, by decide⟩ (s_br (fun _ => q5_185_bad hbb b7 f7 (fun w8 f8 b8 => hE e et w8 f8 b8)) (fun y => absurd (by decide) y)))
/-- the twin reads a law's clause -/
theorem q5_readLaw (h : TWL T N false 22 8 w s l) (hq : ∀ c t, claS T N false l.length s = .ok (c, t) → ∀ w', FX w w' → TWL T N false 22 8 w' t (l ++ [c]) → QW w') (hE : BDX T N w QW (claS T N false l.length s)) : wp_X5_readLaw 0 w QW := by
  have S := h.1.1.1.1
  have ec := claS_eq (T := T) (N := N) (ord := false) (s := s) (m := (l.length : Nat))
  have bad : ((l.length : Nat) : Int) = 12 ∨ hdI T false s = -1 → wp_X5_readLaw_53 QW 0 (hdI T false s) 0 w := by
    intro y
    rw [if_pos y] at ec
    unfold wp_X5_readLaw_53 wp_X5_readLaw_54
    refine s_cO (KF S rfl) (c5_must0 h.1 (fun w1 f1 b1 => ?_))
    have S1 := b1.1.1
    exact s_gfI (KF S1 rfl) b1.2.1 (s_ckI ⟨by decide, by decide⟩ (s_br (fun y => absurd y (by decide)) (fun _ => hE _ ec w1 f1.fx b1)))
  unfold wp_X5_readLaw
  refine y5_readLaw_4 h.1.1 h.1.2.1 h.2.1.2 4 FU 0 (-1) rfl (by decide) ⟨by decide, by decide⟩ (fun z bz ez => ?_)
  have ez : z = hdI T false s := by
    have e0 : fiW T (16 + 0) 4 ((0 : Nat) : Int) s = hdI T false s := rfl
    rw [e0] at ez
    rw [ez]
    split
    · next y => exact y.symm
    · rfl
  subst ez
  refine s_ckI ⟨by omega, by omega⟩ (s_br (fun y => bad (Or.inr y)) (fun y => s_gfI (KF S rfl) h.2.2.1 (s_ckI ⟨by omega, by have := h.2.2.2.1; omega⟩ (s_br (fun u => bad (Or.inl (by have := h.2.2.2.1; omega))) (fun u => ?_)))))
  rw [if_neg (by omega)] at ec
  have hE2 : BDX T N w QW (tlA T N false (hdI T false s) (nxS T N s)) := fun e q => hE e (ec.trans q)
  exact q5_law54 h (by omega) ⟨by omega, bz.2⟩ (fun c t q => hq c t (ec.trans q)) hE2
end TLAW
