/-! THE PLAIN LAW: what a law says, in the component -/
set_option maxRecDepth 100000
def clW (w : Wd) (E : Int → Int) (k : Nat) : Option Int := match gR w k 2 with
  | none => some 1
  | some t => evT w E 40 t
def clS (w : Wd) (E : Int → Int) (k : Nat) : Int := match gR w k 1 with
  | none => 1
  | some s => (evS w E 60 s).getD (-4000000000)
/-- what a clause tells, or nothing -/
def clV (w : Wd) (E : Int → Int) (k : Nat) : Int := match clW w E k with
  | none => -4000000000
  | some v => if v = 0 then -4000000000 else clS w E k
def cK (w : Wd) (lk : Nat) (i : Int) : Nat := rK w (rK w (rK w lk 0) 1) i
def toF (w : Wd) (E : Int → Int) (hd : Int) (lk : Nat) (i a : Int) : Int := if gV w (cK w lk i) 0 = hd then (if clV w E (cK w lk i) = -4000000000 then a else clV w E (cK w lk i)) else a
def saT (w : Wd) (E : Int → Int) (hd : Int) (lk : Nat) : Int := itI (toF w E hd lk) 0 (gV w (rK w lk 0) 2).toNat (-4000000000)
/-- what a law looks at -/
def lwE (ρ : Int → Int) (b s j : Int) : Int := if j = 0 then b else if j = 1 then ρ (62 + b) else if j = 2 then nNo ρ b else if j = 3 then pc8 (ρ (56 + b)) else if j = 4 then s else if j = 5 then (if s = -1 then -1 else eaR ρ b s) else if j = 6 then (if s = -1 then -1 else ρ (86 + s)) else if j = 7 then ρ 5 else if j = 8 then ρ 7 else 0
def sayV (w : Wd) (ρ : Int → Int) (law hd b s : Int) : Int := if law = -1 then -4000000000 else saT w (lwE ρ b s) hd (rK w 145 law)
section SAYS
variable {w0 w : Wd} {t : Nat} {ρ : Int → Int} {Q : Int → Wd → Prop} {E : Int → Int} {b s law hd : Int}
theorem lwE_in (C : CO w0 w t ρ) (hb : 0 ≤ b ∧ b < 6) (hs : -1 ≤ s ∧ s < 6) : ∀ j, -1000 ≤ lwE ρ b s j ∧ lwE ρ b s j ≤ 1000 := by
  intro j
  have h1 := C.to hb.1 hb.2
  have h2 := nNo_in (ρ := ρ) (b := b)
  have h3 := pc8_in (v := ρ (56 + b))
  have h4 := eaR_in (ρ := ρ) (b := b) (s := s)
  have h5 := C.yr
  have h6 := C.md
  have h7 : 0 ≤ s → 0 ≤ ρ (86 + s) ∧ ρ (86 + s) ≤ 60 := fun g => C.wa g hs.2
  unfold lwE
  repeat (first | omega | split)
theorem valOp9 {v a b : Int} (h : valOp false v a b) : v < 9 := by
  have h : v < 9 ∧ a = v + 1 ∧ b = 0 := h
  exact h.1
theorem clV_in {op ar : Int → Int} {k : Nat} {hd s1 s2 t1 t2 : Int} (hE : ∀ j, 0 ≤ j → j < 16 → -1000000 ≤ E j ∧ E j ≤ 1000000) (hc : ClauR w0 op ar k hd s1 s2 t1 t2) : clV w0 E k = -4000000000 ∨ (-1000000000 ≤ clV w0 E k ∧ clV w0 E k ≤ 1000000000) := by
  obtain ⟨_, _, _, _, _, _, _, _, _, _, h9, h10⟩ := hc
  unfold clV
  split
  · exact Or.inl rfl
  · split
    · exact Or.inl rfl
    · unfold clS
      by_cases z : hd = 3
      · rw [if_pos z] at h9
        rw [h9]
        dsimp only
        exact Or.inr ⟨by decide, by decide⟩
      · rw [if_neg z] at h9
        obtain ⟨s9, e9, q9⟩ := h9
        rw [e9]
        dsimp only
        cases ev : evS w0 E 60 s9 with
        | none => exact Or.inl rfl
        | some v => exact Or.inr (evS_in hE _ _ _ _ q9 v ev)
theorem x9_tells {op ar : Int → Int} {k : Nat} {hd s1 s2 t1 t2 : Int} (S : SOK w) (H : Hi w0 w) (hE : SetE w E 9) (hc : ClauR w0 op ar k hd s1 s2 t1 t2) (hq : Q (clV w0 E k) w) : wp_X9_tells k (some 190) w Q := by
  obtain ⟨hk, g, _, _, _, _, _, _, _, _, h9, h10⟩ := hc
  obtain ⟨q1, q2, q3⟩ := H k hk (by rw [g]; exact fun z => by cases z)
  have part : clW w0 E k ≠ none → clW w0 E k ≠ some 0 → wp_X9_tells_22 Q k (some 190) w := by
    intro n1 n2
    have e : clV w0 E k = clS w0 E k := by
      unfold clV
      split
      · next z => exact absurd z n1
      · next v z =>
        rw [if_neg (fun y => n2 (by rw [z, y]))]
    rw [e] at hq
    unfold wp_X9_tells_22
    unfold clS at hq
    by_cases z : hd = 3
    · rw [if_pos z] at h9
      rw [h9] at hq
      exact s_gfR (q1.trans g) ((q3 1).trans h9) (s_br (fun y => absurd rfl y) (fun _ => hq))
    · rw [if_neg z] at h9
      obtain ⟨s9, e9, q9⟩ := h9
      rw [e9] at hq
      dsimp only at hq
      refine s_gfR (q1.trans g) ((q3 1).trans e9) (s_br (fun _ => ?_) (fun y => absurd (fun y2 => by cases y2) y))
      refine s_gfR (q1.trans g) ((q3 1).trans e9) (s_dO ?_)
      refine c_sum S H (by decide) (fun _ _ _ h => valOp9 h) hE 60 60 s9 _ _ (by decide) q9 _ _ (fun v ev _ _ => ?_) (fun ev => s_cO (KF S rfl) ?_)
      · rw [ev] at hq; exact hq
      · rw [ev] at hq; exact hq
  unfold wp_X9_tells
  by_cases z : t1 = t2
  · rw [if_pos z] at h10
    refine s_gfR (q1.trans g) ((q3 2).trans h10) (s_br (fun _ => part ?_ ?_) (fun y => absurd rfl y))
    · unfold clW; rw [h10]; exact fun y => by cases y
    · unfold clW; rw [h10]; exact fun y => by cases y
  · rw [if_neg z] at h10
    obtain ⟨t9, e9, q9⟩ := h10
    have ew : clW w0 E k = evT w0 E 40 t9 := by unfold clW; rw [e9]
    refine s_gfR (q1.trans g) ((q3 2).trans e9) (s_br (fun y => by cases y) (fun _ => ?_))
    refine s_gfR (q1.trans g) ((q3 2).trans e9) (s_dO ?_)
    refine c_test S H (by decide) (fun _ _ _ h => valOp9 h) hE 40 40 t9 _ _ (by decide) q9 _ _ (fun v ev hv => ?_) (fun ev => s_cO (KF S rfl) ?_)
    · rw [← ew] at ev
      refine s_ckI ⟨by omega, by omega⟩ (s_br (fun y => part ?_ ?_) (fun y => ?_))
      · rw [ev]; exact fun y => by cases y
      · rw [ev]; exact fun y2 => by cases y2; exact y rfl
      · have y : v = 0 := by omega
        have e : clV w0 E k = -4000000000 := by unfold clV; rw [ev]; exact if_pos y
        rw [e] at hq; exact hq
    · rw [← ew] at ev
      have e : clV w0 E k = -4000000000 := by unfold clV; rw [ev]
      rw [e] at hq; exact hq
theorem x19_told {lk : Nat} {c : Int → Int} (S : SOK w) (H : Hi w0 w) (hE : SetE w E 9) (hE2 : ∀ j, 0 ≤ j → j < 16 → -1000000 ≤ E j ∧ E j ≤ 1000000) (hl : LawR w0 lk c) (hh : 0 ≤ hd ∧ hd ≤ 3) (hq : Q (saT w0 E hd lk) w) : wp_X19_told lk hd (some 190) w Q := by
  obtain ⟨hk, g, li, Ek, n9, e1, hli, g1, e2, hEk, g2, hn9, hsz, hc0, hc12, hcn, hch⟩ := hl
  obtain ⟨q1, q2, q3⟩ := H lk hk (by rw [g]; exact fun z => by cases z)
  obtain ⟨p1, p2, p3⟩ := H li hli (by rw [g1]; exact fun z => by cases z)
  obtain ⟨t1, t2, t3⟩ := H Ek hEk (by rw [g2]; exact fun z => by cases z)
  have r1 : rK w0 lk 0 = li := by unfold rK; rw [e1]; rfl
  have r2 : rK w0 li 1 = Ek := by unfold rK; rw [e2]; rfl
  have hsz2 : gV w li 2 = c 1 := (p2 2).trans hsz
  have loop : ∀ (m fuel : Nat) (a x : Int), x + m = c 1 → 0 ≤ x → m < fuel → Q (itI (toF w0 E hd lk) x m a) w → wp_X19_told_7 Q lk hd (some 190) fuel a x w := by
    intro m
    induction m with
    | zero =>
      intro fuel a x h1 h2 h3 hq
      obtain ⟨f, rfl⟩ : ∃ f, fuel = f + 1 := ⟨fuel - 1, by omega⟩
      rw [wp_X19_told_7]
      exact s_gfR (q1.trans g) ((q3 0).trans e1) (s_dO (s_cO (p1.trans g1) (c_size (p1.trans g1) hsz2 (s_ckI ⟨by omega, by omega⟩ (s_ckI ⟨by omega, by omega⟩ (s_br (fun _ => hq) (fun z => absurd (by omega) z)))))))
    | succ m ih =>
      intro fuel a x h1 h2 h3 hq
      obtain ⟨f, rfl⟩ : ∃ f, fuel = f + 1 := ⟨fuel - 1, by omega⟩
      obtain ⟨cl, ecl, hcl⟩ := hch x h2 (by omega)
      have er : cK w0 lk x = cl := by unfold cK; rw [r1, r2]; unfold rK; rw [ecl]; rfl
      have hcl2 := clV_in hE2 hcl
      have hcl3 := hcl
      obtain ⟨ck, cg, chd, ch0, ch3, _⟩ := hcl3
      obtain ⟨u1, u2, u3⟩ := H cl ck (by rw [cg]; exact fun z => by cases z)
      rw [wp_X19_told_7]
      unfold wp_X19_told_71
      refine s_gfR (q1.trans g) ((q3 0).trans e1) (s_dO (s_cO (p1.trans g1) (c_size (p1.trans g1) hsz2 (s_ckI ⟨by omega, by omega⟩ (s_ckI ⟨by omega, by omega⟩ (s_br (fun z => absurd z (by omega)) (fun _ => ?_)))))))
      refine s_gfR (q1.trans g) ((q3 0).trans e1) (s_dO (s_cO (p1.trans g1) ?_))
      refine c_get (p1.trans g1) hsz2 ((p3 1).trans e2) (t1.trans g2) ⟨h2, by omega⟩ hcn hn9 ((t3 x).trans ecl) ?_
      refine ⟨Or.inr ⟨cl, 7, rfl, u1.trans cg, by decide⟩, s_dO ?_⟩
      have eh : gV w0 (cK w0 lk x) 0 = gV w0 cl 0 := by rw [er]
      refine s_gfI (u1.trans cg) (u2 0) (s_ckI ⟨by omega, by omega⟩ (s_ckI ⟨by omega, by omega⟩ (s_br (fun z => ?_) (fun z => ?_))))
      · refine s_gfR (q1.trans g) ((q3 0).trans e1) (s_dO (s_cO (p1.trans g1) ?_))
        refine c_get (p1.trans g1) hsz2 ((p3 1).trans e2) (t1.trans g2) ⟨h2, by omega⟩ hcn hn9 ((t3 x).trans ecl) ?_
        refine ⟨Or.inr ⟨cl, 7, rfl, u1.trans cg, by decide⟩, s_dO (s_cO (u1.trans cg) ?_)⟩
        refine x9_tells S H hE hcl (s_ckL ⟨by omega, by omega⟩ (s_br (fun y => ?_) (fun y => ?_)))
        · exact ih f _ _ (by omega) (by omega) (by omega) (itQ (P := fun z => Q z w) (by unfold toF; rw [eh, if_pos z, er, if_pos y]) hq)
        · exact ih f _ _ (by omega) (by omega) (by omega) (itQ (P := fun z => Q z w) (by unfold toF; rw [eh, if_pos z, er, if_neg y]) hq)
      · exact ih f _ _ (by omega) (by omega) (by omega) (itQ (P := fun z => Q z w) (by unfold toF; rw [eh, if_neg z]) hq)
  unfold wp_X19_told
  refine loop (c 1).toNat FU _ 0 (by omega) (by decide) (by unfold FU; omega) ?_
  unfold saT at hq
  rw [r1, hsz] at hq
  exact hq
end SAYS
