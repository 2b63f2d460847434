/-! THE PLAIN LAW: orders, in the twin: one order, once -/
set_option maxRecDepth 100000
/-- what running orders changes in the twin -/
def Fo (k : Nat) (j : Int) : Prop := Ft k j ∨ k = 36 ∨ (k = 0 ∧ (j = 55 ∨ j = 56 ∨ j = 58 ∨ j = 20))
def FTO (w w' : Wd) : Prop := Sm w w' ∧ ∀ k j, ¬ Fo k j → gV w' k j = gV w k j
/-- what a sum's, a test's reckoning changes -/
def FSO (w w' : Wd) : Prop := Sm w w' ∧ ∀ k j, ¬ (k = 37 ∨ (k = 0 ∧ ((38 ≤ j ∧ j ≤ 40) ∨ j = 58 ∨ j = 20))) → gV w' k j = gV w k j
def cl6 (v : Int) : Int := if 0 ≤ v ∧ v < 1000000 then v else -1
/-- what the twin reckons with, ready -/
def RDY (w0 w : Wd) (ρ op ar E : Int → Int) (L : Int) : Prop := TC w0 w ρ ∧ (∀ v, 0 ≤ v → v < 4 → gV w 36 (v + 1) = E v) ∧ (∀ b, 0 ≤ b → b < 6 → E (4 + b) = (if b < ρ 0 then ρ (74 + b) else -1) ∧ E (10 + b) = (if b < ρ 0 then nNo ρ b else -1)) ∧ (∀ j, 0 ≤ j → j < 16 → -1000000 ≤ E j ∧ E j ≤ 1000000) ∧ (0 ≤ L ∧ L ≤ 400) ∧ ∀ j, 0 ≤ j → j < L → gV w 24 j = op j ∧ gV w 25 j = ar j
section TORDER
variable {w0 w w' w1 w2 : Wd} {ρ f : Int → Int} {op ar E : Int → Int} {k : Nat} {dn la i x a b v L p : Int} {Q : Int → Wd → Prop} {QW X : Wd → Prop} {s : US} {st : OS}
theorem FTO.rf : FTO w w := ⟨Sm.rf, fun _ _ _ => rfl⟩
theorem FTO.tr (h1 : FTO w w1) (h2 : FTO w1 w2) : FTO w w2 := ⟨h1.1.tr h2.1, fun k j h => (h2.2 k j h).trans (h1.2 k j h)⟩
theorem FTO.sV {k : Nat} (h : FTO w w') (hk : Fo k i) : FTO w (sV w' k i x) := ⟨h.1.sV, fun k' j' hn => by
  rw [gV_ne (fun y => hn (by rw [y.1, y.2]; exact hk))]
  exact h.2 k' j' hn⟩
theorem FTW.o (h : FTW w w') : FTO w w' := ⟨h.1, fun k j n => h.2 k j (fun y => n (Or.inl y))⟩
theorem FSO.o (h : FSO w w') : FTO w w' := ⟨h.1, fun k j n => h.2 k j (by unfold Fo Ft Ev at n; omega)⟩
theorem FSO.rf : FSO w w := ⟨Sm.rf, fun _ _ _ => rfl⟩
theorem FSO.tr (h1 : FSO w w1) (h2 : FSO w1 w2) : FSO w w2 := ⟨h1.1.tr h2.1, fun k j h => (h2.2 k j h).trans (h1.2 k j h)⟩
theorem TC.fso (C : TC w0 w ρ) (g : FSO w w') (h : gV w' 0 20 = 0) : TC w0 w' ρ := ⟨C.1.sm g.1, (funext fun j => g.2 3 j (by omega)).trans C.2.1, C.2.2.1, h, C.2.2.2.2⟩
theorem RDY.fso (R : RDY w0 w ρ op ar E L) (g : FSO w w') (h : gV w' 0 20 = 0) : RDY w0 w' ρ op ar E L := ⟨R.1.fso g h, fun v a b => (g.2 36 _ (by omega)).trans (R.2.1 v a b), R.2.2.1, R.2.2.2.1, R.2.2.2.2.1, fun j a b => ⟨(g.2 24 j (by omega)).trans (R.2.2.2.2.2 j a b).1, (g.2 25 j (by omega)).trans (R.2.2.2.2.2 j a b).2⟩⟩
/-- off already -/
theorem y5_sumB (S : SOK w) (h : gV w 0 58 = 1) (hq : Q (-1) w) : wp_X5_sumOf 0 p w Q := by
  unfold wp_X5_sumOf
  exact s_gfI (KF S rfl) h (s_ckI ⟨by decide, by decide⟩ (s_br (fun _ => hq) (fun y => absurd (by decide) y)))
/-- no sum -/
theorem y5_sumN (S : SOK w) (h : gV w 0 58 = 0) (hp : 0 ≤ p ∧ p < 119) (h1 : gV w 54 p = 0) (h2 : gV w 54 (p + 1) = 0) (hq : Q (-1) w) : wp_X5_sumOf 0 p w Q := by
  unfold wp_X5_sumOf
  exact s_gfI (KF S rfl) h (s_ckI ⟨by decide, by decide⟩ (s_br (fun y => absurd rfl y) (fun _ => s_gfA (KF S rfl) (RF S rfl) (s_alI (KF S rfl) (by decide) ⟨by omega, by omega⟩ h1 (s_gfA (KF S rfl) (RF S rfl) (s_alI (KF S rfl) (by decide) ⟨by omega, by omega⟩ h2 (s_ckI ⟨by decide, by decide⟩ (s_ckI ⟨by decide, by decide⟩ (s_br (fun y => absurd rfl y) (fun _ => hq))))))))))
/-- a sum, reckoned -/
theorem y5_sumS (R : RDY w0 w ρ op ar E L) (h58 : gV w 0 58 = 0) (hp : 0 ≤ p ∧ p < 119) (h1 : gV w 54 p = a) (h2 : gV w 54 (p + 1) = b) (hr : 0 ≤ a ∧ a < b ∧ b ≤ L) (hs : SumR w0 true op ar 60 k a b) (hQ : ∀ v w', evS w0 E 60 k = some v → inI v → FSO w w' → RDY w0 w' ρ op ar E L → gV w' 0 58 = 0 → Q v w') (hX : ∀ v w', evS w0 E 60 k = none → FSO w w' → RDY w0 w' ρ op ar E L → gV w' 0 58 = 1 → Q v w') : wp_X5_sumOf 0 p w Q := by
  obtain ⟨C, r1, r2, r3, r4, r5⟩ := id R
  have S := C.1
  have nb := C.nb
  unfold wp_X5_sumOf
  refine s_gfI (KF S rfl) h58 (s_ckI ⟨by decide, by decide⟩ (s_br (fun y => absurd rfl y) (fun _ => s_gfA (KF S rfl) (RF S rfl) (s_alI (KF S rfl) (by decide) ⟨by omega, by omega⟩ h1 (s_gfA (KF S rfl) (RF S rfl) (s_alI (KF S rfl) (by decide) ⟨by omega, by omega⟩ h2 (s_ckI ⟨by omega, by omega⟩ (s_ckI ⟨by omega, by omega⟩ (s_br (fun _ => ?_) (fun y => absurd (Decidable.not_not.mp y) (by omega)))))))))))
  refine s_pfZ (KF S rfl) (Or.inr rfl) ?_
  have S1 : SOK (sV w 0 20 1) := S
  have v9 : ∀ k j, ¬ (k = 0 ∧ j = 20) → gV (sV w 0 20 1) k j = gV w k j := fun k j y => gV_ne y
  have hc : CA (sV w 0 20 1) true op ar 0 L := ⟨gV_at, fun i u v => ⟨(v9 24 i (by omega)).trans (r5 i u v).1, (v9 25 i (by omega)).trans (r5 i u v).2⟩⟩
  have hV : VA (sV w 0 20 1) true E := by
    have e3 : gV (sV w 0 20 1) 3 = ρ := (funext fun j => v9 3 j (by omega)).trans C.2.1
    refine ⟨gV_at, fun v u z => (v9 36 _ (by omega)).trans (r1 v u z), ?_, ?_, ?_⟩
    · rw [e3]; exact r2
    · rw [e3]; exact nb
    · rw [e3]; exact fun b r u1 u2 u3 u4 => C.nAt_in ⟨u1, u2⟩ ⟨u3, u4⟩
  refine s_gfA (KF S1 rfl) (RF S1 rfl) (s_alI (KF S1 rfl) (by decide) ⟨by omega, by omega⟩ ((v9 54 p (by omega)).trans h1) (s_gfA (KF S1 rfl) (RF S1 rfl) (s_alI (KF S1 rfl) (by decide) ⟨by omega, by omega⟩ ((v9 54 (p + 1) (by omega)).trans h2) (s_cO (KF S1 rfl) ?_))))
  have m9 : Sm w (sV w 0 20 1) := Sm.rf.sV
  generalize sV w 0 20 1 = w1 at *
  -- behind the reckoning
  have tail : ∀ (w2 : Wd) (u c : Int), FV w1 w2 → gV w2 0 38 = c → (c = 0 ∨ c = 1) → gV w2 0 39 = u → (∀ w', FSO w w' → RDY w0 w' ρ op ar E L → gV w' 0 58 = c → Q u w') → pfZ w2 0 0 20 0 fun w16 => gfI w16 0 0 38 fun v17 => pfZ w16 0 0 58 v17 fun w18 => gfI w18 0 0 39 fun v19 => Q v19 w18 := by
    intro w2 u c f2 c38 hc01 c39 hq
    have S2 := S1.sm f2.1
    refine s_pfZ (KF S2 rfl) (Or.inl rfl) ?_
    have S3 : SOK (sV w2 0 20 0) := S2
    refine s_gfI (KF S3 rfl) ((gV_ne (by omega)).trans c38) (s_pfZ (KF S3 rfl) hc01 ?_)
    have S4 : SOK (sV (sV w2 0 20 0) 0 58 c) := S2
    have f4 : FSO w (sV (sV w2 0 20 0) 0 58 c) := ⟨(m9.tr f2.1).sV.sV, fun k j n => (gV_ne (by omega)).trans ((gV_ne (by omega)).trans ((f2.2 k j (by omega) (by omega)).trans (v9 k j (by omega))))⟩
    exact s_gfI (KF S4 rfl) ((gV_ne (by omega)).trans ((gV_ne (by omega)).trans c39)) (hq _ f4 (R.fso f4 ((gV_ne (by omega)).trans gV_at)) gV_at)
  refine t_rs S1 r3 hs hc hV (by omega) (by omega) (by omega) (by omega) (fun v w2 ev f2 b0 v39 => tail w2 v 0 f2 b0 (Or.inl rfl) v39 (fun w' f' R' z => hQ v w' ev (by have := evS_in (w0 := w0) r3 60 k a b hs v ev; exact ⟨by omega, by omega⟩) f' R' z)) (fun w2 ev f2 b1 => tail w2 _ 1 f2 b1 (Or.inr rfl) rfl (fun w' f' R' z => hX _ w' ev f' R' z))
/-- a test, reckoned -/
theorem y5_sumT (R : RDY w0 w ρ op ar E L) (h58 : gV w 0 58 = 0) (hp : 0 ≤ p ∧ p < 119) (h1 : gV w 54 p = a) (h2 : gV w 54 (p + 1) = b) (hr : 0 ≤ a ∧ a < b ∧ b ≤ L) (hs : TestR w0 true op ar 40 k a b) (hQ : ∀ v w', evT w0 E 40 k = some v → inI v → FSO w w' → RDY w0 w' ρ op ar E L → gV w' 0 58 = 0 → Q v w') (hX : ∀ v w', evT w0 E 40 k = none → FSO w w' → RDY w0 w' ρ op ar E L → gV w' 0 58 = 1 → Q v w') : wp_X5_sumOf 0 p w Q := by
  obtain ⟨C, r1, r2, r3, r4, r5⟩ := id R
  have S := C.1
  have nb := C.nb
  unfold wp_X5_sumOf
  refine s_gfI (KF S rfl) h58 (s_ckI ⟨by decide, by decide⟩ (s_br (fun y => absurd rfl y) (fun _ => s_gfA (KF S rfl) (RF S rfl) (s_alI (KF S rfl) (by decide) ⟨by omega, by omega⟩ h1 (s_gfA (KF S rfl) (RF S rfl) (s_alI (KF S rfl) (by decide) ⟨by omega, by omega⟩ h2 (s_ckI ⟨by omega, by omega⟩ (s_ckI ⟨by omega, by omega⟩ (s_br (fun _ => ?_) (fun y => absurd (Decidable.not_not.mp y) (by omega)))))))))))
  refine s_pfZ (KF S rfl) (Or.inr rfl) ?_
  have S1 : SOK (sV w 0 20 1) := S
  have v9 : ∀ k j, ¬ (k = 0 ∧ j = 20) → gV (sV w 0 20 1) k j = gV w k j := fun k j y => gV_ne y
  have hc : CA (sV w 0 20 1) true op ar 0 L := ⟨gV_at, fun i u v => ⟨(v9 24 i (by omega)).trans (r5 i u v).1, (v9 25 i (by omega)).trans (r5 i u v).2⟩⟩
  have hV : VA (sV w 0 20 1) true E := by
    have e3 : gV (sV w 0 20 1) 3 = ρ := (funext fun j => v9 3 j (by omega)).trans C.2.1
    refine ⟨gV_at, fun v u z => (v9 36 _ (by omega)).trans (r1 v u z), ?_, ?_, ?_⟩
    · rw [e3]; exact r2
    · rw [e3]; exact nb
    · rw [e3]; exact fun b r u1 u2 u3 u4 => C.nAt_in ⟨u1, u2⟩ ⟨u3, u4⟩
  refine s_gfA (KF S1 rfl) (RF S1 rfl) (s_alI (KF S1 rfl) (by decide) ⟨by omega, by omega⟩ ((v9 54 p (by omega)).trans h1) (s_gfA (KF S1 rfl) (RF S1 rfl) (s_alI (KF S1 rfl) (by decide) ⟨by omega, by omega⟩ ((v9 54 (p + 1) (by omega)).trans h2) (s_cO (KF S1 rfl) ?_))))
  have m9 : Sm w (sV w 0 20 1) := Sm.rf.sV
  generalize sV w 0 20 1 = w1 at *
  -- behind the reckoning
  have tail : ∀ (w2 : Wd) (u c : Int), FV w1 w2 → gV w2 0 38 = c → (c = 0 ∨ c = 1) → gV w2 0 39 = u → (∀ w', FSO w w' → RDY w0 w' ρ op ar E L → gV w' 0 58 = c → Q u w') → pfZ w2 0 0 20 0 fun w16 => gfI w16 0 0 38 fun v17 => pfZ w16 0 0 58 v17 fun w18 => gfI w18 0 0 39 fun v19 => Q v19 w18 := by
    intro w2 u c f2 c38 hc01 c39 hq
    have S2 := S1.sm f2.1
    refine s_pfZ (KF S2 rfl) (Or.inl rfl) ?_
    have S3 : SOK (sV w2 0 20 0) := S2
    refine s_gfI (KF S3 rfl) ((gV_ne (by omega)).trans c38) (s_pfZ (KF S3 rfl) hc01 ?_)
    have S4 : SOK (sV (sV w2 0 20 0) 0 58 c) := S2
    have f4 : FSO w (sV (sV w2 0 20 0) 0 58 c) := ⟨(m9.tr f2.1).sV.sV, fun k j n => (gV_ne (by omega)).trans ((gV_ne (by omega)).trans ((f2.2 k j (by omega) (by omega)).trans (v9 k j (by omega))))⟩
    exact s_gfI (KF S4 rfl) ((gV_ne (by omega)).trans ((gV_ne (by omega)).trans c39)) (hq _ f4 (R.fso f4 ((gV_ne (by omega)).trans gV_at)) gV_at)
  refine t_rt S1 r3 hs hc hV (by omega) (by omega) (by omega) (by omega) (fun v w2 ev hv01 f2 b0 v39 => tail w2 v 0 f2 b0 (Or.inl rfl) v39 (fun w' f' R' z => hQ v w' ev ⟨by omega, by omega⟩ f' R' z)) (fun w2 ev f2 b1 => tail w2 _ 1 f2 b1 (Or.inr rfl) rfl (fun w' f' R' z => hX _ w' ev f' R' z))
/-- clipped, the outcome is the same, or both are none -/
theorem cl6_id (h : 0 ≤ v ∧ v < 1000000) : cl6 v = v := if_pos h
theorem cl6_no (h : ¬ (0 ≤ v ∧ v < 1000000)) : cl6 v = -1 := if_neg h
theorem pulF_neg {t r b : Int} (h : ¬ (0 ≤ t ∧ t ≤ 7) ∨ ¬ (0 ≤ r ∧ r ≤ 7) ∨ ¬ (0 ≤ b ∧ b ≤ s.1 0 - 1)) : (pulF s t r b).1 < 0 := by
  unfold pulF
  split
  · show (-1 : Int) < 0; decide
  · split
    · show (-2 : Int) < 0; decide
    · omega
theorem snaF_neg {t b : Int} (h : ¬ (0 ≤ t ∧ t ≤ 7) ∨ ¬ (0 ≤ b ∧ b ≤ s.1 0 - 1)) : (snaF s t b).1 < 0 := by
  unfold snaF
  split
  · show (-1 : Int) < 0; decide
  · split
    · show (-2 : Int) < 0; decide
    · omega
theorem wedF_neg {b x : Int} (h : ¬ (0 ≤ b ∧ b ≤ s.1 0 - 1) ∨ ¬ (0 ≤ x ∧ x ≤ s.1 1 - 1)) : (wedF w0 s b x).1 < 0 := by
  unfold wedF
  rw [if_pos h]
  show (-2 : Int) < 0
  decide
theorem cl6_out {n : Int} (hn : n ≤ 1000) (h : ¬ (0 ≤ v ∧ v < 1000000)) : ¬ (0 ≤ v ∧ v ≤ n) ∧ ¬ (0 ≤ cl6 v ∧ cl6 v ≤ n) := by
  rw [cl6_no h]
  omega
theorem tolV_some {o : Nat} (e : evS w0 E 60 o = some v) : tolV w0 E (some o) = cl6 v := by
  unfold tolV
  dsimp only
  rw [e]
  rfl
theorem tolV_none {o : Nat} (e : evS w0 E 60 o = none) : tolV w0 E (some o) = -1 := by
  unfold tolV
  dsimp only
  rw [e]
/-- a sum of an order that is there -/
def SIN (w0 : Wd) (E : Int → Int) (k : Nat) (i : Nat) (v : Int) : Prop := ∃ o, gR w0 k ((i + 1 : Nat) : Int) = some o ∧ evS w0 E 60 o = some v
def SBR (w0 : Wd) (E : Int → Int) (k : Nat) (i : Nat) : Prop := ∃ o, gR w0 k ((i + 1 : Nat) : Int) = some o ∧ evS w0 E 60 o = none
theorem SIN.tol {i : Nat} (h : SIN w0 E k i v) : tolV w0 E (gR w0 k ((i + 1 : Nat) : Int)) = cl6 v := by
  obtain ⟨o, h1, h2⟩ := h
  rw [h1]
  exact tolV_some h2
theorem SBR.tol {i : Nat} (h : SBR w0 E k i) : tolV w0 E (gR w0 k ((i + 1 : Nat) : Int)) = -1 := by
  obtain ⟨o, h1, h2⟩ := h
  rw [h1]
  exact tolV_none h2
/-- an order's sum number i, if there is none broken before it -/
theorem y5_sumI {i : Nat} (hi : i < 3) (R : RDY w0 w ρ op ar E L) (hO : OrdR w0 op ar L k f) (hb : 0 ≤ b ∧ b + 10 ≤ 120) (hrow : ∀ o, 0 ≤ o → o < 10 → gV w 54 (b + o) = f o) (h58 : gV w 0 58 = 0) (hp : p = b + (1 + 2 * i)) (hQ : ∀ v w', inI v → FSO w w' → RDY w0 w' ρ op ar E L → gV w' 0 58 = 0 → (i < nsO (f 0) → SIN w0 E k i v) → Q v w') (hX : ∀ v w', FSO w w' → RDY w0 w' ρ op ar E L → gV w' 0 58 = 1 → i < nsO (f 0) → SBR w0 E k i → Q v w') : wp_X5_sumOf 0 p w Q := by
  obtain ⟨_, _, _, o6, _, _⟩ := hO
  have h6 := o6 i hi
  have e1 : gV w 54 p = f (1 + 2 * i) := by rw [hp]; exact hrow _ (by omega) (by omega)
  have e2 : gV w 54 (p + 1) = f (2 + 2 * i) := by
    rw [hp, (by omega : b + (1 + 2 * (i : Int)) + 1 = b + (2 + 2 * i))]
    exact hrow _ (by omega) (by omega)
  by_cases z : i < nsO (f 0)
  · rw [if_pos z] at h6
    obtain ⟨o, g1, g2, g3⟩ := h6
    exact y5_sumS R h58 ⟨by omega, by omega⟩ e1 e2 g3 g2 (fun v w' ev iv f' R' z' => hQ v w' iv f' R' z' (fun _ => ⟨o, g1, ev⟩)) (fun v w' ev f' R' z' => hX v w' f' R' z' z ⟨o, g1, ev⟩)
  · rw [if_neg z] at h6
    exact y5_sumN R.1.1 h58 ⟨by omega, by omega⟩ (e1.trans h6.1) (e2.trans h6.2) (hQ (-1) w ⟨by decide, by decide⟩ FSO.rf R h58 (fun y => absurd y z))
/-- an act, out of what the sums tell -/
theorem y5_actF {v0 v1 v2 : Int} (T : TU w0 w s) (U : SOKs s) (hO : OrdR w0 op ar L k f) (i0 : inI v0) (i1 : inI v1) (i2 : inI v2) (h0 : 0 < nsO (f 0) → SIN w0 E k 0 v0) (h1 : 1 < nsO (f 0) → SIN w0 E k 1 v1) (h2 : 2 < nsO (f 0) → SIN w0 E k 2 v2) (hq : ∀ w' r, r = (runF w0 k E s).1 → 0 ≤ r → FTW w w' → TU w0 w' (runF w0 k E s).2 → Q r w') (hX : ∀ w' r s2, r < 0 → -3 ≤ r → (runF w0 k E s).1 < 0 → FTW w w' → TU w0 w' s2 → Q r w') : wp_X5_act 0 (f 0) v0 v1 v2 w Q := by
  have S := T.1.1
  have o3 := hO.2.1
  have nb := U.2.2.1
  have ns := U.2.2.2.1
  have eR : runF w0 k E s = if f 0 = 3 then pasF w0 s else if f 0 = 0 then pulF s (tolV w0 E (gR w0 k 1)) (tolV w0 E (gR w0 k 2)) (tolV w0 E (gR w0 k 3)) else if f 0 = 1 then snaF s (tolV w0 E (gR w0 k 1)) (tolV w0 E (gR w0 k 2)) else wedF w0 s (tolV w0 E (gR w0 k 1)) (tolV w0 E (gR w0 k 2)) := by
    unfold runF
    rw [o3.1]
  -- from the outcome of an act with numbers as they are
  have fin : ∀ (q : Int × US) (w' : Wd), Fok s q → FTW w w' → TU w0 w' q.2 → (q = runF w0 k E s ∨ (q.1 < 0 ∧ (runF w0 k E s).1 < 0)) → Q q.1 w' := by
    intro q w' hF ff TT hh
    by_cases z : q.1 < 0
    · rcases hh with hh | hh
      · exact hX w' q.1 q.2 z hF.1 (by rw [← hh]; exact z) ff TT
      · exact hX w' q.1 q.2 z hF.1 hh.2 ff TT
    · rcases hh with hh | hh
      · rw [hh] at TT ⊢
        exact hq w' _ rfl (by rw [← hh]; omega) ff TT
      · exact absurd hh.1 z
  unfold wp_X5_act
  refine s_ckI ⟨by omega, by omega⟩ (s_br (fun z => s_cO (KF S rfl) (y5_pullNow T i0 i1 i2 (fun w' ff TT => fin _ w' (pulF_ok U) ff TT ?_))) (fun z0 => s_br (fun z => s_cO (KF S rfl) (y5_snapNow T i0 i1 (fun w' ff TT => fin _ w' (snaF_ok U) ff TT ?_))) (fun z1 => s_br (fun z => s_cO (KF S rfl) (y5_wedNow T i0 i1 (fun w' ff TT => fin _ w' (wedF_ok U) ff TT ?_))) (fun z2 => s_cO (KF S rfl) (y5_passNow T (fun w' ff TT => fin _ w' (pasF_ok U) ff TT ?_))))))
  · have n3 : nsO (f 0) = 3 := by rw [z]; rfl
    have t0 := (h0 (by omega)).tol
    have t1 := (h1 (by omega)).tol
    have t2 := (h2 (by omega)).tol
    have t0 : tolV w0 E (gR w0 k 1) = cl6 v0 := t0
    have t1 : tolV w0 E (gR w0 k 2) = cl6 v1 := t1
    have t2 : tolV w0 E (gR w0 k 3) = cl6 v2 := t2
    rw [if_neg (by omega), if_pos z, t0, t1, t2] at eR
    rw [eR]
    by_cases c0 : 0 ≤ v0 ∧ v0 < 1000000
    · by_cases c1 : 0 ≤ v1 ∧ v1 < 1000000
      · by_cases c2 : 0 ≤ v2 ∧ v2 < 1000000
        · left; rw [cl6_id c0, cl6_id c1, cl6_id c2]
        · have q := cl6_out (n := s.1 0 - 1) (by omega) c2
          exact Or.inr ⟨pulF_neg (Or.inr (Or.inr q.1)), pulF_neg (Or.inr (Or.inr q.2))⟩
      · have q := cl6_out (n := 7) (by decide) c1
        exact Or.inr ⟨pulF_neg (Or.inr (Or.inl q.1)), pulF_neg (Or.inr (Or.inl q.2))⟩
    · have q := cl6_out (n := 7) (by decide) c0
      exact Or.inr ⟨pulF_neg (Or.inl q.1), pulF_neg (Or.inl q.2)⟩
  · have n2 : nsO (f 0) = 2 := by rw [z]; rfl
    have t0 : tolV w0 E (gR w0 k 1) = cl6 v0 := (h0 (by omega)).tol
    have t1 : tolV w0 E (gR w0 k 2) = cl6 v1 := (h1 (by omega)).tol
    rw [if_neg (by omega), if_neg z0, if_pos z, t0, t1] at eR
    rw [eR]
    by_cases c0 : 0 ≤ v0 ∧ v0 < 1000000
    · by_cases c1 : 0 ≤ v1 ∧ v1 < 1000000
      · left; rw [cl6_id c0, cl6_id c1]
      · have q := cl6_out (n := s.1 0 - 1) (by omega) c1
        exact Or.inr ⟨snaF_neg (Or.inr q.1), snaF_neg (Or.inr q.2)⟩
    · have q := cl6_out (n := 7) (by decide) c0
      exact Or.inr ⟨snaF_neg (Or.inl q.1), snaF_neg (Or.inl q.2)⟩
  · have n2 : nsO (f 0) = 2 := by rw [z]; rfl
    have t0 : tolV w0 E (gR w0 k 1) = cl6 v0 := (h0 (by omega)).tol
    have t1 : tolV w0 E (gR w0 k 2) = cl6 v1 := (h1 (by omega)).tol
    rw [if_neg (by omega), if_neg z0, if_neg z1, t0, t1] at eR
    rw [eR]
    by_cases c0 : 0 ≤ v0 ∧ v0 < 1000000
    · by_cases c1 : 0 ≤ v1 ∧ v1 < 1000000
      · left; rw [cl6_id c0, cl6_id c1]
      · have q := cl6_out (n := s.1 1 - 1) (by omega) c1
        exact Or.inr ⟨wedF_neg (Or.inr q.1), wedF_neg (Or.inr q.2)⟩
    · have q := cl6_out (n := s.1 0 - 1) (by omega) c0
      exact Or.inr ⟨wedF_neg (Or.inl q.1), wedF_neg (Or.inl q.2)⟩
  · rw [if_pos (by omega)] at eR
    exact Or.inl eR.symm
/-- a broken sum: nothing can be done -/
theorem runF_br {i : Nat} (hO : OrdR w0 op ar L k f) (hi : i < nsO (f 0)) (h : SBR w0 E k i) : (runF w0 k E s).1 < 0 := by
  have o3 := hO.2.1
  have t := h.tol
  unfold runF
  rw [o3.1]
  unfold nsO at hi
  by_cases z3 : f 0 = 3
  · rw [if_pos z3] at hi; omega
  · rw [if_neg z3] at hi
    rw [if_neg z3]
    by_cases z0 : f 0 = 0
    · rw [if_pos z0] at hi
      rw [if_pos z0]
      rcases (by omega : i = 0 ∨ i = 1 ∨ i = 2) with r | r | r <;> subst r
      · have t : tolV w0 E (gR w0 k 1) = -1 := t
        rw [t]; exact pulF_neg (Or.inl (by omega))
      · have t : tolV w0 E (gR w0 k 2) = -1 := t
        rw [t]; exact pulF_neg (Or.inr (Or.inl (by omega)))
      · have t : tolV w0 E (gR w0 k 3) = -1 := t
        rw [t]; exact pulF_neg (Or.inr (Or.inr (by omega)))
    · rw [if_neg z0] at hi
      rw [if_neg z0]
      by_cases z1 : f 0 = 1
      · rw [if_pos z1]
        rcases (by omega : i = 0 ∨ i = 1) with r | r <;> subst r
        · have t : tolV w0 E (gR w0 k 1) = -1 := t
          rw [t]; exact snaF_neg (Or.inl (by omega))
        · have t : tolV w0 E (gR w0 k 2) = -1 := t
          rw [t]; exact snaF_neg (Or.inr (by omega))
      · rw [if_neg z1]
        rcases (by omega : i = 0 ∨ i = 1) with r | r <;> subst r
        · have t : tolV w0 E (gR w0 k 1) = -1 := t
          rw [t]; exact wedF_neg (Or.inl (by omega))
        · have t : tolV w0 E (gR w0 k 2) = -1 := t
          rw [t]; exact wedF_neg (Or.inr (by omega))
end TORDER
