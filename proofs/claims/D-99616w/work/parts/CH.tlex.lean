/-! THE PLAIN LAW: texts: the twin's reader, token by token -/
set_option maxRecDepth 100000
/-- the twin's tape -/
def TTX (T : Int → Int) (N : Int) (w : Wd) : Prop := SOK w ∧ (0 ≤ N ∧ N ≤ 400) ∧ gV w 0 13 = N ∧ ∀ q, 0 ≤ q → q < 400 → gV w 12 q = T q ∧ 0 ≤ T q ∧ T q ≤ 255
/-- the twin's token -/
def TWX (T : Int → Int) (N : Int) (w : Wd) (s : LX) : Prop := TTX T N w ∧ gV w 0 14 = s.1 ∧ gV w 0 15 = s.2.1 ∧ gV w 0 16 = soT T N s.1 ∧ gV w 0 17 = woT T N s.1 s.2.1
/-- what its lexing changes: places lo .. 17 of itself -/
def FN (lo : Int) (w w' : Wd) : Prop := Sm w w' ∧ ∀ k j, ¬ (k = 0 ∧ lo ≤ j ∧ j ≤ 17) → gV w' k j = gV w k j
section TLEX
variable {T : Int → Int} {N : Int} {w w' w1 w2 : Wd} {k t n : Nat} {s : LX} {P : Prop} {v x i lo : Int} {Q : Int → Wd → Prop} {QW X : Wd → Prop}
theorem FN.rf : FN lo w w := ⟨Sm.rf, fun _ _ _ => rfl⟩
theorem FN.tr (h1 : FN lo w w1) (h2 : FN lo w1 w2) : FN lo w w2 := ⟨h1.1.tr h2.1, fun k j h => (h2.2 k j h).trans (h1.2 k j h)⟩
theorem FN.sV {j : Int} (h : FN lo w w') (hj : lo ≤ j ∧ j ≤ 17) : FN lo w (sV w' 0 j x) := ⟨h.1.sV, fun k' j' hn => by
  rw [gV_ne (fun e => hn ⟨e.1, by omega⟩)]
  exact h.2 k' j' hn⟩
theorem FN.we {lo' : Int} (h : FN lo w w') (hl : lo' ≤ lo) : FN lo' w w' := ⟨h.1, fun k j hn => h.2 k j (fun y => hn ⟨y.1, by omega, y.2.2⟩)⟩
theorem TTX.fn (h : TTX T N w) (f : FN lo w w') (hl : 14 ≤ lo) : TTX T N w' := ⟨h.1.sm f.1, h.2.1, (f.2 0 13 (by omega)).trans h.2.2.1, fun q a b => by rw [f.2 12 q (by omega)]; exact h.2.2.2 q a b⟩
theorem y5_isSmall (hv : 0 ≤ v ∧ v ≤ 255) (hq : Q (b2i (smB v = true)) w) : wp_X5_isSmall v w Q := by
  unfold wp_X5_isSmall
  refine s_ckI ⟨by omega, by omega⟩ (s_br (fun y => ?_) (fun y => s_ckI ⟨by omega, by omega⟩ (s_br (fun z => ?_) (fun z => ?_))))
  · rw [b2i_f (by intro h; unfold smB at h; have := of_decide_eq_true h; omega)] at hq
    exact s_zr (Or.inl rfl) hq
  · rw [b2i_f (by intro h; unfold smB at h; have := of_decide_eq_true h; omega)] at hq
    exact s_zr (Or.inl rfl) hq
  · rw [b2i_t (by unfold smB; exact decide_eq_true (by omega))] at hq
    exact s_zr (Or.inr rfl) hq
theorem y5_isDigit (hv : 0 ≤ v ∧ v ≤ 255) (hq : Q (b2i (dgB v = true)) w) : wp_X5_isDigit v w Q := by
  unfold wp_X5_isDigit
  refine s_ckI ⟨by omega, by omega⟩ (s_br (fun y => ?_) (fun y => s_ckI ⟨by omega, by omega⟩ (s_br (fun z => ?_) (fun z => ?_))))
  · rw [b2i_f (by intro h; unfold dgB at h; have := of_decide_eq_true h; omega)] at hq
    exact s_zr (Or.inl rfl) hq
  · rw [b2i_f (by intro h; unfold dgB at h; have := of_decide_eq_true h; omega)] at hq
    exact s_zr (Or.inl rfl) hq
  · rw [b2i_t (by unfold dgB; exact decide_eq_true (by omega))] at hq
    exact s_zr (Or.inr rfl) hq
theorem y5_next_8 : ∀ (m fuel : Nat) (p : Int) (w : Wd), (N - p).toNat ≤ m → m < fuel → 0 ≤ p → p ≤ N → TTX T N w → gV w 0 14 = p → (∀ w', FN 14 w w' → gV w' 0 14 = skN T N p → X w') → wp_X5_next_8 QW X 0 fuel w := by
  intro m
  induction m with
  | zero =>
    intro fuel p w h1 h2 h3 h4 R e hq
    obtain ⟨f, rfl⟩ : ∃ f, fuel = f + 1 := ⟨fuel - 1, by omega⟩
    obtain ⟨S, hN, e13, hT⟩ := R
    rw [wp_X5_next_8]
    refine s_gfI (KF S rfl) e (s_gfI (KF S rfl) e13 (s_ckI ⟨by omega, by omega⟩ (s_ckI ⟨by omega, by omega⟩ (s_br (fun _ => hq w FN.rf ?_) (fun y => absurd (by omega) y)))))
    have e2 : skN T N p = p := ruN_en (by omega)
    rw [e2]; exact e
  | succ m ih =>
    intro fuel p w h1 h2 h3 h4 R e hq
    obtain ⟨f, rfl⟩ : ∃ f, fuel = f + 1 := ⟨fuel - 1, by omega⟩
    have R0 := R
    obtain ⟨S, hN, e13, hT⟩ := R
    rw [wp_X5_next_8]
    refine s_gfI (KF S rfl) e (s_gfI (KF S rfl) e13 (s_ckI ⟨by omega, by omega⟩ (s_ckI ⟨by omega, by omega⟩ (s_br (fun y => hq w FN.rf ?_) (fun y => ?_)))))
    · have e2 : skN T N p = p := ruN_en (by omega)
      rw [e2]; exact e
    · have g := hT p h3 (by omega)
      refine s_gfA (KF S rfl) (RF S rfl) (s_gfI (KF S rfl) e (s_alI (KF S rfl) (by decide) ⟨by omega, by omega⟩ g.1 (s_ckI ⟨by omega, by omega⟩ (s_br (fun z => hq w FN.rf ?_) (fun z => ?_)))))
      · have e2 : skN T N p = p := ruN_en (fun y => z (by have := y.2; unfold blB at this; have := of_decide_eq_true this; omega))
        rw [e2]; exact e
      · have e2 : skN T N p = skN T N (p + 1) := ruN_st (by omega) (by unfold blB; exact decide_eq_true (by omega))
        refine s_gfI (KF S rfl) e (s_pfI (KF S rfl) ?_)
        have f1 : FN 14 w (sV w 0 14 (p + 1)) := FN.rf.sV (by decide)
        exact ih f (p + 1) _ (by omega) (by omega) (by omega) (by omega) (R0.fn f1 (by decide)) gV_at (fun w' f2 e' => hq w' (f1.tr f2) (by rw [e2]; exact e'))
/-- a word's letters -/
theorem y5_next_149 {f : Int} : ∀ (m fuel : Nat) (p : Int) (w : Wd), (N - p).toNat ≤ m → m < fuel → 0 ≤ f → f ≤ p → p ≤ N → TTX T N w → gV w 0 14 = f → gV w 0 15 = p → gV w 0 16 = 1 → gV w 0 17 = hsT T f (p - f).toNat → (∀ w', FN 15 w w' → gV w' 0 16 = 1 → gV w' 0 15 = ruN T N smB p → gV w' 0 17 = hsT T f (ruN T N smB p - f).toNat → X w') → wp_X5_next_149 QW X 0 fuel w := by
  intro m
  induction m with
  | zero =>
    intro fuel p w h1 h2 h0 h3 h4 R e14 e15 e16 e17 hq
    obtain ⟨g, rfl⟩ : ∃ g, fuel = g + 1 := ⟨fuel - 1, by omega⟩
    obtain ⟨S, hN, e13, hT⟩ := R
    have e2 : ruN T N smB p = p := ruN_en (by omega)
    rw [wp_X5_next_149]
    exact s_gfI (KF S rfl) e16 (s_ckI ⟨by decide, by decide⟩ (s_br (fun y => absurd rfl y) (fun _ => s_gfI (KF S rfl) e15 (s_gfI (KF S rfl) e13 (s_ckI ⟨by omega, by omega⟩ (s_ckI ⟨by omega, by omega⟩ (s_br (fun _ => hq w FN.rf e16 (by rw [e2]; exact e15) (by rw [e2]; exact e17)) (fun y => absurd (by omega) y))))))))
  | succ m ih =>
    intro fuel p w h1 h2 h0 h3 h4 R e14 e15 e16 e17 hq
    obtain ⟨g, rfl⟩ : ∃ g, fuel = g + 1 := ⟨fuel - 1, by omega⟩
    have R0 := R
    obtain ⟨S, hN, e13, hT⟩ := R
    rw [wp_X5_next_149]
    refine s_gfI (KF S rfl) e16 (s_ckI ⟨by decide, by decide⟩ (s_br (fun y => absurd rfl y) (fun _ => s_gfI (KF S rfl) e15 (s_gfI (KF S rfl) e13 (s_ckI ⟨by omega, by omega⟩ (s_ckI ⟨by omega, by omega⟩ (s_br (fun y => ?_) (fun y => ?_))))))))
    · have e2 : ruN T N smB p = p := ruN_en (by omega)
      exact hq w FN.rf e16 (by rw [e2]; exact e15) (by rw [e2]; exact e17)
    · have gq := hT p (by omega) (by omega)
      refine s_gfA (KF S rfl) (RF S rfl) (s_gfI (KF S rfl) e15 (s_alI (KF S rfl) (by decide) ⟨by omega, by omega⟩ gq.1 (y5_isSmall gq.2 (s_ckI b2i_in ?_))))
      by_cases z : smB (T p) = true
      · rw [b2i_t z]
        refine s_br (fun y => absurd y (by decide)) (fun _ => s_gfI (KF S rfl) e15 (s_gfI (KF S rfl) e14 (s_ckI ⟨by omega, by omega⟩ ?_)))
        have e2 : ruN T N smB p = ruN T N smB (p + 1) := ruN_st (by omega) z
        have ek : (p + 1 - f).toNat = (p - f).toNat + 1 := by omega
        have ef : f + ((p - f).toNat : Int) = p := by omega
        have go : ∀ v, v = hsT T f ((p + 1 - f).toNat) → wp_X5_next_227 QW (wp_X5_next_149 QW X 0 g) X 0 v 0 w := by
          intro v hv
          unfold wp_X5_next_227
          refine s_pfI (KF S rfl) ?_
          have f1 : FN 15 w (sV w 0 17 v) := FN.rf.sV (by decide)
          have R1 := R0.fn f1 (by decide)
          refine s_gfI (KF R1.1 rfl) ((gV_ne (by omega)).trans e15) (s_pfI (KF R1.1 rfl) ?_)
          have f2 : FN 15 w (sV (sV w 0 17 v) 0 15 (p + 1)) := f1.sV (by decide)
          exact ih g (p + 1) _ (by omega) (by omega) h0 (by omega) (by omega) (R0.fn f2 (by decide)) ((f2.2 0 14 (by omega)).trans e14) gV_at ((gV_ne (by omega)).trans ((gV_ne (by omega)).trans e16)) ((gV_ne (by omega)).trans (gV_at.trans hv)) (fun w' f' a b c => hq w' (f2.tr f') a (by rw [e2]; exact b) (by rw [e2]; exact c))
        refine s_br (fun y => ?_) (fun y => ?_)
        · exact go (-1) (by rw [ek]; show -1 = if 10 ≤ (p - f).toNat then -1 else _; rw [if_pos (by omega)])
        · refine s_gfI (KF S rfl) e17 (s_gfA (KF S rfl) (RF S rfl) (s_gfI (KF S rfl) e15 (s_alI (KF S rfl) (by decide) ⟨by omega, by omega⟩ gq.1 (s_ckI ⟨by omega, by omega⟩ (go _ ?_)))))
          rw [ek]
          show _ = if 10 ≤ (p - f).toNat then -1 else hsT T f (p - f).toNat * 32 + T (f + ((p - f).toNat : Int)) - 96
          rw [if_neg (by omega), ef]
      · rw [b2i_f z]
        have e2 : ruN T N smB p = p := ruN_en (fun y => z y.2)
        exact s_br (fun _ => hq w FN.rf e16 (by rw [e2]; exact e15) (by rw [e2]; exact e17)) (fun y => absurd rfl y)
theorem dgT_in {f : Int} {m : Nat} (hd : ∀ j : Nat, j < m → 48 ≤ T (f + j) ∧ T (f + j) ≤ 57) : ∀ k : Nat, k ≤ m → 0 ≤ dgT T f k ∧ dgT T f k ≤ 10000009 := by
  intro k
  induction k with
  | zero => intro _; exact ⟨Int.le_refl _, by show (0 : Int) ≤ 10000009; decide⟩
  | succ k ih =>
    intro h
    have := ih (by omega)
    have := hd k (by omega)
    show 0 ≤ (if dgT T f k ≤ 1000000 then dgT T f k * 10 + T (f + k) - 48 else dgT T f k) ∧ (if dgT T f k ≤ 1000000 then dgT T f k * 10 + T (f + k) - 48 else dgT T f k) ≤ 10000009
    split <;> omega
/-- a number's digits -/
theorem y5_next_243 {f : Int} : ∀ (m fuel : Nat) (p : Int) (w : Wd), (N - p).toNat ≤ m → m < fuel → 0 ≤ f → f ≤ p → p ≤ N → (∀ j : Nat, j < (p - f).toNat → 48 ≤ T (f + j) ∧ T (f + j) ≤ 57) → TTX T N w → gV w 0 14 = f → gV w 0 15 = p → gV w 0 16 = 2 → gV w 0 17 = dgT T f (p - f).toNat → (∀ w', FN 15 w w' → gV w' 0 16 = 2 → gV w' 0 15 = ruN T N dgB p → gV w' 0 17 = dgT T f (ruN T N dgB p - f).toNat → QW w') → wp_X5_next_243 QW 0 fuel w := by
  intro m
  induction m with
  | zero =>
    intro fuel p w h1 h2 h0 h3 h4 hd R e14 e15 e16 e17 hq
    obtain ⟨g, rfl⟩ : ∃ g, fuel = g + 1 := ⟨fuel - 1, by omega⟩
    obtain ⟨S, hN, e13, hT⟩ := R
    have e2 : ruN T N dgB p = p := ruN_en (by omega)
    rw [wp_X5_next_243]
    exact s_gfI (KF S rfl) e16 (s_ckI ⟨by decide, by decide⟩ (s_br (fun y => absurd rfl y) (fun _ => s_gfI (KF S rfl) e15 (s_gfI (KF S rfl) e13 (s_ckI ⟨by omega, by omega⟩ (s_ckI ⟨by omega, by omega⟩ (s_br (fun _ => hq w FN.rf e16 (by rw [e2]; exact e15) (by rw [e2]; exact e17)) (fun y => absurd (by omega) y))))))))
  | succ m ih =>
    intro fuel p w h1 h2 h0 h3 h4 hd R e14 e15 e16 e17 hq
    obtain ⟨g, rfl⟩ : ∃ g, fuel = g + 1 := ⟨fuel - 1, by omega⟩
    have R0 := R
    obtain ⟨S, hN, e13, hT⟩ := R
    rw [wp_X5_next_243]
    refine s_gfI (KF S rfl) e16 (s_ckI ⟨by decide, by decide⟩ (s_br (fun y => absurd rfl y) (fun _ => s_gfI (KF S rfl) e15 (s_gfI (KF S rfl) e13 (s_ckI ⟨by omega, by omega⟩ (s_ckI ⟨by omega, by omega⟩ (s_br (fun y => ?_) (fun y => ?_))))))))
    · have e2 : ruN T N dgB p = p := ruN_en (by omega)
      exact hq w FN.rf e16 (by rw [e2]; exact e15) (by rw [e2]; exact e17)
    · have gq := hT p (by omega) (by omega)
      refine s_gfA (KF S rfl) (RF S rfl) (s_gfI (KF S rfl) e15 (s_alI (KF S rfl) (by decide) ⟨by omega, by omega⟩ gq.1 (y5_isDigit gq.2 (s_ckI b2i_in ?_))))
      by_cases z : dgB (T p) = true
      · rw [b2i_t z]
        have zd : 48 ≤ T p ∧ T p ≤ 57 := by unfold dgB at z; exact of_decide_eq_true z
        have bd := dgT_in hd _ (Nat.le_refl _)
        refine s_br (fun y => absurd y (by decide)) (fun _ => s_gfI (KF S rfl) e17 (s_ckL ⟨by omega, by omega⟩ ?_))
        have e2 : ruN T N dgB p = ruN T N dgB (p + 1) := ruN_st (by omega) z
        have ek : (p + 1 - f).toNat = (p - f).toNat + 1 := by omega
        have ef : f + ((p - f).toNat : Int) = p := by omega
        have hd2 : ∀ j : Nat, j < (p + 1 - f).toNat → 48 ≤ T (f + j) ∧ T (f + j) ≤ 57 := fun j hj => by
          by_cases ej : j = (p - f).toNat
          · rw [ej, ef]; exact zd
          · exact hd j (by omega)
        have go : ∀ v, v = dgT T f ((p + 1 - f).toNat) → wp_X5_next_319 QW (wp_X5_next_243 QW 0 g) 0 v 0 w := by
          intro v hv
          unfold wp_X5_next_319
          refine s_pfI (KF S rfl) ?_
          have f1 : FN 15 w (sV w 0 17 v) := FN.rf.sV (by decide)
          have R1 := R0.fn f1 (by decide)
          refine s_gfI (KF R1.1 rfl) ((gV_ne (by omega)).trans e15) (s_pfI (KF R1.1 rfl) ?_)
          have f2 : FN 15 w (sV (sV w 0 17 v) 0 15 (p + 1)) := f1.sV (by decide)
          exact ih g (p + 1) _ (by omega) (by omega) h0 (by omega) (by omega) hd2 (R0.fn f2 (by decide)) ((f2.2 0 14 (by omega)).trans e14) gV_at ((gV_ne (by omega)).trans ((gV_ne (by omega)).trans e16)) ((gV_ne (by omega)).trans (gV_at.trans hv)) (fun w' f' a b c => hq w' (f2.tr f') a (by rw [e2]; exact b) (by rw [e2]; exact c))
        refine s_br (fun y => ?_) (fun y => ?_)
        · refine s_gfI (KF S rfl) e17 (s_gfA (KF S rfl) (RF S rfl) (s_gfI (KF S rfl) e15 (s_alI (KF S rfl) (by decide) ⟨by omega, by omega⟩ gq.1 (s_ckI ⟨by omega, by omega⟩ (go _ ?_)))))
          rw [ek]
          show _ = if dgT T f (p - f).toNat ≤ 1000000 then dgT T f (p - f).toNat * 10 + T (f + ((p - f).toNat : Int)) - 48 else _
          rw [if_pos y, ef]
        · refine s_gfI (KF S rfl) e17 (go _ ?_)
          rw [ek]
          show _ = if dgT T f (p - f).toNat ≤ 1000000 then dgT T f (p - f).toNat * 10 + T (f + ((p - f).toNat : Int)) - 48 else _
          rw [if_neg y]
      · rw [b2i_f z]
        have e2 : ruN T N dgB p = p := ruN_en (fun y => z y.2)
        exact s_br (fun _ => hq w FN.rf e16 (by rw [e2]; exact e15) (by rw [e2]; exact e17)) (fun y => absurd rfl y)
end TLEX
