/-! THE PLAIN LAW: tests, by the tree -/
set_option maxRecDepth 100000
section CTEST
variable {w0 w : Wd} {Q : Int → Wd → Prop} {X : Nat → Wd → Prop} {E : Int → Int}
theorem c_get {li Ek n9 : Nat} {o : Option Nat} {i sz : Int} {QR : Option Nat → Wd → Prop} (h1 : gK w li = some (.inl 18)) (h2 : gV w li 2 = sz) (h3 : gR w li 1 = some Ek) (h4 : gK w Ek = some (.inr (4, n9))) (hi : 0 ≤ i ∧ i < sz) (hs : sz ≤ n9) (hn : n9 < 1000) (h5 : gR w Ek i = o) (hq : QR o w) : wp_J2_get li i w QR := by
  unfold wp_J2_get wp_J6_checkIndex wp_J7_checkIndex wp_J2_elementData
  exact s_gfI h1 h2 (s_ckI ⟨by omega, by omega⟩ (s_br (fun z => absurd z (by omega)) (fun _ => s_ckI ⟨by omega, by omega⟩ (s_ckI ⟨by omega, by omega⟩ (s_br (fun _ => s_cO h1 (s_gfA h1 h3 ⟨n9, h4, ⟨hi.1, by omega, by omega⟩, by rw [h5]; exact hq⟩)) (fun z => absurd hi.2 z))))))
theorem c_size {li : Nat} {sz : Int} (h1 : gK w li = some (.inl 18)) (h2 : gV w li 2 = sz) (hq : Q sz w) : wp_J2_size li w Q := by
  unfold wp_J2_size
  exact s_gfI h1 h2 hq
theorem c_cmp {k : Nat} {sg a b : Int} (hk : gK w k = some (.inl 11)) (hs : gV w k 0 = sg) (h0 : sg = 60 ∨ sg = 62 ∨ sg = 61) (ha : inL a) (hb : inL b) (hq : Q (cV sg a b) w) : gfI w k 11 0 fun v9 => ckI v9 <| br (¬ v9 = 60) (gfI w k 11 0 fun v11 => ckI v11 <| br (¬ v11 = 62) (ckL a <| ckL b <| br (¬ a = b) (zr 0 (Q 0 w)) (zr 1 (Q 1 w))) (ckL a <| ckL b <| br (a ≤ b) (zr 0 (Q 0 w)) (zr 1 (Q 1 w)))) (ckL a <| ckL b <| br (b ≤ a) (zr 0 (Q 0 w)) (zr 1 (Q 1 w))) := by
  unfold cV at hq
  refine s_gfI hk hs (s_ckI ⟨by omega, by omega⟩ (s_br (fun g1 => ?_) (fun g1 => ?_)))
  · rw [if_neg g1] at hq
    refine s_gfI hk hs (s_ckI ⟨by omega, by omega⟩ (s_br (fun g2 => ?_) (fun g2 => ?_)))
    · rw [if_neg g2] at hq
      refine s_ckL ha (s_ckL hb (s_br (fun g3 => s_zr (by decide) ?_) (fun g3 => s_zr (by decide) ?_)))
      · rw [if_neg g3] at hq; exact hq
      · rw [if_pos (by omega)] at hq; exact hq
    · rw [if_pos (by omega)] at hq
      refine s_ckL ha (s_ckL hb (s_br (fun g3 => s_zr (by decide) ?_) (fun g3 => s_zr (by decide) ?_)))
      · rw [if_neg (by omega)] at hq; exact hq
      · rw [if_pos (by omega)] at hq; exact hq
  · rw [if_pos (by omega)] at hq
    refine s_ckL ha (s_ckL hb (s_br (fun g3 => s_zr (by decide) ?_) (fun g3 => s_zr (by decide) ?_)))
    · rw [if_neg (by omega)] at hq; exact hq
    · rw [if_pos (by omega)] at hq; exact hq
theorem evL_in {ev : Int → Option Int} {all : Int} (ha : all = 0 ∨ all = 1) : ∀ (m : Nat) (i v : Int), evL ev all i m = some v → v = 0 ∨ v = 1 := by
  intro m
  induction m with
  | zero => intro i v h; cases h; exact ha
  | succ m ih =>
    intro i v h
    unfold evL at h
    split at h
    · cases h
    · next u hu =>
      split at h
      · exact ih _ _ h
      · cases h; omega
theorem c_test {N : Int} {ord : Bool} {op ar : Int → Int} (S : SOK w) (H : Hi w0 w) (hN : N ≤ 16) (hO : ∀ v a b, valOp ord v a b → v < N) (hE : SetE w E N) : ∀ (n m k : Nat) (a b : Int), n ≤ m + 1 → TestR w0 ord op ar n k a b → ∀ (Q : Int → Wd → Prop) (X : Nat → Wd → Prop), (∀ v, evT w0 E n k = some v → (v = 0 ∨ v = 1) → Q v w) → (evT w0 E n k = none → X 192 w) → wp_dTest (wpR_TEST m false) (wpR_TEST m true) k (some 190) w Q X := by
  intro n
  induction n with
  | zero => intro m k a b _ h; exact h.elim
  | succ n ih =>
    intro m k a b hn h Q X hQ hX
    obtain ⟨hk, c, q9, _, _, h⟩ := h
    rcases h with h | h | h
    · obtain ⟨g, h0, _, l, r, mm, e1, e2, s1, s2⟩ := h
      obtain ⟨q1, q2, q3⟩ := H k hk (by rw [g]; exact fun z => by cases z)
      have ev : evT w0 E (n + 1) k = match evS w0 E 60 l with
        | none => none
        | some a => match evS w0 E 60 r with
          | none => none
          | some b => some (cV (gV w0 k 0) a b) := by
        have r1 : rK w0 k 1 = l := by unfold rK; rw [e1]; rfl
        have r2 : rK w0 k 2 = r := by unfold rK; rw [e2]; rfl
        rw [evT, if_pos g, r1, r2]
        rfl
      refine Or.inl ⟨q1.trans g, ?_⟩
      unfold wp_X15_is
      refine s_gfR (q1.trans g) ((q3 1).trans e1) (s_dO ?_)
      refine c_sum S H hN hO hE 60 60 l a mm (by decide) s1 _ _ (fun v1 ev1 b1 b2 => ?_) (fun ev1 => hX (by rw [ev, ev1]))
      refine s_gfR (q1.trans g) ((q3 2).trans e2) (s_dO ?_)
      refine c_sum S H hN hO hE 60 60 r mm (c - 1) (by decide) s2 _ _ (fun v2 ev2 b3 b4 => ?_) (fun ev2 => hX (by rw [ev, ev1, ev2]))
      rw [ev1, ev2] at ev
      exact c_cmp (q1.trans g) (q2 0) h0 ⟨by omega, by omega⟩ ⟨by omega, by omega⟩ (hQ _ ev cV_in)
    · obtain ⟨g, _, t, e1, s1⟩ := h
      obtain ⟨q1, q2, q3⟩ := H k hk (by rw [g]; exact fun z => by cases z)
      have hn0 : n ≠ 0 := fun z => by subst z; exact s1
      obtain ⟨m', rfl⟩ : ∃ m', m = m' + 1 := ⟨m - 1, by omega⟩
      have ev : evT w0 E (n + 1) k = match evT w0 E n t with
        | none => none
        | some v => some (1 - v) := by
        have r1 : rK w0 k 0 = t := by unfold rK; rw [e1]; rfl
        rw [evT, if_neg (by rw [g]; exact fun z => by cases z), if_pos g, r1]
        rfl
      refine Or.inr (Or.inl ⟨q1.trans g, ?_⟩)
      show wp_X16_is (wpR_TEST m' false) (wpR_TEST m' true) k (some 190) w Q X
      unfold wp_X16_is
      refine s_gfR (q1.trans g) ((q3 0).trans e1) (s_dO ?_)
      refine ih m' t a (c - 1) (by omega) s1 _ _ (fun v ev1 b1 => ?_) (fun ev1 => hX (by rw [ev, ev1]))
      rw [ev1] at ev
      have hq := hQ (1 - v) ev (by omega)
      refine s_ckI ⟨by omega, by omega⟩ (s_br (fun z => s_zr (by decide) ?_) (fun z => s_zr (by decide) ?_))
      · have : (1 : Int) - v = 0 := by omega
        rw [this] at hq; exact hq
      · have : (1 : Int) - v = 1 := by omega
        rw [this] at hq; exact hq
    · obtain ⟨g, hall, li, Ek, n9, f, e1, g1, hli, e2, hEk, g2, hn9, hs2, hsn, _, _, hch⟩ := h
      obtain ⟨q1, q2, q3⟩ := H k hk (by rw [g]; exact fun z => by cases z)
      obtain ⟨p1, p2, p3⟩ := H li hli (by rw [g1]; exact fun z => by cases z)
      obtain ⟨t1, t2, t3⟩ := H Ek hEk (by rw [g2]; exact fun z => by cases z)
      have hn0 : n ≠ 0 := fun z => by
        subst z
        obtain ⟨t, _, h9, _⟩ := hch 0 (by omega)
        exact h9
      obtain ⟨m', rfl⟩ : ∃ m', m = m' + 1 := ⟨m - 1, by omega⟩
      have ev : evT w0 E (n + 1) k = evL (fun i => evT w0 E n (rK w0 Ek i)) (gV w0 k 0) 0 (gV w0 li 2).toNat := by
        have r1 : rK w0 k 1 = li := by unfold rK; rw [e1]; rfl
        have r2 : rK w0 li 1 = Ek := by unfold rK; rw [e2]; rfl
        rw [evT, if_neg (by rw [g]; exact fun z => by cases z), if_neg (by rw [g]; exact fun z => by cases z), r1, r2]
      rw [ev] at hQ hX
      refine Or.inr (Or.inr ⟨q1.trans g, ?_⟩)
      show wp_X17_is (wpR_TEST m' false) (wpR_TEST m' true) k (some 190) w Q X
      unfold wp_X17_is
      have hsz : gV w li 2 = gV w0 li 2 := p2 2
      have hal : gV w k 0 = gV w0 k 0 := q2 0
      generalize gV w0 li 2 = sz at *
      generalize gV w0 k 0 = all at *
      have loop : ∀ (j fuel : Nat) (x : Int), x + j = sz → 0 ≤ x → j < fuel → (∀ v, evL (fun i => evT w0 E n (rK w0 Ek i)) all x j = some v → (v = 0 ∨ v = 1) → Q v w) → (evL (fun i => evT w0 E n (rK w0 Ek i)) all x j = none → X 192 w) → wp_X17_is_2 (wpR_TEST m' false) (wpR_TEST m' true) Q X (fun w1 => gfI w1 k 13 0 fun v2 => zr v2 (Q v2 w1)) k (some 190) fuel x w := by
        intro j
        induction j with
        | zero =>
          intro fuel x h1 h2 h3 hQ hX
          obtain ⟨fu, rfl⟩ : ∃ fu, fuel = fu + 1 := ⟨fuel - 1, by omega⟩
          rw [wp_X17_is_2]
          refine s_gfR (q1.trans g) ((q3 1).trans e1) (s_dO (s_cO (p1.trans g1) (c_size (p1.trans g1) hsz (s_ckI ⟨by omega, by omega⟩ (s_ckI ⟨by omega, by omega⟩ (s_br (fun _ => ?_) (fun z => absurd (by omega) z)))))))
          exact s_gfI (q1.trans g) hal (s_zr hall (hQ _ rfl hall))
        | succ j ihj =>
          intro fuel x h1 h2 h3 hQ hX
          obtain ⟨fu, rfl⟩ : ∃ fu, fuel = fu + 1 := ⟨fuel - 1, by omega⟩
          obtain ⟨t, et, st, _⟩ := hch x.toNat (by omega)
          have ex : ((x.toNat : Nat) : Int) = x := by omega
          rw [ex] at et
          have er : rK w0 Ek x = t := by unfold rK; rw [et]; rfl
          have e9 : evL (fun i => evT w0 E n (rK w0 Ek i)) all x (j + 1) = match evT w0 E n t with
            | none => none
            | some v => if v = all then evL (fun i => evT w0 E n (rK w0 Ek i)) all (x + 1) j else some (1 - all) := by
            rw [evL]
            simp only [er]
            rfl
          have hc : ∃ ci, gK w t = some (.inl ci) ∧ ci ∈ [11, 12, 13] := by
            cases n with
            | zero => exact st.elim
            | succ n =>
              obtain ⟨hk9, _, _, _, _, h9⟩ := st
              rcases h9 with h9 | h9 | h9
              · exact ⟨11, (H t hk9 (by rw [h9.1]; exact fun z => by cases z)).1.trans h9.1, by decide⟩
              · exact ⟨12, (H t hk9 (by rw [h9.1]; exact fun z => by cases z)).1.trans h9.1, by decide⟩
              · exact ⟨13, (H t hk9 (by rw [h9.1]; exact fun z => by cases z)).1.trans h9.1, by decide⟩
          obtain ⟨ci, hc1, hc2⟩ := hc
          rw [wp_X17_is_2]
          refine s_gfR (q1.trans g) ((q3 1).trans e1) (s_dO (s_cO (p1.trans g1) (c_size (p1.trans g1) hsz (s_ckI ⟨by omega, by omega⟩ (s_ckI ⟨by omega, by omega⟩ (s_br (fun z => absurd z (by omega)) (fun _ => ?_)))))))
          refine s_gfR (q1.trans g) ((q3 1).trans e1) (s_dO (s_cO (p1.trans g1) ?_))
          refine c_get (p1.trans g1) hsz ((p3 1).trans e2) (t1.trans g2) ⟨h2, by omega⟩ hsn hn9 ((t3 x).trans et) ?_
          refine ⟨Or.inr ⟨t, ci, rfl, hc1, hc2⟩, s_dO ?_⟩
          refine ih m' t _ _ (by omega) st _ _ (fun v ev1 b1 => ?_) (fun ev1 => hX (by rw [e9, ev1]))
          rw [ev1] at e9
          refine s_gfI (q1.trans g) hal (s_ckI ⟨by omega, by omega⟩ (s_ckI ⟨by omega, by omega⟩ (s_br (fun z => ?_) (fun z => ?_))))
          · have e9 : evL (fun i => evT w0 E n (rK w0 Ek i)) all x (j + 1) = evL (fun i => evT w0 E n (rK w0 Ek i)) all (x + 1) j := by rw [e9]; exact if_pos z
            rw [e9] at hQ hX
            exact ihj fu (x + 1) (by omega) (by omega) (by omega) hQ hX
          · have e9 : evL (fun i => evT w0 E n (rK w0 Ek i)) all x (j + 1) = some (1 - all) := by rw [e9]; exact if_neg z
            have hq := hQ _ e9 (by omega)
            refine s_gfI (q1.trans g) hal (s_ckI ⟨by omega, by omega⟩ (s_br (fun z2 => s_zr (by decide) ?_) (fun z2 => s_zr (by decide) ?_)))
            · have : (1 : Int) - all = 0 := by omega
              rw [this] at hq; exact hq
            · have : (1 : Int) - all = 1 := by omega
              rw [this] at hq; exact hq
      exact loop sz.toNat FU 0 (by omega) (by decide) (by unfold FU; omega) hQ hX
end CTEST
