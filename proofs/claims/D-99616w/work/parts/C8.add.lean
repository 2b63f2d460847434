/-! THE PLAIN LAW: texts: a list grows by one -/
set_option maxRecDepth 100000
/-- the list at li, its elements at e (n of them fit), z of them stand -/
def LST (w : Wd) (li e n : Nat) (z : Int) : Prop := gK w li = some (.inl 18) ∧ gR w li 1 = some e ∧ gK w e = some (.inr (4, n)) ∧ gV w li 2 = z ∧ (2 ≤ n ∧ n < 1000 ∧ 0 ≤ z ∧ z ≤ n) ∧ ∀ i, 0 ≤ i → i < z → ∀ y, gR w e i = some y → 1000 ≤ y ∧ ∃ ci, gK w y = some (.inl ci) ∧ ci < 19
/-- one more stands there -/
def ADD (w w' : Wd) (li e n : Nat) (z : Int) (k e' n' : Nat) : Prop := (gK w' li = some (.inl 18) ∧ gR w' li 1 = some e' ∧ gK w' e' = some (.inr (4, n')) ∧ gV w' li 2 = z + 1) ∧ (∀ i, 0 ≤ i → i < z → gR w' e' i = gR w e i) ∧ gR w' e' z = some k ∧ (∀ q, q ≠ li → q ≠ e → q ≠ e' → gK w' q = gK w q ∧ (∀ j, gV w' q j = gV w q j) ∧ ∀ j, gR w' q j = gR w q j) ∧ ((e' = e ∧ n' = n ∧ z < n ∧ ∀ i, i ≠ z → gR w' e i = gR w e i) ∨ (gK w e' = none ∧ 1000 ≤ e' ∧ z = n ∧ n' = n + max 1 (n / 2) ∧ gK w' e = gK w e ∧ (∀ j, gV w' e j = gV w e j) ∧ (∀ j, gR w' e j = gR w e j) ∧ ∀ i, i < 0 ∨ z < i → gR w' e' i = none)) ∧ (∀ j, j ≠ 1 → gR w' li j = gR w li j) ∧ TIW w'
section ADDS
variable {w w' w1 w2 : Wd} {k li e n ci : Nat} {z : Int} {P : Prop} {Q : Int → Wd → Prop} {QW X : Wd → Prop} {bc bs : Nat}
theorem isr1 : ∀ l : Fin 1000, isr (l.val : Int) 1 = ((l.val / 2 : Nat) : Int) := by decide +kernel
theorem j2_add_11 (L : LST w li e n z) (I : TIW w) (hk : gK w k = some (.inl ci)) (hc : ci < 19) (hk0 : 1000 ≤ k) (hz : z < n) (hl : li ≠ e) (hq : ∀ w', ADD w w' li e n z k e n → QW w') : wp_J2_add_2_11 QW li (some k) (some e) z bc bs w := by
  obtain ⟨h1, h2, h3, h4, h5, h6⟩ := L
  unfold wp_J2_add_2_11
  refine s_dO ⟨Or.inr ⟨k, ci, rfl, hk, ?_⟩, n, h3, ⟨h5.2.2.1, hz, by omega⟩, h1, ?_⟩
  · unfold okT
    rw [decide_eq_true hc]; rfl
  refine hq _ ⟨⟨h1, ?_, h3, gV_at⟩, ?_, ?_, ?_, Or.inl ⟨rfl, rfl, hz, fun i y => by show gR (sR w e z (some k)) e i = _; rw [gR_sR, if_neg (fun u => y u.2)]⟩, ?_, ?_⟩
  · show gR (sR w e z (some k)) li 1 = _
    rw [gR_sR, if_neg (fun y => hl y.1)]; exact h2
  · intro i a b
    show gR (sR w e z (some k)) e i = _
    rw [gR_sR, if_neg (by omega)]
  · show gR (sR w e z (some k)) e z = _
    rw [gR_sR, if_pos ⟨rfl, rfl⟩]
  · intro q q1 q2 _
    refine ⟨rfl, fun j => gV_ne (fun y => q1 y.1), fun j => ?_⟩
    show gR (sR w e z (some k)) q j = _
    rw [gR_sR, if_neg (fun y => q2 y.1)]
  · intro j _
    show gR (sR w e z (some k)) li j = _
    rw [gR_sR, if_neg (fun y => hl y.1)]
  · refine ⟨I.k1 (fun q y => y) (fun q y => by have y : gR (sR w e z (some k)) 103 q = none := y; rw [gR_sR] at y; split at y; cases y; exact y), fun q j x a b => ?_⟩
    have b : gR (sR w e z (some k)) q j = some x := b
    rw [gR_sR] at b
    split at b
    · injection b with b
      subst b
      exact ⟨(by show gK w k ≠ none; rw [hk]; exact fun y => by cases y), by omega, by omega, by omega⟩
    · exact I.2 q j x a b
theorem j2_add (L : LST w li e n z) (I : TIW w) (hk : gK w k = some (.inl ci)) (hc : ci < 19) (hk0 : 1000 ≤ k) (hn : z = n → n < 600) (hB : z = n → 1 ≤ bc ∧ n + max 1 (n / 2) ≤ bs) (hq : ∀ w' e' n', ADD w w' li e n z k e' n' → Q 1 w') : wp_J2_add li (some k) bc bs w Q := by
  obtain ⟨h1, h2, h3, h4, h5, h6⟩ := L
  have hl : li ≠ e := fun y => by subst y; rw [h1] at h3; cases h3
  unfold wp_J2_add
  refine s_gfI h1 rfl (s_pfI h1 ?_)
  have g0 : ∀ q j, ¬ (q = li ∧ j = 0) → gV (sV w li 0 (gV w li 0 + 1)) q j = gV w q j := fun q j y => gV_ne y
  have I2 : TIW (sV w li 0 (gV w li 0 + 1)) := I
  have L2 : LST (sV w li 0 (gV w li 0 + 1)) li e n z := ⟨h1, h2, h3, (g0 _ _ (by omega)).trans h4, h5, h6⟩
  have up : ∀ w' e' n', ADD (sV w li 0 (gV w li 0 + 1)) w' li e n z k e' n' → ADD w w' li e n z k e' n' := fun w' e' n' y => by
    obtain ⟨y1, y2, y3, y4, y5, y6, y7⟩ := y
    refine ⟨y1, y2, y3, fun q a b c => ⟨(y4 q a b c).1, fun j => ((y4 q a b c).2.1 j).trans (g0 _ _ (fun y => a y.1)), (y4 q a b c).2.2⟩, ?_, y6, y7⟩
    rcases y5 with y5 | ⟨u1, u2, u3, u4, u5, u6, u7⟩
    · exact Or.inl y5
    · exact Or.inr ⟨u1, u2, u3, u4, u5, fun j => (u6 j).trans (g0 _ _ (fun y => hl y.1.symm)), u7⟩
  have hq2 : ∀ w' e' n', ADD (sV w li 0 (gV w li 0 + 1)) w' li e n z k e' n' → Q 1 w' := fun w' e' n' y => hq w' e' n' (up w' e' n' y)
  have hk2 : gK (sV w li 0 (gV w li 0 + 1)) k = some (.inl ci) := hk
  clear hq up g0 h1 h2 h3 h4 h6 I
  generalize sV w li 0 (gV w li 0 + 1) = w2 at *
  have L3 := L2
  obtain ⟨h1, h2, h3, h4, h5, h6⟩ := L2
  refine s_gfA h1 h2 (s_gfI h1 h4 (s_cO h1 ⟨bc, bs, ⟨Nat.le_refl _, Nat.le_refl _⟩, ?_⟩))
  unfold wp_J2_add_2
  refine s_dO ⟨4, n, h3, by decide, s_ckI ⟨by omega, by omega⟩ (s_ckI ⟨by omega, by omega⟩ (s_br (fun y => ?_) (fun y => ?_)))⟩
  · exact j2_add_11 L3 I2 hk2 hc hk0 (by omega) hl (fun w' y => s_zr (Or.inr rfl) (hq2 w' _ _ y))
  · have hz : z = n := Decidable.not_not.mp y
    have hB := hB hz
    have hn := hn hz
    have mx : max 1 (n / 2) = if 1 < n / 2 then n / 2 else 1 := by split <;> omega
    have ei := isr1 ⟨n, by omega⟩
    dsimp only at ei
    refine s_cO h1 ⟨bc, bs, ⟨Nat.le_refl _, Nat.le_refl _⟩, ?_⟩
    unfold wp_J2_grow_2 wp_J2_grow wp_J12_newLength
    refine s_gfI h1 h4 (s_cO h1 ⟨bc, bs, ⟨Nat.le_refl _, Nat.le_refl _⟩, s_gfA h1 h2 ⟨4, n, h3, by decide, s_ckI ⟨by omega, by omega⟩ (s_br (fun _ => ?_) (fun y => absurd (by omega) y))⟩⟩)
    have ez : z + 1 - (n : Int) = 1 := by omega
    rw [ei, ez]
    have em : (n : Int) + iMx 1 ((n / 2 : Nat) : Int) = ((n + max 1 (n / 2) : Nat) : Int) := by
      unfold iMx
      split <;> omega
    rw [em]
    refine s_ckI ⟨by omega, by omega⟩ (s_ckI ⟨by omega, by omega⟩ (s_ckI ⟨by omega, by omega⟩ (s_br (fun y => absurd y (by omega)) (fun _ => s_ckI ⟨by omega, by omega⟩ (s_br (fun y => absurd y (by omega)) (fun _ => ?_))))))
    refine s_gfA h1 h2 ⟨bc, bs, ⟨Nat.le_refl _, Nat.le_refl _⟩, ?_⟩
    unfold wp_J13_copyOf wp_J13_copyOf_2
    refine s_dO ⟨⟨n, h3⟩, bc, bs, ⟨Nat.le_refl _, Nat.le_refl _⟩, s_dO ⟨rfl, ⟨by omega, by omega, hB.1, by omega⟩, fun e' he hn0 => ?_⟩⟩
    have et : (((n + max 1 (n / 2) : Nat) : Int)).toNat = n + max 1 (n / 2) := by omega
    rw [et]
    have en : e ≠ e' := fun y => by subst y; rw [h3] at hn0; cases hn0
    have ln : li ≠ e' := fun y => by subst y; rw [h1] at hn0; cases hn0
    have kn : k ≠ e' := fun y => by subst y; rw [hk2] at hn0; cases hn0
    have nn : NEW e' w2 (nK w2 e' (.inr (4, n + max 1 (n / 2)))) := NEW.rf.nK
    have m1 : iMn (n : Int) ((n + max 1 (n / 2) : Nat) : Int) = n := by
      unfold iMn
      rw [if_neg (by omega)]
    refine s_dO ⟨4, n, (nn e en).1.trans h3, by decide, s_ckI ⟨by omega, by omega⟩ (s_ckI ⟨by omega, by omega⟩ ?_)⟩
    rw [m1]
    refine ⟨n, n + max 1 (n / 2), (nn e en).1.trans h3, by rw [gK_nK, if_pos rfl], ⟨by decide, by decide, by omega, by omega, by omega, by omega, by omega⟩, fun i a b y hy => ?_, ?_⟩
    · rw [(nn e en).2.2] at hy
      obtain ⟨_, c2, r1, r2⟩ := h6 i a (by omega) y hy
      have yn : y ≠ e' := fun u => by subst u; rw [r1] at hn0; cases hn0
      refine ⟨c2, (nn y yn).1.trans r1, ?_⟩
      unfold okT
      rw [decide_eq_true r2]; rfl
    · have hli : gK (cpR (nK w2 e' (.inr (4, n + max 1 (n / 2)))) e 0 e' 0 (n : Int)) li = some (.inl 18) := (nn li ln).1.trans h1
      refine ⟨hli, ?_⟩
      -- the new world, as a whole
      have nw : ∀ q j, q ≠ e' → gR (cpR (nK w2 e' (.inr (4, n + max 1 (n / 2)))) e 0 e' 0 (n : Int)) q j = gR w2 q j := fun q j y => by
        rw [gR_cpR, if_neg (fun u => y u.1)]
        exact (nn q y).2.2 j
      have nE : ∀ i, gR (cpR (nK w2 e' (.inr (4, n + max 1 (n / 2)))) e 0 e' 0 (n : Int)) e' i = if 0 ≤ i ∧ i < n then gR w2 e i else none := fun i => by
        rw [gR_cpR]
        by_cases a : 0 ≤ i ∧ i < (n : Int)
        · rw [if_pos ⟨rfl, a.1, by omega⟩, if_pos a]
          have ei : (0 : Int) + (i - 0) = i := by omega
          rw [ei]
          exact (nn e en).2.2 i
        · rw [if_neg (fun u => a ⟨u.2.1, by omega⟩), if_neg a, gR_nK, if_pos rfl]
      have kk : gK (cpR (nK w2 e' (.inr (4, n + max 1 (n / 2)))) e 0 e' 0 (n : Int)) e' = some (.inr (4, n + max 1 (n / 2))) := by
        rw [gK_cpR, gK_nK, if_pos rfl]
      have nk : ∀ q, q ≠ e' → gK (cpR (nK w2 e' (.inr (4, n + max 1 (n / 2)))) e 0 e' 0 (n : Int)) q = gK w2 q := fun q y => (nn q y).1
      have nv : ∀ q j, q ≠ e' → gV (cpR (nK w2 e' (.inr (4, n + max 1 (n / 2)))) e 0 e' 0 (n : Int)) q j = gV w2 q j := fun q j y => (nn q y).2.1 j
      generalize cpR (nK w2 e' (.inr (4, n + max 1 (n / 2)))) e 0 e' 0 (n : Int) = w5 at *
      have r1 : gR (sR w5 li 1 (some e')) li 1 = some e' := by rw [gR_sR, if_pos ⟨rfl, rfl⟩]
      have r2 : ∀ q j, q ≠ li → gR (sR w5 li 1 (some e')) q j = gR w5 q j := fun q j y => by rw [gR_sR, if_neg (fun u => y u.1)]
      have I6 : TIW (sR w5 li 1 (some e')) := by
        have lv : ∀ x, gK w2 x ≠ none → gK w5 x ≠ none := fun x hx => by
          by_cases u : x = e'
          · rw [u, kk]; exact fun y => by cases y
          · rw [nk x u]; exact hx
        refine ⟨fun q hq => ?_, fun q j x a b => ?_⟩
        · have hq : gK w5 q ≠ none := hq
          by_cases u : q = e'
          · rw [u]; exact ⟨Or.inr he, NOI.big he⟩
          · rw [nk q u] at hq; exact ⟨(I2.1 q hq).1, (I2.1 q hq).2.mo (fun p y => by rw [gR_sR] at y; split at y; cases y; rw [nw 103 p (by omega)] at y; exact y)⟩
        · have a : gK w5 q ≠ none := a
          by_cases u : q = e'
          · rw [u, r2 e' j (fun y => ln y.symm), nE] at b
            split at b
            · have := I2.2 e j x (by rw [h3]; exact fun y => by cases y) b
              obtain ⟨t1, t2⟩ := this
              have x0 := (h6 j (by omega) (by omega) x b).1
              exact ⟨lv x t1, by omega, by omega, by omega⟩
            · cases b
          · rw [nk q u] at a
            rw [gR_sR] at b
            split at b
            · next v =>
              injection b with b
              subst b
              exact ⟨(by show gK w5 e' ≠ none; rw [kk]; exact fun y => by cases y), by omega, by omega, by omega⟩
            · rw [nw q j u] at b
              obtain ⟨t1, t2⟩ := I2.2 q j x a b
              exact ⟨lv x t1, t2⟩
      have hc1 : ((1 : Nat) : Int) = 1 := rfl
      rw [hc1]
      refine j2_add_11 (e := e') (n := n + max 1 (n / 2)) (bc := bc) (bs := bs) ⟨hli, r1, kk, ?_, ?_, ?_⟩ I6 ((nk k kn).trans hk2) hc hk0 (by omega) ln (fun w' y => ?_)
      · show gV w5 li 2 = z
        rw [nv li 2 ln]; exact h4
      · omega
      · intro i a b y hy
        rw [r2 e' i (fun y => ln y.symm), nE, if_pos ⟨a, by omega⟩] at hy
        obtain ⟨y0, c2, t1, t2⟩ := h6 i a b y hy
        have yn : y ≠ e' := fun u => by subst u; rw [t1] at hn0; cases hn0
        exact ⟨y0, c2, (nk y yn).trans t1, t2⟩
      · obtain ⟨y1, y2, y3, y4, y5, y6, y7⟩ := y
        refine s_zr (Or.inr rfl) (hq2 w' e' _ ⟨y1, fun i a b => ?_, y3, fun q a b c => ?_, Or.inr ⟨hn0, he, hz, rfl, ?_, ?_, ?_, fun i hi => ?_⟩, fun j hj => ?_, y7⟩)
        · rw [y2 i a b, r2 e' i (fun y => ln y.symm), nE, if_pos ⟨a, by omega⟩]
        · obtain ⟨u1, u2, u3⟩ := y4 q a c c
          exact ⟨u1.trans (nk q c), fun j => (u2 j).trans (nv q j c), fun j => (u3 j).trans ((r2 q j a).trans (nw q j c))⟩
        · exact (y4 e (Ne.symm hl) en en).1.trans (nk e en)
        · exact fun j => ((y4 e (Ne.symm hl) en en).2.1 j).trans (nv e j en)
        · exact fun j => ((y4 e (Ne.symm hl) en en).2.2 j).trans ((r2 e j (Ne.symm hl)).trans (nw e j en))
        · rcases y5 with ⟨_, _, _, q⟩ | ⟨q, _⟩
          · rw [q i (by omega), r2 e' i (fun y => ln y.symm), nE, if_neg (by omega)]
          · exact absurd (kk.symm.trans q) (fun y => by cases y)
        · rw [y6 j hj]
          show gR (sR w5 li 1 (some e')) li j = _
          rw [gR_sR, if_neg (fun u => hj u.2)]
          exact nw li j ln
end ADDS
