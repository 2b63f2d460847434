/-! THE PLAIN LAW: a list is emptied, another's elements are put in -/
set_option maxRecDepth 100000
section LISTS
variable {w w' : Wd} {Q : Wd → Prop} {QI : Int → Wd → Prop} {l e l2 e2 n n2 bc bs : Nat} {c c2 : Int}
theorem j2_clear27 (hn : n < 1000) (hc : c ≤ n) : ∀ (m fuel : Nat) (x : Int) (w : Wd), x + m = c → m < fuel → 0 ≤ x → gK w e = some (.inr (4, n)) → (∀ w', (∀ y, gK w' y = gK w y) → (∀ y j, gV w' y j = gV w y j) → (∀ y j, ¬ (y = e ∧ x ≤ j ∧ j < c) → gR w' y j = gR w y j) → (∀ j, x ≤ j → j < c → gR w' e j = none) → Q w') → wp_J2_clear_27 Q e c fuel x w := by
  intro m
  induction m with
  | zero =>
    intro fuel x w hx hf h0 hk hq
    obtain ⟨f, rfl⟩ : ∃ f, fuel = f + 1 := ⟨fuel - 1, by omega⟩
    rw [wp_J2_clear_27]
    exact s_ckI ⟨by omega, by omega⟩ (s_ckI ⟨by omega, by omega⟩ (s_br (fun _ => hq w (fun _ => rfl) (fun _ _ => rfl) (fun _ _ _ => rfl) (fun j a b => absurd b (by omega))) (fun y => absurd (by omega) y)))
  | succ m ih =>
    intro fuel x w hx hf h0 hk hq
    obtain ⟨f, rfl⟩ : ∃ f, fuel = f + 1 := ⟨fuel - 1, by omega⟩
    rw [wp_J2_clear_27]
    refine s_ckI ⟨by omega, by omega⟩ (s_ckI ⟨by omega, by omega⟩ (s_br (fun y => absurd y (by omega)) (fun _ => ⟨Or.inl rfl, n, hk, ⟨by omega, by omega, by omega⟩, ?_⟩)))
    refine ih f (x + 1) _ (by omega) (by omega) (by omega) hk (fun w' q1 q2 q3 q4 => hq w' q1 q2 (fun y j hy => ?_) (fun j a b => ?_))
    · rw [q3 y j (fun z => hy ⟨z.1, by omega, z.2.2⟩), gR_sR, if_neg (fun z => hy ⟨z.1, by omega, by omega⟩)]
    · by_cases z : j = x
      · rw [q3 e j (fun u => absurd u.2.1 (by omega)), gR_sR, if_pos ⟨rfl, z⟩]
      · exact q4 j (by omega) b
theorem j2_clearW (h1 : gK w l = some (.inl 18)) (h2 : gR w l 1 = some e) (h3 : gK w e = some (.inr (4, n))) (hn : n < 1000) (hc : gV w l 2 = c) (hc2 : 0 ≤ c ∧ c ≤ n) (hq : ∀ w', (∀ y, gK w' y = gK w y) → (∀ y j, ¬ (y = l ∧ (j = 0 ∨ j = 2)) → gV w' y j = gV w y j) → gV w' l 2 = 0 → (∀ y j, ¬ (y = e ∧ 0 ≤ j ∧ j < c) → gR w' y j = gR w y j) → (∀ j, 0 ≤ j → j < c → gR w' e j = none) → Q w') : wp_J2_clear l w Q := by
  unfold wp_J2_clear
  refine s_gfI h1 rfl (s_pfI h1 (s_gfA h1 h2 (s_gfI h1 ((gV_ne (by omega)).trans hc) (s_pfI h1 ?_))))
  refine j2_clear27 hn hc2.2 c.toNat FU 0 _ (by omega) (by unfold FU; omega) (by decide) h3 (fun w' q1 q2 q3 q4 => hq w' q1 (fun y j hy => ?_) ?_ q3 q4)
  · rw [q2, gV_ne (fun z => hy ⟨z.1, Or.inr z.2⟩), gV_ne (fun z => hy ⟨z.1, Or.inl z.2⟩)]
  · rw [q2]
    exact gV_at
/-- what stands after a list took another's elements -/
def TKN (w w' : Wd) (l e e2 : Nat) (c2 : Int) (E n' : Nat) : Prop := (∀ y, gK w y ≠ none → gK w' y = gK w y) ∧ (∀ y j, gK w y ≠ none → ¬ (y = l ∧ (j = 0 ∨ j = 2)) → gV w' y j = gV w y j) ∧ gV w' l 2 = c2 ∧ (∀ y j, gK w y ≠ none → y ≠ e → ¬ (y = l ∧ j = 1) → gR w' y j = gR w y j) ∧ gR w' l 1 = some E ∧ gK w' E = some (.inr (4, n')) ∧ (E = e ∨ (gK w E = none ∧ 1000 ≤ E)) ∧ (2 ≤ n' ∧ n' < 1000 ∧ c2 ≤ n') ∧ ∀ q, gR w' E q = if 0 ≤ q ∧ q < c2 then gR w e2 q else none
theorem j2_addAllW (h1 : gK w l = some (.inl 18)) (h2 : gR w l 1 = some e) (h3 : gK w e = some (.inr (4, n))) (hn : 2 ≤ n ∧ n < 1000) (hc : gV w l 2 = 0) (hz : ∀ j, gR w e j = none) (g1 : gK w l2 = some (.inl 18)) (g2 : gR w l2 1 = some e2) (g3 : gK w e2 = some (.inr (4, n2))) (gn : n2 < 1000) (gc : gV w l2 2 = c2) (gc2 : 0 ≤ c2 ∧ c2 ≤ 6 ∧ c2 ≤ n2) (gt : ∀ j, 0 ≤ j → j < c2 → ∃ y, gR w e2 j = some y ∧ gK w y = some (.inl 14)) (hb : 2 ≤ bc ∧ 1600 ≤ bs) (hne : e ≠ e2 ∧ l ≠ l2) (hq : ∀ r w' E n', TKN w w' l e e2 c2 E n' → QI r w') : wp_J2_addAll l (some l2) bc bs w QI := by
  have o14 : okT 4 14 = true := by decide
  unfold wp_J2_addAll
  refine s_dO (s_cO g1 ⟨1, 6, ⟨by omega, by omega⟩, ?_⟩)
  unfold wp_J2_toArray
  refine s_gfA g1 g2 (s_gfI g1 gc ⟨1, 6, ⟨Nat.le_refl _, Nat.le_refl _⟩, ?_⟩)
  unfold wp_J13_copyOf wp_J13_copyOf_2
  refine s_dO ⟨⟨n2, g3⟩, 1, 6, ⟨Nat.le_refl _, Nat.le_refl _⟩, s_dO ⟨rfl, ⟨by omega, by omega, by decide, by omega⟩, fun k3 h3k hk3 => ?_⟩⟩
  have ek : ∀ y, gK w y ≠ none → y ≠ k3 := fun y hy z => hy (by rw [z]; exact hk3)
  have le : e ≠ k3 := ek e (kd_ne h3)
  have ll : l ≠ k3 := ek l (kd_ne h1)
  have l2e : e2 ≠ k3 := ek e2 (kd_ne g3)
  have l2l : l2 ≠ k3 := ek l2 (kd_ne g1)
  have k2 : gK (nK w k3 (.inr (4, c2.toNat))) e2 = some (.inr (4, n2)) := by rw [gK_nK, if_neg l2e]; exact g3
  have m2 : iMn (n2 : Int) c2 = c2 := by
    unfold iMn
    split <;> omega
  refine s_dO ⟨4, n2, k2, by decide, s_ckI ⟨by omega, by omega⟩ (s_ckI ⟨by omega, by omega⟩ ?_)⟩
  rw [m2]
  refine ⟨n2, c2.toNat, k2, by rw [gK_nK, if_pos rfl], ⟨by decide, by decide, by omega, by omega, by omega, by omega, by omega⟩, fun i a b y hy => ?_, ?_⟩
  · rw [gR_nK, if_neg l2e] at hy
    obtain ⟨y', q1, q2⟩ := gt i a (by omega)
    rw [hy] at q1
    injection q1 with q1
    exact ⟨14, by rw [gK_nK, if_neg (ek y (by rw [q1]; exact kd_ne q2)), q1]; exact q2, o14⟩
  -- the copy
  have KA : ∀ y, gK w y ≠ none → gK (cpR (nK w k3 (.inr (4, c2.toNat))) e2 0 k3 0 c2) y = gK w y := fun y hy => by rw [gK_cpR, gK_nK, if_neg (ek y hy)]
  have VA : ∀ y j, gK w y ≠ none → gV (cpR (nK w k3 (.inr (4, c2.toNat))) e2 0 k3 0 c2) y j = gV w y j := fun y j hy => by rw [gV_cpR, gV_nK, if_neg (ek y hy)]
  have RA : ∀ y j, gK w y ≠ none → gR (cpR (nK w k3 (.inr (4, c2.toNat))) e2 0 k3 0 c2) y j = gR w y j := fun y j hy => by rw [gR_cpR, if_neg (fun z => ek y hy z.1), gR_nK, if_neg (ek y hy)]
  have kA : gK (cpR (nK w k3 (.inr (4, c2.toNat))) e2 0 k3 0 c2) k3 = some (.inr (4, c2.toNat)) := by rw [gK_cpR, gK_nK, if_pos rfl]
  have rA : ∀ j, 0 ≤ j → j < c2 → gR (cpR (nK w k3 (.inr (4, c2.toNat))) e2 0 k3 0 c2) k3 j = gR w e2 j := fun j a b => by
    rw [gR_cpR, if_pos ⟨rfl, a, by omega⟩, (by omega : (0 : Int) + (j - 0) = j), gR_nK, if_neg l2e]
  generalize cpR (nK w k3 (.inr (4, c2.toNat))) e2 0 k3 0 c2 = wA at *
  have l1 := kd_ne h1
  have e1 := kd_ne h3
  have A1 : gK wA l = some (.inl 18) := (KA l l1).trans h1
  refine s_gfI A1 rfl (s_pfI A1 (s_dO ⟨4, c2.toNat, kA, by decide, ?_⟩))
  have ec : ((c2.toNat : Nat) : Int) = c2 := by omega
  rw [ec]
  have VB : ∀ y j, ¬ (y = l ∧ j = 0) → gV (sV wA l 0 (gV wA l 0 + 1)) y j = gV wA y j := fun y j hy => gV_ne hy
  have B1 : gK (sV wA l 0 (gV wA l 0 + 1)) l = some (.inl 18) := A1
  have B2 : gR (sV wA l 0 (gV wA l 0 + 1)) l 1 = some e := (RA l 1 l1).trans h2
  have B3 : gK (sV wA l 0 (gV wA l 0 + 1)) e = some (.inr (4, n)) := (KA e e1).trans h3
  have B4 : gV (sV wA l 0 (gV wA l 0 + 1)) l 2 = 0 := (VB l 2 (by omega)).trans ((VA l 2 l1).trans hc)
  have KB : ∀ y, gK (sV wA l 0 (gV wA l 0 + 1)) y = gK wA y := fun _ => rfl
  have RB : ∀ y j, gR (sV wA l 0 (gV wA l 0 + 1)) y j = gR wA y j := fun _ _ => rfl
  generalize sV wA l 0 (gV wA l 0 + 1) = wB at *
  have rz : ∀ j, gR wB e j = none := fun j => (RB e j).trans ((RA e j e1).trans (hz j))
  refine s_ckI ⟨by omega, by omega⟩ (s_br (fun y0 => ?_) (fun y0 => ?_))
  · refine s_gfA B1 B2 ⟨4, n, B3, by decide, s_gfI B1 B4 (s_ckI ⟨by omega, by omega⟩ (s_ckI ⟨by omega, by omega⟩ (s_br (fun yc => ?_) (fun yc => ?_))))⟩
    · unfold wp_J2_addAll_56
      have kB : gK wB k3 = some (.inr (4, c2.toNat)) := (KB k3).trans kA
      refine s_dO (s_dO ⟨c2.toNat, n, kB, B3, ⟨by decide, by decide, by omega, by omega, by omega, by omega, by omega⟩, fun i a b y hy => ?_, s_pfI B1 (s_zr (Or.inr rfl) (hq 1 _ e n ?_))⟩)
      · rw [RB, rA i a (by omega)] at hy
        obtain ⟨y', q1, q2⟩ := gt i a (by omega)
        rw [hy] at q1
        injection q1 with q1
        exact ⟨14, by rw [q1, KB, KA y' (kd_ne q2)]; exact q2, o14⟩
      · refine ⟨fun y hy => (KB y).trans (KA y hy), fun y j hy hn2 => ?_, ?_, fun y j hy a b => ?_, ?_, B3, Or.inl rfl, ⟨hn.1, hn.2, by omega⟩, fun q => ?_⟩
        · rw [gV_ne (fun z => hn2 ⟨z.1, Or.inr z.2⟩), gV_cpR, VB y j (fun z => hn2 ⟨z.1, Or.inl z.2⟩)]
          exact VA y j hy
        · rw [show (0 : Int) + c2 = c2 by omega]
          exact gV_at
        · rw [gR_sV, gR_cpR, if_neg (fun z => a z.1), RB]
          exact RA y j hy
        · rw [gR_sV, gR_cpR, if_neg (fun z => by have := z.1; rw [this] at h1; rw [h1] at h3; cases h3)]
          exact B2
        · rw [gR_sV, gR_cpR]
          by_cases a : 0 ≤ q ∧ q < c2
          · rw [if_pos ⟨rfl, a.1, by omega⟩, if_pos a, (by omega : (0 : Int) + (q - 0) = q), RB]
            exact rA q a.1 a.2
          · rw [if_neg (fun z => a ⟨z.2.1, by omega⟩), if_neg a]
            exact rz q
    · -- more room
      refine s_cO B1 ⟨1, 1500, ⟨by omega, by omega⟩, ?_⟩
      unfold wp_J2_grow wp_J12_newLength
      refine s_gfA B1 B2 ⟨4, n, B3, by decide, s_ckI ⟨by omega, by omega⟩ (s_br (fun _ => ?_) (fun y => absurd (by omega) y))⟩
      have hi := isr1 ⟨n, by omega⟩
      dsimp only at hi
      rw [hi]
      have em : (n : Int) + iMx (0 + c2 - (n : Int)) ((n / 2 : Nat) : Int) = ((n + max (c2.toNat - n) (n / 2) : Nat) : Int) := by
        unfold iMx
        split <;> omega
      rw [em]
      refine s_ckI ⟨by omega, by omega⟩ (s_ckI ⟨by omega, by omega⟩ (s_ckI ⟨by omega, by omega⟩ (s_br (fun y => absurd y (by omega)) (fun _ => s_ckI ⟨by omega, by omega⟩ (s_br (fun y => absurd y (by omega)) (fun _ => ?_))))))
      have hN : max (c2.toNat - n) (n / 2) ≤ 6 := by omega
      have hmx : c2 ≤ n + (max (c2.toNat - n) (n / 2) : Nat) := by omega
      generalize max (c2.toNat - n) (n / 2) = mx at *
      refine s_gfA B1 B2 ⟨1, 1500, ⟨Nat.le_refl _, Nat.le_refl _⟩, ?_⟩
      unfold wp_J13_copyOf wp_J13_copyOf_2
      refine s_dO ⟨⟨n, B3⟩, 1, 1500, ⟨Nat.le_refl _, Nat.le_refl _⟩, s_dO ⟨rfl, ⟨by omega, by omega, by decide, by omega⟩, fun E hE0 hE => ?_⟩⟩
      have et : (((n + mx : Nat) : Int)).toNat = n + mx := by omega
      rw [et]
      have eE : ∀ y, gK wB y ≠ none → y ≠ E := fun y hy z => hy (by rw [z]; exact hE)
      have n1 : e ≠ E := eE e (kd_ne B3)
      have m3 : iMn (n : Int) ((n + mx : Nat) : Int) = n := by
        unfold iMn
        split <;> omega
      have kE : gK (nK wB E (.inr (4, n + mx))) e = some (.inr (4, n)) := by rw [gK_nK, if_neg n1]; exact B3
      refine s_dO ⟨4, n, kE, by decide, s_ckI ⟨by omega, by omega⟩ (s_ckI ⟨by omega, by omega⟩ ?_)⟩
      rw [m3]
      refine ⟨n, n + mx, kE, by rw [gK_nK, if_pos rfl], ⟨by decide, by decide, by omega, by omega, by omega, by omega, by omega⟩, fun i a b y hy => ?_, ?_⟩
      · rw [gR_nK, if_neg n1, rz] at hy
        cases hy
      have KD : ∀ y, gK wB y ≠ none → gK (cpR (nK wB E (.inr (4, n + mx))) e 0 E 0 n) y = gK wB y := fun y hy => by rw [gK_cpR, gK_nK, if_neg (eE y hy)]
      have VD : ∀ y j, gK wB y ≠ none → gV (cpR (nK wB E (.inr (4, n + mx))) e 0 E 0 n) y j = gV wB y j := fun y j hy => by rw [gV_cpR, gV_nK, if_neg (eE y hy)]
      have RD : ∀ y j, gK wB y ≠ none → gR (cpR (nK wB E (.inr (4, n + mx))) e 0 E 0 n) y j = gR wB y j := fun y j hy => by rw [gR_cpR, if_neg (fun z => eE y hy z.1), gR_nK, if_neg (eE y hy)]
      have kD : gK (cpR (nK wB E (.inr (4, n + mx))) e 0 E 0 n) E = some (.inr (4, n + mx)) := by rw [gK_cpR, gK_nK, if_pos rfl]
      have rD : ∀ j, gR (cpR (nK wB E (.inr (4, n + mx))) e 0 E 0 n) E j = none := fun j => by
        rw [gR_cpR]
        by_cases a : 0 ≤ j ∧ j < 0 + (n : Int)
        · rw [if_pos ⟨rfl, a.1, a.2⟩, gR_nK, if_neg n1]
          exact rz _
        · rw [if_neg (fun z => a z.2), gR_nK, if_pos rfl]
      generalize cpR (nK wB E (.inr (4, n + mx))) e 0 E 0 n = wD at *
      have D1 : gK wD l = some (.inl 18) := (KD l (kd_ne B1)).trans B1
      have lE : l ≠ E := eE l (kd_ne B1)
      have kB : gK wB k3 = some (.inr (4, c2.toNat)) := (KB k3).trans kA
      have k3E : k3 ≠ E := eE k3 (kd_ne kB)
      have lk3 : ∀ y, gK w y ≠ none → gK wB y ≠ none := fun y hy => by rw [KB, KA y hy]; exact hy
      refine ⟨D1, ?_⟩
      unfold wp_J2_addAll_56
      refine s_dO (s_dO ⟨c2.toNat, n + mx, (KD k3 (kd_ne kB)).trans kB, kD, ⟨by decide, by decide, by omega, by omega, by omega, by omega, by omega⟩, fun i a b y hy => ?_, s_pfI D1 (s_zr (Or.inr rfl) (hq 1 _ E (n + mx) ?_))⟩)
      · have hy : gR (sR wD l 1 (some E)) k3 i = some y := hy
        rw [gR_sR, if_neg (fun z => ll z.1.symm), RD k3 i (kd_ne kB), RB, rA i a (by omega)] at hy
        obtain ⟨y', q1, q2⟩ := gt i a (by omega)
        rw [hy] at q1
        injection q1 with q1
        refine ⟨14, ?_, o14⟩
        show gK wD y = _
        rw [q1, KD y' (lk3 y' (kd_ne q2)), KB, KA y' (kd_ne q2)]
        exact q2
      · have wE : gK w E = none := by
          cases g : gK w E with
          | none => rfl
          | some d => exact absurd hE (lk3 E (kd_ne g))
        refine ⟨fun y hy => (KD y (lk3 y hy)).trans ((KB y).trans (KA y hy)), fun y j hy hn2 => ?_, ?_, fun y j hy a b => ?_, ?_, kD, Or.inr ⟨wE, hE0⟩, ⟨by omega, by omega, by omega⟩, fun q => ?_⟩
        · rw [gV_ne (fun z => hn2 ⟨z.1, Or.inr z.2⟩), gV_cpR, gV_sR, VD y j (lk3 y hy), VB y j (fun z => hn2 ⟨z.1, Or.inl z.2⟩)]
          exact VA y j hy
        · rw [show (0 : Int) + c2 = c2 by omega]
          exact gV_at
        · rw [gR_sV, gR_cpR, if_neg (fun z => eE y (lk3 y hy) z.1), gR_sR, if_neg (fun z => b ⟨z.1, z.2⟩), RD y j (lk3 y hy), RB]
          exact RA y j hy
        · rw [gR_sV, gR_cpR, if_neg (fun z => lE z.1), gR_sR, if_pos ⟨rfl, rfl⟩]
        · rw [gR_sV, gR_cpR]
          by_cases a : 0 ≤ q ∧ q < c2
          · rw [if_pos ⟨rfl, a.1, by omega⟩, if_pos a, (by omega : (0 : Int) + (q - 0) = q), gR_sR, if_neg (fun z => ll z.1.symm), RD k3 q (kd_ne kB), RB]
            exact rA q a.1 a.2
          · rw [if_neg (fun z => a ⟨z.2.1, by omega⟩), if_neg a, gR_sR, if_neg (fun z => lE z.1.symm)]
            exact rD q
  · have c0 : c2 = 0 := Decidable.not_not.mp y0
    refine s_zr (Or.inl rfl) (hq 0 wB e n ⟨fun y hy => (KB y).trans (KA y hy), fun y j hy hn2 => ?_, B4.trans c0.symm, fun y j hy a b => (RB y j).trans (RA y j hy), B2, B3, Or.inl rfl, ⟨hn.1, hn.2, by omega⟩, fun q => ?_⟩)
    · rw [VB y j (fun z => hn2 ⟨z.1, Or.inl z.2⟩)]
      exact VA y j hy
    · rw [if_neg (by omega)]
      exact rz q
end LISTS
