/-! THE PLAIN LAW: a state takes another's, by keys beside static ones -/
set_option maxRecDepth 100000
abbrev RK2 : Type := (Nat → Int → Option Nat) × (Nat → Option Kd)
/-- w's values by σ, cells and references as u2 says -/
def PL (σ : Nat → Nat) (w : Wd) (u2 : RK2) : Wd := (fun k j => gV w (σ k) j, u2)
def SJ (σ : Nat → Nat) (w : Wd) (u2 : RK2) : Prop := SI σ w (PL σ w u2)
section STAKES
variable {w w' u : Wd} {σ : Nat → Nat} {u2 : RK2} {s t s2 t2 n n2 k k' r bc bs : Nat} {d : Kd} {j c c2 : Int} {Q : Wd → Prop}
theorem SI.sj (S : SI σ w u) : SJ σ w u.2 := by
  obtain ⟨⟨r1, r2, r3, r4, r5, r6⟩, c⟩ := S
  exact ⟨⟨r1, r2, fun _ _ _ => rfl, r4, r5, r6⟩, c⟩
theorem SJ.sm (S : SJ σ w u2) (m : Sm w w') : SJ σ w' u2 := by
  obtain ⟨⟨r1, r2, r3, r4, r5, r6⟩, c⟩ := S
  exact ⟨⟨r1, fun k hk => (m.1 _).trans (r2 k hk), fun _ _ _ => rfl, fun k i hk => (m.2 _ _).trans (r4 k i hk), r5, r6⟩, c⟩
theorem SJ.gk (S : SJ σ w u2) (h : gK (PL σ w u2) k = some d) : gK w (σ k) = some d := (S.1.2.1 k (kd_ne h)).trans h
theorem SJ.gr (S : SJ σ w u2) (hk : gK (PL σ w u2) k ≠ none) (h : gR (PL σ w u2) k j = some r) : gR w (σ k) j = some (σ r) := by
  rw [S.1.2.2.2.1 k j hk, h]
  rfl
theorem SJ.ne (S : SJ σ w u2) (hk : gK (PL σ w u2) k ≠ none) (hk' : gK (PL σ w u2) k' ≠ none) (h : k ≠ k') : σ k ≠ σ k' := fun e => h (S.1.2.2.2.2.2 k k' hk hk' e)
theorem x2_takesS (S : SJ σ w u2) (h : TK (PL σ w u2) t) (h2 : TK (PL σ w u2) t2) (hd : t + 5 < t2 ∨ t2 + 5 < t) (hq : ∀ w', Sm w w' → (∀ y j, (∀ p, p ≤ 5 → y ≠ σ (t + p)) → gV w' y j = gV w y j) → (∀ o, TabEq (PL σ w u2) t2 o → TabEq (PL σ w' u2) t o) → Q w') : wp_X2_takes (σ t) (some (σ t2)) w Q := by
  obtain ⟨a0, ⟨a1, a2, a3, a4, a5⟩, a6, a7, a8, a9, a10⟩ := h
  obtain ⟨b0, ⟨b1, b2, b3, b4, b5⟩, b6, b7, b8, b9, b10⟩ := h2
  have l0 := kd_ne a0
  have m0 := kd_ne b0
  have n0 : ∀ x, gK (PL σ w u2) x ≠ none → x ≠ t → σ x ≠ σ t := fun x hx e => S.ne hx l0 e
  have n1 : ∀ x, gK (PL σ w u2) x ≠ none → x ≠ t + 1 → σ x ≠ σ (t + 1) := fun x hx e => S.ne hx (kd_ne a6) e
  have n2 : ∀ x, gK (PL σ w u2) x ≠ none → x ≠ t + 2 → σ x ≠ σ (t + 2) := fun x hx e => S.ne hx (kd_ne a7) e
  have n3 : ∀ x, gK (PL σ w u2) x ≠ none → x ≠ t + 3 → σ x ≠ σ (t + 3) := fun x hx e => S.ne hx (kd_ne a8) e
  have n4 : ∀ x, gK (PL σ w u2) x ≠ none → x ≠ t + 4 → σ x ≠ σ (t + 4) := fun x hx e => S.ne hx (kd_ne a9) e
  have n5 : ∀ x, gK (PL σ w u2) x ≠ none → x ≠ t + 5 → σ x ≠ σ (t + 5) := fun x hx e => S.ne hx (kd_ne a10) e
  unfold wp_X2_takes
  refine s_gfA (S.gk a0) (S.gr l0 a1) (s_dO (s_gfA (S.gk b0) (S.gr m0 b1) (x2_rows (S.gk a6) (S.gk b6) (by decide) ?_)))
  refine s_gfA (S.gk a0) (S.gr l0 a2) (s_gfA (S.gk b0) (S.gr m0 b2) (x2_rows (S.gk a7) (S.gk b7) (by decide) ?_))
  refine s_gfA (S.gk a0) (S.gr l0 a3) (s_gfA (S.gk b0) (S.gr m0 b3) (x2_rows (S.gk a8) (S.gk b8) (by decide) ?_))
  refine s_gfA (S.gk a0) (S.gr l0 a4) (s_gfA (S.gk b0) (S.gr m0 b4) (x2_rows (S.gk a9) (S.gk b9) (by decide) ?_))
  refine s_gfA (S.gk a0) (S.gr l0 a5) (s_gfA (S.gk b0) (S.gr m0 b5) (x2_rows (S.gk a10) (S.gk b10) (by decide) ?_))
  refine s_gfI (S.gk b0) rfl (s_pfI (S.gk a0) ?_)
  refine hq _ ⟨fun _ => rfl, fun _ _ => rfl⟩ (fun y j hy => ?_) (fun o ho => ?_)
  · have y0 : y ≠ σ t := hy 0 (by decide)
    rw [gV_ne (fun z => y0 z.1), cp_ne (fun z => hy 5 (by decide) z.1), cp_ne (fun z => hy 4 (by decide) z.1), cp_ne (fun z => hy 3 (by decide) z.1), cp_ne (fun z => hy 2 (by decide) z.1), cp_ne (fun z => hy 1 (by decide) z.1)]
  · obtain ⟨o1, o2, o3⟩ := ho
    refine ⟨?_, fun j u v => ?_, fun j u v => ?_⟩
    · refine Eq.trans gV_at ?_
      rw [cp_ne (fun z => n5 t2 m0 (by omega) z.1), cp_ne (fun z => n4 t2 m0 (by omega) z.1), cp_ne (fun z => n3 t2 m0 (by omega) z.1), cp_ne (fun z => n2 t2 m0 (by omega) z.1), cp_ne (fun z => n1 t2 m0 (by omega) z.1)]
      exact o1
    · refine Eq.trans (gV_ne (fun z => n0 (t + 1) (kd_ne a6) (by omega) z.1)) ?_
      rw [cp_ne (fun z => n5 (t + 1) (kd_ne a6) (by omega) z.1), cp_ne (fun z => n4 (t + 1) (kd_ne a6) (by omega) z.1), cp_ne (fun z => n3 (t + 1) (kd_ne a6) (by omega) z.1), cp_ne (fun z => n2 (t + 1) (kd_ne a6) (by omega) z.1), cp_at ⟨u, by omega⟩]
      exact o2 j u v
    · refine ⟨?_, ?_, ?_, ?_⟩
      · refine Eq.trans (gV_ne (fun z => n0 (t + 2) (kd_ne a7) (by omega) z.1)) ?_
        rw [cp_ne (fun z => n5 (t + 2) (kd_ne a7) (by omega) z.1), cp_ne (fun z => n4 (t + 2) (kd_ne a7) (by omega) z.1), cp_ne (fun z => n3 (t + 2) (kd_ne a7) (by omega) z.1), cp_at ⟨u, by omega⟩, cp_ne (fun z => n1 (t2 + 2) (kd_ne b7) (by omega) z.1)]
        exact (o3 j u v).1
      · refine Eq.trans (gV_ne (fun z => n0 (t + 3) (kd_ne a8) (by omega) z.1)) ?_
        rw [cp_ne (fun z => n5 (t + 3) (kd_ne a8) (by omega) z.1), cp_ne (fun z => n4 (t + 3) (kd_ne a8) (by omega) z.1), cp_at ⟨u, by omega⟩, cp_ne (fun z => n2 (t2 + 3) (kd_ne b8) (by omega) z.1), cp_ne (fun z => n1 (t2 + 3) (kd_ne b8) (by omega) z.1)]
        exact (o3 j u v).2.1
      · refine Eq.trans (gV_ne (fun z => n0 (t + 4) (kd_ne a9) (by omega) z.1)) ?_
        rw [cp_ne (fun z => n5 (t + 4) (kd_ne a9) (by omega) z.1), cp_at ⟨u, by omega⟩, cp_ne (fun z => n3 (t2 + 4) (kd_ne b9) (by omega) z.1), cp_ne (fun z => n2 (t2 + 4) (kd_ne b9) (by omega) z.1), cp_ne (fun z => n1 (t2 + 4) (kd_ne b9) (by omega) z.1)]
        exact (o3 j u v).2.2.1
      · refine Eq.trans (gV_ne (fun z => n0 (t + 5) (kd_ne a10) (by omega) z.1)) ?_
        rw [cp_at ⟨u, by omega⟩, cp_ne (fun z => n4 (t2 + 5) (kd_ne b10) (by omega) z.1), cp_ne (fun z => n3 (t2 + 5) (kd_ne b10) (by omega) z.1), cp_ne (fun z => n2 (t2 + 5) (kd_ne b10) (by omega) z.1), cp_ne (fun z => n1 (t2 + 5) (kd_ne b10) (by omega) z.1)]
        exact (o3 j u v).2.2.2
/-- a state's cells -/
def STK (u : Wd) (s t n : Nat) : Prop := (gK u s = some (.inl 2) ∧ gR u s 0 = some t ∧ gR u s 1 = some (s + 1) ∧ gR u s 2 = some (s + 2) ∧ gR u s 3 = some (s + 3) ∧ gR u s 4 = some (s + 4)) ∧ (gK u (s + 1) = some (.inr (0, 6)) ∧ gK u (s + 2) = some (.inr (0, 6)) ∧ gK u (s + 3) = some (.inr (0, 24))) ∧ TK u t ∧ gK u (s + 4) = some (.inl 18) ∧ gR u (s + 4) 1 = some (s + 5) ∧ gK u (s + 5) = some (.inr (4, n)) ∧ 2 ≤ n ∧ n < 1000
/-- another array of elements at key e -/
def RE2 (u2 : RK2) (e n' : Nat) (g : Int → Option Nat) : RK2 := (fun k j => if k = e then g j else u2.1 k j, fun k => if k = e then some (.inr (4, n')) else u2.2 k)
/-- as TKN, cells and references alone -/
def TKR (w w' : Wd) (l e e2 : Nat) (c2 : Int) (E n' : Nat) : Prop := (∀ y, gK w y ≠ none → gK w' y = gK w y) ∧ (∀ y j, gK w y ≠ none → y ≠ e → ¬ (y = l ∧ j = 1) → gR w' y j = gR w y j) ∧ gR w' l 1 = some E ∧ gK w' E = some (.inr (4, n')) ∧ (E = e ∨ (gK w E = none ∧ 1000 ≤ E)) ∧ ∀ q, gR w' E q = if 0 ≤ q ∧ q < c2 then gR w e2 q else none
/-- the elements of list s + 4 were changed: the two are still beside one another -/
theorem SJ.el {E n' : Nat} (S : SJ σ w u2) (hs : s + 5 < 800) (h4 : gK (PL σ w u2) (s + 4) = some (.inl 18)) (h41 : gR (PL σ w u2) (s + 4) 1 = some (s + 5)) (h5 : gK (PL σ w u2) (s + 5) ≠ none) (h25 : gK (PL σ w u2) (s2 + 5) ≠ none) (hx : ∀ k j, gK (PL σ w u2) k ≠ none → gR (PL σ w u2) k j = some (s + 5) → k = s + 4 ∧ j = 1) (h2 : s2 + 5 ≠ s + 4) (T : TKR w w' (σ (s + 4)) (σ (s + 5)) (σ (s2 + 5)) c2 E n') : SJ (upK σ (s + 5) E) w' (RE2 u2 (s + 5) n' (fun q => if 0 ≤ q ∧ q < c2 then u2.1 (s2 + 5) q else none)) := by
  obtain ⟨t1, t4, t5, t6, t7, t9⟩ := T
  have S0 := S
  obtain ⟨⟨r1, r2, r3, r4, r5, r6⟩, cl⟩ := S
  have lw : ∀ k, gK (PL σ w u2) k ≠ none → gK w (σ k) ≠ none := fun k hk => by rw [r2 k hk]; exact hk
  have lv : ∀ k, gK (PL (upK σ (s + 5) E) w' (RE2 u2 (s + 5) n' (fun q => if 0 ≤ q ∧ q < c2 then u2.1 (s2 + 5) q else none))) k ≠ none → k = s + 5 ∨ (k ≠ s + 5 ∧ gK (PL σ w u2) k ≠ none) := fun k hk => by
    by_cases e : k = s + 5
    · exact Or.inl e
    · have hk : (if k = s + 5 then some (Sum.inr (4, n')) else u2.2 k) ≠ none := hk
      rw [if_neg e] at hk
      exact Or.inr ⟨e, hk⟩
  have g0 : ∀ i r, (if 0 ≤ i ∧ i < c2 then u2.1 (s2 + 5) i else none) = some r → u2.1 (s2 + 5) i = some r := fun i r h => by
    by_cases a : 0 ≤ i ∧ i < c2
    · rw [if_pos a] at h; exact h
    · rw [if_neg a] at h; cases h
  have rn : ∀ k i r, gK (PL σ w u2) k ≠ none → ¬ (k = s + 4 ∧ i = 1) → u2.1 k i = some r → r ≠ s + 5 := fun k i r hk h1 h e => h1 (hx k i hk (by rw [← e]; exact h))
  have mp : ∀ k i, gK (PL σ w u2) k ≠ none → ¬ (k = s + 4 ∧ i = 1) → (u2.1 k i).map σ = (u2.1 k i).map (upK σ (s + 5) E) := fun k i hk h1 => by
    cases e : u2.1 k i with
    | none => rfl
    | some r =>
      show some (σ r) = some (upK σ (s + 5) E r)
      rw [upK_ne (rn k i r hk h1 e)]
  have Ene : ∀ k, k ≠ s + 5 → gK (PL σ w u2) k ≠ none → σ k ≠ E := fun k hk hl e => by
    rcases t7 with h | h
    · exact hk (r6 k (s + 5) hl h5 (e.trans h))
    · exact lw k hl (by rw [e]; exact h.1)
  refine ⟨⟨fun k hk => ?_, fun k hk => ?_, fun _ _ _ => rfl, fun k i hk => ?_, fun k i r hk hr => ?_, fun k k' hk hk' e => ?_⟩, fun k i r hk hr => ?_⟩
  · rcases lv k hk with e | ⟨e, hl⟩
    · exact Or.inl (by omega)
    · rw [upK_ne e]
      exact r1 k hl
  · rcases lv k hk with e | ⟨e, hl⟩
    · rw [e, upK_at]
      show gK w' E = if s + 5 = s + 5 then some (Sum.inr (4, n')) else u2.2 (s + 5)
      rw [if_pos rfl]
      exact t6
    · rw [upK_ne e, t1 _ (lw k hl)]
      show gK w (σ k) = if k = s + 5 then some (Sum.inr (4, n')) else u2.2 k
      rw [if_neg e]
      exact r2 k hl
  · rcases lv k hk with e | ⟨e, hl⟩
    · rw [e, upK_at, t9]
      show _ = ((if s + 5 = s + 5 then (if 0 ≤ i ∧ i < c2 then u2.1 (s2 + 5) i else none) else u2.1 (s + 5) i)).map (upK σ (s + 5) E)
      rw [if_pos rfl]
      by_cases a : 0 ≤ i ∧ i < c2
      · rw [if_pos a, if_pos a, ← mp (s2 + 5) i h25 (fun z => h2 z.1)]
        exact r4 (s2 + 5) i h25
      · rw [if_neg a, if_neg a]
        rfl
    · rw [upK_ne e]
      show gR w' (σ k) i = ((if k = s + 5 then (if 0 ≤ i ∧ i < c2 then u2.1 (s2 + 5) i else none) else u2.1 k i)).map (upK σ (s + 5) E)
      rw [if_neg e]
      by_cases a : k = s + 4 ∧ i = 1
      · have e1 : u2.1 k i = some (s + 5) := by rw [a.1, a.2]; exact h41
        rw [a.1, a.2, t5, ← a.1, ← a.2, e1]
        show some E = some (upK σ (s + 5) E (s + 5))
        rw [upK_at]
      · rw [t4 _ i (lw k hl) (S0.ne hl h5 e) (fun z => a ⟨r6 k (s + 4) hl (kd_ne h4) z.1, z.2⟩), ← mp k i hl a]
        exact r4 k i hl
  · rcases lv k hk with e | ⟨e, hl⟩
    · have hr : (if k = s + 5 then (if 0 ≤ i ∧ i < c2 then u2.1 (s2 + 5) i else none) else u2.1 k i) = some r := hr
      rw [if_pos e] at hr
      have q := g0 i r hr
      rw [upK_ne (rn (s2 + 5) i r h25 (fun z => h2 z.1) q)]
      exact r5 (s2 + 5) i r h25 q
    · have hr : (if k = s + 5 then (if 0 ≤ i ∧ i < c2 then u2.1 (s2 + 5) i else none) else u2.1 k i) = some r := hr
      rw [if_neg e] at hr
      by_cases z : r = s + 5
      · exact Or.inl (by omega)
      · rw [upK_ne z]
        exact r5 k i r hl hr
  · rcases lv k hk with a | ⟨a, hl⟩
    · rcases lv k' hk' with b | ⟨b, hl'⟩
      · exact a.trans b.symm
      · rw [a, upK_at, upK_ne b] at e
        exact absurd e.symm (Ene k' b hl')
    · rcases lv k' hk' with b | ⟨b, hl'⟩
      · rw [b, upK_at, upK_ne a] at e
        exact absurd e (Ene k a hl)
      · rw [upK_ne a, upK_ne b] at e
        exact r6 k k' hl hl' e
  · have lv2 : ∀ y, gK (PL σ w u2) y ≠ none → gK (PL (upK σ (s + 5) E) w' (RE2 u2 (s + 5) n' (fun q => if 0 ≤ q ∧ q < c2 then u2.1 (s2 + 5) q else none))) y ≠ none := fun y hy => by
      show (if y = s + 5 then some (Sum.inr (4, n')) else u2.2 y) ≠ none
      by_cases z : y = s + 5
      · rw [if_pos z]
        exact fun x => by cases x
      · rw [if_neg z]
        exact hy
    rcases lv k hk with e | ⟨e, hl⟩
    · have hr : (if k = s + 5 then (if 0 ≤ i ∧ i < c2 then u2.1 (s2 + 5) i else none) else u2.1 k i) = some r := hr
      rw [if_pos e] at hr
      exact lv2 r (cl (s2 + 5) i r h25 (g0 i r hr))
    · have hr : (if k = s + 5 then (if 0 ≤ i ∧ i < c2 then u2.1 (s2 + 5) i else none) else u2.1 k i) = some r := hr
      rw [if_neg e] at hr
      exact lv2 r (cl k i r hl hr)
end STAKES
