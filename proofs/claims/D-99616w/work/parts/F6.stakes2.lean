/-! THE PLAIN LAW: a state takes another's, whole -/
set_option maxRecDepth 100000
section STAKES2
variable {w w' u : Wd} {σ : Nat → Nat} {u2 : RK2} {s t s2 t2 n n2 k k' r bc bs : Nat} {d : Kd} {j c c2 : Int} {Q : Wd → Prop}
/-- what a state's taking leaves -/
def TKS (σ : Nat → Nat) (u2 : RK2) (w : Wd) (s t s2 t2 : Nat) (c2 : Int) (w' : Wd) (σ' : Nat → Nat) (n' : Nat) : Prop := SJ σ' w' (RE2 u2 (s + 5) n' (fun q => if 0 ≤ q ∧ q < c2 then u2.1 (s2 + 5) q else none)) ∧ (∀ k, k ≠ s + 5 → σ' k = σ k) ∧ (2 ≤ n' ∧ n' < 1000 ∧ c2 ≤ n') ∧ (∀ y j, gK w y ≠ none → (∀ p, p ≤ 5 → y ≠ σ (t + p)) → (∀ p, p ≤ 4 → y ≠ σ (s + p)) → gV w' y j = gV w y j) ∧ (∀ y, gK w y ≠ none → gK w' y = gK w y) ∧ (∀ y j, gK w y ≠ none → y ≠ σ (s + 5) → ¬ (y = σ (s + 4) ∧ j = 1) → gR w' y j = gR w y j) ∧ (∀ o, TabEq (PL σ w u2) t2 o → TabEq (PL σ w' u2) t o) ∧ (∀ j, 0 ≤ j → j < 6 → gV w' (σ (s + 1)) j = gV w (σ (s2 + 1)) j) ∧ (∀ j, 0 ≤ j → j < 6 → gV w' (σ (s + 2)) j = gV w (σ (s2 + 2)) j) ∧ (∀ j, 0 ≤ j → j < 24 → gV w' (σ (s + 3)) j = gV w (σ (s2 + 3)) j) ∧ (∀ j, 5 ≤ j → j ≤ 10 → gV w' (σ s) j = gV w (σ s2) j) ∧ gV w' (σ (s + 4)) 2 = c2
set_option maxHeartbeats 16000000 in
theorem x1_takesS (S : SJ σ w u2) (A : STK (PL σ w u2) s t n) (B : STK (PL σ w u2) s2 t2 n2) (hd : (s + 5 < s2 ∨ s2 + 5 < s) ∧ (t + 5 < t2 ∨ t2 + 5 < t) ∧ s + 5 < t ∧ s2 + 5 < t2 ∧ s + 5 < t2 ∧ s2 + 5 < t) (hs : s + 5 < 800) (hc : gV w (σ (s + 4)) 2 = c ∧ 0 ≤ c ∧ c ≤ n) (hz : ∀ q, ¬ (0 ≤ q ∧ q < c) → gR (PL σ w u2) (s + 5) q = none) (hc2 : gV w (σ (s2 + 4)) 2 = c2 ∧ 0 ≤ c2 ∧ c2 ≤ 6 ∧ c2 ≤ n2) (ht : ∀ j, 0 ≤ j → j < c2 → ∃ y, gR (PL σ w u2) (s2 + 5) j = some y ∧ gK (PL σ w u2) y = some (.inl 14)) (hx : ∀ k j, gK (PL σ w u2) k ≠ none → gR (PL σ w u2) k j = some (s + 5) → k = s + 4 ∧ j = 1) (hb : 2 ≤ bc ∧ 1600 ≤ bs) (hq : ∀ w' σ' n', TKS σ u2 w s t s2 t2 c2 w' σ' n' → Q w') : wp_X1_takes (σ s) (some (σ s2)) bc bs w Q := by
  obtain ⟨⟨a0, a1, a2, a3, a4, a5⟩, ⟨a6, a7, a8⟩, aT, a9, a10, a11, a12, a13⟩ := A
  obtain ⟨⟨b0, b1, b2, b3, b4, b5⟩, ⟨b6, b7, b8⟩, bT, b9, b10, b11, b12, b13⟩ := B
  have l0 := kd_ne a0
  have m0 := kd_ne b0
  have lt : ∀ p, p ≤ 5 → gK (PL σ w u2) (t + p) ≠ none := fun p hp => by
    obtain ⟨x0, _, x1, x2, x3, x4, x5⟩ := aT
    rcases (by omega : p = 0 ∨ p = 1 ∨ p = 2 ∨ p = 3 ∨ p = 4 ∨ p = 5) with e | e | e | e | e | e <;> subst e
    · exact kd_ne x0
    · exact kd_ne x1
    · exact kd_ne x2
    · exact kd_ne x3
    · exact kd_ne x4
    · exact kd_ne x5
  have ls : ∀ p, p ≤ 4 → gK (PL σ w u2) (s + p) ≠ none := fun p hp => by
    rcases (by omega : p = 0 ∨ p = 1 ∨ p = 2 ∨ p = 3 ∨ p = 4) with e | e | e | e | e <;> subst e
    · exact l0
    · exact kd_ne a6
    · exact kd_ne a7
    · exact kd_ne a8
    · exact kd_ne a9
  have nT : ∀ x p, p ≤ 5 → gK (PL σ w u2) x ≠ none → x ≠ t + p → σ x ≠ σ (t + p) := fun x p hp hx e => S.ne hx (lt p hp) e
  have nS : ∀ x p, p ≤ 4 → gK (PL σ w u2) x ≠ none → x ≠ s + p → σ x ≠ σ (s + p) := fun x p hp hx e => S.ne hx (ls p hp) e
  unfold wp_X1_takes
  refine s_gfR (S.gk a0) (S.gr l0 a1) (s_dO (s_gfR (S.gk b0) (S.gr m0 b1) (s_dO (s_cO (S.gk aT.1) (x2_takesS S aT bT hd.2.1 (fun w1 e1 f1 v1 => ?_))))))
  have S1 : SJ σ w1 u2 := S.sm e1
  refine s_gfA (S1.gk a0) (S1.gr l0 a2) (s_gfA (S1.gk b0) (S1.gr m0 b2) (x2_rows (S1.gk a6) (S1.gk b6) (by decide) ?_))
  refine s_gfA (S1.gk a0) (S1.gr l0 a3) (s_gfA (S1.gk b0) (S1.gr m0 b3) (x2_rows (S1.gk a7) (S1.gk b7) (by decide) ?_))
  refine s_gfA (S1.gk a0) (S1.gr l0 a4) (s_gfA (S1.gk b0) (S1.gr m0 b4) (x2_rows (S1.gk a8) (S1.gk b8) (by decide) ?_))
  have q1 := nS (s + 1) 2 (by decide) (kd_ne a6) (by omega)
  have q2 := nS (s + 1) 3 (by decide) (kd_ne a6) (by omega)
  have q3 := nS (s + 2) 3 (by decide) (kd_ne a7) (by omega)
  have q4 := nS (s2 + 2) 1 (by decide) (kd_ne b7) (by omega)
  have q5 := nS (s2 + 3) 1 (by decide) (kd_ne b8) (by omega)
  have q6 := nS (s2 + 3) 2 (by decide) (kd_ne b8) (by omega)
  have f2 : ∀ y j, (∀ p, p ≤ 4 → y ≠ σ (s + p)) → gV (cpV (cpV (cpV w1 (σ (s2 + 1)) 0 (σ (s + 1)) 0 (6 : Nat)) (σ (s2 + 2)) 0 (σ (s + 2)) 0 (6 : Nat)) (σ (s2 + 3)) 0 (σ (s + 3)) 0 (24 : Nat)) y j = gV w1 y j := fun y j hy => by
    rw [cp_ne (fun z => hy 3 (by decide) z.1), cp_ne (fun z => hy 2 (by decide) z.1), cp_ne (fun z => hy 1 (by decide) z.1)]
  have f2b : ∀ y j, y ≠ σ (s + 1) → y ≠ σ (s + 2) → y ≠ σ (s + 3) → gV (cpV (cpV (cpV w1 (σ (s2 + 1)) 0 (σ (s + 1)) 0 (6 : Nat)) (σ (s2 + 2)) 0 (σ (s + 2)) 0 (6 : Nat)) (σ (s2 + 3)) 0 (σ (s + 3)) 0 (24 : Nat)) y j = gV w1 y j := fun y j h1 h2 h3 => by
    rw [cp_ne (fun z => h3 z.1), cp_ne (fun z => h2 z.1), cp_ne (fun z => h1 z.1)]
  have r1 : ∀ j, 0 ≤ j → j < 6 → gV (cpV (cpV (cpV w1 (σ (s2 + 1)) 0 (σ (s + 1)) 0 (6 : Nat)) (σ (s2 + 2)) 0 (σ (s + 2)) 0 (6 : Nat)) (σ (s2 + 3)) 0 (σ (s + 3)) 0 (24 : Nat)) (σ (s + 1)) j = gV w1 (σ (s2 + 1)) j := fun j a b => by
    rw [cp_ne (fun z => q2 z.1), cp_ne (fun z => q1 z.1), cp_at ⟨a, by omega⟩]
  have r2 : ∀ j, 0 ≤ j → j < 6 → gV (cpV (cpV (cpV w1 (σ (s2 + 1)) 0 (σ (s + 1)) 0 (6 : Nat)) (σ (s2 + 2)) 0 (σ (s + 2)) 0 (6 : Nat)) (σ (s2 + 3)) 0 (σ (s + 3)) 0 (24 : Nat)) (σ (s + 2)) j = gV w1 (σ (s2 + 2)) j := fun j a b => by
    rw [cp_ne (fun z => q3 z.1), cp_at ⟨a, by omega⟩, cp_ne (fun z => q4 z.1)]
  have r3 : ∀ j, 0 ≤ j → j < 24 → gV (cpV (cpV (cpV w1 (σ (s2 + 1)) 0 (σ (s + 1)) 0 (6 : Nat)) (σ (s2 + 2)) 0 (σ (s + 2)) 0 (6 : Nat)) (σ (s2 + 3)) 0 (σ (s + 3)) 0 (24 : Nat)) (σ (s + 3)) j = gV w1 (σ (s2 + 3)) j := fun j a b => by
    rw [cp_at ⟨a, by omega⟩, cp_ne (fun z => q6 z.1), cp_ne (fun z => q5 z.1)]
  have e2 : Sm w1 (cpV (cpV (cpV w1 (σ (s2 + 1)) 0 (σ (s + 1)) 0 (6 : Nat)) (σ (s2 + 2)) 0 (σ (s + 2)) 0 (6 : Nat)) (σ (s2 + 3)) 0 (σ (s + 3)) 0 (24 : Nat)) := ⟨fun _ => rfl, fun _ _ => rfl⟩
  generalize cpV (cpV (cpV w1 (σ (s2 + 1)) 0 (σ (s + 1)) 0 (6 : Nat)) (σ (s2 + 2)) 0 (σ (s + 2)) 0 (6 : Nat)) (σ (s2 + 3)) 0 (σ (s + 3)) 0 (24 : Nat) = w2 at *
  have S2 : SJ σ w2 u2 := S1.sm e2
  have E2 := e1.tr e2
  -- at the other's cells nothing was changed
  have v2 : ∀ x j, gK (PL σ w u2) x ≠ none → (∀ p, p ≤ 5 → x ≠ t + p) → x ≠ s + 1 → x ≠ s + 2 → x ≠ s + 3 → gV w2 (σ x) j = gV w (σ x) j := fun x j hx ht2 h1 h2 h3 => (f2b (σ x) j (nS x 1 (by decide) hx h1) (nS x 2 (by decide) hx h2) (nS x 3 (by decide) hx h3)).trans (f1 (σ x) j (fun p hp => nT x p hp hx (ht2 p hp)))
  -- the list
  refine s_gfR (S2.gk a0) (S2.gr l0 a5) (s_dO (s_cO (S2.gk a9) (j2_clearW (n := n) (S2.gk a9) (S2.gr (kd_ne a9) a10) (S2.gk a11) a13 ((v2 (s + 4) 2 (kd_ne a9) (fun p hp => by omega) (by omega) (by omega) (by omega)).trans hc.1) hc.2 (fun w3 k3 v3 z3 r3' n3 => ?_))))
  have sne : s + 4 ≠ s + 5 := by omega
  have n45 : σ (s + 4) ≠ σ (s + 5) := S.ne (kd_ne a9) (kd_ne a11) sne
  have e52 : σ (s + 5) ≠ σ (s2 + 5) := S.ne (kd_ne a11) (kd_ne b11) (by omega)
  have e42 : σ (s + 4) ≠ σ (s2 + 4) := S.ne (kd_ne a9) (kd_ne b9) (by omega)
  have G3 : ∀ x d, gK (PL σ w u2) x = some d → gK w3 (σ x) = some d := fun x d hx => (k3 _).trans (S2.gk hx)
  have H3 : ∀ x j r, gK (PL σ w u2) x ≠ none → gR (PL σ w u2) x j = some r → x ≠ s + 5 → gR w3 (σ x) j = some (σ r) := fun x j r hx hr hn => (r3' _ j (fun z => S.ne hx (kd_ne a11) hn z.1)).trans (S2.gr hx hr)
  have hz3 : ∀ j, gR w3 (σ (s + 5)) j = none := fun j => by
    by_cases a : 0 ≤ j ∧ j < c
    · exact n3 j a.1 a.2
    · rw [r3' _ j (fun z => a z.2), E2.2, S.1.2.2.2.1 (s + 5) j (kd_ne a11), hz j a]
      rfl
  refine s_gfR (G3 s _ a0) (H3 s 4 _ l0 a5 (by omega)) (s_gfR (G3 s2 _ b0) (H3 s2 4 _ m0 b5 (by omega)) (s_dO (s_cO (G3 _ _ a9) ⟨bc, bs, ⟨Nat.le_refl _, Nat.le_refl _⟩, ?_⟩)))
  refine j2_addAllW (G3 _ _ a9) (H3 _ 1 _ (kd_ne a9) a10 sne) (G3 _ _ a11) ⟨a12, a13⟩ z3 hz3 (G3 _ _ b9) (H3 _ 1 _ (kd_ne b9) b10 (by omega)) (G3 _ _ b11) b13 ((v3 _ 2 (fun z => e42 z.1.symm)).trans ((v2 (s2 + 4) 2 (kd_ne b9) (fun p hp => by omega) (by omega) (by omega) (by omega)).trans hc2.1)) hc2.2 (fun j a b => ?_) hb ⟨e52, e42⟩ (fun rr w4 E n' T => ?_)
  · obtain ⟨y, y1, y2⟩ := ht j a b
    exact ⟨σ y, H3 _ j y (kd_ne b11) y1 (by omega), G3 y _ y2⟩
  have T0 := T
  obtain ⟨t1, t2', t3, t4, t5, t6, t7, t8, t9⟩ := T
  have kd3 : ∀ y, gK w y ≠ none → gK w3 y ≠ none := fun y hy => by rw [k3, E2.1]; exact hy
  have G4 : ∀ x d, gK (PL σ w u2) x = some d → gK w4 (σ x) = some d := fun x d hx => (t1 _ (kd_ne (G3 x d hx))).trans (G3 x d hx)
  -- the numbers
  refine s_gfI (G4 s2 _ b0) rfl (s_pfI (G4 s _ a0) (s_gfI (G4 s2 _ b0) rfl (s_pfI (G4 s _ a0) (s_gfI (G4 s2 _ b0) rfl (s_pfI (G4 s _ a0) (s_gfI (G4 s2 _ b0) rfl (s_pfI (G4 s _ a0) (s_gfI (G4 s2 _ b0) rfl (s_pfI (G4 s _ a0) (s_gfI (G4 s2 _ b0) rfl (s_pfI (G4 s _ a0) ?_)))))))))))
  have ns : σ s2 ≠ σ s := S.ne m0 l0 (by omega)
  have w5 : ∀ wF : Wd, Sm w4 wF → (∀ y j, y ≠ σ s → gV wF y j = gV w4 y j) → (∀ j, 5 ≤ j → j ≤ 10 → gV wF (σ s) j = gV w4 (σ s2) j) → Q wF := fun wF mF vF sF => by
    -- values in the fourth world
    have v4 : ∀ y j, gK w y ≠ none → y ≠ σ (s + 4) → gV w4 y j = gV w2 y j := fun y j hy h4 => (t2' y j (kd3 y hy) (fun z => h4 z.1)).trans (v3 y j (fun z => h4 z.1))
    have lw : ∀ x, gK (PL σ w u2) x ≠ none → gK w (σ x) ≠ none := fun x hx => by rw [S.1.2.1 x hx]; exact hx
    have TF : TKR w wF (σ (s + 4)) (σ (s + 5)) (σ (s2 + 5)) c2 E n' → TKS σ u2 w s t s2 t2 c2 wF (upK σ (s + 5) E) n' := fun T => by
      refine ⟨SJ.el S hs a9 a10 (kd_ne a11) (kd_ne b11) hx (by omega) T, fun k hk => upK_ne hk, t8, fun y j hy h1 h2 => ?_, fun y hy => T.1 y hy, fun y j hy h1 h2 => T.2.1 y j hy h1 h2, fun o ho => ?_, fun j a b => ?_, fun j a b => ?_, fun j a b => ?_, fun j a b => ?_, ?_⟩
      · rw [vF y j (h2 0 (by decide)), v4 y j hy (h2 4 (by decide)), f2 y j h2]
        exact f1 y j h1
      · have g := v1 o ho
        have eV : ∀ p j, p ≤ 5 → gV wF (σ (t + p)) j = gV w1 (σ (t + p)) j := fun p j hp => by
          rw [vF _ j (nS (t + p) 0 (by decide) (lt p hp) (by omega)), v4 _ j (lw _ (lt p hp)) (nS (t + p) 4 (by decide) (lt p hp) (by omega))]
          exact f2 _ j (fun q hq => nS (t + p) q hq (lt p hp) (by omega))
        obtain ⟨o1, o2, o3⟩ := g
        refine ⟨(eV 0 5 (by decide)).trans o1, fun j a b => (eV 1 j (by decide)).trans (o2 j a b), fun j a b => ⟨(eV 2 j (by decide)).trans (o3 j a b).1, (eV 3 j (by decide)).trans (o3 j a b).2.1, (eV 4 j (by decide)).trans (o3 j a b).2.2.1, (eV 5 j (by decide)).trans (o3 j a b).2.2.2⟩⟩
      · rw [vF _ j (nS (s + 1) 0 (by decide) (kd_ne a6) (by omega)), v4 _ j (lw _ (kd_ne a6)) (nS (s + 1) 4 (by decide) (kd_ne a6) (by omega)), r1 j a b]
        exact f1 _ j (fun p hp => nT (s2 + 1) p hp (kd_ne b6) (by omega))
      · rw [vF _ j (nS (s + 2) 0 (by decide) (kd_ne a7) (by omega)), v4 _ j (lw _ (kd_ne a7)) (nS (s + 2) 4 (by decide) (kd_ne a7) (by omega)), r2 j a b]
        exact f1 _ j (fun p hp => nT (s2 + 2) p hp (kd_ne b7) (by omega))
      · rw [vF _ j (nS (s + 3) 0 (by decide) (kd_ne a8) (by omega)), v4 _ j (lw _ (kd_ne a8)) (nS (s + 3) 4 (by decide) (kd_ne a8) (by omega)), r3 j a b]
        exact f1 _ j (fun p hp => nT (s2 + 3) p hp (kd_ne b8) (by omega))
      · rw [sF j a b, v4 _ j (lw _ m0) (nS s2 4 (by decide) m0 (by omega))]
        exact v2 s2 j m0 (fun p hp => by omega) (by omega) (by omega) (by omega)
      · rw [vF _ 2 (nS (s + 4) 0 (by decide) (kd_ne a9) (by omega))]
        exact t3
    refine hq wF _ n' (TF ⟨fun y hy => (mF.1 y).trans ((t1 y (kd3 y hy)).trans ((k3 y).trans (E2.1 y))), fun y j hy h1 h2 => (mF.2 y j).trans ((t4 y j (kd3 y hy) h1 h2).trans ((r3' y j (fun z => h1 z.1)).trans (E2.2 y j))), (mF.2 _ _).trans t5, (mF.1 _).trans t6, ?_, fun q => ?_⟩)
    · rcases t7 with h | h
      · exact Or.inl h
      · exact Or.inr ⟨by rw [← E2.1, ← k3]; exact h.1, h.2⟩
    · rw [mF.2, t9 q, r3' _ q (fun z => e52 z.1.symm), E2.2]
  refine w5 _ Sm.rf.sV.sV.sV.sV.sV.sV (fun y j hy => ?_) (fun j a b => ?_)
  · rw [gV_ne (fun z => hy z.1), gV_ne (fun z => hy z.1), gV_ne (fun z => hy z.1), gV_ne (fun z => hy z.1), gV_ne (fun z => hy z.1), gV_ne (fun z => hy z.1)]
  · rcases (by omega : j = 5 ∨ j = 6 ∨ j = 7 ∨ j = 8 ∨ j = 9 ∨ j = 10) with e | e | e | e | e | e <;> subst e <;> simp [gV_sV, ns]
end STAKES2
