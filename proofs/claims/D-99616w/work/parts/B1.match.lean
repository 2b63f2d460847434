/-! THE PLAIN LAW: matches by asking, one box after another or all in turns: the same (no machine in sight) -/
set_option maxRecDepth 100000
section MATCH
/-- box b would rather have s; suitor s would rather keep w -/
def pfB (G : Int → Int → Int) (b s t : Int) : Prop := G b s < G b t ∨ (G b s = G b t ∧ s < t)
def btS (L : Int → Int → Int) (w b s : Int) : Prop := L b s < L w s ∨ (L b s = L w s ∧ w < b)
def NXT (m : Int) (G : Int → Int → Int) (A : Int → Int → Prop) (b r : Int) : Prop := (r = -1 ∧ ∀ s, 0 ≤ s → s < m → A b s) ∨ ((0 ≤ r ∧ r < m) ∧ ¬ A b r ∧ ∀ s, 0 ≤ s → s < m → ¬ A b s → s = r ∨ pfB G b r s)
/-- the turns' end -/
def FIN (n m : Int) (G L : Int → Int → Int) (F : Int → Int → Prop) (σ : Int → Int) : Prop := (∀ b s, 0 ≤ b → b < n → 0 ≤ s → s < m → G b s = -1 → F b s) ∧ (∀ b, 0 ≤ b → b < n → NXT m G F b (σ b)) ∧ (∀ b c, 0 ≤ b → b < n → 0 ≤ c → c < n → σ b = σ c → σ b ≠ -1 → b = c) ∧ ∀ b s, 0 ≤ b → b < n → 0 ≤ s → s < m → G b s ≠ -1 → F b s → ∃ w, 0 ≤ w ∧ w < n ∧ σ w = s ∧ btS L w b s
/-- asked so far, kept so far -/
def JV (n m : Int) (G L : Int → Int → Int) (κ : Int → Int) (B : Int → Int → Prop) : Prop := (∀ s, 0 ≤ s → s < m → -1 ≤ κ s ∧ κ s < n ∧ (κ s ≠ -1 → B (κ s) s)) ∧ (∀ s t, 0 ≤ s → s < m → 0 ≤ t → t < m → κ s = κ t → κ s ≠ -1 → s = t) ∧ (∀ b s, 0 ≤ b → b < n → 0 ≤ s → s < m → B b s → G b s ≠ -1 ∧ κ s ≠ -1 ∧ (κ s = b ∨ btS L (κ s) b s)) ∧ (∀ b s t, 0 ≤ b → b < n → 0 ≤ s → s < m → 0 ≤ t → t < m → B b s → G b t ≠ -1 → pfB G b t s → B b t) ∧ ∀ F σ, FIN n m G L F σ → ∀ b s, 0 ≤ b → b < n → 0 ≤ s → s < m → B b s → κ s ≠ b → F b s
/-- a box has come to its end -/
def DNE (m : Int) (G : Int → Int → Int) (κ : Int → Int) (B : Int → Int → Prop) (b : Int) : Prop := (∃ s, 0 ≤ s ∧ s < m ∧ κ s = b) ∨ ∀ s, 0 ≤ s → s < m → G b s ≠ -1 → B b s
variable {n m : Int} {G L : Int → Int → Int} {κ : Int → Int} {B : Int → Int → Prop} {F : Int → Int → Prop} {σ : Int → Int}
theorem btS_tr {a b c s : Int} (h1 : btS L a b s) (h2 : btS L b c s) : btS L a c s := by unfold btS at *; omega
theorem btS_as {a b s : Int} (h1 : btS L a b s) (h2 : btS L b a s) : False := by unfold btS at *; omega
theorem btS_to {a b s : Int} (h : a ≠ b) (h2 : ¬ btS L a b s) : btS L b a s := by unfold btS at *; omega
theorem pfB_as {b s t : Int} (h1 : pfB G b s t) (h2 : pfB G b t s) : False := by unfold pfB at *; omega
theorem pfB_to {b s t : Int} (h : s ≠ t) (h2 : ¬ pfB G b s t) : pfB G b t s := by unfold pfB at *; omega
theorem NXT_un {A : Int → Int → Prop} {b r q : Int} (h1 : NXT m G A b r) (h2 : NXT m G A b q) : r = q := by
  rcases h1 with ⟨a1, a2⟩ | ⟨a1, a2, a3⟩
  · rcases h2 with ⟨b1, b2⟩ | ⟨b1, b2, b3⟩
    · omega
    · exact absurd (a2 q b1.1 b1.2) b2
  · rcases h2 with ⟨b1, b2⟩ | ⟨b1, b2, b3⟩
    · exact absurd (b2 r a1.1 a1.2) a2
    · rcases a3 q b1.1 b1.2 b2 with h | h
      · exact h.symm
      · rcases b3 r a1.1 a1.2 a2 with h2 | h2
        · exact h2
        · exact (pfB_as h h2).elim
/-- who loses at s is refused at last -/
theorem lose (hf : FIN n m G L F σ) {w l s : Int} (hs : 0 ≤ s ∧ s < m) (hw : 0 ≤ w ∧ w < n) (hl : 0 ≤ l ∧ l < n) (pw : ∀ t, 0 ≤ t → t < m → pfB G w t s → F w t) (pl : ∀ t, 0 ≤ t → t < m → pfB G l t s → F l t) (hb : btS L w l s) (gw : G w s ≠ -1) : F l s := by
  obtain ⟨f1, f2, f3, f4⟩ := hf
  by_cases h : F l s
  · exact h
  · exfalso
    have near : ∀ b, 0 ≤ b → b < n → ¬ F b s → (∀ t, 0 ≤ t → t < m → pfB G b t s → F b t) → σ b = s := fun b b0 b1 nb pb => by
      refine NXT_un (f2 b b0 b1) (Or.inr ⟨hs, nb, fun t t0 t1 nt => ?_⟩)
      by_cases e : t = s
      · exact Or.inl e
      · refine Or.inr (pfB_to e (fun y => nt (pb t t0 t1 y)))
    have el := near l hl.1 hl.2 h pl
    by_cases g : F w s
    · obtain ⟨v, v0, v1, v2, v3⟩ := f4 w s hw.1 hw.2 hs.1 hs.2 gw g
      have e := f3 v l v0 v1 hl.1 hl.2 (v2.trans el.symm) (by omega)
      rw [e] at v3
      exact btS_as v3 hb
    · have ew := near w hw.1 hw.2 g pw
      have e := f3 w l hw.1 hw.2 hl.1 hl.2 (ew.trans el.symm) (by omega)
      rw [e] at hb
      exact btS_as hb hb
theorem JV_0 (n m : Int) (G L : Int → Int → Int) (h : ∀ s, κ s = -1) (hn : 0 ≤ n) (hB : ∀ b s, 0 ≤ b → b < n → 0 ≤ s → s < m → ¬ B b s) : JV n m G L κ B :=
  ⟨fun s _ _ => ⟨by rw [h s]; omega, by rw [h s]; omega, fun y => absurd (h s) y⟩, fun s t _ _ _ _ _ y => absurd (h s) y, fun b s a1 a2 a3 a4 y => absurd y (hB b s a1 a2 a3 a4), fun b s t a1 a2 a3 a4 _ _ y => absurd y (hB b s a1 a2 a3 a4), fun F σ _ b s a1 a2 a3 a4 y => absurd y (hB b s a1 a2 a3 a4)⟩
theorem NXT_pf {A : Int → Int → Prop} {b s t : Int} (h : NXT m G A b s) (h0 : 0 ≤ s) (t0 : 0 ≤ t) (t1 : t < m) (p : pfB G b t s) : A b t := by
  rcases h with ⟨a1, a2⟩ | ⟨a1, a2, a3⟩
  · omega
  · by_cases g : A b t
    · exact g
    · rcases a3 t t0 t1 g with e | e
      · rw [e] at p; exact (pfB_as p p).elim
      · exact (pfB_as p e).elim
/-- one asks: the holder stays, or gives way -/
theorem JV_ask (J : JV n m G L κ B) {b s : Int} (hb : 0 ≤ b ∧ b < n) (hs : 0 ≤ s ∧ s < m) (hk : ∀ t, 0 ≤ t → t < m → κ t ≠ b) (hN : NXT m G (fun c t => G c t = -1 ∨ B c t) b s) {B2 : Int → Int → Prop} (hB : ∀ c t, 0 ≤ c → c < n → 0 ≤ t → t < m → (B2 c t ↔ (c = b ∧ t = s) ∨ B c t)) : (κ s ≠ -1 → btS L (κ s) b s → JV n m G L κ B2) ∧ ((κ s = -1 ∨ ¬ btS L (κ s) b s) → JV n m G L (fun t => if t = s then b else κ t) B2) := by
  obtain ⟨j1, j2, j3, j4, j5⟩ := J
  have hnot : ¬ (G b s = -1 ∨ B b s) := by
    rcases hN with ⟨a1, a2⟩ | ⟨a1, a2, a3⟩
    · omega
    · exact a2
  have gs : G b s ≠ -1 := fun y => hnot (Or.inl y)
  have nb : ¬ B b s := fun y => hnot (Or.inr y)
  have k4 : ∀ c t u, 0 ≤ c → c < n → 0 ≤ t → t < m → 0 ≤ u → u < m → B2 c t → G c u ≠ -1 → pfB G c u t → B2 c u := fun c t u c0 c1 t0 t1 u0 u1 h g p => by
    rw [hB c t c0 c1 t0 t1] at h
    rw [hB c u c0 c1 u0 u1]
    rcases h with ⟨e1, e2⟩ | h
    · subst e1; subst e2
      rcases NXT_pf hN hs.1 u0 u1 p with y | y
      · exact absurd y g
      · exact Or.inr y
    · exact Or.inr (j4 c t u c0 c1 t0 t1 u0 u1 h g p)
  -- what b would rather have has refused it; so has what the holder would rather have
  have pb : ∀ F σ, FIN n m G L F σ → ∀ t, 0 ≤ t → t < m → pfB G b t s → F b t := fun F σ hf t t0 t1 p => by
    rcases NXT_pf hN hs.1 t0 t1 p with y | y
    · exact hf.1 b t hb.1 hb.2 t0 t1 y
    · exact j5 F σ hf b t hb.1 hb.2 t0 t1 y (hk t t0 t1)
  have pk : κ s ≠ -1 → ∀ F σ, FIN n m G L F σ → ∀ t, 0 ≤ t → t < m → pfB G (κ s) t s → F (κ s) t := fun hne F σ hf t t0 t1 p => by
    have r := j1 s hs.1 hs.2
    have rB := r.2.2 hne
    have c0 : 0 ≤ κ s := by omega
    by_cases g : G (κ s) t = -1
    · exact hf.1 (κ s) t c0 r.2.1 t0 t1 g
    · have y := j4 (κ s) s t c0 r.2.1 hs.1 hs.2 t0 t1 rB g p
      refine j5 F σ hf (κ s) t c0 r.2.1 t0 t1 y (fun e => ?_)
      have := j2 t s t0 t1 hs.1 hs.2 e (by omega)
      rw [this] at p
      exact pfB_as p p
  refine ⟨fun hne hbt => ⟨fun t t0 t1 => ?_, j2, fun c t c0 c1 t0 t1 h => ?_, k4, fun F σ hf c t c0 c1 t0 t1 h hc => ?_⟩, fun hor => ⟨fun t t0 t1 => ?_, fun t u t0 t1 u0 u1 e hne => ?_, fun c t c0 c1 t0 t1 h => ?_, k4, fun F σ hf c t c0 c1 t0 t1 h hc => ?_⟩⟩
  · have r := j1 t t0 t1
    refine ⟨r.1, r.2.1, fun y => ?_⟩
    rw [hB (κ t) t (by omega) r.2.1 t0 t1]
    exact Or.inr (r.2.2 y)
  · rw [hB c t c0 c1 t0 t1] at h
    rcases h with ⟨e1, e2⟩ | h
    · subst e1; subst e2
      exact ⟨gs, hne, Or.inr hbt⟩
    · exact j3 c t c0 c1 t0 t1 h
  · rw [hB c t c0 c1 t0 t1] at h
    rcases h with ⟨e1, e2⟩ | h
    · subst e1; subst e2
      have r := j1 t t0 t1
      exact lose hf hs ⟨by omega, r.2.1⟩ hb (pk hne F σ hf) (pb F σ hf) hbt ((j3 (κ t) t (by omega) r.2.1 t0 t1 (r.2.2 hne)).1)
    · exact j5 F σ hf c t c0 c1 t0 t1 h hc
  · show -1 ≤ (if t = s then b else κ t) ∧ (if t = s then b else κ t) < n ∧ ((if t = s then b else κ t) ≠ -1 → B2 (if t = s then b else κ t) t)
    by_cases e : t = s
    · rw [if_pos e]
      refine ⟨by omega, hb.2, fun _ => ?_⟩
      rw [hB b t hb.1 hb.2 t0 t1]
      exact Or.inl ⟨rfl, e⟩
    · rw [if_neg e]
      have r := j1 t t0 t1
      refine ⟨r.1, r.2.1, fun y => ?_⟩
      rw [hB (κ t) t (by omega) r.2.1 t0 t1]
      exact Or.inr (r.2.2 y)
  · have e : (if t = s then b else κ t) = (if u = s then b else κ u) := e
    have hne : (if t = s then b else κ t) ≠ -1 := hne
    by_cases e1 : t = s
    · by_cases e2 : u = s
      · rw [e1, e2]
      · rw [if_pos e1, if_neg e2] at e
        exact absurd e.symm (hk u u0 u1)
    · by_cases e2 : u = s
      · rw [if_neg e1, if_pos e2] at e
        exact absurd e (hk t t0 t1)
      · rw [if_neg e1, if_neg e2] at e
        rw [if_neg e1] at hne
        exact j2 t u t0 t1 u0 u1 e hne
  · show G c t ≠ -1 ∧ (if t = s then b else κ t) ≠ -1 ∧ ((if t = s then b else κ t) = c ∨ btS L (if t = s then b else κ t) c t)
    rw [hB c t c0 c1 t0 t1] at h
    by_cases e : t = s
    · rw [if_pos e]
      subst e
      rcases h with ⟨e1, e2⟩ | h
      · subst e1
        exact ⟨gs, by omega, Or.inl rfl⟩
      · obtain ⟨q1, q2, q3⟩ := j3 c t c0 c1 t0 t1 h
        refine ⟨q1, by omega, ?_⟩
        have hlt : btS L b (κ t) t := by
          rcases hor with y | y
          · exact absurd y q2
          · exact btS_to (hk t t0 t1) y
        rcases q3 with y | y
        · rw [← y]; exact Or.inr hlt
        · exact Or.inr (btS_tr hlt y)
    · rw [if_neg e]
      rcases h with ⟨e1, e2⟩ | h
      · exact absurd e2 e
      · exact j3 c t c0 c1 t0 t1 h
  · have hc2 : (if t = s then b else κ t) ≠ c := hc
    rw [hB c t c0 c1 t0 t1] at h
    by_cases e : t = s
    · rw [if_pos e] at hc2
      subst e
      rcases h with ⟨e1, e2⟩ | h
      · exact absurd e1.symm hc2
      · by_cases y : κ t = c
        · have hne : κ t ≠ -1 := by omega
          have hlt : btS L b c t := by
            rcases hor with z | z
            · exact absurd z hne
            · rw [← y]; exact btS_to (hk t t0 t1) z
          have pk := pk hne F σ hf
          rw [y] at pk
          exact lose hf hs hb ⟨c0, c1⟩ (pb F σ hf) pk hlt gs
        · exact j5 F σ hf c t c0 c1 t0 t1 h y
    · rw [if_neg e] at hc2
      rcases h with ⟨e1, e2⟩ | h
      · exact absurd e2 e
      · exact j5 F σ hf c t c0 c1 t0 t1 h hc2
/-- who is kept by s in a turn -/
def KB (n : Int) (L : Int → Int → Int) (σ : Int → Int) (s r : Int) : Prop := (r = -1 ∧ ∀ b, 0 ≤ b → b < n → σ b ≠ s) ∨ ((0 ≤ r ∧ r < n) ∧ σ r = s ∧ ∀ b, 0 ≤ b → b < n → σ b = s → b = r ∨ btS L r b s)
/-- within the turns: refused so far, asking now; the other one's end known -/
def TIN (n m : Int) (G L : Int → Int → Int) (κ : Int → Int) (B : Int → Int → Prop) (F : Int → Int → Prop) : Prop := (∀ b s, 0 ≤ b → b < n → 0 ≤ s → s < m → G b s = -1 → F b s) ∧ ∀ b s, 0 ≤ b → b < n → 0 ≤ s → s < m → G b s ≠ -1 → F b s → B b s ∧ κ s ≠ b
def T1 (n m : Int) (G L : Int → Int → Int) (F : Int → Int → Prop) (σ : Int → Int) : Prop := ∀ b s, 0 ≤ b → b < n → 0 ≤ s → s < m → G b s ≠ -1 → F b s → ∃ w, 0 ≤ w ∧ w < n ∧ σ w = s ∧ btS L w b s
/-- a turn's refusals -/
theorem turn_ref (J : JV n m G L κ B) (hD : ∀ b, 0 ≤ b → b < n → DNE m G κ B b) (h : TIN n m G L κ B F) (hσ : ∀ b, 0 ≤ b → b < n → NXT m G F b (σ b)) (h1 : T1 n m G L F σ) (kb : Int → Int) (hk : ∀ b, 0 ≤ b → b < n → σ b ≠ -1 → KB n L σ (σ b) (kb b)) {F2 : Int → Int → Prop} (hF : ∀ b s, 0 ≤ b → b < n → 0 ≤ s → s < m → (F2 b s ↔ F b s ∨ (s = σ b ∧ kb b ≠ b))) : TIN n m G L κ B F2 ∧ ∀ σ2 : Int → Int, (∀ b, 0 ≤ b → b < n → NXT m G F2 b (σ2 b)) → T1 n m G L F2 σ2 := by
  obtain ⟨j1, j2, j3, j4, j5⟩ := J
  obtain ⟨t1, t2⟩ := h
  -- a box that asks s in F, all it would rather have being refused
  have ask : ∀ w s, 0 ≤ w → w < n → 0 ≤ s → s < m → σ w = s → ¬ B w s → False := fun w s w0 w1 s0 s1 e hn => by
    have hN := hσ w w0 w1
    have gw : G w s ≠ -1 := fun y => by
      rcases hN with ⟨a1, a2⟩ | ⟨a1, a2, a3⟩
      · omega
      · rw [e] at a2; exact a2 (t1 w s w0 w1 s0 s1 y)
    rcases hD w w0 w1 with ⟨u, u0, u1, eu⟩ | hall
    · have hu := (j1 u u0 u1).2.2 (by omega)
      rw [eu] at hu
      have gu := (j3 w u w0 w1 u0 u1 hu).1
      by_cases es : u = s
      · rw [es] at hu; exact hn hu
      · by_cases p : pfB G w s u
        · exact hn (j4 w u s w0 w1 u0 u1 s0 s1 hu gw p)
        · have p2 := pfB_to (fun y => es y.symm) p
          have fu : F w u := NXT_pf (s := s) (by rw [← e]; exact hN) s0 u0 u1 p2
          exact (t2 w u w0 w1 u0 u1 gu fu).2 eu
    · exact hn (hall s s0 s1 gw)
  have hNs : ∀ b s, 0 ≤ b → b < n → 0 ≤ s → σ b = s → s < m ∧ ¬ F b s := fun b s b0 b1 s0 e => by
    rcases hσ b b0 b1 with ⟨a1, a2⟩ | ⟨a1, a2, a3⟩
    · omega
    · rw [e] at a1 a2; exact ⟨a1.2, a2⟩
  refine ⟨⟨fun b s b0 b1 s0 s1 g => ?_, fun b s b0 b1 s0 s1 g f => ?_⟩, fun σ2 hσ2 b s b0 b1 s0 s1 g f => ?_⟩
  · rw [hF b s b0 b1 s0 s1]; exact Or.inl (t1 b s b0 b1 s0 s1 g)
  · rw [hF b s b0 b1 s0 s1] at f
    rcases f with f | ⟨e, ne⟩
    · exact t2 b s b0 b1 s0 s1 g f
    · have hB : B b s := Classical.byContradiction fun y => ask b s b0 b1 s0 s1 e.symm y
      refine ⟨hB, fun ek => ?_⟩
      have K := hk b b0 b1 (by omega)
      rw [← e] at K
      rcases K with ⟨a1, a2⟩ | ⟨a1, a2, a3⟩
      · exact a2 b b0 b1 e.symm
      · rcases a3 b b0 b1 e.symm with y | y
        · exact ne y.symm
        · have hw : B (kb b) s := Classical.byContradiction fun z => ask (kb b) s a1.1 a1.2 s0 s1 a2 z
          rcases (j3 (kb b) s a1.1 a1.2 s0 s1 hw).2.2 with z | z
          · exact ne (z.symm.trans ek)
          · rw [ek] at z; exact btS_as z y
  · -- a holder that is as good asks s still
    have hold : ∀ v, 0 ≤ v → v < n → σ v = s → kb v = v → σ2 v = s := fun v v0 v1 ev ek => by
      refine NXT_un (hσ2 v v0 v1) ?_
      have hN := hσ v v0 v1
      rw [ev] at hN
      have eqF : ∀ t, 0 ≤ t → t < m → (F2 v t ↔ F v t) := fun t t0 t1 => by
        rw [hF v t v0 v1 t0 t1]
        exact ⟨fun y => y.elim id (fun z => absurd ek z.2), Or.inl⟩
      rcases hN with ⟨a1, a2⟩ | ⟨a1, a2, a3⟩
      · omega
      · exact Or.inr ⟨a1, fun y => a2 ((eqF s s0 s1).mp y), fun t t0 t1 y => a3 t t0 t1 (fun z => y ((eqF t t0 t1).mpr z))⟩
    -- the one who keeps s
    have keeper : ∀ v, 0 ≤ v → v < n → σ v = s → ∃ r, 0 ≤ r ∧ r < n ∧ σ r = s ∧ kb r = r ∧ (r = v ∨ btS L r v s) ∧ kb v = r := fun v v0 v1 ev => by
      have K := hk v v0 v1 (by omega)
      rw [ev] at K
      rcases K with ⟨a1, a2⟩ | ⟨a1, a2, a3⟩
      · exact absurd ev (a2 v v0 v1)
      · refine ⟨kb v, a1.1, a1.2, a2, ?_, ?_, rfl⟩
        · have K2 := hk (kb v) a1.1 a1.2 (by omega)
          rw [a2] at K2
          rcases K2 with ⟨c1, c2⟩ | ⟨c1, c2, c3⟩
          · exact absurd a2 (c2 _ a1.1 a1.2)
          · rcases c3 (kb v) a1.1 a1.2 a2 with y | y
            · exact y.symm
            · rcases a3 (kb (kb v)) c1.1 c1.2 c2 with z | z
              · exact z
              · exact (btS_as y z).elim
        · rcases a3 v v0 v1 ev with y | y
          · exact Or.inl y.symm
          · exact Or.inr y
    rw [hF b s b0 b1 s0 s1] at f
    rcases f with f | ⟨e, ne⟩
    · obtain ⟨w, w0, w1, w2, w3⟩ := h1 b s b0 b1 s0 s1 g f
      obtain ⟨r, r0, r1, r2, r3, r4, _⟩ := keeper w w0 w1 w2
      refine ⟨r, r0, r1, hold r r0 r1 r2 r3, ?_⟩
      rcases r4 with y | y
      · rw [y]; exact w3
      · exact btS_tr y w3
    · obtain ⟨r, r0, r1, r2, r3, r4, r5⟩ := keeper b b0 b1 e.symm
      refine ⟨r, r0, r1, hold r r0 r1 r2 r3, ?_⟩
      rcases r4 with y | y
      · exact absurd (r5.trans y) ne
      · exact y
/-- the end: whom a box asks at last keeps it -/
theorem match_end (J : JV n m G L κ B) (hD : ∀ b, 0 ≤ b → b < n → DNE m G κ B b) (h : TIN n m G L κ B F) (hσ : ∀ b, 0 ≤ b → b < n → NXT m G F b (σ b)) (h1 : T1 n m G L F σ) (kb : Int → Int) (hk : ∀ b, 0 ≤ b → b < n → σ b ≠ -1 → KB n L σ (σ b) (kb b)) (hkb : ∀ b, 0 ≤ b → b < n → σ b ≠ -1 → kb b = b) : ∀ b, 0 ≤ b → b < n → (σ b = -1 ∧ ∀ s, 0 ≤ s → s < m → κ s ≠ b) ∨ ((0 ≤ σ b ∧ σ b < m) ∧ κ (σ b) = b ∧ ∀ s, 0 ≤ s → s < m → κ s = b → s = σ b) := by
  have hf : FIN n m G L F σ := by
    refine ⟨h.1, hσ, fun b c b0 b1 c0 c1 e ne => ?_, h1⟩
    have K1 := hk b b0 b1 ne
    have K2 := hk c c0 c1 (by omega)
    rw [hkb b b0 b1 ne] at K1
    rw [hkb c c0 c1 (by omega)] at K2
    rcases K1 with ⟨a1, a2⟩ | ⟨a1, a2, a3⟩
    · omega
    · rcases K2 with ⟨c1, c2⟩ | ⟨d1, d2, d3⟩
      · omega
      · rcases a3 c c0 c1 e.symm with y | y
        · exact y.symm
        · rcases d3 b b0 b1 e with z | z
          · exact z
          · rw [← e] at z; exact (btS_as y z).elim
  obtain ⟨j1, j2, j3, j4, j5⟩ := J
  obtain ⟨t1, t2⟩ := h
  have back : ∀ b s, 0 ≤ b → b < n → 0 ≤ s → s < m → κ s = b → σ b = s := fun b s b0 b1 s0 s1 e => by
    have hB := (j1 s s0 s1).2.2 (by omega)
    rw [e] at hB
    have g := (j3 b s b0 b1 s0 s1 hB).1
    refine NXT_un (hσ b b0 b1) (Or.inr ⟨⟨s0, s1⟩, fun f => (t2 b s b0 b1 s0 s1 g f).2 e, fun t t0 t1' nt => ?_⟩)
    by_cases et : t = s
    · exact Or.inl et
    · refine Or.inr (Classical.byContradiction fun p => nt ?_)
      have p2 := pfB_to (fun y => et y.symm) p
      by_cases gt : G b t = -1
      · exact t1 b t b0 b1 t0 t1' gt
      · have hB2 := j4 b s t b0 b1 s0 s1 t0 t1' hB gt p2
        exact j5 F σ hf b t b0 b1 t0 t1' hB2 (fun y => et (j2 t s t0 t1' s0 s1 (y.trans e.symm) (by omega)))
  intro b b0 b1
  rcases hσ b b0 b1 with ⟨a1, a2⟩ | ⟨a1, a2, a3⟩
  · exact Or.inl ⟨a1, fun s s0 s1 e => by have := back b s b0 b1 s0 s1 e; omega⟩
  · refine Or.inr ⟨a1, ?_, fun s s0 s1 e => (back b s b0 b1 s0 s1 e).symm⟩
    have g : G b (σ b) ≠ -1 := fun y => a2 (t1 b _ b0 b1 a1.1 a1.2 y)
    rcases hD b b0 b1 with ⟨u, u0, u1, eu⟩ | hall
    · rw [back b u b0 b1 u0 u1 eu]; exact eu
    · have hB := hall (σ b) a1.1 a1.2 g
      exact Classical.byContradiction fun y => a2 (j5 F σ hf b (σ b) b0 b1 a1.1 a1.2 hB y)
end MATCH
