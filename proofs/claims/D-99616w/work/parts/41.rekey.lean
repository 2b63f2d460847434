/-! RE-KEY: the same cells by other keys -/
def REK (σ : Nat → Nat) (w w' : Wd) : Prop := (∀ k, gK w' k ≠ none → k < 800 ∨ (1000 ≤ k ∧ σ k = k)) ∧ (∀ k, gK w' k ≠ none → gK w (σ k) = gK w' k) ∧ (∀ k i, gK w' k ≠ none → gV w (σ k) i = gV w' k i) ∧ (∀ k i, gK w' k ≠ none → gR w (σ k) i = (gR w' k i).map σ) ∧ (∀ k i r, gK w' k ≠ none → gR w' k i = some r → r < 800 ∨ σ r = r) ∧ ∀ k k', gK w' k ≠ none → gK w' k' ≠ none → σ k = σ k' → k = k'
def adR (G : GW) (σ : Nat → Nat) : Nat → Nat := fun k => if k < 800 then adG G (σ k) else adG G k
def gwR (G : GW) (σ : Nat → Nat) : GW := (G.1, G.2.1, adR G σ, G.2.2.2)
def cxR (x : Cx) (σ : Nat → Nat) : Cx := (xp x, xl x, xe x, xR x, xs x, xm x, xa x, xb x, xM x, xc x, gwR (xG x) σ, xA x, xn x, xmc x, xms x)
theorem adR_at {G : GW} {σ : Nat → Nat} {k : Nat} (h : k < 800 ∨ σ k = k) : adR G σ k = adG G (σ k) := by
  unfold adR
  by_cases g : k < 800
  · rw [if_pos g]
  · rw [if_neg g]
    rcases h with h | h
    · exact absurd h g
    · rw [h]
theorem adR_big {G : GW} {σ : Nat → Nat} {k : Nat} (h : 800 ≤ k) : adR G σ k = adG G k := by
  unfold adR
  rw [if_neg (by omega)]
theorem ST1_of {G G' : va_G × (Nat → ClassId) × (Nat → Nat) × (Nat → Nat)} {A : Nat → Prop} {U : State} {H : Heap} (h : ∀ k, 800 ≤ k → G'.2.2.1 k = G.2.2.1 k) {i : Nat} (s : ST1 G A U H i) : ST1 G' A U H i := by
  unfold ST1 at s ⊢
  rw [h (900 + i) (by omega), h (800 + i) (by omega)]
  exact s
theorem ST_of {G G' : va_G × (Nat → ClassId) × (Nat → Nat) × (Nat → Nat)} {A : Nat → Prop} {U : State} {H : Heap} (h : ∀ k, 800 ≤ k → G'.2.2.1 k = G.2.2.1 k) (s : ST G A U H) : ST G' A U H := by
  obtain ⟨s1, s2, s3, ⟨s4, s4'⟩, s5, s6, s7⟩ := s
  refine ⟨s1, s2, s3, ⟨?_, s4'⟩, s5, s6, fun i hi => ST1_of h (s7 i hi)⟩
  rw [h 960 (by omega)]
  exact s4
theorem OK.rek {x : Cx} {own : String} {cc : ByteArray} {d : Nat} (O : OK x own cc d) (σ : Nat → Nat) : OK (cxR x σ) own cc d :=
  ⟨O.1, O.2.1, ST_of (G := xG x) (fun k hk => adR_big hk) O.2.2.1, O.2.2.2.1, O.2.2.2.2.1, O.2.2.2.2.2.1, fun k hk => by
    show adR (xG x) σ k = k - 1000
    rw [adR_big (by omega)]
    exact O.2.2.2.2.2.2 k hk⟩
theorem cE_rek {G : GW} {σ : Nat → Nat} {w w' : Wd} (R : REK σ w w') {k : Nat} (hk : gK w' k ≠ none) : cE (gwR G σ) w' k = cE G w (σ k) := by
  obtain ⟨r1, r2, r3, r4, r5, r6⟩ := R
  have eR : ∀ i, (gR w' k i).map (adG (gwR G σ)) = (gR w (σ k) i).map (adG G) := fun i => by
    rw [r4 k i hk]
    cases e : gR w' k i with
    | none => rfl
    | some r =>
      show some (adR G σ r) = some (adG G (σ r))
      rw [adR_at (r5 k i r hk e)]
  have eF : ∀ ty j, fvl (gwR G σ) w' k ty j = fvl G w (σ k) ty j := fun ty j => by
    unfold fvl vR
    simp only [r3 k _ hk, eR]
  have eA : ∀ t, arE (gwR G σ) w' k t = arE G w (σ k) t := fun t => by
    unfold arE
    simp only [r3 k _ hk, eR]
  unfold cE
  rw [r2 k hk]
  simp only [eF, eA]
  rfl
theorem HP.rek {G : GW} {A : Nat → Prop} {w w' : Wd} {H : Heap} {σ : Nat → Nat} (h : HP G A w H) (R : REK σ w w') : HP (gwR G σ) A w' H := by
  obtain ⟨ks, h1, h2, h3⟩ := h
  have hin : ∀ k, gK w' k ≠ none → σ k ∈ ks := fun k hk => (h1 _).mp (by rw [R.2.1 k hk]; exact hk)
  have hD := h3.1
  -- the list of the new keys
  have hex : ∀ l : List Nat, l.Nodup → ∃ ks' : List Nat, ks'.Nodup ∧ ∀ k, k ∈ ks' ↔ (gK w' k ≠ none ∧ σ k ∈ l) := by
    intro l
    induction l with
    | nil => intro _; exact ⟨[], List.nodup_nil, fun k => by simp⟩
    | cons a l ih =>
      intro hn
      obtain ⟨ks', n1, n2⟩ := ih (List.nodup_cons.mp hn).2
      by_cases g : ∃ k, gK w' k ≠ none ∧ σ k = a
      · obtain ⟨k, hk, rfl⟩ := g
        refine ⟨k :: ks', List.nodup_cons.mpr ⟨fun hm => (List.nodup_cons.mp hn).1 ((n2 k).mp hm).2, n1⟩, fun k2 => ?_⟩
        rw [List.mem_cons, List.mem_cons, n2 k2]
        constructor
        · rintro (rfl | ⟨q1, q2⟩)
          · exact ⟨hk, Or.inl rfl⟩
          · exact ⟨q1, Or.inr q2⟩
        · rintro ⟨q1, q2 | q2⟩
          · exact Or.inl (R.2.2.2.2.2 k2 k q1 hk q2)
          · exact Or.inr ⟨q1, q2⟩
      · refine ⟨ks', n1, fun k2 => ?_⟩
        rw [n2 k2, List.mem_cons]
        constructor
        · rintro ⟨q1, q2⟩
          exact ⟨q1, Or.inr q2⟩
        · rintro ⟨q1, q2 | q2⟩
          · exact absurd ⟨k2, q1, q2⟩ g
          · exact ⟨q1, q2⟩
  have hnd : ks.Nodup := by
    refine List.pairwise_iff_getElem.mpr (fun i j hi hj hij he => ?_)
    have e1 : (wsG G w ks)[i]? = some (adG G ks[j], cE G w ks[j]) := by
      rw [List.getElem?_map, List.getElem?_eq_getElem hi, he]; rfl
    have e2 : (wsG G w ks)[j]? = some (adG G ks[j], cE G w ks[j]) := by
      rw [List.getElem?_map, List.getElem?_eq_getElem hj]; rfl
    have := hD i j _ _ e1 e2 rfl
    omega
  obtain ⟨ks', n1, n2⟩ := hex ks hnd
  have hkey : ∀ k, k ∈ ks' → gK w' k ≠ none := fun k hk => ((n2 k).mp hk).1
  have hsame : ∀ k, k ∈ ks' → (adG (gwR G σ) k, cE (gwR G σ) w' k) = (adG G (σ k), cE G w (σ k)) := fun k hk => by
    have hk' := hkey k hk
    rw [cE_rek R hk']
    show (adR G σ k, _) = _
    rw [adR_at ((R.1 k hk').imp id (fun q => q.2))]
  have hat : ∀ (i : Nat) (q : Nat × va_E), (wsG (gwR G σ) w' ks')[i]? = some q → ∃ k, ks'[i]? = some k ∧ q = (adG G (σ k), cE G w (σ k)) ∧ ∃ j : Nat, ks[j]? = some (σ k) := by
    intro i q hq
    rw [List.getElem?_map] at hq
    cases e : ks'[i]? with
    | none => rw [e] at hq; cases hq
    | some k =>
      rw [e] at hq
      have hm := List.mem_of_getElem? e
      refine ⟨k, rfl, ?_, List.getElem?_of_mem ((n2 k).mp hm).2⟩
      rw [← hsame k hm]
      exact (Option.some.inj hq).symm
  refine ⟨ks', fun k => ⟨fun hk => (n2 k).mpr ⟨hk, hin k hk⟩, fun hk => hkey k hk⟩, ?_, ?_, ?_⟩
  · intro i q hq
    obtain ⟨k, e1, rfl, j, hj⟩ := hat i q hq
    exact h2 j _ (by rw [List.getElem?_map, hj]; rfl)
  · intro i j p q hp hq e
    obtain ⟨k, e1, rfl, a, ha⟩ := hat i p hp
    obtain ⟨k2, e2, rfl, b, hb⟩ := hat j q hq
    have hab := hD a b (adG G (σ k), cE G w (σ k)) (adG G (σ k2), cE G w (σ k2)) (by rw [List.getElem?_map, ha]; rfl) (by rw [List.getElem?_map, hb]; rfl) e
    subst hab
    have hs : σ k = σ k2 := Option.some.inj (ha.symm.trans hb)
    have hkk := R.2.2.2.2.2 k k2 (hkey k (List.mem_of_getElem? e1)) (hkey k2 (List.mem_of_getElem? e2)) hs
    subst hkk
    obtain ⟨li, q1⟩ := List.getElem?_eq_some_iff.mp e1
    obtain ⟨lj, q2⟩ := List.getElem?_eq_some_iff.mp e2
    rcases Nat.lt_trichotomy i j with g | g | g
    · exact absurd (q1.trans q2.symm) (List.pairwise_iff_getElem.mp n1 i j li lj g)
    · exact g
    · exact absurd (q2.trans q1.symm) (List.pairwise_iff_getElem.mp n1 j i lj li g)
  · intro i q hq
    obtain ⟨k, e1, rfl, j, hj⟩ := hat i q hq
    exact h3.2 j (adG G (σ k), cE G w (σ k)) (by rw [List.getElem?_map, hj]; rfl)
/-- by other keys -/
theorem J.rek {x : Cx} {Q : State → Prop} {w w' : Wd} {bc bs pc : Nat} {L L' : List (Nat × Value)} {st : List Value} {σ : Nat → Nat} (R : REK σ w w') (hL : L' = L) (K : J (cxR x σ) Q w' bc bs pc L' st) : J x Q w bc bs pc L st := by
  subst hL
  intro H locs cells slots ls hP hS hl h1 h2
  exact K H locs cells slots ls (hP.rek R) hS hl h1 h2
