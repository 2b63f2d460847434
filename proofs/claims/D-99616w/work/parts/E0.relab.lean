/-! THE PLAIN LAW: cells by other keys, one at a time -/
set_option maxRecDepth 100000
/-- the cell E comes to key a, what was at a is dropped -/
def rkW (a E : Nat) (w : Wd) : Wd := (fun k j => gV w (if k = a then E else k) j, fun k j => (gR w (if k = a then E else k) j).map (fun r => if r = E then a else r), fun k => if k = E then none else gK w (if k = a then E else k))
section RELAB
variable {w w' w0 w1 w2 : Wd} {a E k : Nat} {j : Int}
theorem rek_id (h1 : ∀ k, gK w k ≠ none → k < 800 ∨ 1000 ≤ k) : REK (fun k => k) w w := ⟨fun k hk => (h1 k hk).imp id (fun y => ⟨y, rfl⟩), fun _ _ => rfl, fun _ _ _ => rfl, fun k i _ => by cases gR w k i <;> rfl, fun _ _ _ _ _ => Or.inr rfl, fun _ _ _ _ e => e⟩
theorem REK.tr {σ ρ : Nat → Nat} {u u' : Wd} (h : REK σ w u) (g : REK ρ u u') : REK (fun k => σ (ρ k)) w u' := by
  obtain ⟨h1, h2, h3, h4, h5, h6⟩ := h
  obtain ⟨g1, g2, g3, g4, g5, g6⟩ := g
  have lv : ∀ k, gK u' k ≠ none → gK u (ρ k) ≠ none := fun k hk => by rw [g2 k hk]; exact hk
  refine ⟨fun k hk => ?_, fun k hk => (h2 _ (lv k hk)).trans (g2 k hk), fun k i hk => (h3 _ i (lv k hk)).trans (g3 k i hk), fun k i hk => ?_, fun k i r hk hr => ?_, fun k k' hk hk' e => g6 k k' hk hk' (h6 _ _ (lv k hk) (lv k' hk') e)⟩
  · rcases g1 k hk with y | ⟨y1, y2⟩
    · exact Or.inl y
    · rcases h1 _ (lv k hk) with z | ⟨z1, z2⟩
      · rw [y2] at z; omega
      · exact Or.inr ⟨y1, z2.trans y2⟩
  · rw [h4 _ i (lv k hk), g4 k i hk]
    cases gR u' k i <;> rfl
  · rcases g5 k i r hk hr with y | y
    · exact Or.inl y
    · have q := g4 k i hk
      rw [hr] at q
      have q : gR u (ρ k) i = some (ρ r) := q
      rw [y] at q
      rcases h5 _ i r (lv k hk) q with z | z
      · exact Or.inl z
      · right
        show σ (ρ r) = r
        rw [y]; exact z
theorem rk_rek (ha : a < 800) (hE : 1000 ≤ E) (h1 : ∀ k, gK w k ≠ none → k < 800 ∨ 1000 ≤ k) (h5 : ∀ k j, gK w k ≠ none → k ≠ a → gR w k j ≠ some a) : REK (fun k => if k = a then E else k) w (rkW a E w) := by
  have nE : ∀ k, gK (rkW a E w) k ≠ none → k ≠ E ∧ gK w (if k = a then E else k) = gK (rkW a E w) k := fun k hk => by
    have e : gK (rkW a E w) k = if k = E then none else gK w (if k = a then E else k) := rfl
    by_cases z : k = E
    · rw [e, if_pos z] at hk; exact absurd rfl hk
    · rw [e, if_neg z]; exact ⟨z, rfl⟩
  refine ⟨fun k hk => ?_, fun k hk => (nE k hk).2, fun _ _ _ => rfl, fun k i hk => ?_, fun k i r hk hr => ?_, fun k k' hk hk' e => ?_⟩
  · by_cases z : k = a
    · exact Or.inl (by omega)
    · have q := (nE k hk).2
      rw [if_neg z] at q
      rcases h1 k (by rw [q]; exact hk) with y | y
      · exact Or.inl y
      · exact Or.inr ⟨y, if_neg z⟩
  · show gR w (if k = a then E else k) i = ((gR w (if k = a then E else k) i).map (fun r => if r = E then a else r)).map (fun k => if k = a then E else k)
    cases e : gR w (if k = a then E else k) i with
    | none => rfl
    | some r =>
      show some r = some (if (if r = E then a else r) = a then E else (if r = E then a else r))
      by_cases z : r = E
      · rw [if_pos z, if_pos rfl, z]
      · rw [if_neg z]
        have na : r ≠ a := fun y => by
          have q := (nE k hk).2
          refine h5 (if k = a then E else k) i (by rw [q]; exact hk) ?_ (by rw [e, y])
          by_cases u : k = a
          · rw [if_pos u]; omega
          · rw [if_neg u]; exact u
        rw [if_neg na]
  · have hr : (gR w (if k = a then E else k) i).map (fun r => if r = E then a else r) = some r := hr
    by_cases z : r = a
    · exact Or.inl (by omega)
    · exact Or.inr (if_neg z)
  · have n1 := (nE k hk).1
    have n2 := (nE k' hk').1
    have e : (if k = a then E else k) = (if k' = a then E else k') := e
    by_cases z : k = a
    · rw [if_pos z] at e
      by_cases z2 : k' = a
      · rw [z, z2]
      · rw [if_neg z2] at e; exact absurd e.symm n2
    · rw [if_neg z] at e
      by_cases z2 : k' = a
      · rw [if_pos z2] at e; exact absurd e n1
      · rw [if_neg z2] at e; exact e
theorem rk_K (hk : k ≠ a) (he : k ≠ E) : gK (rkW a E w) k = gK w k := by
  show (if k = E then none else gK w (if k = a then E else k)) = _
  rw [if_neg he, if_neg hk]
theorem rk_V (hk : k ≠ a) : gV (rkW a E w) k j = gV w k j := by
  show gV w (if k = a then E else k) j = _
  rw [if_neg hk]
theorem rk_R (hk : k ≠ a) (hr : gR w k j ≠ some E) : gR (rkW a E w) k j = gR w k j := by
  show (gR w (if k = a then E else k) j).map (fun r => if r = E then a else r) = _
  rw [if_neg hk]
  cases e : gR w k j with
  | none => rfl
  | some r =>
    have n : r ≠ E := fun y => hr (by rw [e, y])
    show some (if r = E then a else r) = _
    rw [if_neg n]
theorem rk_RE (hk : k ≠ a) (hr : gR w k j = some E) : gR (rkW a E w) k j = some a := by
  show (gR w (if k = a then E else k) j).map (fun r => if r = E then a else r) = _
  rw [if_neg hk, hr]
  show some (if E = E then a else E) = _
  rw [if_pos rfl]
theorem rk_aK (hn : a ≠ E) : gK (rkW a E w) a = gK w E := by
  show (if a = E then none else gK w (if a = a then E else a)) = _
  rw [if_neg hn, if_pos rfl]
theorem rk_aV : gV (rkW a E w) a j = gV w E j := by
  show gV w (if a = a then E else a) j = _
  rw [if_pos rfl]
theorem rk_aR : gR (rkW a E w) a j = (gR w E j).map (fun r => if r = E then a else r) := by
  show (gR w (if a = a then E else a) j).map _ = _
  rw [if_pos rfl]
theorem rk_hi (ha : a < 800) (H : Hi w0 w) (hE : gK w0 E = none) (hR : ∀ k j, 1000 ≤ k → gK w0 k ≠ none → gR w k j ≠ some E) : Hi w0 (rkW a E w) := fun k hk hn => by
  have n1 : k ≠ a := by omega
  have n2 : k ≠ E := fun y => hn (y ▸ hE)
  obtain ⟨h1, h2, h3⟩ := H k hk hn
  exact ⟨(rk_K n1 n2).trans h1, fun j => (rk_V n1).trans (h2 j), fun j => (rk_R n1 (hR k j hk hn)).trans (h3 j)⟩
theorem SKt_in : ∀ e ∈ SKt, e.1 < 800 ∧ e.1 ≠ 145 ∧ e.1 ≠ 155 ∧ e.1 ≠ 165 := by decide +kernel
theorem SRt_in : ∀ e ∈ SRt, (e.1 < 800 ∧ e.1 ≠ 145 ∧ e.1 ≠ 155 ∧ e.1 ≠ 165) ∧ e.2.2 < 800 ∧ (look1 SKt e.1).isSome = true := by decide +kernel
/-- old cells stand: static cells do -/
theorem SOK.old (S : SOK w) (h : ∀ k, gK w k ≠ none → gK w' k = gK w k ∧ ∀ j, gR w' k j = gR w k j) : SOK w' := by
  refine ⟨fun e he => ?_, fun e he => ?_⟩
  · have q := S.1 e he
    exact ((h e.1 (by rw [q]; exact fun z => by cases z)).1).trans q
  · have q := SRt_in e he
    obtain ⟨d, hd⟩ := Option.isSome_iff_exists.mp q.2.2
    have k9 := KF S hd
    exact ((h e.1 (by rw [k9]; exact fun z => by cases z)).2 _).trans (S.2 e he)
theorem SOK.rk (S : SOK w) (ha : a = 145 ∨ a = 155 ∨ a = 165) (hE : 1000 ≤ E) : SOK (rkW a E w) := by
  refine ⟨fun e he => ?_, fun e he => ?_⟩
  · have q := SKt_in e he
    rw [rk_K (by omega) (by omega)]
    exact S.1 e he
  · have q := SRt_in e he
    have r := S.2 e he
    rw [rk_R (by omega) (by rw [r]; exact fun z => by injection z with z; omega)]
    exact r
/-- what a state's laws, an image need: live static cells the same but at 145 -/
def OLC (w w' : Wd) : Prop := ∀ k, k < 800 → k ≠ 145 → gK w k ≠ none → gK w' k = gK w k ∧ (k ≠ 104 → k ≠ 144 → ∀ j, gR w' k j = gR w k j)
theorem kd_ne {d : Kd} (h : gK w k = some d) : gK w k ≠ none := by rw [h]; exact fun z => by cases z
theorem ImgR.mv {q : Nat} (h : ImgR w q) (S : SOK w) (hq : q < 2) (H : Hi w w') (hL : OLC w w') (hV : ∀ k j, (k = 4 ∨ k = 5 ∨ (150 ≤ k ∧ k < 170) ∨ (324 ≤ k ∧ k < 336)) → gK w k ≠ none → gV w' k j = gV w k j) : ImgR w' q := by
  have c103 := (hL 103 (by decide) (by decide) (kd_ne (KF S (k := 103) rfl))).2 (by decide) (by decide)
  have v4 : ∀ j, gV w' 4 j = gV w 4 j := fun j => hV 4 j (by omega) (kd_ne (KF S (k := 4) rfl))
  have v5 : ∀ j, gV w' 5 j = gV w 5 j := fun j => hV 5 j (by omega) (kd_ne (KF S (k := 5) rfl))
  rcases h with ⟨h1, h2⟩ | ⟨h1, h2, h3, h4, h5, h6, h7, h8, h9⟩
  · exact Or.inl ⟨by rw [v5]; exact h1, (c103 _).trans h2⟩
  · obtain ⟨r1, r2, r3, r4⟩ := h9
    have hb := r3.1.2.2
    have l1 := r4.1
    obtain ⟨n, l2, _⟩ := r4.2.2.1
    have c3 := hL _ (by omega) (by omega) (kd_ne h3)
    have c7 := hL _ (by omega) (by omega) (kd_ne h7)
    have c1 := hL _ (by omega) (by omega) (kd_ne l1)
    have c2 := hL _ (by omega) (by omega) (kd_ne l2)
    have c1r := c1.2 (by omega) (by omega)
    have c2r := c2.2 (by omega) (by omega)
    have c3r := c3.2 (by omega) (by omega)
    have c7r := c7.2 (by omega) (by omega)
    have lt : ∀ k, 324 + 6 * q ≤ k → k ≤ 324 + 6 * q + 5 → gK w k ≠ none := fun k a b => by
      by_cases z : k = 324 + 6 * q
      · rw [z]; exact kd_ne h7
      · have e : k = 325 + 6 * q + (k - (325 + 6 * q)) := by omega
        rw [e]
        exact kd_ne (h8 _ (by omega)).2
    have ls : ∀ k, 150 + 10 * q ≤ k → k ≤ 150 + 10 * q + 3 → gK w k ≠ none := fun k a b => by
      by_cases z : k = 150 + 10 * q
      · rw [z]; exact kd_ne h3
      · have e : k = 151 + 10 * q + (k - (151 + 10 * q)) := by omega
        rw [e]
        exact kd_ne (h6 _ (by omega)).2
    refine Or.inr ⟨by rw [v5]; exact h1, (c103 _).trans h2, c3.1.trans h3, (c3r _).trans h4, (c3r _).trans h5, fun j hj => ⟨(c3r _).trans (h6 j hj).1, (hL _ (by omega) (by omega) (kd_ne (h6 j hj).2)).1.trans (h6 j hj).2⟩, c7.1.trans h7, fun j hj => ⟨(c7r _).trans (h8 j hj).1, (hL _ (by omega) (by omega) (kd_ne (h8 j hj).2)).1.trans (h8 j hj).2⟩, r1.fr (fun k j a b => hV k j (by omega) (lt k a b)) (fun j _ _ => v4 _), ?_, r3.fr (fun k j a b => hV k j (by omega) (ls k a b)) (fun j _ _ _ => v4 _), r4.fr H ⟨c1.1, c2.1⟩ c1r c2r (hV _ _ (by omega) (kd_ne l1)) (fun j _ _ => v4 _)⟩
    dsimp only
    rw [v4 (5516 * (q : Int) + 0), v4 (5516 * (q : Int) + 1)]
    exact r2.fr hb (fun j a b => v4 _)
/-- the static cells that the relation looks at -/
abbrev NEED (k : Nat) : Prop := k = 0 ∨ (2 ≤ k ∧ k ≤ 7) ∨ k = 12 ∨ k = 31 ∨ k = 32 ∨ k = 33 ∨ k = 52 ∨ k = 53 ∨ k = 60 ∨ k = 100 ∨ k = 101 ∨ (103 ≤ k ∧ k ≤ 106) ∨ k = 110 ∨ k = 125 ∨ (140 ≤ k ∧ k ≤ 144) ∨ (300 ≤ k ∧ k ≤ 305) ∨ (318 ≤ k ∧ k ≤ 323) ∨ (336 ≤ k ∧ k < 432)
theorem need_in : ∀ k : Fin 432, NEED k.val → (look1 SKt k.val).isSome = true := by decide +kernel
theorem need_lv (S : SOK w) (h : NEED k) : gK w k ≠ none := by
  obtain ⟨d, hd⟩ := Option.isSome_iff_exists.mp (need_in ⟨k, by unfold NEED at h; omega⟩ h)
  exact kd_ne (KF S hd)
theorem UndR.rr (h : UndR w) (hV : ∀ k j, gV w' k j = gV w k j) (hR : ∀ k j, k = 104 ∨ k = 105 → gR w' k j = gR w k j) : UndR w' := by
  have eV : w'.1 = w.1 := funext fun k => funext fun j => hV k j
  obtain ⟨h1, h2, h3, p, h4, h5, h6⟩ := h
  unfold gV at h1 h2 h6
  unfold UndR TabEq
  unfold gV
  rw [eV]
  exact ⟨h1, h2, fun q hq => (hR _ _ (Or.inr rfl)).trans (h3 q hq), p, fun q hq => ⟨(h4 q hq).1, (hR _ _ (Or.inl rfl)).trans (h4 q hq).2⟩, h5, h6⟩
/-- a law's text was added, or none: all else is the same -/
theorem REL.lawE {i i' : Int} (R : REL w i) (hS : SOK w') (H : Hi w w') (hO : OLC w w') (h104 : ∀ j, gR w' 104 j = gR w 104 j) (hV9 : ∀ k j, gK w k ≠ none → k < 1000 → ¬ ((k = 0 ∧ j ≠ 8 ∧ j ≠ 61) ∨ (k = 100 ∧ j ≠ 15 ∧ j ≠ 32) ∨ (8 ≤ k ∧ k < 60 ∧ k ≠ 31 ∧ k ≠ 32 ∧ k ≠ 33 ∧ k ≠ 52 ∧ k ≠ 53) ∨ (107 ≤ k ∧ k < 140) ∨ k = 144 ∨ k = 145 ∨ (190 ≤ k ∧ k < 300) ∨ (306 ≤ k ∧ k < 318) ∨ 432 ≤ k ∨ k = 101 ∨ k = 2 ∨ (k = 3 ∧ (j = 3 ∨ 116 ≤ j))) → gV w' k j = gV w k j) (hs : ScaR w' i') (hL : LawsR w' 144 145 (gV w' 3)) (hT : TID w') : REL w' i' := by
  obtain ⟨h1, ⟨t1, t2, t3, t4⟩, h3, h4, h5, h6, h7, h8, h9⟩ := R
  have hb := t3.1.2.2
  have hV : ∀ k j, NEED k → ¬ ((k = 0 ∧ j ≠ 8 ∧ j ≠ 61) ∨ (k = 100 ∧ j ≠ 15 ∧ j ≠ 32) ∨ k = 12 ∨ k = 110 ∨ k = 125 ∨ k = 144 ∨ k = 101 ∨ k = 2 ∨ (k = 3 ∧ (j = 3 ∨ 116 ≤ j))) → gV w' k j = gV w k j := fun k j hn y => hV9 k j (need_lv h1 hn) (by unfold NEED at hn; omega) (by unfold NEED at hn; omega)
  have o3 : ∀ j, ¬ (j = 3 ∨ 116 ≤ j) → gV w' 3 j = gV w 3 j := fun j y => hV 3 j (by omega) (by omega)
  have hI : ∀ k j, (k = 4 ∨ k = 5 ∨ (150 ≤ k ∧ k < 170) ∨ (324 ≤ k ∧ k < 336)) → gK w k ≠ none → gV w' k j = gV w k j := fun k j y z => hV9 k j z (by omega) (by omega)
  refine ⟨hS, ⟨t1.fr (fun k j a b => hV k j (by omega) (by omega)) (fun j a b => o3 _ (by omega)), ?_, ?_, hL⟩, h3.mv h1 (by decide) H hO hI, h4.mv h1 (by decide) H hO hI, h5.fr (fun k j hk => hV k j (by omega) (by omega)), ?_, hs, h8.fr (fun k j hk => hV k j (by omega) (by omega)), hT⟩
  · rw [o3 0 (by omega), o3 1 (by omega)]
    exact t2.fr hb (fun j a b => o3 _ (by omega))
  · obtain ⟨a1, a2, a3, a4, a5, a6, a7, a8, a9⟩ := t3
    refine ⟨by rw [hV 140 5 (by omega) (by omega), o3 0 (by omega)]; exact a1, by rw [hV 140 6 (by omega) (by omega), o3 1 (by omega)]; exact a2, by rw [hV 140 7 (by omega) (by omega), o3 2 (by omega)]; exact a3, by rw [hV 140 8 (by omega) (by omega), o3 6 (by omega)]; exact a4, by rw [hV 140 9 (by omega) (by omega), o3 7 (by omega)]; exact a5, by rw [hV 140 10 (by omega) (by omega), o3 4 (by omega)]; exact a6, fun j u v => by rw [hV 141 _ (by omega) (by omega), hV 142 _ (by omega) (by omega), o3 _ (by omega), o3 _ (by omega)]; exact a7 j u v, fun j u v => by rw [hV 143 _ (by omega) (by omega), o3 _ (by omega)]; exact a8 j u v, fun j u v => ?_⟩
    rw [o3 2 (by omega)] at v
    rw [o3 _ (by omega), o3 _ (by omega), o3 _ (by omega)]
    exact a9 j u v
  · have q := h6.fr (w' := (w'.1, w.2.1, w.2.2)) hb ⟨fun _ => rfl, fun _ _ => rfl⟩ (fun k j hk => hV k j (by omega) (by omega)) ⟨o3 0 (by omega), o3 1 (by omega), o3 6 (by omega), o3 7 (by omega)⟩
    refine q.rr (fun _ _ => rfl) (fun k j hk => ?_)
    rcases hk with hk | hk
    · rw [hk]; exact h104 j
    · rw [hk]; exact (hO 105 (by decide) (by decide) (kd_ne (KF h1 (k := 105) rfl))).2 (by decide) (by decide) j
theorem TIW.tid (I : TIW w) (hI : ∀ q : Nat, q < 2 → gV w 5 q = 0 → gR w 103 q = none) : TID w := by
  refine ⟨fun k hk => (I.1 k hk).1, fun k j r hk hr => I.2 k j r hk hr, fun q hq h0 j hj => ⟨?_, ?_⟩⟩
  · by_cases e : gK w (150 + 10 * q + j) = none
    · exact e
    · exact absurd rfl ((I.1 _ e).2 q hq (hI q hq h0) j hj).1
  · by_cases e : gK w (324 + 6 * q + j) = none
    · exact e
    · exact absurd rfl ((I.1 _ e).2 q hq (hI q hq h0) j hj).2
theorem TIW.rk (I : TIW w) (hE : 1000 ≤ E) (hEl : gK w E ≠ none) (h1 : gR w 144 1 = some E) (hEr : ∀ k j, gK w k ≠ none → gR w k j = some E → k = 144 ∧ j = 1) (hI : ∀ q : Nat, q < 2 → gV w 5 q = 0 → gR w 103 q = none) : TID (rkW 145 E w) := by
  have lv : ∀ k, gK (rkW 145 E w) k ≠ none → k ≠ E ∧ gK w (if k = 145 then E else k) ≠ none := fun k hk => by
    have e : gK (rkW 145 E w) k = if k = E then none else gK w (if k = 145 then E else k) := rfl
    by_cases z : k = E
    · rw [e, if_pos z] at hk; exact absurd rfl hk
    · rw [e, if_neg z] at hk; exact ⟨z, hk⟩
  refine ⟨fun k hk => ?_, fun k j r hk hr => ?_, fun q hq h0 j hj => ⟨?_, ?_⟩⟩
  · obtain ⟨z, hl⟩ := lv k hk
    by_cases z2 : k = 145
    · exact Or.inl (by omega)
    · rw [if_neg z2] at hl; exact (I.1 k hl).1
  · obtain ⟨z, hl⟩ := lv k hk
    have hr : (gR w (if k = 145 then E else k) j).map (fun r => if r = E then 145 else r) = some r := hr
    cases e : gR w (if k = 145 then E else k) j with
    | none => rw [e] at hr; cases hr
    | some r0 =>
      rw [e] at hr
      have hr : some (if r0 = E then 145 else r0) = some r := hr
      injection hr with hr
      by_cases z0 : r0 = E
      · rw [if_pos z0] at hr
        obtain ⟨k1, k2⟩ := hEr _ _ hl (by rw [e, z0])
        have k3 : k = 144 := by
          by_cases z2 : k = 145
          · rw [if_pos z2] at k1; omega
          · rw [if_neg z2] at k1; exact k1
        subst hr
        refine ⟨?_, fun _ => ⟨k3, k2⟩, fun y => absurd y (by decide), fun y => absurd y (by decide)⟩
        rw [rk_aK (by omega)]
        exact hEl
      · rw [if_neg z0] at hr
        subst hr
        obtain ⟨q1, q2, q3, q4⟩ := I.2 _ j r0 hl e
        have n5 : r0 ≠ 145 := fun y => by
          obtain ⟨k1, k2⟩ := q2 y
          rw [k1, k2, h1] at e
          injection e with e
          exact z0 e.symm
        have kk : ∀ c, c < 800 → (if k = 145 then E else k) = c → k = c := fun c hc y => by
          by_cases z2 : k = 145
          · rw [if_pos z2] at y; omega
          · rw [if_neg z2] at y; exact y
        refine ⟨by rw [rk_K n5 z0]; exact q1, fun y => absurd y n5, fun y => ⟨kk _ (by decide) (q3 y).1, (q3 y).2⟩, fun y => ⟨kk _ (by decide) (q4 y).1, (q4 y).2⟩⟩
  · have h0 : gV w 5 q = 0 := by rw [rk_V (by decide)] at h0; exact h0
    rw [rk_K (by omega) (by omega)]
    by_cases e : gK w (150 + 10 * q + j) = none
    · exact e
    · exact absurd rfl ((I.1 _ e).2 q hq (hI q hq h0) j hj).1
  · have h0 : gV w 5 q = 0 := by rw [rk_V (by decide)] at h0; exact h0
    rw [rk_K (by omega) (by omega)]
    by_cases e : gK w (324 + 6 * q + j) = none
    · exact e
    · exact absurd rfl ((I.1 _ e).2 q hq (hI q hq h0) j hj).2
theorem REL.tiw {i : Int} (R : REL w i) : TIW w := by
  obtain ⟨h1, h2, h3, h4, h5, h6, h7, h8, t1, t2, t3⟩ := R
  refine ⟨fun k hk => ⟨t1 k hk, fun q hq e j hj => ?_⟩, t2⟩
  have v : gV w 5 q = 0 := by
    rcases (by omega : q = 0 ∨ q = 1) with r | r <;> subst r
    · rcases h3 with y | y
      · exact y.1
      · rw [y.2.1] at e; cases e
    · rcases h4 with y | y
      · exact y.1
      · rw [y.2.1] at e; cases e
  have g := t3 q hq v j hj
  exact ⟨fun y => hk (y ▸ g.1), fun y => hk (y ▸ g.2)⟩
/-- re-keyed, the two stand beside one another -/
def RKR (w : Wd) (i : Int) : Prop := ∃ (σ : Nat → Nat) (w2 : Wd), REK σ w w2 ∧ σ 100 = 100 ∧ σ 0 = 0 ∧ REL w2 i
theorem REL.rkr {i : Int} (R : REL w i) : RKR w i := ⟨fun k => k, w, rek_id (fun k hk => (R.tiw.1 k hk).1), rfl, rfl, R⟩
end RELAB
