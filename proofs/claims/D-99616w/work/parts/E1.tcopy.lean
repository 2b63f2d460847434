/-! THE PLAIN LAW: the twin keeps a law's text -/
set_option maxRecDepth 100000
/-- all the same but places a .. of the row -/
def FRO (a b : Int) (w w' : Wd) : Prop := Sm w w' ∧ ∀ k j, ¬ (k = 3 ∧ a ≤ j ∧ j < b) → gV w' k j = gV w k j
section TCOPY
variable {w w' w1 w2 : Wd} {Q : Int → Wd → Prop} {X : Wd → Prop} {a b c n o v x : Int}
theorem FRO.rf : FRO a b w w := ⟨Sm.rf, fun _ _ _ => rfl⟩
theorem FRO.tr (h1 : FRO a b w w1) (h2 : FRO a b w1 w2) : FRO a b w w2 := ⟨h1.1.tr h2.1, fun k j h => (h2.2 k j h).trans (h1.2 k j h)⟩
theorem FRO.sV (h : FRO a b w w') (ho : a ≤ o ∧ o < b) : FRO a b w (sV w' 3 o v) := ⟨h.1.sV, fun k j hn => by
  rw [gV_ne (fun y => hn ⟨y.1, by omega⟩)]
  exact h.2 k j hn⟩
theorem FRO.we {a' b' : Int} (h : FRO a b w w') (h1 : a' ≤ a) (h2 : b ≤ b') : FRO a' b' w w' := ⟨h.1, fun k j hn => h.2 k j (fun y => hn ⟨y.1, by omega⟩)⟩
theorem y5_law_110 (ha : 0 ≤ a ∧ a + 900 ≤ 5516) (hn : 0 ≤ n ∧ n ≤ 12) : ∀ (m fuel : Nat) (j : Int) (w : Wd), j + m = 8 * n → m < fuel → 0 ≤ j → SOK w → gV w 0 21 = n → (∀ w', FRO (a + 2 + j) (a + 2 + 8 * n) w w' → (∀ q, j ≤ q → q < 8 * n → gV w' 3 (a + 2 + q) = gV w 22 q) → X w') → wp_X5_law_110 Q X 0 a fuel j w := by
  intro m
  induction m with
  | zero =>
    intro fuel j w hj hf h0 S e21 hq
    obtain ⟨f, rfl⟩ : ∃ f, fuel = f + 1 := ⟨fuel - 1, by omega⟩
    rw [wp_X5_law_110]
    exact s_gfI (KF S rfl) e21 (s_ckI ⟨by omega, by omega⟩ (s_ckI ⟨by omega, by omega⟩ (s_br (fun _ => hq w FRO.rf (fun q u v => absurd u (by omega))) (fun y => absurd (by omega) y))))
  | succ m ih =>
    intro fuel j w hj hf h0 S e21 hq
    obtain ⟨f, rfl⟩ : ∃ f, fuel = f + 1 := ⟨fuel - 1, by omega⟩
    rw [wp_X5_law_110]
    refine s_gfI (KF S rfl) e21 (s_ckI ⟨by omega, by omega⟩ (s_ckI ⟨by omega, by omega⟩ (s_br (fun y => absurd y (by omega)) (fun _ => s_gfA (KF S rfl) (RF S rfl) (s_gfA (KF S rfl) (RF S rfl) (s_alI (KF S rfl) (by decide) ⟨by omega, by omega⟩ rfl (s_asI (KF S rfl) (by decide) ⟨by omega, by omega⟩ ?_)))))))
    have S1 : SOK (sV w 3 (a + 2 + j) (gV w 22 j)) := S
    refine ih f (j + 1) _ (by omega) (by omega) (by omega) S1 ((gV_ne (by omega)).trans e21) (fun w' f1 hv => hq w' ((FRO.rf.sV (by omega)).tr (f1.we (by omega) (by omega))) (fun q u v => ?_))
    by_cases z : q = j
    · rw [z, f1.2 3 _ (by omega)]
      exact gV_at
    · exact (hv q (by omega) v).trans (gV_ne (by omega))
theorem y5_law_145 (ha : 0 ≤ a ∧ a + 900 ≤ 5516) (hn : 0 ≤ n ∧ n ≤ 400) : ∀ (m fuel : Nat) (j : Int) (w : Wd), j + m = n → m < fuel → 0 ≤ j → SOK w → gV w 0 23 = n → (∀ w', FRO (a + 98 + 2 * j) (a + 98 + 2 * n) w w' → (∀ q, j ≤ q → q < n → gV w' 3 (a + (98 + 2 * q)) = gV w 24 q ∧ gV w' 3 (a + (99 + 2 * q)) = gV w 25 q) → X w') → wp_X5_law_145 Q X 0 a fuel j w := by
  intro m
  induction m with
  | zero =>
    intro fuel j w hj hf h0 S e23 hq
    obtain ⟨f, rfl⟩ : ∃ f, fuel = f + 1 := ⟨fuel - 1, by omega⟩
    rw [wp_X5_law_145]
    exact s_gfI (KF S rfl) e23 (s_ckI ⟨by omega, by omega⟩ (s_ckI ⟨by omega, by omega⟩ (s_br (fun _ => hq w FRO.rf (fun q u v => absurd u (by omega))) (fun y => absurd (by omega) y))))
  | succ m ih =>
    intro fuel j w hj hf h0 S e23 hq
    obtain ⟨f, rfl⟩ : ∃ f, fuel = f + 1 := ⟨fuel - 1, by omega⟩
    rw [wp_X5_law_145]
    refine s_gfI (KF S rfl) e23 (s_ckI ⟨by omega, by omega⟩ (s_ckI ⟨by omega, by omega⟩ (s_br (fun y => absurd y (by omega)) (fun _ => s_gfA (KF S rfl) (RF S rfl) (s_gfA (KF S rfl) (RF S rfl) (s_alI (KF S rfl) (by decide) ⟨by omega, by omega⟩ rfl (s_asI (KF S rfl) (by decide) ⟨by omega, by omega⟩ ?_)))))))
    have S1 : SOK (sV w 3 (a + 98 + 2 * j) (gV w 24 j)) := S
    refine s_gfA (KF S1 rfl) (RF S1 rfl) (s_gfA (KF S1 rfl) (RF S1 rfl) (s_alI (KF S1 rfl) (by decide) ⟨by omega, by omega⟩ (gV_ne (by omega)) (s_asI (KF S1 rfl) (by decide) ⟨by omega, by omega⟩ ?_)))
    have S2 : SOK (sV (sV w 3 (a + 98 + 2 * j) (gV w 24 j)) 3 (a + 98 + 2 * j + 1) (gV w 25 j)) := S
    have f2 : FRO (a + 98 + 2 * j) (a + 98 + 2 * n) w (sV (sV w 3 (a + 98 + 2 * j) (gV w 24 j)) 3 (a + 98 + 2 * j + 1) (gV w 25 j)) := (FRO.rf.sV (by omega)).sV (by omega)
    refine ih f (j + 1) _ (by omega) (by omega) (by omega) S2 ((f2.2 0 23 (by omega)).trans e23) (fun w' f1 hv => hq w' (f2.tr (f1.we (by omega) (by omega))) (fun q u v => ?_))
    by_cases z : q = j
    · rw [z, f1.2 3 _ (by omega), f1.2 3 _ (by omega)]
      refine ⟨?_, ?_⟩
      · rw [gV_ne (by omega)]
        have e : a + (98 + 2 * j) = a + 98 + 2 * j := by omega
        rw [e]
        exact gV_at
      · have e : a + (99 + 2 * j) = a + 98 + 2 * j + 1 := by omega
        rw [e]
        exact gV_at
    · have g := hv q (by omega) v
      exact ⟨g.1.trans (f2.2 24 q (by omega)), g.2.trans (f2.2 25 q (by omega))⟩
/-- behind a text well read: the law is kept -/
theorem y5_lawS {l : List Cl} {nl : Int} (S : SOK w) (h19 : gV w 0 19 = 0) (D : DNT false 22 8 w l) (hn : gV w 3 3 = nl) (hb : 0 ≤ nl ∧ nl < 6) (hq : ∀ w', Sm w w' → (∀ k j, ¬ (k = 0 ∧ j = 1) → ¬ (k = 3 ∧ (j = 3 ∨ (116 + 900 * nl ≤ j ∧ j < 116 + 900 * nl + 900))) → gV w' k j = gV w k j) → gV w' 0 1 = 0 → gV w' 3 3 = nl + 1 → gV w' 3 (116 + 900 * nl + 1) = (l.length : Nat) → (∀ (i : Nat) (c : Cl), l[i]? = some c → ∀ o, 0 ≤ o → o < 8 → gV w' 3 (116 + 900 * nl + (2 + 8 * i + o)) = rwL c (cdL false (l.take i)) o) → (∀ (i : Nat) (p : Int × Int), (cdL false l)[i]? = some p → gV w' 3 (116 + 900 * nl + (98 + 2 * i)) = p.1 ∧ gV w' 3 (116 + 900 * nl + (99 + 2 * i)) = p.2) → Q nl w') : gfI w 0 0 19 fun v3 => ckI v3 <| br (v3 = 0) (gfA w 0 0 3 fun k5 => alI w k5 0 3 fun v6 => gfA w 0 0 3 fun k7 => gfI w 0 0 21 fun v8 => asI w k7 0 ((116 + (900 * v6)) + 1) v8 fun w9 => wp_X5_law_110 Q (fun w10 => wp_X5_law_145 Q (fun w11 => gfA w11 0 0 3 fun k12 => alI w11 k12 0 3 fun v13 => asI w11 k12 0 3 (v13 + 1) fun w14 => gfA w14 0 0 3 fun k15 => alI w14 k15 0 3 fun v16 => cO w14 0 0 <| wp_X5_tell 0 (v16 - 1) w14 fun r17 w18 => Q r17 w18) 0 (116 + (900 * v6)) FU 0 w10) 0 (116 + (900 * v6)) FU 0 w9) (cO w 0 0 <| wp_X5_tell 0 ((-6)) w fun r20 w21 => Q r20 w21) := by
  obtain ⟨⟨d1, d2⟩, d3, d4, d5, d6, d7, d8⟩ := D
  refine s_gfI (KF S rfl) h19 (s_ckI ⟨by decide, by decide⟩ (s_br (fun _ => ?_) (fun y => absurd rfl y)))
  refine s_gfA (KF S rfl) (RF S rfl) (s_alI (KF S rfl) (by decide) ⟨by decide, by decide⟩ hn (s_gfA (KF S rfl) (RF S rfl) (s_gfI (KF S rfl) d3 (s_asI (KF S rfl) (by decide) ⟨by omega, by omega⟩ ?_))))
  have f1 : FRO (116 + 900 * nl) (116 + 900 * nl + 900) w (sV w 3 (116 + 900 * nl + 1) (l.length : Nat)) := FRO.rf.sV (by omega)
  have e1 : gV (sV w 3 (116 + 900 * nl + 1) (l.length : Nat)) 3 (116 + 900 * nl + 1) = (l.length : Nat) := gV_at
  generalize sV w 3 (116 + 900 * nl + 1) (l.length : Nat) = w1 at f1 e1 ⊢
  have S1 := S.sm f1.1
  refine y5_law_110 (n := (l.length : Nat)) ⟨by omega, by omega⟩ ⟨by omega, by omega⟩ (8 * l.length) FU 0 w1 (by omega) (by unfold FU; omega) (by decide) S1 ((f1.2 0 21 (by omega)).trans d3) (fun w2 f2 h2 => ?_)
  have S2 := S1.sm f2.1
  have f12 : FRO (116 + 900 * nl) (116 + 900 * nl + 900) w w2 := f1.tr (f2.we (by omega) (by omega))
  refine y5_law_145 (n := ((cdL false l).length : Nat)) ⟨by omega, by omega⟩ ⟨by omega, by omega⟩ (cdL false l).length FU 0 w2 (by omega) (by unfold FU; omega) (by decide) S2 ((f12.2 0 23 (by omega)).trans d5) (fun w3 f3 h3 => ?_)
  have S3 := S2.sm f3.1
  have f13 : FRO (116 + 900 * nl) (116 + 900 * nl + 900) w w3 := f12.tr (f3.we (by omega) (by omega))
  refine s_gfA (KF S3 rfl) (RF S3 rfl) (s_alI (KF S3 rfl) (by decide) ⟨by decide, by decide⟩ ((f13.2 3 3 (by omega)).trans hn) (s_asI (KF S3 rfl) (by decide) ⟨by decide, by decide⟩ ?_))
  have S4 : SOK (sV w3 3 3 (nl + 1)) := S3
  have e2 : nl + 1 - 1 = nl := by omega
  refine s_gfA (KF S4 rfl) (RF S4 rfl) (s_alI (KF S4 rfl) (by decide) ⟨by decide, by decide⟩ gV_at (s_cO (KF S4 rfl) (Eq.mpr (x5_yes S4 ⟨by omega, by omega⟩) ?_)))
  rw [e2]
  have v9 : ∀ k j, ¬ (k = 0 ∧ j = 1) → ¬ (k = 3 ∧ j = 3) → gV (sV (sV w3 3 3 (nl + 1)) 0 1 0) k j = gV w3 k j := fun k j a b => (gV_ne a).trans (gV_ne b)
  refine hq _ f13.1.sV.sV (fun k j a b => (v9 k j a (fun y => b ⟨y.1, Or.inl y.2⟩)).trans (f13.2 k j (fun y => b ⟨y.1, Or.inr ⟨y.2.1, y.2.2⟩⟩))) gV_at ((gV_ne (by omega)).trans gV_at) ?_ (fun i c hc o o1 o2 => ?_) (fun i p hp => ?_)
  · rw [v9 _ _ (by omega) (by omega), f3.2 3 _ (by omega), f2.2 3 _ (by omega)]
    exact e1
  · have hi := (List.getElem?_eq_some_iff.mp hc).1
    rw [v9 _ _ (by omega) (by omega), f3.2 3 _ (by omega)]
    have g := h2 (8 * i + o) (by omega) (by omega)
    have e : 116 + 900 * nl + (2 + 8 * (i : Int) + o) = 116 + 900 * nl + 2 + (8 * i + o) := by omega
    rw [e, g, f1.2 22 _ (by omega)]
    exact d8 i c hc o o1 o2
  · have hi := (List.getElem?_eq_some_iff.mp hp).1
    have g := h3 i (by omega) (by omega)
    have h7 := d7 i p hp
    rw [v9 _ _ (by omega) (by omega), v9 _ _ (by omega) (by omega), g.1, g.2, f12.2 24 _ (by omega), f12.2 25 _ (by omega)]
    exact h7
end TCOPY
