/-! THE PLAIN LAW: the twin's pile over a whole test -/
set_option maxRecDepth 100000
section RECKU
variable {w0 w : Wd} {Q : Wd → Prop} {X : Int → Wd → Prop} {E : Int → Int} {ord : Bool} {op ar : Int → Int} {lo up last : Int}
theorem t_test (hl : last ≤ 400) (hE : ∀ j, 0 ≤ j → j < 16 → -1000000 ≤ E j ∧ E j ≤ 1000000) : ∀ (n k : Nat) (a b : Int), TestR w0 ord op ar n k a b → lo ≤ a → b ≤ up → b ≤ last → 0 ≤ a → ∀ (sp : Int) (f : Nat) (w : Wd), SOK w → gV w 0 38 = 0 → CA w ord op ar lo up → VA w ord E → 0 ≤ sp → sp ≤ a → last - a < f → (∀ (v : Int) (f' : Nat) (w' : Wd), evT w0 E n k = some v → (v = 0 ∨ v = 1) → FR sp w w' → gV w' 37 sp = v → gV w' 0 38 = 0 → last - b < f' → wp_X5_reckonAll_10 Q X 0 last f' (sp + 1) b w') → (∀ (sp' : Int) (w' : Wd), evT w0 E n k = none → FR sp w w' → gV w' 0 38 = 1 → 0 ≤ sp' → sp' ≤ 400 → X sp' w') → wp_X5_reckonAll_10 Q X 0 last f sp a w := by
  intro n
  induction n with
  | zero => intro k a b h; exact h.elim
  | succ n ih =>
    intro k a b h hlo hup hla h0 sp f w S hb hc hV hs hsa hf hQ hX
    obtain ⟨hk, c, q9, hb9, hnot, h⟩ := h
    have hac : a < c → ∀ (v : Int) (f' : Nat) (w' : Wd), evT w0 E (n + 1) k = some v → (v = 0 ∨ v = 1) → FR sp w w' → gV w' 37 sp = v → gV w' 0 38 = 0 → last - c < f' → wp_X5_reckonAll_10 Q X 0 last f' (sp + 1) c w' := fun hac v f' w' ev hv F c1 d1 hf' =>
      t_nots hl hla hup q9 c hb9 hnot (by omega) (by omega) sp v f' w' (S.fr F) d1 (hc.fr F) hs (by omega) c1 hv hf' (fun f2 w2 F2 c2 d2 e2 => hQ v f2 w2 ev hv (F.tr F2 (by omega)) c2 d2 e2)
    clear hQ
    rcases h with h | h | h
    · obtain ⟨g, h1, h2, l, r, mm, e1, e2, s1, s2⟩ := h
      have l1 := SumR.lt _ _ _ _ s1
      have l2 := SumR.lt _ _ _ _ s2
      have hQ := hac (by omega)
      have ev : evT w0 E (n + 1) k = match evS w0 E 60 l with
        | none => none
        | some a => match evS w0 E 60 r with
          | none => none
          | some b => some (cV (gV w0 k 0) a b) := by
        have r1 : rK w0 k 1 = l := by unfold rK; rw [e1]; rfl
        have r2 : rK w0 k 2 = r := by unfold rK; rw [e2]; rfl
        rw [evT, if_pos g, r1, r2]
        rfl
      refine t_sum hl hE 60 l a mm s1 hlo (by omega) (by omega) h0 sp f w S hb hc hV hs hsa hf (fun v1 f1 w1 ev1 b1 b2 F1 c1 d1 hf1 => ?_) (fun sp' w' ev1 F1 c1 d1 d2 => hX sp' w' (by rw [ev, ev1]) F1 c1 d1 d2)
      refine t_sum hl hE 60 r mm (c - 1) s2 (by omega) (by omega) (by omega) (by omega) (sp + 1) f1 w1 (S.fr F1) d1 (hc.fr F1) (hV.fr F1) (by omega) (by omega) hf1 (fun v2 f2 w2 ev2 b3 b4 F2 c2 d2 hf2 => ?_) (fun sp' w' ev2 F2 c2 d2 d3 => hX sp' w' (by rw [ev, ev1, ev2]) (F1.tr F2 (by omega)) c2 d2 d3)
      rw [ev1, ev2] at ev
      have ev : evT w0 E (n + 1) k = some (cV (gV w0 k 0) v1 v2) := ev
      have F12 := F1.tr F2 (by omega)
      obtain ⟨f2, rfl⟩ : ∃ f', f2 = f' + 1 := ⟨f2 - 1, by omega⟩
      refine t_fetch (S.fr F12) d2 (hc.fr F12) (by omega) (by omega) (by omega) (by omega) hl ?_
      rw [h2]
      have esp : sp + 1 + 1 = sp + 2 := by omega
      have eb : c - 1 + 1 = c := by omega
      rw [esp]
      refine t_bin (S.fr F12) d2 cmOp_in ⟨hs, by omega⟩ ((F2.2 37 sp (by omega) (by omega)).trans c1) c2 ⟨b1, b2⟩ ⟨b3, b4⟩ (fun v w' er F3 c3 d3 => ?_) (fun w' er F3 c3 => ?_)
      · rw [eb]
        rw [rO_cm h1] at er
        cases er
        exact hQ _ f2 w' ev cV_in (F12.tr F3 (by omega)) c3 d3 (by omega)
      · rw [rO_cm h1] at er
        cases er
    · obtain ⟨g, h2, t, e1, s1⟩ := h
      have l1 := TestR.lt _ _ _ _ s1
      have hQ := hac (by omega)
      have ev : evT w0 E (n + 1) k = match evT w0 E n t with
        | none => none
        | some v => some (1 - v) := by
        have r1 : rK w0 k 0 = t := by unfold rK; rw [e1]; rfl
        rw [evT, if_neg (by rw [g]; exact fun z => by cases z), if_pos g, r1]
        rfl
      refine ih t a (c - 1) s1 hlo (by omega) (by omega) h0 sp f w S hb hc hV hs hsa hf (fun v f1 w1 ev1 hv F1 c1 d1 hf1 => ?_) (fun sp' w' ev1 F1 c1 d1 d2 => hX sp' w' (by rw [ev, ev1]) F1 c1 d1 d2)
      rw [ev1] at ev
      have ev : evT w0 E (n + 1) k = some (1 - v) := ev
      obtain ⟨f1, rfl⟩ : ∃ f', f1 = f' + 1 := ⟨f1 - 1, by omega⟩
      refine t_fetch (S.fr F1) d1 (hc.fr F1) (by omega) (by omega) (by omega) (by omega) hl ?_
      rw [h2]
      refine t_not (S.fr F1) ⟨hs, by omega⟩ c1 hv ?_
      have eb : c - 1 + 1 = c := by omega
      rw [eb]
      exact hQ _ f1 _ ev (by omega) (F1.s37 (by omega)) gV_at (by rw [gV_ne (by omega)]; exact d1) (by omega)
    · obtain ⟨g, hall, li, Ek, n9, fp, e1, g1, hli, e2, hEk, g2, hn9, hs2, hsn, hfa, hfc, hch⟩ := h
      have ev : evT w0 E (n + 1) k = evL (fun i => evT w0 E n (rK w0 Ek i)) (gV w0 k 0) 0 (gV w0 li 2).toNat := by
        have r1 : rK w0 k 1 = li := by unfold rK; rw [e1]; rfl
        have r2 : rK w0 li 1 = Ek := by unfold rK; rw [e2]; rfl
        rw [evT, if_neg (by rw [g]; exact fun z => by cases z), if_neg (by rw [g]; exact fun z => by cases z), r1, r2]
      generalize gV w0 li 2 = sz at *
      generalize gV w0 k 0 = all at *
      have mono : ∀ j : Nat, (j : Int) < sz → fp j + 2 ≤ fp (j + 1) := fun j hj => by
        obtain ⟨t, _, st, _⟩ := hch j hj
        have := TestR.lt _ _ _ _ st
        omega
      have lob : ∀ j : Nat, (j : Int) ≤ sz → a + 2 * j ≤ fp j := by
        intro j
        induction j with
        | zero => intro _; omega
        | succ j ihj =>
          intro hj
          have := ihj (by omega)
          have := mono j (by omega)
          omega
      have upb : ∀ d j : Nat, ((j + d : Nat) : Int) = sz → fp j + 2 * d ≤ c + 1 := by
        intro d
        induction d with
        | zero =>
          intro j hj
          have : j = sz.toNat := by omega
          rw [this, hfc]
          omega
        | succ d ihd =>
          intro j hj
          have := ihd (j + 1) (by omega)
          have := mono j (by omega)
          omega
      have hcc : a < c := by
        have := upb sz.toNat 0 (by omega)
        omega
      have hQ := hac hcc
      rw [ev] at hQ hX
      have skip : ∀ (m j : Nat), ((j + m : Nat) : Int) = sz → 1 ≤ j → ∀ (fu : Nat) (w1 : Wd), FR sp w w1 → gV w1 37 sp = 1 - all → gV w1 0 38 = 0 → last - (fp j - 1) < fu → (∀ (f' : Nat) (w' : Wd), FR sp w w' → gV w' 37 sp = 1 - all → gV w' 0 38 = 0 → last - c < f' → wp_X5_reckonAll_10 Q X 0 last f' (sp + 1) c w') → wp_X5_reckonAll_10 Q X 0 last fu (sp + 1) (fp j - 1) w1 := by
        intro m
        induction m with
        | zero =>
          intro j hj _ fu w1 F1 c1 d1 hfu hq
          have : j = sz.toNat := by omega
          have : fp j - 1 = c := by rw [this, hfc]; omega
          rw [this] at hfu ⊢
          exact hq fu w1 F1 c1 d1 hfu
        | succ m ihm =>
          intro j hj hj1 fu w1 F1 c1 d1 hfu hq
          obtain ⟨i, rfl⟩ : ∃ i, j = i + 1 := ⟨j - 1, by omega⟩
          obtain ⟨t, _, _, hsg⟩ := hch i (by omega)
          obtain ⟨sg1, sg2⟩ := hsg (by omega)
          have b1 := lob (i + 1) (by omega)
          have b2 := upb (m + 1) (i + 1) hj
          have b3 : fp (i + 1) + 2 ≤ fp (i + 2) := mono (i + 1) (by omega)
          obtain ⟨fu, rfl⟩ : ∃ f', fu = f' + 1 := ⟨fu - 1, by omega⟩
          refine t_fetch (S.fr F1) d1 (hc.fr F1) (by omega) (by omega) (by omega) (by omega) hl ?_
          rw [sg1, sg2]
          refine t_and (S.fr F1) ⟨hs, by omega⟩ (by omega) c1 (by omega) (fun _ => ?_) (fun z => absurd (by omega) z)
          exact ihm (i + 2) (by omega) (by omega) fu w1 F1 c1 d1 (by omega) hq
      have run : ∀ (m i : Nat), ((i + m : Nat) : Int) = sz → 1 ≤ m → ∀ (fu : Nat) (w1 : Wd), FR sp w w1 → gV w1 0 38 = 0 → last - fp i < fu → (∀ (v : Int) (f' : Nat) (w' : Wd), evL (fun i => evT w0 E n (rK w0 Ek i)) all i m = some v → (v = 0 ∨ v = 1) → FR sp w w' → gV w' 37 sp = v → gV w' 0 38 = 0 → last - c < f' → wp_X5_reckonAll_10 Q X 0 last f' (sp + 1) c w') → (∀ (sp' : Int) (w' : Wd), evL (fun i => evT w0 E n (rK w0 Ek i)) all i m = none → FR sp w w' → gV w' 0 38 = 1 → 0 ≤ sp' → sp' ≤ 400 → X sp' w') → wp_X5_reckonAll_10 Q X 0 last fu sp (fp i) w1 := by
        intro m
        induction m with
        | zero => intro i _ h; omega
        | succ m ihm =>
          intro i hi _ fu w1 F1 d1 hfu hq hx
          obtain ⟨t, et, st, hsg⟩ := hch i (by omega)
          have er : rK w0 Ek (i : Int) = t := by unfold rK; rw [et]; rfl
          have e9 : evL (fun i => evT w0 E n (rK w0 Ek i)) all i (m + 1) = match evT w0 E n t with
            | none => none
            | some v => if v = all then evL (fun i => evT w0 E n (rK w0 Ek i)) all ((i : Int) + 1) m else some (1 - all) := by
            rw [evL]
            simp only [er]
            rfl
          have b1 := lob i (by omega)
          have b2 := upb (m + 1) i hi
          have b3 := mono i (by omega)
          have b4 := upb m (i + 1) (by omega)
          refine ih t (fp i) (fp (i + 1) - 1) st (by omega) (by omega) (by omega) (by omega) sp fu w1 (S.fr F1) d1 (hc.fr F1) (hV.fr F1) hs (by omega) hfu (fun v f2 w2 ev2 hv F2 c2 d2 hf2 => ?_) (fun sp' w' ev2 F2 c2 d2 d3 => hx sp' w' (by rw [e9, ev2]) (F1.tr F2 (by omega)) c2 d2 d3)
          have F12 := F1.tr F2 (by omega)
          rw [ev2] at e9
          cases m with
          | zero =>
            have : i + 1 = sz.toNat := by omega
            have ec : fp (i + 1) - 1 = c := by rw [this, hfc]; omega
            rw [ec] at hf2 ⊢
            refine hq v f2 w2 ?_ hv F12 c2 d2 hf2
            rw [e9]
            show (if v = all then some all else some (1 - all)) = some v
            by_cases z : v = all
            · rw [if_pos z, z]
            · rw [if_neg z]
              have : 1 - all = v := by omega
              rw [this]
          | succ m =>
            obtain ⟨sg1, sg2⟩ := hsg (by omega)
            obtain ⟨f2, rfl⟩ : ∃ f', f2 = f' + 1 := ⟨f2 - 1, by omega⟩
            refine t_fetch (S.fr F12) d2 (hc.fr F12) (by omega) (by omega) (by omega) (by omega) hl ?_
            rw [sg1, sg2]
            have b5 : fp (i + 1) + 2 ≤ fp (i + 2) := mono (i + 1) (by omega)
            refine t_and (S.fr F12) ⟨hs, by omega⟩ (by omega) c2 hv (fun z => ?_) (fun z => ?_)
            · have ez : ¬ v = all := by omega
              have e9 : evL (fun i => evT w0 E n (rK w0 Ek i)) all i (m + 1 + 1) = some (1 - all) := by rw [e9]; exact if_neg ez
              exact skip m (i + 2) (by omega) (by omega) f2 w2 F12 (by omega) d2 (by omega) (fun f3 w3 F3 c3 d3 e3 => hq (1 - all) f3 w3 e9 (by omega) F3 c3 d3 e3)
            · have ez : v = all := by omega
              have e9 : evL (fun i => evT w0 E n (rK w0 Ek i)) all i (m + 1 + 1) = evL (fun i => evT w0 E n (rK w0 Ek i)) all ((i : Int) + 1) (m + 1) := by rw [e9]; exact if_pos ez
              rw [e9] at hq hx
              have ei : ((i : Int) + 1) = ((i + 1 : Nat) : Int) := by omega
              have ep : fp (i + 1) - 1 + 1 = fp (i + 1) := by omega
              rw [ei] at hq hx
              rw [ep]
              exact ihm (i + 1) (by omega) (by omega) f2 w2 F12 d2 (by omega) hq hx
      have hr := run sz.toNat 0 (by omega) (by omega) f w FR.rf hb (by omega) hQ hX
      rw [hfa] at hr
      exact hr
end RECKU
