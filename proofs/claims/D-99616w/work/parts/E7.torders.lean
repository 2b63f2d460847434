/-! THE PLAIN LAW: orders, in the twin: all of them -/
set_option maxRecDepth 100000
section TORDERS
variable {w0 w w' w1 w2 : Wd} {ρ f : Int → Int} {op ar E : Int → Int} {fO : Int → Int → Int} {kO : Int → Nat} {k m9 : Nat} {dn la i x a b v L p : Int} {Q : Int → Wd → Prop} {QW X : Wd → Prop} {s : US} {st : OS}
theorem cou_in6 (h : 0 ≤ ρ 0 ∧ ρ 0 ≤ 6) : 0 ≤ cou ρ ∧ cou ρ ≤ 6 := by
  unfold cou
  have q := itI_inv (f := fun i a => a + (if ρ (68 + i) = -1 then 0 else 1)) (P := fun i a => 0 ≤ a ∧ a ≤ i) (ρ 0).toNat 0 0 ⟨by decide, by decide⟩ (fun i a h1 h2 h3 => by
    split <;> omega)
  omega
theorem orE_inT (C : TC w0 w ρ) (hd : 0 ≤ dn ∧ dn ≤ 1000) (hl : -1 ≤ la ∧ la ≤ 1000) : ∀ j, 0 ≤ j → j < 16 → -1000000 ≤ orE ρ dn la j ∧ orE ρ dn la j ≤ 1000000 := by
  intro j h0 h1
  have n1 := C.yr
  have n2 := cou_in6 C.nb
  unfold orE
  split
  · omega
  · split
    · omega
    · split
      · omega
      · split
        · omega
        · split
          · split
            · have := (C.to (j := j - 4) (by omega) (by omega)).2.2.2
              omega
            · omega
          · split
            · have := nNo_in (ρ := ρ) (b := j - 10)
              omega
            · omega
theorem y5_173 {r : Int} (S : SOK w) (h55 : gV w 0 55 = dn) (hq : Q 0 (sV (sV w 0 56 r) 0 55 (dn + 1))) : wp_X5_run_173 Q 0 r 0 w := by
  unfold wp_X5_run_173
  have S1 : SOK (sV w 0 56 r) := S
  exact s_pfI (KF S rfl) (s_gfI (KF S1 rfl) ((gV_ne (by omega)).trans h55) (s_pfI (KF S1 rfl) hq))
theorem TU.fso (T : TU w0 w s) (g : FSO w w') (h : gV w' 0 20 = 0) : TU w0 w' s := ⟨T.1.fso g h, T.2.1, T.2.2.fr (fun k j hk => g.2 k j (by omega))⟩
theorem y5_run94 (R : RDY w0 w s.1 op ar E L) (T : TU w0 w s) (U : SOKs s) (hO : OrdR w0 op ar L k f) (hb : 0 ≤ b ∧ b + 10 ≤ 120) (hrow : ∀ o, 0 ≤ o → o < 10 → gV w 54 (b + o) = f o) (h58 : gV w 0 58 = 0) (h55 : gV w 0 55 = dn) (h56 : gV w 0 56 = la) (hQ : ∀ w', 0 ≤ (runF w0 k E s).1 → FTO w w' → TU w0 w' (runF w0 k E s).2 → gV w' 0 55 = dn + 1 → gV w' 0 56 = (if f 0 = 2 then (runF w0 k E s).1 else la) → Q 0 w') (hX : ∀ w' s2, (runF w0 k E s).1 < 0 → FTO w w' → TU w0 w' s2 → Q (-3) w') : wp_X5_run_94 Q 0 b w := by
  have S := R.1.1
  -- the end, when a sum is broken
  have bad : ∀ w9, FSO w w9 → RDY w0 w9 s.1 op ar E L → gV w9 0 58 = 1 → (runF w0 k E s).1 < 0 → ∀ r1 r4 r7 : Int, gfI w9 0 0 58 fun v10 => ckI v10 <| br (v10 = 0) (gfA w9 0 0 54 fun k12 => alI w9 k12 0 b fun v13 => cO w9 0 0 <| wp_X5_act 0 v13 r1 r4 r7 w9 fun r14 w15 => ckI r14 <| br (0 ≤ r14) (gfA w15 0 0 54 fun k18 => alI w15 k18 0 b fun v19 => ckI v19 <| br (¬ v19 = 2) (gfI w15 0 0 56 fun v21 => wp_X5_run_173 Q 0 v21 0 w15) (wp_X5_run_173 Q 0 r14 0 w15)) (Q ((-3)) w15)) (Q ((-3)) w9) := by
    intro w9 f9 R9 z9 hn r1 r4 r7
    exact s_gfI (KF R9.1.1 rfl) z9 (s_ckI ⟨by decide, by decide⟩ (s_br (fun y => absurd y (by decide)) (fun _ => hX w9 s hn f9.o (T.fso f9 R9.1.2.2.2.1))))
  have rw9 : ∀ w9, FSO w w9 → ∀ o, 0 ≤ o → o < 10 → gV w9 54 (b + o) = f o := fun w9 f9 o h0 h1 => (f9.2 54 _ (by omega)).trans (hrow o h0 h1)
  unfold wp_X5_run_94
  refine s_cO (KF S rfl) (y5_sumI (i := 0) (by decide) R hO hb hrow h58 (by omega) (fun v0 w2 i0 f2 R2 z2 n0 => ?_) (fun v0 w2 f2 R2 z2 n0 b0 => ?_))
  · have S2 := R2.1.1
    refine s_cO (KF S2 rfl) (y5_sumI (i := 1) (by decide) R2 hO hb (rw9 w2 f2) z2 (by omega) (fun v1 w5 i1 f5 R5 z5 n1 => ?_) (fun v1 w5 f5 R5 z5 n1 b1 => ?_))
    · have S5 := R5.1.1
      have f25 := f2.tr f5
      refine s_cO (KF S5 rfl) (y5_sumI (i := 2) (by decide) R5 hO hb (rw9 w5 f25) z5 (by omega) (fun v2 w8 i2 f8 R8 z8 n2 => ?_) (fun v2 w8 f8 R8 z8 n2 b2 => ?_))
      · have S8 := R8.1.1
        have f28 := f25.tr f8
        have T8 := T.fso f28 R8.1.2.2.2.1
        have e0 : gV w8 54 b = f 0 := by
          have q := rw9 w8 f28 0 (by decide) (by decide)
          rw [Int.add_zero] at q
          exact q
        have o3 := hO.2.1
        refine s_gfI (KF S8 rfl) z8 (s_ckI ⟨by decide, by decide⟩ (s_br (fun _ => s_gfA (KF S8 rfl) (RF S8 rfl) (s_alI (KF S8 rfl) (by decide) ⟨by omega, by omega⟩ e0 (s_cO (KF S8 rfl) (y5_actF (E := E) T8 U hO i0 i1 i2 n0 n1 n2 (fun w9 r er hr f9 T9 => ?_) (fun w9 r s2 hr hr3 hn f9 T9 => ?_))))) (fun y => absurd rfl y)))
        · have S9 := T9.1.1
          have fo : FTO w w9 := f28.o.tr f9.o
          have p := (runF_ok (w0 := w0) (k := k) (E := E) U).2.1
          have e9 : gV w9 54 b = f 0 := (f9.2 54 b (by unfold Ft Ev; omega)).trans e0
          have d9 : gV w9 0 55 = dn := (f9.2 0 55 (by unfold Ft Ev; omega)).trans ((f28.2 0 55 (by omega)).trans h55)
          have l9 : gV w9 0 56 = la := (f9.2 0 56 (by unfold Ft Ev; omega)).trans ((f28.2 0 56 (by omega)).trans h56)
          -- the count and what was told last are kept
          have fin : ∀ r2, r2 = (if f 0 = 2 then (runF w0 k E s).1 else la) → Q 0 (sV (sV w9 0 56 r2) 0 55 (dn + 1)) := fun r2 e2 => by
            refine hQ _ (by rw [← er]; exact hr) ((fo.sV (by unfold Fo; omega)).sV (by unfold Fo; omega)) (T9.fr S9 (fun k j hk => (gV_ne (by omega)).trans (gV_ne (by omega)))) gV_at ?_
            rw [gV_ne (by omega), ← e2]
            exact gV_at
          refine s_ckI ⟨by omega, by omega⟩ (s_br (fun _ => s_gfA (KF S9 rfl) (RF S9 rfl) (s_alI (KF S9 rfl) (by decide) ⟨by omega, by omega⟩ e9 (s_ckI ⟨by omega, by omega⟩ (s_br (fun z => s_gfI (KF S9 rfl) l9 (y5_173 S9 d9 (fin la ?_))) (fun z => y5_173 S9 d9 (fin r ?_)))))) (fun y => absurd hr y))
          · rw [if_neg z]
          · rw [if_pos (Decidable.not_not.mp z)]; exact er
        · exact s_ckI ⟨by omega, by omega⟩ (s_br (fun y => absurd y (by omega)) (fun _ => hX w9 s2 hn (f28.o.tr f9.o) T9))
      · exact bad w8 (f25.tr f8) R8 z8 (runF_br hO n2 b2) _ _ _
    · have S5 := R5.1.1
      exact s_cO (KF S5 rfl) (y5_sumB S5 z5 (bad w5 (f2.tr f5) R5 z5 (runF_br hO n1 b1) _ _ _))
  · have S2 := R2.1.1
    exact s_cO (KF S2 rfl) (y5_sumB S2 z2 (s_cO (KF S2 rfl) (y5_sumB S2 z2 (bad w2 f2 R2 z2 (runF_br hO n0 b0) _ _ _))))
/-- one order, once -/
theorem y5_run (T : TU w0 w s) (U : SOKs s) (hO : OrdR w0 op ar L k f) (hb : 0 ≤ b ∧ b + 10 ≤ 120) (hrow : ∀ o, 0 ≤ o → o < 10 → gV w 54 (b + o) = f o) (hL : 0 ≤ L ∧ L ≤ 400) (hcd : ∀ j, 0 ≤ j → j < L → gV w 24 j = op j ∧ gV w 25 j = ar j) (h55 : gV w 0 55 = dn) (h56 : gV w 0 56 = la) (hd : 0 ≤ dn ∧ dn ≤ 1000) (hl : -1 ≤ la ∧ la ≤ 1000) (hQ : ∀ st2 w', ordF w0 k (s, dn, la) = some st2 → FTO w w' → TU w0 w' st2.1 → gV w' 0 55 = st2.2.1 → gV w' 0 56 = st2.2.2 → Q 0 w') (hX : ∀ w' s2, ordF w0 k (s, dn, la) = none → FTO w w' → TU w0 w' s2 → Q (-3) w') : wp_X5_run 0 b w Q := by
  have C := T.1
  have S := C.1
  have n1 := C.yr
  have n2 := cou_in6 C.nb
  have o3 := hO.2.1
  have o5 := hO.2.2.2.2.1
  have o6 := hO.2.2.2.2.2
  unfold wp_X5_run
  refine s_gfA (KF S rfl) (RF S rfl) (s_gfA (KF S rfl) (RF S rfl) (s_alI (KF S rfl) (by decide) ⟨by decide, by decide⟩ C.row (s_ckI ⟨by omega, by omega⟩ (s_asI (KF S rfl) (by decide) ⟨by decide, by decide⟩ ?_))))
  have S1 : SOK (sV w 36 1 (s.1 5)) := S
  refine s_gfA (KF S1 rfl) (RF S1 rfl) (s_gfI (KF S1 rfl) ((gV_ne (by omega)).trans h55) (s_ckI ⟨by omega, by omega⟩ (s_asI (KF S1 rfl) (by decide) ⟨by decide, by decide⟩ ?_)))
  have S2 : SOK (sV (sV w 36 1 (s.1 5)) 36 2 dn) := S
  refine s_gfA (KF S2 rfl) (RF S2 rfl) (s_gfI (KF S2 rfl) ((gV_ne (by omega)).trans ((gV_ne (by omega)).trans h56)) (s_ckI ⟨by omega, by omega⟩ (s_asI (KF S2 rfl) (by decide) ⟨by decide, by decide⟩ ?_)))
  have S3 : SOK (sV (sV (sV w 36 1 (s.1 5)) 36 2 dn) 36 3 la) := S
  have C3 : TC w0 (sV (sV (sV w 36 1 (s.1 5)) 36 2 dn) 36 3 la) s.1 := C.fr S3 (fun k j hk => (gV_ne (by omega)).trans ((gV_ne (by omega)).trans (gV_ne (by omega))))
  refine s_gfA (KF S3 rfl) (RF S3 rfl) (s_cO (KF S3 rfl) (y5_couples C3 (s_ckI ⟨by omega, by omega⟩ (s_asI (KF S3 rfl) (by decide) ⟨by decide, by decide⟩ ?_))))
  have S4 : SOK (sV (sV (sV (sV w 36 1 (s.1 5)) 36 2 dn) 36 3 la) 36 4 (cou s.1)) := S
  refine s_pfZ (KF S4 rfl) (Or.inl rfl) ?_
  have S5 : SOK (sV (sV (sV (sV (sV w 36 1 (s.1 5)) 36 2 dn) 36 3 la) 36 4 (cou s.1)) 0 58 0) := S
  have f5 : FTO w (sV (sV (sV (sV (sV w 36 1 (s.1 5)) 36 2 dn) 36 3 la) 36 4 (cou s.1)) 0 58 0) := ((((FTO.rf.sV (by unfold Fo; omega)).sV (by unfold Fo; omega)).sV (by unfold Fo; omega)).sV (by unfold Fo; omega)).sV (by unfold Fo; omega)
  have v5 : ∀ k j, k ≠ 36 → ¬ (k = 0 ∧ j = 58) → gV (sV (sV (sV (sV (sV w 36 1 (s.1 5)) 36 2 dn) 36 3 la) 36 4 (cou s.1)) 0 58 0) k j = gV w k j := fun k j a b => (gV_ne b).trans ((gV_ne (by omega)).trans ((gV_ne (by omega)).trans ((gV_ne (by omega)).trans (gV_ne (by omega)))))
  have e36 : ∀ v, 0 ≤ v → v < 4 → gV (sV (sV (sV (sV (sV w 36 1 (s.1 5)) 36 2 dn) 36 3 la) 36 4 (cou s.1)) 0 58 0) 36 (v + 1) = orE s.1 dn la v := by
    intro v v0 v4
    rcases (by omega : v = 0 ∨ v = 1 ∨ v = 2 ∨ v = 3) with z | z | z | z <;> subst z
    · exact (gV_ne (by omega)).trans ((gV_ne (by omega)).trans ((gV_ne (by omega)).trans ((gV_ne (by omega)).trans gV_at)))
    · exact (gV_ne (by omega)).trans ((gV_ne (by omega)).trans ((gV_ne (by omega)).trans gV_at))
    · exact (gV_ne (by omega)).trans ((gV_ne (by omega)).trans gV_at)
    · exact (gV_ne (by omega)).trans gV_at
  have z58 : gV (sV (sV (sV (sV (sV w 36 1 (s.1 5)) 36 2 dn) 36 3 la) 36 4 (cou s.1)) 0 58 0) 0 58 = 0 := gV_at
  generalize sV (sV (sV (sV (sV w 36 1 (s.1 5)) 36 2 dn) 36 3 la) 36 4 (cou s.1)) 0 58 0 = w5 at *
  have T5 : TU w0 w5 s := T.fr S5 (fun k j hk => v5 k j (by omega) (by omega))
  have R5 : RDY w0 w5 s.1 op ar (orE s.1 dn la) L := ⟨T5.1, e36, fun b b0 b6 => by
    rw [orE_a ⟨b0, b6⟩, orE_b ⟨b0, b6⟩]
    by_cases z : b < s.1 0
    · rw [if_pos z, if_pos z, if_pos (by omega), if_pos (by omega)]; exact ⟨rfl, rfl⟩
    · rw [if_neg z, if_neg z, if_neg (by omega), if_neg (by omega)]; exact ⟨rfl, rfl⟩, orE_inT C hd hl, hL, fun j a b => ⟨(v5 24 j (by decide) (by omega)).trans (hcd j a b).1, (v5 25 j (by decide) (by omega)).trans (hcd j a b).2⟩⟩
  have row5 : ∀ o, 0 ≤ o → o < 10 → gV w5 54 (b + o) = f o := fun o h0 h1 => (v5 54 _ (by decide) (by omega)).trans (hrow o h0 h1)
  have go : ∀ w6, FSO w5 w6 → RDY w0 w6 s.1 op ar (orE s.1 dn la) L → gV w6 0 58 = 0 → nowV w0 (orE s.1 dn la) k ≠ 0 → wp_X5_run_94 Q 0 b w6 := by
    intro w6 f6 R6 z6 hn
    refine y5_run94 (dn := dn) (la := la) R6 (T5.fso f6 R6.1.2.2.2.1) U hO hb (fun o h0 h1 => (f6.2 54 _ (by omega)).trans (row5 o h0 h1)) z6 ((f6.2 0 55 (by omega)).trans ((v5 0 55 (by decide) (by omega)).trans h55)) ((f6.2 0 56 (by omega)).trans ((v5 0 56 (by decide) (by omega)).trans h56)) (fun w' hr ff TT e55 e56 => ?_) (fun w' s2 hr ff TT => ?_)
    · have e : ordF w0 k (s, dn, la) = some ((runF w0 k (orE s.1 dn la) s).2, dn + 1, if gV w0 k 0 = 2 then (runF w0 k (orE s.1 dn la) s).1 else la) := by
        unfold ordF
        dsimp only
        rw [if_neg hn, if_neg (by omega)]
      refine hQ _ w' e (f5.tr (f6.o.tr ff)) TT e55 ?_
      rw [o3.1]
      exact e56
    · have e : ordF w0 k (s, dn, la) = none := by
        unfold ordF
        dsimp only
        rw [if_neg hn, if_pos hr]
      exact hX w' s2 e (f5.tr (f6.o.tr ff)) TT
  have left : ∀ w6, FSO w5 w6 → RDY w0 w6 s.1 op ar (orE s.1 dn la) L → nowV w0 (orE s.1 dn la) k = 0 → Q 0 w6 := by
    intro w6 f6 R6 hn
    have e : ordF w0 k (s, dn, la) = some (s, dn, la) := by
      unfold ordF
      dsimp only
      rw [if_pos hn]
    exact hQ _ w6 e (f5.tr f6.o) (T5.fso f6 R6.1.2.2.2.1) ((f6.2 0 55 (by omega)).trans ((v5 0 55 (by decide) (by omega)).trans h55)) ((f6.2 0 56 (by omega)).trans ((v5 0 56 (by decide) (by omega)).trans h56))
  have e7 := row5 7 (by decide) (by decide)
  have e8 := row5 8 (by decide) (by decide)
  refine s_gfA (KF S5 rfl) (RF S5 rfl) (s_alI (KF S5 rfl) (by decide) ⟨by omega, by omega⟩ e7 (s_gfA (KF S5 rfl) (RF S5 rfl) (s_alI (KF S5 rfl) (by decide) ⟨by omega, by omega⟩ e8 (s_ckI ⟨by omega, by omega⟩ (s_ckI ⟨by omega, by omega⟩ (s_br (fun z => ?_) (fun z => s_cO (KF S5 rfl) ?_)))))))
  · rw [if_pos (by omega)] at o6
    refine go w5 FSO.rf R5 z58 ?_
    unfold nowV
    rw [o6]
    show (1 : Int) ≠ 0
    decide
  · rw [if_neg (by omega)] at o6
    obtain ⟨t, g1, g2⟩ := o6
    have eN : nowV w0 (orE s.1 dn la) k = match evT w0 (orE s.1 dn la) 40 t with
      | none => 0
      | some v => v := by
      unfold nowV
      rw [g1]
      rfl
    refine y5_sumT (E := orE s.1 dn la) R5 z58 ⟨by omega, by omega⟩ e7 (by rw [Int.add_assoc]; exact e8) ⟨o5.1, by omega, o5.2.2⟩ g2 (fun v w6 ev iv f6 R6 z6 => ?_) (fun v w6 ev f6 R6 z6 => ?_)
    · rw [ev] at eN
      have eN : nowV w0 (orE s.1 dn la) k = v := eN
      have S6 := R6.1.1
      refine s_gfI (KF S6 rfl) z6 (s_ckI ⟨by decide, by decide⟩ (s_br (fun y => absurd rfl y) (fun _ => s_ckI iv (s_br (fun y => go w6 f6 R6 z6 (by rw [eN]; exact y)) (fun y => left w6 f6 R6 (eN.trans (Decidable.not_not.mp y)))))))
    · rw [ev] at eN
      have S6 := R6.1.1
      exact s_gfI (KF S6 rfl) z6 (s_ckI ⟨by decide, by decide⟩ (s_br (fun _ => left w6 f6 R6 eN) (fun y => absurd (by decide) y)))
/-- the orders' rows, their code, in the twin -/
def ROT (w : Wd) (m L : Int) (op ar : Int → Int) (fO : Int → Int → Int) : Prop := gV w 0 21 = m ∧ (0 ≤ m ∧ m ≤ 12) ∧ (∀ i, 0 ≤ i → i < m → ∀ o, 0 ≤ o → o < 10 → gV w 54 (10 * i + o) = fO i o) ∧ (0 ≤ L ∧ L ≤ 400) ∧ ∀ j, 0 ≤ j → j < L → gV w 24 j = op j ∧ gV w 25 j = ar j
theorem ROT.fto {m : Int} (h : ROT w m L op ar fO) (g : FTO w w') : ROT w' m L op ar fO := ⟨(g.2 0 21 (by unfold Fo Ft Ev; omega)).trans h.1, h.2.1, fun i a b o c d => (g.2 54 _ (by unfold Fo Ft Ev; omega)).trans (h.2.2.1 i a b o c d), h.2.2.2.1, fun j a b => ⟨(g.2 24 j (by unfold Fo Ft Ev; omega)).trans (h.2.2.2.2 j a b).1, (g.2 25 j (by unfold Fo Ft Ev; omega)).trans (h.2.2.2.2 j a b).2⟩⟩
/-- when it can't be -/
def TFL (Q : Int → Wd → Prop) (x1 x2 : Int) (w : Wd) : Prop := cO w 0 0 <| wp_X5_giveBack 0 x1 w fun w9 => pfI w9 0 0 57 x2 fun w11 => cO w11 0 0 <| wp_X5_tell 0 (-3) w11 fun r12 w13 => Q r12 w13
theorem y5_150 {K140 : Int → Wd → Prop} {X140 X150 : Wd → Prop} {x1 x2 m : Int} (hO : OrdR w0 op ar L k (fO x2)) (hx2 : 0 ≤ x2 ∧ x2 < m) : ∀ (n fuel : Nat) (x3 B : Int) (st : OS) (w : Wd), x3 + n = fO x2 9 → n < fuel → 0 ≤ x3 → B + n ≤ 1000 → TU w0 w st.1 → OOK st B → ROT w m L op ar fO → gV w 0 55 = st.2.1 → gV w 0 56 = st.2.2 → (∀ st2 w', ordT w0 k n st = some st2 → FTO w w' → TU w0 w' st2.1 → OOK st2 (B + n) → gV w' 0 55 = st2.2.1 → gV w' 0 56 = st2.2.2 → X150 w') → (∀ w' s2, ordT w0 k n st = none → FTO w w' → TU w0 w' s2 → TFL Q x1 x2 w') → wp_X5_orders_150 Q K140 X140 X150 0 x1 x2 fuel x3 w := by
  have o4 := hO.2.2.1
  intro n
  induction n with
  | zero =>
    intro fuel x3 B st w hx hf h0 hB T hs R e55 e56 hq hX
    obtain ⟨g, rfl⟩ : ∃ g, fuel = g + 1 := ⟨fuel - 1, by omega⟩
    have S := T.1.1
    have r9 := R.2.2.1 x2 hx2.1 hx2.2 9 (by decide) (by decide)
    have hm := R.2.1
    rw [wp_X5_orders_150]
    refine s_gfA (KF S rfl) (RF S rfl) (s_alI (KF S rfl) (by decide) ⟨by omega, by omega⟩ r9 (s_ckI ⟨by omega, by omega⟩ (s_ckI ⟨by omega, by omega⟩ (s_br (fun _ => ?_) (fun y => absurd (by omega) y)))))
    exact hq st w rfl FTO.rf T ⟨hs.1, ⟨hs.2.1.1, by have := hs.2.1.2; omega⟩, hs.2.2⟩ e55 e56
  | succ n ih =>
    intro fuel x3 B st w hx hf h0 hB T hs R e55 e56 hq hX
    obtain ⟨g, rfl⟩ : ∃ g, fuel = g + 1 := ⟨fuel - 1, by omega⟩
    have S := T.1.1
    have r9 := R.2.2.1 x2 hx2.1 hx2.2 9 (by decide) (by decide)
    have hm := R.2.1
    have e0 : ordT w0 k (n + 1) st = match ordF w0 k st with
      | none => none
      | some st2 => ordT w0 k n st2 := rfl
    rw [wp_X5_orders_150]
    refine s_gfA (KF S rfl) (RF S rfl) (s_alI (KF S rfl) (by decide) ⟨by omega, by omega⟩ r9 (s_ckI ⟨by omega, by omega⟩ (s_ckI ⟨by omega, by omega⟩ (s_br (fun y => absurd y (by omega)) (fun _ => s_cO (KF S rfl) ?_)))))
    refine y5_run (dn := st.2.1) (la := st.2.2) T hs.1 hO ⟨by omega, by omega⟩ (fun o a b => R.2.2.1 x2 hx2.1 hx2.2 o a b) R.2.2.2.1 R.2.2.2.2 e55 e56 ⟨hs.2.1.1, by have := hs.2.1.2; omega⟩ hs.2.2 (fun st2 w2 e f2 T2 g55 g56 => ?_) (fun w2 s2 e f2 T2 => ?_)
    · have e : ordF w0 k st = some st2 := e
      rw [e] at e0
      have e0 : ordT w0 k (n + 1) st = ordT w0 k n st2 := e0
      obtain ⟨q1, q2⟩ := ordF_ok hs e
      refine s_ckI ⟨by decide, by decide⟩ (s_br (fun _ => ih g (x3 + 1) (B + 1) st2 w2 (by omega) (by omega) (by omega) (by omega) T2 q1 (R.fto f2) g55 g56 (fun st3 w3 e3 f3 T3 h3 a3 b3 => hq st3 w3 (e0.trans e3) (f2.tr f3) T3 ?_ a3 b3) (fun w3 s3 e3 f3 T3 => hX w3 s3 (e0.trans e3) (f2.tr f3) T3)) (fun y => absurd (Int.le_refl 0) y))
      have eB : B + ((n + 1 : Nat) : Int) = B + 1 + n := by omega
      rw [eB]
      exact h3
    · have e : ordF w0 k st = none := e
      rw [e] at e0
      exact s_ckI ⟨by decide, by decide⟩ (s_br (fun y => absurd y (by decide)) (fun _ => hX w2 s2 e0 f2 T2))
theorem y5_140 {X140 : Wd → Prop} {x1 : Int} (hO : ∀ i, 0 ≤ i → i < (m9 : Int) → OrdR w0 op ar L (kO i) (fO i)) : ∀ (n fuel : Nat) (x2 B : Int) (st : OS) (w : Wd), x2 + n = m9 → n < fuel → 0 ≤ x2 → B + 20 * n ≤ 1000 → TU w0 w st.1 → OOK st B → ROT w m9 L op ar fO → gV w 0 55 = st.2.1 → gV w 0 56 = st.2.2 → (∀ st2 w', ordL w0 kO n x2 st = .ok st2 → FTO w w' → TU w0 w' st2.1 → OOK st2 1000 → gV w' 0 55 = st2.2.1 → X140 w') → (∀ w' s2 q, ordL w0 kO n x2 st = .error q → FTO w w' → TU w0 w' s2 → TFL Q x1 q w') → wp_X5_orders_140 Q X140 0 x1 fuel x2 w := by
  intro n
  induction n with
  | zero =>
    intro fuel x2 B st w hx hf h0 hB T hs R e55 e56 hq hX
    obtain ⟨g, rfl⟩ : ∃ g, fuel = g + 1 := ⟨fuel - 1, by omega⟩
    have S := T.1.1
    have hm := R.2.1
    have d2 := hs.2.1.2
    rw [wp_X5_orders_140]
    refine s_gfI (KF S rfl) R.1 (s_ckI ⟨by omega, by omega⟩ (s_ckI ⟨by omega, by omega⟩ (s_br (fun _ => ?_) (fun y => absurd (by omega) y))))
    exact hq st w rfl FTO.rf T ⟨hs.1, ⟨hs.2.1.1, by omega⟩, hs.2.2⟩ e55
  | succ n ih =>
    intro fuel x2 B st w hx hf h0 hB T hs R e55 e56 hq hX
    obtain ⟨g, rfl⟩ : ∃ g, fuel = g + 1 := ⟨fuel - 1, by omega⟩
    have S := T.1.1
    have hm := R.2.1
    have h2 := hO x2 h0 (by omega)
    have t9 := h2.2.2.1
    have e0 : ordL w0 kO (n + 1) x2 st = match ordT w0 (kO x2) (gV w0 (kO x2) 4).toNat st with
      | none => .error x2
      | some st2 => ordL w0 kO n (x2 + 1) st2 := rfl
    rw [t9.1] at e0
    rw [wp_X5_orders_140]
    refine s_gfI (KF S rfl) R.1 (s_ckI ⟨by omega, by omega⟩ (s_ckI ⟨by omega, by omega⟩ (s_br (fun y => absurd y (by omega)) (fun _ => ?_))))
    refine y5_150 h2 (m := m9) ⟨h0, by omega⟩ (fO x2 9).toNat FU 0 B st w (by omega) (by unfold FU; omega) (by decide) (by omega) T hs R e55 e56 (fun st2 w2 e f2 T2 g2 g55 g56 => ?_) (fun w2 s2 e f2 T2 => ?_)
    · rw [e] at e0
      have e0 : ordL w0 kO (n + 1) x2 st = ordL w0 kO n (x2 + 1) st2 := e0
      have g2' : OOK st2 (B + 20) := ⟨g2.1, ⟨g2.2.1.1, by have := g2.2.1.2; omega⟩, g2.2.2⟩
      exact ih g (x2 + 1) (B + 20) st2 w2 (by omega) (by omega) (by omega) (by omega) T2 g2' (R.fto f2) g55 g56 (fun st3 w3 e3 f3 T3 h3 a3 => hq st3 w3 (e0.trans e3) (f2.tr f3) T3 h3 a3) (fun w3 s3 q e3 f3 T3 => hX w3 s3 q (e0.trans e3) (f2.tr f3) T3)
    · rw [e] at e0
      exact hX w2 s2 x2 e0 f2 T2
/-- copies -/
theorem y5_orders_77 {x1 : Int} {g9 : Int → Int} : ∀ (m fuel : Nat) (x : Int) (w : Wd), x + m = 1200 → 0 ≤ x → m < fuel → SOK w → (∀ j, x ≤ j → j < 1200 → gV w 6 j = g9 j) → (∀ w', FL w w' 9 x 1200 g9 → X w') → wp_X5_orders_77 Q X 0 x1 fuel x w := by
  intro m
  induction m with
  | zero =>
    intro fuel x w hx h0 hf S h6 hq
    obtain ⟨g, rfl⟩ : ∃ g, fuel = g + 1 := ⟨fuel - 1, by omega⟩
    rw [wp_X5_orders_77]
    exact s_ckI ⟨by omega, by omega⟩ (s_br (fun _ => hq w (FL.nil (by omega))) (fun y => absurd (by omega) y))
  | succ m ih =>
    intro fuel x w hx h0 hf S h6 hq
    obtain ⟨g, rfl⟩ : ∃ g, fuel = g + 1 := ⟨fuel - 1, by omega⟩
    rw [wp_X5_orders_77]
    refine s_ckI ⟨by omega, by omega⟩ (s_br (fun y => absurd y (by omega)) (fun _ => s_gfA (KF S rfl) (RF S rfl) (s_gfA (KF S rfl) (RF S rfl) (s_alI (KF S rfl) (by decide) ⟨by omega, by omega⟩ (h6 x (by omega) (by omega)) (s_asI (KF S rfl) (by decide) ⟨by omega, by omega⟩ ?_)))))
    have S1 : SOK (sV w 9 x (g9 x)) := S
    exact ih g (x + 1) _ (by omega) (by omega) (by omega) S1 (fun j a b => (gV_ne (by omega)).trans (h6 j (by omega) b)) (fun w' fl => hq w' (fl.cons (by omega) rfl))
theorem y5_orders_104 {x1 : Int} {g9 : Int → Int} : ∀ (m fuel : Nat) (x : Int) (w : Wd), x + m = 16 → 0 ≤ x → m < fuel → SOK w → (∀ j, x ≤ j → j < 16 → gV w 7 j = g9 j) → (∀ w', FL w w' 10 x 16 g9 → X w') → wp_X5_orders_104 Q X 0 x1 fuel x w := by
  intro m
  induction m with
  | zero =>
    intro fuel x w hx h0 hf S h6 hq
    obtain ⟨g, rfl⟩ : ∃ g, fuel = g + 1 := ⟨fuel - 1, by omega⟩
    rw [wp_X5_orders_104]
    exact s_ckI ⟨by omega, by omega⟩ (s_br (fun _ => hq w (FL.nil (by omega))) (fun y => absurd (by omega) y))
  | succ m ih =>
    intro fuel x w hx h0 hf S h6 hq
    obtain ⟨g, rfl⟩ : ∃ g, fuel = g + 1 := ⟨fuel - 1, by omega⟩
    rw [wp_X5_orders_104]
    refine s_ckI ⟨by omega, by omega⟩ (s_br (fun y => absurd y (by omega)) (fun _ => s_gfA (KF S rfl) (RF S rfl) (s_gfA (KF S rfl) (RF S rfl) (s_alI (KF S rfl) (by decide) ⟨by omega, by omega⟩ (h6 x (by omega) (by omega)) (s_asI (KF S rfl) (by decide) ⟨by omega, by omega⟩ ?_)))))
    have S1 : SOK (sV w 10 x (g9 x)) := S
    exact ih g (x + 1) _ (by omega) (by omega) (by omega) S1 (fun j a b => (gV_ne (by omega)).trans (h6 j (by omega) b)) (fun w' fl => hq w' (fl.cons (by omega) rfl))
theorem y5_giveBack_8 {x1 : Int} {g9 : Int → Int} : ∀ (m fuel : Nat) (x : Int) (w : Wd), x + m = 1200 → 0 ≤ x → m < fuel → SOK w → (∀ j, x ≤ j → j < 1200 → gV w 9 j = g9 j) → (∀ w', FL w w' 6 x 1200 g9 → X w') → wp_X5_giveBack_8 QW X 0 x1 fuel x w := by
  intro m
  induction m with
  | zero =>
    intro fuel x w hx h0 hf S h6 hq
    obtain ⟨g, rfl⟩ : ∃ g, fuel = g + 1 := ⟨fuel - 1, by omega⟩
    rw [wp_X5_giveBack_8]
    exact s_ckI ⟨by omega, by omega⟩ (s_br (fun _ => hq w (FL.nil (by omega))) (fun y => absurd (by omega) y))
  | succ m ih =>
    intro fuel x w hx h0 hf S h6 hq
    obtain ⟨g, rfl⟩ : ∃ g, fuel = g + 1 := ⟨fuel - 1, by omega⟩
    rw [wp_X5_giveBack_8]
    refine s_ckI ⟨by omega, by omega⟩ (s_br (fun y => absurd y (by omega)) (fun _ => s_gfA (KF S rfl) (RF S rfl) (s_gfA (KF S rfl) (RF S rfl) (s_alI (KF S rfl) (by decide) ⟨by omega, by omega⟩ (h6 x (by omega) (by omega)) (s_asI (KF S rfl) (by decide) ⟨by omega, by omega⟩ ?_)))))
    have S1 : SOK (sV w 6 x (g9 x)) := S
    exact ih g (x + 1) _ (by omega) (by omega) (by omega) S1 (fun j a b => (gV_ne (by omega)).trans (h6 j (by omega) b)) (fun w' fl => hq w' (fl.cons (by omega) rfl))
theorem y5_giveBack_35 {x1 : Int} {g9 : Int → Int} : ∀ (m fuel : Nat) (x : Int) (w : Wd), x + m = 16 → 0 ≤ x → m < fuel → SOK w → (∀ j, x ≤ j → j < 16 → gV w 10 j = g9 j) → (∀ w', FL w w' 7 x 16 g9 → X w') → wp_X5_giveBack_35 QW X 0 x1 fuel x w := by
  intro m
  induction m with
  | zero =>
    intro fuel x w hx h0 hf S h6 hq
    obtain ⟨g, rfl⟩ : ∃ g, fuel = g + 1 := ⟨fuel - 1, by omega⟩
    rw [wp_X5_giveBack_35]
    exact s_ckI ⟨by omega, by omega⟩ (s_br (fun _ => hq w (FL.nil (by omega))) (fun y => absurd (by omega) y))
  | succ m ih =>
    intro fuel x w hx h0 hf S h6 hq
    obtain ⟨g, rfl⟩ : ∃ g, fuel = g + 1 := ⟨fuel - 1, by omega⟩
    rw [wp_X5_giveBack_35]
    refine s_ckI ⟨by omega, by omega⟩ (s_br (fun y => absurd y (by omega)) (fun _ => s_gfA (KF S rfl) (RF S rfl) (s_gfA (KF S rfl) (RF S rfl) (s_alI (KF S rfl) (by decide) ⟨by omega, by omega⟩ (h6 x (by omega) (by omega)) (s_asI (KF S rfl) (by decide) ⟨by omega, by omega⟩ ?_)))))
    have S1 : SOK (sV w 7 x (g9 x)) := S
    exact ih g (x + 1) _ (by omega) (by omega) (by omega) S1 (fun j a b => (gV_ne (by omega)).trans (h6 j (by omega) b)) (fun w' fl => hq w' (fl.cons (by omega) rfl))
/-- all is given back -/
theorem y5_giveBack {n9 : Int} (S : SOK w) (h17 : ∀ j, 0 ≤ j → j < 75 → gV w 6 (1275 + j) = gV w0 3 (5 + j)) (h9 : ∀ j, 0 ≤ j → j < 1200 → gV w 9 j = gV w0 6 j) (h10 : ∀ j, 0 ≤ j → j < 16 → gV w 10 j = gV w0 7 j) (hq : ∀ w', Sm w w' → (∀ k j, ¬ (k = 3 ∧ 5 ≤ j ∧ j < 80) → ¬ (k = 6 ∧ 0 ≤ j ∧ j < 1200) → ¬ (k = 7 ∧ 0 ≤ j ∧ j < 16) → ¬ (k = 0 ∧ j = 8) → gV w' k j = gV w k j) → (∀ j, 5 ≤ j → j < 80 → gV w' 3 j = gV w0 3 j) → (∀ j, 0 ≤ j → j < 1200 → gV w' 6 j = gV w0 6 j) → (∀ j, 0 ≤ j → j < 16 → gV w' 7 j = gV w0 7 j) → gV w' 0 8 = n9 → QW w') : wp_X5_giveBack 0 n9 w QW := by
  unfold wp_X5_giveBack
  refine s_cO (KF S rfl) (x5_putBack (s := 17) (o := fun j => gV w0 3 (5 + j)) ⟨by decide, by decide⟩ S (fun j a b => h17 j a b) (fun w1 S1 f1 => ?_))
  refine y5_giveBack_8 (g9 := gV w0 6) 1200 FU 0 w1 (by decide) (by decide) (by decide) S1 (fun j a b => (f1.2.1 9 j (by omega)).trans (h9 j a b)) (fun w2 f2 => ?_)
  have S2 := S1.sm f2.1
  refine y5_giveBack_35 (g9 := gV w0 7) 16 FU 0 w2 (by decide) (by decide) (by decide) S2 (fun j a b => (f2.2.1 10 j (by omega)).trans ((f1.2.1 10 j (by omega)).trans (h10 j a b))) (fun w3 f3 => ?_)
  have S3 := S2.sm f3.1
  refine s_pfI (KF S3 rfl) (hq _ ((f1.1.tr f2.1).tr f3.1).sV (fun k j a b c d => ?_) (fun j a b => ?_) (fun j a b => ?_) (fun j a b => ?_) gV_at)
  · exact (gV_ne d).trans ((f3.2.1 k j (by omega)).trans ((f2.2.1 k j (by omega)).trans (f1.2.1 k j (by omega))))
  · rw [gV_ne (by omega), f3.2.1 3 j (by omega), f2.2.1 3 j (by omega), f1.2.2 j a b]
    dsimp only
    rw [(by omega : (5 : Int) + (j - 5) = j)]
  · rw [gV_ne (by omega), f3.2.1 6 j (by omega)]
    exact f2.2.2 j a b
  · rw [gV_ne (by omega)]
    exact f3.2.2 j a b
end TORDERS
