/-! THE PLAIN LAW: orders -/
set_option maxRecDepth 100000
/-- what the component changes over orders -/
def CHC (k : Nat) (j : Int) : Prop := (k = 100 ∧ (j = 0 ∨ j = 11 ∨ j = 12 ∨ j = 14 ∨ j = 15)) ∨ Fc k j ∨ (306 ≤ k ∧ k ≤ 311) ∨ (432 ≤ k ∧ k < 528) ∨ k = 107 ∨ k = 101
section OPORD
variable {w w' wB w4 w0 w1 w2 w3 : Wd} {i : Int} {bc bs : Nat} {K : Int → Int → Wd → Prop} {t : LX} {l : List Cl} {op ar : Int → Int} {L : Int} {kO : Int → Nat} {fO : Int → Int → Int} {r : Nat}
theorem ScaR.tx2 (h : ScaR w i) (h0 : gV w' 100 0 = 0) (h1 : gV w' 0 1 = 0) (h6 : gV w' 100 11 = gV w' 0 13 ∧ 0 ≤ gV w' 0 13 ∧ gV w' 0 13 ≤ 400) (h7 : gV w' 100 12 = gV w' 0 18 ∧ -1 ≤ gV w' 0 18 ∧ gV w' 0 18 ≤ 400) (h8 : gV w' 100 14 = gV w' 0 57 ∧ -1 ≤ gV w' 0 57 ∧ gV w' 0 57 ≤ 12) (h9 : gV w' 0 20 = 0) (hV : ∀ k j, (k = 0 ∧ j = 11) ∨ (k = 100 ∧ j = 13) ∨ k = 101 ∨ k = 2 ∨ k = 12 ∨ k = 110 ∨ k = 125 → gV w' k j = gV w k j) : ScaR w' (i + 6) := by
  obtain ⟨a1, a2, a3, a4, a5, a6, a7, a8, a9⟩ := h
  refine ⟨⟨h0.trans h1.symm, by rw [h1]; decide, by rw [h1]; decide⟩, fun q u v => ?_, h6, fun q u v => by rw [hV 12 _ (by omega), hV 110 _ (by omega)]; exact a4 q u v, h7, by rw [hV 100 13 (by omega), hV 0 11 (by omega)]; exact a6, h8, h9, fun q u v => by rw [hV 125 _ (by omega)]; exact a9 q u v⟩
  have := a2 q u v
  rw [hV 101 _ (by omega), hV 2 _ (by omega)]
  omega
/-- what the twin's orders come to -/
def TWO (wB w : Wd) (K2 : Int → Wd → Prop) (rr : Except Int OS) : Prop := (∀ st2 w', rr = .ok st2 → OOK st2 1000 → TU wB w' st2.1 → Sm w w' → (∀ k j, ¬ ((k = 0 ∧ j ≠ 11 ∧ j ≠ 61) ∨ (22 ≤ k ∧ k ≤ 28) ∨ k = 54 ∨ Fo k j ∨ k = 6 ∨ k = 9 ∨ k = 10) → gV w' k j = gV w k j) → gV w' 0 1 = 0 → gV w' 0 13 = 0 → gV w' 0 18 = -1 → gV w' 0 57 = -1 → gV w' 0 20 = 0 → K2 st2.2.1 w') ∧ ∀ q w', rr = .error q → TU wB w' (US0 wB) → Sm w w' → (∀ k j, ¬ ((k = 0 ∧ j ≠ 11 ∧ j ≠ 61) ∨ (22 ≤ k ∧ k ≤ 28) ∨ k = 54 ∨ Fo k j ∨ k = 6 ∨ k = 9 ∨ k = 10 ∨ (k = 2 ∧ j = 3)) → gV w' k j = gV w k j) → gV w' 0 1 = -3 → gV w' 2 3 = gV w 2 3 + 1 → gV w' 0 13 = 0 → gV w' 0 18 = -1 → gV w' 0 57 = q → gV w' 0 20 = 0 → K2 (-3) w'
theorem US0_soks (R : REL wB i) : OOK (US0 wB, 0, -1) 0 := ⟨R.soks, ⟨Int.le_refl _, Int.le_refl _⟩, Int.le_refl _, by show (-1 : Int) ≤ 1000; decide⟩
theorem FTO.fz (h : FTO w w') : ∀ k j, ¬ ((k = 0 ∧ j ≠ 11 ∧ j ≠ 61) ∨ Fo k j) → gV w' k j = gV w k j := fun k j n => h.2 k j (fun y => n (Or.inr y))
/-- the twin's orders, the text well read -/
theorem y5_orders (R : REL wB i) (S : SOK w) (hv : ∀ k j, ¬ CHC k j → gV w k j = gV wB k j) (hr : rdS (gV wB 12) (gV wB 0 13) true = .ok (l, t)) (hO : ∀ i, 0 ≤ i → i < (l.length : Int) → OrdR wB op ar L (kO i) (fO i)) (hL : L = (cdL true l).length) (hop : ∀ (i : Nat) (p : Int × Int), (cdL true l)[i]? = some p → op i = p.1 ∧ ar i = p.2) (hf : ∀ (i : Nat) (c : Cl), l[i]? = some c → ∀ o, 0 ≤ o → o < 10 → fO i o = rwO c (cdL true (l.take i)) o) {K2 : Int → Wd → Prop} (hK : TWO wB w K2 (ordL wB kO l.length 0 (US0 wB, 0, -1))) : wp_X5_orders 0 w K2 := by
  have sc := R.2.2.2.2.2.2.1
  have N400 := sc.2.2.1
  have hv0 : ∀ j, ¬ (j = 34 ∨ j = 38 ∨ j = 39 ∨ j = 40) → gV w 0 j = gV wB 0 j := fun j y => hv 0 j (by unfold CHC Fc Ev; omega)
  unfold wp_X5_orders
  refine s_pfI (KF S rfl) ?_
  have S1 : SOK (sV w 0 0 0) := S
  refine s_pfI (KF S1 rfl) ?_
  have S2 : SOK (sV (sV w 0 0 0) 0 57 (-1)) := S
  have v2 : ∀ k j, ¬ (k = 0 ∧ (j = 0 ∨ j = 57)) → gV (sV (sV w 0 0 0) 0 57 (-1)) k j = gV w k j := fun k j y => (gV_ne (by omega)).trans (gV_ne (by omega))
  have z57 : gV (sV (sV w 0 0 0) 0 57 (-1)) 0 57 = -1 := gV_at
  have m2 : Sm w (sV (sV w 0 0 0) 0 57 (-1)) := Sm.rf.sV.sV
  generalize sV (sV w 0 0 0) 0 57 (-1) = w2 at *
  have hTT : TTX (gV wB 12) (gV wB 0 13) w2 := ⟨S2, ⟨N400.2.1, N400.2.2⟩, (v2 0 13 (by omega)).trans (hv0 13 (by omega)), fun q a b => ⟨(v2 12 q (by omega)).trans (hv 12 q (by unfold CHC Fc Ev; omega)), (sc.2.2.2.1 q a b).1, (sc.2.2.2.1 q a b).2.1⟩⟩
  have hC : ConR w2 := R.2.2.2.2.1.fr (fun k j hk => (v2 k j (by omega)).trans (hv k j (by unfold CHC Fc Ev; omega)))
  refine s_cO (KF S2 rfl) (q5_text_readOrder hTT hC (fun l9 t9 q w3 f3 v19 v18 D => ?_) (fun e2 q w5 f5 v19 v18 v13 => by rw [hr] at q; cases q))
  rw [hr] at q
  injection q with q
  injection q with q1 q2
  subst q1
  have S3 := S2.sm f3.1
  have h3 : ∀ k j, ¬ (k = 0 ∧ ((13 ≤ j ∧ j ≤ 21) ∨ j = 23 ∨ j = 26 ∨ j = 29 ∨ j = 30 ∨ j = 0 ∨ j = 57)) → ¬ (22 ≤ k ∧ k ≤ 28) → k ≠ 54 → gV w3 k j = gV w k j := fun k j a b c => (f3.2 k j (by omega) b c).trans (v2 k j (by omega))
  have row : ∀ k j, ¬ CHC k j → ¬ (k = 0 ∧ ((13 ≤ j ∧ j ≤ 21) ∨ j = 23 ∨ j = 26 ∨ j = 29 ∨ j = 30 ∨ j = 0 ∨ j = 57)) → ¬ (22 ≤ k ∧ k ≤ 28) → k ≠ 54 → gV w3 k j = gV wB k j := fun k j a b c d => (h3 k j b c d).trans (hv k j a)
  refine s_gfI (KF S3 rfl) v19 (s_ckI ⟨by decide, by decide⟩ (s_br (fun _ => s_cO (KF S3 rfl) ?_) (fun y => absurd rfl y)))
  -- what is laid by
  refine x5_keepAll (s := 17) (o := fun j => gV wB 3 (5 + j)) ⟨by decide, by decide⟩ S3 (fun j a b => row 3 _ (by unfold CHC Fc Ev; omega) (by omega) (by omega) (by decide)) (fun w4 S4 f4 => ?_)
  have e8 : gV w4 0 8 = gV wB 0 8 := (f4.2.1 0 8 (by omega)).trans (row 0 8 (by unfold CHC Fc Ev; omega) (by omega) (by omega) (by decide))
  refine s_gfI (KF S4 rfl) e8 (y5_orders_77 (g9 := gV wB 6) 1200 FU 0 w4 (by decide) (by decide) (by decide) S4 (fun j a b => (f4.2.1 6 j (by omega)).trans (row 6 j (by unfold CHC Fc Ev; omega) (by omega) (by omega) (by decide))) (fun w5 f5 => ?_))
  have S5 := S4.sm f5.1
  refine y5_orders_104 (g9 := gV wB 7) 16 FU 0 w5 (by decide) (by decide) (by decide) S5 (fun j a b => (f5.2.1 7 j (by omega)).trans ((f4.2.1 7 j (by omega)).trans (row 7 j (by unfold CHC Fc Ev; omega) (by omega) (by omega) (by decide)))) (fun w6 f6 => ?_)
  have S6 := S5.sm f6.1
  refine s_pfI (KF S6 rfl) ?_
  have S7 : SOK (sV w6 0 55 0) := S6
  refine s_pfI (KF S7 rfl) ?_
  have S8 : SOK (sV (sV w6 0 55 0) 0 56 (-1)) := S6
  have v8 : ∀ k j, ¬ (k = 0 ∧ (j = 55 ∨ j = 56)) → ¬ (k = 6 ∧ 1275 ≤ j ∧ j < 1350) → k ≠ 9 → k ≠ 10 → gV (sV (sV w6 0 55 0) 0 56 (-1)) k j = gV w3 k j := fun k j a b c d => (gV_ne (by omega)).trans ((gV_ne (by omega)).trans ((f6.2.1 k j (by omega)).trans ((f5.2.1 k j (by omega)).trans (f4.2.1 k j (by omega)))))
  have z55 : gV (sV (sV w6 0 55 0) 0 56 (-1)) 0 55 = 0 := (gV_ne (by omega)).trans gV_at
  have z56 : gV (sV (sV w6 0 55 0) 0 56 (-1)) 0 56 = -1 := gV_at
  have k17 : ∀ j, 0 ≤ j → j < 75 → gV (sV (sV w6 0 55 0) 0 56 (-1)) 6 (1275 + j) = gV wB 3 (5 + j) := fun j a b => by
    rw [gV_ne (by omega), gV_ne (by omega), f6.2.1 6 _ (by omega), f5.2.1 6 _ (by omega), f4.2.2 _ (by omega) (by omega)]
    dsimp only
    rw [(by omega : (5 : Int) + (1275 + j - 75 * 17) = 5 + j)]
  have k9 : ∀ j, 0 ≤ j → j < 1200 → gV (sV (sV w6 0 55 0) 0 56 (-1)) 9 j = gV wB 6 j := fun j a b => by
    rw [gV_ne (by omega), gV_ne (by omega), f6.2.1 9 _ (by omega)]
    exact f5.2.2 j a b
  have k10 : ∀ j, 0 ≤ j → j < 16 → gV (sV (sV w6 0 55 0) 0 56 (-1)) 10 j = gV wB 7 j := fun j a b => by
    rw [gV_ne (by omega), gV_ne (by omega)]
    exact f6.2.2 j a b
  have m8 : Sm w (sV (sV w6 0 55 0) 0 56 (-1)) := ((((m2.tr f3.1).tr f4.1).tr f5.1).tr f6.1).sV.sV
  generalize sV (sV w6 0 55 0) 0 56 (-1) = w8 at *
  have T8 : TU wB w8 (US0 wB) := R.tu.fr S8 (fun k j hk => (v8 k j (by omega) (by omega) (by omega) (by omega)).trans (by
    by_cases z : k = 0 ∧ j = 20
    · rw [z.1, z.2, D.1.2]; exact sc.2.2.2.2.2.2.2.1.symm
    · exact row k j (by unfold CHC Fc Ev; omega) (by omega) (by omega) (by omega)))
  have RO : ROT w8 (l.length : Nat) L op ar fO := by
    obtain ⟨d1, d3, d4, d5, d6, d7, d8⟩ := D
    refine ⟨(v8 0 21 (by omega) (by omega) (by decide) (by decide)).trans d3, ⟨by omega, by omega⟩, fun i a b o c d => ?_, ⟨by omega, by omega⟩, fun j a b => ?_⟩
    · obtain ⟨p, rfl⟩ : ∃ p : Nat, i = p := ⟨i.toNat, by omega⟩
      have hc : l[p]? = some l[p] := List.getElem?_eq_getElem (by omega)
      rw [v8 54 _ (by omega) (by omega) (by decide) (by decide), hf p _ hc o c d]
      exact d8 p _ hc o c d
    · obtain ⟨p, rfl⟩ : ∃ p : Nat, j = p := ⟨j.toNat, by omega⟩
      have hc : (cdL true l)[p]? = some (cdL true l)[p] := List.getElem?_eq_getElem (by omega)
      have g := d7 p _ hc
      have g2 := hop p _ hc
      rw [v8 24 _ (by omega) (by omega) (by decide) (by decide), v8 25 _ (by omega) (by omega) (by decide) (by decide), g.1, g.2, g2.1, g2.2]
      exact ⟨rfl, rfl⟩
  have hl12 := D.2.2.1
  have b13 : gV w8 0 13 = 0 := (v8 0 13 (by omega) (by omega) (by decide) (by decide)).trans D.1.1
  have b20 : gV w8 0 20 = 0 := (v8 0 20 (by omega) (by omega) (by decide) (by decide)).trans D.1.2
  have b18 : gV w8 0 18 = -1 := (v8 0 18 (by omega) (by omega) (by decide) (by decide)).trans v18
  have b57 : gV w8 0 57 = -1 := (v8 0 57 (by omega) (by omega) (by decide) (by decide)).trans ((f3.2 0 57 (by omega) (by omega) (by decide)).trans z57)
  have w88 : ∀ k j, ¬ ((k = 0 ∧ j ≠ 11 ∧ j ≠ 61) ∨ (22 ≤ k ∧ k ≤ 28) ∨ k = 54 ∨ k = 6 ∨ k = 9 ∨ k = 10) → gV w8 k j = gV w k j := fun k j n => (v8 k j (by omega) (by omega) (by omega) (by omega)).trans (h3 k j (by omega) (by omega) (by omega))
  refine y5_140 hO l.length FU 0 0 (US0 wB, 0, -1) w8 (by omega) (by unfold FU; omega) (by decide) (by omega) T8 (US0_soks R) RO z55 z56 (fun st2 w9 e f9 T9 h9 e55 => ?_) (fun w9 s2 q e f9 T9 => ?_)
  · have S9 := T9.1.1
    have o9 := h9.2.1
    refine s_gfI (KF S9 rfl) e55 (s_cO (KF S9 rfl) (Eq.mpr (x5_yes S9 ⟨o9.1, by omega⟩) ?_))
    have x9 : ∀ k j, ¬ (k = 0 ∧ j = 1) → gV (sV w9 0 1 0) k j = gV w9 k j := fun k j y => gV_ne y
    have T10 : TU wB (sV w9 0 1 0) st2.1 := T9.fr S9 (fun k j hk => x9 k j (by omega))
    refine hK.1 st2 _ e h9 T10 (m8.tr f9.1).sV (fun k j n => (x9 k j (by omega)).trans ((f9.2 k j (fun y => n (Or.inr (Or.inr (Or.inr (Or.inl y)))))).trans (w88 k j (fun y => n (by omega))))) gV_at ?_ ?_ ?_ T10.1.2.2.2.1
    · exact (x9 0 13 (by omega)).trans ((f9.2 0 13 (by unfold Fo Ft Ev; omega)).trans b13)
    · exact (x9 0 18 (by omega)).trans ((f9.2 0 18 (by unfold Fo Ft Ev; omega)).trans b18)
    · exact (x9 0 57 (by omega)).trans ((f9.2 0 57 (by unfold Fo Ft Ev; omega)).trans b57)
  · have S9 := T9.1.1
    refine s_cO (KF S9 rfl) (y5_giveBack (w0 := wB) S9 (fun j a b => (f9.2 6 _ (by unfold Fo Ft Ev; omega)).trans (k17 j a b)) (fun j a b => (f9.2 9 j (by unfold Fo Ft Ev; omega)).trans (k9 j a b)) (fun j a b => (f9.2 10 j (by unfold Fo Ft Ev; omega)).trans (k10 j a b)) (fun w10 m10 v10 r3 r6 r7 r8 => ?_))
    have S10 := S9.sm m10
    refine s_pfI (KF S10 rfl) ?_
    have S11 : SOK (sV w10 0 57 q) := S10
    refine s_cO (KF S11 rfl) (Eq.mpr (x5_no S11 ⟨by decide, by decide⟩) ?_)
    have y23 : gV (sV w10 0 57 q) 2 (-(-3)) = gV w 2 3 := (gV_ne (by omega)).trans ((v10 2 3 (by omega) (by omega) (by omega) (by omega)).trans ((f9.2 2 3 (by unfold Fo Ft Ev; omega)).trans (w88 2 3 (by omega))))
    rw [y23]
    have xx : ∀ k j, ¬ (k = 0 ∧ (j = 57 ∨ j = 1)) → ¬ (k = 2 ∧ j = 3) → gV (sV (sV (sV w10 0 57 q) 0 1 (-3)) 2 (-(-3)) (gV w 2 3 + 1)) k j = gV w10 k j := fun k j a b => (gV_ne (fun y => b ⟨y.1, y.2⟩)).trans ((gV_ne (by omega)).trans (gV_ne (by omega)))
    have x57 : gV (sV (sV (sV w10 0 57 q) 0 1 (-3)) 2 (-(-3)) (gV w 2 3 + 1)) 0 57 = q := (gV_ne (by omega)).trans ((gV_ne (by omega)).trans gV_at)
    have x01 : gV (sV (sV (sV w10 0 57 q) 0 1 (-3)) 2 (-(-3)) (gV w 2 3 + 1)) 0 1 = -3 := (gV_ne (by omega)).trans gV_at
    have x23 : gV (sV (sV (sV w10 0 57 q) 0 1 (-3)) 2 (-(-3)) (gV w 2 3 + 1)) 2 3 = gV w 2 3 + 1 := gV_at
    have m11 : Sm w10 (sV (sV (sV w10 0 57 q) 0 1 (-3)) 2 (-(-3)) (gV w 2 3 + 1)) := Sm.rf.sV.sV.sV
    generalize sV (sV (sV w10 0 57 q) 0 1 (-3)) 2 (-(-3)) (gV w 2 3 + 1) = w11 at *
    have S12 : SOK w11 := S10.sm m11
    -- the row, what can be undone: as they were
    have r3' : ∀ j, gV w11 3 j = gV wB 3 j := fun j => by
      rw [xx 3 j (by omega) (by omega)]
      by_cases z : 5 ≤ j ∧ j < 80
      · exact r3 j z.1 z.2
      · rw [v10 3 j (by omega) (by omega) (by omega) (by omega), f9.2 3 j (by unfold Fo Ft Ev; omega), w88 3 j (by omega)]
        exact hv 3 j (by unfold CHC Fc Ev; omega)
    have r20 : gV w11 0 20 = 0 := (xx 0 20 (by omega) (by omega)).trans ((v10 0 20 (by omega) (by omega) (by omega) (by omega)).trans T9.1.2.2.2.1)
    have T12 : TU wB w11 (US0 wB) := by
      obtain ⟨C0, O0, u0⟩ := R.tu
      refine ⟨⟨S12, funext r3', C0.2.2.1, r20, C0.2.2.2.2⟩, O0, ⟨(xx 0 8 (by omega) (by omega)).trans r8, u0.1.2⟩, fun q a b => ?_, fun q a j u v => ?_⟩
      · exact (xx 7 q (by omega) (by omega)).trans (r7 q a b)
      · have q16 : (q : Int) < 16 := by
          have := u0.1.2.2
          omega
        exact (xx 6 _ (by omega) (by omega)).trans (r6 _ (by omega) (by omega))
    refine hK.2 q w11 e T12 (((m8.tr f9.1).tr m10).tr m11) (fun k j n => ?_) x01 x23 ?_ ?_ x57 r20
    · by_cases z3 : k = 3
      · subst z3
        exact (r3' j).trans (hv 3 j (by unfold CHC Fc Ev; omega)).symm
      · rw [xx k j (by omega) (by omega), v10 k j (by omega) (by omega) (fun y => n (Or.inr (Or.inr (Or.inr (Or.inl (by unfold Fo Ft; omega)))))) (by omega), f9.2 k j (fun y => n (Or.inr (Or.inr (Or.inr (Or.inl y)))))]
        exact w88 k j (fun y => n (by omega))
    · exact (xx 0 13 (by omega) (by omega)).trans ((v10 0 13 (by omega) (by omega) (by omega) (by omega)).trans ((f9.2 0 13 (by unfold Fo Ft Ev; omega)).trans b13))
    · exact (xx 0 18 (by omega) (by omega)).trans ((v10 0 18 (by omega) (by omega) (by omega) (by omega)).trans ((f9.2 0 18 (by unfold Fo Ft Ev; omega)).trans b18))
theorem ordL_err {w : Wd} {kO : Int → Nat} : ∀ {n : Nat} {x : Int} {st : OS} {p : Int}, ordL w kO n x st = .error p → x ≤ p ∧ p < x + n := by
  intro n
  induction n with
  | zero => intro x st p h; cases h
  | succ n ih =>
    intro x st p h
    have h : (match ordT w (kO x) (gV w (kO x) 4).toNat st with
      | none => .error x
      | some st2 => ordL w kO n (x + 1) st2) = Except.error p := h
    cases e : ordT w (kO x) (gV w (kO x) 4).toNat st with
    | none =>
      rw [e] at h
      injection h with h
      omega
    | some st2 =>
      rw [e] at h
      have := ih h
      omega
theorem ofr_a {k : Nat} {j : Int} (n1 : ¬ Scr k j) (n2 : ¬ Sca k j) (n3 : ¬ (k = 3 ∧ 5 ≤ j ∧ j < 80)) (n5 : ¬ (k = 0 ∧ j = 8)) (n7 : ¬ (k = 106 ∨ k = 6 ∨ k = 7)) : ¬ ((k = 0 ∧ j ≠ 11 ∧ j ≠ 61) ∨ (22 ≤ k ∧ k ≤ 28) ∨ k = 54 ∨ Fo k j ∨ k = 6 ∨ k = 9 ∨ k = 10 ∨ (k = 2 ∧ j = 3)) := by
  unfold Scr at n1
  unfold Sca at n2
  unfold Fo Ft Ev
  omega
theorem ofr_b {k : Nat} {j : Int} (n1 : ¬ Scr k j) (n2 : ¬ Sca k j) (n4 : ¬ (300 ≤ k ∧ k ≤ 305)) (n6 : ¬ (k = 100 ∧ j = 15)) (n7 : ¬ (k = 106 ∨ k = 6 ∨ k = 7)) (n8 : ¬ (336 ≤ k ∧ k < 432)) : ¬ CHC k j := by
  unfold Scr at n1
  unfold Sca at n2
  unfold CHC Fc Ev
  omega
set_option maxHeartbeats 16000000 in
/-- orders, well read, in both -/
theorem ord_run (R : REL wB i) (hi : 0 ≤ i) (m4 : Sm wB w4) (v4 : ∀ k j, ¬ (k = 100 ∧ (j = 11 ∨ j = 12 ∨ j = 14)) → gV w4 k j = gV wB k j) (z11 : gV w4 100 11 = 0) (z12 : gV w4 100 12 = -1) (z14 : gV w4 100 14 = -1) (hr : rdS (gV wB 12) (gV wB 0 13) true = .ok (l, t)) (hO : ORDS wB r l.length kO op ar L fO) (hL : L = (cdL true l).length) (hop : ∀ (i : Nat) (p : Int × Int), (cdL true l)[i]? = some p → op i = p.1 ∧ ar i = p.2) (hf : ∀ (i : Nat) (c : Cl), l[i]? = some c → ∀ o, 0 ≤ o → o < 10 → fO i o = rwO c (cdL true (l.take i)) o) (hK : ∀ r r2 w', r = r2 → inI r → RKR w' (i + 6) → K r r2 w') : gfR w4 100 1 8 fun o18 => cO w4 100 1 <| wp_X0_table 100 w4 fun o19 w20 => dO o18 fun k22 => cO w20 k22 3 <| wp_X2_takes k22 o19 w20 fun w23 => wp_X0_orders_56 (fun r w1 => wp_X5_orders 0 w1 fun r2 w2 => K r r2 w2) (fun bc26 bs27 w25 => gfA w25 100 1 6 fun k28 => gfA w25 100 1 7 fun k29 => cpI w25 k28 0 k29 0 16 fun w30 => gfI w30 100 1 15 fun v31 => wp_X0_orders_114 (fun r w1 => wp_X5_orders 0 w1 fun r2 w2 => K r r2 w2) (fun z32 bc34 bs35 w33 => cO w33 100 1 <| wp_X0_done 100 z32 w33 fun r36 w37 => wp_X5_orders 0 w37 fun r2 w2 => K r36 r2 w2) 100 r v31 FU 0 ((-1)) 0 bc26 bs27 w30) 100 r FU 0 bc bs w23 := by
  have S := R.1
  have sc := R.2.2.2.2.2.2.1
  have C0 := R.cu
  obtain ⟨C1, ⟨u1, u2, π, u3, u4, u5⟩⟩ := id C0
  have h105 := R.2.2.2.2.2.1.2.2.1
  have S4 : SOK w4 := S.sm m4
  have hm12 : l.length ≤ 12 := by
    obtain ⟨_, _, _, _, _, h5, _⟩ := hO
    exact h5.2.2.2.2
  have hOr : ∀ i, 0 ≤ i → i < (l.length : Int) → OrdR wB op ar L (kO i) (fO i) := by
    obtain ⟨_, _, _, _, _, _, h9⟩ := hO
    exact fun i a b => (h9 i a b).2
  refine s_gfR (KF S4 rfl) (RF S4 rfl) (s_cO (KF S4 rfl) (Eq.mpr (x0_table S4) (s_dO (s_cO (KF S4 rfl) (x2_takes (tk_of S4 tk306) (tk_of S4 tk300) (by decide) (fun w5 m5 v5 t5 => ?_))))))
  have S5 := S4.sm m5
  have m05 := m4.tr m5
  have h300 : TabEq w4 300 (fun j => gV wB 3 (5 + j)) := R.2.1.1.fr (fun k j a b => v4 k j (by omega)) (fun _ _ _ => rfl)
  have T306 := t5 _ h300
  have e15 : gV w5 100 15 = gV wB 0 8 := (v5 100 15 (by omega)).trans ((v4 100 15 (by omega)).trans u1.1)
  have w5B : ∀ k j, ¬ (306 ≤ k ∧ k ≤ 311) → ¬ (k = 100 ∧ (j = 11 ∨ j = 12 ∨ j = 14)) → gV w5 k j = gV wB k j := fun k j a b => (v5 k j a).trans (v4 k j b)
  have u12 : 0 ≤ gV wB 0 8 ∧ gV wB 0 8 ≤ 16 := u1.2
  refine z0_orders_56 (U := (US0 wB).2.2.1) (π := π) (n := gV wB 0 8) u12 (gV wB 0 8).toNat FU 0 w5 (by omega) (by unfold FU; omega) (by decide) S5 e15 (fun q a => (m05.2 _ _).trans (h105 q a)) ⟨fun q a => ⟨(u3 q a).1, (m05.2 _ _).trans (u3 q a).2⟩, u4⟩ (fun q a => (u5 q a).fr (fun k j b c => w5B k j (by have := (u3 q (by omega)).1; omega) (by have := (u3 q (by omega)).1; omega)) (fun _ _ _ => rfl)) (fun q a => absurd a (by omega)) (fun w6 m6 v6 t6 => ?_)
  have S6 := S5.sm m6
  refine s_gfA (KF S6 rfl) (RF S6 rfl) (s_gfA (KF S6 rfl) (RF S6 rfl) ⟨16, 16, KF S6 rfl, KF S6 rfl, ⟨by decide, by decide, by decide, by decide, by decide, by decide, by decide⟩, ?_⟩)
  have m7 : Sm wB (cpV w6 106 0 107 0 16) := (m05.tr m6).tr ⟨fun _ => rfl, fun _ _ => rfl⟩
  have S7 : SOK (cpV w6 106 0 107 0 16) := S.sm m7
  have v7 : ∀ k j, ¬ (306 ≤ k ∧ k ≤ 311) → ¬ (k = 100 ∧ (j = 11 ∨ j = 12 ∨ j = 14)) → ¬ (432 ≤ k ∧ k < 528) → k ≠ 107 → gV (cpV w6 106 0 107 0 16) k j = gV wB k j := fun k j a b c d => (cp_ne (by omega)).trans ((v6 k j c).trans (w5B k j a b))
  have s7 : ∀ q, 0 ≤ q → q < 16 → gV (cpV w6 106 0 107 0 16) 107 q = gV wB 7 q := fun q a b => by
    rw [cp_at ⟨a, b⟩, v6 106 q (by omega), w5B 106 q (by omega) (by omega)]
    exact u2 q a b
  have k100 : ∀ j, gV (cpV w6 106 0 107 0 16) 100 j = gV w4 100 j := fun j => (cp_ne (by omega)).trans ((v6 100 j (by omega)).trans (v5 100 j (by omega)))
  have A7 : AHD (cpV w6 106 0 107 0 16) (US0 wB) := ⟨T306.fr (fun k j a b => (cp_ne (by omega)).trans (v6 k j (by omega))) (fun _ _ _ => rfl), fun q a => (m7.2 _ _).trans (h105 q a), fun q a => (t6 q a).fr (fun k j b c => cp_ne (by omega)) (fun _ _ _ => rfl), s7⟩
  have C7 : CU wB (cpV w6 106 0 107 0 16) (US0 wB) := C0.fr m7 (fun k j hk => v7 k j (by omega) (by omega) (by omega) (by omega))
  generalize cpV w6 106 0 107 0 16 = w7 at *
  have e15' : gV w7 100 15 = (US0 wB).2.1 := C7.2.1.1
  refine s_gfI (KF S7 rfl) e15' ?_
  have u8 := u1.2
  -- what is left to the end
  have fin : ∀ (wF : Wd) (s : US) (rc : Int), Sq wB wF → (∀ k j, ¬ Scr k j → ¬ Sca k j → ¬ (k = 3 ∧ 5 ≤ j ∧ j < 80) → ¬ (300 ≤ k ∧ k ≤ 305) → ¬ (k = 0 ∧ j = 8) → ¬ (k = 100 ∧ j = 15) → ¬ (k = 106 ∨ k = 6 ∨ k = 7) → ¬ (336 ≤ k ∧ k < 432) → gV wF k j = gV wB k j) → ScaR wF (i + 6) → CU wB wF s → TU wB wF s → UOK s → inI rc → K rc rc wF := fun wF s rc m hV hs C T U hrc => hK rc rc wF rfl hrc (REL.und R m hV hs C T U).rkr
  refine z0_114 hO l.length FU 0 0 (US0 wB, 0, -1) w7 (by omega) (by unfold FU; omega) (by decide) (by omega) C7 (US0_soks R) (fun st2 w8 e f8 C8 h8 j8 => ?_) (fun w8 s2 q e f8 C8 j8 => ?_)
  · have S8 := C8.1.1
    refine s_cO (KF S8 rfl) (Eq.mpr (x0_done S8) ?_)
    have S9 : SOK (sV w8 100 0 0) := S8
    have v9 : ∀ k j, ¬ CHC k j → gV (sV w8 100 0 0) k j = gV wB k j := fun k j n => (gV_ne (fun y => n (Or.inl ⟨y.1, Or.inl y.2⟩))).trans ((f8.2 k j (fun y => n (Or.inr (Or.inl y)))).trans (v7 k j (by unfold CHC at n; omega) (by unfold CHC at n; omega) (by unfold CHC at n; omega) (by unfold CHC at n; omega)))
    have v101 : ∀ j, gV (sV w8 100 0 0) 101 j = gV wB 101 j := fun j => (gV_ne (by omega)).trans ((f8.2 101 j (by unfold Fc Ev; omega)).trans (v7 101 j (by omega) (by omega) (by omega) (by omega)))
    have q9 : Sq wB (sV w8 100 0 0) := (m7.sq.tr f8.1).sV
    have C9 : CU wB (sV w8 100 0 0) st2.1 := C8.fr Sm.rf.sV (fun k j hk => gV_ne (by omega))
    have a0 : gV (sV w8 100 0 0) 100 0 = 0 := gV_at
    have a100 : ∀ j, j ≠ 0 → j ≠ 15 → gV (sV w8 100 0 0) 100 j = gV w4 100 j := fun j hj h15 => (gV_ne (by omega)).trans ((f8.2 100 j (by unfold Fc Ev; omega)).trans (k100 j))
    generalize sV w8 100 0 0 = w9 at *
    refine y5_orders R S9 v9 hr hOr hL hop hf ⟨fun st3 wF e3 h3 T3 mF vF x01 x13 x18 x57 x20 => ?_, fun q wF e3 => by rw [e] at e3; cases e3⟩
    rw [e] at e3
    injection e3 with e3
    subst e3
    have oF : ∀ k j, ¬ ((k = 0 ∧ j ≠ 11 ∧ j ≠ 61) ∨ (22 ≤ k ∧ k ≤ 28) ∨ k = 54 ∨ Fo k j ∨ k = 6 ∨ k = 9 ∨ k = 10) → ¬ CHC k j → gV wF k j = gV wB k j := fun k j a b => (vF k j a).trans (v9 k j b)
    have f100 : ∀ j, gV wF 100 j = gV w9 100 j := fun j => vF 100 j (by unfold Fo Ft Ev; omega)
    refine fin wF st2.1 st2.2.1 (q9.tr mF.sq) (fun k j n1 n2 n3 n4 n5 n6 n7 n8 => oF k j (fun y => ofr_a n1 n2 n3 n5 n7 (Or.imp id (Or.imp id (Or.imp id (Or.imp id (Or.imp id (Or.imp id Or.inl))))) y)) (ofr_b n1 n2 n4 n6 n7 n8)) (ScaR.tx2 sc ((f100 0).trans a0) x01 ⟨?_, ?_, ?_⟩ ⟨?_, ?_, ?_⟩ ⟨?_, ?_, ?_⟩ x20 (fun k j hk => ?_)) (C9.fr mF (fun k j hk => vF k j (by unfold Fo Ft Ev; omega))) T3 h8.1.1 ⟨by have := h8.2.1; omega, by have := h8.2.1; omega⟩
    · rw [f100, a100 11 (by decide) (by decide), z11, x13]
    · rw [x13]; decide
    · rw [x13]; decide
    · rw [f100, a100 12 (by decide) (by decide), z12, x18]
    · rw [x18]; decide
    · rw [x18]; decide
    · rw [f100, a100 14 (by decide) (by decide), z14, x57]
    · rw [x57]; decide
    · rw [x57]; decide
    · by_cases z : k = 101
      · subst z
        exact (vF 101 j (by unfold Fo Ft Ev; omega)).trans (v101 j)
      · exact oF k j (by unfold Fo Ft Ev; omega) (by unfold CHC Fc Ev; omega)
  · have S8 := C8.1.1
    have A8 : AHD w8 (US0 wB) := A7.fr u8.2 (fun j => f8.1.2.1 105 j (by decide)) (fun k j hk => f8.2 k j (by unfold Fc Ev; omega))
    have hq := ordL_err e
    unfold OFL
    refine s_cO (KF S8 rfl) (z0_putsBack C8 A8 R.soks j8 (fun w9 f9 C9 => ?_))
    have S9 := C9.1.1
    refine s_pfI (KF S9 rfl) ?_
    have S10 : SOK (sV w9 100 14 q) := S9
    refine s_cO (KF S10 rfl) (Eq.mpr (x0_refuse S10 ⟨by decide, by decide⟩) ?_)
    have y101 : gV (sV w9 100 14 q) 101 (-(-3)) = gV wB 101 3 := (gV_ne (by omega)).trans ((f9.2 101 _ (by unfold Fc Ev; omega)).trans ((f8.2 101 _ (by unfold Fc Ev; omega)).trans (v7 101 _ (by omega) (by omega) (by omega) (by omega))))
    rw [y101]
    have S11 : SOK (sV (sV (sV w9 100 14 q) 100 0 (-3)) 101 (-(-3)) (gV wB 101 3 + 1)) := S9
    have xx : ∀ k j, ¬ (k = 100 ∧ (j = 14 ∨ j = 0)) → ¬ (k = 101 ∧ j = 3) → gV (sV (sV (sV w9 100 14 q) 100 0 (-3)) 101 (-(-3)) (gV wB 101 3 + 1)) k j = gV w9 k j := fun k j a b => (gV_ne (fun y => b ⟨y.1, y.2⟩)).trans ((gV_ne (by omega)).trans (gV_ne (by omega)))
    have x100 : gV (sV (sV (sV w9 100 14 q) 100 0 (-3)) 101 (-(-3)) (gV wB 101 3 + 1)) 100 0 = -3 := (gV_ne (by omega)).trans gV_at
    have x14 : gV (sV (sV (sV w9 100 14 q) 100 0 (-3)) 101 (-(-3)) (gV wB 101 3 + 1)) 100 14 = q := (gV_ne (by omega)).trans ((gV_ne (by omega)).trans gV_at)
    have x3 : gV (sV (sV (sV w9 100 14 q) 100 0 (-3)) 101 (-(-3)) (gV wB 101 3 + 1)) 101 3 = gV wB 101 3 + 1 := gV_at
    have m11 : Sm w9 (sV (sV (sV w9 100 14 q) 100 0 (-3)) 101 (-(-3)) (gV wB 101 3 + 1)) := Sm.rf.sV.sV.sV
    generalize sV (sV (sV w9 100 14 q) 100 0 (-3)) 101 (-(-3)) (gV wB 101 3 + 1) = w10 at *
    have v10 : ∀ k j, ¬ CHC k j → gV w10 k j = gV wB k j := fun k j n => (xx k j (fun y => n (Or.inl ⟨y.1, by omega⟩)) (fun y => n (Or.inr (Or.inr (Or.inr (Or.inr (Or.inr y.1))))))).trans ((f9.2 k j (fun y => n (Or.inr (Or.inl y)))).trans ((f8.2 k j (fun y => n (Or.inr (Or.inl y)))).trans (v7 k j (by unfold CHC at n; omega) (by unfold CHC at n; omega) (by unfold CHC at n; omega) (by unfold CHC at n; omega))))
    have v101 : ∀ j, j ≠ 3 → gV w10 101 j = gV wB 101 j := fun j hj => (xx 101 j (by omega) (by omega)).trans ((f9.2 101 j (by unfold Fc Ev; omega)).trans ((f8.2 101 j (by unfold Fc Ev; omega)).trans (v7 101 j (by omega) (by omega) (by omega) (by omega))))
    have q10 : Sq wB w10 := ((m7.sq.tr f8.1).tr f9.1).tr m11.sq
    have C10 : CU wB w10 (US0 wB) := C9.fr m11 (fun k j hk => xx k j (by omega) (by omega))
    have a100 : ∀ j, j ≠ 0 → j ≠ 14 → j ≠ 15 → gV w10 100 j = gV w4 100 j := fun j h0 h14 h15 => (xx 100 j (by omega) (by omega)).trans ((f9.2 100 j (by unfold Fc Ev; omega)).trans ((f8.2 100 j (by unfold Fc Ev; omega)).trans (k100 j)))
    have S12 : SOK w10 := S9.sm m11
    refine y5_orders R S12 v10 hr hOr hL hop hf ⟨(fun st3 wF e3 => by rw [e] at e3; cases e3), fun q3 wF e3 T3 mF vF x01 x23 x13 x18 x57 x20 => ?_⟩
    rw [e] at e3
    injection e3 with e3
    subst e3
    have oF : ∀ k j, ¬ ((k = 0 ∧ j ≠ 11 ∧ j ≠ 61) ∨ (22 ≤ k ∧ k ≤ 28) ∨ k = 54 ∨ Fo k j ∨ k = 6 ∨ k = 9 ∨ k = 10 ∨ (k = 2 ∧ j = 3)) → ¬ CHC k j → gV wF k j = gV wB k j := fun k j a b => (vF k j a).trans (v10 k j b)
    have f100 : ∀ j, gV wF 100 j = gV w10 100 j := fun j => vF 100 j (by unfold Fo Ft Ev; omega)
    have f101 : ∀ j, gV wF 101 j = gV w10 101 j := fun j => vF 101 j (by unfold Fo Ft Ev; omega)
    have z23 : gV w10 2 3 = gV wB 2 3 := v10 2 3 (by unfold CHC Fc Ev; omega)
    rw [z23] at x23
    refine fin wF (US0 wB) (-3) (q10.tr mF.sq) (fun k j n1 n2 n3 n4 n5 n6 n7 n8 => oF k j (ofr_a n1 n2 n3 n5 n7) (ofr_b n1 n2 n4 n6 n7 n8)) (ScaR.ref3 sc (-3) ⟨by decide, by decide⟩ ((f100 0).trans x100) x01 ((f101 3).trans x3) (fun q2 hq2 => (f101 q2).trans (v101 q2 hq2)) x23 (fun q2 hq2 => ?_) ⟨?_, ?_, ?_⟩ ⟨?_, ?_, ?_⟩ ⟨?_, ?_, ?_⟩ x20 (fun k j hk => ?_)) (C10.fr mF (fun k j hk => vF k j (by unfold Fo Ft Ev; omega))) T3 R.uok ⟨by decide, by decide⟩
    · have hq2 : q2 ≠ 3 := hq2
      exact oF 2 q2 (by unfold Fo Ft Ev; omega) (by unfold CHC Fc Ev; omega)
    · rw [f100, a100 11 (by decide) (by decide) (by decide), z11, x13]
    · rw [x13]; decide
    · rw [x13]; decide
    · rw [f100, a100 12 (by decide) (by decide) (by decide), z12, x18]
    · rw [x18]; decide
    · rw [x18]; decide
    · rw [f100, x14, x57]
    · rw [x57]; omega
    · rw [x57]; omega
    · exact oF k j (by unfold Fo Ft Ev; omega) (by unfold CHC Fc Ev; omega)
end OPORD
