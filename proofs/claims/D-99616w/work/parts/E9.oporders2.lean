/-! THE PLAIN LAW: orders, from the text on -/
set_option maxRecDepth 100000
section OPORD2
variable {w w' w0 w1 w2 w3 : Wd} {i : Int} {bc bs : Nat} {K : Int → Int → Wd → Prop}
theorem rdS_err {T : Int → Int} {N e : Int} {ord : Bool} (hN : 0 ≤ N) (er : rdS T N ord = .error e) : 0 ≤ e ∧ e ≤ N := by
  have q := claS_ok (T := T) (N := N) (ord := ord) (m := 0) (LOK.st (T := T) hN)
  have e0 : rdS T N ord = match claS T N ord 0 (nxS T N (0, 0, 0, 0)) with
    | .error e => .error e
    | .ok (c, s2) => rdL T N ord 401 [c] s2 := rfl
  cases ec : claS T N ord 0 (nxS T N (0, 0, 0, 0)) with
  | error p =>
    rw [ec] at q e0
    rw [er] at e0
    injection e0 with e0
    rw [e0]
    exact q
  | ok z =>
    obtain ⟨c, s2⟩ := z
    rw [ec] at q e0
    have q : OKR _ _ _ s2 := q
    have rl := rdL_ok (T := T) (N := N) (ord := ord) 401 [c] s2 q.1
    have e0 : rdS T N ord = rdL T N ord 401 [c] s2 := e0
    rw [er] at e0
    rw [← e0] at rl
    exact rl
/-- new cells, a text not read: the two refuse -/
theorem ord_bad {e : Int} (R : REL w i) (f : KPW (sV (sV w 100 11 0) 100 14 (-1)) w1) (I : TIW w1) (he : gV w 0 13 ≤ 400 ∧ 0 ≤ e ∧ e ≤ 400) (hr : rdS (gV w 12) (gV w 0 13) true = .error e) (hK : ∀ r r2 w', r = r2 → inI r → RKR w' (i + 6) → K r r2 w') : wp_X0_refuse 100 (-6) (sV w1 100 12 e) fun r w1 => wp_X5_orders 0 w1 fun r2 w2 => K r r2 w2 := by
  have S := R.1
  have sc := R.2.2.2.2.2.2.1
  have lw := R.2.1.2.2.2
  have S1 : SOK w1 := SOK.old (w := sV (sV w 100 11 0) 100 14 (-1)) S (fun k hk => ⟨(f k hk).1, (f k hk).2.1⟩)
  have V1 : ∀ k j, gK w k ≠ none → ¬ (k = 100 ∧ (j = 11 ∨ j = 14)) → gV w1 k j = gV w k j := fun k j hk y => ((f k hk).2.2 j).trans ((gV_ne (by omega)).trans (gV_ne (by omega)))
  have z14 : gV w1 100 14 = -1 := ((f 100 (kd_ne (KF S (k := 100) rfl))).2.2 14).trans gV_at
  have z11 : gV w1 100 11 = 0 := ((f 100 (kd_ne (KF S (k := 100) rfl))).2.2 11).trans ((gV_ne (by omega)).trans gV_at)
  have S2 : SOK (sV w1 100 12 e) := S1
  refine Eq.mpr (x0_refuse S2 (by omega)) ?_
  have S3 : SOK (sV (sV (sV w1 100 12 e) 100 0 (-6)) 101 (-(-6)) (gV (sV w1 100 12 e) 101 (-(-6)) + 1)) := S1
  have V3 : ∀ k j, gK w k ≠ none → ¬ (k = 100 ∧ (j = 11 ∨ j = 12 ∨ j = 0 ∨ j = 14)) → ¬ (k = 101 ∧ j = 6) → gV (sV (sV (sV w1 100 12 e) 100 0 (-6)) 101 (-(-6)) (gV (sV w1 100 12 e) 101 (-(-6)) + 1)) k j = gV w k j := fun k j hk a b => (gV_ne (fun y => b ⟨y.1, y.2⟩)).trans ((gV_ne (by omega)).trans ((gV_ne (by omega)).trans (V1 k j hk (by omega))))
  have e0 : gV (sV (sV (sV w1 100 12 e) 100 0 (-6)) 101 (-(-6)) (gV (sV w1 100 12 e) 101 (-(-6)) + 1)) 100 0 = -6 := (gV_ne (by omega)).trans gV_at
  have e11 : gV (sV (sV (sV w1 100 12 e) 100 0 (-6)) 101 (-(-6)) (gV (sV w1 100 12 e) 101 (-(-6)) + 1)) 100 11 = 0 := (gV_ne (by omega)).trans ((gV_ne (by omega)).trans ((gV_ne (by omega)).trans z11))
  have e12 : gV (sV (sV (sV w1 100 12 e) 100 0 (-6)) 101 (-(-6)) (gV (sV w1 100 12 e) 101 (-(-6)) + 1)) 100 12 = e := (gV_ne (by omega)).trans ((gV_ne (by omega)).trans gV_at)
  have e14 : gV (sV (sV (sV w1 100 12 e) 100 0 (-6)) 101 (-(-6)) (gV (sV w1 100 12 e) 101 (-(-6)) + 1)) 100 14 = -1 := (gV_ne (by omega)).trans ((gV_ne (by omega)).trans ((gV_ne (by omega)).trans z14))
  have e6 : gV (sV (sV (sV w1 100 12 e) 100 0 (-6)) 101 (-(-6)) (gV (sV w1 100 12 e) 101 (-(-6)) + 1)) 101 6 = gV w 101 6 + 1 := by
    have q : gV (sV w1 100 12 e) 101 (-(-6)) = gV w 101 6 := (gV_ne (by omega)).trans (V1 101 6 (kd_ne (KF S (k := 101) rfl)) (by omega))
    rw [q]
    exact gV_at
  have m3 : Sm w1 (sV (sV (sV w1 100 12 e) 100 0 (-6)) 101 (-(-6)) (gV (sV w1 100 12 e) 101 (-(-6)) + 1)) := Sm.rf.sV.sV.sV
  generalize sV (sV (sV w1 100 12 e) 100 0 (-6)) 101 (-(-6)) (gV (sV w1 100 12 e) 101 (-(-6)) + 1) = w3 at *
  have lv : ∀ {k : Nat}, NEED k → gK w k ≠ none := fun h => need_lv S h
  unfold wp_X5_orders
  refine s_pfI (KF S3 rfl) ?_
  have S4' : SOK (sV w3 0 0 0) := S3
  refine s_pfI (KF S4' rfl) ?_
  have S4 : SOK (sV (sV w3 0 0 0) 0 57 (-1)) := S3
  have V4 : ∀ k j, gK w k ≠ none → ¬ (k = 100 ∧ (j = 11 ∨ j = 12 ∨ j = 0 ∨ j = 14)) → ¬ (k = 101 ∧ j = 6) → ¬ (k = 0 ∧ (j = 0 ∨ j = 57)) → gV (sV (sV w3 0 0 0) 0 57 (-1)) k j = gV w k j := fun k j hk a b c => (gV_ne (by omega)).trans ((gV_ne (by omega)).trans (V3 k j hk a b))
  have z100 : ∀ j, gV (sV (sV w3 0 0 0) 0 57 (-1)) 100 j = gV w3 100 j := fun j => (gV_ne (by omega)).trans (gV_ne (by omega))
  have z101 : ∀ j, gV (sV (sV w3 0 0 0) 0 57 (-1)) 101 j = gV w3 101 j := fun j => (gV_ne (by omega)).trans (gV_ne (by omega))
  have z57 : gV (sV (sV w3 0 0 0) 0 57 (-1)) 0 57 = -1 := gV_at
  have m4 : Sm w1 (sV (sV w3 0 0 0) 0 57 (-1)) := m3.sV.sV
  generalize sV (sV w3 0 0 0) 0 57 (-1) = w4 at *
  have hTT : TTX (gV w 12) (gV w 0 13) w4 := ⟨S4, ⟨sc.2.2.1.2.1, he.1⟩, V4 0 13 (lv (by omega)) (by omega) (by omega) (by omega), fun q a b => ⟨V4 12 q (lv (by omega)) (by omega) (by omega) (by omega), (sc.2.2.2.1 q a b).1, (sc.2.2.2.1 q a b).2.1⟩⟩
  have hC : ConR w4 := R.2.2.2.2.1.fr (fun k j hk => V4 k j (lv (by omega)) (by omega) (by omega) (by omega))
  refine s_cO (KF S4 rfl) (q5_text_readOrder hTT hC (fun l t q => by rw [hr] at q; cases q) (fun e2 q w5 f5 v19 v18 v13 => ?_))
  rw [hr] at q
  injection q with q
  subst q
  have S5 := S4.sm f5.1
  refine s_gfI (KF S5 rfl) v19 (s_ckI ⟨by decide, by decide⟩ (s_br (fun y => absurd y (by decide)) (fun _ => s_cO (KF S5 rfl) (Eq.mpr (x5_no S5 ⟨by decide, by decide⟩) ?_))))
  have V5 : ∀ k j, gK w k ≠ none → ¬ (k = 100 ∧ (j = 11 ∨ j = 12 ∨ j = 0 ∨ j = 14)) → ¬ (k = 101 ∧ j = 6) → ¬ (k = 0 ∧ (j = 0 ∨ j = 1 ∨ j = 57 ∨ (13 ≤ j ∧ j ≤ 21) ∨ j = 23 ∨ j = 26 ∨ j = 29 ∨ j = 30)) → ¬ (22 ≤ k ∧ k ≤ 28) → k ≠ 54 → ¬ (k = 2 ∧ j = 6) → gV (sV (sV w5 0 1 (-6)) 2 (-(-6)) (gV w5 2 (-(-6)) + 1)) k j = gV w k j := fun k j hk a b c d e g => (gV_ne (fun y => g ⟨y.1, y.2⟩)).trans ((gV_ne (by omega)).trans ((f5.2 k j (by omega) d e).trans (V4 k j hk a b (by omega))))
  have m6 : Sm w1 (sV (sV w5 0 1 (-6)) 2 (-(-6)) (gV w5 2 (-(-6)) + 1)) := (m4.tr f5.1).sV.sV
  have g2 : gV (sV (sV w5 0 1 (-6)) 2 (-(-6)) (gV w5 2 (-(-6)) + 1)) 2 6 = gV w 2 6 + 1 := by
    have q : gV w5 2 (-(-6)) = gV w 2 6 := (f5.2 2 6 (by omega) (by omega) (by decide)).trans (V4 2 6 (lv (by omega)) (by omega) (by omega) (by omega))
    rw [q]
    exact gV_at
  have g1 : gV (sV (sV w5 0 1 (-6)) 2 (-(-6)) (gV w5 2 (-(-6)) + 1)) 0 1 = -6 := (gV_ne (by omega)).trans gV_at
  have z9 : ∀ k j, ¬ (k = 0 ∧ j = 1) → ¬ (k = 2 ∧ j = 6) → gV (sV (sV w5 0 1 (-6)) 2 (-(-6)) (gV w5 2 (-(-6)) + 1)) k j = gV w5 k j := fun k j a b => (gV_ne (fun y => b ⟨y.1, y.2⟩)).trans (gV_ne a)
  generalize sV (sV w5 0 1 (-6)) 2 (-(-6)) (gV w5 2 (-(-6)) + 1) = w6 at *
  have I6 : TIW w6 := I.sm m6
  have u100 : ∀ j, gV w6 100 j = gV w3 100 j := fun j => (z9 100 j (by omega) (by omega)).trans ((f5.2 100 j (by omega) (by omega) (by decide)).trans (z100 j))
  have u101 : ∀ j, gV w6 101 j = gV w3 101 j := fun j => (z9 101 j (by omega) (by omega)).trans ((f5.2 101 j (by omega) (by omega) (by decide)).trans (z101 j))
  have KR : ∀ k, gK w k ≠ none → gK w6 k = gK w k ∧ ∀ j, gR w6 k j = gR w k j := fun k hk => ⟨(m6.1 k).trans (f k hk).1, fun j => (m6.2 k j).trans ((f k hk).2.1 j)⟩
  have H : Hi w w6 := fun k hk hn => ⟨(KR k hn).1, fun j => V5 k j hn (by omega) (by omega) (by omega) (by omega) (by omega) (by omega), (KR k hn).2⟩
  have v5q : ∀ q : Int, gV w6 5 q = gV w 5 q := fun q => V5 5 q (lv (by omega)) (by omega) (by omega) (by omega) (by omega) (by omega) (by omega)
  refine hK _ _ _ rfl ⟨by decide, by decide⟩ (REL.rkr (REL.lawE R (S.old KR) H (fun k _ _ hk => ⟨(KR k hk).1, fun _ _ => (KR k hk).2⟩) (fun j => (KR 104 (lv (by omega))).2 j) (fun k j hk h1 h2 => V5 k j hk (by omega) (by omega) (by omega) (by omega) (by omega) (by omega)) ?_ ?_ (I6.tid (fun q hq h0 => ((KR 103 (lv (by omega))).2 _).trans (R.img0 q hq (by rw [← v5q]; exact h0))))))
  · have q18 : gV w6 0 18 = e := (z9 0 18 (by omega) (by omega)).trans v18
    have q57 : gV w6 0 57 = -1 := (z9 0 57 (by omega) (by omega)).trans ((f5.2 0 57 (by omega) (by omega) (by decide)).trans z57)
    have q13 : gV w6 0 13 = 0 := (z9 0 13 (by omega) (by omega)).trans v13.1
    refine ScaR.ref3 sc (-6) ⟨by decide, by decide⟩ ((u100 0).trans e0) g1 ((u101 6).trans e6) (fun q hq => ?_) g2 (fun q hq => ?_) ⟨?_, ?_, ?_⟩ ⟨?_, ?_, ?_⟩ ⟨?_, ?_, ?_⟩ ((z9 0 20 (by omega) (by omega)).trans v13.2) (fun k j hk => ?_)
    · exact V5 101 q (lv (by omega)) (by omega) (by omega) (by omega) (by omega) (by omega) (by omega)
    · exact V5 2 q (lv (by omega)) (by omega) (by omega) (by omega) (by omega) (by omega) (by omega)
    · rw [u100, e11, q13]
    · rw [q13]; decide
    · rw [q13]; decide
    · rw [u100, e12, q18]
    · rw [q18]; omega
    · rw [q18]; omega
    · rw [u100, e14, q57]
    · rw [q57]; decide
    · rw [q57]; decide
    · exact V5 k j (lv (by omega)) (by omega) (by omega) (by omega) (by omega) (by omega) (by omega)
  · obtain ⟨n, l2, l3, l4, l5⟩ := lw.2.2.1
    exact lw.fr H ⟨(KR 144 (kd_ne lw.1)).1, (KR 145 (kd_ne l2)).1⟩ (KR 144 (kd_ne lw.1)).2 (KR 145 (kd_ne l2)).2 (V5 144 2 (kd_ne lw.1) (by omega) (by omega) (by omega) (by omega) (by omega) (by omega)) (fun j _ _ => V5 3 j (lv (by omega)) (by omega) (by omega) (by omega) (by omega) (by omega) (by omega))
/-- the orders' text is read well: the two from there on -/
theorem ord_ok {k11 li E n : Nat} {l : List Cl} {t : LX} (R : REL w i) (hi : 0 ≤ i) (hr : rdS (gV w 12) (gV w 0 13) true = .ok (l, t)) (P : PST (gV w 12) (gV w 0 13) true (sV (sV w 100 11 0) 100 14 (-1)) w3 k11 t l li E n) (hK : ∀ r r2 w', r = r2 → inI r → RKR w' (i + 6) → K r r2 w') : gfR (sV w3 100 12 (-1)) 100 1 8 fun o18 => cO (sV w3 100 12 (-1)) 100 1 <| wp_X0_table 100 (sV w3 100 12 (-1)) fun o19 w20 => dO o18 fun k22 => cO w20 k22 3 <| wp_X2_takes k22 o19 w20 fun w23 => wp_X0_orders_56 (fun r w1 => wp_X5_orders 0 w1 fun r2 w2 => K r r2 w2) (fun bc26 bs27 w25 => gfA w25 100 1 6 fun k28 => gfA w25 100 1 7 fun k29 => cpI w25 k28 0 k29 0 16 fun w30 => gfI w30 100 1 15 fun v31 => wp_X0_orders_114 (fun r w1 => wp_X5_orders 0 w1 fun r2 w2 => K r r2 w2) (fun z32 bc34 bs35 w33 => cO w33 100 1 <| wp_X0_done 100 z32 w33 fun r36 w37 => wp_X5_orders 0 w37 fun r2 w2 => K r36 r2 w2) 100 k11 v31 FU 0 ((-1)) 0 bc26 bs27 w30) 100 k11 FU 0 bc bs w23 := by
  have S := R.1
  have sc := R.2.2.2.2.2.2.1
  have lw := R.2.1.2.2.2
  have lv : ∀ {k : Nat}, NEED k → gK w k ≠ none := fun h => need_lv S h
  obtain ⟨p1, p2, f, p4, p5, p6, p7⟩ := P
  -- as it was, but for the new cells
  have KB : ∀ k, gK w k ≠ none → gK w3 k = gK w k ∧ ∀ j, gR w3 k j = gR w k j := fun k hk => ⟨(f k hk).1, (f k hk).2.1⟩
  have V3 : ∀ k j, gK w k ≠ none → ¬ (k = 100 ∧ (j = 11 ∨ j = 14)) → gV w3 k j = gV w k j := fun k j hk y => ((f k hk).2.2 j).trans ((gV_ne (by omega)).trans (gV_ne (by omega)))
  have z11 : gV w3 100 11 = 0 := ((f 100 (lv (by omega))).2.2 11).trans ((gV_ne (by omega)).trans gV_at)
  have z14 : gV w3 100 14 = -1 := ((f 100 (lv (by omega))).2.2 14).trans gV_at
  have VB : ∀ k j, gK w k ≠ none → gV (sV (sV w3 100 11 (gV w 100 11)) 100 14 (gV w 100 14)) k j = gV w k j := fun k j hk => by
    by_cases a : k = 100 ∧ j = 14
    · rw [a.1, a.2]; exact gV_at
    · rw [gV_ne a]
      by_cases b : k = 100 ∧ j = 11
      · rw [b.1, b.2]; exact gV_at
      · rw [gV_ne b]
        exact V3 k j hk (by omega)
  have mB : Sm w3 (sV (sV w3 100 11 (gV w 100 11)) 100 14 (gV w 100 14)) := Sm.rf.sV.sV
  have vB3 : ∀ k j, ¬ (k = 100 ∧ (j = 11 ∨ j = 14)) → gV (sV (sV w3 100 11 (gV w 100 11)) 100 14 (gV w 100 14)) k j = gV w3 k j := fun k j y => (gV_ne (by omega)).trans (gV_ne (by omega))
  generalize sV (sV w3 100 11 (gV w 100 11)) 100 14 (gV w 100 14) = wB at *
  have IB : TIW wB := p2.2.1.sm mB
  have KBB : ∀ k, gK w k ≠ none → gK wB k = gK w k ∧ ∀ j, gR wB k j = gR w k j := fun k hk => ⟨(mB.1 k).trans (KB k hk).1, fun j => (mB.2 k j).trans ((KB k hk).2 j)⟩
  have H : Hi w wB := fun k hk hn => ⟨(KBB k hn).1, fun j => VB k j hn, (KBB k hn).2⟩
  obtain ⟨nE, c1, c2, c3, c4⟩ := lw.2.2.1
  have RB : REL wB i := REL.lawE R (S.old KBB) H (fun k _ _ hk => ⟨(KBB k hk).1, fun _ _ => (KBB k hk).2⟩) (fun j => (KBB 104 (lv (by omega))).2 j) (fun k j hk _ _ => VB k j hk) (sc.fr (Int.le_refl _) (fun k j hk => VB k j (lv (by omega)))) (lw.fr H ⟨(KBB 144 (kd_ne lw.1)).1, (KBB 145 (kd_ne c1)).1⟩ (KBB 144 (kd_ne lw.1)).2 (KBB 145 (kd_ne c1)).2 (VB 144 2 (kd_ne lw.1)) (fun j _ _ => VB 3 j (lv (by omega)))) (IB.tid (fun q hq h0 => ((KBB 103 (lv (by omega))).2 _).trans (R.img0 q hq (by rw [← VB 5 q (lv (by omega))]; exact h0))))
  -- the orders, there
  have h100 : ¬ (gK (sV (sV w 100 11 0) 100 14 (-1)) 100 = none) := lv (k := 100) (by omega)
  have CB : CLS (fun q => gK (sV (sV w 100 11 0) 100 14 (-1)) q = none) wB true k11 l li E n := p4.mo (kd_ne p2.2.2.2) (fun q a b => ⟨a, mB.1 q, mB.2 q, fun _ j => vB3 q j (fun y => h100 (by rw [← y.1]; exact a))⟩)
  have T0 : gV wB 12 = gV w 12 := funext fun j => VB 12 j (lv (by omega))
  have N0 : gV wB 0 13 = gV w 0 13 := VB 0 13 (lv (by omega))
  have wf := ws_rd sc.2.2.1.2.1 hr
  have hrB : rdS (gV wB 12) (gV wB 0 13) true = .ok (l, t) := by rw [T0, N0]; exact hr
  have AG : AGR (fun j => ((cdL true l).getD j.toNat (0, 0)).1) (fun j => ((cdL true l).getD j.toNat (0, 0)).2) (cdL true l) 0 := fun i p _ hp => by
    have e : (cdL true l).getD ((i : Int).toNat) (0, 0) = p := by
      show (cdL true l).getD i (0, 0) = p
      rw [List.getD_eq_getElem?_getD, hp]
      rfl
    dsimp only
    rw [e]
    exact ⟨rfl, rfl⟩
  have OB : ORDS wB k11 l.length (fun i => (gR wB E i).getD 0) (fun j => ((cdL true l).getD j.toNat (0, 0)).1) (fun j => ((cdL true l).getD j.toNat (0, 0)).2) ((cdL true l).length : Nat) (fun i o => rwO (l.getD i.toNat (0, [], 1, none)) (cdL true (l.take i.toNat)) o) := by
    obtain ⟨a1, a2, ⟨a3, a4⟩, ⟨a5, a6⟩, ⟨l1, l2, l3, l4, l5, _⟩, h8⟩ := CB
    refine ⟨li, E, n, ⟨p2.1.1.1, (mB.1 k11).trans p2.2.2.2, a2⟩, ⟨a4, l1, l2, l4⟩, ⟨a6, l3, l5.2.1, by omega, p6⟩, fun i i0 i1 => ?_⟩
    obtain ⟨p, rfl⟩ : ∃ p : Nat, i = p := ⟨i.toNat, by omega⟩
    have hp : p < l.length := by omega
    have hc : l[p]? = some l[p] := List.getElem?_eq_getElem hp
    generalize l[p] = c at hc
    obtain ⟨kc, g1, g2⟩ := h8 p c hc
    obtain ⟨X, eX⟩ := cdL_pre (ord := true) hc
    have ek : (gR wB E (p : Int)).getD 0 = kc := by rw [g1]; rfl
    have ec : l.getD ((p : Int).toNat) (0, [], 1, none) = c := by
      show l.getD p (0, [], 1, none) = c
      rw [List.getD_eq_getElem?_getD, hc]
      rfl
    dsimp only
    rw [ek, ec]
    refine ⟨g1, ordR_of g2 (wf c (List.mem_of_getElem? hc)) ?_ ?_ (fun o _ _ => rfl)⟩
    · have A := AG
      rw [eX] at A ⊢
      exact A.pre
    · show ((cdC true c (cdL true (l.take p))).length : Int) ≤ ((cdL true l).length : Nat)
      rw [eX, List.length_append]
      omega
  have v4 : ∀ k j, ¬ (k = 100 ∧ (j = 11 ∨ j = 12 ∨ j = 14)) → gV (sV w3 100 12 (-1)) k j = gV wB k j := fun k j y => (gV_ne (by omega)).trans (vB3 k j (by omega)).symm
  have m4 : Sm wB (sV w3 100 12 (-1)) := ⟨fun k => (mB.1 k).symm, fun k j => (mB.2 k j).symm⟩
  exact ord_run RB hi m4 v4 ((gV_ne (by omega)).trans z11) gV_at ((gV_ne (by omega)).trans z14) hrB OB rfl (fun i p hp => AG i p (Nat.zero_le _) hp) (fun i c hc o _ _ => by
    have ec : l.getD ((i : Int).toNat) (0, [], 1, none) = c := by
      show l.getD i (0, [], 1, none) = c
      rw [List.getD_eq_getElem?_getD, hc]
      rfl
    show rwO (l.getD (i : Int).toNat (0, [], 1, none)) (cdL true (l.take (i : Int).toNat)) _ = _
    rw [ec]
    rfl) hK
theorem op_orders (R : REL w i) (hi : 0 ≤ i) (hb : 18000 ≤ bc ∧ 84000 ≤ bs) (hK : ∀ r r2 w', r = r2 → inI r → RKR w' (i + 6) → K r r2 w') : wp_X0_orders 100 bc bs w fun r w1 => wp_X5_orders 0 w1 fun r2 w2 => K r r2 w2 := by
  have S := R.1
  have sc := R.2.2.2.2.2.2.1
  have s11 := sc.2.2.1
  unfold wp_X0_orders
  refine s_gfI (KF S rfl) s11.1 (s_pfI (KF S rfl) ?_)
  have S0 : SOK (sV w 100 11 0) := S
  refine s_pfI (KF S0 rfl) ?_
  have S1 : SOK (sV (sV w 100 11 0) 100 14 (-1)) := S
  have n17 : nfA 17 = 8 := rfl
  have T1 : TPE (gV w 12) (gV w 0 13) (sV (sV w 100 11 0) 100 14 (-1)) := R.tpe.fr rfl (fun q => (gV_ne (by omega)).trans (gV_ne (by omega)))
  have I1 : TIW (sV (sV w 100 11 0) 100 14 (-1)) := R.tiw.sm Sm.rf.sV.sV
  refine ⟨⟨by omega, by omega⟩, fun k11 hk11 hn11 => ?_⟩
  have S2 : SOK (nK (sV (sV w 100 11 0) 100 14 (-1)) k11 (.inl 17)) := S1.old (fun k hk => by
    have e : k ≠ k11 := fun y => hk (y ▸ hn11)
    exact ⟨by rw [gK_nK, if_neg e], fun j => by rw [gR_nK, if_neg e]⟩)
  refine s_gfA (KF S2 rfl) (RF S2 rfl) ⟨2, 5, ⟨by omega, by omega⟩, x20_init hn11 hk11 T1 I1 ⟨by decide, by decide⟩ (fun w14 li E ini => ?_)⟩
  have f := ini.2.2.2.2.1
  have S14 : SOK w14 := S1.old (fun k hk => ⟨(f k hk).1, (f k hk).2.1⟩)
  refine s_cO (KF S14 rfl) ⟨2807, 12030, ⟨by omega, by omega⟩, ?_⟩
  unfold wp_X0_reads
  have hN := s11.2
  refine s_dO (s_gf2 ini.2.1.1.2.1 ⟨2807, 12030, ⟨Nat.le_refl _, Nat.le_refl _⟩, x6_read wkc_ord ini (by omega) (by omega) (fun l2 t er w3 E3 n3 P3 => ?_) (fun e er k7 w8 f8 I8 k8 v8 => ?_)⟩)
  · have f3 := P3.2.2.1
    have S3 : SOK w3 := S1.old (fun k hk => ⟨(f3 k hk).1, (f3 k hk).2.1⟩)
    refine s_pfI (KF S3 rfl) (s_zr (Or.inr rfl) (s_ckI ⟨by decide, by decide⟩ (s_br (fun _ => ?_) (fun y => absurd (by decide) y))))
    exact ord_ok R hi er P3 hK
  · have S8 : SOK w8 := S1.old (fun k hk => ⟨(f8 k hk).1, (f8 k hk).2.1⟩)
    refine s_cO k8 (s_gfI k8 v8 (s_pfI (KF S8 rfl) (s_zr (Or.inl rfl) (s_ckI ⟨by decide, by decide⟩ (s_br (fun y => absurd rfl y) (fun _ => ?_))))))
    have S9 : SOK (sV w8 100 12 e) := S8
    have ee : 0 ≤ e ∧ e ≤ gV w 0 13 := rdS_err hN.1 er
    exact s_cO (KF S9 rfl) (ord_bad R f8 I8 ⟨hN.2, ee.1, by omega⟩ er hK)
end OPORD2
