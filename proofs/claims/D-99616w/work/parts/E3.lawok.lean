/-! THE PLAIN LAW: law, well read -/
set_option maxRecDepth 100000
section LAWOK
variable {w w' w0 w1 w2 w3 : Wd} {i : Int} {bc bs : Nat} {K : Int → Int → Wd → Prop} {t : LX} {l : List Cl}
/-- a law more in the list -/
theorem LawsR.more {o o' : Int → Int} {k28 n' : Nat} {nl : Int} (h : LawsR w 144 145 o) (hn : o 3 = nl) (hn5 : nl < 6) (H : Hi w w') (h1 : gK w' 144 = some (.inl 18)) (h2 : gR w' 144 1 = some 145) (h3 : gK w' 145 = some (.inr (4, n'))) (h4 : 2 ≤ n' ∧ n' < 1000 ∧ nl + 1 ≤ n') (h5 : gV w' 144 2 = nl + 1) (h6 : ∀ q, 0 ≤ q → q < nl → gR w' 145 q = gR w 145 q) (h7 : gR w' 145 nl = some k28) (hL : LawR w' k28 (fun j => o' (116 + 900 * nl + j))) (e3 : o' 3 = nl + 1) (e4 : o' 4 = o 4) (ho : ∀ j, 116 ≤ j → j < 116 + 900 * nl → o' j = o j) (hz : ∀ q, ¬ (0 ≤ q ∧ q < nl + 1) → gR w' 145 q = none) : LawsR w' 144 145 o' := by
  obtain ⟨l1, l2, l3, l4, l5, l6, l7, l8, l9⟩ := h
  refine ⟨h1, h2, ⟨n', h3, h4.1, h4.2.1, by rw [e3]; exact h4.2.2, by rw [e3]; exact hz⟩, by rw [h5, e3], by rw [e3]; omega, by rw [e3]; omega, by rw [e4]; exact l7, by rw [e4, e3]; omega, fun q hq0 hq => ?_⟩
  rw [e3] at hq
  by_cases z : q = nl
  · subst z
    exact ⟨k28, h7, hL⟩
  · obtain ⟨k, g1, g2⟩ := l9 q hq0 (by omega)
    refine ⟨k, (h6 q hq0 (by omega)).trans g1, g2.hi H (fun j a b => ho _ (by omega) (by omega))⟩
theorem law_ok {k11 li E n : Nat} (R : REL w i) (hr : rdS (gV w 12) (gV w 0 13) false = .ok (l, t)) (P : PST (gV w 12) (gV w 0 13) false (sV w 100 11 0) w3 k11 t l li E n) (hnl : gV w 3 3 ≠ 6) (hb : 2 ≤ bc ∧ 2000 ≤ bs) (hK : ∀ r r2 w', r = r2 → inI r → RKR w' (i + 6) → K r r2 w') : gfR (sV w3 100 12 (-1)) 100 1 2 fun o25 => dO o25 fun k26 => gfR (sV w3 100 12 (-1)) k26 2 4 fun o27 => wnO (sV w3 100 12 (-1)) 14 bc bs fun k28 w29 => gfR w29 k11 16 7 fun o30 => wp_X19_init k28 o30 w29 fun w31 => dO o27 fun k32 => cO w31 k32 18 <| xB (bc - 1) (bs - nfA 14) fun mc35 ms36 => wp_J2_add k32 (some k28) mc35 ms36 w31 fun r33 w34 => gfR w34 100 1 2 fun o39 => dO o39 fun k40 => gfR w34 k40 2 4 fun o41 => dO o41 fun k42 => cO w34 k42 18 <| wp_J2_size k42 w34 fun r43 w44 => cO w44 100 1 <| wp_X0_done 100 (r43 - 1) w44 fun r w1 => wp_X5_law 0 w1 fun r2 w2 => K r r2 w2 := by
  have S := R.1
  have sc := R.2.2.2.2.2.2.1
  have lw := R.2.1.2.2.2
  obtain ⟨p1, p2, f, p4, p5, p6, p7⟩ := P
  have n14 : nfA 14 = 1 := rfl
  obtain ⟨nE, c1, c2, c3, c4, cz⟩ := lw.2.2.1
  have nl0 := lw.2.2.2.2.1
  have nl6 := lw.2.2.2.2.2.1
  generalize hnn : gV w 3 3 = nl at hnl c4 cz nl0 nl6
  have lv : ∀ {k : Nat}, NEED k → gK w k ≠ none := fun h => need_lv S h
  have S3 : SOK w3 := SOK.old (w := sV w 100 11 0) S (fun k hk => ⟨(f k hk).1, (f k hk).2.1⟩)
  have S4 : SOK (sV w3 100 12 (-1)) := S3
  have I4 : TIW (sV w3 100 12 (-1)) := p2.2.1.sm Sm.rf.sV
  have K4 : ∀ k, gK w k ≠ none → gK (sV w3 100 12 (-1)) k = gK w k ∧ ∀ j, gR (sV w3 100 12 (-1)) k j = gR w k j := fun k hk => ⟨(f k hk).1, (f k hk).2.1⟩
  have V4 : ∀ k j, gK w k ≠ none → ¬ (k = 100 ∧ (j = 11 ∨ j = 12)) → gV (sV w3 100 12 (-1)) k j = gV w k j := fun k j hk y => (gV_ne (by omega)).trans (((f k hk).2.2 j).trans (gV_ne (by omega)))
  have z11 : gV (sV w3 100 12 (-1)) 100 11 = 0 := (gV_ne (by omega)).trans (((f 100 (lv (by omega))).2.2 11).trans gV_at)
  have z12 : gV (sV w3 100 12 (-1)) 100 12 = -1 := gV_at
  have C4 : CLS (fun q => gK (sV w 100 11 0) q = none) (sV w3 100 12 (-1)) false k11 l li E n := CLS.ne (kd_ne p2.2.2.2) NEW.rf.sV (fun y => lv (k := 100) (by omega) y) p4
  have k4 : gK (sV w3 100 12 (-1)) k11 = some (.inl 16) := p2.2.2.2
  generalize sV w3 100 12 (-1) = w4 at *
  refine s_gfR (KF S4 rfl) (RF S4 rfl) (s_dO (s_gfR (KF S4 rfl) (RF S4 rfl) ⟨⟨by omega, by omega⟩, fun k28 hk28 hn28 => ?_⟩))
  have d11 : k11 ≠ k28 := fun y => by subst y; rw [k4] at hn28; cases hn28
  have lli := C4.2.2.2.2.1.1
  have dli : li ≠ k28 := fun y => by subst y; rw [lli] at hn28; cases hn28
  have NN : NEW k28 w4 (sR (nK w4 k28 (.inl 14)) k28 0 (some li)) := NEW.rf.nK.sR
  have kk28 : gK (nK w4 k28 (.inl 14)) k28 = some (.inl 14) := by rw [gK_nK, if_pos rfl]
  have k5 : gK (nK w4 k28 (.inl 14)) k11 = some (.inl 16) := by rw [gK_nK, if_neg d11]; exact k4
  have r5 : gR (nK w4 k28 (.inl 14)) k11 7 = some li := by rw [gR_nK, if_neg d11]; exact C4.2.1
  refine s_gfR k5 r5 ?_
  unfold wp_X19_init
  have hc0 : ((0 : Nat) : Int) = 0 := rfl
  refine ⟨kk28, ?_⟩
  rw [hc0]
  have k6 : gK (sR (nK w4 k28 (.inl 14)) k28 0 (some li)) k28 = some (.inl 14) := kk28
  have r6 : ∀ j, gR (sR (nK w4 k28 (.inl 14)) k28 0 (some li)) k28 j = if j = 0 then some li else none := fun j => by
    rw [gR_sR]
    by_cases z : j = 0
    · rw [if_pos ⟨rfl, z⟩, if_pos z]
    · rw [if_neg (fun y => z y.2), if_neg z, gR_nK, if_pos rfl]
  have I6 : TIW (sR (nK w4 k28 (.inl 14)) k28 0 (some li)) := TIW.new I4 NN hk28 (kd_ne k6) (fun j x hx => by
    rw [r6] at hx
    split at hx
    · injection hx with hx
      subst hx
      have := C4.2.2.1.2
      exact ⟨by rw [(NN _ dli).1, lli]; exact (fun z => by cases z), by omega, by omega, by omega⟩
    · cases hx)
  have C6 : CLS (fun q => gK (sV w 100 11 0) q = none) (sR (nK w4 k28 (.inl 14)) k28 0 (some li)) false k11 l li E n := C4.mo (kd_ne k4) (fun q a b => by
    have e : q ≠ k28 := fun y => b (y ▸ hn28)
    exact ⟨a, (NN q e).1, (NN q e).2.2, fun _ => (NN q e).2.1⟩)
  have n28 : ∀ k, gK w k ≠ none → k ≠ k28 := fun k hk y => by
    have q := (K4 k hk).1
    rw [y] at q hk
    rw [hn28] at q
    exact hk q.symm
  have K6 : ∀ k, gK w k ≠ none → gK (sR (nK w4 k28 (.inl 14)) k28 0 (some li)) k = gK w k ∧ ∀ j, gR (sR (nK w4 k28 (.inl 14)) k28 0 (some li)) k j = gR w k j := fun k hk => ⟨(NN k (n28 k hk)).1.trans (K4 k hk).1, fun j => ((NN k (n28 k hk)).2.2 j).trans ((K4 k hk).2 j)⟩
  have V6 : ∀ k j, gK w k ≠ none → ¬ (k = 100 ∧ (j = 11 ∨ j = 12)) → gV (sR (nK w4 k28 (.inl 14)) k28 0 (some li)) k j = gV w k j := fun k j hk y => ((NN k (n28 k hk)).2.1 j).trans (V4 k j hk y)
  have y11 : gV (sR (nK w4 k28 (.inl 14)) k28 0 (some li)) 100 11 = 0 := ((NN 100 (by omega)).2.1 11).trans z11
  have y12 : gV (sR (nK w4 k28 (.inl 14)) k28 0 (some li)) 100 12 = -1 := ((NN 100 (by omega)).2.1 12).trans z12
  have rl6 := r6 0
  rw [if_pos rfl] at rl6
  generalize sR (nK w4 k28 (.inl 14)) k28 0 (some li) = w6 at *
  have a144 := K6 144 (kd_ne lw.1)
  have a145 := K6 145 (kd_ne c1)
  have L6 : LST w6 144 145 nE nl := ⟨a144.1.trans lw.1, (a144.2 1).trans lw.2.1, a145.1.trans c1, by rw [V6 144 2 (kd_ne lw.1) (by omega)]; exact lw.2.2.2.1.trans hnn, ⟨c2, c3, nl0, c4⟩, fun q hq0 hq y hy => by
    obtain ⟨k, g1, g2⟩ := lw.2.2.2.2.2.2.2.2 q hq0 (by rw [hnn]; exact hq)
    rw [a145.2, g1] at hy
    injection hy with hy
    subst hy
    exact ⟨g2.1, 14, (K6 _ (kd_ne g2.2.1)).1.trans g2.2.1, by decide⟩⟩
  refine s_dO (s_cO L6.1 ⟨1, 2000 - 1, ⟨by omega, by omega⟩, j2_add L6 I6 k6 (by decide) hk28 (fun z => by omega) (fun z => ⟨by omega, by omega⟩) (fun w7 E' n' A => ?_)⟩)
  obtain ⟨⟨y1, y2, y3, y4⟩, y5, y6, y7, y8, y9, I7⟩ := A
  -- the array may be a new one
  have hE' : E' = 145 ∨ (gK w6 E' = none ∧ 1000 ≤ E') := by
    rcases y8 with y8 | y8
    · exact Or.inl y8.1
    · exact Or.inr ⟨y8.1, y8.2.1⟩
  have y10 : ∀ q, ¬ (0 ≤ q ∧ q < nl + 1) → gR w7 E' q = none := fun q hq => by
    rcases y8 with y8 | y8
    · rw [y8.1, y8.2.2.2 q (by omega), a145.2]
      exact cz q (fun z => hq ⟨z.1, by omega⟩)
    · exact y8.2.2.2.2.2.2.2 q (by omega)
  have nE' : ∀ k, gK w k ≠ none → k ≠ 145 → k ≠ E' := fun k hk h5 y => by
    rcases hE' with h | ⟨h, _⟩
    · omega
    · have q := (K6 k hk).1
      rw [y] at q hk
      rw [h] at q
      exact hk q.symm
  have hn' : 2 ≤ n' ∧ n' < 1000 ∧ nl + 1 ≤ n' := by
    rcases y8 with ⟨_, e, z, _⟩ | ⟨_, _, z, e, _⟩
    · exact ⟨by omega, by omega, by omega⟩
    · exact ⟨by omega, by omega, by omega⟩
  have F7 : ∀ k, gK w k ≠ none → k ≠ 144 → k ≠ 145 → (gK w7 k = gK w k ∧ ∀ j, gR w7 k j = gR w k j) ∧ ∀ j, gV w7 k j = gV w6 k j := fun k hk h4 h5 => by
    obtain ⟨u1, u2, u3⟩ := y7 k h4 h5 (nE' k hk h5)
    exact ⟨⟨u1.trans (K6 k hk).1, fun j => (u3 j).trans ((K6 k hk).2 j)⟩, u2⟩
  have S7 : SOK w7 := S.o144 (fun k _ h4 h5 hk => (F7 k hk h4 h5).1) y1
  refine s_gfR (KF S7 rfl) (RF S7 rfl) (s_dO (s_gfR (KF S7 rfl) (RF S7 rfl) (s_dO (s_cO y1 ?_))))
  unfold wp_J2_size
  have S8 : SOK (sV w7 100 0 0) := S7
  refine s_gfI y1 y4 (s_cO (KF S7 rfl) (Eq.mpr (x0_done S7) ?_))
  have e2 : nl + 1 - 1 = nl := by omega
  rw [e2]
  unfold wp_X5_law
  refine s_pfI (KF S8 rfl) ?_
  have S9 : SOK (sV (sV w7 100 0 0) 0 0 0) := S7
  have V9 : ∀ k j, gK w k ≠ none → k ≠ 144 → k ≠ 145 → ¬ (k = 100 ∧ (j = 11 ∨ j = 12 ∨ j = 0)) → ¬ (k = 0 ∧ j = 0) → gV (sV (sV w7 100 0 0) 0 0 0) k j = gV w k j := fun k j hk a b c d => (gV_ne d).trans ((gV_ne (by omega)).trans (((F7 k hk a b).2 j).trans (V6 k j hk (by omega))))
  have x100 : ∀ j, j ≠ 0 → gV (sV (sV w7 100 0 0) 0 0 0) 100 j = gV w6 100 j := fun j hj => (gV_ne (by omega)).trans ((gV_ne (by omega)).trans ((F7 100 (lv (by omega)) (by decide) (by decide)).2 j))
  have x0 : gV (sV (sV w7 100 0 0) 0 0 0) 100 0 = 0 := (gV_ne (by omega)).trans gV_at
  have x144 : gV (sV (sV w7 100 0 0) 0 0 0) 144 2 = nl + 1 := (gV_ne (by omega)).trans ((gV_ne (by omega)).trans y4)
  have xhi : ∀ k j, 1000 ≤ k → gV (sV (sV w7 100 0 0) 0 0 0) k j = gV w7 k j := fun k j hk => (gV_ne (by omega)).trans (gV_ne (by omega))
  have m9 : Sm w7 (sV (sV w7 100 0 0) 0 0 0) := Sm.rf.sV.sV
  generalize sV (sV w7 100 0 0) 0 0 0 = w9 at *
  have n3 : gV w9 3 3 = nl := (V9 3 3 (lv (by omega)) (by decide) (by decide) (by omega) (by omega)).trans hnn
  have N400 := sc.2.2.1
  have hTT : TTX (gV w 12) (gV w 0 13) w9 := ⟨S9, ⟨N400.2.1, N400.2.2⟩, V9 0 13 (lv (by omega)) (by decide) (by decide) (by omega) (by omega), fun q a b => ⟨V9 12 q (lv (by omega)) (by decide) (by decide) (by omega) (by omega), (sc.2.2.2.1 q a b).1, (sc.2.2.2.1 q a b).2.1⟩⟩
  have hC : ConR w9 := R.2.2.2.2.1.fr (fun k j hk => V9 k j (lv (by omega)) (by omega) (by omega) (by omega) (by omega))
  refine s_gfA (KF S9 rfl) (RF S9 rfl) (s_alI (KF S9 rfl) (by decide) ⟨by decide, by decide⟩ n3 (s_ckI ⟨by omega, by omega⟩ (s_br (fun _ => s_cO (KF S9 rfl) ?_) (fun y => absurd hnl y))))
  refine q5_text_readLaw hTT hC (fun l9 t9 q wA fA v19 v18 D => ?_) (fun e2 q w5 f5 v19 v18 v13 => by rw [hr] at q; cases q)
  rw [hr] at q
  injection q with q
  injection q with q1 q2
  subst q1
  have SA := S9.sm fA.1
  refine y5_lawS SA v19 D ((fA.2 3 3 (by omega) (by omega) (by decide)).trans n3) ⟨nl0, by omega⟩ (fun wF mF vF g01 g33 g1 gr gc => ?_)
  have mm : Sm w7 wF := (m9.tr fA.1).tr mF
  have VF : ∀ k j, gK w k ≠ none → k ≠ 144 → k ≠ 145 → ¬ (k = 100 ∧ (j = 11 ∨ j = 12 ∨ j = 0)) → ¬ (k = 0 ∧ (j = 0 ∨ j = 1 ∨ (13 ≤ j ∧ j ≤ 21) ∨ j = 23 ∨ j = 26 ∨ j = 29 ∨ j = 30)) → ¬ (22 ≤ k ∧ k ≤ 28) → k ≠ 54 → ¬ (k = 3 ∧ (j = 3 ∨ (116 + 900 * nl ≤ j ∧ j < 116 + 900 * nl + 900))) → gV wF k j = gV w k j := fun k j hk a b c d e g h => (vF k j (by omega) h).trans ((fA.2 k j (by omega) e g).trans (V9 k j hk a b c (by omega)))
  have VFh : ∀ k j, 1000 ≤ k → gV wF k j = gV w7 k j := fun k j hk => (vF k j (by omega) (by omega)).trans ((fA.2 k j (by omega) (by omega) (by omega)).trans (xhi k j hk))
  have IF : TIW wF := I7.sm mm
  have SF : SOK wF := S7.sm mm
  have V100 : ∀ j, gV wF 100 j = gV w9 100 j := fun j => (vF 100 j (by omega) (by omega)).trans (fA.2 100 j (by omega) (by omega) (by decide))
  have V0 : ∀ j, j ≠ 1 → gV wF 0 j = gV wA 0 j := fun j hj => vF 0 j (by omega) (by omega)
  have v144 : gV wF 144 2 = nl + 1 := (vF 144 2 (by omega) (by omega)).trans ((fA.2 144 2 (by omega) (by omega) (by decide)).trans x144)
  -- all that is told
  have sF : ∀ u : Wd, (∀ k j, k ≠ 145 → gV u k j = gV wF k j) → ScaR u (i + 6) := fun u hu => by
    have h13 : gV u 0 13 = 0 := (hu 0 13 (by decide)).trans ((V0 13 (by decide)).trans D.1.1)
    have h18 : gV u 0 18 = -1 := (hu 0 18 (by decide)).trans ((V0 18 (by decide)).trans v18)
    refine ScaR.tx sc ((hu 100 0 (by decide)).trans ((V100 0).trans x0)) ((hu 0 1 (by decide)).trans g01) ⟨?_, by rw [h13]; decide, by rw [h13]; decide⟩ ⟨?_, by rw [h18]; decide, by rw [h18]; decide⟩ ((hu 0 20 (by decide)).trans ((V0 20 (by decide)).trans D.1.2)) (fun k j hk => (hu k j (by omega)).trans (VF k j (lv (by omega)) (by omega) (by omega) (by omega) (by omega) (by omega) (by omega) (by omega)))
    · rw [hu 100 11 (by decide), V100, x100 11 (by decide), y11, h13]
    · rw [hu 100 12 (by decide), V100, x100 12 (by decide), y12, h18]
  -- the new law, where it was made
  have c9 : LawR w6 k28 (fun j => gV wF 3 (116 + 900 * nl + j)) := by
    refine lawR_of ⟨hk28, k6, rl6⟩ C6 (ws_rd N400.2.1 hr) D.2.2.2.2.1 D.2.2.1 g1 (fun i c hc o o1 o2 => ?_) (fun i p hp => ?_)
    · exact gr i c hc o o1 o2
    · exact gc i p hp
  -- high cells
  have H6 : ∀ k, 1000 ≤ k → gK w6 k ≠ none → gK wF k = gK w6 k ∧ (∀ j, gV wF k j = gV w6 k j) ∧ ∀ j, gR wF k j = gR w6 k j := fun k hk hn => by
    have ne : k ≠ E' := fun y => by
      rcases hE' with h | ⟨h, _⟩
      · omega
      · exact hn (y ▸ h)
    obtain ⟨u1, u2, u3⟩ := y7 k (by omega) (by omega) ne
    exact ⟨(mm.1 k).trans u1, fun j => (VFh k j hk).trans (u2 j), fun j => (mm.2 k j).trans (u3 j)⟩
  have HF6 : Hi w6 wF := H6
  have H06 : Hi w w6 := fun k hk hn => ⟨(K6 k hn).1, fun j => V6 k j hn (by omega), (K6 k hn).2⟩
  have rF : ∀ k j, gK w k ≠ none → k ≠ 144 → k ≠ 145 → gR wF k j = gR w k j := fun k j hk a b => (mm.2 k j).trans ((F7 k hk a b).1.2 j)
  have kF : ∀ k, gK w k ≠ none → k ≠ 144 → k ≠ 145 → gK wF k = gK w k := fun k hk a b => (mm.1 k).trans (F7 k hk a b).1.1
  have img : ∀ q : Nat, q < 2 → gV wF 5 q = 0 → gR wF 103 q = none := fun q hq h0 => (rF 103 _ (lv (by omega)) (by decide) (by decide)).trans (R.img0 q hq (by rw [← VF 5 q (lv (by omega)) (by decide) (by decide) (by omega) (by omega) (by omega) (by decide) (by omega)]; exact h0))
  have o4 : gV wF 3 4 = gV w 3 4 := VF 3 4 (lv (by omega)) (by decide) (by decide) (by omega) (by omega) (by omega) (by decide) (by omega)
  have oL : ∀ j, 116 ≤ j → j < 116 + 900 * nl → gV wF 3 j = gV w 3 j := fun j a b => VF 3 j (lv (by omega)) (by decide) (by decide) (by omega) (by omega) (by omega) (by decide) (by omega)
  refine hK _ _ _ rfl ⟨by omega, by omega⟩ ?_
  by_cases zE : E' = 145
  · subst zE
    refine (REL.lawE R SF (H06.tr HF6) (fun k h8 h5 hk => ?_) (fun j => rF 104 j (lv (by omega)) (by decide) (by decide)) (fun k j hk h1 h2 => VF k j hk (by omega) (by omega) (by omega) (by omega) (by omega) (by omega) (by omega)) (sF wF (fun _ _ _ => rfl)) ?_ (IF.tid img)).rkr
    · by_cases z4 : k = 144
      · subst z4
        exact ⟨((mm.1 144).trans y1).trans lw.1.symm, fun _ y => absurd rfl y⟩
      · exact ⟨kF k hk z4 h5, fun _ _ j => rF k j hk z4 h5⟩
    · exact LawsR.more lw hnn (by omega) (H06.tr HF6) ((mm.1 144).trans y1) ((mm.2 144 1).trans y2) ((mm.1 145).trans y3) hn' v144 (fun q a b => (mm.2 145 q).trans ((y5 q a b).trans (a145.2 q))) ((mm.2 145 nl).trans y6) (c9.hi HF6 (fun _ _ _ => rfl)) g33 o4 oL (fun q hq => (mm.2 145 q).trans (y10 q hq))
  · obtain ⟨hE6, hE0⟩ := hE'.resolve_left zE
    have y8b := y8.resolve_left (fun y => zE y.1)
    have kE : gK wF E' = some (.inr (4, n')) := (mm.1 E').trans y3
    have r144 : gR wF 144 1 = some E' := (mm.2 144 1).trans y2
    -- nothing else refers to the new array
    have only : ∀ k j, gK wF k ≠ none → gR wF k j = some E' → k = 144 ∧ j = 1 := fun k j hk hr9 => by
      rw [mm.1] at hk
      rw [mm.2] at hr9
      have dead : ∀ q jj, gK w6 q ≠ none → gR w6 q jj ≠ some E' := fun q jj hq y => (I6.2 q jj E' hq y).1 hE6
      by_cases h4 : k = 144
      · by_cases h1 : j = 1
        · exact ⟨h4, h1⟩
        · rw [h4, y9 j h1] at hr9
          exact absurd hr9 (dead 144 j (kd_ne L6.1))
      · exfalso
        by_cases h5 : k = 145
        · rw [h5, y8b.2.2.2.2.2.2.1] at hr9
          exact dead 145 j (kd_ne L6.2.2.1) hr9
        · by_cases hEE : k = E'
          · rw [hEE] at hr9
            by_cases q1 : j < 0 ∨ nl < j
            · rw [y8b.2.2.2.2.2.2.2 j q1] at hr9; cases hr9
            · by_cases q2 : j = nl
              · rw [q2, y6] at hr9
                injection hr9 with hr9
                rw [hr9] at k6
                rw [k6] at hE6
                cases hE6
              · rw [y5 j (by omega) (by omega)] at hr9
                exact dead 145 j (kd_ne L6.2.2.1) hr9
          · obtain ⟨u1, u2, u3⟩ := y7 k h4 h5 hEE
            rw [u1] at hk
            rw [u3] at hr9
            exact dead k j hk hr9
    have n145 : ∀ k j, gK wF k ≠ none → k ≠ 145 → gR wF k j ≠ some 145 := fun k j hk _ y => by
      obtain ⟨z1, z2⟩ := (IF.2 k j 145 hk y).2.1 rfl
      rw [z1, z2, r144] at y
      injection y with y
      exact zE y
    have rk := rk_rek (w := wF) (a := 145) (E := E') (by decide) hE0 (fun k hk => (IF.1 k hk).1) n145
    refine ⟨_, rkW 145 E' wF, rk, if_neg (by decide), if_neg (by decide), ?_⟩
    have hR6 : ∀ k j, 1000 ≤ k → gK w6 k ≠ none → gR wF k j ≠ some E' := fun k j hk hn y => by
      have q := only k j (by rw [(H6 k hk hn).1]; exact hn) y
      omega
    have HH : Hi w6 (rkW 145 E' wF) := rk_hi (by decide) HF6 hE6 hR6
    have r9 : ∀ k j, gK w k ≠ none → k ≠ 144 → k ≠ 145 → gR (rkW 145 E' wF) k j = gR w k j := fun k j hk a b => by
      rw [rk_R b (fun y => a (only k j (by rw [kF k hk a b]; exact hk) y).1)]
      exact rF k j hk a b
    have k9 : ∀ k, gK w k ≠ none → k ≠ 145 → gK (rkW 145 E' wF) k = gK wF k := fun k hk b => rk_K b (nE' k hk b)
    refine REL.lawE R (SF.rk (Or.inl rfl) hE0) (H06.tr HH) (fun k h8 h5 hk => ?_) (fun j => r9 104 j (lv (by omega)) (by decide) (by decide)) (fun k j hk h1 h2 => ?_) (sF _ (fun k j h5 => rk_V h5)) ?_ (IF.rk hE0 (kd_ne kE) r144 only img)
    · by_cases z4 : k = 144
      · subst z4
        refine ⟨?_, fun _ y => absurd rfl y⟩
        rw [k9 144 hk h5, mm.1, y1, lw.1]
      · exact ⟨(k9 k hk h5).trans (kF k hk z4 h5), fun _ _ j => r9 k j hk z4 h5⟩
    · rw [rk_V (by omega)]
      exact VF k j hk (by omega) (by omega) (by omega) (by omega) (by omega) (by omega) (by omega)
    · have e3 : gV (rkW 145 E' wF) 3 = gV wF 3 := funext fun j => rk_V (by decide)
      rw [e3]
      have hi145 : ∀ q y, gR w6 145 q = some y → y ≠ E' := fun q y hy u => (I6.2 145 q y (kd_ne L6.2.2.1) hy).1 (by rw [u]; exact hE6)
      refine LawsR.more lw hnn (by omega) (H06.tr HH) ?_ (rk_RE (by decide) r144) ?_ hn' ((rk_V (by decide)).trans v144) (fun q a b => ?_) ?_ (c9.hi HH (fun _ _ _ => rfl)) g33 o4 oL (fun q hq => by rw [rk_aR, mm.2, y10 q hq]; rfl)
      · rw [k9 144 (kd_ne lw.1) (by decide), mm.1]; exact y1
      · rw [rk_aK (by omega)]; exact kE
      · have g : gR wF E' q = gR w6 145 q := (mm.2 E' q).trans (y5 q a b)
        rw [rk_aR, g, a145.2]
        cases e : gR w 145 q with
        | none => rfl
        | some y =>
          have ny := hi145 q y ((a145.2 q).trans e)
          show some (if y = E' then 145 else y) = some y
          rw [if_neg ny]
      · have g : gR wF E' nl = some k28 := (mm.2 E' nl).trans y6
        have n28' : k28 ≠ E' := fun y => by rw [y] at k6; rw [k6] at hE6; cases hE6
        rw [rk_aR, g]
        show some (if k28 = E' then 145 else k28) = some k28
        rw [if_neg n28']
theorem op_law (R : REL w i) (hb : 18000 ≤ bc ∧ 84000 ≤ bs) (hK : ∀ r r2 w', r = r2 → inI r → RKR w' (i + 6) → K r r2 w') : wp_X0_law 100 bc bs w fun r w1 => wp_X5_law 0 w1 fun r2 w2 => K r r2 w2 := by
  have S := R.1
  have sc := R.2.2.2.2.2.2.1
  have lw := R.2.1.2.2.2
  have s11 := sc.2.2.1
  unfold wp_X0_law
  refine s_gfI (KF S rfl) s11.1 (s_pfI (KF S rfl) ?_)
  have S1 : SOK (sV w 100 11 0) := S
  refine s_gfR (KF S1 rfl) (RF S1 rfl) (s_dO (s_gfR (KF S1 rfl) (RF S1 rfl) (s_dO (s_cO (KF S1 rfl) ?_))))
  unfold wp_J2_size
  have nl0 := lw.2.2.2.2.1
  have nl6 := lw.2.2.2.2.2.1
  refine s_gfI (KF S1 rfl) ((gV_ne (by omega)).trans lw.2.2.2.1) (s_ckI ⟨by omega, by omega⟩ (s_br (fun hnl => ?_) (fun y => ?_)))
  · have n16 : nfA 16 = 8 := rfl
    have T1 : TPE (gV w 12) (gV w 0 13) (sV w 100 11 0) := R.tpe.fr rfl (fun q => gV_ne (by omega))
    have I1 : TIW (sV w 100 11 0) := R.tiw.sm Sm.rf.sV
    refine ⟨⟨by omega, by omega⟩, fun k11 hk11 hn11 => ?_⟩
    have S2 : SOK (nK (sV w 100 11 0) k11 (.inl 16)) := S1.old (fun k hk => by
      have e : k ≠ k11 := fun y => hk (y ▸ hn11)
      exact ⟨by rw [gK_nK, if_neg e], fun j => by rw [gR_nK, if_neg e]⟩)
    refine s_gfA (KF S2 rfl) (RF S2 rfl) ⟨2, 5, ⟨by omega, by omega⟩, x7_init hn11 hk11 T1 I1 ⟨by decide, by decide⟩ (fun w14 li E ini => ?_)⟩
    have f := ini.2.2.2.2.1
    have S14 : SOK w14 := S1.old (fun k hk => ⟨(f k hk).1, (f k hk).2.1⟩)
    refine s_cO (KF S14 rfl) ⟨2807, 12030, ⟨by omega, by omega⟩, ?_⟩
    unfold wp_X0_reads
    have hN := s11.2
    refine s_dO (s_gf2 ini.2.1.1.2.1 ⟨2807, 12030, ⟨Nat.le_refl _, Nat.le_refl _⟩, x6_read wkc_law ini (by omega) (by omega) (fun l2 t er w3 E3 n3 P3 => ?_) (fun e er k7 w8 f8 I8 k8 v8 => ?_)⟩)
    · have f3 := P3.2.2.1
      have S3 : SOK w3 := S1.old (fun k hk => ⟨(f3 k hk).1, (f3 k hk).2.1⟩)
      refine s_pfI (KF S3 rfl) (s_zr (Or.inr rfl) (s_ckI ⟨by decide, by decide⟩ (s_br (fun _ => ?_) (fun y => absurd (by decide) y))))
      exact law_ok R er P3 hnl ⟨by omega, by omega⟩ hK
    · have S8 : SOK w8 := S1.old (fun k hk => ⟨(f8 k hk).1, (f8 k hk).2.1⟩)
      refine s_cO k8 (s_gfI k8 v8 (s_pfI (KF S8 rfl) (s_zr (Or.inl rfl) (s_ckI ⟨by decide, by decide⟩ (s_br (fun y => absurd rfl y) (fun _ => ?_))))))
      have S9 : SOK (sV w8 100 12 e) := S8
      have ee : 0 ≤ e ∧ e ≤ gV w 0 13 := by
        have q := claS_ok (T := gV w 12) (N := gV w 0 13) (ord := false) (m := 0) (LOK.st (T := gV w 12) hN.1)
        have e0 : rdS (gV w 12) (gV w 0 13) false = match claS (gV w 12) (gV w 0 13) false 0 (nxS (gV w 12) (gV w 0 13) (0, 0, 0, 0)) with
          | .error e => .error e
          | .ok (c, s2) => rdL (gV w 12) (gV w 0 13) false 401 [c] s2 := rfl
        cases ec : claS (gV w 12) (gV w 0 13) false 0 (nxS (gV w 12) (gV w 0 13) (0, 0, 0, 0)) with
        | error p =>
          rw [ec] at q e0
          rw [er] at e0
          injection e0 with e0
          rw [e0]
          exact q
        | ok z =>
          obtain ⟨c, s2⟩ := z
          rw [ec] at q e0
          have q : OKR _ _ _ s2 := q
          have rl := rdL_ok (T := gV w 12) (N := gV w 0 13) (ord := false) 401 [c] s2 q.1
          have e0 : rdS (gV w 12) (gV w 0 13) false = rdL (gV w 12) (gV w 0 13) false 401 [c] s2 := e0
          rw [er] at e0
          rw [← e0] at rl
          exact rl
      exact s_cO (KF S9 rfl) (law_bad R f8 I8 ⟨hN.2, ee.1, by omega⟩ er hnl hK)
  · have h6 : gV w 3 3 = 6 := Decidable.not_not.mp y
    refine s_cO (KF S1 rfl) ?_
    unfold wp_X5_law
    repeat' (with_reducible first | (refine s_gfI (by with_unfolding_all exact KF S rfl) (by repeat (first | exact rd_at | (apply rd_eq; omega) | (apply rd_ne; focus omega) | assumption | exact rfl)) ?_) | refine s_gfA (by with_unfolding_all exact KF S rfl) (by with_unfolding_all exact RF S rfl) ?_ | refine s_gfR (by with_unfolding_all exact KF S rfl) (by with_unfolding_all exact RF S rfl) ?_ | refine s_dO ?_ | refine s_cO (by with_unfolding_all exact KF S rfl) ?_ | (refine s_alI (by with_unfolding_all exact KF S rfl) (by decide) ⟨by omega, by omega⟩ (by repeat (first | exact rd_at | (apply rd_eq; omega) | (apply rd_ne; focus omega) | assumption | exact rfl)) ?_) | refine s_asI (by with_unfolding_all exact KF S rfl) (by decide) ⟨by omega, by omega⟩ ?_ | refine s_pfI (by with_unfolding_all exact KF S rfl) ?_ | refine s_pfZ (by with_unfolding_all exact KF S rfl) (by omega) ?_ | refine s_ckI (by first | assumption | exact b2i_in | exact ⟨by omega, by omega⟩) ?_ | refine s_ckL (by first | assumption | exact ⟨by omega, by omega⟩ | exact inIL b2i_in) ?_ | refine s_ckN (by omega) ?_ | refine s_zrb ?_ | refine s_zr (by omega) ?_ | ((refine s_br0 (fun _ => ?_) (fun _ => ?_) <;> try (exfalso; first | omega | contradiction))) | ((refine s_br1 (fun _ => ?_) (fun _ => ?_) <;> try (exfalso; first | omega | contradiction))) | ((refine s_br (fun _ => ?_) (fun _ => ?_) <;> try (exfalso; first | omega | contradiction))) | refine Eq.mpr (x0_in (by first | assumption | exact b2i_in | exact ⟨by omega, by omega⟩) (by first | assumption | exact b2i_in | exact ⟨by omega, by omega⟩) (by first | assumption | exact b2i_in | exact ⟨by omega, by omega⟩)) ?_ | refine Eq.mpr (x5_in (by first | assumption | exact ⟨by omega, by omega⟩ | exact inIL b2i_in) (by first | assumption | exact ⟨by omega, by omega⟩ | exact inIL b2i_in) (by first | assumption | exact ⟨by omega, by omega⟩ | exact inIL b2i_in)) ?_ | refine Eq.mpr (x0_isBar (by first | assumption | exact b2i_in | exact ⟨by omega, by omega⟩)) ?_ | refine Eq.mpr (x0_isTooth (by first | assumption | exact b2i_in | exact ⟨by omega, by omega⟩)) ?_ | refine Eq.mpr (x0_isSet (by first | assumption | exact b2i_in | exact ⟨by omega, by omega⟩)) ?_ | refine Eq.mpr (x5_isBar (by first | assumption | exact b2i_in | exact ⟨by omega, by omega⟩)) ?_ | refine Eq.mpr (x5_isTooth (by first | assumption | exact b2i_in | exact ⟨by omega, by omega⟩)) ?_ | refine Eq.mpr (x0_table (by with_unfolding_all exact S)) ?_ | (refine Eq.mpr (x0_isBox' (by with_unfolding_all exact S) (by first | assumption | exact b2i_in | exact ⟨by omega, by omega⟩) (by repeat (first | exact rd_at | (apply rd_eq; omega) | (apply rd_ne; focus omega) | assumption | exact rfl)) (by omega)) ?_) | (refine Eq.mpr (x0_isSuitor' (by with_unfolding_all exact S) (by first | assumption | exact b2i_in | exact ⟨by omega, by omega⟩) (by repeat (first | exact rd_at | (apply rd_eq; omega) | (apply rd_ne; focus omega) | assumption | exact rfl)) (by omega)) ?_) | (refine Eq.mpr (x5_isBox' (by with_unfolding_all exact S) (by first | assumption | exact b2i_in | exact ⟨by omega, by omega⟩) (by repeat (first | exact rd_at | (apply rd_eq; omega) | (apply rd_ne; focus omega) | assumption | exact rfl)) (by omega)) ?_) | (refine Eq.mpr (x5_isSuitor' (by with_unfolding_all exact S) (by first | assumption | exact b2i_in | exact ⟨by omega, by omega⟩) (by repeat (first | exact rd_at | (apply rd_eq; omega) | (apply rd_ne; focus omega) | assumption | exact rfl)) (by omega)) ?_) | refine Eq.mpr (x0_refuse (by with_unfolding_all exact S) (by omega)) ?_ | refine Eq.mpr (x0_done (by with_unfolding_all exact S)) ?_ | refine Eq.mpr (x0_settled (by with_unfolding_all exact S)) ?_ | refine Eq.mpr (x5_settled (by with_unfolding_all exact S) (by omega)) ?_ | (refine Eq.mpr (x5_change' (by with_unfolding_all exact S) (by omega) (by repeat (first | exact rd_at | (apply rd_eq; omega) | (apply rd_ne; focus omega) | assumption | exact rfl))) ?_) | refine Eq.mpr (x5_no (by with_unfolding_all exact S) (by omega)) ?_ | refine Eq.mpr (x5_yes (by with_unfolding_all exact S) (by omega)) ?_ | refine Eq.mpr (x0_ones (by first | omega)) ?_ | refine x5_ones' (by first | omega) ?_ | refine Eq.mpr x0_isOf ?_ | refine Eq.mpr x5_is ?_)
    refine hK _ _ _ rfl ⟨by decide, by decide⟩ (REL.rkr (R.sca (Sm.rf (w := w)) (fun k j u1 u2 => ?_) (ScaR.ref3 sc (-5) ⟨by decide, by decide⟩ ?_ ?_ ?_ (fun q hq => ?_) ?_ (fun q hq => ?_) ?_ ?_ ?_ ?_ (fun k j hk => ?_))))
    all_goals try (unfold Scr at u1; unfold Sca at u2)
    all_goals simp (disch := omega) only [gV_ne, gV_at]
    all_goals first | done | omega | exact sc.2.2.2.2.1 | exact sc.2.2.2.2.2.2.1 | exact sc.2.2.2.2.2.2.2.1 | exact ⟨trivial, by decide, by decide⟩
end LAWOK
