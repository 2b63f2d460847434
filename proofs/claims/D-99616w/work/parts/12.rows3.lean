/-! ROWS for references, strings, statics, copies, inherited and nest calls; contracts that throw -/
def okT (t ci : Nat) : Bool := (t == 4 && decide (ci < 19)) || (t == 5 && ci == 2) || (t == 6 && ci == 3)
def asQ (w : Wd) (k t : Nat) (i : Int) (r : Option Nat) (K : Wd → Prop) : Prop := (r = none ∨ ∃ kk ci, r = some kk ∧ gK w kk = some (.inl ci) ∧ okT t ci = true) ∧ asR w k t i r K
def wnQ (w : Wd) (t bc bs : Nat) (n : Int) (K : Nat → Wd → Prop) : Prop := (0 ≤ n ∧ n ≤ 65536 ∧ 1 ≤ bc ∧ n.toNat ≤ bs) ∧ ∀ k, 1000 ≤ k → gK w k = none → K k (nK w k (.inr (t, n.toNat)))
def cpV (w : Wd) (k1 : Nat) (i1 : Int) (k2 : Nat) (i2 n : Int) : Wd := (fun k i => if k = k2 ∧ i2 ≤ i ∧ i < i2 + n then w.1 k1 (i1 + (i - i2)) else w.1 k i, w.2)
def cpR (w : Wd) (k1 : Nat) (i1 : Int) (k2 : Nat) (i2 n : Int) : Wd := (w.1, fun k i => if k = k2 ∧ i2 ≤ i ∧ i < i2 + n then w.2.1 k1 (i1 + (i - i2)) else w.2.1 k i, w.2.2)
theorem gV_cpV (w : Wd) (k1 k2 k : Nat) (i1 i2 n i : Int) : gV (cpV w k1 i1 k2 i2 n) k i = if k = k2 ∧ i2 ≤ i ∧ i < i2 + n then gV w k1 (i1 + (i - i2)) else gV w k i := rfl
theorem gR_cpV (w : Wd) (k1 k2 k : Nat) (i1 i2 n i : Int) : gR (cpV w k1 i1 k2 i2 n) k i = gR w k i := rfl
theorem gK_cpV (w : Wd) (k1 k2 k : Nat) (i1 i2 n : Int) : gK (cpV w k1 i1 k2 i2 n) k = gK w k := rfl
theorem gV_cpR (w : Wd) (k1 k2 k : Nat) (i1 i2 n i : Int) : gV (cpR w k1 i1 k2 i2 n) k i = gV w k i := rfl
theorem gR_cpR (w : Wd) (k1 k2 k : Nat) (i1 i2 n i : Int) : gR (cpR w k1 i1 k2 i2 n) k i = if k = k2 ∧ i2 ≤ i ∧ i < i2 + n then gR w k1 (i1 + (i - i2)) else gR w k i := rfl
theorem gK_cpR (w : Wd) (k1 k2 k : Nat) (i1 i2 n : Int) : gK (cpR w k1 i1 k2 i2 n) k = gK w k := rfl
theorem cE_cpV {G : GW} {w : Wd} {k1 k2 k' : Nat} {i1 i2 n : Int} (h : k' ≠ k2) : cE G (cpV w k1 i1 k2 i2 n) k' = cE G w k' := by
  have e : ∀ i', gV (cpV w k1 i1 k2 i2 n) k' i' = gV w k' i' := fun i' => by rw [gV_cpV, if_neg (fun q => h q.1)]
  have e2 : ∀ ty j, fvl G (cpV w k1 i1 k2 i2 n) k' ty j = fvl G w k' ty j := fun ty j => by
    unfold fvl
    simp only [e, gR_cpV]
  have e3 : ∀ t, arE G (cpV w k1 i1 k2 i2 n) k' t = arE G w k' t := fun t => by
    unfold arE
    simp only [e, gR_cpV]
  unfold cE
  simp only [gK_cpV, e2, e3]
theorem cE_cpR {G : GW} {w : Wd} {k1 k2 k' : Nat} {i1 i2 n : Int} (h : k' ≠ k2) : cE G (cpR w k1 i1 k2 i2 n) k' = cE G w k' := by
  have e : ∀ i', gR (cpR w k1 i1 k2 i2 n) k' i' = gR w k' i' := fun i' => by rw [gR_cpR, if_neg (fun q => h q.1)]
  have e2 : ∀ ty j, fvl G (cpR w k1 i1 k2 i2 n) k' ty j = fvl G w k' ty j := fun ty j => by
    unfold fvl
    simp only [e, gV_cpR]
  have e3 : ∀ t, arE G (cpR w k1 i1 k2 i2 n) k' t = arE G w k' t := fun t => by
    unfold arE
    simp only [e, gV_cpR]
  unfold cE
  simp only [gK_cpR, e2, e3]
def cpI (w : Wd) (k1 : Nat) (i1 : Int) (k2 : Nat) (i2 n : Int) (K : Wd → Prop) : Prop := ∃ n1 n2 : Nat, gK w k1 = some (.inr (0, n1)) ∧ gK w k2 = some (.inr (0, n2)) ∧ (0 ≤ i1 ∧ 0 ≤ i2 ∧ 0 ≤ n ∧ i1 + n ≤ n1 ∧ i2 + n ≤ n2 ∧ n1 < 2147483648 ∧ n2 < 2147483648) ∧ K (cpV w k1 i1 k2 i2 n)
def cpQ (w : Wd) (k1 : Nat) (i1 : Int) (k2 : Nat) (i2 n : Int) (K : Wd → Prop) : Prop := ∃ n1 n2 : Nat, gK w k1 = some (.inr (4, n1)) ∧ gK w k2 = some (.inr (4, n2)) ∧ (0 ≤ i1 ∧ 0 ≤ i2 ∧ 0 ≤ n ∧ i1 + n ≤ n1 ∧ i2 + n ≤ n2 ∧ n1 < 2147483648 ∧ n2 < 2147483648) ∧ (∀ i, i1 ≤ i → i < i1 + n → ∀ y, gR w k1 i = some y → ∃ ci, gK w y = some (.inl ci) ∧ okT 4 ci = true) ∧ K (cpR w k1 i1 k2 i2 n)
def nmC : Nat → String := fun c => match c with
  | 0 => RX5
  | 1 => RX0
  | 2 => RX1
  | 3 => RX2
  | 4 => RX3
  | 5 => RX4
  | 6 => RX8
  | 7 => RX9
  | 8 => RX11
  | 9 => RX12
  | 10 => RX13
  | 11 => RX15
  | 12 => RX16
  | 13 => RX17
  | 14 => RX19
  | 15 => RX18
  | 16 => RX7
  | 17 => RX20
  | 18 => RJ2
  | _ => ""
theorem clA_nm {ci : Nat} (h : ci < 19) : ∃ T, clA[ci]? = some (nmC ci, T, nfA ci) := by
  match ci, h with
  | 0, _ => exact ⟨_, rfl⟩
  | 1, _ => exact ⟨_, rfl⟩
  | 2, _ => exact ⟨_, rfl⟩
  | 3, _ => exact ⟨_, rfl⟩
  | 4, _ => exact ⟨_, rfl⟩
  | 5, _ => exact ⟨_, rfl⟩
  | 6, _ => exact ⟨_, rfl⟩
  | 7, _ => exact ⟨_, rfl⟩
  | 8, _ => exact ⟨_, rfl⟩
  | 9, _ => exact ⟨_, rfl⟩
  | 10, _ => exact ⟨_, rfl⟩
  | 11, _ => exact ⟨_, rfl⟩
  | 12, _ => exact ⟨_, rfl⟩
  | 13, _ => exact ⟨_, rfl⟩
  | 14, _ => exact ⟨_, rfl⟩
  | 15, _ => exact ⟨_, rfl⟩
  | 16, _ => exact ⟨_, rfl⟩
  | 17, _ => exact ⟨_, rfl⟩
  | 18, _ => exact ⟨_, rfl⟩
  | n + 19, h => exact absurd h (by omega)
theorem cast_Obj {ci : Nat} (h : ci < 19) : Cond.castable (nmC ci) "java/lang/Object" ∈ lw_nst := by
  match ci, h with
  | 0, _ => exact lw_n q2295 rfl
  | 1, _ => exact lw_n q2291 rfl
  | 2, _ => exact lw_n q2289 rfl
  | 3, _ => exact lw_n q2290 rfl
  | 4, _ => exact lw_n q2293 rfl
  | 5, _ => exact lw_n q2294 rfl
  | 6, _ => exact lw_n q2297 rfl
  | 7, _ => exact lw_n q2298 rfl
  | 8, _ => exact lw_n q2299 rfl
  | 9, _ => exact lw_n q2300 rfl
  | 10, _ => exact lw_n q2301 rfl
  | 11, _ => exact lw_n q2302 rfl
  | 12, _ => exact lw_n q2303 rfl
  | 13, _ => exact lw_n q2304 rfl
  | 14, _ => exact lw_n q2305 rfl
  | 15, _ => exact lw_n q2307 rfl
  | 16, _ => exact lw_n q2296 rfl
  | 17, _ => exact lw_n q2306 rfl
  | 18, _ => exact lw_n q2292 rfl
  | n + 19, h => exact absurd h (by omega)
theorem any_cast {s : State} {H : Heap} {E C : String} {a : Nat} (hc : va_Nw (.castable C E) s) (hr : ∃ cell : Cell, H[a]? = some cell ∧ cell.vm.isStatics = false ∧ s.vm.findClass C = some cell.cls) : va_Any E s H a := by
  obtain ⟨cell, h1, h2, h3⟩ := hr
  obtain ⟨kC, hkC, -⟩ := Vm.findClass_spec h3
  obtain ⟨c0, t0, f1, f2, f3⟩ := Cond.castable_spec (va_Nw.use (A := #[]) rfl hc)
  cases h3.symm.trans f1
  exact ⟨cell, h1, h2, ⟨kC, hkC⟩, fun comp h => by cases h.symm.trans f2; exact f3⟩
def aNm : Nat → String := fun t => match t with
  | 4 => "java/lang/Object"
  | 5 => "DowryBoxes$State"
  | _ => "DowryBoxes$Table"
theorem aty_nm {t : Nat} (ht : 4 ≤ t ∧ t < 7) : aty t = .object (aNm t) := by
  match t, ht with
  | 4, _ => rfl
  | 5, _ => rfl
  | 6, _ => rfl
section ROWS3
variable {x : Cx} {own : String} {cc : ByteArray} {d : Nat} {Q : State → Prop} {w : Wd} {bc bs pc : Nat} {L L' : List (Nat × Value)} {st : List Value} {ci : Nat} {C : String} {T : u_T} {index k : Nat}
theorem rcv_of (O : OK x own cc d) {H : Heap} (hP : HP (xG x) (xA x) w H) {N : Nat} (hk : gK w k = some (.inl ci)) (c : clA[ci]? = some (C, T, N)) : ∃ cell : Cell, H[adG (xG x) k]? = some cell ∧ cell.vm.isStatics = false ∧ (xs x).vm.findClass C = some cell.cls := by
  have hc := hP.at (gKs hk)
  rw [cE_obj hk] at hc
  exact va_recv O.2.1 hc c (q0 := 0) rfl
theorem any_of (O : OK x own cc d) {H : Heap} (hP : HP (xG x) (xA x) w H) {t : Nat} (hk : gK w k = some (.inl ci)) (hok : okT t ci = true) : va_Any (aNm t) (xs x) H (adG (xG x) k) := by
  unfold okT at hok
  simp only [Bool.or_eq_true, Bool.and_eq_true, beq_iff_eq, decide_eq_true_eq] at hok
  rcases hok with (⟨rfl, h⟩ | ⟨rfl, rfl⟩) | ⟨rfl, rfl⟩
  · obtain ⟨T, hT⟩ := clA_nm h
    exact any_cast (O.2.2.1.nst _ (cast_Obj h)) (rcv_of O hP hk hT)
  · obtain ⟨cell, h1, h2, h3⟩ := rcv_of O hP hk (C := RX1) (T := TX1) (N := 11) rfl
    obtain ⟨kC, hkC, -⟩ := Vm.findClass_spec h3
    have hC := (O.2.1.1 2 (RX1, TX1, 11) rfl).2
    exact ⟨cell, h1, h2, ⟨kC, hkC⟩, fun comp h => by
      have e1 := hC.1.symm.trans h
      have e2 := hC.1.symm.trans h3
      cases e1; rw [← Option.some.inj e2]; exact va_assign hC⟩
  · obtain ⟨cell, h1, h2, h3⟩ := rcv_of O hP hk (C := RX2) (T := TX2) (N := 6) rfl
    obtain ⟨kC, hkC, -⟩ := Vm.findClass_spec h3
    have hC := (O.2.1.1 3 (RX2, TX2, 6) rfl).2
    exact ⟨cell, h1, h2, ⟨kC, hkC⟩, fun comp h => by
      have e1 := hC.1.symm.trans h
      have e2 := hC.1.symm.trans h3
      cases e1; rw [← Option.some.inj e2]; exact va_assign hC⟩
theorem j_aast (O : OK x own cc d) {t : Nat} {i : Int} {r : Option Nat} {KK : Wd → Prop} (ht : 4 ≤ t ∧ t < 7) (hd : decode cc pc = .ok (.aastore, 1)) (h : asQ w k t i r KK) (K : ∀ w', KK w' → J x Q w' bc bs (pc + 1) L st) : J x Q w bc bs pc L (vR (xG x) r :: vI i :: .ref (adG (xG x) k) :: st) := by
  intro H locs cells slots ls hP hS hl h1 h2
  obtain ⟨hr, n, hk, hi, hK⟩ := h
  obtain ⟨ks, p0, g1, g2, g3, g4⟩ := hP.put (w' := sR w k i r) (gKs hk) (fun _ => rfl) (fun k' hk' => cE_sR hk')
  rw [cE_arr hk, arE_ref ht] at g3
  rw [cE_arr (show gK (sR w k i r) k = some (.inr (t, n)) from hk), arE_ref ht] at g4
  obtain ⟨e1, e2⟩ := i32_in hi
  rw [arE_upR (v := r) e2] at g4
  rcases hr with rfl | ⟨kk, ci, rfl, hkk, hok⟩
  · refine va_astqN O.1.1 O.1.2.1 O.2.1 g1 g2 hS p0 t g3 (by rw [tysG_at (xG x) ht.2, aty_nm ht]) e1 hd (fun H1 locs1 a1 a2 a3 => ?_)
    exact K _ hK H1 locs1 cells slots ls (g4 H1 a1 a2) a3 hl h1 h2
  · refine va_astqM O.1.1 O.1.2.1 O.2.1 g1 g2 hS p0 t g3 (by rw [tysG_at (xG x) ht.2, aty_nm ht]) (any_of O hP hkk hok) e1 hd (fun H1 locs1 a1 a2 a3 => ?_)
    exact K _ hK H1 locs1 cells slots ls (g4 H1 a1 a2) a3 hl h1 h2
theorem va_AO_at (O : OK x own cc d) {t : Nat} (ht : 4 ≤ t ∧ t < 7) : va_AO (aNm t) (xs x) := by
  match t, ht with
  | 4, _ => exact O.2.2.1.2.1.1
  | 5, _ => exact O.2.2.1.2.1.2.1
  | 6, _ => exact O.2.2.1.2.1.2.2
theorem j_newQ (O : OK x own cc d) {n : Int} {KK : Nat → Wd → Prop} (t : Nat) (ht : 4 ≤ t ∧ t < 7) (q : Cond.classLink own index (aNm t) ∈ lw_all) (hd : decode cc pc = .ok (.anewarray index, 3)) (h : wnQ w t bc bs n KK) (K : ∀ k w', KK k w' → J x Q w' (bc - 1) (bs - n.toNat) (pc + 3) L (.ref (adG (xG x) k) :: st)) : J x Q w bc bs pc L (vI n :: st) := by
  intro H locs cells slots ls hP hS hl h1 h2
  obtain ⟨⟨n0, n1, hb1, hb2⟩, h⟩ := h
  obtain ⟨ks, g1, g2, g3⟩ := hP
  have en : (Int32.ofInt n).toInt = n := i32_toInt ⟨by omega, by omega⟩
  refine va_newq (cl := clA) (N' := n.toNat) O.1.1 O.1.2.1 O.1.2.2.2.1 (O.1.2.2.2.2 _ q) (va_AO_at O ht) O.2.1 g2 g3 hS O.2.2.2.1 (fun e => ?_) ?_ ?_ ?_ ?_ hd (fun q cA H1 aK a1 a2 a3 => ?_)
  · rw [Int32.lt_iff_toInt_lt, en, Int32.toInt_zero] at e; omega
  · rw [Int32.toNatClampNeg, en]
  · omega
  · rw [O.2.2.2.2.2.1.2.2.1]; omega
  · rw [O.2.2.2.2.2.1.2.2.2]; omega
  · have eA : cA = (xG x).2.1 t := by
      have z1 := (aK.2 7 (cA, .object (aNm t)) rfl).2
      have z2 := (O.2.1.2 t ((xG x).2.1 t, aty t) (tysG_at (xG x) (by omega))).2
      rw [aty_nm ht] at z2
      obtain ⟨_, _, _, _, _, y1⟩ := z1
      obtain ⟨_, _, _, _, _, y2⟩ := z2
      exact Option.some.inj (y1.symm.trans y2)
    subst eA
    have ead : adG (xG x) (q + 1000) = q := by rw [O.2.2.2.2.2.2 _ (by omega)]; omega
    have hk : gK w (q + 1000) = none := fresh_of g1 a2 ead
    have hcE : (q, (Sum.inl ((xG x).2.1 t, n.toNat, .inr (.inr (.inr (.inr (fun _ => none))))) : va_E)) = (adG (xG x) (q + 1000), cE (xG x) (nK w (q + 1000) (.inr (t, n.toNat))) (q + 1000)) := by
      rw [ead, cE_arr (t := t) (n := n.toNat) (by rw [gK_nK, if_pos rfl]), arE_ref ht]
      have ee : (fun i : Nat => (gR (nK w (q + 1000) (.inr (t, n.toNat))) (q + 1000) i).map (adG (xG x))) = fun _ => none := by
        funext i
        rw [gR_nK, if_pos rfl]
        rfl
      rw [ee]
    rw [hcE] at a1 a2
    have em : ks.map (fun k => (adG (xG x) k, cE (xG x) (nK w (q + 1000) (.inr (t, n.toNat))) k)) = wsG (xG x) w ks := by
      apply List.map_congr_left
      intro b hb
      rw [cE_nK (fun e => by rw [e] at hb; exact (g1 _).mpr hb hk)]
    have hP' : HP (xG x) (xA x) (nK w (q + 1000) (.inr (t, n.toNat))) H1 := by
      refine ⟨ks ++ [q + 1000], fun k' => ?_, ?_, ?_⟩
      · rw [gK_nK, List.mem_append, List.mem_singleton]
        by_cases hkk : k' = q + 1000
        · simp [hkk]
        · simp [hkk, g1 k']
      · rw [wsG, List.map_append, em]; exact a1
      · rw [wsG, List.map_append, em]; exact a2
    have K' := K (q + 1000) _ (h (q + 1000) (by omega) hk) H1 locs (cells + 1) (slots + n.toNat) ls hP' a3 hl (by omega) (by omega)
    rw [ead] at K'
    exact K'
theorem i32_cl {i : Int} (h : 0 ≤ i) (h2 : i < 2147483648) : ¬ Int32.ofInt i < 0 ∧ (Int32.ofInt i).toNatClampNeg = i.toNat := by
  have e : (Int32.ofInt i).toInt = i := i32_toInt ⟨by omega, by omega⟩
  refine ⟨fun z => ?_, by rw [Int32.toNatClampNeg, e]⟩
  rw [Int32.lt_iff_toInt_lt, e, Int32.toInt_zero] at z
  omega
theorem cpy_V {w : Wd} {k1 k2 : Nat} {i1 i2 n : Int} (h : 0 ≤ i1 ∧ 0 ≤ i2 ∧ 0 ≤ n) : (fun j : Nat => Int32.ofInt (gV (cpV w k1 i1 k2 i2 n) k2 j)) = va_cpy (fun j : Nat => Int32.ofInt (gV w k1 j)) (fun j : Nat => Int32.ofInt (gV w k2 j)) i1.toNat i2.toNat n.toNat := by
  funext j
  unfold va_cpy
  rw [gV_cpV]
  by_cases hj : i2.toNat ≤ j ∧ j < i2.toNat + n.toNat
  · rw [if_pos hj, if_pos ⟨rfl, by omega, by omega⟩]
    congr 2
    omega
  · rw [if_neg hj, if_neg (fun e => hj ⟨by omega, by omega⟩)]
theorem cpy_R {G : GW} {w : Wd} {k1 k2 : Nat} {i1 i2 n : Int} (h : 0 ≤ i1 ∧ 0 ≤ i2 ∧ 0 ≤ n) : (fun j : Nat => (gR (cpR w k1 i1 k2 i2 n) k2 j).map (adG G)) = va_cpy (fun j : Nat => (gR w k1 j).map (adG G)) (fun j : Nat => (gR w k2 j).map (adG G)) i1.toNat i2.toNat n.toNat := by
  funext j
  unfold va_cpy
  rw [gR_cpR]
  by_cases hj : i2.toNat ≤ j ∧ j < i2.toNat + n.toNat
  · rw [if_pos hj, if_pos ⟨rfl, by omega, by omega⟩]
    congr 2
    omega
  · rw [if_neg hj, if_neg (fun e => hj ⟨by omega, by omega⟩)]
theorem hp_two {G : GW} {A : Nat → Prop} {w w' : Wd} {H : Heap} (h : HP G A w H) {k k1 : Nat} (hk : gK w k ≠ none) (hk1 : gK w k1 ≠ none) (hg : ∀ k', gK w' k' = gK w k') (hw : ∀ k', k' ≠ k → cE G w' k' = cE G w k') :
    ∃ (ks : List Nat) (q q1 : Nat), va_P G.1 clA (wsG G w ks) H ∧ va_D A (wsG G w ks) ∧ (wsG G w ks)[q]? = some (adG G k, cE G w k) ∧ (wsG G w ks)[q1]? = some (adG G k1, cE G w k1) ∧ ∀ H1 : Heap, va_P G.1 clA ((wsG G w ks).set q (adG G k, cE G w' k)) H1 → va_D A ((wsG G w ks).set q (adG G k, cE G w' k)) → HP G A w' H1 := by
  obtain ⟨ks, h1, h2, h3⟩ := h
  obtain ⟨q, hq⟩ := List.getElem?_of_mem ((h1 k).mp hk)
  obtain ⟨q1, hq1⟩ := List.getElem?_of_mem ((h1 k1).mp hk1)
  refine ⟨ks, q, q1, h2, h3, by rw [List.getElem?_map, hq]; rfl, by rw [List.getElem?_map, hq1]; rfl, fun H1 a b => ?_⟩
  rw [ws_set h3 hq hw] at a b
  exact ⟨ks, fun k' => by rw [hg k']; exact h1 k', a, b⟩
theorem rm_nat (O : OK x own cc d) (h1 : 1 ≤ d) (hroom : (st.map fun v => v.category).sum ≤ 8) : 1 ≤ (xR x).frames ∧ (st.map fun v => v.category).sum + (nativeFrameWords "java/lang/System" "arraycopy" 5 + 11) ≤ (xR x).locals ∧ (st.map fun v => v.category).sum + 14 ≤ (xR x).locals := by
  obtain ⟨r1, r2, -, -⟩ := O.2.2.2.2.2.1
  have e : nativeFrameWords "java/lang/System" "arraycopy" 5 ≤ 30 := by decide
  refine ⟨Nat.le_trans h1 r1, Nat.le_trans ?_ r2, Nat.le_trans ?_ r2⟩
  · omega
  · omega
theorem j_copyI (O : OK x own cc d) {k1 k2 : Nat} {i1 i2 n : Int} {KK : Wd → Prop} (q1 : Cond.methodLink own index arraycopyName ∈ lw_all) (h1 : 1 ≤ d) (hroom : (st.map fun v => v.category).sum ≤ 8) (hd : decode cc pc = .ok (.invokestatic index, 3)) (h : cpI w k1 i1 k2 i2 n KK) (K : ∀ w', KK w' → J x Q w' bc bs (pc + 3) L st) : J x Q w bc bs pc L (vI n :: vI i2 :: .ref (adG (xG x) k2) :: vI i1 :: .ref (adG (xG x) k1) :: st) := by
  intro H locs cells slots ls hP hS hl e1 e2
  obtain ⟨n1, n2, hk1, hk2, hb, hK⟩ := h
  obtain ⟨r1, r2, -⟩ := rm_nat O h1 hroom
  obtain ⟨ks, p0, p1, g1, g2, g3, g5, g4⟩ := hp_two (w' := cpV w k1 i1 k2 i2 n) hP (gKs hk2) (gKs hk1) (fun _ => rfl) (fun k' hk' => cE_cpV hk')
  rw [cE_arr hk2] at g3
  rw [cE_arr hk1] at g5
  rw [cE_arr (show gK (cpV w k1 i1 k2 i2 n) k2 = some (.inr (0, n2)) from hk2), show arE (xG x) (cpV w k1 i1 k2 i2 n) k2 0 = .inl (fun j : Nat => Int32.ofInt (gV (cpV w k1 i1 k2 i2 n) k2 j)) from rfl, cpy_V ⟨hb.1, hb.2.1, hb.2.2.1⟩] at g4
  obtain ⟨a1, b1⟩ := i32_cl hb.1 (by omega)
  obtain ⟨a2, b2⟩ := i32_cl hb.2.1 (by omega)
  obtain ⟨a3, b3⟩ := i32_cl hb.2.2.1 (by omega)
  refine va_copyi O.1.1 O.1.2.1 (O.1.2.2.1.trans hl.1.symm) O.1.2.2.2.1 (O.1.2.2.2.2 _ q1) (O.1.2.2.2.2 _ q485) (O.1.2.2.2.2 _ q484) (O.1.2.2.2.2 _ q153) O.2.1 g1 g2 hS p1 p0 0 0 g5 g3 (tysG_at (xG x) (t := 0) (by decide)) (tysG_at (xG x) (t := 0) (by decide)) rfl a1 a2 a3 (by rw [b1, b3]; omega) (by rw [b2, b3]; omega) (fun i _ => rfl) r1 r2 hd (fun H1 locs1 c1 c2 c3 => ?_)
  rw [b1, b2, b3] at c1 c2
  exact K _ hK H1 locs1 cells slots ls (g4 H1 c1 c2) c3 hl e1 e2
theorem j_copyQ (O : OK x own cc d) {k1 k2 : Nat} {i1 i2 n : Int} {KK : Wd → Prop} (q1 : Cond.methodLink own index arraycopyName ∈ lw_all) (h1 : 1 ≤ d) (hroom : (st.map fun v => v.category).sum ≤ 8) (hd : decode cc pc = .ok (.invokestatic index, 3)) (h : cpQ w k1 i1 k2 i2 n KK) (K : ∀ w', KK w' → J x Q w' bc bs (pc + 3) L st) : J x Q w bc bs pc L (vI n :: vI i2 :: .ref (adG (xG x) k2) :: vI i1 :: .ref (adG (xG x) k1) :: st) := by
  intro H locs cells slots ls hP hS hl e1 e2
  obtain ⟨n1, n2, hk1, hk2, hb, hel, hK⟩ := h
  obtain ⟨r1, r2, -⟩ := rm_nat O h1 hroom
  obtain ⟨ks, p0, p1, g1, g2, g3, g5, g4⟩ := hp_two (w' := cpR w k1 i1 k2 i2 n) hP (gKs hk2) (gKs hk1) (fun _ => rfl) (fun k' hk' => cE_cpR hk')
  rw [cE_arr hk2, arE_ref ⟨by decide, by decide⟩] at g3
  rw [cE_arr hk1, arE_ref ⟨by decide, by decide⟩] at g5
  rw [cE_arr (show gK (cpR w k1 i1 k2 i2 n) k2 = some (.inr (4, n2)) from hk2), arE_ref ⟨by decide, by decide⟩, cpy_R ⟨hb.1, hb.2.1, hb.2.2.1⟩] at g4
  obtain ⟨a1, b1⟩ := i32_cl hb.1 (by omega)
  obtain ⟨a2, b2⟩ := i32_cl hb.2.1 (by omega)
  obtain ⟨a3, b3⟩ := i32_cl hb.2.2.1 (by omega)
  refine va_copyM (E0 := "java/lang/Object") (E1 := "java/lang/Object") O.1.1 O.1.2.1 (O.1.2.2.1.trans hl.1.symm) O.1.2.2.2.1 (O.1.2.2.2.2 _ q1) (O.1.2.2.2.2 _ q485) (O.1.2.2.2.2 _ q484) (O.1.2.2.2.2 _ q153) O.2.1 g1 g2 hS p1 p0 4 4 g5 g3 (tysG_at (xG x) (t := 4) (by decide)) (tysG_at (xG x) (t := 4) (by decide)) a1 a2 a3 (by rw [b1, b3]; omega) (by rw [b2, b3]; omega) (fun i hi y hy => ?_) r1 r2 hd (fun H1 locs1 c1 c2 c3 => ?_)
  · rw [b1] at hy
    rw [b3] at hi
    cases e : gR w k1 ((i1.toNat + i : Nat) : Int) with
    | none => rw [e] at hy; cases hy
    | some y0 =>
      rw [e] at hy
      cases hy
      obtain ⟨ci, h7, h8⟩ := hel _ (by omega) (by omega) y0 e
      exact any_of O hP h7 h8
  · rw [b1, b2, b3] at c1 c2
    exact K _ hK H1 locs1 cells slots ls (g4 H1 c1 c2) c3 hl e1 e2
/-- a static of the JDK that holds a reference or null -/
theorem j_gets (O : OK x own cc d) {Cn n de : String} {KK : Option Nat → Prop} (hZ : va_Zq Cn n de (xA x) (xs x) (xs x).heap) (q : Cond.fieldLink own index Cn n de ∈ lw_all) (hd : decode cc pc = .ok (.getstatic index, 3)) (h : ∀ r, KK r) (K : ∀ r, KK r → J x Q w bc bs (pc + 3) L (vR (xG x) r :: st)) : J x Q w bc bs pc L st := by
  intro H locs cells slots ls hP hS hl h1 h2
  rcases hZ with hZ | ⟨t, hZ⟩
  · exact va_gets O.1.1 O.1.2.1 hZ hS O.1.2.2.2.1 (O.1.2.2.2.2 _ q) (fun _ z => z) hd (K none (h none) H locs cells slots ls hP hS hl h1 h2)
  · have K' := K (some (t + 1000)) (h _) H locs cells slots ls hP hS hl h1 h2
    have e : vR (xG x) (some (t + 1000)) = .ref t := by
      show Value.ref (adG (xG x) (t + 1000)) = _
      rw [O.2.2.2.2.2.2 _ (by omega), Nat.add_sub_cancel]
    rw [e] at K'
    exact va_gets O.1.1 O.1.2.1 hZ hS O.1.2.2.2.1 (O.1.2.2.2.2 _ q) (fun _ z => z) hd K'
theorem j_getsC (O : OK x own cc d) (q : Cond.fieldLink own index "java/lang/String" "COMPACT_STRINGS" "Z" ∈ lw_all) (hd : decode cc pc = .ok (.getstatic index, 3)) (K : J x Q w bc bs (pc + 3) L (vI 1 :: st)) : J x Q w bc bs pc L st := fun H locs cells slots ls hP hS hl h1 h2 => va_gets O.1.1 O.1.2.1 O.2.2.1.2.2.2.2.1 hS O.1.2.2.2.1 (O.1.2.2.2.2 _ q) (fun _ z => z) hd (K H locs cells slots ls hP hS hl h1 h2)
/-- String constants: the key 900 + i; their bytes: the key 800 + i -/
theorem j_ldcS (O : OK x own cc d) (i : Nat) (hi : i < 45) (e1 : (strA i).1 = own) (e2 : (strA i).2.1 = index) (hd : decode cc pc = .ok (.ldc index, 2)) (K : J x Q w bc bs (pc + 2) L (.ref (adG (xG x) (900 + i)) :: st)) : J x Q w bc bs pc L st := by
  subst e1; subst e2
  exact fun H locs cells slots ls hP hS hl h1 h2 => va_ldcS O.1.1 O.1.2.1 O.1.2.2.2.1 (O.2.2.1.2.2.2.2.2.2 i hi).1 hd (K H locs cells slots ls hP hS hl h1 h2)
def gfSv (k : Nat) (K : Nat → Prop) : Prop := ∃ i, i < 45 ∧ k = 900 + i ∧ K (800 + i)
def gfSc (k : Nat) (K : Int → Prop) : Prop := ∃ i, i < 45 ∧ k = 900 + i ∧ K 0
def alSn (k : Nat) (K : Int → Prop) : Prop := ∃ i, i < 45 ∧ k = 800 + i ∧ K ((strA i).2.2.2.length)
def alSb (k : Nat) (j : Int) (K : Int → Prop) : Prop := ∃ i, i < 45 ∧ k = 800 + i ∧ (0 ≤ j ∧ j < (strA i).2.2.2.length) ∧ K ((strA i).2.2.2.getD j.toNat 0)
theorem j_getSv (O : OK x own cc d) {KK : Nat → Prop} (q : Cond.fieldLink own index "java/lang/String" "value" "[B" ∈ lw_all) (hd : decode cc pc = .ok (.getfield index, 3)) (h : gfSv k KK) (K : ∀ v, KK v → J x Q w bc bs (pc + 3) L (.ref (adG (xG x) v) :: st)) : J x Q w bc bs pc L (.ref (adG (xG x) k) :: st) := by
  obtain ⟨i, hi, rfl, h⟩ := h
  exact fun H locs cells slots ls hP hS hl h1 h2 => vk_getf O.1.1 O.1.2.1 (O.2.2.1.2.2.2.2.2.2 i hi).2.2.2.1 hS O.1.2.2.2.1 (O.1.2.2.2.2 _ q) (fun _ z => z) hd (K _ h H locs cells slots ls hP hS hl h1 h2)
theorem j_getSc (O : OK x own cc d) {KK : Int → Prop} (q : Cond.fieldLink own index "java/lang/String" "coder" "B" ∈ lw_all) (hd : decode cc pc = .ok (.getfield index, 3)) (h : gfSc k KK) (K : ∀ v, KK v → J x Q w bc bs (pc + 3) L (vI v :: st)) : J x Q w bc bs pc L (.ref (adG (xG x) k) :: st) := by
  obtain ⟨i, hi, rfl, h⟩ := h
  exact fun H locs cells slots ls hP hS hl h1 h2 => vk_getf O.1.1 O.1.2.1 (O.2.2.1.2.2.2.2.2.2 i hi).2.2.1 hS O.1.2.2.2.1 (O.1.2.2.2.2 _ q) (fun _ z => z) hd (K _ h H locs cells slots ls hP hS hl h1 h2)
theorem j_alSn (O : OK x own cc d) {KK : Int → Prop} (hd : decode cc pc = .ok (.arraylength, 1)) (h : alSn k KK) (K : ∀ v, KK v → J x Q w bc bs (pc + 1) L (vI v :: st)) : J x Q w bc bs pc L (.ref (adG (xG x) k) :: st) := by
  obtain ⟨i, hi, rfl, h⟩ := h
  exact fun H locs cells slots ls hP hS hl h1 h2 => va_tlen O.1.1 O.1.2.1 (O.2.2.1.2.2.2.2.2.2 i hi).2.2.2.2 hS rfl hd (K _ h H locs cells slots ls hP hS hl h1 h2)
theorem str_len : ∀ i, i < 45 → (strA i).2.2.2.length < 2147483648 := by decide +kernel
theorem j_alSb (O : OK x own cc d) {j : Int} {KK : Int → Prop} (hd : decode cc pc = .ok (.baload, 1)) (h : alSb k j KK) (K : ∀ v, KK v → J x Q w bc bs (pc + 1) L (vI v :: st)) : J x Q w bc bs pc L (vI j :: .ref (adG (xG x) k) :: st) := by
  obtain ⟨i, hi, rfl, hj, h⟩ := h
  intro H locs cells slots ls hP hS hl h1 h2
  obtain ⟨e1, e2⟩ := i32_in (i := j) (n := (strA i).2.2.2.length) ⟨hj.1, hj.2, str_len i hi⟩
  refine va_tb O.1.1 O.1.2.1 (O.2.2.1.2.2.2.2.2.2 i hi).2.2.2.2 hS e1 (v := vI ((strA i).2.2.2.getD j.toNat 0)) ?_ hd (K _ h H locs cells slots ls hP hS hl h1 h2)
  show Value.int (Int32.ofInt _) = _
  rw [show (Int32.ofInt j).toNatClampNeg = j.toNat by omega]
theorem j_iushr (O : OK x own cc d) {a b : Int} (hd : decode cc pc = .ok (.iushr, 1)) (K : J x Q w bc bs (pc + 1) L (vI (((Int32.ofInt a).toUInt32 >>> ((Int32.ofInt b).toUInt32 &&& Int32.toUInt32 31)).toInt32.toInt) :: st)) : J x Q w bc bs pc L (vI b :: vI a :: st) := fun H locs cells slots ls hP hS hl h1 h2 => lv_iushr O.1.1 O.1.2.1 hd (Int32.ofInt_toInt _).symm (K H locs cells slots ls hP hS hl h1 h2)
/-- the class object of Object[]: the key 960 -/
theorem j_ldcC (O : OK x own cc d) (q : Cond.classLink own index "[Ljava/lang/Object;" ∈ lw_all) (hd : decode cc pc = .ok (.ldc index, 2)) (K : J x Q w bc bs (pc + 2) L (.ref (adG (xG x) 960) :: st)) : J x Q w bc bs pc L st := by
  intro H locs cells slots ls hP hS hl h1 h2
  intro T hT X
  obtain ⟨c0, k0, m1, m2, m3⟩ := O.2.2.1.2.2.2.1.1
  have hev : (Term.mirror "[Ljava/lang/Object;").eval (xa x) (xs x) none [] (xs x) = some (.ref (adG (xG x) 960)) := by
    simp [Term.eval, m1, m2, m3]
  obtain ⟨vm', X', step⟩ := X.ldcMirror O.1.1 O.1.2.2.2.1 (O.1.2.2.2.2 _ q) hev (g := F0 (xm x) pc ls st) rfl (by rw [O.1.2.1]; exact hd)
  obtain ⟨t, a1, b1⟩ := K H locs cells slots ls hP hS hl h1 h2 (T.setVm vm') hT X'
  exact ⟨t, step t a1, b1⟩
theorem arr_recv (O : OK x own cc d) {H : Heap} (hP : HP (xG x) (xA x) w H) {n : Nat} (hk : gK w k = some (.inr (4, n))) : ∃ cell : Cell, H[adG (xG x) k]? = some cell ∧ cell.vm.isStatics = false ∧ (xs x).vm.findClass "[Ljava/lang/Object;" = some cell.cls := by
  have hc := hP.at (gKs hk)
  rw [cE_arr hk] at hc
  have h0 : H[adG (xG x) k]? = some (vp_cell ((xG x).2.1 4) (n, arE (xG x) w k 4)) := hc 0 _ rfl
  have z2 := (O.2.1.2 4 ((xG x).2.1 4, aty 4) (tysG_at (xG x) (by decide))).2
  exact ⟨_, h0, rfl, va_nmO z2 (by rfl)⟩
theorem j_getC (O : OK x own cc d) {KK : Prop} (q : Cond.methodLink own index ⟨"java/lang/Object", "getClass", "()Ljava/lang/Class;"⟩ ∈ lw_all) (qi : Cond.instanceMethod ⟨"java/lang/Object", "getClass", "()Ljava/lang/Class;"⟩ ∈ lw_all) (qn : Cond.native ⟨"java/lang/Object", "getClass", "()Ljava/lang/Class;"⟩ ∈ lw_all) (h1 : 1 ≤ d) (hroom : (st.map fun v => v.category).sum ≤ 8) (hd : decode cc pc = .ok (.invokevirtual index, 3)) (h : (∃ n, gK w k = some (.inr (4, n))) ∧ KK) (K : KK → J x Q w bc bs (pc + 3) L (.ref (adG (xG x) 960) :: st)) : J x Q w bc bs pc L (.ref (adG (xG x) k) :: st) := by
  intro H locs cells slots ls hP hS hl e1 e2
  obtain ⟨⟨n, hk⟩, h⟩ := h
  obtain ⟨r1, -, r2⟩ := rm_nat O h1 hroom
  exact va_getC O.1.1 O.1.2.1 (O.1.2.2.1.trans hl.1.symm) O.1.2.2.2.1 (O.1.2.2.2.2 _ q) (va_Dc.use O.2.2.1.2.2.2.1.2) (O.1.2.2.2.2 _ q2311) (O.1.2.2.2.2 _ qi) (O.1.2.2.2.2 _ qn) O.2.2.1.2.2.2.1.1 (arr_recv O hP hk) r1 r2 hd (K h H locs cells slots ls hP hS hl e1 e2)
/-- checkcast of an object whose class is the one asked for, or may be cast to it by the tables -/
def ccO (w : Wd) (r : Option Nat) (cs : List Nat) (K : Prop) : Prop := (r = none ∨ ∃ kk ci, r = some kk ∧ gK w kk = some (.inl ci) ∧ ci ∈ cs) ∧ K
theorem j_castS (O : OK x own cc d) {r : Option Nat} {KK : Prop} {N : Nat} (c : clA[ci]? = some (C, T, N)) (q : Cond.classLink own index C ∈ lw_all) (hd : decode cc pc = .ok (.checkcast index, 3)) (h : ccO w r [ci] KK) (K : KK → J x Q w bc bs (pc + 3) L (vR (xG x) r :: st)) : J x Q w bc bs pc L (vR (xG x) r :: st) := by
  intro H locs cells slots ls hP hS hl h1 h2
  obtain ⟨h, hK⟩ := h
  rcases h with rfl | ⟨kk, cj, rfl, hkk, hm⟩
  · exact lv_castN O.1.1 O.1.2.1 hd (K hK H locs cells slots ls hP hS hl h1 h2)
  · rw [List.mem_singleton] at hm
    subst hm
    exact va_castE O.1.1 O.1.2.1 O.1.2.2.2.1 (O.1.2.2.2.2 _ q) (rcv_of O hP hkk c) hd (K hK H locs cells slots ls hP hS hl h1 h2)
theorem j_castY (O : OK x own cc d) {r : Option Nat} {KK : Prop} {E : String} {cs : List Nat} (c : ∀ ci ∈ cs, ci < 19 ∧ Cond.castable (nmC ci) E ∈ lw_nst) (q : Cond.classLink own index E ∈ lw_all) (hd : decode cc pc = .ok (.checkcast index, 3)) (h : ccO w r cs KK) (K : KK → J x Q w bc bs (pc + 3) L (vR (xG x) r :: st)) : J x Q w bc bs pc L (vR (xG x) r :: st) := by
  intro H locs cells slots ls hP hS hl h1 h2
  obtain ⟨h, hK⟩ := h
  rcases h with rfl | ⟨kk, cj, rfl, hkk, hm⟩
  · exact lv_castN O.1.1 O.1.2.1 hd (K hK H locs cells slots ls hP hS hl h1 h2)
  · obtain ⟨T, hT⟩ := clA_nm (c _ hm).1
    exact va_castY O.1.1 O.1.2.1 O.1.2.2.2.1 (O.1.2.2.2.2 _ q) (O.2.2.1.nst _ (c _ hm).2) (rcv_of O hP hkk hT) hd (K hK H locs cells slots ls hP hS hl h1 h2)
/-- a call of an inherited or an abstract method: x0 is named, y runs; the receiver's class is C -/
theorem run_U (O : OK x own cc d) {x0 y : MethodName} {owner : String} {b : ByteArray} {maxL index n d' mc' ms' N : Nat} {ret : Option FieldType} {As : List Value} {Qc : Nat → Array Value → State → Outcome → State → Prop} (hM : MX (xl x) (xG x) y b maxL ret d' mc' ms' (.ref (adG (xG x) k) :: As) w Qc) (hk : gK w k = some (.inl ci)) (c : clA[ci]? = some (C, T, N)) (hG : GoodIn lw_all (va_wsU own index C owner x0 y (ws_ y b maxL ret))) (hyx : y = ⟨owner, x0.name, x0.desc⟩)
    (hy : owner ≠ "java/lang/invoke/MethodHandle" ∧ owner ≠ "java/lang/invoke/VarHandle" ∧ (parseMethodDescriptor x0.desc).map (fun d => d.parameters.length) = some n) (hR : d' + 1 ≤ d) (hL : maxL ≤ 41) (hb : mc' ≤ bc ∧ ms' ≤ bs) (hn : As.length = n) (hroom : (st.map fun v => v.category).sum ≤ 8) (hd : decode cc pc = .ok (.invokevirtual index, 3)) : RunX x w bc bs pc L (As.reverse ++ .ref (adG (xG x) k) :: st) st mc' ms' (.ref (adG (xG x) k) :: As) Qc := by
  intro H locs cells slots ls hP hS hl h1 h2
  exact va_runU (As := As) (rest := st) O.1 (hM H.size) (va_cwU n O.1.2.2.2.2 hG rfl rfl rfl hyx hy (rm_in O hR hL)) ⟨PreW.blind, rcv_of O hP hk c, pre_of O hP hS _⟩ rfl hn hl.1 rfl (lv_room hroom) hd (rc_in O h1 h2 hb)
theorem run_A (O : OK x own cc d) {x0 y : MethodName} {owner : String} {b : ByteArray} {maxL index n d' mc' ms' N : Nat} {ret : Option FieldType} {As : List Value} {Qc : Nat → Array Value → State → Outcome → State → Prop} (hM : MX (xl x) (xG x) y b maxL ret d' mc' ms' (.ref (adG (xG x) k) :: As) w Qc) (hk : gK w k = some (.inl ci)) (c : clA[ci]? = some (C, T, N)) (hG : GoodIn lw_all (va_wsU own index C owner x0 y (ws_ y b maxL ret))) (hz : Cond.declares ⟨owner, x0.name, x0.desc⟩ ∈ lw_nst)
    (hy : owner ≠ "java/lang/invoke/MethodHandle" ∧ owner ≠ "java/lang/invoke/VarHandle" ∧ (parseMethodDescriptor x0.desc).map (fun d => d.parameters.length) = some n) (hR : d' + 1 ≤ d) (hL : maxL ≤ 41) (hb : mc' ≤ bc ∧ ms' ≤ bs) (hn : As.length = n) (hroom : (st.map fun v => v.category).sum ≤ 8) (hd : decode cc pc = .ok (.invokevirtual index, 3)) : RunX x w bc bs pc L (As.reverse ++ .ref (adG (xG x) k) :: st) st mc' ms' (.ref (adG (xG x) k) :: As) Qc := by
  intro H locs cells slots ls hP hS hl h1 h2
  exact va_runU (As := As) (rest := st) O.1 (hM H.size) (va_cwA n O.1.2.2.2.2 hG rfl rfl rfl (O.2.2.1.nst _ hz) hy (rm_in O hR hL)) ⟨PreW.blind, rcv_of O hP hk c, pre_of O hP hS _⟩ rfl hn hl.1 rfl (lv_room hroom) hd (rc_in O h1 h2 hb)
theorem run_IN (O : OK x own cc d) {y : MethodName} {host : String} {b : ByteArray} {maxL index n d' mc' ms' : Nat} {As : List Value} {Qc : Nat → Array Value → State → Outcome → State → Prop} (hM : MX (xl x) (xG x) y b maxL none d' mc' ms' (.ref (adG (xG x) k) :: As) w Qc) (q1 : Cond.methodLinkNest own index y host ∈ lw_nst) (q2 : Cond.instanceMethod y ∈ lw_all) (q3 : Cond.initialized y.cls ∈ lw_all) (q4 : Cond.code y b maxL none ∈ lw_all) (hi : y.name = "<init>")
    (hy : y.cls ≠ "java/lang/invoke/MethodHandle" ∧ y.cls ≠ "java/lang/invoke/VarHandle" ∧ (parseMethodDescriptor y.desc).map (fun d => d.parameters.length) = some n) (hR : d' + 1 ≤ d) (hL : maxL ≤ 41) (hb : mc' ≤ bc ∧ ms' ≤ bs) (hn : As.length = n) (hroom : (st.map fun v => v.category).sum ≤ 8) (hd : decode cc pc = .ok (.invokespecial index, 3)) : RunX x w bc bs pc L (As.reverse ++ .ref (adG (xG x) k) :: st) st mc' ms' (.ref (adG (xG x) k) :: As) Qc := by
  intro H locs cells slots ls hP hS hl h1 h2
  exact va_runIN (As := As) (rest := st) O.1 (hM H.size) ⟨va_cnB n O.1.2.2.2.2 (lw_meth q4) rfl rfl rfl (O.2.2.1.nst _ q1) (O.1.2.2.2.2 _ q3) hy (rm_in O hR hL), hi, O.1.2.2.2.2 _ q2⟩ ⟨PreW.blind, pre_of O hP hS _⟩ rfl hn hl.1 rfl (lv_room hroom) hd (rc_in O h1 h2 hb)
theorem run_SN (O : OK x own cc d) {y : MethodName} {host : String} {b : ByteArray} {maxL index n d' mc' ms' : Nat} {ret : Option FieldType} {As : List Value} {Qc : Nat → Array Value → State → Outcome → State → Prop} (hM : MX (xl x) (xG x) y b maxL ret d' mc' ms' As w Qc) (q1 : Cond.methodLinkNest own index y host ∈ lw_nst) (q2 : Cond.static y ∈ lw_all) (q3 : Cond.initialized y.cls ∈ lw_all) (q4 : Cond.code y b maxL ret ∈ lw_all)
    (hy : y.cls ≠ "java/lang/invoke/MethodHandle" ∧ y.cls ≠ "java/lang/invoke/VarHandle" ∧ (parseMethodDescriptor y.desc).map (fun d => d.parameters.length) = some n) (hR : d' + 1 ≤ d) (hL : maxL ≤ 41) (hb : mc' ≤ bc ∧ ms' ≤ bs) (hn : As.length = n) (hroom : (st.map fun v => v.category).sum ≤ 8) (hd : decode cc pc = .ok (.invokestatic index, 3)) : RunX x w bc bs pc L (As.reverse ++ st) st mc' ms' As Qc := by
  intro H locs cells slots ls hP hS hl h1 h2
  exact va_runSN (As := As) (rest := st) O.1 (hM H.size) ⟨va_cnB n O.1.2.2.2.2 (lw_meth q4) rfl rfl rfl (O.2.2.1.nst _ q1) (O.1.2.2.2.2 _ q3) hy (rm_in O hR hL), O.1.2.2.2.2 _ q2, trivial⟩ ⟨PreW.blind, pre_of O hP hS _⟩ rfl hn hl.1 rfl (lv_room hroom) hd (rc_in O h1 h2 hb)
/-- a call of Collection.toArray() on an ArrayList -/
theorem j_toArray (O : OK x own cc d) {b : ByteArray} {maxL index count d' mc' ms' : Nat} {ret : FieldType} {Qc : Option Nat → Wd → Prop} (hM : MR (xl x) (xG x) yToB b maxL ret d' mc' ms' [.ref (adG (xG x) k)] w Qc) (hk : gK w k = some (.inl 18)) (q1 : Cond.methodLink own index yToA ∈ lw_all) (q2 : Cond.selects "java/util/ArrayList" yToA yToB ∈ lw_all) (q3 : Cond.instanceMethod yToB ∈ lw_all) (q4 : Cond.initialized "java/util/ArrayList" ∈ lw_all) (q5 : Cond.code yToB b maxL (some ret) ∈ lw_all) (hR : d' + 1 ≤ d) (hL : maxL ≤ 41) (hb : mc' ≤ bc ∧ ms' ≤ bs) (hroom : (st.map fun v => v.category).sum ≤ 8) (hd : decode cc pc = .ok (.invokeinterface index count, 5)) (K : ∀ r w', Qc r w' → J x Q w' (bc - mc') (bs - ms') (pc + 5) L (vR (xG x) r :: st)) : J x Q w bc bs pc L (.ref (adG (xG x) k) :: st) := by
  intro H locs cells slots ls hP hS hl h1 h2
  have hG : GoodIn lw_all (va_wsF own index "java/util/ArrayList" yToA yToB (ws_ yToB b maxL (some ret))) := by
    refine lw_app ?_ (lw_meth q5)
    intro w hw
    simp only [List.mem_cons, List.not_mem_nil, or_false] at hw
    rcases hw with e | e | e | e
    · rw [e]; exact q1
    · rw [e]; exact q2
    · rw [e]; exact q3
    · rw [e]; exact q4
  refine va_callFq (va_runF (As := []) (rest := st) (O.2.1.1 18 _ rfl).2 O.1 (hM H.size) (va_cwF 0 O.1.2.2.2.2 hG rfl rfl rfl O.2.2.1.2.2.1 ⟨by decide, by decide, by decide +kernel⟩ (rm_in O hR hL)) ⟨PreW.blind, rcv_of O hP hk (C := RJ2) (T := TJ2) (N := 3) rfl, pre_of O hP hS _⟩ rfl rfl hl.1 rfl (lv_room hroom) hd (rc_in O h1 h2 hb)) hS (fun q _ h => aw_in O hP hS q h) (aw_in O hP hS) (fun r u t H1 locs1 ht hvm hq hB hz hk1 hS1 => ?_)
  obtain ⟨rfl, hq⟩ := hq
  rw [ht] at hB
  exact K _ _ hq H1 locs1 _ _ ls (hB.weaken (fun k _ h => aw_in O hP hS _ h)) hS1 hl (by omega) (by omega)
/-- fields of an object whose class is one of two -/
def gf2 (w : Wd) (k c1 c2 : Nat) (K : Prop) : Prop := (gK w k = some (.inl c1) ∨ gK w k = some (.inl c2)) ∧ K
end ROWS3
