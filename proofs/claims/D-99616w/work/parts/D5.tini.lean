/-! THE PLAIN LAW: texts: the component's reader begins -/
set_option maxRecDepth 100000
section TINI
variable {T : Int → Int} {N : Int} {ord : Bool} {w w' w0 w1 w2 : Wd} {r k n : Nat} {s t : LX} {P : Prop} {v x i e : Int} {Q : Int → Wd → Prop} {QW X : Wd → Prop} {XE : Nat → Wd → Prop} {bc bs : Nat}
theorem x7_init (hr : gK w0 r = none) (hr0 : 1000 ≤ r) (hT : TPE T N w0) (I : TIW w0) (hB : 2 ≤ bc ∧ 5 ≤ bs) (hq : ∀ w' li E, INI T N false w0 w' r li E → QW w') : wp_X7_init r (some 110) N bc bs (nK w0 r (.inl 16)) QW := by
  have q1 : gK (nK w0 r (.inl 16)) r = some (.inl 16) := by rw [gK_nK, if_pos rfl]
  unfold wp_X7_init wp_X6_init
  refine s_gf2 (Or.inl q1) (s_gf2 (Or.inl q1) ?_)
  have hc0 : ((0 : Nat) : Int) = 0 := rfl
  have hc1 : ((1 : Nat) : Int) = 1 := rfl
  have hc7 : ((7 : Nat) : Int) = 7 := rfl
  rw [hc0, hc1]
  have n18 : nfA 18 = 3 := rfl
  have NA : NEW r w0 (sV (sR (nK w0 r (.inl 16)) r 0 (some 110)) r 1 N) := NEW.rf.nK.sR.sV
  have qA : gK (sV (sR (nK w0 r (.inl 16)) r 0 (some 110)) r 1 N) r = some (.inl 16) := q1
  have rA : ∀ j, gR (sV (sR (nK w0 r (.inl 16)) r 0 (some 110)) r 1 N) r j = if j = 0 then some 110 else none := fun j => by
    rw [gR_sV, gR_sR]
    by_cases z : j = 0
    · rw [if_pos ⟨rfl, z⟩, if_pos z]
    · rw [if_neg (fun y => z y.2), if_neg z, gR_nK, if_pos rfl]
  have vA1 : gV (sV (sR (nK w0 r (.inl 16)) r 0 (some 110)) r 1 N) r 1 = N := gV_at
  have vA : ∀ j, j ≠ 1 → gV (sV (sR (nK w0 r (.inl 16)) r 0 (some 110)) r 1 N) r j = 0 := fun j y => by
    rw [gV_ne (fun z => y z.2)]
    show gV (nK w0 r (.inl 16)) r j = 0
    rw [gV_nK, if_pos rfl]
  have d110 : (110 : Nat) ≠ r := by omega
  have IA : TIW (sV (sR (nK w0 r (.inl 16)) r 0 (some 110)) r 1 N) := TIW.new (k := r) I NA hr0 (by rw [qA]; exact fun z => by cases z) (fun j x hx => by
    rw [rA] at hx
    split at hx
    · injection hx with hx
      subst hx
      exact ⟨by rw [(NA 110 d110).1, hT.2.1]; exact (fun z => by cases z), by decide, by decide, by decide⟩
    · cases hx)
  have fA : KPW w0 (sV (sR (nK w0 r (.inl 16)) r 0 (some 110)) r 1 N) := KPW.rf.ne NA hr
  generalize sV (sR (nK w0 r (.inl 16)) r 0 (some 110)) r 1 N = wA at *
  refine ⟨⟨by omega, by omega⟩, fun k2 hk2 hn2 => ⟨1, 2, ⟨by omega, by omega⟩, ?_⟩⟩
  unfold wp_J2_init wp_J1_init wp_J0_init
  have q20 : gK (nK wA k2 (.inl 18)) k2 = some (.inl 18) := by rw [gK_nK, if_pos rfl]
  refine ⟨q20, ?_⟩
  rw [hc0]
  have NB : NEW k2 wA (sV (nK wA k2 (.inl 18)) k2 0 0) := NEW.rf.nK.sV
  have qB : gK (sV (nK wA k2 (.inl 18)) k2 0 0) k2 = some (.inl 18) := q20
  have vB : gV (sV (nK wA k2 (.inl 18)) k2 0 0) k2 2 = 0 := by rw [gV_ne (by omega), gV_nK, if_pos rfl]
  have gB : ∀ j, gR (sV (nK wA k2 (.inl 18)) k2 0 0) k2 j = none := fun j => by rw [gR_sV, gR_nK, if_pos rfl]
  have IB : TIW (sV (nK wA k2 (.inl 18)) k2 0 0) := TIW.new (k := k2) IA NB hk2 (by rw [qB]; exact fun z => by cases z) (fun j x hx => by rw [gB] at hx; cases hx)
  have nk2 := fA.no hn2
  have fB : KPW w0 (sV (nK wA k2 (.inl 18)) k2 0 0) := fA.ne NB nk2
  have d2 : r ≠ k2 := fun y => by subst y; rw [qA] at hn2; cases hn2
  generalize sV (nK wA k2 (.inl 18)) k2 0 0 = wB at *
  refine s_ckI ⟨by decide, by decide⟩ (s_br (fun y => absurd y (by decide)) (fun _ => ⟨⟨by decide, by decide, by omega, by show 2 ≤ 2; omega⟩, fun k4 hk4 hn4 => ?_⟩))
  have t2 : (2 : Int).toNat = 2 := rfl
  rw [t2]
  have qBr : gK wB r = some (.inl 16) := (NB r d2).1.trans qA
  have NC : NEW k4 wB (nK wB k4 (.inr (4, 2))) := NEW.rf.nK
  have qC : gK (nK wB k4 (.inr (4, 2))) k4 = some (.inr (4, 2)) := by rw [gK_nK, if_pos rfl]
  have gC : ∀ j, gR (nK wB k4 (.inr (4, 2))) k4 j = none := fun j => by rw [gR_nK, if_pos rfl]
  have IC : TIW (nK wB k4 (.inr (4, 2))) := TIW.new (k := k4) IB NC hk4 (by rw [qC]; exact fun z => by cases z) (fun j x hx => by rw [gC] at hx; cases hx)
  have nk4 := fB.no hn4
  have fC : KPW w0 (nK wB k4 (.inr (4, 2))) := fB.ne NC nk4
  have d3 : r ≠ k4 := fun y => by subst y; rw [qBr] at hn4; cases hn4
  have d4 : k2 ≠ k4 := fun y => by subst y; rw [qB] at hn4; cases hn4
  generalize nK wB k4 (.inr (4, 2)) = wC at *
  have qCr : gK wC r = some (.inl 16) := (NC r d3).1.trans qBr
  have qC2 : gK wC k2 = some (.inl 18) := (NC k2 d4).1.trans qB
  have vC2 : gV wC k2 2 = 0 := ((NC k2 d4).2.1 2).trans vB
  have rC : ∀ j, gR wC r j = if j = 0 then some 110 else none := fun j => ((NC r d3).2.2 j).trans (((NB r d2).2.2 j).trans (rA j))
  have vCr : ∀ j, gV wC r j = gV wA r j := fun j => ((NC r d3).2.1 j).trans ((NB r d2).2.1 j)
  refine ⟨qC2, ?_⟩
  refine ⟨qCr, ?_⟩
  rw [hc1, hc7]
  have I5 : TIW (sR (sR wC k2 1 (some k4)) r 7 (some k2)) := TIW.set (TIW.set IC (by rw [qC]; exact fun z => by cases z) hk4) (by show gK wC k2 ≠ none; rw [qC2]; exact fun z => by cases z) hk2
  have rE : ∀ q j, gR (sR (sR wC k2 1 (some k4)) r 7 (some k2)) q j = if q = r ∧ j = 7 then some k2 else if q = k2 ∧ j = 1 then some k4 else gR wC q j := fun q j => by
    rw [gR_sR, gR_sR]
  have fE : KPW w0 (sR (sR wC k2 1 (some k4)) r 7 (some k2)) := (fC.ne (NEW.rf (k := k2)).sR nk2).ne (NEW.rf (k := r)).sR hr
  have hK0 := fE 110 (by rw [hT.2.1]; exact fun z => by cases z)
  refine hq _ k2 k4 ⟨hr, ⟨⟨hr0, Or.inl qCr, ?_, hT.fr hK0.1 (fun q => hK0.2.2 q)⟩, (vCr 1).trans vA1, (vCr 3).trans (vA 3 (by decide)), (vCr 4).trans (vA 4 (by decide)), (vCr 5).trans (vA 5 (by decide)), (vCr 6).trans (vA 6 (by decide))⟩, I5, qCr, fE, ⟨hr, ?_, ⟨nk2, hk2⟩, ⟨nk4, hk4⟩, ⟨qC2, ?_, qC, vC2, ⟨by decide, by decide, Int.le_refl _, by decide⟩, fun i a b => absurd b (by show ¬ i < 0; omega)⟩, fun i c hc => ?_⟩, (vCr 2).trans (vA 2 (by decide))⟩
  · rw [rE, if_neg (fun y => absurd y.2 (by decide)), if_neg (fun y => d2 y.1), rC]; rfl
  · rw [rE, if_pos ⟨rfl, rfl⟩]
  · rw [rE, if_neg (fun y => d2 y.1.symm), if_pos ⟨rfl, rfl⟩]
  · rw [List.getElem?_nil] at hc; cases hc
theorem x20_init (hr : gK w0 r = none) (hr0 : 1000 ≤ r) (hT : TPE T N w0) (I : TIW w0) (hB : 2 ≤ bc ∧ 5 ≤ bs) (hq : ∀ w' li E, INI T N true w0 w' r li E → QW w') : wp_X20_init r (some 110) N bc bs (nK w0 r (.inl 17)) QW := by
  have q1 : gK (nK w0 r (.inl 17)) r = some (.inl 17) := by rw [gK_nK, if_pos rfl]
  unfold wp_X20_init wp_X6_init
  refine s_gf2 (Or.inr q1) (s_gf2 (Or.inr q1) ?_)
  have hc0 : ((0 : Nat) : Int) = 0 := rfl
  have hc1 : ((1 : Nat) : Int) = 1 := rfl
  have hc7 : ((7 : Nat) : Int) = 7 := rfl
  rw [hc0, hc1]
  have n18 : nfA 18 = 3 := rfl
  have NA : NEW r w0 (sV (sR (nK w0 r (.inl 17)) r 0 (some 110)) r 1 N) := NEW.rf.nK.sR.sV
  have qA : gK (sV (sR (nK w0 r (.inl 17)) r 0 (some 110)) r 1 N) r = some (.inl 17) := q1
  have rA : ∀ j, gR (sV (sR (nK w0 r (.inl 17)) r 0 (some 110)) r 1 N) r j = if j = 0 then some 110 else none := fun j => by
    rw [gR_sV, gR_sR]
    by_cases z : j = 0
    · rw [if_pos ⟨rfl, z⟩, if_pos z]
    · rw [if_neg (fun y => z y.2), if_neg z, gR_nK, if_pos rfl]
  have vA1 : gV (sV (sR (nK w0 r (.inl 17)) r 0 (some 110)) r 1 N) r 1 = N := gV_at
  have vA : ∀ j, j ≠ 1 → gV (sV (sR (nK w0 r (.inl 17)) r 0 (some 110)) r 1 N) r j = 0 := fun j y => by
    rw [gV_ne (fun z => y z.2)]
    show gV (nK w0 r (.inl 17)) r j = 0
    rw [gV_nK, if_pos rfl]
  have d110 : (110 : Nat) ≠ r := by omega
  have IA : TIW (sV (sR (nK w0 r (.inl 17)) r 0 (some 110)) r 1 N) := TIW.new (k := r) I NA hr0 (by rw [qA]; exact fun z => by cases z) (fun j x hx => by
    rw [rA] at hx
    split at hx
    · injection hx with hx
      subst hx
      exact ⟨by rw [(NA 110 d110).1, hT.2.1]; exact (fun z => by cases z), by decide, by decide, by decide⟩
    · cases hx)
  have fA : KPW w0 (sV (sR (nK w0 r (.inl 17)) r 0 (some 110)) r 1 N) := KPW.rf.ne NA hr
  generalize sV (sR (nK w0 r (.inl 17)) r 0 (some 110)) r 1 N = wA at *
  refine ⟨⟨by omega, by omega⟩, fun k2 hk2 hn2 => ⟨1, 2, ⟨by omega, by omega⟩, ?_⟩⟩
  unfold wp_J2_init wp_J1_init wp_J0_init
  have q20 : gK (nK wA k2 (.inl 18)) k2 = some (.inl 18) := by rw [gK_nK, if_pos rfl]
  refine ⟨q20, ?_⟩
  rw [hc0]
  have NB : NEW k2 wA (sV (nK wA k2 (.inl 18)) k2 0 0) := NEW.rf.nK.sV
  have qB : gK (sV (nK wA k2 (.inl 18)) k2 0 0) k2 = some (.inl 18) := q20
  have vB : gV (sV (nK wA k2 (.inl 18)) k2 0 0) k2 2 = 0 := by rw [gV_ne (by omega), gV_nK, if_pos rfl]
  have gB : ∀ j, gR (sV (nK wA k2 (.inl 18)) k2 0 0) k2 j = none := fun j => by rw [gR_sV, gR_nK, if_pos rfl]
  have IB : TIW (sV (nK wA k2 (.inl 18)) k2 0 0) := TIW.new (k := k2) IA NB hk2 (by rw [qB]; exact fun z => by cases z) (fun j x hx => by rw [gB] at hx; cases hx)
  have nk2 := fA.no hn2
  have fB : KPW w0 (sV (nK wA k2 (.inl 18)) k2 0 0) := fA.ne NB nk2
  have d2 : r ≠ k2 := fun y => by subst y; rw [qA] at hn2; cases hn2
  generalize sV (nK wA k2 (.inl 18)) k2 0 0 = wB at *
  refine s_ckI ⟨by decide, by decide⟩ (s_br (fun y => absurd y (by decide)) (fun _ => ⟨⟨by decide, by decide, by omega, by show 2 ≤ 2; omega⟩, fun k4 hk4 hn4 => ?_⟩))
  have t2 : (2 : Int).toNat = 2 := rfl
  rw [t2]
  have qBr : gK wB r = some (.inl 17) := (NB r d2).1.trans qA
  have NC : NEW k4 wB (nK wB k4 (.inr (4, 2))) := NEW.rf.nK
  have qC : gK (nK wB k4 (.inr (4, 2))) k4 = some (.inr (4, 2)) := by rw [gK_nK, if_pos rfl]
  have gC : ∀ j, gR (nK wB k4 (.inr (4, 2))) k4 j = none := fun j => by rw [gR_nK, if_pos rfl]
  have IC : TIW (nK wB k4 (.inr (4, 2))) := TIW.new (k := k4) IB NC hk4 (by rw [qC]; exact fun z => by cases z) (fun j x hx => by rw [gC] at hx; cases hx)
  have nk4 := fB.no hn4
  have fC : KPW w0 (nK wB k4 (.inr (4, 2))) := fB.ne NC nk4
  have d3 : r ≠ k4 := fun y => by subst y; rw [qBr] at hn4; cases hn4
  have d4 : k2 ≠ k4 := fun y => by subst y; rw [qB] at hn4; cases hn4
  generalize nK wB k4 (.inr (4, 2)) = wC at *
  have qCr : gK wC r = some (.inl 17) := (NC r d3).1.trans qBr
  have qC2 : gK wC k2 = some (.inl 18) := (NC k2 d4).1.trans qB
  have vC2 : gV wC k2 2 = 0 := ((NC k2 d4).2.1 2).trans vB
  have rC : ∀ j, gR wC r j = if j = 0 then some 110 else none := fun j => ((NC r d3).2.2 j).trans (((NB r d2).2.2 j).trans (rA j))
  have vCr : ∀ j, gV wC r j = gV wA r j := fun j => ((NC r d3).2.1 j).trans ((NB r d2).2.1 j)
  refine ⟨qC2, ?_⟩
  refine ⟨qCr, ?_⟩
  rw [hc1, hc7]
  have I5 : TIW (sR (sR wC k2 1 (some k4)) r 7 (some k2)) := TIW.set (TIW.set IC (by rw [qC]; exact fun z => by cases z) hk4) (by show gK wC k2 ≠ none; rw [qC2]; exact fun z => by cases z) hk2
  have rE : ∀ q j, gR (sR (sR wC k2 1 (some k4)) r 7 (some k2)) q j = if q = r ∧ j = 7 then some k2 else if q = k2 ∧ j = 1 then some k4 else gR wC q j := fun q j => by
    rw [gR_sR, gR_sR]
  have fE : KPW w0 (sR (sR wC k2 1 (some k4)) r 7 (some k2)) := (fC.ne (NEW.rf (k := k2)).sR nk2).ne (NEW.rf (k := r)).sR hr
  have hK0 := fE 110 (by rw [hT.2.1]; exact fun z => by cases z)
  refine hq _ k2 k4 ⟨hr, ⟨⟨hr0, Or.inr qCr, ?_, hT.fr hK0.1 (fun q => hK0.2.2 q)⟩, (vCr 1).trans vA1, (vCr 3).trans (vA 3 (by decide)), (vCr 4).trans (vA 4 (by decide)), (vCr 5).trans (vA 5 (by decide)), (vCr 6).trans (vA 6 (by decide))⟩, I5, qCr, fE, ⟨hr, ?_, ⟨nk2, hk2⟩, ⟨nk4, hk4⟩, ⟨qC2, ?_, qC, vC2, ⟨by decide, by decide, Int.le_refl _, by decide⟩, fun i a b => absurd b (by show ¬ i < 0; omega)⟩, fun i c hc => ?_⟩, (vCr 2).trans (vA 2 (by decide))⟩
  · rw [rE, if_neg (fun y => absurd y.2 (by decide)), if_neg (fun y => d2 y.1), rC]; rfl
  · rw [rE, if_pos ⟨rfl, rfl⟩]
  · rw [rE, if_neg (fun y => d2 y.1.symm), if_pos ⟨rfl, rfl⟩]
  · rw [List.getElem?_nil] at hc; cases hc
end TINI
