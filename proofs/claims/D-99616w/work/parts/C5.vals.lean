/-! THE PLAIN LAW: texts: the component reads numbers, values -/
set_option maxRecDepth 100000
/-- k is no cell of an image that isn't there -/
def NOI (w : Wd) (k : Nat) : Prop := ∀ q : Nat, q < 2 → gR w 103 (q : Int) = none → ∀ j : Nat, j < 6 → k ≠ 150 + 10 * q + j ∧ k ≠ 324 + 6 * q + j
/-- the cells as a whole, while one reads -/
def TIW (w : Wd) : Prop := (∀ k, gK w k ≠ none → (k < 800 ∨ 1000 ≤ k) ∧ NOI w k) ∧ ∀ (k : Nat) (j : Int) (x : Nat), gK w k ≠ none → gR w k j = some x → gK w x ≠ none ∧ (x = 145 → k = 144 ∧ j = 1) ∧ (x = 155 → k = 154 ∧ j = 1) ∧ (x = 165 → k = 164 ∧ j = 1)
/-- what reading keeps: all that was there, but the reader's own places -/
def FP (r : Nat) (w w' : Wd) : Prop := ∀ k, gK w k ≠ none → gK w' k = gK w k ∧ (∀ j, gR w' k j = gR w k j) ∧ ∀ j, ¬ (k = r ∧ 3 ≤ j ∧ j ≤ 6) → gV w' k j = gV w k j
/-- one cell is new, or has changed -/
def NEW (k : Nat) (w w' : Wd) : Prop := ∀ q, q ≠ k → gK w' q = gK w q ∧ (∀ j, gV w' q j = gV w q j) ∧ ∀ j, gR w' q j = gR w q j
section VALS
variable {T : Int → Int} {N : Int} {w w' w1 w2 : Wd} {r k t n c : Nat} {s : LX} {P : Prop} {v x i : Int} {KI : Int → Prop} {KN : Nat → Prop} {KW : Wd → Prop} {Q : Int → Wd → Prop} {QW X : Wd → Prop} {XE : Nat → Wd → Prop} {bc bs : Nat}
theorem FP.rf : FP r w w := fun _ _ => ⟨rfl, fun _ => rfl, fun _ _ => rfl⟩
theorem FP.tr (h1 : FP r w w1) (h2 : FP r w1 w2) : FP r w w2 := fun k hk => by
  obtain ⟨a1, a2, a3⟩ := h1 k hk
  obtain ⟨b1, b2, b3⟩ := h2 k (by rw [a1]; exact hk)
  exact ⟨b1.trans a1, fun j => (b2 j).trans (a2 j), fun j n => (b3 j n).trans (a3 j n)⟩
theorem LW.fp (h : LW r w w') : FP r w w' := fun k _ => ⟨h.1.1 k, h.1.2 k, fun j n => h.2 k j n⟩
theorem NEW.fp (h : NEW k w w') (hk : gK w k = none) : FP r w w' := fun q hq => by
  have n : q ≠ k := fun e => hq (e ▸ hk)
  exact ⟨(h q n).1, (h q n).2.2, fun j _ => (h q n).2.1 j⟩
theorem NEW.rf : NEW k w w := fun _ _ => ⟨rfl, fun _ => rfl, fun _ => rfl⟩
theorem NEW.tr (h1 : NEW k w w1) (h2 : NEW k w1 w2) : NEW k w w2 := fun q n => ⟨(h2 q n).1.trans (h1 q n).1, fun j => ((h2 q n).2.1 j).trans ((h1 q n).2.1 j), fun j => ((h2 q n).2.2 j).trans ((h1 q n).2.2 j)⟩
theorem NEW.nK {d : Kd} (h : NEW k w w') : NEW k w (nK w' k d) := fun q n => ⟨by rw [gK_nK, if_neg n]; exact (h q n).1, fun j => by rw [gV_nK, if_neg n]; exact (h q n).2.1 j, fun j => by rw [gR_nK, if_neg n]; exact (h q n).2.2 j⟩
theorem NEW.sV {j : Int} (h : NEW k w w') : NEW k w (sV w' k j x) := fun q n => ⟨(h q n).1, fun j' => by rw [gV_ne (fun e => n e.1)]; exact (h q n).2.1 j', (h q n).2.2⟩
theorem NEW.sR {j : Int} {o : Option Nat} (h : NEW k w w') : NEW k w (sR w' k j o) := fun q n => ⟨(h q n).1, (h q n).2.1, fun j' => by rw [gR_sR, if_neg (fun e => n e.1)]; exact (h q n).2.2 j'⟩
theorem NOI.mo (h : NOI w k) (hR : ∀ q, gR w' 103 q = none → gR w 103 q = none) : NOI w' k := fun q hq e j hj => h q hq (hR _ e) j hj
theorem NOI.big (h : 1000 ≤ k) : NOI w k := fun q hq _ j hj => ⟨by omega, by omega⟩
theorem TIW.k1 (h : TIW w) (hK : ∀ q, gK w' q ≠ none → gK w q ≠ none) (hR : ∀ q, gR w' 103 q = none → gR w 103 q = none) : ∀ k, gK w' k ≠ none → (k < 800 ∨ 1000 ≤ k) ∧ NOI w' k := fun k hk => ⟨(h.1 k (hK k hk)).1, (h.1 k (hK k hk)).2.mo hR⟩
theorem TIW.sm (h : TIW w) (m : Sm w w') : TIW w' := ⟨h.k1 (fun k hk => by rw [← m.1 k]; exact hk) (fun q e => by rw [← m.2]; exact e), fun k j x hk hr => by
  rw [m.1] at hk ⊢
  rw [m.2] at hr
  exact h.2 k j x hk hr⟩
theorem TIW.new (h : TIW w) (hn : NEW k w w') (hk : 1000 ≤ k) (hKk : gK w' k ≠ none) (hR : ∀ j x, gR w' k j = some x → gK w' x ≠ none ∧ x ≠ 145 ∧ x ≠ 155 ∧ x ≠ 165) : TIW w' := by
  refine ⟨fun q hq => ?_, fun q j x hq hr => ?_⟩
  · by_cases e : q = k
    · rw [e]; exact ⟨Or.inr hk, NOI.big hk⟩
    · rw [(hn q e).1] at hq; exact ⟨(h.1 q hq).1, (h.1 q hq).2.mo (fun p e => by rw [← (hn 103 (by omega)).2.2]; exact e)⟩
  · by_cases e : q = k
    · subst e
      obtain ⟨a1, a2, a3, a4⟩ := hR j x hr
      exact ⟨a1, fun z => absurd z a2, fun z => absurd z a3, fun z => absurd z a4⟩
    · rw [(hn q e).1] at hq
      rw [(hn q e).2.2] at hr
      obtain ⟨a1, a2⟩ := h.2 q j x hq hr
      refine ⟨?_, a2⟩
      by_cases e2 : x = k
      · rw [e2]; exact hKk
      · rw [(hn x e2).1]; exact a1
theorem RDX.new (R : RDX T N w r s) (hn : NEW k w w') (hk : gK w k = none) : RDX T N w' r s := by
  obtain ⟨⟨h1, h2, h3, h4⟩, h5, h6, h7, h8, h9⟩ := R
  have nr : r ≠ k := fun e => by
    rw [← e] at hk
    rcases h2 with h2 | h2 <;> rw [hk] at h2 <;> cases h2
  have n1 : (110 : Nat) ≠ k := fun e => by
    rw [← e] at hk
    have := h4.2.1
    rw [hk] at this; cases this
  refine ⟨⟨h1, by unfold k67; rw [(hn r nr).1]; exact h2, ((hn r nr).2.2 _).trans h3, h4.fr (hn 110 n1).1 (hn 110 n1).2.1⟩, ?_, ?_, ?_, ?_, ?_⟩
  · rw [(hn r nr).2.1]; exact h5
  · rw [(hn r nr).2.1]; exact h6
  · rw [(hn r nr).2.1]; exact h7
  · rw [(hn r nr).2.1]; exact h8
  · rw [(hn r nr).2.1]; exact h9
theorem RDX.rn (R : RDX T N w r s) (hk : gK w k = none) : k ≠ r := fun e => by
  rw [e] at hk
  rcases R.1.2.1 with h | h <;> rw [hk] at h <;> cases h
/-- a fault is thrown, of the place where one stands -/
theorem x6_fault (R : RDX T N w r s) (I : TIW w) (L : LOK T N s) (hb : 1 ≤ bc ∧ 7 ≤ bs) (hX : ∀ k w', FP r w w' → TIW w' → gK w' k = some (.inl 6) → gV w' k 6 = s.1 → XE k w') : wnO w 6 bc bs fun k1 w2 => gfI2 w2 r 16 17 3 fun v3 => wp_X8_init k1 v3 w2 fun w4 => thr w4 k1 XE := by
  have hN := R.1.2.2.2.1
  have l1 := L.1
  refine ⟨⟨hb.1, hb.2⟩, fun k hk hn => ?_⟩
  have kr := R.rn hn
  have k2 : k67 (nK w k (.inl 6)) r := by unfold k67; rw [gK_nK, if_neg (Ne.symm kr)]; exact R.1.2.1
  refine s_gfI2 k2 ((gV_nK _ _ _ _ _).trans ((if_neg (Ne.symm kr)).trans R.2.2.1)) ?_
  have kk : gK (nK w k (.inl 6)) k = some (.inl 6) := by rw [gK_nK, if_pos rfl]
  unfold wp_X8_init wp_J4_init wp_J3_init_2
  refine ⟨Or.inr kk, fun o2 => ⟨Or.inr kk, fun o4 => ⟨Or.inr kk, s_ckI ⟨by decide, by decide⟩ (s_br (fun _ => ⟨Or.inr kk, ⟨Or.inr kk, ⟨Or.inr kk, s_ckI ⟨by decide, by decide⟩ (s_br (fun y => absurd rfl y) (fun _ => ⟨Or.inr kk, ⟨kk, ⟨⟨6, by decide, kk⟩, ?_⟩⟩⟩))⟩⟩⟩) (fun y => absurd rfl y))⟩⟩⟩
  have n1 : NEW k w (nK w k (.inl 6)) := NEW.rf.nK
  refine hX k _ (NEW.fp (NEW.sV (NEW.sR (NEW.sR (NEW.sR (NEW.sR (NEW.sR (NEW.sR (NEW.sR n1)))))))) hn) ?_ kk gV_at
  refine TIW.new (k := k) I (NEW.sV (NEW.sR (NEW.sR (NEW.sR (NEW.sR (NEW.sR (NEW.sR (NEW.sR n1)))))))) hk (by show gK (nK w k (.inl 6)) k ≠ none; rw [kk]; exact fun z => by cases z) (fun j x hr => ?_)
  exfalso
  simp only [gR_sV, gR_sR, gR_nK, true_and, if_true] at hr
  revert hr
  repeat' split
  all_goals (intro hr; first | cases hr | omega)
theorem x6_leaf (R : RDX T N w r s) (I : TIW w) (L : LOK T N s) (h1 : s.2.2.1 ≠ 50 → ∀ w', LW r w w' → RDX T N w' r (lvS s) → QW w') (hE : s.2.2.1 = 50 → (1 ≤ bc ∧ 7 ≤ bs) ∧ ∀ k w', FP r w w' → TIW w' → gK w' k = some (.inl 6) → gV w' k 6 = s.1 → XE k w') : wp_X6_leaf r bc bs w QW XE := by
  have l1 := L.2.2.2.1
  unfold wp_X6_leaf
  refine s_gfI2 R.1.2.1 R.2.2.2.2.1 (s_ckI ⟨by omega, by omega⟩ (s_br (fun z => ?_) (fun z => ?_)))
  · refine s_gfI2 R.1.2.1 R.2.2.2.2.1 (s_pfI2 R.1.2.1 ?_)
    have f1 : LW r w (sV w r 5 (s.2.2.1 + 1)) := LW.rf.sV (by decide)
    exact h1 z _ f1 (R.lw f1 ((gV_ne (by omega)).trans R.2.2.1) ((gV_ne (by omega)).trans R.2.2.2.1) gV_at ((gV_ne (by omega)).trans R.2.2.2.2.2))
  · have hE := hE (by omega)
    exact x6_fault R I L hE.1 hE.2
theorem x6_opens (R : RDX T N w r s) (I : TIW w) (L : LOK T N s) (h1 : s.2.2.2 ≠ 8 → ∀ w', LW r w w' → RDX T N w' r (nxS T N (dpS s 1)) → QW w') (hE : s.2.2.2 = 8 → (1 ≤ bc ∧ 7 ≤ bs) ∧ ∀ k w', FP r w w' → TIW w' → gK w' k = some (.inl 6) → gV w' k 6 = s.1 → XE k w') : wp_X6_opens r bc bs w QW XE := by
  have l1 := L.2.2.2.2
  have t := L.to
  have L0 := L.1
  unfold wp_X6_opens
  refine s_gfI2 R.1.2.1 R.2.2.2.2.2 (s_ckI ⟨by omega, by omega⟩ (s_br (fun z => ?_) (fun z => ?_)))
  · refine s_gfI2 R.1.2.1 R.2.2.2.2.2 (s_pfI2 R.1.2.1 ?_)
    have f1 : LW r w (sV w r 6 (s.2.2.2 + 1)) := LW.rf.sV (by decide)
    have R1 : RDX T N (sV w r 6 (s.2.2.2 + 1)) r (dpS s 1) := R.lw f1 ((gV_ne (by omega)).trans R.2.2.1) ((gV_ne (by omega)).trans R.2.2.2.1) ((gV_ne (by omega)).trans R.2.2.2.2.1) gV_at
    exact s_gf2 R1.1.2.1 (x6_next R1 (by show 0 ≤ s.2.1; omega) (by show s.2.1 ≤ N; omega) (fun w' f R' => h1 z w' (f1.tr f) R'))
  · have hE := hE (by omega)
    exact x6_fault R I L hE.1 hE.2
theorem x6_need {i : Nat} (hi : i < 45) (R : RDX T N w r s) (I : TIW w) (L : LOK T N s) (h1 : tkT T i s = true → ∀ w', LW r w w' → RDX T N w' r (nxS T N s) → QW w') (hE : ¬ tkT T i s = true → (1 ≤ bc ∧ 7 ≤ bs) ∧ ∀ k w', FP r w w' → TIW w' → gK w' k = some (.inl 6) → gV w' k 6 = s.1 → XE k w') : wp_X6_need r (some (900 + i)) bc bs w QW XE := by
  unfold wp_X6_need
  refine s_gf2 R.1.2.1 (x6_takes hi R L (fun z w' f R' => ?_) (fun z => ?_))
  · exact s_ckI ⟨by decide, by decide⟩ (s_br (fun _ => h1 z w' f R') (fun y => absurd (by decide) y))
  · have hE := hE z
    exact s_ckI ⟨by decide, by decide⟩ (s_br (fun y => absurd rfl y) (fun _ => x6_fault R I L hE.1 hE.2))
/-- the digits of a token -/
theorem LOK.dg (L : LOK T N s) (h : s.1 < N ∧ dgB (T s.1) = true) : ∀ q, s.1 ≤ q → q < s.2.1 → 48 ≤ T q ∧ T q ≤ 57 := by
  have e : s.2.1 = ruN T N dgB s.1 := by
    rw [L.2.1]; unfold teN
    rw [if_neg (fun y => by have h1 := of_decide_eq_true h.2; have h2 := of_decide_eq_true y.2; omega), if_pos h]
  obtain ⟨_, r2, _⟩ := ruN_sp (T := T) (P := dgB) (p := s.1) (N := N) L.1.2
  intro q a b
  rw [e] at b
  exact of_decide_eq_true (r2 q a b)
theorem tvT_mo {f : Int} {m : Nat} (hd : ∀ j : Nat, j < m → 48 ≤ T (f + j)) : (∀ k : Nat, k ≤ m → 0 ≤ tvT T f k) ∧ ∀ k : Nat, k < m → tvT T f k ≤ tvT T f (k + 1) := by
  have h0 : ∀ k : Nat, k ≤ m → 0 ≤ tvT T f k := by
    intro k
    induction k with
    | zero => intro _; exact Int.le_refl _
    | succ k ih => intro h; have := hd k (by omega); have := ih (by omega); show 0 ≤ 10 * tvT T f k + T (f + k) - 48; omega
  refine ⟨h0, fun k hk => ?_⟩
  have := hd k hk
  have := h0 k (by omega)
  show tvT T f k ≤ 10 * tvT T f k + T (f + k) - 48
  omega
theorem tvT_le {f : Int} {m : Nat} (hd : ∀ j : Nat, j < m → 48 ≤ T (f + j)) {j : Nat} : ∀ k : Nat, j ≤ k → k ≤ m → tvT T f j ≤ tvT T f k := by
  intro k
  induction k with
  | zero => intro h _; rw [Nat.le_zero.mp h]; exact Int.le_refl _
  | succ k ih =>
    intro h h2
    by_cases e : j = k + 1
    · rw [e]; exact Int.le_refl _
    · exact Int.le_trans (ih (by omega) (by omega)) ((tvT_mo hd).2 k (by omega))
theorem x6_number_35 {least most : Int} {X35 : Int → Nat → Nat → Wd → Prop} (R : RDX T N w r s) (L : LOK T N s) (hd : s.1 < N ∧ dgB (T s.1) = true) (hm : 0 ≤ most ∧ most ≤ 1000) : ∀ (m fuel j : Nat), (j : Int) + m = s.2.1 - s.1 → m < fuel → tvT T s.1 j ≤ 10 * most + 9 → (∀ v, (v = tvT T s.1 (s.2.1 - s.1).toNat ∧ v ≤ 10 * most + 9) ∨ (most < v ∧ v ≤ 10 * most + 9 ∧ most < tvT T s.1 (s.2.1 - s.1).toNat) → X35 v bc bs w) → wp_X6_number_35 Q XE X35 r least most fuel (tvT T s.1 j) (s.1 + j) bc bs w := by
  have hN := R.1.2.2.2.1
  have t := L.to
  have L0 := L.1
  have dg := L.dg hd
  have hd9 : ∀ j : Nat, j < (s.2.1 - s.1).toNat → 48 ≤ T (s.1 + j) := fun j hj => (dg _ (by omega) (by omega)).1
  intro m
  induction m with
  | zero =>
    intro fuel j h1 h2 hv hX
    obtain ⟨f, rfl⟩ : ∃ f, fuel = f + 1 := ⟨fuel - 1, by omega⟩
    have ej : j = (s.2.1 - s.1).toNat := by omega
    rw [wp_X6_number_35]
    refine s_gfI2 R.1.2.1 R.2.2.2.1 (s_ckI ⟨by omega, by omega⟩ (s_ckI ⟨by omega, by omega⟩ (s_br (fun _ => ?_) (fun y => absurd (by omega) y))))
    exact hX _ (Or.inl ⟨by rw [← ej], hv⟩)
  | succ m ih =>
    intro fuel j h1 h2 hv hX
    obtain ⟨f, rfl⟩ : ∃ f, fuel = f + 1 := ⟨fuel - 1, by omega⟩
    have v0 := (tvT_mo hd9).1 j (by omega)
    have vm := tvT_le hd9 (j := j) (s.2.1 - s.1).toNat (by omega) (Nat.le_refl _)
    have g := R.1.2.2.2.2.2 (s.1 + j) (by omega) (by omega)
    obtain ⟨c, hc⟩ : ∃ c, gV w 110 (s.1 + j) = c := ⟨_, rfl⟩
    rw [hc] at g
    have g2 := dg (s.1 + j) (by omega) (by omega)
    rw [wp_X6_number_35]
    refine s_gfI2 R.1.2.1 R.2.2.2.1 (s_ckI ⟨by omega, by omega⟩ (s_ckI ⟨by omega, by omega⟩ (s_br (fun y => absurd y (by omega)) (fun _ => s_ckI ⟨by omega, by omega⟩ (s_ckI ⟨by omega, by omega⟩ (s_br (fun z => ?_) (fun z => ?_)))))))
    · exact hX _ (Or.inr ⟨z, hv, by omega⟩)
    · refine s_gfA2 R.1.2.1 R.1.2.2.1 (s_alI R.1.2.2.2.2.1 (by decide) ⟨by omega, by omega⟩ hc ?_)
      have e1 : 10 * tvT T s.1 j + c - 48 = tvT T s.1 (j + 1) := by
        show _ = 10 * tvT T s.1 j + T (s.1 + j) - 48
        omega
      have e2 : s.1 + (j : Int) + 1 = s.1 + ((j + 1 : Nat) : Int) := by omega
      rw [e1, e2]
      exact ih f (j + 1) (by omega) (by omega) (by rw [← e1]; omega) hX
theorem x6_number {least most : Int} (R : RDX T N w r s) (I : TIW w) (L : LOK T N s) (hm : 0 ≤ least ∧ least ≤ 1000 ∧ 0 ≤ most ∧ most ≤ 1000) (h1 : ∀ v t, nuS T N least most s = .ok (v, t) → ∀ w', LW r w w' → RDX T N w' r t → Q v w') (hE : ∀ e, nuS T N least most s = .error e → (1 ≤ bc ∧ 7 ≤ bs) ∧ ∀ k w', FP r w w' → TIW w' → gK w' k = some (.inl 6) → gV w' k 6 = e → XE k w') : wp_X6_number r least most bc bs w Q XE := by
  have hN := R.1.2.2.2.1
  have t := L.to
  have L0 := L.1
  have hE9 : nuS T N least most s = .error s.1 → wnO w 6 bc bs fun k1 w2 => gfI2 w2 r 16 17 3 fun v3 => wp_X8_init k1 v3 w2 fun w4 => thr w4 k1 XE := fun e => x6_fault R I L (hE _ e).1 (hE _ e).2
  unfold wp_X6_number
  refine s_gfI2 R.1.2.1 R.2.2.1 (s_gf2 R.1.2.1 (x6_isIn R ⟨by omega, by omega⟩ (by decide) (s_ckI b2i_in ?_)))
  by_cases z : s.1 < N ∧ 48 ≤ T s.1 ∧ T s.1 ≤ 57
  · rw [b2i_t z]
    have hd : s.1 < N ∧ dgB (T s.1) = true := ⟨z.1, by unfold dgB; exact decide_eq_true z.2⟩
    refine s_br (fun _ => ?_) (fun y => absurd (by decide) y)
    refine s_gfI2 R.1.2.1 R.2.2.1 ?_
    have e0 : s.1 + ((0 : Nat) : Int) = s.1 := by omega
    have go := x6_number_35 (Q := Q) (XE := XE) (least := least) (most := most) (bc := bc) (bs := bs) (X35 := fun z7 bc9 bs10 w8 => wp_X6_number_71 Q XE r least most z7 bc9 bs10 w8) R L hd ⟨hm.2.2.1, hm.2.2.2⟩ (s.2.1 - s.1).toNat FU 0 (by omega) (by unfold FU; omega) (by show (0 : Int) ≤ 10 * most + 9; omega) (fun v hv => ?_)
    · rw [e0] at go
      exact go
    · have tv0 : v = tvT T s.1 (s.2.1 - s.1).toNat → 0 ≤ v := fun e => by
        rw [e]
        have dg := L.dg hd
        exact (tvT_mo (m := (s.2.1 - s.1).toNat) (fun j hj => (dg _ (by omega) (by omega)).1)).1 _ (Nat.le_refl _)
      unfold wp_X6_number_71 wp_X6_number_81
      refine s_ckI ⟨by omega, by omega⟩ (s_ckI ⟨by omega, by omega⟩ (s_br (fun z2 => ?_) (fun z2 => ?_)))
      · exact hE9 (if_neg (fun y => by omega))
      · refine s_ckI ⟨by omega, by omega⟩ (s_ckI ⟨by omega, by omega⟩ (s_br (fun z3 => ?_) (fun z3 => ?_)))
        · have ev : v = tvT T s.1 (s.2.1 - s.1).toNat := by omega
          have eok : nuS T N least most s = .ok (v, nxS T N s) := by
            rw [ev]
            exact if_pos ⟨hd.1, hd.2, by omega, by omega⟩
          exact s_gf2 R.1.2.1 (x6_next R (by omega) t.1.2 (fun w' f R' => h1 _ _ eok w' f R'))
        · exact hE9 (if_neg (fun y => by omega))
  · rw [b2i_f z]
    refine s_br (fun y => absurd rfl y) (fun _ => ?_)
    exact hE9 (if_neg (fun y => z ⟨y.1, by have := y.2.1; unfold dgB at this; exact of_decide_eq_true this⟩))
/-- is it this value's word? -/
theorem v_step {i : Nat} {A B : Nat → Nat → Wd → Prop} (hi : i < 45) (R : RDX T N w r s) (I : TIW w) (L : LOK T N s) (hc : gK w r = some (.inl c)) (hA : ¬ tkT T i s = true → A 0 0 w) (hB : tkT T i s = true → s.2.2.1 ≠ 50 → ∀ w', LW r w w' → RDX T N w' r (nxS T N (lvS s)) → B 0 0 w') (hE : tkT T i s = true → s.2.2.1 = 50 → (1 ≤ bc ∧ 7 ≤ bs) ∧ ∀ k w', FP r w w' → TIW w' → gK w' k = some (.inl 6) → gV w' k 6 = s.1 → XE k w') : cO w r c (xB bc bs fun mc ms => wp_X6_isValue r (some (900 + i)) mc ms w (fun r1 w2 => ckI r1 (br (r1 = 0) (A mc ms w2) (B mc ms w2))) XE) := by
  have t := L.to
  have L0 := L.1
  refine s_cO hc ?_
  by_cases z : tkT T i s = true
  · by_cases z2 : s.2.2.1 = 50
    · refine ⟨bc, bs, ⟨Nat.le_refl _, Nat.le_refl _⟩, ?_⟩
      unfold wp_X6_isValue
      refine s_gf2 R.1.2.1 (x6_is hi R L (s_ckI b2i_in ?_))
      rw [b2i_t z]
      refine s_br (fun _ => ?_) (fun y => absurd (by decide) y)
      refine s_gf2 R.1.2.1 ⟨bc, bs, ⟨Nat.le_refl _, Nat.le_refl _⟩, x6_leaf R I L (fun y => absurd z2 y) (fun _ => hE z z2)⟩
    · refine ⟨0, 0, ⟨Nat.zero_le _, Nat.zero_le _⟩, ?_⟩
      unfold wp_X6_isValue
      refine s_gf2 R.1.2.1 (x6_is hi R L (s_ckI b2i_in ?_))
      rw [b2i_t z]
      refine s_br (fun _ => ?_) (fun y => absurd (by decide) y)
      refine s_gf2 R.1.2.1 ⟨0, 0, ⟨Nat.zero_le _, Nat.zero_le _⟩, x6_leaf R I L (fun _ w1 f1 R1 => ?_) (fun y => absurd y z2)⟩
      refine s_gf2 R1.1.2.1 (x6_next R1 (by show 0 ≤ s.2.1; omega) t.1.2 (fun w2 f2 R2 => ?_))
      exact s_zr (Or.inr rfl) (s_ckI ⟨by decide, by decide⟩ (s_br (fun y => absurd y (by decide)) (fun _ => hB z z2 w2 (f1.tr f2) R2)))
  · refine ⟨0, 0, ⟨Nat.zero_le _, Nat.zero_le _⟩, ?_⟩
    unfold wp_X6_isValue
    refine s_gf2 R.1.2.1 (x6_is hi R L (s_ckI b2i_in ?_))
    rw [b2i_f z]
    refine s_br (fun y => absurd rfl y) (fun _ => ?_)
    exact s_zr (Or.inl rfl) (s_ckI ⟨by decide, by decide⟩ (s_br (fun _ => hA z) (fun y => absurd rfl y)))
theorem fiW_s {i0 k : Nat} {j : Int} (h : ¬ tkT T i0 s = true) : fiW T i0 (k + 1) j s = fiW T (i0 + 1) k (j + 1) s := if_neg h
theorem fiW_t {i0 k : Nat} {j : Int} (h : tkT T i0 s = true) : fiW T i0 (k + 1) j s = j := if_pos h
end VALS
