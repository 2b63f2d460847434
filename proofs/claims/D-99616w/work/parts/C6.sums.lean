/-! THE PLAIN LAW: texts: the component reads sums -/
set_option maxRecDepth 100000
/-- what a reading costs, in tokens -/
def CST (N : Int) {α : Type} (s : LX) (rr : PRS α) : Nat := match rr with
  | .ok (_, t) => (t.1 - s.1).toNat
  | .error _ => (N - s.1 + 1).toNat
def BGT (N : Int) {α : Type} (s : LX) (rr : PRS α) (bc bs : Nat) : Prop := 7 * CST N s rr ≤ bc ∧ 30 * CST N s rr ≤ bs
def kdR (ord : Bool) : Nat := if ord = true then 17 else 16
/-- the reader at r stands at s, all is well -/
def RDG (T : Int → Int) (N : Int) (ord : Bool) (w : Wd) (r : Nat) (s : LX) : Prop := RDX T N w r s ∧ TIW w ∧ LOK T N s ∧ gK w r = some (.inl (kdR ord))
/-- a sum's tree at k, of new nodes -/
def SuA (F : Nat → Prop) (w : Wd) : Su → Nat → Prop
  | .inner 0 v _ _ _, k => (F k ∧ 1000 ≤ k) ∧ gK w k = some (.inl 8) ∧ gV w k 0 = v
  | .inner 1 v _ _ _, k => (F k ∧ 1000 ≤ k) ∧ gK w k = some (.inl 9) ∧ gV w k 0 = v
  | .leaf, _ => False
  | .inner (_ + 2) sg _ l r, k => (F k ∧ 1000 ≤ k) ∧ gK w k = some (.inl 10) ∧ gV w k 0 = sg ∧ ∃ kl kr, gR w k 1 = some kl ∧ gR w k 2 = some kr ∧ SuA F w l kl ∧ SuA F w r kr
def GDS (T : Int → Int) (N : Int) (w : Wd) (r : Nat) (Q : Option Nat → Wd → Prop) (rr : PRS Su) : Prop := ∀ x t, rr = .ok (x, t) → ∀ k w', FP r w w' → TIW w' → RDX T N w' r t → SuA (fun q => gK w q = none) w' x k → Q (some k) w'
def BAD (w : Wd) (r : Nat) (XE : Nat → Wd → Prop) {α : Type} (rr : PRS α) : Prop := ∀ e, rr = .error e → ∀ k w', FP r w w' → TIW w' → gK w' k = some (.inl 6) → gV w' k 6 = e → XE k w'
def WKS (T : Int → Int) (N : Int) (ord : Bool) (D : Int) (S : LX → PRS Su) (WP : Nat → Nat → Nat → Wd → (Option Nat → Wd → Prop) → (Nat → Wd → Prop) → Prop) : Prop := ∀ r s w bc bs Q XE, RDG T N ord w r s → D ≤ s.2.2.2 → BGT N s (S s) bc bs → GDS T N w r Q (S s) → BAD w r XE (S s) → WP r bc bs w Q XE
section SUMS
variable {T : Int → Int} {N : Int} {ord : Bool} {w w' w1 w2 : Wd} {r k t n c : Nat} {s : LX} {P : Prop} {v x i : Int} {Q : Int → Wd → Prop} {QW X : Wd → Prop} {XE : Nat → Wd → Prop} {bc bs : Nat} {F F' : Nat → Prop}
theorem SuA.f : ∀ {x : Su} {k : Nat}, SuA F w x k → F k ∧ 1000 ≤ k ∧ gK w k ≠ none
  | .leaf, _, h => h.elim
  | .inner 0 _ _ _ _, _, h => ⟨h.1.1, h.1.2, by rw [h.2.1]; exact fun z => by cases z⟩
  | .inner 1 _ _ _ _, _, h => ⟨h.1.1, h.1.2, by rw [h.2.1]; exact fun z => by cases z⟩
  | .inner (_ + 2) _ _ _ _, _, h => ⟨h.1.1, h.1.2, by rw [h.2.1]; exact fun z => by cases z⟩
theorem SuA.mo (hF : ∀ k, F k → gK w k ≠ none → F' k ∧ gK w' k = gK w k ∧ (∀ j, gR w' k j = gR w k j) ∧ (gK w k = some (.inl 8) ∨ gK w k = some (.inl 9) ∨ gK w k = some (.inl 10) → gV w' k 0 = gV w k 0)) : ∀ (x : Su) (k : Nat), SuA F w x k → SuA F' w' x k := by
  intro x
  induction x with
  | leaf => intro k h; exact h.elim
  | inner n v _ l r il ir =>
  rcases n with _ | _ | n
  · intro k h
    obtain ⟨⟨a1, a2⟩, a3, a4⟩ := h
    obtain ⟨b1, b2, b3, b4⟩ := hF k a1 (by rw [a3]; exact fun z => by cases z)
    exact ⟨⟨b1, a2⟩, b2.trans a3, (b4 (Or.inl a3)).trans a4⟩
  · intro k h
    obtain ⟨⟨a1, a2⟩, a3, a4⟩ := h
    obtain ⟨b1, b2, b3, b4⟩ := hF k a1 (by rw [a3]; exact fun z => by cases z)
    exact ⟨⟨b1, a2⟩, b2.trans a3, (b4 (Or.inr (Or.inl a3))).trans a4⟩
  · intro k h
    obtain ⟨⟨a1, a2⟩, a3, a4, kl, kr, a5, a6, a7, a8⟩ := h
    obtain ⟨b1, b2, b3, b4⟩ := hF k a1 (by rw [a3]; exact fun z => by cases z)
    exact ⟨⟨b1, a2⟩, b2.trans a3, (b4 (Or.inr (Or.inr a3))).trans a4, kl, kr, (b3 _).trans a5, (b3 _).trans a6, il kl a7, ir kr a8⟩
theorem k67.nk (h : k67 w r) {d : Nat} (hk : gK w k = some (.inl d)) (hd : d ≠ 16 ∧ d ≠ 17) : k ≠ r := fun e => by
  subst e
  rcases h with h | h <;> rw [hk] at h <;> injection h with h <;> injection h with h <;> omega
theorem SuA.fp (f : FP r w w') (hr : k67 w r) {x : Su} (h : SuA F w x k) : SuA F w' x k := by
  refine SuA.mo (fun q a b => ?_) x k h
  obtain ⟨f1, f2, f3⟩ := f q b
  refine ⟨a, f1, f2, fun g => f3 0 (fun e => ?_)⟩
  omega
theorem SuA.we {x : Su} (hF : ∀ q, F q → F' q) (h : SuA F w x k) : SuA F' w x k := SuA.mo (fun q a _ => ⟨hF q a, rfl, fun _ => rfl, fun _ => rfl⟩) x k h
theorem SuA.ne {x : Su} (hn : NEW n w w') (hF : ¬ F n) (h : SuA F w x k) : SuA F w' x k := SuA.mo (fun q a _ => by
  have e : q ≠ n := fun e => hF (e ▸ a)
  exact ⟨a, (hn q e).1, (hn q e).2.2, fun _ => (hn q e).2.1 0⟩) x k h
theorem FP.ne (f : FP r w w1) (hn : NEW n w1 w2) (hk : gK w n = none) : FP r w w2 := fun q hq => by
  have e : q ≠ n := fun e => hq (e ▸ hk)
  obtain ⟨f1, f2, f3⟩ := f q hq
  exact ⟨(hn q e).1.trans f1, fun j => ((hn q e).2.2 j).trans (f2 j), fun j a => ((hn q e).2.1 j).trans (f3 j a)⟩
theorem FP.no (f : FP r w w') (h : gK w' k = none) : gK w k = none := by
  by_cases e : gK w k = none
  · exact e
  · exact absurd ((f k e).1.symm.trans h) e
theorem RDG.to {s2 : LX} (G : RDG T N ord w r s) (f : FP r w w') (I : TIW w') (R : RDX T N w' r s2) (L : LOK T N s2) : RDG T N ord w' r s2 := ⟨R, I, L, (f r (by rcases G.1.1.2.1 with h | h <;> rw [h] <;> exact fun z => by cases z)).1.trans G.2.2.2⟩
theorem BAD.to {α β : Type} {r1 : PRS α} {r2 : PRS β} (h : BAD w r XE r1) (f : FP r w w') (he : ∀ e, r2 = .error e → r1 = .error e) : BAD w' r XE r2 := fun e q k w2 f2 I K V => h e (he e q) k w2 (f.tr f2) I K V
theorem vaS_hit (h : vaI T ord s = v) (h1 : v ≠ -1) (h2 : ¬ (ord = true ∧ 4 ≤ v)) (h3 : s.2.2.1 ≠ 50) : vaS T N ord s = .ok (v, nxS T N (lvS s)) := by
  unfold vaS
  rw [h, if_neg h1, if_neg h3, if_neg h2]
theorem vaS_num (h : vaI T ord s = v) (h1 : v ≠ -1) (h2 : ord = true ∧ 4 ≤ v) (h3 : s.2.2.1 ≠ 50) : vaS T N ord s = match nuS T N 0 5 (nxS T N (lvS s)) with
  | .error e => .error e
  | .ok (v2, s2) => .ok ((if v = 4 then 4 + v2 else 10 + v2), s2) := by
  unfold vaS
  rw [h, if_neg h1, if_neg h3, if_pos h2]
  rfl
theorem vaS_err (h : vaI T ord s = v) (h1 : v ≠ -1) (h3 : s.2.2.1 = 50) : vaS T N ord s = .error s.1 := by
  unfold vaS
  rw [h, if_neg h1, if_pos h3]
theorem vaS_no (h : vaI T ord s = -1) : vaS T N ord s = .ok (-1, s) := by
  unfold vaS
  rw [if_pos h]
theorem x7_value (R : RDX T N w r s) (I : TIW w) (L : LOK T N s) (hc : gK w r = some (.inl 16)) (h1 : ∀ v t, vaS T N false s = .ok (v, t) → ∀ w', LW r w w' → RDX T N w' r t → Q v w') (hE : ∀ e, vaS T N false s = .error e → (1 ≤ bc ∧ 7 ≤ bs) ∧ ∀ k w', FP r w w' → TIW w' → gK w' k = some (.inl 6) → gV w' k 6 = e → XE k w') : wp_X7_value r bc bs w Q XE := by
  unfold wp_X7_value
  have e0 : vaI T false s = fiW T 20 9 0 s := rfl
  have y : ∀ v, vaI T false s = v → v ≠ -1 → (s.2.2.1 ≠ 50 → ∀ w', LW r w w' → RDX T N w' r (nxS T N (lvS s)) → Q v w') := fun v a b c => h1 v _ (vaS_hit a b (fun z => Bool.noConfusion z.1) c)
  have y2 : ∀ v, vaI T false s = v → v ≠ -1 → s.2.2.1 = 50 → (1 ≤ bc ∧ 7 ≤ bs) ∧ ∀ k w', FP r w w' → TIW w' → gK w' k = some (.inl 6) → gV w' k 6 = s.1 → XE k w' := fun v a b c => hE _ (vaS_err a b c)
  refine v_step (by decide) R I L hc (fun n0 => ?_) (fun z => y 0 (e0.trans (fiW_t z)) (by decide)) (fun z => y2 0 (e0.trans (fiW_t z)) (by decide))
  have e1 := e0.trans (fiW_s n0)
  refine v_step (by decide) R I L hc (fun n1 => ?_) (fun z => y 1 (e1.trans (fiW_t z)) (by decide)) (fun z => y2 1 (e1.trans (fiW_t z)) (by decide))
  have e2 := e1.trans (fiW_s n1)
  refine v_step (by decide) R I L hc (fun n2 => ?_) (fun z => y 2 (e2.trans (fiW_t z)) (by decide)) (fun z => y2 2 (e2.trans (fiW_t z)) (by decide))
  have e3 := e2.trans (fiW_s n2)
  refine v_step (by decide) R I L hc (fun n3 => ?_) (fun z => y 3 (e3.trans (fiW_t z)) (by decide)) (fun z => y2 3 (e3.trans (fiW_t z)) (by decide))
  have e4 := e3.trans (fiW_s n3)
  refine v_step (by decide) R I L hc (fun n4 => ?_) (fun z => y 4 (e4.trans (fiW_t z)) (by decide)) (fun z => y2 4 (e4.trans (fiW_t z)) (by decide))
  have e5 := e4.trans (fiW_s n4)
  refine v_step (by decide) R I L hc (fun n5 => ?_) (fun z => y 5 (e5.trans (fiW_t z)) (by decide)) (fun z => y2 5 (e5.trans (fiW_t z)) (by decide))
  have e6 := e5.trans (fiW_s n5)
  refine v_step (by decide) R I L hc (fun n6 => ?_) (fun z => y 6 (e6.trans (fiW_t z)) (by decide)) (fun z => y2 6 (e6.trans (fiW_t z)) (by decide))
  have e7 := e6.trans (fiW_s n6)
  refine v_step (by decide) R I L hc (fun n7 => ?_) (fun z => y 7 (e7.trans (fiW_t z)) (by decide)) (fun z => y2 7 (e7.trans (fiW_t z)) (by decide))
  have e8 := e7.trans (fiW_s n7)
  refine v_step (by decide) R I L hc (fun n8 => ?_) (fun z => y 8 (e8.trans (fiW_t z)) (by decide)) (fun z => y2 8 (e8.trans (fiW_t z)) (by decide))
  have e9 := e8.trans (fiW_s n8)
  exact h1 _ _ (vaS_no e9) w LW.rf R
theorem x20_value (R : RDX T N w r s) (I : TIW w) (L : LOK T N s) (hc : gK w r = some (.inl 17)) (h1 : ∀ v t, vaS T N true s = .ok (v, t) → ∀ w', LW r w w' → RDX T N w' r t → Q v w') (hE : ∀ e, vaS T N true s = .error e → (1 ≤ bc ∧ 7 ≤ bs) ∧ ∀ k w', FP r w w' → TIW w' → gK w' k = some (.inl 6) → gV w' k 6 = e → XE k w') : wp_X20_value r bc bs w Q XE := by
  unfold wp_X20_value
  have t := L.to
  have e0 : vaI T true s = fiW T 30 6 0 s := rfl
  have y : ∀ v, vaI T true s = v → v ≠ -1 → v < 4 → (s.2.2.1 ≠ 50 → ∀ w', LW r w w' → RDX T N w' r (nxS T N (lvS s)) → Q v w') := fun v a b d c => h1 v _ (vaS_hit a b (fun z => absurd z.2 (by omega)) c)
  have y2 : ∀ v, vaI T true s = v → v ≠ -1 → s.2.2.1 = 50 → (1 ≤ bc ∧ 7 ≤ bs) ∧ ∀ k w', FP r w w' → TIW w' → gK w' k = some (.inl 6) → gV w' k 6 = s.1 → XE k w' := fun v a b c => hE _ (vaS_err a b c)
  have y3 : ∀ (v : Int) (i : Nat), i < 45 → tkT T i s = true → vaI T true s = v → v ≠ -1 → 4 ≤ v → s.2.2.1 ≠ 50 → ∀ w', LW r w w' → RDX T N w' r (nxS T N (lvS s)) → cO w' r 17 (xB bc bs fun mc ms => wp_X6_number r 0 5 mc ms w' (fun v2 w2 => Q (if v = 4 then 4 + v2 else 10 + v2) w2) XE) := by
    intro v i hi hk a b b4 c w' f R'
    have lt := tk_lt' L hi hk
    have L' : LOK T N (nxS T N (lvS s)) := (OKR.nx (L.lv c) lt.2).1
    have ev := vaS_num (N := N) a b ⟨rfl, b4⟩ c
    refine ⟨(f.1.1 r).trans hc, bc, bs, ⟨Nat.le_refl _, Nat.le_refl _⟩, ?_⟩
    refine x6_number R' (I.sm f.1) L' (by decide) (fun v2 t2 h2 w2 f2 R2 => h1 _ _ (by rw [ev, h2]) w2 (f.tr f2) R2) (fun e h2 => ?_)
    have := hE e (by rw [ev, h2])
    exact ⟨this.1, fun k w2 f2 => this.2 k w2 (f.fp.tr f2)⟩
  refine v_step (by decide) R I L hc (fun n0 => ?_) (fun z => y 0 (e0.trans (fiW_t z)) (by decide) (by decide)) (fun z => y2 0 (e0.trans (fiW_t z)) (by decide))
  have e1 := e0.trans (fiW_s n0)
  refine v_step (by decide) R I L hc (fun n1 => ?_) (fun z => y 1 (e1.trans (fiW_t z)) (by decide) (by decide)) (fun z => y2 1 (e1.trans (fiW_t z)) (by decide))
  have e2 := e1.trans (fiW_s n1)
  refine v_step (by decide) R I L hc (fun n2 => ?_) (fun z => y 2 (e2.trans (fiW_t z)) (by decide) (by decide)) (fun z => y2 2 (e2.trans (fiW_t z)) (by decide))
  have e3 := e2.trans (fiW_s n2)
  refine v_step (by decide) R I L hc (fun n3 => ?_) (fun z => y 3 (e3.trans (fiW_t z)) (by decide) (by decide)) (fun z => y2 3 (e3.trans (fiW_t z)) (by decide))
  have e4 := e3.trans (fiW_s n3)
  refine v_step (by decide) R I L hc (fun n4 => ?_) (fun z c w' f R' => y3 4 _ (by decide) z (e4.trans (fiW_t z)) (by decide) (by decide) c w' f R') (fun z => y2 4 (e4.trans (fiW_t z)) (by decide))
  have e5 := e4.trans (fiW_s n4)
  refine v_step (by decide) R I L hc (fun n5 => ?_) (fun z c w' f R' => y3 5 _ (by decide) z (e5.trans (fiW_t z)) (by decide) (by decide) c w' f R') (fun z => y2 5 (e5.trans (fiW_t z)) (by decide))
  have e6 := e5.trans (fiW_s n5)
  exact h1 _ _ (vaS_no e6) w LW.rf R
theorem x_dValue (G : RDG T N ord w r s) (h1 : ∀ v t, vaS T N ord s = .ok (v, t) → ∀ w', LW r w w' → RDX T N w' r t → Q v w') (hE : ∀ e, vaS T N ord s = .error e → (1 ≤ bc ∧ 7 ≤ bs) ∧ ∀ k w', FP r w w' → TIW w' → gK w' k = some (.inl 6) → gV w' k 6 = e → XE k w') : wp_dValue r bc bs w Q XE := by
  obtain ⟨R, I, L, hc⟩ := G
  unfold wp_dValue
  cases ord with
  | true => exact Or.inr ⟨hc, x20_value R I L hc h1 hE⟩
  | false => exact Or.inl ⟨hc, x7_value R I L hc h1 hE⟩
/-- one part -/
theorem x6_part {D : Int} {S : LX → PRS Su} {WP : Nat → Nat → Nat → Wd → (Option Nat → Wd → Prop) → (Nat → Wd → Prop) → Prop} (hO : ∀ s, LOK T N s → RDO T N s (S s)) (hS : WKS T N ord (D + 1) S WP) : WKS T N ord D (paS T N ord S) (wp_X6_part WP) := by
  intro r s w bc bs Q XE G hD hB h1 hE
  obtain ⟨R, I, L, hc⟩ := G
  have G : RDG T N ord w r s := ⟨R, I, L, hc⟩
  have t := L.to
  have L0 := L.1
  have hN := R.1.2.2.2.1
  unfold wp_X6_part
  refine s_gf2 R.1.2.1 (x6_is (by decide) R L (s_ckI b2i_in ?_))
  by_cases g : tkT T 0 s = true
  · rw [b2i_t g]
    refine s_br (fun y => absurd y (by decide)) (fun _ => s_gf2 R.1.2.1 ?_)
    have lt := tk_lt' L (by decide) g
    by_cases g2 : s.2.2.2 = 8
    · have e9 : paS T N ord S s = .error s.1 := by unfold paS; rw [if_pos g, if_pos g2]
      rw [e9] at hB hE
      obtain ⟨hB1, hB2⟩ := hB
      unfold CST at hB1 hB2
      dsimp only at hB1 hB2
      refine ⟨bc, bs, ⟨Nat.le_refl _, Nat.le_refl _⟩, x6_opens R I L (fun y => absurd g2 y) (fun _ => ⟨by omega, hE _ rfl⟩)⟩
    · have e9 : paS T N ord S s = match S (nxS T N (dpS s 1)) with
        | .error e => .error e
        | .ok (x, s2) => if tkT T 1 s2 = true then .ok (x, dpS (nxS T N s2) (-1)) else .error s2.1 := by unfold paS; rw [if_pos g, if_neg g2]; rfl
      have h2 : LOK T N (dpS s 1) := L.dp (by have := L.2.2.2.2; omega) (by have := L.2.2.2.2; omega)
      have o1 := OKR.nx h2 lt.2
      have p1 : s.1 < (nxS T N (dpS s 1)).1 := o1.2.1
      have rO := hO _ o1.1
      have rL := o1.1.1
      refine ⟨0, 0, ⟨Nat.zero_le _, Nat.zero_le _⟩, x6_opens R I L (fun _ w1 f1 R1 => ?_) (fun y => absurd y g2)⟩
      have I1 := I.sm f1.1
      have G1 := G.to f1.fp I1 R1 o1.1
      have hD1 : D + 1 ≤ (nxS T N (dpS s 1)).2.2.2 := by have e := o1.2.2.1; have e2 : (dpS s 1).2.2.2 = s.2.2.2 + 1 := rfl; omega
      refine s_gf2 R1.1.2.1 ?_
      cases eS : S (nxS T N (dpS s 1)) with
      | error p =>
        rw [eS] at e9
        dsimp only at e9
        rw [e9] at hB hE
        obtain ⟨hB1, hB2⟩ := hB
        unfold CST at hB1 hB2
        dsimp only at hB1 hB2
        refine ⟨bc, bs, ⟨by omega, by omega⟩, hS r _ w1 _ _ _ _ G1 hD1 ?_ (fun x t e => ?_) (hE.to f1.fp (fun e q => by rw [eS] at q; exact q))⟩
        · rw [eS]; unfold BGT CST; dsimp only; omega
        · rw [eS] at e; cases e
      | ok y =>
        obtain ⟨x, s2⟩ := y
        rw [eS] at e9 rO
        dsimp only at e9
        have rO : OKR T N _ s2 := rO
        have p2 := rO.2.1
        have p3 := rO.1.1
        have hBc : 7 * (s2.1 - (nxS T N (dpS s 1)).1).toNat + 7 ≤ bc ∧ 30 * (s2.1 - (nxS T N (dpS s 1)).1).toNat + 30 ≤ bs := by
          rw [e9] at hB
          obtain ⟨hB1, hB2⟩ := hB
          by_cases g3 : tkT T 1 s2 = true
          · rw [if_pos g3] at hB1 hB2
            unfold CST at hB1 hB2
            dsimp only at hB1 hB2
            have p4 := (OKR.nx rO.1 (tk_lt' rO.1 (by decide) g3).2).2.1
            have p5 : (dpS (nxS T N s2) (-1)).1 = (nxS T N s2).1 := rfl
            omega
          · rw [if_neg g3] at hB1 hB2
            unfold CST at hB1 hB2
            dsimp only at hB1 hB2
            omega
        refine ⟨7 * (s2.1 - (nxS T N (dpS s 1)).1).toNat, 30 * (s2.1 - (nxS T N (dpS s 1)).1).toNat, ⟨by omega, by omega⟩, hS r _ w1 _ _ _ _ G1 hD1 ?_ (fun x9 t9 e k w2 f2 I2 R2 A2 => ?_) (fun e q => ?_)⟩
        · rw [eS]; unfold BGT CST; dsimp only; omega
        · rw [eS] at e
          injection e with e
          injection e with ea eb
          subst ea
          subst eb
          have f12 := f1.fp.tr f2
          refine s_gf2 R2.1.2.1 ⟨bc - 0 - 7 * (s2.1 - (nxS T N (dpS s 1)).1).toNat, bs - 0 - 30 * (s2.1 - (nxS T N (dpS s 1)).1).toNat, ⟨Nat.le_refl _, Nat.le_refl _⟩, x6_need (by decide) R2 I2 rO.1 (fun g3 w3 f3 R3 => ?_) (fun g3 => ?_)⟩
          · rw [if_pos g3] at e9
            refine s_gfI2 R3.1.2.1 R3.2.2.2.2.2 (s_pfI2 R3.1.2.1 ?_)
            have f4 : LW r w3 (sV w3 r 6 ((nxS T N s2).2.2.2 - 1)) := LW.rf.sV (by decide)
            have f5 := f3.tr f4
            refine h1 _ _ e9 k _ (f12.tr f5.fp) (I2.sm f5.1) (R3.lw f4 ((gV_ne (by omega)).trans R3.2.2.1) ((gV_ne (by omega)).trans R3.2.2.2.1) ((gV_ne (by omega)).trans R3.2.2.2.2.1) gV_at) ((SuA.fp f5.fp R2.1.2.1 A2).we (fun q a => ?_))
            rw [← f1.1.1]; exact a
          · rw [if_neg g3] at e9
            exact ⟨by omega, fun k w' f I' a b => hE _ e9 k w' (f12.tr f) I' a b⟩
        · rw [eS] at q; cases q
  · rw [b2i_f g]
    refine s_br (fun _ => ?_) (fun y => absurd rfl y)
    refine s_gfI2 R.1.2.1 R.2.2.1 (s_gf2 R.1.2.1 (x6_isIn R ⟨by omega, by omega⟩ (by decide) (s_ckI b2i_in ?_)))
    by_cases z : s.1 < N ∧ 48 ≤ T s.1 ∧ T s.1 ≤ 57
    · rw [b2i_t z]
      have hd : s.1 < N ∧ dgB (T s.1) = true := ⟨z.1, by unfold dgB; exact decide_eq_true z.2⟩
      refine s_br (fun y => absurd y (by decide)) (fun _ => s_gf2 R.1.2.1 ?_)
      by_cases g3 : s.2.2.1 = 50
      · have e9 : paS T N ord S s = .error s.1 := by unfold paS; rw [if_neg g, if_pos hd, if_pos g3]
        rw [e9] at hB hE
        obtain ⟨hB1, hB2⟩ := hB
        unfold CST at hB1 hB2
        dsimp only at hB1 hB2
        exact ⟨bc, bs, ⟨Nat.le_refl _, Nat.le_refl _⟩, x6_leaf R I L (fun y => absurd g3 y) (fun _ => ⟨by omega, hE _ rfl⟩)⟩
      · have e9 : paS T N ord S s = match nuS T N 0 1000 (lvS s) with
          | .error e => .error e
          | .ok (v, s2) => .ok (.num v, s2) := by unfold paS; rw [if_neg g, if_pos hd, if_neg g3]; rfl
        have L1 := L.lv g3
        have n1 := nuS_ok (a := 0) (b := 1000) L1
        refine ⟨0, 0, ⟨Nat.zero_le _, Nat.zero_le _⟩, x6_leaf R I L (fun _ w1 f1 R1 => ?_) (fun y => absurd y g3)⟩
        have I1 := I.sm f1.1
        have hB9 : (14 ≤ bc ∧ 60 ≤ bs) ∨ ((7 ≤ bc ∧ 30 ≤ bs) ∧ ∃ v s2, nuS T N 0 1000 (lvS s) = .ok (v, s2)) := by
          cases eS : nuS T N 0 1000 (lvS s) with
          | error p =>
            rw [eS] at e9
            dsimp only at e9
            rw [e9] at hB
            obtain ⟨hB1, hB2⟩ := hB
            unfold CST at hB1 hB2
            dsimp only at hB1 hB2
            omega
          | ok y =>
            obtain ⟨x, s2⟩ := y
            rw [eS] at e9 n1
            dsimp only at e9
            rw [e9] at hB
            have n1 : OKR T N _ s2 := n1
            have p2 : s.1 < s2.1 := n1.2.1
            obtain ⟨hB1, hB2⟩ := hB
            unfold CST at hB1 hB2
            dsimp only at hB1 hB2
            exact Or.inr ⟨by omega, x, s2, rfl⟩
        refine ⟨⟨by show 1 ≤ bc - 0; omega, by show 1 ≤ bs - 0; omega⟩, fun k hk hn => ?_⟩
        have kr := R1.rn hn
        have n9 : NEW k w1 (nK w1 k (.inl 8)) := NEW.rf.nK
        have kk : gK (nK w1 k (.inl 8)) k = some (.inl 8) := by rw [gK_nK, if_pos rfl]
        have I2 : TIW (nK w1 k (.inl 8)) := TIW.new (k := k) I1 n9 hk (by rw [kk]; exact fun z => by cases z) (fun j x hr => by
          rw [gR_nK, if_pos rfl] at hr; cases hr)
        have R2 := R1.new n9 hn
        have f2 : FP r w (nK w1 k (.inl 8)) := f1.fp.ne n9 (f1.fp.no hn)
        have hn0 := f1.fp.no hn
        refine s_gf2 R2.1.2.1 ⟨bc - 0 - 1, bs - 0 - nfA 8, ⟨Nat.le_refl _, Nat.le_refl _⟩, x6_number R2 I2 L1 (by decide) (fun v t9 e w3 f3 R3 => ?_) (fun e q => ?_)⟩
        · rw [e] at e9
          dsimp only at e9
          unfold wp_X11_init wp_X10_init
          have k3 : gK w3 k = some (.inl 8) := (f3.1.1 k).trans kk
          have n4 : NEW k w3 (sV w3 k 0 v) := NEW.rf.sV
          refine ⟨k3, ?_⟩
          have f4 : FP r w (sV w3 k 0 v) := (f2.tr f3.fp).ne n4 hn0
          refine h1 _ _ e9 k _ f4 (TIW.sm (I2.sm f3.1) ⟨fun _ => rfl, fun _ _ => rfl⟩) ?_ ⟨⟨hn0, hk⟩, k3, gV_at⟩
          have g9 : ∀ j, gV (sV w3 k 0 v) r j = gV w3 r j := fun j => gV_ne (fun z => kr z.1.symm)
          obtain ⟨⟨a1, a2, a3, a4⟩, a5, a6, a7, a8, a9⟩ := R3
          refine ⟨⟨a1, a2, a3, a4.fr rfl (fun q => gV_ne (fun z => ?_))⟩, (g9 _).trans a5, (g9 _).trans a6, (g9 _).trans a7, (g9 _).trans a8, (g9 _).trans a9⟩
          omega
        · rw [q] at e9
          dsimp only at e9
          rcases hB9 with hB9 | ⟨_, v, s2, hq⟩
          · exact ⟨⟨by omega, by have : nfA 8 = 1 := rfl; omega⟩, fun k' w' f I' a b => hE _ e9 k' w' (f2.tr f) I' a b⟩
          · rw [q] at hq; cases hq
    · rw [b2i_f z]
      have hd : ¬ (s.1 < N ∧ dgB (T s.1) = true) := fun y => z ⟨y.1, by have := y.2; unfold dgB at this; exact of_decide_eq_true this⟩
      refine s_br (fun _ => ?_) (fun y => absurd rfl y)
      have e9 : paS T N ord S s = match vaS T N ord s with
        | .error e => .error e
        | .ok (v, s2) => if v = -1 then .error s2.1 else .ok (.val v, s2) := by unfold paS; rw [if_neg g, if_neg hd]; rfl
      have v1 := vaS_ok (ord := ord) L
      cases eS : vaS T N ord s with
      | error p =>
        rw [eS] at e9
        dsimp only at e9
        rw [e9] at hB hE
        obtain ⟨hB1, hB2⟩ := hB
        unfold CST at hB1 hB2
        dsimp only at hB1 hB2
        refine ⟨bc, bs, ⟨Nat.le_refl _, Nat.le_refl _⟩, x_dValue G (fun v t e => ?_) (fun e q => ?_)⟩
        · rw [eS] at e; cases e
        · rw [eS] at q
          injection q with q
          subst q
          exact ⟨by omega, hE _ rfl⟩
      | ok y =>
        obtain ⟨x, s2⟩ := y
        rw [eS] at e9 v1
        dsimp only at e9 v1
        refine ⟨0, 0, ⟨Nat.zero_le _, Nat.zero_le _⟩, x_dValue G (fun v t9 e w1 f1 R1 => ?_) (fun e q => ?_)⟩
        · rw [eS] at e
          injection e with e
          injection e with ea eb
          subst ea
          subst eb
          have I1 := I.sm f1.1
          have v15 : -1 ≤ x ∧ x < 16 := by
            rcases v1 with ⟨a, _⟩ | ⟨_, _, a, b⟩
            · omega
            · split at b <;> omega
          refine s_ckI ⟨by omega, by omega⟩ (s_br (fun g4 => ?_) (fun g4 => ?_))
          · rcases v1 with ⟨a, _⟩ | ⟨_, a, _⟩
            · exact absurd a g4
            rw [if_neg g4] at e9
            rw [e9] at hB
            have p2 := a.2.1
            obtain ⟨hB1, hB2⟩ := hB
            unfold CST at hB1 hB2
            dsimp only at hB1 hB2
            refine ⟨⟨by show 1 ≤ bc - 0; omega, by show 1 ≤ bs - 0; omega⟩, fun k hk hn => ?_⟩
            have kr := R1.rn hn
            have kk : gK (nK w1 k (.inl 9)) k = some (.inl 9) := by rw [gK_nK, if_pos rfl]
            have n9 : NEW k w1 (sV (nK w1 k (.inl 9)) k 0 x) := NEW.rf.nK.sV
            unfold wp_X12_init wp_X10_init
            refine ⟨kk, ?_⟩
            refine h1 _ _ e9 k _ (f1.fp.ne n9 (f1.fp.no hn)) (TIW.new (k := k) I1 n9 hk (by show gK (nK w1 k (.inl 9)) k ≠ none; rw [kk]; exact fun z => by cases z) (fun j x hr => by
              rw [gR_sV, gR_nK, if_pos rfl] at hr; cases hr)) (R1.new n9 hn) ⟨⟨f1.fp.no hn, hk⟩, kk, gV_at⟩
          · have g5 : x = -1 := Decidable.not_not.mp g4
            rcases v1 with ⟨_, b⟩ | ⟨a, _⟩
            · rw [if_pos g5] at e9
              rw [e9] at hB hE
              obtain ⟨hB1, hB2⟩ := hB
              unfold CST at hB1 hB2
              dsimp only at hB1 hB2
              rw [b] at R1
              rw [b] at hE
              exact x6_fault R1 I1 L ⟨by show 1 ≤ bc - 0; omega, by show 7 ≤ bs - 0; omega⟩ (fun k w' f I' a b => hE _ rfl k w' (f1.fp.tr f) I' a b)
            · exact absurd g5 a
        · rw [eS] at q; cases q
end SUMS
