/-! THE PLAIN LAW: texts: the component reads tests -/
set_option maxRecDepth 100000
/-- a test's tree at k, of new nodes, n deep -/
def TeB (F : Nat → Prop) (w : Wd) (R : Te → Nat → Prop) : TeW → Nat → Prop
  | .inl (sg, l, r), k => (F k ∧ 1000 ≤ k) ∧ gK w k = some (.inl 11) ∧ gV w k 0 = sg ∧ ∃ kl kr, gR w k 1 = some kl ∧ gR w k 2 = some kr ∧ SuA F w l kl ∧ SuA F w r kr
  | .inr (.inl (q, t)), k => if q % 2 = 0 then R t k else (F k ∧ 1000 ≤ k) ∧ gK w k = some (.inl 12) ∧ ∃ k', gR w k 0 = some k' ∧ R t k'
  | .inr (.inr (all, ts)), k => (F k ∧ 1000 ≤ k) ∧ gK w k = some (.inl 13) ∧ gV w k 0 = all ∧ ∃ li E n9 : Nat, gR w k 1 = some li ∧ (F li ∧ 1000 ≤ li) ∧ gK w li = some (.inl 18) ∧ gR w li 1 = some E ∧ (F E ∧ 1000 ≤ E) ∧ gK w E = some (.inr (4, n9)) ∧ n9 < 1000 ∧ gV w li 2 = ts.length ∧ ts.length ≤ n9 ∧ ∀ (i : Nat) (t : Te), ts[i]? = some t → ∃ kt, gR w E (i : Int) = some kt ∧ R t kt
def TeA (F : Nat → Prop) (w : Wd) : Nat → Te → Nat → Prop
  | 0, _, _ => False
  | n + 1, x, k => TeB F w (TeA F w n) (teV x) k
theorem TeA_nots {F : Nat → Prop} {w : Wd} {n q k : Nat} {t : Te} : TeA F w (n + 1) (.nots q t) k = if q % 2 = 0 then TeA F w n t k else (F k ∧ 1000 ≤ k) ∧ gK w k = some (.inl 12) ∧ ∃ k', gR w k 0 = some k' ∧ TeA F w n t k' := rfl
theorem TeA_sev {F : Nat → Prop} {w : Wd} {n k : Nat} {all : Int} {ts : List Te} : TeA F w (n + 1) (.sev all ts) k = TeB F w (TeA F w n) (.inr (.inr (all, ts))) k := by
  show TeB F w (TeA F w n) (teV (.sev all ts)) k = _
  rw [teV_sev]
def WKT (T : Int → Int) (N : Int) (ord : Bool) (D : Int) (e : Nat) (S : LX → PRS Te) (WP : Nat → Nat → Nat → Wd → (Option Nat → Wd → Prop) → (Nat → Wd → Prop) → Prop) : Prop := ∀ r s w bc bs Q XE, RDG T N ord w r s → D ≤ s.2.2.2 → BGT N s (S s) bc bs → (∀ x t, S s = .ok (x, t) → ∀ k w', FP r w w' → TIW w' → RDX T N w' r t → TeA (fun q => gK w q = none) w' e x k → Q (some k) w') → BAD w r XE (S s) → WP r bc bs w Q XE
section TESTS
variable {T : Int → Int} {N : Int} {ord : Bool} {w w' w1 w2 : Wd} {r k t n c : Nat} {s : LX} {P : Prop} {v x i : Int} {QW X : Wd → Prop} {XE : Nat → Wd → Prop} {bc bs : Nat} {F F' : Nat → Prop}
theorem TeA.f : ∀ {n : Nat} {x : Te} {k : Nat}, TeA F w n x k → F k ∧ 1000 ≤ k ∧ (gK w k = some (.inl 11) ∨ gK w k = some (.inl 12) ∨ gK w k = some (.inl 13)) := by
  intro n
  induction n with
  | zero => intro x k h; exact h.elim
  | succ n ih =>
    intro x k h
    have h : TeB F w (TeA F w n) (teV x) k := h
    generalize teV x = v9 at h
    rcases v9 with ⟨sg, l, r⟩ | ⟨q, t⟩ | ⟨all, ts⟩
    · exact ⟨h.1.1, h.1.2, Or.inl h.2.1⟩
    · have h : if q % 2 = 0 then TeA F w n t k else (F k ∧ 1000 ≤ k) ∧ gK w k = some (.inl 12) ∧ ∃ k', gR w k 0 = some k' ∧ TeA F w n t k' := h
      split at h
      · exact ih h
      · exact ⟨h.1.1, h.1.2, Or.inr (Or.inl h.2.1)⟩
    · exact ⟨h.1.1, h.1.2, Or.inr (Or.inr h.2.1)⟩
theorem TeA.mo (hF : ∀ k, F k → gK w k ≠ none → F' k ∧ gK w' k = gK w k ∧ (∀ j, gR w' k j = gR w k j) ∧ (¬ k67 w k → ∀ j, gV w' k j = gV w k j)) : ∀ (n : Nat) (x : Te) (k : Nat), TeA F w n x k → TeA F' w' n x k := by
  have hS : ∀ (x : Su) (k : Nat), SuA F w x k → SuA F' w' x k := SuA.mo (fun k a b => by
    obtain ⟨b1, b2, b3, b4⟩ := hF k a b
    refine ⟨b1, b2, b3, fun g => b4 ?_ 0⟩
    rintro (y | y)
    · rw [y] at g
      rcases g with g | g | g <;> · injection g with g; injection g with g; omega
    · rw [y] at g
      rcases g with g | g | g <;> · injection g with g; injection g with g; omega)
  have nk : ∀ k d, gK w k = some (.inl d) → d ≠ 16 → d ≠ 17 → ¬ k67 w k := fun k d h h1 h2 y => by
    rcases y with y | y <;> · rw [h] at y; injection y with y; injection y with y; omega
  intro n
  induction n with
  | zero => intro x k h; exact h.elim
  | succ n ih =>
    intro x k h
    have h : TeB F w (TeA F w n) (teV x) k := h
    show TeB F' w' (TeA F' w' n) (teV x) k
    generalize teV x = v9 at h ⊢
    rcases v9 with ⟨sg, l, r⟩ | ⟨q, t⟩ | ⟨all, ts⟩
    · obtain ⟨⟨a1, a2⟩, a3, a4, kl, kr, a5, a6, a7, a8⟩ := h
      obtain ⟨b1, b2, b3, b4⟩ := hF k a1 (by rw [a3]; exact fun z => by cases z)
      exact ⟨⟨b1, a2⟩, b2.trans a3, (b4 (nk k 11 a3 (by decide) (by decide)) 0).trans a4, kl, kr, (b3 _).trans a5, (b3 _).trans a6, hS l kl a7, hS r kr a8⟩
    · have h : if q % 2 = 0 then TeA F w n t k else (F k ∧ 1000 ≤ k) ∧ gK w k = some (.inl 12) ∧ ∃ k', gR w k 0 = some k' ∧ TeA F w n t k' := h
      show if q % 2 = 0 then TeA F' w' n t k else (F' k ∧ 1000 ≤ k) ∧ gK w' k = some (.inl 12) ∧ ∃ k', gR w' k 0 = some k' ∧ TeA F' w' n t k'
      split at h
      · next g => rw [if_pos g]; exact ih t k h
      · next g =>
        rw [if_neg g]
        obtain ⟨⟨a1, a2⟩, a3, k', a4, a5⟩ := h
        obtain ⟨b1, b2, b3, b4⟩ := hF k a1 (by rw [a3]; exact fun z => by cases z)
        exact ⟨⟨b1, a2⟩, b2.trans a3, k', (b3 _).trans a4, ih t k' a5⟩
    · obtain ⟨⟨a1, a2⟩, a3, a4, li, E, n9, a5, ⟨l1, l2⟩, a7, a8, ⟨e1, e2⟩, a10, a11, a12, a13, a14⟩ := h
      obtain ⟨b1, b2, b3, b4⟩ := hF k a1 (by rw [a3]; exact fun z => by cases z)
      obtain ⟨c1, c2, c3, c4⟩ := hF li l1 (by rw [a7]; exact fun z => by cases z)
      obtain ⟨d1, d2, d3, d4⟩ := hF E e1 (by rw [a10]; exact fun z => by cases z)
      refine ⟨⟨b1, a2⟩, b2.trans a3, (b4 (nk k 13 a3 (by decide) (by decide)) 0).trans a4, li, E, n9, (b3 _).trans a5, ⟨c1, l2⟩, c2.trans a7, (c3 _).trans a8, ⟨d1, e2⟩, d2.trans a10, a11, (c4 (nk li 18 a7 (by decide) (by decide)) 2).trans a12, a13, fun i t ht => ?_⟩
      obtain ⟨kt, g1, g2⟩ := a14 i t ht
      exact ⟨kt, (d3 _).trans g1, ih t kt g2⟩
theorem TeA.up : ∀ (n : Nat) (x : Te) (k : Nat), TeA F w n x k → TeA F w (n + 1) x k := by
  intro n
  induction n with
  | zero => intro x k h; exact h.elim
  | succ n ih =>
    intro x k h
    have h : TeB F w (TeA F w n) (teV x) k := h
    show TeB F w (TeA F w (n + 1)) (teV x) k
    generalize teV x = v9 at h ⊢
    rcases v9 with ⟨sg, l, r⟩ | ⟨q, t⟩ | ⟨all, ts⟩
    · exact h
    · have h : if q % 2 = 0 then TeA F w n t k else (F k ∧ 1000 ≤ k) ∧ gK w k = some (.inl 12) ∧ ∃ k', gR w k 0 = some k' ∧ TeA F w n t k' := h
      show if q % 2 = 0 then TeA F w (n + 1) t k else (F k ∧ 1000 ≤ k) ∧ gK w k = some (.inl 12) ∧ ∃ k', gR w k 0 = some k' ∧ TeA F w (n + 1) t k'
      split at h
      · next g => rw [if_pos g]; exact ih t k h
      · next g =>
        rw [if_neg g]
        obtain ⟨a, a3, k', a4, a5⟩ := h
        exact ⟨a, a3, k', a4, ih t k' a5⟩
    · obtain ⟨a, a3, a4, li, E, n9, a5, a6, a7, a8, a9, a10, a11, a12, a13, a14⟩ := h
      refine ⟨a, a3, a4, li, E, n9, a5, a6, a7, a8, a9, a10, a11, a12, a13, fun i t ht => ?_⟩
      obtain ⟨kt, g1, g2⟩ := a14 i t ht
      exact ⟨kt, g1, ih t kt g2⟩
theorem TeA.fp (f : FP r w w') (hr : k67 w r) {x : Te} (h : TeA F w n x k) : TeA F w' n x k := TeA.mo (fun q a b => by
  obtain ⟨f1, f2, f3⟩ := f q b
  exact ⟨a, f1, f2, fun g j => f3 j (fun e => g (by rw [e.1]; exact hr))⟩) n x k h
theorem TeA.we {x : Te} (hF : ∀ q, F q → F' q) (h : TeA F w n x k) : TeA F' w n x k := TeA.mo (fun q a _ => ⟨hF q a, rfl, fun _ => rfl, fun _ _ => rfl⟩) n x k h
theorem TeA.ne {x : Te} (hn : NEW c w w') (hF : ¬ F c) (h : TeA F w n x k) : TeA F w' n x k := TeA.mo (fun q a _ => by
  have e : q ≠ c := fun e => hF (e ▸ a)
  exact ⟨a, (hn q e).1, (hn q e).2.2, fun _ j => (hn q e).2.1 j⟩) n x k h
/-- a sign, and what comes behind -/
theorem x6_cmp {WT : Nat → Nat → Nat → Wd → (Option Nat → Wd → Prop) → (Nat → Wd → Prop) → Prop} {Q : Option Nat → Wd → Prop} {a : Su} {j e0 : Nat} (G : RDG T N ord w r s) (hj : j < 45) (ht : tkT T j s = true) (hF : ∀ q, gK w q = none → F q) (A : SuA F w a k) (hB : 7 * CST N (nxS T N s) (suR T N ord 10 (nxS T N s)) + 1 ≤ bc ∧ 30 * CST N (nxS T N s) (suR T N ord 10 (nxS T N s)) + 3 ≤ bs) (h1 : ∀ b s2, suR T N ord 10 (nxS T N s) = .ok (b, s2) → ∀ k6 w', FP r w w' → RDG T N ord w' r s2 → TeA F w' (e0 + 1) (.cmp (T s.1) a b) k6 → Q (some k6) w') (hE : BAD w r XE (suR T N ord 10 (nxS T N s))) : wp_X6_positive_80 WT Q XE r (some k) bc bs w := by
  obtain ⟨R, I, L, hc⟩ := G
  have G : RDG T N ord w r s := ⟨R, I, L, hc⟩
  have t := L.to
  have L0 := L.1
  have hN := R.1.2.2.2.1
  have lt := tk_lt' L hj ht
  have ch := tk_ch hj ht
  have n10 : nfA 11 = 3 := rfl
  unfold wp_X6_positive_80
  refine s_gfA2 R.1.2.1 R.1.2.2.1 (s_gfI2 R.1.2.1 R.2.2.1 (s_alI R.1.2.2.2.2.1 (by decide) ⟨by omega, by omega⟩ (R.ch L0.1 lt.1 ch.2.1) (s_gf2 R.1.2.1 ?_)))
  refine x6_next R (by omega) t.1.2 (fun w4 f4 R4 => ?_)
  have I4 := I.sm f4.1
  have o4 := OKR.nx L lt.2
  refine ⟨⟨by omega, by omega⟩, fun k6 hk hn => ?_⟩
  have kr := R4.rn hn
  have n9 : NEW k6 w4 (nK w4 k6 (.inl 11)) := NEW.rf.nK
  have kk : gK (nK w4 k6 (.inl 11)) k6 = some (.inl 11) := by rw [gK_nK, if_pos rfl]
  have I7 : TIW (nK w4 k6 (.inl 11)) := TIW.new (k := k6) I4 n9 hk (by rw [kk]; exact fun z => by cases z) (fun j x hr => by
    rw [gR_nK, if_pos rfl] at hr; cases hr)
  have R7 := R4.new n9 hn
  have f7 : FP r w (nK w4 k6 (.inl 11)) := f4.fp.ne n9 (f4.fp.no hn)
  have hn0 := f4.fp.no hn
  have G7 := G.to f7 I7 R7 o4.1
  refine s_gf2 R7.1.2.1 ⟨7 * CST N (nxS T N s) (suR T N ord 10 (nxS T N s)), 30 * CST N (nxS T N s) (suR T N ord 10 (nxS T N s)), ⟨by omega, by omega⟩, x6_suT r _ _ _ _ _ _ G7 (by have := o4.1.2.2.2.2; omega) ⟨Nat.le_refl _, Nat.le_refl _⟩ (fun b s2 e k8 w9 f9 I9 R9 A9 => ?_) (hE.to f7 (fun e q => q))⟩
  have k9 : gK w9 k6 = some (.inl 11) := (f9 k6 (by rw [kk]; exact fun z => by cases z)).1.trans kk
  unfold wp_X15_init wp_X14_init
  rw [nC_lo ⟨by omega, ch.2.1⟩]
  refine ⟨k9, ⟨by omega, by omega⟩, k9, k9, ?_⟩
  have nn : NEW k6 w9 (sR (sR (sV w9 k6 0 (T s.1)) k6 1 (some k)) k6 2 (some k8)) := NEW.rf.sV.sR.sR
  have f14 : FP r w (sR (sR (sV w9 k6 0 (T s.1)) k6 1 (some k)) k6 2 (some k8)) := (f7.tr f9).ne nn hn0
  have a1 := SuA.f A
  have a9 := SuA.f A9
  have A14 := SuA.fp f14 R.1.2.1 A
  have B14 : SuA (fun q => gK (nK w4 k6 (.inl 11)) q = none) _ b k8 := SuA.ne nn (by rw [kk]; exact fun z => by cases z) A9
  have B15 : SuA F _ b k8 := B14.we (fun q a => hF q (f7.no a))
  have q1 : gR (sR (sR (sV w9 k6 0 (T s.1)) k6 1 (some k)) k6 2 (some k8)) k6 1 = some k := by
    rw [gR_sR, if_neg (by omega), gR_sR, if_pos ⟨rfl, rfl⟩]
  have q2 : gR (sR (sR (sV w9 k6 0 (T s.1)) k6 1 (some k)) k6 2 (some k8)) k6 2 = some k8 := by
    rw [gR_sR, if_pos ⟨rfl, rfl⟩]
  have lk : gK (sR (sR (sV w9 k6 0 (T s.1)) k6 1 (some k)) k6 2 (some k8)) k ≠ none := (SuA.f A14).2.2
  have l8 : gK (sR (sR (sV w9 k6 0 (T s.1)) k6 1 (some k)) k6 2 (some k8)) k8 ≠ none := (SuA.f B14).2.2
  have oS := suR_ok (ord := ord) 10 _ o4.1
  rw [e] at oS
  have oS : OKR T N _ s2 := oS
  have I14 : TIW (sR (sR (sV w9 k6 0 (T s.1)) k6 1 (some k)) k6 2 (some k8)) := by
    refine TIW.new (k := k6) I9 nn hk (by show gK w9 k6 ≠ none; rw [k9]; exact fun z => by cases z) (fun j x hr => ?_)
    rw [gR_sR] at hr
    split at hr
    · injection hr with hr; subst hr; exact ⟨l8, by omega, by omega, by omega⟩
    · rw [gR_sR] at hr
      split at hr
      · injection hr with hr; subst hr; exact ⟨lk, by omega, by omega, by omega⟩
      · rw [gR_sV] at hr
        exfalso
        have hr0 : gR (nK w4 k6 (.inl 11)) k6 j = some x := by
          rw [← (f9 k6 (by rw [kk]; exact fun z => by cases z)).2.1]; exact hr
        rw [gR_nK, if_pos rfl] at hr0
        cases hr0
  have R14 : RDX T N (sR (sR (sV w9 k6 0 (T s.1)) k6 1 (some k)) k6 2 (some k8)) r s2 := by
    obtain ⟨⟨b1, b2, b3, b4⟩, b5, b6, b7, b8, b9⟩ := R9
    have rn : r ≠ k6 := fun z => kr z.symm
    have g9 := (nn r rn).2.1
    refine ⟨⟨b1, by unfold k67; rw [(nn r rn).1]; exact b2, ((nn r rn).2.2 _).trans b3, b4.fr ?_ ?_⟩, (g9 _).trans b5, (g9 _).trans b6, (g9 _).trans b7, (g9 _).trans b8, (g9 _).trans b9⟩
    · exact (nn 110 (by omega)).1
    · exact (nn 110 (by omega)).2.1
  exact h1 b s2 e k6 _ f14 (G.to f14 I14 R14 oS.1) ⟨⟨hF k6 hn0, hk⟩, k9, gV_at, k, k8, q1, q2, A14, B15⟩
/-- one test, in brackets or two sums compared -/
theorem x6_positive {D : Int} {e0 : Nat} {S : LX → PRS Te} {WP : Nat → Nat → Nat → Wd → (Option Nat → Wd → Prop) → (Nat → Wd → Prop) → Prop} (hO : ∀ s, LOK T N s → RDO T N s (S s)) (hS : WKT T N ord (D + 1) (e0 + 1) S WP) : WKT T N ord D (e0 + 1) (poS T N ord S) (wp_X6_positive WP) := by
  intro r s w bc bs Q XE G hD hB h1 hE
  obtain ⟨R, I, L, hc⟩ := G
  have G : RDG T N ord w r s := ⟨R, I, L, hc⟩
  have t := L.to
  have L0 := L.1
  have hN := R.1.2.2.2.1
  unfold wp_X6_positive
  refine s_gf2 R.1.2.1 (x6_is (by decide) R L (s_ckI b2i_in ?_))
  by_cases g : tkT T 8 s = true
  · rw [b2i_t g]
    refine s_br (fun y => absurd y (by decide)) (fun _ => s_gf2 R.1.2.1 ?_)
    have lt := tk_lt' L (by decide) g
    by_cases g2 : s.2.2.2 = 8
    · have e9 : poS T N ord S s = .error s.1 := by unfold poS; rw [if_pos g, if_pos g2]
      rw [e9] at hB hE
      obtain ⟨hB1, hB2⟩ := hB
      unfold CST at hB1 hB2
      dsimp only at hB1 hB2
      refine ⟨bc, bs, ⟨Nat.le_refl _, Nat.le_refl _⟩, x6_opens R I L (fun y => absurd g2 y) (fun _ => ⟨by omega, hE _ rfl⟩)⟩
    · have e9 : poS T N ord S s = match S (nxS T N (dpS s 1)) with
        | .error e => .error e
        | .ok (x, s2) => if tkT T 9 s2 = true then .ok (x, dpS (nxS T N s2) (-1)) else .error s2.1 := by unfold poS; rw [if_pos g, if_neg g2]; rfl
      have h2 : LOK T N (dpS s 1) := L.dp (by have := L.2.2.2.2; omega) (by have := L.2.2.2.2; omega)
      have o1 := OKR.nx h2 lt.2
      have p1 : s.1 < (nxS T N (dpS s 1)).1 := o1.2.1
      have rO := hO _ o1.1
      have rL := o1.1.1
      refine ⟨0, 0, ⟨Nat.zero_le _, Nat.zero_le _⟩, x6_opens R I L (fun _ w1 f1 R1 => ?_) (fun y => absurd y g2)⟩
      have I1 := I.sm f1.1
      have G1 := G.to f1.fp I1 R1 o1.1
      have hD1 : D + 1 ≤ (nxS T N (dpS s 1)).2.2.2 := by have e := o1.2.2.1; have e2 : (dpS s 1).2.2.2 = s.2.2.2 + 1 := rfl; omega
      refine s_gf2 R1.1.2.1 ?_
      cases eS : S (nxS T N (dpS s 1)) with
      | error p =>
        rw [eS] at e9
        dsimp only at e9
        rw [e9] at hB hE
        obtain ⟨hB1, hB2⟩ := hB
        unfold CST at hB1 hB2
        dsimp only at hB1 hB2
        refine ⟨bc, bs, ⟨by omega, by omega⟩, hS r _ w1 _ _ _ _ G1 hD1 ?_ (fun x t e => ?_) (hE.to f1.fp (fun e q => by rw [eS] at q; exact q))⟩
        · rw [eS]; unfold BGT CST; dsimp only; omega
        · rw [eS] at e; cases e
      | ok y =>
        obtain ⟨x, s2⟩ := y
        rw [eS] at e9 rO
        dsimp only at e9
        have rO : OKR T N _ s2 := rO
        have p2 := rO.2.1
        have p3 := rO.1.1
        have hBc : 7 * (s2.1 - (nxS T N (dpS s 1)).1).toNat + 7 ≤ bc ∧ 30 * (s2.1 - (nxS T N (dpS s 1)).1).toNat + 30 ≤ bs := by
          rw [e9] at hB
          obtain ⟨hB1, hB2⟩ := hB
          by_cases g3 : tkT T 9 s2 = true
          · rw [if_pos g3] at hB1 hB2
            unfold CST at hB1 hB2
            dsimp only at hB1 hB2
            have p4 := (OKR.nx rO.1 (tk_lt' rO.1 (by decide) g3).2).2.1
            have p5 : (dpS (nxS T N s2) (-1)).1 = (nxS T N s2).1 := rfl
            omega
          · rw [if_neg g3] at hB1 hB2
            unfold CST at hB1 hB2
            dsimp only at hB1 hB2
            omega
        refine ⟨7 * (s2.1 - (nxS T N (dpS s 1)).1).toNat, 30 * (s2.1 - (nxS T N (dpS s 1)).1).toNat, ⟨by omega, by omega⟩, hS r _ w1 _ _ _ _ G1 hD1 ?_ (fun x9 t9 e k w2 f2 I2 R2 A2 => ?_) (fun e q => ?_)⟩
        · rw [eS]; unfold BGT CST; dsimp only; omega
        · rw [eS] at e
          injection e with e
          injection e with ea eb
          subst ea
          subst eb
          have f12 := f1.fp.tr f2
          refine s_gf2 R2.1.2.1 ⟨bc - 0 - 7 * (s2.1 - (nxS T N (dpS s 1)).1).toNat, bs - 0 - 30 * (s2.1 - (nxS T N (dpS s 1)).1).toNat, ⟨Nat.le_refl _, Nat.le_refl _⟩, x6_need (by decide) R2 I2 rO.1 (fun g3 w3 f3 R3 => ?_) (fun g3 => ?_)⟩
          · rw [if_pos g3] at e9
            refine s_gfI2 R3.1.2.1 R3.2.2.2.2.2 (s_pfI2 R3.1.2.1 ?_)
            have f4 : LW r w3 (sV w3 r 6 ((nxS T N s2).2.2.2 - 1)) := LW.rf.sV (by decide)
            have f5 := f3.tr f4
            refine h1 _ _ e9 k _ (f12.tr f5.fp) (I2.sm f5.1) (R3.lw f4 ((gV_ne (by omega)).trans R3.2.2.1) ((gV_ne (by omega)).trans R3.2.2.2.1) ((gV_ne (by omega)).trans R3.2.2.2.2.1) gV_at) ((TeA.fp f5.fp R2.1.2.1 A2).we (fun q a => ?_))
            rw [← f1.1.1]; exact a
          · rw [if_neg g3] at e9
            exact ⟨by omega, fun k w' f I' a b => hE _ e9 k w' (f12.tr f) I' a b⟩
        · rw [eS] at q; cases q
  · rw [b2i_f g]
    refine s_br (fun _ => s_gf2 R.1.2.1 ?_) (fun y => absurd rfl y)
    have rO := suR_ok (ord := ord) 10 s L
    have e9 : poS T N ord S s = match suR T N ord 10 s with
      | .error e => .error e
      | .ok (a, s2) => if tkT T 10 s2 = true ∨ tkT T 11 s2 = true ∨ tkT T 12 s2 = true then (match suR T N ord 10 (nxS T N s2) with
        | .error e => .error e
        | .ok (b, s3) => .ok (.cmp (T s2.1) a b, s3)) else .error s2.1 := by unfold poS; rw [if_neg g]; rfl
    cases eS : suR T N ord 10 s with
    | error p =>
      rw [eS] at e9
      dsimp only at e9
      rw [e9] at hB hE
      refine ⟨bc, bs, ⟨Nat.le_refl _, Nat.le_refl _⟩, x6_suT r _ w _ _ _ _ G (by have := L.2.2.2.2; omega) ?_ (fun x t e => ?_) (hE.to FP.rf (fun e q => by rw [eS] at q; injection q with q; rw [q]))⟩
      · rw [eS]; exact hB
      · rw [eS] at e; cases e
    | ok y =>
      obtain ⟨a, s2⟩ := y
      rw [eS] at e9 rO
      dsimp only at e9
      have rO : OKR T N _ s2 := rO
      have p2 := rO.2.1
      have p3 := rO.1.1
      have key : CST N s (suR T N ord 10 s) = (s2.1 - s.1).toNat := by rw [eS]; rfl
      have hBc : (s2.1 - s.1).toNat + 1 ≤ CST N s (poS T N ord S s) ∧ ((tkT T 10 s2 = true ∨ tkT T 11 s2 = true ∨ tkT T 12 s2 = true) → (s2.1 - s.1).toNat + CST N (nxS T N s2) (suR T N ord 10 (nxS T N s2)) + 1 ≤ CST N s (poS T N ord S s)) := by
        rw [e9]
        by_cases g3 : tkT T 10 s2 = true ∨ tkT T 11 s2 = true ∨ tkT T 12 s2 = true
        · rw [if_pos g3]
          have l3 : s2.1 < N ∧ s2.1 < s2.2.1 := by
            rcases g3 with g3 | g3 | g3
            · exact tk_lt' rO.1 (by decide) g3
            · exact tk_lt' rO.1 (by decide) g3
            · exact tk_lt' rO.1 (by decide) g3
          have o3 := OKR.nx rO.1 l3.2
          have p4 := o3.2.1
          have p5 := o3.1.1
          have r3 := suR_ok (ord := ord) 10 _ o3.1
          cases e3 : suR T N ord 10 (nxS T N s2) with
          | error p => unfold CST; dsimp only; omega
          | ok y =>
            obtain ⟨x3, s3⟩ := y
            rw [e3] at r3
            have r3 : OKR T N _ s3 := r3
            have p6 := r3.2.1
            unfold CST; dsimp only; omega
        · rw [if_neg g3]
          refine ⟨?_, fun y => absurd y g3⟩
          unfold CST; dsimp only; omega
      obtain ⟨hB1, hB2⟩ := hB
      refine ⟨7 * CST N s (suR T N ord 10 s), 30 * CST N s (suR T N ord 10 s), ⟨by omega, by omega⟩, x6_suT r _ w _ _ _ _ G (by have := L.2.2.2.2; omega) ⟨Nat.le_refl _, Nat.le_refl _⟩ (fun x9 t9 e k w2 f2 I2 R2 A2 => ?_) (fun e q => by rw [eS] at q; cases q)⟩
      rw [eS] at e
      injection e with e
      injection e with ea eb
      subst ea
      subst eb
      have G2 := G.to f2 I2 R2 rO.1
      have go : ∀ j, j < 45 → tkT T j s2 = true → (tkT T 10 s2 = true ∨ tkT T 11 s2 = true ∨ tkT T 12 s2 = true) → wp_X6_positive_80 WP Q XE r (some k) (bc - 7 * CST N s (suR T N ord 10 s)) (bs - 30 * CST N s (suR T N ord 10 s)) w2 := by
        intro j hj hk g3
        rw [if_pos g3] at e9
        have hB3 := hBc.2 g3
        refine x6_cmp (e0 := e0) (F := fun q => gK w q = none) G2 hj hk (fun q a => f2.no a) A2 ⟨by omega, by omega⟩ (fun b s3 e k6 w3 f3 G3 A3 => ?_) (hE.to f2 (fun e q => by rw [e9, q]))
        exact h1 _ _ (by rw [e9, e]) k6 w3 (f2.tr f3) G3.2.1 G3.1 A3
      refine s_gf2 R2.1.2.1 (x6_is (by decide) R2 rO.1 (s_ckI b2i_in ?_))
      by_cases z1 : tkT T 10 s2 = true
      · rw [b2i_t z1]
        exact s_br (fun _ => go 10 (by decide) z1 (Or.inl z1)) (fun y => absurd (by decide) y)
      rw [b2i_f z1]
      refine s_br (fun y => absurd rfl y) (fun _ => s_gf2 R2.1.2.1 (x6_is (by decide) R2 rO.1 (s_ckI b2i_in ?_)))
      by_cases z2 : tkT T 11 s2 = true
      · rw [b2i_t z2]
        exact s_br (fun _ => go 11 (by decide) z2 (Or.inr (Or.inl z2))) (fun y => absurd (by decide) y)
      rw [b2i_f z2]
      refine s_br (fun y => absurd rfl y) (fun _ => s_gf2 R2.1.2.1 (x6_is (by decide) R2 rO.1 (s_ckI b2i_in ?_)))
      by_cases z3 : tkT T 12 s2 = true
      · rw [b2i_t z3]
        exact s_br (fun _ => go 12 (by decide) z3 (Or.inr (Or.inr z3))) (fun y => absurd (by decide) y)
      rw [b2i_f z3]
      rw [if_neg (by
        rintro (y | y | y)
        · exact z1 y
        · exact z2 y
        · exact z3 y)] at e9
      refine s_br (fun y => absurd rfl y) (fun _ => ?_)
      exact x6_fault R2 I2 rO.1 ⟨by omega, by omega⟩ (fun k w' f I' a b => hE _ e9 k w' (f2.tr f) I' a b)
end TESTS
