/-! THE PLAIN LAW: texts: the component reads nots, ands, ors -/
set_option maxRecDepth 100000
/-- tests joined: the object at kk, its list li, the elements at E -/
def SEV (F : Nat → Prop) (w : Wd) (e : Nat) (all : Int) (l : List Te) (kk li E n : Nat) : Prop := (F kk ∧ 1000 ≤ kk) ∧ gK w kk = some (.inl 13) ∧ gV w kk 0 = all ∧ gR w kk 1 = some li ∧ (F li ∧ 1000 ≤ li) ∧ (F E ∧ 1000 ≤ E) ∧ LST w li E n l.length ∧ ∀ (i : Nat) (t : Te), l[i]? = some t → ∃ kt, gR w E (i : Int) = some kt ∧ TeA (fun q => F q ∧ q ≠ li ∧ q ≠ E) w e t kt
section JOINS
variable {T : Int → Int} {N : Int} {ord : Bool} {w w' w1 w2 : Wd} {r k t n c : Nat} {s : LX} {P : Prop} {v x i : Int} {QW X : Wd → Prop} {XE : Nat → Wd → Prop} {bc bs : Nat} {F F' : Nat → Prop}
theorem SEV.te {e : Nat} {all : Int} {l : List Te} {kk li E : Nat} (h : SEV F w e all l kk li E n) : TeA F w (e + 1) (.sev all l) kk := by
  obtain ⟨h1, h2, h3, h4, h5, h6, ⟨l1, l2, l3, l4, l5, _⟩, h8⟩ := h
  rw [TeA_sev]
  refine ⟨h1, h2, h3, li, E, n, h4, h5, l1, l2, h6, l3, l5.2.1, l4, by omega, fun i t ht => ?_⟩
  obtain ⟨kt, a, b⟩ := h8 i t ht
  exact ⟨kt, a, b.we (fun q y => y.1)⟩
theorem SEV.fp {e : Nat} {all : Int} {l : List Te} {kk li E : Nat} (f : FP r w w') (hr : k67 w r) (h : SEV F w e all l kk li E n) : SEV F w' e all l kk li E n := by
  obtain ⟨h1, h2, h3, h4, h5, h6, ⟨l1, l2, l3, l4, l5, l6⟩, h8⟩ := h
  have fk := f kk (by rw [h2]; exact fun z => by cases z)
  have fl := f li (by rw [l1]; exact fun z => by cases z)
  have fE := f E (by rw [l3]; exact fun z => by cases z)
  have nk := hr.nk h2 (by decide)
  have nl := hr.nk l1 (by decide)
  refine ⟨h1, fk.1.trans h2, (fk.2.2 0 (fun y => nk y.1)).trans h3, (fk.2.1 1).trans h4, h5, h6, ⟨fl.1.trans l1, (fl.2.1 1).trans l2, fE.1.trans l3, (fl.2.2 2 (fun y => nl y.1)).trans l4, l5, fun i a b y hy => ?_⟩, fun i t ht => ?_⟩
  · rw [fE.2.1] at hy
    obtain ⟨u1, c, u2, u3⟩ := l6 i a b y hy
    exact ⟨u1, c, (f y (by rw [u2]; exact fun z => by cases z)).1.trans u2, u3⟩
  · obtain ⟨kt, a, b⟩ := h8 i t ht
    exact ⟨kt, (fE.2.1 _).trans a, b.fp f hr⟩
/-- one more of them -/
theorem SEV.add {e : Nat} {all : Int} {l : List Te} {kk li E E' n' k : Nat} {t : Te} (h : SEV F w e all l kk li E n) (A : TeA (fun q => F q ∧ q ≠ li ∧ q ≠ E) w e t k) (h9 : ADD w w' li E n l.length k E' n') (hF : ∀ q, gK w q = none → F q) (hn : (l.length : Int) = n → n < 600) : SEV F w' e all (l ++ [t]) kk li E' n' := by
  obtain ⟨h1, h2, h3, h4, h5, h6, ⟨l1, l2, l3, l4, l5, l6⟩, h8⟩ := h
  obtain ⟨⟨y1, y2, y2b, y2c⟩, y3, y4, y5, y6, y7, y8⟩ := h9
  have le : li ≠ E := fun y => by subst y; rw [l1] at l3; cases l3
  have kl : kk ≠ li := fun y => by subst y; rw [h2] at l1; cases l1
  have kE : kk ≠ E := fun y => by subst y; rw [h2] at l3; cases l3
  have E'F : F E' ∧ 1000 ≤ E' := by
    rcases y6 with ⟨u, _⟩ | ⟨u1, u2, _⟩
    · rw [u]; exact h6
    · exact ⟨hF E' u1, u2⟩
  have nE : ∀ q, gK w q ≠ none → q ≠ E → q ≠ E' := fun q a b => by
    rcases y6 with ⟨u, _⟩ | ⟨u1, _⟩
    · rw [u]; exact b
    · exact fun z => a (by rw [z]; exact u1)
  have kp : ∀ (n : Nat) (x : Te) (k : Nat), TeA (fun q => F q ∧ q ≠ li ∧ q ≠ E) w n x k → TeA (fun q => F q ∧ q ≠ li ∧ q ≠ E') w' n x k := TeA.mo (fun q a b => by
    have q3 := nE q b a.2.2
    obtain ⟨v1, v2, v3⟩ := y5 q a.2.1 a.2.2 q3
    exact ⟨⟨a.1, a.2.1, q3⟩, v1, v3, fun _ => v2⟩)
  have fk := y5 kk kl kE (nE kk (by rw [h2]; exact fun z => by cases z) kE)
  have lz : ((l ++ [t]).length : Int) = (l.length : Int) + 1 := by rw [List.length_append]; rfl
  have aK := TeA.f A
  refine ⟨h1, fk.1.trans h2, (fk.2.1 0).trans h3, (fk.2.2 1).trans h4, h5, E'F, ⟨y1, y2, y2b, by rw [lz]; exact y2c, ?_, fun i a b y hy => ?_⟩, fun i t2 ht => ?_⟩
  · rw [lz]
    rcases y6 with ⟨u, u2, u3⟩ | ⟨u1, u2, u3, u4, _⟩
    · omega
    · have := hn u3; omega
  · rw [lz] at b
    by_cases c : i = l.length
    · rw [c, y4] at hy
      injection hy with hy
      subst hy
      have := kp e t k A
      obtain ⟨_, a2, a3⟩ := TeA.f this
      refine ⟨a2, ?_⟩
      rcases a3 with a3 | a3 | a3
      · exact ⟨11, a3, by decide⟩
      · exact ⟨12, a3, by decide⟩
      · exact ⟨13, a3, by decide⟩
    · rw [y3 i a (by omega)] at hy
      obtain ⟨j, rfl⟩ : ∃ j : Nat, i = (j : Int) := ⟨i.toNat, by omega⟩
      have jl : j < l.length := by omega
      obtain ⟨kt, a5, a6⟩ := h8 j l[j] (List.getElem?_eq_getElem jl)
      rw [a5] at hy
      injection hy with hy
      subst hy
      obtain ⟨_, a2, a3⟩ := TeA.f (kp e _ _ a6)
      refine ⟨a2, ?_⟩
      rcases a3 with a3 | a3 | a3
      · exact ⟨11, a3, by decide⟩
      · exact ⟨12, a3, by decide⟩
      · exact ⟨13, a3, by decide⟩
  · by_cases c : i < l.length
    · rw [List.getElem?_append_left c] at ht
      obtain ⟨kt, a5, a6⟩ := h8 i t2 ht
      exact ⟨kt, (y3 i (by omega) (by omega)).trans a5, kp e _ _ a6⟩
    · rw [List.getElem?_append_right (by omega)] at ht
      have ci : i - l.length = 0 := by
        by_cases z : i - l.length = 0
        · exact z
        · rw [List.getElem?_eq_none (by show 1 ≤ i - l.length; omega)] at ht; cases ht
      rw [ci] at ht
      have ht : t = t2 := by injection ht
      subst ht
      have ei : (i : Int) = (l.length : Int) := by omega
      rw [ei]
      exact ⟨k, y4, kp e _ _ A⟩
theorem FP.add {w0 : Wd} {li E E' n' k : Nat} {z : Int} (f : FP r w0 w) (h : ADD w w' li E n z k E' n') (h1 : gK w0 li = none) (h2 : gK w0 E = none) : FP r w0 w' := by
  obtain ⟨_, _, _, y5, y6, _, _⟩ := h
  have h3 : gK w0 E' = none := by
    rcases y6 with ⟨u, _⟩ | ⟨u1, _⟩
    · rw [u]; exact h2
    · exact f.no u1
  intro q hq
  obtain ⟨v1, v2, v3⟩ := y5 q (fun y => hq (y ▸ h1)) (fun y => hq (y ▸ h2)) (fun y => hq (y ▸ h3))
  obtain ⟨f1, f2, f3⟩ := f q hq
  exact ⟨v1.trans f1, fun j => (v3 j).trans (f2 j), fun j g => (v2 j).trans (f3 j g)⟩
theorem ADD.kr {li E E' n' k : Nat} {z : Int} (h : ADD w w' li E n z k E' n') (R : k67 w r) (h1 : gK w li = some (.inl 18)) (h3 : gK w E = some (.inr (4, n))) : gK w' r = gK w r := by
  obtain ⟨_, _, _, y5, y6, _, _⟩ := h
  have r1 : r ≠ li := fun y => R.nk h1 (by decide) y.symm
  have r2 : r ≠ E := fun y => by subst y; rcases R with b2 | b2 <;> rw [h3] at b2 <;> cases b2
  refine (y5 r r1 r2 (fun y => ?_)).1
  rcases y6 with ⟨u, _⟩ | ⟨u1, _⟩
  · exact r2 (y.trans u)
  · rw [← y] at u1
    rcases R with b2 | b2 <;> rw [u1] at b2 <;> cases b2
theorem RDX.add {li E E' n' k : Nat} {z : Int} (R : RDX T N w r s) (h : ADD w w' li E n z k E' n') (h1 : gK w li = some (.inl 18)) (h2 : 1000 ≤ E) (h3 : gK w E = some (.inr (4, n))) : RDX T N w' r s := by
  obtain ⟨_, _, _, y5, y6, _, _⟩ := h
  have rl : ∀ q, gK w q ≠ none → q ≠ E → q ≠ E' := fun q a b => by
    rcases y6 with ⟨u, _⟩ | ⟨u1, _⟩
    · rw [u]; exact b
    · exact fun z => a (by rw [z]; exact u1)
  obtain ⟨⟨b1, b2, b3, b4⟩, b5, b6, b7, b8, b9⟩ := R
  have r1 : r ≠ li := fun y => by subst y; rcases b2 with b2 | b2 <;> rw [h1] at b2 <;> · injection b2 with b2; injection b2 with b2; omega
  have r2 : r ≠ E := fun y => by subst y; rcases b2 with b2 | b2 <;> rw [h3] at b2 <;> cases b2
  have t1 : 110 ≠ li := fun y => by subst y; have := b4.2.1; rw [h1] at this; cases this
  have t2 : 110 ≠ E := by omega
  obtain ⟨v1, v2, v3⟩ := y5 r r1 r2 (rl r (by rcases b2 with b2 | b2 <;> rw [b2] <;> exact fun z => by cases z) r2)
  obtain ⟨u1, u2, u3⟩ := y5 110 t1 t2 (rl 110 (by rw [b4.2.1]; exact fun z => by cases z) t2)
  exact ⟨⟨b1, by unfold k67; rw [v1]; exact b2, (v3 _).trans b3, b4.fr u1 u2⟩, (v2 _).trans b5, (v2 _).trans b6, (v2 _).trans b7, (v2 _).trans b8, (v2 _).trans b9⟩
/-- the nots ahead of it -/
theorem x6_plain_2 {D : Int} {e0 : Nat} {S : LX → PRS Te} {WP : Nat → Nat → Nat → Wd → (Option Nat → Wd → Prop) → (Nat → Wd → Prop) → Prop} {Q : Option Nat → Wd → Prop} (hO : ∀ s, LOK T N s → RDO T N s (S s)) (hS : WKT T N ord (D + 1) (e0 + 1) S WP) : ∀ (m f1 f2 q : Nat) (s : LX) (w : Wd) (bc bs : Nat), (N - s.1).toNat ≤ m → m < f1 → m < f2 → RDG T N ord w r s → D ≤ s.2.2.2 → 7 * CST N s (plL T N ord S f2 q s) + q % 2 ≤ bc → 30 * CST N s (plL T N ord S f2 q s) + q % 2 ≤ bs → (∀ x t, plL T N ord S f2 q s = .ok (x, t) → ∀ k w', FP r w w' → TIW w' → RDX T N w' r t → TeA (fun q => gK w q = none) w' (e0 + 2) x k → Q (some k) w') → BAD w r XE (plL T N ord S f2 q s) → wp_X6_plain_2 WP Q XE (fun z1 bc3 bs4 w2 => gf2 w2 r 16 17 <| xB bc3 bs4 fun mc7 ms8 => wp_X6_positive WP r mc7 ms8 w2 (fun o5 w6 => ckI z1 <| br (z1 = 0) (Q o5 w6) (wnO w6 12 (bc3 - mc7) (bs4 - ms8) fun k12 w13 => wp_X16_init k12 o5 w13 fun w14 => Q (some k12) w14)) XE) r f1 ((q % 2 : Nat) : Int) bc bs w := by
  intro m
  induction m with
  | zero =>
    intro f1 f2 q s w bc bs hm h1 h2 G hD hB1 hB2 hQ hE
    obtain ⟨g1, rfl⟩ : ∃ g, f1 = g + 1 := ⟨f1 - 1, by omega⟩
    obtain ⟨g2, rfl⟩ : ∃ g, f2 = g + 1 := ⟨f2 - 1, by omega⟩
    have L := G.2.2.1
    have R := G.1
    rw [wp_X6_plain_2]
    refine s_gf2 R.1.2.1 (x6_takes (by decide) R L (fun z w' f R' => ?_) (fun z => ?_))
    · have := (tk_lt' L (by decide) z).1; omega
    · have e9 : plL T N ord S (g2 + 1) q s = match poS T N ord S s with
        | .error e => .error e
        | .ok (t, s2) => .ok (.nots q t, s2) := by
        show (if tkT T 7 s = true then _ else _) = _
        rw [if_neg z]
        rfl
      refine s_ckI ⟨by decide, by decide⟩ (s_br (fun _ => s_gf2 R.1.2.1 ?_) (fun y => absurd rfl y))
      have hWP := x6_positive (ord := ord) hO hS
      cases eS : poS T N ord S s with
      | error p =>
        rw [eS] at e9
        dsimp only at e9
        rw [e9] at hB1 hB2 hE
        refine ⟨bc, bs, ⟨Nat.le_refl _, Nat.le_refl _⟩, hWP r s w _ _ _ _ G hD ?_ (fun x t e => ?_) (by rw [eS]; exact hE)⟩
        · rw [eS]; unfold BGT; unfold CST at hB1 hB2 ⊢; dsimp only at hB1 hB2 ⊢; omega
        · rw [eS] at e; cases e
      | ok y =>
        obtain ⟨x, s2⟩ := y
        rw [eS] at e9
        dsimp only at e9
        rw [e9] at hB1 hB2
        have key : CST N s (poS T N ord S s) = (s2.1 - s.1).toNat := by rw [eS]; rfl
        unfold CST at hB1 hB2
        dsimp only at hB1 hB2
        refine ⟨7 * CST N s (poS T N ord S s), 30 * CST N s (poS T N ord S s), ⟨by omega, by omega⟩, hWP r s w _ _ _ _ G hD ⟨Nat.le_refl _, Nat.le_refl _⟩ (fun x9 t9 e k w2 f2 I2 R2 A2 => ?_) (fun e q => by rw [eS] at q; cases q)⟩
        rw [eS] at e
        injection e with e
        injection e with ea eb
        subst ea
        subst eb
        refine s_ckI ⟨by omega, by omega⟩ (s_br (fun y => ?_) (fun y => ?_))
        · refine hQ _ _ e9 k w2 f2 I2 R2 ?_
          rw [TeA_nots, if_pos (by omega)]
          exact A2
        · refine ⟨⟨by omega, by have : nfA 12 = 1 := rfl; omega⟩, fun k12 hk hn => ?_⟩
          have kk : gK (nK w2 k12 (.inl 12)) k12 = some (.inl 12) := by rw [gK_nK, if_pos rfl]
          have n9 : NEW k12 w2 (sR (nK w2 k12 (.inl 12)) k12 0 (some k)) := NEW.rf.nK.sR
          have A3 : TeA (fun q => gK w q = none) (sR (nK w2 k12 (.inl 12)) k12 0 (some k)) (e0 + 1) x k := TeA.fp (FP.ne (r := r) FP.rf n9 hn) R2.1.2.1 A2
          have g0 : gR (sR (nK w2 k12 (.inl 12)) k12 0 (some k)) k12 0 = some k := by rw [gR_sR, if_pos ⟨rfl, rfl⟩]
          unfold wp_X16_init wp_X14_init
          refine ⟨kk, ?_⟩
          refine hQ _ _ e9 k12 _ (f2.ne n9 (f2.no hn)) (TIW.new (k := k12) I2 n9 hk (by show gK (nK w2 k12 (.inl 12)) k12 ≠ none; rw [kk]; exact fun z => by cases z) (fun j x hr => ?_)) (R2.new n9 hn) ?_
          · have hr : gR (sR (nK w2 k12 (.inl 12)) k12 0 (some k)) k12 j = some x := hr
            rw [gR_sR] at hr
            split at hr
            · injection hr with hr
              subst hr
              obtain ⟨_, a2, a3⟩ := TeA.f A3
              refine ⟨?_, by omega, by omega, by omega⟩
              rcases a3 with a3 | a3 | a3
              · intro y; exact absurd (a3.symm.trans y) (fun z => by cases z)
              · intro y; exact absurd (a3.symm.trans y) (fun z => by cases z)
              · intro y; exact absurd (a3.symm.trans y) (fun z => by cases z)
            · rw [gR_nK, if_pos rfl] at hr; cases hr
          · rw [TeA_nots, if_neg (by omega)]
            exact ⟨⟨f2.no hn, hk⟩, kk, k, g0, A3⟩
  | succ m ih =>
    intro f1 f2 q s w bc bs hm h1 h2 G hD hB1 hB2 hQ hE
    obtain ⟨g1, rfl⟩ : ∃ g, f1 = g + 1 := ⟨f1 - 1, by omega⟩
    obtain ⟨g2, rfl⟩ : ∃ g, f2 = g + 1 := ⟨f2 - 1, by omega⟩
    have L := G.2.2.1
    have R := G.1
    rw [wp_X6_plain_2]
    refine s_gf2 R.1.2.1 (x6_takes (by decide) R L (fun z w' f R' => ?_) (fun z => ?_))
    · have lt := tk_lt' L (by decide) z
      have o1 := OKR.nx L lt.2
      have p1 := o1.2.1
      have p2 := o1.1.1
      have e9 : plL T N ord S (g2 + 1) q s = plL T N ord S g2 (q + 1) (nxS T N s) := if_pos z
      have rp := plL_ok hO (ord := ord) g2 (q + 1) _ o1.1
      rw [e9] at hB1 hB2 hQ hE
      have hc : CST N (nxS T N s) (plL T N ord S g2 (q + 1) (nxS T N s)) + 1 ≤ CST N s (plL T N ord S g2 (q + 1) (nxS T N s)) := by
        cases ep : plL T N ord S g2 (q + 1) (nxS T N s) with
        | error p => unfold CST; dsimp only; omega
        | ok y =>
          obtain ⟨y, s3⟩ := y
          rw [ep] at rp
          have rp : OKR T N _ s3 := rp
          have := rp.2.1
          unfold CST; dsimp only; omega
      have I' := G.2.1.sm f.1
      have G' := G.to f.fp I' R' o1.1
      refine s_ckI ⟨by decide, by decide⟩ (s_br (fun y => absurd y (by decide)) (fun _ => s_ckI ⟨by omega, by omega⟩ (s_br (fun y => ?_) (fun y => ?_))))
      · unfold wp_X6_plain_20
        have e2 : (((q + 1) % 2 : Nat) : Int) = 0 := by omega
        have go := ih g1 g2 (q + 1) _ w' bc bs (by omega) (by omega) (by omega) G' hD (by omega) (by omega) (fun x t e k w2 f2 I2 R2 A2 => hQ x t e k w2 (f.fp.tr f2) I2 R2 (A2.we (fun q a => by rw [← f.1.1]; exact a))) (hE.to f.fp (fun e q => q))
        rw [e2] at go
        exact go
      · unfold wp_X6_plain_20
        have e2 : (((q + 1) % 2 : Nat) : Int) = 1 := by omega
        have go := ih g1 g2 (q + 1) _ w' bc bs (by omega) (by omega) (by omega) G' hD (by omega) (by omega) (fun x t e k w2 f2 I2 R2 A2 => hQ x t e k w2 (f.fp.tr f2) I2 R2 (A2.we (fun q a => by rw [← f.1.1]; exact a))) (hE.to f.fp (fun e q => q))
        rw [e2] at go
        exact go
    · have e9 : plL T N ord S (g2 + 1) q s = match poS T N ord S s with
        | .error e => .error e
        | .ok (t, s2) => .ok (.nots q t, s2) := by
        show (if tkT T 7 s = true then _ else _) = _
        rw [if_neg z]
        rfl
      refine s_ckI ⟨by decide, by decide⟩ (s_br (fun _ => s_gf2 R.1.2.1 ?_) (fun y => absurd rfl y))
      have hWP := x6_positive (ord := ord) hO hS
      cases eS : poS T N ord S s with
      | error p =>
        rw [eS] at e9
        dsimp only at e9
        rw [e9] at hB1 hB2 hE
        refine ⟨bc, bs, ⟨Nat.le_refl _, Nat.le_refl _⟩, hWP r s w _ _ _ _ G hD ?_ (fun x t e => ?_) (by rw [eS]; exact hE)⟩
        · rw [eS]; unfold BGT; unfold CST at hB1 hB2 ⊢; dsimp only at hB1 hB2 ⊢; omega
        · rw [eS] at e; cases e
      | ok y =>
        obtain ⟨x, s2⟩ := y
        rw [eS] at e9
        dsimp only at e9
        rw [e9] at hB1 hB2
        have key : CST N s (poS T N ord S s) = (s2.1 - s.1).toNat := by rw [eS]; rfl
        unfold CST at hB1 hB2
        dsimp only at hB1 hB2
        refine ⟨7 * CST N s (poS T N ord S s), 30 * CST N s (poS T N ord S s), ⟨by omega, by omega⟩, hWP r s w _ _ _ _ G hD ⟨Nat.le_refl _, Nat.le_refl _⟩ (fun x9 t9 e k w2 f2 I2 R2 A2 => ?_) (fun e q => by rw [eS] at q; cases q)⟩
        rw [eS] at e
        injection e with e
        injection e with ea eb
        subst ea
        subst eb
        refine s_ckI ⟨by omega, by omega⟩ (s_br (fun y => ?_) (fun y => ?_))
        · refine hQ _ _ e9 k w2 f2 I2 R2 ?_
          rw [TeA_nots, if_pos (by omega)]
          exact A2
        · refine ⟨⟨by omega, by have : nfA 12 = 1 := rfl; omega⟩, fun k12 hk hn => ?_⟩
          have kk : gK (nK w2 k12 (.inl 12)) k12 = some (.inl 12) := by rw [gK_nK, if_pos rfl]
          have n9 : NEW k12 w2 (sR (nK w2 k12 (.inl 12)) k12 0 (some k)) := NEW.rf.nK.sR
          have A3 : TeA (fun q => gK w q = none) (sR (nK w2 k12 (.inl 12)) k12 0 (some k)) (e0 + 1) x k := TeA.fp (FP.ne (r := r) FP.rf n9 hn) R2.1.2.1 A2
          have g0 : gR (sR (nK w2 k12 (.inl 12)) k12 0 (some k)) k12 0 = some k := by rw [gR_sR, if_pos ⟨rfl, rfl⟩]
          unfold wp_X16_init wp_X14_init
          refine ⟨kk, ?_⟩
          refine hQ _ _ e9 k12 _ (f2.ne n9 (f2.no hn)) (TIW.new (k := k12) I2 n9 hk (by show gK (nK w2 k12 (.inl 12)) k12 ≠ none; rw [kk]; exact fun z => by cases z) (fun j x hr => ?_)) (R2.new n9 hn) ?_
          · have hr : gR (sR (nK w2 k12 (.inl 12)) k12 0 (some k)) k12 j = some x := hr
            rw [gR_sR] at hr
            split at hr
            · injection hr with hr
              subst hr
              obtain ⟨_, a2, a3⟩ := TeA.f A3
              refine ⟨?_, by omega, by omega, by omega⟩
              rcases a3 with a3 | a3 | a3
              · intro y; exact absurd (a3.symm.trans y) (fun z => by cases z)
              · intro y; exact absurd (a3.symm.trans y) (fun z => by cases z)
              · intro y; exact absurd (a3.symm.trans y) (fun z => by cases z)
            · rw [gR_nK, if_pos rfl] at hr; cases hr
          · rw [TeA_nots, if_neg (by omega)]
            exact ⟨⟨f2.no hn, hk⟩, kk, k, g0, A3⟩
end JOINS
