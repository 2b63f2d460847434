/-! THE PLAIN LAW: texts: the component reads an order -/
set_option maxRecDepth 100000
section OCLAUSE
variable {T : Int → Int} {N : Int} {ord : Bool} {w w' w0 w1 w2 : Wd} {r k t n li E k8 : Nat} {s : LX} {P : Prop} {v x i : Int} {QW X : Wd → Prop} {XE : Nat → Wd → Prop} {bc bs : Nat} {F F' : Nat → Prop} {l : List Cl} {c : Cl}
theorem x6_behind {i : Nat} (hi : i < 45) : WKS T N ord (-1) (behS T N ord i) (fun r bc bs w Q XE => wp_X6_behind r (some (900 + i)) bc bs w Q XE) := by
  intro r s w bc bs Q XE G hD hB h1 hE
  have L := G.2.2.1
  have R := G.1
  unfold wp_X6_behind
  by_cases g : tkT T i s = true
  · have lt := tk_lt' L hi g
    have o1 := OKR.nx L lt.2
    have p1 := o1.2.1
    have p2 := o1.1.1
    have e9 : behS T N ord i s = suR T N ord 10 (nxS T N s) := if_pos g
    have sh := CST_sh (N := N) (s := s) (s1 := nxS T N s) (T := T) (rr := suR T N ord 10 (nxS T N s)) (by omega) p2.2 (suR_ok 10 _ o1.1).rl
    rw [e9] at hB h1 hE
    obtain ⟨hB1, hB2⟩ := hB
    refine s_gf2 R.1.2.1 ⟨0, 0, ⟨Nat.zero_le _, Nat.zero_le _⟩, x6_need hi R G.2.1 L (fun _ w1 f1 R1 => ?_) (fun y => absurd g y)⟩
    have G1 := G.to f1.fp (G.2.1.sm f1.1) R1 o1.1
    refine s_gf2 R1.1.2.1 ⟨bc - 0, bs - 0, ⟨Nat.le_refl _, Nat.le_refl _⟩, x6_suT r _ w1 _ _ _ _ G1 (by have := o1.1.2.2.2.2; omega) ⟨by omega, by omega⟩ (fun x t e k w2 f2 I2 R2 A2 => h1 x t e k w2 (f1.fp.tr f2) I2 R2 (A2.we (fun q a => by rw [← f1.1.1]; exact a))) (hE.to f1.fp (fun e q => q))⟩
  · have e9 : behS T N ord i s = .error s.1 := if_neg g
    rw [e9] at hB hE
    obtain ⟨hB1, hB2⟩ := hB
    unfold CST at hB1 hB2
    dsimp only at hB1 hB2
    have L0 := L.1
    exact s_gf2 R.1.2.1 ⟨bc, bs, ⟨Nat.le_refl _, Nat.le_refl _⟩, x6_need hi R G.2.1 L (fun y => absurd y g) (fun _ => ⟨by omega, hE _ rfl⟩)⟩
/-- a sum is read and filed -/
theorem x_sum_step {hd tm : Int} {sl : List Su} {S : LX → PRS Su} {WP : Nat → Nat → Nat → Wd → (Option Nat → Wd → Prop) → (Nat → Wd → Prop) → Prop} {K : Su → LX → PRS Cl} {rr : PRS Cl} {NXT : Nat → Nat → Wd → Prop} {j : Nat} (hj : j = sl.length + 1) (hO : ∀ s, LOK T N s → RDO T N s (S s)) (hS : WKS T N true (-1) S WP) (h : MID T N true w0 w r s l li E n k8 (hd, sl, tm, none)) (hl : sl.length < 3) (hK : ∀ a s2, LOK T N s2 → RDL T N s2 (K a s2)) (eE : ∀ e, S s = .error e → rr = .error e) (eO : ∀ a s2, S s = .ok (a, s2) → rr = K a s2) (hB1 : 7 * CST N s rr + 1 ≤ bc) (hB2 : 30 * CST N s rr + 17 ≤ bs) (hE : BAK w0 XE rr) (hq : ∀ a s2 w' bc' bs', S s = .ok (a, s2) → MID T N true w0 w' r s2 l li E n k8 (hd, sl ++ [a], tm, none) → rr = K a s2 → 7 * CST N s2 (K a s2) + 1 ≤ bc' → 30 * CST N s2 (K a s2) + 17 ≤ bs' → NXT bc' bs' w') : xB bc bs fun mc ms => WP r mc ms w (fun o w13 => pfR w13 k8 15 j o fun w18 => NXT (bc - mc) (bs - ms) w18) XE := by
  have G := h.2.1
  have L := G.2.2.1
  have rp := hO s L
  have hBc : CST N s (S s) ≤ CST N s rr ∧ ∀ a s2, S s = .ok (a, s2) → CST N s (S s) + CST N s2 (K a s2) ≤ CST N s rr := by
    cases eP : S s with
    | error e =>
      rw [eE e eP]
      exact ⟨by unfold CST; dsimp only; omega, fun b s2 q => by cases q⟩
    | ok y =>
      obtain ⟨b, s2⟩ := y
      rw [eP] at rp
      have rp : OKR T N s s2 := rp
      rw [eO b s2 eP]
      have := CST_le (N := N) (T := T) (s := s) (r1 := .ok (b, s2)) (r2 := K b s2) rfl (by have := rp.2.1; omega) rp.1.1.2 (hK b s2 rp.1)
      refine ⟨by omega, fun b' s2' q => ?_⟩
      injection q with q
      injection q with qa qb
      subst qa
      subst qb
      exact this
  refine ⟨7 * CST N s (S s), 30 * CST N s (S s), ⟨by omega, by omega⟩, hS r _ w _ _ _ _ G (by have := L.2.2.2.2; omega) ⟨Nat.le_refl _, Nat.le_refl _⟩ (fun a s2 e ka w2 f2 I2 R2 A2 => ?_) (hE.bad h.2.2.1 h.1 (fun e q => eE e q))⟩
  have rp2 : OKR T N s s2 := by rw [e] at rp; exact rp
  have hBd := hBc.2 a s2 e
  have h2 := h.fp f2 I2 R2 rp2.1
  have k8l : gK w k8 ≠ none := by rw [h.2.2.2.2.1.2.1]; exact fun z => by cases z
  have lil : gK w li ≠ none := by rw [h.2.2.2.1.2.2.2.2.1.1]; exact fun z => by cases z
  have El : gK w E ≠ none := by rw [h.2.2.2.1.2.2.2.2.1.2.2.1]; exact fun z => by cases z
  have A3 : SuA (fun q => (gK w0 q = none ∧ q ≠ li ∧ q ≠ E) ∧ q ≠ k8) w2 a ka := A2.we (fun q a => ⟨⟨h.2.2.1.no a, fun y => lil (y ▸ a), fun y => El (y ▸ a)⟩, fun y => k8l (y ▸ a)⟩)
  obtain ⟨_, ak, kl⟩ := SuA.f A3
  have h3 := h2.set (w' := sR w2 k8 ((sl.length + 1 : Nat) : Int) (some ka)) NEW.rf.sR (h2.2.1.2.1.set kl ak) (h2.2.2.2.2.1.sum hl A3)
  subst hj
  exact ⟨h2.2.2.2.2.1.2.1, hq a s2 _ _ _ e h3 (eO a s2 e) (by omega) (by omega)⟩
section TAIL2
variable (T N)
def tl3 (hd : Int) (l : List Su) (s : LX) : PRS Cl := if hd = 0 then (match behS T N true 41 s with
  | .error e => .error e
  | .ok (c, s4) => tlB T N true hd (l ++ [c]) s4) else tlB T N true hd l s
def tl2 (hd : Int) (i : Nat) (l : List Su) (s : LX) : PRS Cl := match behS T N true i s with
  | .error e => .error e
  | .ok (b, s3) => tl3 T N hd (l ++ [b]) s3
end TAIL2
theorem tl3_ok {hd : Int} {l : List Su} (h : LOK T N s) : RDL T N s (tl3 T N hd l s) := by
  unfold tl3
  by_cases g : hd = 0
  · rw [if_pos g]
    have r := behS_ok (ord := true) (i := 41) (by decide) h
    cases e : behS T N true 41 s with
    | error p => rw [e] at r; exact r
    | ok y =>
      obtain ⟨a, s2⟩ := y
      rw [e] at r
      have r : OKR T N s s2 := r
      exact RDL.tr (Or.inr r) (tlB_ok r.1)
  · rw [if_neg g]; exact tlB_ok h
theorem tl2_ok {hd : Int} {i : Nat} (hi : i < 45) {l : List Su} (h : LOK T N s) : RDL T N s (tl2 T N hd i l s) := by
  unfold tl2
  have r := behS_ok (ord := true) hi h
  cases e : behS T N true i s with
  | error p => rw [e] at r; exact r
  | ok y =>
    obtain ⟨a, s2⟩ := y
    rw [e] at r
    have r : OKR T N s s2 := r
    exact RDL.tr (Or.inr r) (tl3_ok r.1)

/-- the test behind, if there is one; then the clause is put -/
theorem x20_157 {hd tm : Int} {sl : List Su} (h : MID T N true w0 w r s l li E n k8 (hd, sl, tm, none)) (hB1 : 7 * CST N s (tlC T N true hd tm sl s) + 1 ≤ bc) (hB2 : 30 * CST N s (tlC T N true hd tm sl s) + 17 ≤ bs) (hq : ∀ c t, tlC T N true hd tm sl s = .ok (c, t) → ∀ w' E' n', PST T N true w0 w' r t (l ++ [c]) li E' n' → QW w') (hE : BAK w0 XE (tlC T N true hd tm sl s)) : wp_X20_clause_157 QW XE r k8 bc bs w := by
  have G := h.2.1
  have hc := G.2.2.2
  have L := G.2.2.1
  have R := G.1
  unfold wp_X20_clause_157
  refine s_cO hc (x6_takes (by decide) R L (fun z w1 f1 R1 => ?_) (fun z => ?_))
  · have lt := tk_lt' L (by decide) z
    have o1 := OKR.nx L lt.2
    have p1 := o1.2.1
    have p2 := o1.1.1
    have rp := teR_ok (ord := true) 10 _ o1.1
    have h1 := h.fp f1.fp (G.2.1.sm f1.1) R1 o1.1
    have e9 : tlC T N true hd tm sl s = match teR T N true 10 (nxS T N s) with
      | .error e => .error e
      | .ok (t, s4) => .ok ((hd, sl, tm, some t), s4) := by
      unfold tlC whnS
      have e5 : (if true = true then 44 else 29 : Nat) = 44 := rfl
      rw [e5, if_pos z]
      cases teR T N true 10 (nxS T N s) <;> rfl
    have hc1 := h1.2.1.2.2.2
    refine s_ckI ⟨by decide, by decide⟩ (s_br (fun y => absurd y (by decide)) (fun _ => s_cO hc1 ?_))
    have hBc : CST N (nxS T N s) (teR T N true 10 (nxS T N s)) + 1 ≤ CST N s (tlC T N true hd tm sl s) := by
      cases eP : teR T N true 10 (nxS T N s) with
      | error e =>
        rw [eP] at e9
        exact CST_err rfl e9 p1 p2.2
      | ok y =>
        obtain ⟨b, s2⟩ := y
        rw [eP] at e9 rp
        have rp : OKR T N (nxS T N s) s2 := rp
        have := rp.2.1
        rw [e9]
        unfold CST; dsimp only; omega
    refine ⟨7 * CST N (nxS T N s) (teR T N true 10 (nxS T N s)), 30 * CST N (nxS T N s) (teR T N true 10 (nxS T N s)), ⟨by omega, by omega⟩, x6_teT r _ w1 _ _ _ _ h1.2.1 (by have := o1.1.2.2.2.2; omega) ⟨Nat.le_refl _, Nat.le_refl _⟩ (fun b s2 e kt w2 f2 I2 R2 A2 => ?_) (hE.bad h1.2.2.1 h.1 (fun e q => by rw [e9, q]))⟩
    have e8 : tlC T N true hd tm sl s = .ok ((hd, sl, tm, some b), s2) := by rw [e9, e]
    have rp2 : OKR T N (nxS T N s) s2 := by rw [e] at rp; exact rp
    have h2 := h1.fp f2 I2 R2 rp2.1
    have k8l : gK w1 k8 ≠ none := by rw [h1.2.2.2.2.1.2.1]; exact fun z => by cases z
    have lil : gK w1 li ≠ none := by rw [h1.2.2.2.1.2.2.2.2.1.1]; exact fun z => by cases z
    have El : gK w1 E ≠ none := by rw [h1.2.2.2.1.2.2.2.2.1.2.2.1]; exact fun z => by cases z
    have A3 : TeA (fun q => (gK w0 q = none ∧ q ≠ li ∧ q ≠ E) ∧ q ≠ k8) w2 31 b kt := A2.we (fun q a => ⟨⟨h1.2.2.1.no a, fun y => lil (y ▸ a), fun y => El (y ▸ a)⟩, fun y => k8l (y ▸ a)⟩)
    obtain ⟨_, ak, ad⟩ := TeA.f A3
    have kl : gK w2 kt ≠ none := by
      rcases ad with ad | ad | ad <;> rw [ad] <;> exact fun z => by cases z
    refine ⟨h2.2.2.2.2.1.2.1, ?_⟩
    have h3 := h2.set (w' := sR w2 k8 5 (some kt)) NEW.rf.sR (h2.2.1.2.1.set kl ak) (h2.2.2.2.2.1.tst A3)
    have hc3 := h3.2.1.2.2.2
    unfold wp_X20_clause_174
    have hc1 : ((5 : Nat) : Int) = 5 := rfl
    rw [hc1]
    exact s_gfR hc3 h3.2.2.2.1.2.1 (x_put h3 ⟨by omega, by omega⟩ (fun w' E' n' p => hq _ _ e8 w' E' n' p))
  · have e9 : tlC T N true hd tm sl s = .ok ((hd, sl, tm, none), s) := by
      unfold tlC whnS
      have e5 : (if true = true then 44 else 29 : Nat) = 44 := rfl
      rw [e5, if_neg z]
    unfold wp_X20_clause_174
    exact s_ckI ⟨by decide, by decide⟩ (s_br (fun _ => s_gfR hc h.2.2.2.1.2.1 (x_put h ⟨by omega, by omega⟩ (fun w' E' n' p => hq _ _ e9 w' E' n' p))) (fun y => absurd rfl y))

/-- the times, and on -/
theorem x20_137 {hd : Int} {sl : List Su} (h : MID T N true w0 w r s l li E n k8 (hd, sl, 1, none)) (hB1 : 7 * CST N s (tlB T N true hd sl s) + 1 ≤ bc) (hB2 : 30 * CST N s (tlB T N true hd sl s) + 17 ≤ bs) (hq : ∀ c t, tlB T N true hd sl s = .ok (c, t) → ∀ w' E' n', PST T N true w0 w' r t (l ++ [c]) li E' n' → QW w') (hE : BAK w0 XE (tlB T N true hd sl s)) : wp_X20_clause_137 QW XE r k8 bc bs w := by
  have G := h.2.1
  have hc := G.2.2.2
  have L := G.2.2.1
  have R := G.1
  unfold wp_X20_clause_137
  refine s_cO hc (x6_takes (by decide) R L (fun z w1 f1 R1 => ?_) (fun z => ?_))
  · have lt := tk_lt' L (by decide) z
    have o1 := OKR.nx L lt.2
    have p1 := o1.2.1
    have p2 := o1.1.1
    have h1 := h.fp f1.fp (G.2.1.sm f1.1) R1 o1.1
    have n1 := nuS_ok (a := 1) (b := 20) o1.1
    have e9 : tlB T N true hd sl s = match nuS T N 1 20 (nxS T N s) with
      | .error e => .error e
      | .ok (v, s3) => tlC T N true hd v sl s3 := by
      unfold tlB timS
      rw [if_pos ⟨rfl, z⟩]
      rfl
    have hc1 := h1.2.1.2.2.2
    have I1 := h1.2.1.2.1
    refine s_ckI ⟨by decide, by decide⟩ (s_br (fun y => absurd y (by decide)) (fun _ => s_cO hc1 ?_))
    cases eP : nuS T N 1 20 (nxS T N s) with
    | error p =>
      rw [eP] at e9
      dsimp only at e9
      rw [e9] at hB1 hB2 hE
      unfold CST at hB1 hB2
      dsimp only at hB1 hB2
      refine ⟨bc, bs, ⟨Nat.le_refl _, Nat.le_refl _⟩, x6_number R1 I1 o1.1 (by decide) (fun v t e => by rw [eP] at e; cases e) (fun e q => ⟨by omega, fun k w' f I a b => hE e ?_ k w' (h1.2.2.1.fp f h1.1) I a b⟩)⟩
      rw [eP] at q; injection q with q; rw [q]
    | ok y =>
      obtain ⟨v9, s3⟩ := y
      rw [eP] at e9 n1
      dsimp only at e9
      have n1 : OKR T N (nxS T N s) s3 := n1
      have p3 := n1.2.1
      have p4 := n1.1.1
      have sh := CST_sh (N := N) (s := s) (s1 := s3) (T := T) (rr := tlC T N true hd v9 sl s3) (by omega) p4.2 (tlC_ok n1.1)
      rw [e9] at hB1 hB2 hE hq
      refine ⟨0, 0, ⟨Nat.zero_le _, Nat.zero_le _⟩, x6_number R1 I1 o1.1 (by decide) (fun v t e w2 f2 R2 => ?_) (fun e q => by rw [eP] at q; cases q)⟩
      rw [eP] at e
      injection e with e
      injection e with ea eb
      subst ea
      subst eb
      have h2 := h1.fp f2.fp (I1.sm f2.1) R2 n1.1
      refine ⟨h2.2.2.2.2.1.2.1, ?_⟩
      have hc4 : ((4 : Nat) : Int) = 4 := rfl
      rw [hc4]
      have h3 := h2.set (w' := sV w2 k8 4 v9) NEW.rf.sV h2.2.1.2.1 h2.2.2.2.2.1.tim
      exact x20_157 h3 (by omega) (by omega) hq hE
  · have e9 : tlB T N true hd sl s = tlC T N true hd 1 sl s := by
      unfold tlB timS
      rw [if_neg (fun y => z y.2)]
    rw [e9] at hB1 hB2 hE hq
    exact s_ckI ⟨by decide, by decide⟩ (s_br (fun _ => x20_157 h hB1 hB2 hq hE) (fun y => absurd rfl y))
theorem x20_123 {hd : Int} {sl : List Su} (hi : -1 ≤ hd ∧ hd ≤ 3) (hl : hd = 0 → sl.length = 2) (h : MID T N true w0 w r s l li E n k8 (hd, sl, 1, none)) (hB1 : 7 * CST N s (tl3 T N hd sl s) + 1 ≤ bc) (hB2 : 30 * CST N s (tl3 T N hd sl s) + 17 ≤ bs) (hq : ∀ c t, tl3 T N hd sl s = .ok (c, t) → ∀ w' E' n', PST T N true w0 w' r t (l ++ [c]) li E' n' → QW w') (hE : BAK w0 XE (tl3 T N hd sl s)) : wp_X20_clause_123 QW XE r hd k8 bc bs w := by
  unfold wp_X20_clause_123
  refine s_ckI ⟨by omega, by omega⟩ (s_br (fun y => ?_) (fun y => s_cO h.2.1.2.2.2 ?_))
  · have e9 : tl3 T N hd sl s = tlB T N true hd sl s := if_neg y
    rw [e9] at hB1 hB2 hE hq
    exact x20_137 h hB1 hB2 hq hE
  · have y : hd = 0 := Decidable.not_not.mp y
    refine x_sum_step (j := 3) (rr := tl3 T N hd sl s) (K := fun a s2 => tlB T N true hd (sl ++ [a]) s2) (NXT := fun mc ms w8 => wp_X20_clause_137 QW XE r k8 mc ms w8) (by rw [hl y]) (fun s h => behS_ok (i := 41) (by decide) h) (x6_behind (i := 41) (by decide)) h (by rw [hl y]; decide) (fun a s2 L => tlB_ok L) (fun e q => ?_) (fun a s2 q => ?_) hB1 hB2 hE (fun a s2 w' bc' bs' q h2 e b1 b2 => ?_)
    · unfold tl3; rw [if_pos y, q]
    · unfold tl3; rw [if_pos y, q]
    · rw [e] at hq hE
      exact x20_137 h2 b1 b2 hq hE
theorem x20_117 {hd : Int} {sl : List Su} {i : Nat} (hi45 : i < 45) (hi : -1 ≤ hd ∧ hd ≤ 3) (hl : sl.length = 1) (h : MID T N true w0 w r s l li E n k8 (hd, sl, 1, none)) (hB1 : 7 * CST N s (tl2 T N hd i sl s) + 1 ≤ bc) (hB2 : 30 * CST N s (tl2 T N hd i sl s) + 17 ≤ bs) (hq : ∀ c t, tl2 T N hd i sl s = .ok (c, t) → ∀ w' E' n', PST T N true w0 w' r t (l ++ [c]) li E' n' → QW w') (hE : BAK w0 XE (tl2 T N hd i sl s)) : wp_X20_clause_117 QW XE r hd k8 (900 + i) r k8 bc bs w := by
  unfold wp_X20_clause_117
  refine s_cO h.2.1.2.2.2 ?_
  refine x_sum_step (j := 2) (rr := tl2 T N hd i sl s) (K := fun a s2 => tl3 T N hd (sl ++ [a]) s2) (NXT := fun mc ms w8 => wp_X20_clause_123 QW XE r hd k8 mc ms w8) (by rw [hl]) (fun s h => behS_ok hi45 h) (x6_behind hi45) h (by rw [hl]; decide) (fun a s2 L => tl3_ok L) (fun e q => ?_) (fun a s2 q => ?_) hB1 hB2 hE (fun a s2 w' bc' bs' q h2 e b1 b2 => ?_)
  · unfold tl2; rw [q]
  · unfold tl2; rw [q]
  · rw [e] at hq hE
    exact x20_123 hi (fun _ => by rw [List.length_append, hl]; rfl) h2 b1 b2 hq hE
theorem x20_ta {hd : Int} (h : MID T N true w0 w r s l li E n k8 (hd, [], 1, none)) (hB1 : 7 * CST N s (tlA T N true hd s) + 1 ≤ bc) (hB2 : 30 * CST N s (tlA T N true hd s) + 17 ≤ bs) (hi : -1 ≤ hd ∧ hd ≤ 3) (hq : ∀ c t, tlA T N true hd s = .ok (c, t) → ∀ w' E' n', PST T N true w0 w' r t (l ++ [c]) li E' n' → QW w') (hE : BAK w0 XE (tlA T N true hd s)) : ckI hd <| br (hd = 3) (wp_X20_clause_123 QW XE r hd k8 bc bs w) (cO w r 17 <| xB bc bs fun mc14 ms15 => wpR_X6_sum 10 r mc14 ms15 w (fun o12 w13 => pfR w13 k8 15 1 o12 fun w18 => ckI hd <| br (¬ hd = 0) (ckI hd <| br (¬ hd = 1) (wp_X20_clause_117 QW XE r hd k8 (900 + 42) r k8 (bc - mc14) (bs - ms15) w18) (wp_X20_clause_117 QW XE r hd k8 (900 + 41) r k8 (bc - mc14) (bs - ms15) w18)) (wp_X20_clause_117 QW XE r hd k8 (900 + 40) r k8 (bc - mc14) (bs - ms15) w18)) XE) := by
  refine s_ckI ⟨by omega, by omega⟩ (s_br (fun y => ?_) (fun y => s_cO h.2.1.2.2.2 ?_))
  · have e9 : tlA T N true hd s = tl3 T N hd [] s := by
      unfold tlA sumsS tl3
      rw [if_pos y, if_neg (by omega)]
    rw [e9] at hB1 hB2 hE hq
    exact x20_123 hi (fun z => absurd (y.symm.trans z) (by decide)) h hB1 hB2 hq hE
  · have e9 : ∀ a s2, suR T N true 10 s = .ok (a, s2) → tlA T N true hd s = tl2 T N hd (if hd = 0 then 40 else if hd = 1 then 41 else 42) [a] s2 := by
      intro a s2 q
      unfold tlA sumsS tl2 tl3
      rw [if_neg y, q]
      dsimp only
      rw [if_neg (by decide)]
      cases behS T N true (if hd = 0 then 40 else if hd = 1 then 41 else 42) s2 with
      | error e => rfl
      | ok z =>
        obtain ⟨b, s3⟩ := z
        dsimp only
        by_cases g : hd = 0
        · rw [if_pos g, if_pos g]
          cases behS T N true 41 s3 with
          | error e => rfl
          | ok z => rfl
        · rw [if_neg g, if_neg g]; rfl
    refine x_sum_step (j := 1) (rr := tlA T N true hd s) (K := fun a s2 => tl2 T N hd (if hd = 0 then 40 else if hd = 1 then 41 else 42) [a] s2) (NXT := fun mc ms w8 => ckI hd <| br (¬ hd = 0) (ckI hd <| br (¬ hd = 1) (wp_X20_clause_117 QW XE r hd k8 (900 + 42) r k8 mc ms w8) (wp_X20_clause_117 QW XE r hd k8 (900 + 41) r k8 mc ms w8)) (wp_X20_clause_117 QW XE r hd k8 (900 + 40) r k8 mc ms w8)) rfl (fun s h => suR_ok 10 s h) x6_suT h (by decide) (fun a s2 L => tl2_ok (by split <;> (try split) <;> decide) L) (fun e q => ?_) (fun a s2 q => e9 a s2 q) hB1 hB2 hE (fun a s2 w' bc' bs' q h2 e b1 b2 => ?_)
    · unfold tlA sumsS
      rw [if_neg y, q]
    · rw [e] at hq hE
      refine s_ckI ⟨by omega, by omega⟩ (s_br (fun y0 => s_ckI ⟨by omega, by omega⟩ (s_br (fun y1 => ?_) (fun y1 => ?_))) (fun y0 => ?_))
      · rw [if_neg y0, if_neg y1] at b1 b2 hq hE
        exact x20_117 (by decide) hi rfl h2 b1 b2 hq hE
      · rw [if_neg y0, if_pos (Decidable.not_not.mp y1)] at b1 b2 hq hE
        exact x20_117 (by decide) hi rfl h2 b1 b2 hq hE
      · rw [if_pos (Decidable.not_not.mp y0)] at b1 b2 hq hE
        exact x20_117 (by decide) hi rfl h2 b1 b2 hq hE
theorem x20_53 (h : PST T N true w0 w r s l li E n) (hB : BGT N s (claS T N true l.length s) bc bs) (hq : ∀ c t, claS T N true l.length s = .ok (c, t) → ∀ w' E' n', PST T N true w0 w' r t (l ++ [c]) li E' n' → QW w') (hE : BAK w0 XE (claS T N true l.length s)) : wp_X20_clause_53 QW XE r (hdI T true s) bc bs w := by
  have hi := hd_in (T := T) (ord := true) (s := s)
  have G := h.2.1
  have hc := G.2.2.2
  have L := G.2.2.1
  have R := G.1
  have L0 := L.1
  have t := L.to
  have e9 := claS_eq (T := T) (N := N) (ord := true) (s := s) (m := l.length)
  have go : ∀ p : Int, (p = 0 ∨ p = 1) → (p = 0 ↔ hdI T true s = -1) → wp_X20_clause_65 QW XE r (hdI T true s) p r bc bs w := by
    intro p hp hp2
    unfold wp_X20_clause_65
    by_cases bad : (l.length : Int) = 12 ∨ hdI T true s = -1
    · rw [if_pos bad] at e9
      rw [e9] at hB hE
      obtain ⟨hB1, hB2⟩ := hB
      unfold CST at hB1 hB2
      dsimp only at hB1 hB2
      refine s_cO hc ⟨bc, bs, ⟨Nat.le_refl _, Nat.le_refl _⟩, x6_begins h hp (fun _ => ⟨by omega, hE.bad (r2 := (.error s.1 : PRS Cl)) h.2.2.1 h.1 (fun e q => q) _ rfl⟩) (fun a b => absurd bad ?_)⟩
      rintro (y | y)
      · omega
      · have := hp2.mpr y; omega
    · rw [if_neg bad] at e9
      have hne : hdI T true s ≠ -1 := fun y => bad (Or.inr y)
      have lt := hd_lt L hne
      have o1 := OKR.nx L lt.2
      have p1 := o1.2.1
      have p2 := o1.1.1
      have sh := CST_sh (N := N) (s := s) (s1 := nxS T N s) (T := T) (rr := tlA T N true (hdI T true s) (nxS T N s)) (by omega) p2.2 (tlA_ok o1.1)
      rw [e9] at hB hE hq
      obtain ⟨hB1, hB2⟩ := hB
      have n7 : nfA 15 = 6 := rfl
      refine s_cO hc ⟨0, 0, ⟨Nat.zero_le _, Nat.zero_le _⟩, x6_begins h hp (fun y => absurd ?_ bad) (fun hl _ => ?_)⟩
      · rcases y with y | y
        · exact Or.inl (by omega)
        · exact Or.inr (hp2.mp y)
      have c := h.cnt (x := l.length + 1)
      refine s_cO c.2.1.2.2.2 (x6_next c.2.1.1 (by omega) t.1.2 (fun w6 f6 R6 => ?_))
      refine ⟨⟨by omega, by omega⟩, fun k8 hk hn => ?_⟩
      unfold wp_X18_init
      have kk : gK (nK w6 k8 (.inl 15)) k8 = some (.inl 15) := by rw [gK_nK, if_pos rfl]
      refine ⟨kk, kk, ?_⟩
      have hc0 : ((0 : Nat) : Int) = 0 := rfl
      have hc4 : ((4 : Nat) : Int) = 4 := rfl
      rw [hc0, hc4]
      have M := MID.new (hd := hdI T true s) h hl f6 R6 o1.1 (k8 := k8) (w2 := sV (sV (nK w6 k8 (.inl 15)) k8 4 1) k8 0 (hdI T true s)) NEW.rf.nK.sV.sV hk hn kk gV_at (fun _ => (gV_ne (by omega)).trans gV_at) (fun j => by rw [gR_sV, gR_sV, gR_nK, if_pos rfl])
      exact x20_ta M (by omega) (by omega) hi hq hE
  unfold wp_X20_clause_53
  refine s_ckI ⟨by omega, by omega⟩ (s_br (fun y => go 0 (Or.inl rfl) ⟨fun _ => y, fun _ => rfl⟩) (fun y => go 1 (Or.inr rfl) ⟨fun z => absurd z (by decide), fun z => absurd z y⟩))
theorem x20_clause (h : PST T N true w0 w r s l li E n) (hB : BGT N s (claS T N true l.length s) bc bs) (hq : ∀ c t, claS T N true l.length s = .ok (c, t) → ∀ w' E' n', PST T N true w0 w' r t (l ++ [c]) li E' n' → QW w') (hE : BAK w0 XE (claS T N true l.length s)) : wp_X20_clause r bc bs w QW XE := by
  have G := h.2.1
  have hc := G.2.2.2
  have L := G.2.2.1
  have R := G.1
  have fin := x20_53 h hB hq hE
  have e0 : hdI T true s = fiW T 36 4 0 s := rfl
  rw [e0] at fin
  unfold wp_X20_clause
  refine s_cO hc (x6_is (by decide) R L (s_ckI b2i_in ?_))
  by_cases z0 : tkT T 36 s = true
  · rw [b2i_t z0]
    rw [fiW_t z0] at fin
    exact s_br (fun y => absurd y (by decide)) (fun _ => fin)
  rw [fiW_s z0] at fin
  rw [b2i_f z0]
  refine s_br (fun _ => s_cO hc (x6_is (by decide) R L (s_ckI b2i_in ?_))) (fun y => absurd rfl y)
  by_cases z1 : tkT T 37 s = true
  · rw [b2i_t z1]
    rw [fiW_t z1] at fin
    exact s_br (fun y => absurd y (by decide)) (fun _ => fin)
  rw [fiW_s z1] at fin
  rw [b2i_f z1]
  refine s_br (fun _ => s_cO hc (x6_is (by decide) R L (s_ckI b2i_in ?_))) (fun y => absurd rfl y)
  by_cases z2 : tkT T 38 s = true
  · rw [b2i_t z2]
    rw [fiW_t z2] at fin
    exact s_br (fun y => absurd y (by decide)) (fun _ => fin)
  rw [fiW_s z2] at fin
  rw [b2i_f z2]
  refine s_br (fun _ => s_cO hc (x6_is (by decide) R L (s_ckI b2i_in ?_))) (fun y => absurd rfl y)
  by_cases z3 : tkT T 39 s = true
  · rw [b2i_t z3]
    rw [fiW_t z3] at fin
    exact s_br (fun y => absurd y (by decide)) (fun _ => fin)
  rw [fiW_s z3] at fin
  rw [b2i_f z3]
  exact s_br (fun _ => fin) (fun y => absurd rfl y)

theorem wkc_ord : WKC T N true := fun w0 w r s l li E n bc bs QW XE h hB hq hE => Or.inr ⟨h.2.1.2.2.2, x20_clause h hB hq hE⟩
end OCLAUSE
