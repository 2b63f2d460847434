/-! THE PLAIN LAW: texts: the component reads terms, sums -/
set_option maxRecDepth 100000
section SUMS2
variable {T : Int → Int} {N : Int} {ord : Bool} {w w' w1 w2 : Wd} {r k t n c : Nat} {s : LX} {P : Prop} {v x i : Int} {QW X : Wd → Prop} {XE : Nat → Wd → Prop} {bc bs : Nat} {F F' : Nat → Prop}
theorem nC9 : ∀ c : Fin 128, nC (c.val : Int) = (c.val : Int) := by decide +kernel
theorem nC_lo {c : Int} (h : 0 ≤ c ∧ c ≤ 127) : nC c = c := by
  have g := nC9 ⟨c.toNat, by omega⟩
  have e : ((c.toNat : Nat) : Int) = c := by omega
  dsimp only at g
  rw [e] at g
  exact g
theorem tk_ch {j : Nat} (hj : j < 45) (h : tkT T j s = true) : 1 ≤ T s.1 ∧ T s.1 ≤ 127 ∧ T s.1 = (wdS j).getD 0 0 := by
  have hx := (rcT_iff (T := T) (f := s.1) (s.2.1 - s.1).toNat (wdS j)).mp (of_decide_eq_true h)
  have hw := wd_ne j hj
  have l0 : 0 < (wdS j).length := by
    cases e : wdS j with
    | nil => exact absurd e hw
    | cons _ _ => exact Nat.succ_pos _
  have g := hx.2 0 (by omega)
  have e0 : s.1 + ((0 : Nat) : Int) = s.1 := by omega
  rw [e0] at g
  have hc := str_in j hj ((wdS j).getD 0 0) (by
    rw [List.getD_eq_getElem?_getD, List.getElem?_eq_getElem l0]
    exact List.getElem_mem _)
  omega
theorem RDX.ch (R : RDX T N w r s) (h0 : 0 ≤ s.1) (hN : s.1 < N) (hT : T s.1 ≤ 127) : gV w 110 s.1 = T s.1 := by
  have h4 := R.1.2.2.2
  have h9 := h4.1.2
  have g := h4.2.2 s.1 h0 (by omega)
  omega
/-- a sign, and what comes behind -/
theorem x6_two {D : Int} {S : LX → PRS Su} {WP : Nat → Nat → Nat → Wd → (Option Nat → Wd → Prop) → (Nat → Wd → Prop) → Prop} {K5 : Option Nat → Nat → Nat → Wd → Prop} {a : Su} {j : Nat} (hO : ∀ s, LOK T N s → RDO T N s (S s)) (hS : WKS T N ord D S WP) (hD : D ≤ s.2.2.2) (G : RDG T N ord w r s) (hj : j < 45) (ht : tkT T j s = true) (hF : ∀ q, gK w q = none → F q) (A : SuA F w a k) (hB : 7 * CST N (nxS T N s) (S (nxS T N s)) + 1 ≤ bc ∧ 30 * CST N (nxS T N s) (S (nxS T N s)) + 3 ≤ bs) (h1 : ∀ b s2, S (nxS T N s) = .ok (b, s2) → ∀ k6 w', FP r w w' → RDG T N ord w' r s2 → SuA F w' (.two (T s.1) a b) k6 → K5 (some k6) (bc - 1 - 7 * CST N (nxS T N s) (S (nxS T N s))) (bs - nfA 10 - 30 * CST N (nxS T N s) (S (nxS T N s))) w') (hE : BAD w r XE (S (nxS T N s))) : gfA2 w r 16 17 0 fun k1 => gfI2 w r 16 17 3 fun v2 => alI w k1 2 v2 fun v3 => gf2 w r 16 17 <| wp_X6_next r w fun w4 => wnO w4 10 bc bs fun k6 w7 => gf2 w7 r 16 17 <| xB (bc - 1) (bs - nfA 10) fun mc10 ms11 => WP r mc10 ms11 w7 (fun o8 w9 => wp_X13_init k6 (nC v3) (some k) o8 w9 fun w14 => K5 (some k6) (bc - 1 - mc10) (bs - nfA 10 - ms11) w14) XE := by
  obtain ⟨R, I, L, hc⟩ := G
  have G : RDG T N ord w r s := ⟨R, I, L, hc⟩
  have t := L.to
  have L0 := L.1
  have hN := R.1.2.2.2.1
  have lt := tk_lt' L hj ht
  have ch := tk_ch hj ht
  have n10 : nfA 10 = 3 := rfl
  refine s_gfA2 R.1.2.1 R.1.2.2.1 (s_gfI2 R.1.2.1 R.2.2.1 (s_alI R.1.2.2.2.2.1 (by decide) ⟨by omega, by omega⟩ (R.ch L0.1 lt.1 ch.2.1) (s_gf2 R.1.2.1 ?_)))
  refine x6_next R (by omega) t.1.2 (fun w4 f4 R4 => ?_)
  have I4 := I.sm f4.1
  have o4 := OKR.nx L lt.2
  refine ⟨⟨by omega, by omega⟩, fun k6 hk hn => ?_⟩
  have kr := R4.rn hn
  have n9 : NEW k6 w4 (nK w4 k6 (.inl 10)) := NEW.rf.nK
  have kk : gK (nK w4 k6 (.inl 10)) k6 = some (.inl 10) := by rw [gK_nK, if_pos rfl]
  have I7 : TIW (nK w4 k6 (.inl 10)) := TIW.new (k := k6) I4 n9 hk (by rw [kk]; exact fun z => by cases z) (fun j x hr => by
    rw [gR_nK, if_pos rfl] at hr; cases hr)
  have R7 := R4.new n9 hn
  have f7 : FP r w (nK w4 k6 (.inl 10)) := f4.fp.ne n9 (f4.fp.no hn)
  have hn0 := f4.fp.no hn
  have G7 := G.to f7 I7 R7 o4.1
  refine s_gf2 R7.1.2.1 ⟨7 * CST N (nxS T N s) (S (nxS T N s)), 30 * CST N (nxS T N s) (S (nxS T N s)), ⟨by omega, by omega⟩, hS r _ _ _ _ _ _ G7 hD ⟨Nat.le_refl _, Nat.le_refl _⟩ (fun b s2 e k8 w9 f9 I9 R9 A9 => ?_) (hE.to f7 (fun e q => q))⟩
  have k9 : gK w9 k6 = some (.inl 10) := (f9 k6 (by rw [kk]; exact fun z => by cases z)).1.trans kk
  unfold wp_X13_init wp_X10_init
  rw [nC_lo ⟨by omega, ch.2.1⟩]
  refine ⟨k9, ⟨by omega, by omega⟩, k9, k9, ?_⟩
  have nn : NEW k6 w9 (sR (sR (sV w9 k6 0 (T s.1)) k6 1 (some k)) k6 2 (some k8)) := NEW.rf.sV.sR.sR
  have f14 : FP r w (sR (sR (sV w9 k6 0 (T s.1)) k6 1 (some k)) k6 2 (some k8)) := (f7.tr f9).ne nn hn0
  have a1 := SuA.f A
  have a9 := SuA.f A9
  have A14 := SuA.fp f14 R.1.2.1 A
  have B14 : SuA (fun q => gK (nK w4 k6 (.inl 10)) q = none) _ b k8 := SuA.ne nn (by rw [kk]; exact fun z => by cases z) A9
  have B15 : SuA F _ b k8 := B14.we (fun q a => hF q (f7.no a))
  have q1 : gR (sR (sR (sV w9 k6 0 (T s.1)) k6 1 (some k)) k6 2 (some k8)) k6 1 = some k := by
    rw [gR_sR, if_neg (by omega), gR_sR, if_pos ⟨rfl, rfl⟩]
  have q2 : gR (sR (sR (sV w9 k6 0 (T s.1)) k6 1 (some k)) k6 2 (some k8)) k6 2 = some k8 := by
    rw [gR_sR, if_pos ⟨rfl, rfl⟩]
  have lk : gK (sR (sR (sV w9 k6 0 (T s.1)) k6 1 (some k)) k6 2 (some k8)) k ≠ none := (SuA.f A14).2.2
  have l8 : gK (sR (sR (sV w9 k6 0 (T s.1)) k6 1 (some k)) k6 2 (some k8)) k8 ≠ none := (SuA.f B14).2.2
  have oS := hO _ o4.1
  rw [e] at oS
  have oS : OKR T N _ s2 := oS
  have I14 : TIW (sR (sR (sV w9 k6 0 (T s.1)) k6 1 (some k)) k6 2 (some k8)) := by
    refine TIW.new (k := k6) I9 nn hk (by show gK w9 k6 ≠ none; rw [k9]; exact fun z => by cases z) (fun j x hr => ?_)
    rw [gR_sR] at hr
    split at hr
    · injection hr with hr; subst hr; exact ⟨l8, by omega, by omega, by omega⟩
    · rw [gR_sR] at hr
      split at hr
      · injection hr with hr; subst hr; exact ⟨lk, by omega, by omega, by omega⟩
      · rw [gR_sV] at hr
        exfalso
        have hr0 : gR (nK w4 k6 (.inl 10)) k6 j = some x := by
          rw [← (f9 k6 (by rw [kk]; exact fun z => by cases z)).2.1]; exact hr
        rw [gR_nK, if_pos rfl] at hr0
        cases hr0
  have R14 : RDX T N (sR (sR (sV w9 k6 0 (T s.1)) k6 1 (some k)) k6 2 (some k8)) r s2 := by
    obtain ⟨⟨b1, b2, b3, b4⟩, b5, b6, b7, b8, b9⟩ := R9
    have rn : r ≠ k6 := fun z => kr z.symm
    have g9 := (nn r rn).2.1
    refine ⟨⟨b1, by unfold k67; rw [(nn r rn).1]; exact b2, ((nn r rn).2.2 _).trans b3, b4.fr ?_ ?_⟩, (g9 _).trans b5, (g9 _).trans b6, (g9 _).trans b7, (g9 _).trans b8, (g9 _).trans b9⟩
    · exact (nn 110 (by omega)).1
    · exact (nn 110 (by omega)).2.1
  exact h1 b s2 e k6 _ f14 (G.to f14 I14 R14 oS.1) ⟨⟨hF k6 hn0, hk⟩, k9, gV_at, k, k8, q1, q2, A14, B15⟩
theorem CST_cons {α β : Type} {s s1 s2 : LX} {r1 : PRS α} {r2 : PRS β} {x : α} (h1 : r1 = .ok (x, s2)) (hs : s.1 < s1.1) (h2 : s1.1 ≤ s2.1) (hN : s2.1 ≤ N) (hl : RDL T N s2 r2) : CST N s1 r1 + CST N s2 r2 + 1 ≤ CST N s r2 := by
  subst h1
  cases r2 with
  | error e => unfold CST; dsimp only; omega
  | ok y =>
    obtain ⟨y, s3⟩ := y
    have hl : s3 = s2 ∨ OKR T N s2 s3 := hl
    have h3 : s2.1 ≤ s3.1 := by
      rcases hl with h | h
      · rw [h]; exact Int.le_refl _
      · have := h.2.1; omega
    unfold CST; dsimp only; omega
theorem CST_err {α β : Type} {s s1 : LX} {r1 : PRS α} {r2 : PRS β} {e : Int} (h1 : r1 = .error e) (h2 : r2 = .error e) (hs : s.1 < s1.1) (hN : s1.1 ≤ N) : CST N s1 r1 + 1 ≤ CST N s r2 := by
  subst h1
  subst h2
  unfold CST; dsimp only; omega
theorem x6_term_5 {D : Int} {S : LX → PRS Su} {WP : Nat → Nat → Nat → Wd → (Option Nat → Wd → Prop) → (Nat → Wd → Prop) → Prop} {Q : Option Nat → Wd → Prop} (hO : ∀ s, LOK T N s → RDO T N s (S s)) (hS : WKS T N ord (D + 1) S WP) : ∀ (m f1 f2 : Nat) (a : Su) (k : Nat) (s : LX) (w : Wd) (bc bs : Nat) (F : Nat → Prop), (N - s.1).toNat ≤ m → m < f1 → m < f2 → RDG T N ord w r s → D ≤ s.2.2.2 → (∀ q, gK w q = none → F q) → SuA F w a k → BGT N s (tmL T N ord S f2 a s) bc bs → (∀ x t, tmL T N ord S f2 a s = .ok (x, t) → ∀ k' w', FP r w w' → TIW w' → RDX T N w' r t → SuA F w' x k' → Q (some k') w') → BAD w r XE (tmL T N ord S f2 a s) → wp_X6_term_5 WP Q XE r f1 (some k) bc bs w := by
  intro m
  induction m with
  | zero =>
    intro f1 f2 a k s w bc bs F hm h1 h2 G hD hF A hB hQ hE
    obtain ⟨g1, rfl⟩ : ∃ g, f1 = g + 1 := ⟨f1 - 1, by omega⟩
    obtain ⟨g2, rfl⟩ : ∃ g, f2 = g + 1 := ⟨f2 - 1, by omega⟩
    have L := G.2.2.1
    have R := G.1
    have no : ∀ j, j < 45 → ¬ tkT T j s = true := fun j hj y => by have := (tk_lt' L hj y).1; omega
    have e9 : tmL T N ord S (g2 + 1) a s = .ok (a, s) := if_neg (by
      intro y; have := (muB_lt L y).1; omega)
    rw [wp_X6_term_5]
    refine s_gf2 R.1.2.1 (x6_is (by decide) R L (s_ckI b2i_in ?_))
    rw [b2i_f (no 2 (by decide))]
    refine s_br (fun y => absurd rfl y) (fun _ => s_gf2 R.1.2.1 (x6_is (by decide) R L (s_ckI b2i_in ?_)))
    rw [b2i_f (no 3 (by decide))]
    refine s_br (fun y => absurd rfl y) (fun _ => s_gf2 R.1.2.1 (x6_is (by decide) R L (s_ckI b2i_in ?_)))
    rw [b2i_f (no 4 (by decide))]
    exact s_br (fun _ => hQ _ _ e9 k w FP.rf G.2.1 R A) (fun y => absurd rfl y)
  | succ m ih =>
    intro f1 f2 a k s w bc bs F hm h1 h2 G hD hF A hB hQ hE
    obtain ⟨g1, rfl⟩ : ∃ g, f1 = g + 1 := ⟨f1 - 1, by omega⟩
    obtain ⟨g2, rfl⟩ : ∃ g, f2 = g + 1 := ⟨f2 - 1, by omega⟩
    have L := G.2.2.1
    have R := G.1
    have hOp : ∀ s, LOK T N s → RDO T N s (paS T N ord S s) := fun s h => paS_ok hO h
    have go : ∀ j, j < 45 → tkT T j s = true → muB T s = true → wp_X6_term_32 WP Q XE (wp_X6_term_5 WP Q XE r g1) r (some k) bc bs w := by
      intro j hj ht hm2
      have lt := tk_lt' L hj ht
      have o1 := OKR.nx L lt.2
      have p1 := o1.2.1
      have p2 := o1.1.1
      have rp := hOp _ o1.1
      have e9 : tmL T N ord S (g2 + 1) a s = match paS T N ord S (nxS T N s) with
        | .error e => .error e
        | .ok (b, s2) => tmL T N ord S g2 (.two (T s.1) a b) s2 := by
        show (if muB T s = true then _ else _) = _
        rw [if_pos hm2]
        rfl
      have hBc : CST N (nxS T N s) (paS T N ord S (nxS T N s)) + 1 ≤ CST N s (tmL T N ord S (g2 + 1) a s) ∧ ∀ b s2, paS T N ord S (nxS T N s) = .ok (b, s2) → CST N (nxS T N s) (paS T N ord S (nxS T N s)) + CST N s2 (tmL T N ord S g2 (.two (T s.1) a b) s2) + 1 ≤ CST N s (tmL T N ord S (g2 + 1) a s) := by
        cases eP : paS T N ord S (nxS T N s) with
        | error e =>
          rw [eP] at e9
          exact ⟨CST_err rfl e9 p1 p2.2, fun b s2 q => by cases q⟩
        | ok y =>
          obtain ⟨b, s2⟩ := y
          rw [eP] at e9 rp
          have rp : OKR T N _ s2 := rp
          have e9 : tmL T N ord S (g2 + 1) a s = tmL T N ord S g2 (.two (T s.1) a b) s2 := e9
          rw [e9]
          have := CST_cons (N := N) (T := T) (s := s) (s1 := nxS T N s) (r1 := .ok (b, s2)) (r2 := tmL T N ord S g2 (.two (T s.1) a b) s2) rfl p1 (by have := rp.2.1; omega) rp.1.1.2 (tmL_ok hO _ _ _ rp.1)
          refine ⟨by omega, fun b' s2' q => ?_⟩
          injection q with q
          injection q with qa qb
          subst qa
          subst qb
          exact this
      obtain ⟨hB1, hB2⟩ := hB
      unfold wp_X6_term_32
      refine x6_two hOp (x6_part hO hS) hD G hj ht hF A ⟨by omega, by omega⟩ (fun b s2 e k6 w' f' G' A' => ?_) (fun e q => hE e (by rw [e9, q]))
      have e8 : tmL T N ord S (g2 + 1) a s = tmL T N ord S g2 (.two (T s.1) a b) s2 := by rw [e9, e]
      have rp2 : OKR T N (nxS T N s) s2 := by rw [e] at rp; exact rp
      have p3 := rp2.2.1
      have c9 := hBc.2 b s2 e
      have n10 : nfA 10 = 3 := rfl
      refine ih g1 g2 _ k6 s2 w' _ _ F (by omega) (by omega) (by omega) G' (by have := rp2.2.2.1; have e : (nxS T N s).2.2.2 = s.2.2.2 := rfl; omega) (fun q a => hF q (f'.no a)) A' ⟨by omega, by omega⟩ (fun x t q k' w2 f2 I2 R2 A2 => hQ x t (e8.trans q) k' w2 (f'.tr f2) I2 R2 A2) (BAD.to hE f' (fun p q => e8.trans q))
    rw [wp_X6_term_5]
    refine s_gf2 R.1.2.1 (x6_is (by decide) R L (s_ckI b2i_in ?_))
    by_cases z2 : tkT T 2 s = true
    · rw [b2i_t z2]
      exact s_br (fun _ => go 2 (by decide) z2 (by unfold muB; rw [z2]; rfl)) (fun y => absurd (by decide) y)
    rw [b2i_f z2]
    refine s_br (fun y => absurd rfl y) (fun _ => s_gf2 R.1.2.1 (x6_is (by decide) R L (s_ckI b2i_in ?_)))
    by_cases z3 : tkT T 3 s = true
    · rw [b2i_t z3]
      exact s_br (fun _ => go 3 (by decide) z3 (by unfold muB; rw [z3, Bool.or_true]; rfl)) (fun y => absurd (by decide) y)
    rw [b2i_f z3]
    refine s_br (fun y => absurd rfl y) (fun _ => s_gf2 R.1.2.1 (x6_is (by decide) R L (s_ckI b2i_in ?_)))
    by_cases z4 : tkT T 4 s = true
    · rw [b2i_t z4]
      exact s_br (fun y => absurd y (by decide)) (fun _ => go 4 (by decide) z4 (by unfold muB; rw [z4, Bool.or_true]))
    rw [b2i_f z4]
    have e9 : tmL T N ord S (g2 + 1) a s = .ok (a, s) := if_neg (by
      unfold muB
      rw [Bool.or_eq_true, Bool.or_eq_true]
      intro y
      rcases y with (y | y) | y
      · exact z2 y
      · exact z3 y
      · exact z4 y)
    exact s_br (fun _ => hQ _ _ e9 k w FP.rf G.2.1 R A) (fun y => absurd rfl y)
theorem CST_le {α β : Type} {s s2 : LX} {r1 : PRS α} {r2 : PRS β} {x : α} (h1 : r1 = .ok (x, s2)) (h2 : s.1 ≤ s2.1) (hN : s2.1 ≤ N) (hl : RDL T N s2 r2) : CST N s r1 + CST N s2 r2 ≤ CST N s r2 := by
  subst h1
  cases r2 with
  | error e => unfold CST; dsimp only; omega
  | ok y =>
    obtain ⟨y, s3⟩ := y
    have hl : s3 = s2 ∨ OKR T N s2 s3 := hl
    have h3 : s2.1 ≤ s3.1 := by
      rcases hl with h | h
      · rw [h]; exact Int.le_refl _
      · have := h.2.1; omega
    unfold CST; dsimp only; omega
theorem x6_term {D : Int} {S : LX → PRS Su} {WP : Nat → Nat → Nat → Wd → (Option Nat → Wd → Prop) → (Nat → Wd → Prop) → Prop} (hO : ∀ s, LOK T N s → RDO T N s (S s)) (hS : WKS T N ord (D + 1) S WP) : WKS T N ord D (tmS T N ord S) (wp_X6_term WP) := by
  intro r s w bc bs Q XE G hD hB h1 hE
  have L := G.2.2.1
  have R := G.1
  have hN := R.1.2.2.2.1
  have rp := paS_ok (ord := ord) hO L
  unfold wp_X6_term
  refine s_gf2 R.1.2.1 ?_
  unfold tmS at hB h1 hE
  cases eP : paS T N ord S s with
  | error e =>
    rw [eP] at hB hE
    exact ⟨bc, bs, ⟨Nat.le_refl _, Nat.le_refl _⟩, x6_part hO hS r s w bc bs _ XE G hD (by rw [eP]; exact hB) (fun x t q => by rw [eP] at q; cases q) (by rw [eP]; exact hE)⟩
  | ok y =>
    obtain ⟨b, s2⟩ := y
    rw [eP] at hB h1 hE rp
    dsimp only at hB h1 hE
    have rp : OKR T N _ s2 := rp
    have p3 := rp.2.1
    have L2 := rp.1.1
    have c9 := CST_le (N := N) (T := T) (s := s) (r2 := tmL T N ord S 401 b s2) eP (by omega) L2.2 (tmL_ok hO _ _ _ rp.1)
    obtain ⟨hB1, hB2⟩ := hB
    have e9 : ∀ x t, paS T N ord S s = .ok (x, t) → x = b ∧ t = s2 := fun x t q => by
      rw [eP] at q; injection q with q; injection q with qa qb; exact ⟨qa.symm, qb.symm⟩
    refine ⟨7 * CST N s (paS T N ord S s), 30 * CST N s (paS T N ord S s), ⟨?_, ?_⟩, x6_part hO hS r s w _ _ _ XE G hD ⟨Nat.le_refl _, Nat.le_refl _⟩ (fun x t q k w1 f1 I1 R1 A1 => ?_) (fun e q => by rw [eP] at q; cases q)⟩
    · unfold CST at c9 hB1 hB2 ⊢; omega
    · unfold CST at c9 hB1 hB2 ⊢; omega
    obtain ⟨rfl, rfl⟩ := e9 x t q
    refine x6_term_5 hO hS 400 FU 401 x k t w1 _ _ (fun q => gK w q = none) (by have := L.1; omega) (by decide) (by decide) (G.to f1 I1 R1 rp.1) (by have := rp.2.2.1; omega) (fun q a => f1.no a) A1 ⟨?_, ?_⟩ (fun x2 t2 q2 k2 w2 f2 I2 R2 A2 => h1 x2 t2 q2 k2 w2 (f1.tr f2) I2 R2 A2) (hE.to f1 (fun e q => q))
    · unfold CST at c9 hB1 hB2 ⊢; omega
    · unfold CST at c9 hB1 hB2 ⊢; omega
theorem x6_sum_5 {D : Int} {S : LX → PRS Su} {WP : Nat → Nat → Nat → Wd → (Option Nat → Wd → Prop) → (Nat → Wd → Prop) → Prop} {Q : Option Nat → Wd → Prop} (hO : ∀ s, LOK T N s → RDO T N s (S s)) (hS : WKS T N ord (D + 1) S WP) : ∀ (m f1 f2 : Nat) (a : Su) (k : Nat) (s : LX) (w : Wd) (bc bs : Nat) (F : Nat → Prop), (N - s.1).toNat ≤ m → m < f1 → m < f2 → RDG T N ord w r s → D ≤ s.2.2.2 → (∀ q, gK w q = none → F q) → SuA F w a k → BGT N s (suL T N ord S f2 a s) bc bs → (∀ x t, suL T N ord S f2 a s = .ok (x, t) → ∀ k' w', FP r w w' → TIW w' → RDX T N w' r t → SuA F w' x k' → Q (some k') w') → BAD w r XE (suL T N ord S f2 a s) → wp_X6_sum_5 WP Q XE r f1 (some k) bc bs w := by
  intro m
  induction m with
  | zero =>
    intro f1 f2 a k s w bc bs F hm h1 h2 G hD hF A hB hQ hE
    obtain ⟨g1, rfl⟩ : ∃ g, f1 = g + 1 := ⟨f1 - 1, by omega⟩
    obtain ⟨g2, rfl⟩ : ∃ g, f2 = g + 1 := ⟨f2 - 1, by omega⟩
    have L := G.2.2.1
    have R := G.1
    have no : ∀ j, j < 45 → ¬ tkT T j s = true := fun j hj y => by have := (tk_lt' L hj y).1; omega
    have e9 : suL T N ord S (g2 + 1) a s = .ok (a, s) := if_neg (by
      intro y; have := (adB_lt L y).1; omega)
    rw [wp_X6_sum_5]
    refine s_gf2 R.1.2.1 (x6_is (by decide) R L (s_ckI b2i_in ?_))
    rw [b2i_f (no 5 (by decide))]
    refine s_br (fun y => absurd rfl y) (fun _ => s_gf2 R.1.2.1 (x6_is (by decide) R L (s_ckI b2i_in ?_)))
    rw [b2i_f (no 6 (by decide))]
    exact s_br (fun _ => hQ _ _ e9 k w FP.rf G.2.1 R A) (fun y => absurd rfl y)
  | succ m ih =>
    intro f1 f2 a k s w bc bs F hm h1 h2 G hD hF A hB hQ hE
    obtain ⟨g1, rfl⟩ : ∃ g, f1 = g + 1 := ⟨f1 - 1, by omega⟩
    obtain ⟨g2, rfl⟩ : ∃ g, f2 = g + 1 := ⟨f2 - 1, by omega⟩
    have L := G.2.2.1
    have R := G.1
    have hOp : ∀ s, LOK T N s → RDO T N s (tmS T N ord S s) := fun s h => tmS_ok hO h
    have go : ∀ j, j < 45 → tkT T j s = true → adB T s = true → wp_X6_sum_23 WP Q XE (wp_X6_sum_5 WP Q XE r g1) r (some k) bc bs w := by
      intro j hj ht hm2
      have lt := tk_lt' L hj ht
      have o1 := OKR.nx L lt.2
      have p1 := o1.2.1
      have p2 := o1.1.1
      have rp := hOp _ o1.1
      have e9 : suL T N ord S (g2 + 1) a s = match tmS T N ord S (nxS T N s) with
        | .error e => .error e
        | .ok (b, s2) => suL T N ord S g2 (.two (T s.1) a b) s2 := by
        show (if adB T s = true then _ else _) = _
        rw [if_pos hm2]
        rfl
      have hBc : CST N (nxS T N s) (tmS T N ord S (nxS T N s)) + 1 ≤ CST N s (suL T N ord S (g2 + 1) a s) ∧ ∀ b s2, tmS T N ord S (nxS T N s) = .ok (b, s2) → CST N (nxS T N s) (tmS T N ord S (nxS T N s)) + CST N s2 (suL T N ord S g2 (.two (T s.1) a b) s2) + 1 ≤ CST N s (suL T N ord S (g2 + 1) a s) := by
        cases eP : tmS T N ord S (nxS T N s) with
        | error e =>
          rw [eP] at e9
          exact ⟨CST_err rfl e9 p1 p2.2, fun b s2 q => by cases q⟩
        | ok y =>
          obtain ⟨b, s2⟩ := y
          rw [eP] at e9 rp
          have rp : OKR T N _ s2 := rp
          have e9 : suL T N ord S (g2 + 1) a s = suL T N ord S g2 (.two (T s.1) a b) s2 := e9
          rw [e9]
          have := CST_cons (N := N) (T := T) (s := s) (s1 := nxS T N s) (r1 := .ok (b, s2)) (r2 := suL T N ord S g2 (.two (T s.1) a b) s2) rfl p1 (by have := rp.2.1; omega) rp.1.1.2 (suL_ok hO _ _ _ rp.1)
          refine ⟨by omega, fun b' s2' q => ?_⟩
          injection q with q
          injection q with qa qb
          subst qa
          subst qb
          exact this
      obtain ⟨hB1, hB2⟩ := hB
      unfold wp_X6_sum_23
      refine x6_two hOp (x6_term hO hS) hD G hj ht hF A ⟨by omega, by omega⟩ (fun b s2 e k6 w' f' G' A' => ?_) (fun e q => hE e (by rw [e9, q]))
      have e8 : suL T N ord S (g2 + 1) a s = suL T N ord S g2 (.two (T s.1) a b) s2 := by rw [e9, e]
      have rp2 : OKR T N (nxS T N s) s2 := by rw [e] at rp; exact rp
      have p3 := rp2.2.1
      have c9 := hBc.2 b s2 e
      have n10 : nfA 10 = 3 := rfl
      refine ih g1 g2 _ k6 s2 w' _ _ F (by omega) (by omega) (by omega) G' (by have := rp2.2.2.1; have e : (nxS T N s).2.2.2 = s.2.2.2 := rfl; omega) (fun q a => hF q (f'.no a)) A' ⟨by omega, by omega⟩ (fun x t q k' w2 f2 I2 R2 A2 => hQ x t (e8.trans q) k' w2 (f'.tr f2) I2 R2 A2) (BAD.to hE f' (fun p q => e8.trans q))
    rw [wp_X6_sum_5]
    refine s_gf2 R.1.2.1 (x6_is (by decide) R L (s_ckI b2i_in ?_))
    by_cases z2 : tkT T 5 s = true
    · rw [b2i_t z2]
      exact s_br (fun _ => go 5 (by decide) z2 (by unfold adB; rw [z2]; rfl)) (fun y => absurd (by decide) y)
    rw [b2i_f z2]
    refine s_br (fun y => absurd rfl y) (fun _ => s_gf2 R.1.2.1 (x6_is (by decide) R L (s_ckI b2i_in ?_)))
    by_cases z4 : tkT T 6 s = true
    · rw [b2i_t z4]
      exact s_br (fun y => absurd y (by decide)) (fun _ => go 6 (by decide) z4 (by unfold adB; rw [z4, Bool.or_true]))
    rw [b2i_f z4]
    have e9 : suL T N ord S (g2 + 1) a s = .ok (a, s) := if_neg (by
      unfold adB
      rw [Bool.or_eq_true]
      intro y
      rcases y with y | y
      · exact z2 y
      · exact z4 y)
    exact s_br (fun _ => hQ _ _ e9 k w FP.rf G.2.1 R A) (fun y => absurd rfl y)
theorem x6_sum {D : Int} {S : LX → PRS Su} {WP : Nat → Nat → Nat → Wd → (Option Nat → Wd → Prop) → (Nat → Wd → Prop) → Prop} (hO : ∀ s, LOK T N s → RDO T N s (S s)) (hS : WKS T N ord (D + 1) S WP) : WKS T N ord D (suS T N ord S) (wp_X6_sum WP) := by
  intro r s w bc bs Q XE G hD hB h1 hE
  have L := G.2.2.1
  have R := G.1
  have hN := R.1.2.2.2.1
  have rp := tmS_ok (ord := ord) hO L
  unfold wp_X6_sum
  refine s_gf2 R.1.2.1 ?_
  unfold suS at hB h1 hE
  cases eP : tmS T N ord S s with
  | error e =>
    rw [eP] at hB hE
    exact ⟨bc, bs, ⟨Nat.le_refl _, Nat.le_refl _⟩, x6_term hO hS r s w bc bs _ XE G hD (by rw [eP]; exact hB) (fun x t q => by rw [eP] at q; cases q) (by rw [eP]; exact hE)⟩
  | ok y =>
    obtain ⟨b, s2⟩ := y
    rw [eP] at hB h1 hE rp
    dsimp only at hB h1 hE
    have rp : OKR T N _ s2 := rp
    have p3 := rp.2.1
    have L2 := rp.1.1
    have c9 := CST_le (N := N) (T := T) (s := s) (r2 := suL T N ord S 401 b s2) eP (by omega) L2.2 (suL_ok hO _ _ _ rp.1)
    obtain ⟨hB1, hB2⟩ := hB
    have e9 : ∀ x t, tmS T N ord S s = .ok (x, t) → x = b ∧ t = s2 := fun x t q => by
      rw [eP] at q; injection q with q; injection q with qa qb; exact ⟨qa.symm, qb.symm⟩
    refine ⟨7 * CST N s (tmS T N ord S s), 30 * CST N s (tmS T N ord S s), ⟨?_, ?_⟩, x6_term hO hS r s w _ _ _ XE G hD ⟨Nat.le_refl _, Nat.le_refl _⟩ (fun x t q k w1 f1 I1 R1 A1 => ?_) (fun e q => by rw [eP] at q; cases q)⟩
    · unfold CST at c9 hB1 hB2 ⊢; omega
    · unfold CST at c9 hB1 hB2 ⊢; omega
    obtain ⟨rfl, rfl⟩ := e9 x t q
    refine x6_sum_5 hO hS 400 FU 401 x k t w1 _ _ (fun q => gK w q = none) (by have := L.1; omega) (by decide) (by decide) (G.to f1 I1 R1 rp.1) (by have := rp.2.2.1; omega) (fun q a => f1.no a) A1 ⟨?_, ?_⟩ (fun x2 t2 q2 k2 w2 f2 I2 R2 A2 => h1 x2 t2 q2 k2 w2 (f1.tr f2) I2 R2 A2) (hE.to f1 (fun e q => q))
    · unfold CST at c9 hB1 hB2 ⊢; omega
    · unfold CST at c9 hB1 hB2 ⊢; omega
theorem x6_suR : ∀ n : Nat, WKS T N ord (9 - (n : Int)) (suR T N ord n) (wpR_X6_sum n) := by
  intro n
  induction n with
  | zero =>
    intro r s w bc bs Q XE G hD _ _ _
    have := G.2.2.1.2.2.2.2
    omega
  | succ n ih =>
    have e : (9 : Int) - ((n + 1 : Nat) : Int) + 1 = 9 - (n : Int) := by omega
    have h : WKS T N ord (9 - ((n + 1 : Nat) : Int) + 1) (suR T N ord n) (wpR_X6_sum n) := by rw [e]; exact ih
    exact x6_sum (suR_ok n) h
theorem x6_suT : WKS T N ord (-1) (suR T N ord 10) (wpR_X6_sum 10) := x6_suR 10
end SUMS2
