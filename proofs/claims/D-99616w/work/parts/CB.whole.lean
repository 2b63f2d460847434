/-! THE PLAIN LAW: texts: the component reads a whole test -/
set_option maxRecDepth 100000
section WHOLE
variable {T : Int → Int} {N : Int} {ord : Bool} {w w' w0 w1 w2 : Wd} {r k t n c : Nat} {s : LX} {P : Prop} {v x i : Int} {QW X : Wd → Prop} {XE : Nat → Wd → Prop} {bc bs : Nat} {F F' : Nat → Prop}
theorem x6_plain {D : Int} {e0 : Nat} {S : LX → PRS Te} {WP : Nat → Nat → Nat → Wd → (Option Nat → Wd → Prop) → (Nat → Wd → Prop) → Prop} (hO : ∀ s, LOK T N s → RDO T N s (S s)) (hS : WKT T N ord (D + 1) (e0 + 1) S WP) : WKT T N ord D (e0 + 2) (plS T N ord S) (wp_X6_plain WP) := by
  intro r s w bc bs Q XE G hD hB h1 hE
  have hN := G.1.1.2.2.2.1
  have L := G.2.2.1.1
  unfold wp_X6_plain
  exact x6_plain_2 hO hS 400 FU 401 0 s w bc bs (by omega) (by decide) (by decide) G hD hB.1 hB.2 h1 hE
theorem CST_p {α β : Type} {s s2 : LX} {r1 : PRS α} {r2 : PRS β} {x : α} (h1 : r1 = .ok (x, s2)) (h2 : s.1 ≤ s2.1) (hN : s2.1 ≤ N) (hl : RDL T N s2 r2) : CST N s r1 + CST N s2 r2 ≤ CST N s r2 := CST_le h1 h2 hN hl

/-- the parts behind the first one -/
theorem x6_both_34 {D : Int} {e0 kk li : Nat} {Pp : LX → PRS Te} {S_ : Nat → Nat → Nat → Wd → (Option Nat → Wd → Prop) → (Nat → Wd → Prop) → Prop} {Q : Option Nat → Wd → Prop} (hO : ∀ s, LOK T N s → RDO T N s (Pp s)) (hS : WKT T N ord D e0 Pp (wp_X6_plain S_)) : ∀ (m f1 f2 : Nat) (l : List Te) (s : LX) (w : Wd) (bc bs E n d : Nat), (N - s.1).toNat ≤ m → m < f1 → m < f2 → RDG T N ord w r s → D ≤ s.2.2.2 → FP r w0 w → SEV (fun q => gK w0 q = none) w e0 1 l kk li E n → (n ≤ 2 * l.length ∧ (l.length : Int) ≤ s.1 ∧ 1 ≤ l.length) → d ≤ 1 → (d = 1 → tkT T 13 s = true) → 7 * CST N s (moL T N 13 Pp f2 l s) ≤ bc + 6 * d → 30 * CST N s (moL T N 13 Pp f2 l s) + 8 * l.length ≤ bs + 4 * n + 22 * d → (∀ x t, moL T N 13 Pp f2 l s = .ok (x, t) → ∀ w', FP r w0 w' → TIW w' → RDX T N w' r t → TeA (fun q => gK w0 q = none) w' (e0 + 1) (.sev 1 x) kk → Q (some kk) w') → BAD w0 r XE (moL T N 13 Pp f2 l s) → wp_X6_both_34 S_ Q XE r kk f1 bc bs w := by
  intro m
  induction m with
  | zero =>
    intro f1 f2 l s w bc bs E n d hm h1 h2 G hD f0 V hl hd hd1 hB1 hB2 hQ hE
    obtain ⟨g1, rfl⟩ : ∃ g, f1 = g + 1 := ⟨f1 - 1, by omega⟩
    obtain ⟨g2, rfl⟩ : ∃ g, f2 = g + 1 := ⟨f2 - 1, by omega⟩
    have L := G.2.2.1
    have R := G.1
    rw [wp_X6_both_34]
    refine s_gf2 R.1.2.1 (x6_takes (by decide) R L (fun z w' f R' => ?_) (fun z => ?_))
    · have := (tk_lt' L (by decide) z).1; omega
    · have e9 : moL T N 13 Pp (g2 + 1) l s = .ok (l, s) := if_neg z
      exact s_ckI ⟨by decide, by decide⟩ (s_br (fun _ => hQ _ _ e9 w f0 G.2.1 R V.te) (fun y => absurd rfl y))
  | succ m ih =>
    intro f1 f2 l s w bc bs E n d hm h1 h2 G hD f0 V hl hd hd1 hB1 hB2 hQ hE
    obtain ⟨g1, rfl⟩ : ∃ g, f1 = g + 1 := ⟨f1 - 1, by omega⟩
    obtain ⟨g2, rfl⟩ : ∃ g, f2 = g + 1 := ⟨f2 - 1, by omega⟩
    have L := G.2.2.1
    have R := G.1
    have hN := R.1.2.2.2.1
    rw [wp_X6_both_34]
    refine s_gf2 R.1.2.1 (x6_takes (by decide) R L (fun z w1 f1' R1 => ?_) (fun z => ?_))
    · have lt := tk_lt' L (by decide) z
      have o1 := OKR.nx L lt.2
      have p1 := o1.2.1
      have p2 := o1.1.1
      have rp := hO _ o1.1
      have e9 : moL T N 13 Pp (g2 + 1) l s = match Pp (nxS T N s) with
        | .error e => .error e
        | .ok (t, s2) => moL T N 13 Pp g2 (l ++ [t]) s2 := by
        show (if tkT T 13 s = true then _ else _) = _
        rw [if_pos z]
        rfl
      have hBc : CST N (nxS T N s) (Pp (nxS T N s)) + 1 ≤ CST N s (moL T N 13 Pp (g2 + 1) l s) ∧ ∀ b s2, Pp (nxS T N s) = .ok (b, s2) → CST N (nxS T N s) (Pp (nxS T N s)) + CST N s2 (moL T N 13 Pp g2 (l ++ [b]) s2) + 1 ≤ CST N s (moL T N 13 Pp (g2 + 1) l s) := by
        cases eP : Pp (nxS T N s) with
        | error e =>
          rw [eP] at e9
          exact ⟨CST_err rfl e9 p1 p2.2, fun b s2 q => by cases q⟩
        | ok y =>
          obtain ⟨b, s2⟩ := y
          rw [eP] at e9 rp
          have rp : OKR T N (nxS T N s) s2 := rp
          have e9 : moL T N 13 Pp (g2 + 1) l s = moL T N 13 Pp g2 (l ++ [b]) s2 := e9
          rw [e9]
          have := CST_cons (N := N) (T := T) (s := s) (s1 := nxS T N s) (r1 := .ok (b, s2)) (r2 := moL T N 13 Pp g2 (l ++ [b]) s2) rfl p1 (by have := rp.2.1; omega) rp.1.1.2 (moL_ok (by decide) hO _ _ _ rp.1)
          refine ⟨by omega, fun b' s2' q => ?_⟩
          injection q with q
          injection q with qa qb
          subst qa
          subst qb
          exact this
      have I1 := G.2.1.sm f1'.1
      have G1 := G.to f1'.fp I1 R1 o1.1
      have V1 := V.fp f1'.fp R.1.2.1
      have f01 := f0.tr f1'.fp
      refine s_ckI ⟨by decide, by decide⟩ (s_br (fun y => absurd y (by decide)) (fun _ => ?_))
      refine s_gfR V1.2.1 V1.2.2.2.1 (s_gf2 R1.1.2.1 ⟨7 * CST N (nxS T N s) (Pp (nxS T N s)), 30 * CST N (nxS T N s) (Pp (nxS T N s)), ⟨by omega, by omega⟩, hS r _ w1 _ _ _ _ G1 hD ⟨Nat.le_refl _, Nat.le_refl _⟩ (fun b s2 e k9 w9 f9 I9 R9 A9 => ?_) (hE.to f01 (fun e q => by rw [e9, q]))⟩)
      have e8 : moL T N 13 Pp (g2 + 1) l s = moL T N 13 Pp g2 (l ++ [b]) s2 := by rw [e9, e]
      have rp2 : OKR T N (nxS T N s) s2 := by rw [e] at rp; exact rp
      have p3 := rp2.2.1
      have p4 := rp2.1.1
      have c9 := hBc.2 b s2 e
      have V9 := V1.fp f9 R1.1.2.1
      have f09 := f01.tr f9
      have lst := V9.2.2.2.2.2.2.1
      have F1 := V9.2.2.2.2.1
      have F2 := V9.2.2.2.2.2.1
      have A9' : TeA (fun q => gK w0 q = none ∧ q ≠ li ∧ q ≠ E) w9 e0 b k9 := A9.we (fun q a => ⟨f01.no a, (fun y => by
        subst y; have := V1.2.2.2.2.2.2.1.1; rw [this] at a; cases a), (fun y => by
        subst y; have := V1.2.2.2.2.2.2.1.2.2.1; rw [this] at a; cases a)⟩)
      obtain ⟨_, ak, ad⟩ := TeA.f A9
      obtain ⟨ci, hci, hci2⟩ : ∃ ci, gK w9 k9 = some (.inl ci) ∧ ci < 19 := by
        rcases ad with ad | ad | ad
        · exact ⟨11, ad, by decide⟩
        · exact ⟨12, ad, by decide⟩
        · exact ⟨13, ad, by decide⟩
      have n6 : (l.length : Int) = n → n < 600 := by omega
      refine s_dO (s_cO lst.1 ?_)
      by_cases gw : (l.length : Int) = n
      · refine ⟨1, n + max 1 (n / 2), ⟨by omega, by omega⟩, j2_add lst I9 hci hci2 ak n6 (fun _ => ⟨Nat.le_refl _, Nat.le_refl _⟩) (fun w3 E' n' h3 => ?_)⟩
        have V3 := V9.add A9' h3 (fun q a => f09.no a) n6
        have f03 := f09.add h3 F1.1 F2.1
        have I3 := h3.2.2.2.2.2.2
        have R3 := R9.add h3 lst.1 F2.2 lst.2.2.1
        have n3 : n' = n + max 1 (n / 2) := by
          rcases h3.2.2.2.2.1 with ⟨_, _, u⟩ | ⟨_, _, _, u, _⟩
          · omega
          · exact u
        have lz : (l ++ [b]).length = l.length + 1 := by rw [List.length_append]; rfl
        have G3 : RDG T N ord w3 r s2 := ⟨R3, I3, rp2.1, (h3.kr R9.1.2.1 lst.1 lst.2.2.1).trans ((f9 r (by rw [G1.2.2.2]; exact fun z => by cases z)).1.trans G1.2.2.2)⟩
        exact ih g1 g2 (l ++ [b]) s2 w3 _ _ E' n' 0 (by omega) (by omega) (by omega) G3 (by have := rp2.2.2.1; have e : (nxS T N s).2.2.2 = s.2.2.2 := rfl; omega) f03 V3 (by omega) (by decide) (fun y => absurd y (by decide)) (by omega) (by omega) (fun x t q w' f' I' R' A' => hQ x t (e8.trans q) w' f' I' R' A') (BAD.to hE FP.rf (fun p q => e8.trans q))
      · refine ⟨0, 0, ⟨Nat.zero_le _, Nat.zero_le _⟩, j2_add lst I9 hci hci2 ak n6 (fun y => absurd y gw) (fun w3 E' n' h3 => ?_)⟩
        have V3 := V9.add A9' h3 (fun q a => f09.no a) n6
        have f03 := f09.add h3 F1.1 F2.1
        have I3 := h3.2.2.2.2.2.2
        have R3 := R9.add h3 lst.1 F2.2 lst.2.2.1
        have n3 : n' = n := by
          rcases h3.2.2.2.2.1 with ⟨_, u, _⟩ | ⟨_, _, u, _⟩
          · exact u
          · exact absurd u gw
        have lz : (l ++ [b]).length = l.length + 1 := by rw [List.length_append]; rfl
        have G3 : RDG T N ord w3 r s2 := ⟨R3, I3, rp2.1, (h3.kr R9.1.2.1 lst.1 lst.2.2.1).trans ((f9 r (by rw [G1.2.2.2]; exact fun z => by cases z)).1.trans G1.2.2.2)⟩
        exact ih g1 g2 (l ++ [b]) s2 w3 _ _ E' n' 0 (by omega) (by omega) (by omega) G3 (by have := rp2.2.2.1; have e : (nxS T N s).2.2.2 = s.2.2.2 := rfl; omega) f03 V3 (by omega) (by decide) (fun y => absurd y (by decide)) (by omega) (by omega) (fun x t q w' f' I' R' A' => hQ x t (e8.trans q) w' f' I' R' A') (BAD.to hE FP.rf (fun p q => e8.trans q))
    · have e9 : moL T N 13 Pp (g2 + 1) l s = .ok (l, s) := if_neg z
      exact s_ckI ⟨by decide, by decide⟩ (s_br (fun _ => hQ _ _ e9 w f0 G.2.1 R V.te) (fun y => absurd rfl y))

theorem x6_both {D : Int} {e0 : Nat} {Pp : LX → PRS Te} {S_ : Nat → Nat → Nat → Wd → (Option Nat → Wd → Prop) → (Nat → Wd → Prop) → Prop} (hO : ∀ s, LOK T N s → RDO T N s (Pp s)) (hS : WKT T N ord D e0 Pp (wp_X6_plain S_)) : WKT T N ord D (e0 + 1) (jnS T N 13 1 Pp) (wp_X6_both S_) := by
  intro r s w bc bs Q XE G hD hB h1 hE
  have L := G.2.2.1
  have L0 := L.1
  have R := G.1
  have hN := R.1.2.2.2.1
  have rp := hO s L
  unfold wp_X6_both
  refine s_gf2 R.1.2.1 ?_
  cases eP : Pp s with
  | error e =>
    have e9 : jnS T N 13 1 Pp s = .error e := by unfold jnS; rw [eP]
    rw [e9] at hB hE
    exact ⟨bc, bs, ⟨Nat.le_refl _, Nat.le_refl _⟩, hS r s w bc bs _ XE G hD (by rw [eP]; exact hB) (fun x t q => by rw [eP] at q; cases q) (by rw [eP]; exact hE)⟩
  | ok y =>
    obtain ⟨b, s2⟩ := y
    rw [eP] at rp
    have e9 : jnS T N 13 1 Pp s = if tkT T 13 s2 = true then (match moL T N 13 Pp 401 [b] s2 with
      | .error e => .error e
      | .ok (l, s3) => .ok (Te.sev 1 l, s3)) else .ok (b, s2) := by unfold jnS; rw [eP]; rfl
    have rp : OKR T N s s2 := rp
    have p3 := rp.2.1
    have L2 := rp.1.1
    have key : CST N s (Pp s) = (s2.1 - s.1).toNat := by rw [eP]; rfl
    have hBc : CST N s (Pp s) ≤ CST N s (jnS T N 13 1 Pp s) ∧ (tkT T 13 s2 = true → CST N s (Pp s) + CST N s2 (moL T N 13 Pp 401 [b] s2) ≤ CST N s (jnS T N 13 1 Pp s) ∧ 1 ≤ CST N s2 (moL T N 13 Pp 401 [b] s2)) := by
      rw [e9]
      by_cases g : tkT T 13 s2 = true
      · rw [if_pos g]
        have lt := tk_lt' rp.1 (by decide) g
        have r2 := moL_ok (T := T) (N := N) (i := 13) (by decide) hO 401 [b] s2 rp.1
        have e9 : moL T N 13 Pp 401 [b] s2 = match Pp (nxS T N s2) with
          | .error e => .error e
          | .ok (t, s3) => moL T N 13 Pp 400 ([b] ++ [t]) s3 := by
          show (if tkT T 13 s2 = true then _ else _) = _
          rw [if_pos g]
          rfl
        have o1 := OKR.nx rp.1 lt.2
        have p5 := o1.2.1
        have p6 := o1.1.1
        have rn := hO _ o1.1
        have c1 : 1 ≤ CST N s2 (moL T N 13 Pp 401 [b] s2) := by
          cases eq : Pp (nxS T N s2) with
          | error e =>
            rw [eq] at e9
            have := CST_err (N := N) (s := s2) (s1 := nxS T N s2) (r1 := Pp (nxS T N s2)) eq e9 p5 p6.2
            omega
          | ok y =>
            obtain ⟨b2, s3⟩ := y
            rw [eq] at e9 rn
            have rn : OKR T N (nxS T N s2) s3 := rn
            have e9 : moL T N 13 Pp 401 [b] s2 = moL T N 13 Pp 400 ([b] ++ [b2]) s3 := e9
            rw [e9]
            have := CST_cons (N := N) (T := T) (s := s2) (s1 := nxS T N s2) (r1 := .ok (b2, s3)) (r2 := moL T N 13 Pp 400 ([b] ++ [b2]) s3) rfl p5 (by have := rn.2.1; omega) rn.1.1.2 (moL_ok (by decide) hO _ _ _ rn.1)
            omega
        cases e2 : moL T N 13 Pp 401 [b] s2 with
        | error e => rw [e2] at c1; unfold CST at *; dsimp only at *; omega
        | ok y =>
          obtain ⟨y, s3⟩ := y
          rw [e2] at r2 c1
          have r2 : s3 = s2 ∨ OKR T N s2 s3 := r2
          have h3 : s2.1 ≤ s3.1 := by
            rcases r2 with h | h
            · rw [h]; exact Int.le_refl _
            · have := h.2.1; omega
          unfold CST at c1 ⊢
          rw [show Pp s = _ from eP]
          dsimp only at c1 ⊢
          omega
      · rw [if_neg g]
        refine ⟨?_, fun y => absurd y g⟩
        rw [key]; unfold CST; dsimp only; omega
    obtain ⟨hB1, hB2⟩ := hB
    refine ⟨7 * CST N s (Pp s), 30 * CST N s (Pp s), ⟨by omega, by omega⟩, hS r s w _ _ _ XE G hD ⟨Nat.le_refl _, Nat.le_refl _⟩ (fun x t q k w1 f1 I1 R1 A1 => ?_) (fun e q => by rw [eP] at q; cases q)⟩
    rw [eP] at q
    injection q with q
    injection q with qa qb
    subst qa
    subst qb
    have G1 := G.to f1 I1 R1 rp.1
    refine s_gf2 R1.1.2.1 (x6_is (by decide) R1 rp.1 (s_ckI b2i_in ?_))
    by_cases g : tkT T 13 s2 = true
    · rw [b2i_t g]
      rw [if_pos g] at e9
      have hBd := hBc.2 g
      refine s_br (fun _ => ?_) (fun y => absurd (by decide) y)
      have n13 : nfA 13 = 2 := rfl
      have n18 : nfA 18 = 3 := rfl
      refine ⟨⟨by omega, by omega⟩, fun k11 hk11 hn11 => ⟨3, 5, ⟨by omega, by omega⟩, ?_⟩⟩
      unfold wp_X17_init wp_X14_init
      refine ⟨⟨by omega, by omega⟩, fun k2 hk2 hn2 => ⟨1, 2, ⟨by omega, by omega⟩, ?_⟩⟩
      unfold wp_J2_init wp_J1_init wp_J0_init
      have N1 : NEW k11 w1 (nK w1 k11 (.inl 13)) := NEW.rf.nK
      have q1 : gK (nK w1 k11 (.inl 13)) k11 = some (.inl 13) := by rw [gK_nK, if_pos rfl]
      have IA : TIW (nK w1 k11 (.inl 13)) := TIW.new (k := k11) I1 N1 hk11 (by rw [q1]; exact fun z => by cases z) (fun j x hr => by rw [gR_nK, if_pos rfl] at hr; cases hr)
      have fA : FP r w (nK w1 k11 (.inl 13)) := f1.ne N1 (f1.no hn11)
      have RA := R1.new N1 hn11
      have AA : TeA (fun q => gK w q = none ∧ q ≠ k11) (nK w1 k11 (.inl 13)) e0 b k := TeA.mo (fun q a b => ⟨⟨a, fun y => b (y ▸ hn11)⟩, (N1 q (fun y => b (y ▸ hn11))).1, (N1 q (fun y => b (y ▸ hn11))).2.2, fun _ => (N1 q (fun y => b (y ▸ hn11))).2.1⟩) e0 b k A1
      have nk11 := f1.no hn11
      generalize nK w1 k11 (.inl 13) = wA at *
      have hc0 : ((0 : Nat) : Int) = 0 := rfl
      have q20 : gK (nK wA k2 (.inl 18)) k2 = some (.inl 18) := by rw [gK_nK, if_pos rfl]
      refine ⟨q20, ?_⟩
      rw [hc0]
      have N2 : NEW k2 wA (sV (nK wA k2 (.inl 18)) k2 0 0) := NEW.rf.nK.sV
      have q2 : gK (sV (nK wA k2 (.inl 18)) k2 0 0) k2 = some (.inl 18) := by rw [gK_sV, gK_nK, if_pos rfl]
      have d1 : k11 ≠ k2 := fun y => by subst y; rw [q1] at hn2; cases hn2
      have q1B : gK (sV (nK wA k2 (.inl 18)) k2 0 0) k11 = some (.inl 13) := (N2 k11 d1).1.trans q1
      have v2B : gV (sV (nK wA k2 (.inl 18)) k2 0 0) k2 2 = 0 := by rw [gV_ne (by omega), gV_nK, if_pos rfl]
      have IB : TIW (sV (nK wA k2 (.inl 18)) k2 0 0) := TIW.new (k := k2) IA N2 hk2 (by rw [q2]; exact fun z => by cases z) (fun j x hr => by rw [gR_sV, gR_nK, if_pos rfl] at hr; cases hr)
      have g2B : ∀ j, gR (sV (nK wA k2 (.inl 18)) k2 0 0) k2 j = none := fun j => by rw [gR_sV, gR_nK, if_pos rfl]
      have fB : FP r w (sV (nK wA k2 (.inl 18)) k2 0 0) := fA.ne N2 (fA.no hn2)
      have RB := RA.new N2 hn2
      have nk2 := fA.no hn2
      have kn2 : TeA (fun q => (gK w q = none ∧ q ≠ k11) ∧ q ≠ k2) (sV (nK wA k2 (.inl 18)) k2 0 0) e0 b k := TeA.mo (fun q a b => ⟨⟨a, fun y => b (y ▸ hn2)⟩, (N2 q (fun y => b (y ▸ hn2))).1, (N2 q (fun y => b (y ▸ hn2))).2.2, fun _ => (N2 q (fun y => b (y ▸ hn2))).2.1⟩) e0 b k AA
      generalize sV (nK wA k2 (.inl 18)) k2 0 0 = wB at *
      refine s_ckI ⟨by decide, by decide⟩ (s_br (fun y => absurd y (by decide)) (fun _ => ⟨⟨by decide, by decide, by omega, by show 2 ≤ 2; omega⟩, fun k4 hk4 hn4 => ?_⟩))
      have t2 : (2 : Int).toNat = 2 := rfl
      rw [t2]
      have N3 : NEW k4 wB (nK wB k4 (.inr (4, 2))) := NEW.rf.nK
      have q4 : gK (nK wB k4 (.inr (4, 2))) k4 = some (.inr (4, 2)) := by rw [gK_nK, if_pos rfl]
      have d2 : k11 ≠ k4 := fun y => by subst y; rw [q1B] at hn4; cases hn4
      have d3 : k2 ≠ k4 := fun y => by subst y; rw [q2] at hn4; cases hn4
      have q1C : gK (nK wB k4 (.inr (4, 2))) k11 = some (.inl 13) := (N3 k11 d2).1.trans q1B
      have q2C : gK (nK wB k4 (.inr (4, 2))) k2 = some (.inl 18) := (N3 k2 d3).1.trans q2
      have v2C : gV (nK wB k4 (.inr (4, 2))) k2 2 = 0 := ((N3 k2 d3).2.1 2).trans v2B
      have IC : TIW (nK wB k4 (.inr (4, 2))) := TIW.new (k := k4) IB N3 hk4 (by rw [q4]; exact fun z => by cases z) (fun j x hr => by rw [gR_nK, if_pos rfl] at hr; cases hr)
      have g4 : ∀ j, gR (nK wB k4 (.inr (4, 2))) k4 j = none := fun j => by rw [gR_nK, if_pos rfl]
      have g2C : ∀ j, gR (nK wB k4 (.inr (4, 2))) k2 j = none := fun j => ((N3 k2 d3).2.2 j).trans (g2B j)
      have fC : FP r w (nK wB k4 (.inr (4, 2))) := fB.ne N3 (fB.no hn4)
      have RC := RB.new N3 hn4
      have AC : TeA (fun q => ((gK w q = none ∧ q ≠ k11) ∧ q ≠ k2) ∧ q ≠ k4) (nK wB k4 (.inr (4, 2))) e0 b k := TeA.mo (fun q a b => ⟨⟨a, fun y => b (y ▸ hn4)⟩, (N3 q (fun y => b (y ▸ hn4))).1, (N3 q (fun y => b (y ▸ hn4))).2.2, fun _ => (N3 q (fun y => b (y ▸ hn4))).2.1⟩) e0 b k kn2
      have nk4 := fB.no hn4
      generalize nK wB k4 (.inr (4, 2)) = wC at *
      have hc1 : ((1 : Nat) : Int) = 1 := rfl
      refine ⟨q2C, ?_⟩
      refine ⟨q1C, ?_⟩
      refine ⟨q1C, by decide, ?_⟩
      rw [hc1, hc0]
      have rE : ∀ q j, gR (sV (sR (sR wC k2 1 (some k4)) k11 1 (some k2)) k11 0 1) q j = if q = k11 ∧ j = 1 then some k2 else if q = k2 ∧ j = 1 then some k4 else gR wC q j := fun q j => by
        rw [gR_sV, gR_sR, gR_sR]
      have vE : ∀ q j, ¬ (q = k11 ∧ j = 0) → gV (sV (sR (sR wC k2 1 (some k4)) k11 1 (some k2)) k11 0 1) q j = gV wC q j := fun q j y => gV_ne y
      have vE1 : gV (sV (sR (sR wC k2 1 (some k4)) k11 1 (some k2)) k11 0 1) k11 0 = 1 := gV_at
      have kE : ∀ q, gK (sV (sR (sR wC k2 1 (some k4)) k11 1 (some k2)) k11 0 1) q = gK wC q := fun _ => rfl
      have hkA := TeA.f AC
      have IE : TIW (sV (sR (sR wC k2 1 (some k4)) k11 1 (some k2)) k11 0 1) := by
        refine ⟨IC.k1 (fun q y => y) (fun q y => by rw [rE] at y; split at y; cases y; split at y; cases y; exact y), fun q j x a hr => ?_⟩
        rw [rE] at hr
        split at hr
        · injection hr with hr
          subst hr
          exact ⟨(by rw [kE, q2C]; exact fun z => by cases z), by omega, by omega, by omega⟩
        · split at hr
          · injection hr with hr
            subst hr
            exact ⟨(by rw [kE, q4]; exact fun z => by cases z), by omega, by omega, by omega⟩
          · exact IC.2 q j x a hr
      have kr11 : r ≠ k11 := fun y => RA.1.2.1.nk q1 (by decide) y.symm
      have RE : RDX T N (sV (sR (sR wC k2 1 (some k4)) k11 1 (some k2)) k11 0 1) r s2 := by
        obtain ⟨⟨b1, b2, b3, b4⟩, b5, b6, b7, b8, b9⟩ := RC
        have r2 : r ≠ k2 := fun y => k67.nk b2 q2C (by decide) y.symm
        have g9 : ∀ j, gV (sV (sR (sR wC k2 1 (some k4)) k11 1 (some k2)) k11 0 1) r j = gV wC r j := fun j => vE r j (fun y => kr11 y.1)
        exact ⟨⟨b1, b2, (by rw [rE, if_neg (fun y => kr11 y.1), if_neg (fun y => r2 y.1)]; exact b3), b4.fr rfl (fun q => vE 110 q (fun y => by have := y.1; omega))⟩, (g9 _).trans b5, (g9 _).trans b6, (g9 _).trans b7, (g9 _).trans b8, (g9 _).trans b9⟩
      have fE : FP r w (sV (sR (sR wC k2 1 (some k4)) k11 1 (some k2)) k11 0 1) := fun q hq => by
        have u1 : q ≠ k11 := fun y => hq (y ▸ nk11)
        have u2 : q ≠ k2 := fun y => hq (y ▸ nk2)
        obtain ⟨f1, f2, f3⟩ := fC q hq
        exact ⟨f1, fun j => (by rw [rE, if_neg (fun y => u1 y.1), if_neg (fun y => u2 y.1)]; exact f2 j), fun j y => (vE q j (fun y => u1 y.1)).trans (f3 j y)⟩
      have AE : TeA (fun q => gK w q = none ∧ q ≠ k2 ∧ q ≠ k4) (sV (sR (sR wC k2 1 (some k4)) k11 1 (some k2)) k11 0 1) e0 b k := by
        exact TeA.mo (F := fun q => ((gK w q = none ∧ q ≠ k11) ∧ q ≠ k2) ∧ q ≠ k4) (w := wC) (w' := sV (sR (sR wC k2 1 (some k4)) k11 1 (some k2)) k11 0 1) (fun q a b => ⟨⟨a.1.1.1, a.1.2, a.2⟩, rfl, fun j => by rw [rE, if_neg (fun y => a.1.1.2 y.1), if_neg (fun y => a.1.2 y.1)], fun _ j => vE q j (fun y => a.1.1.2 y.1)⟩) e0 b k AC
      have r11 := rE k11 1
      rw [if_pos ⟨rfl, rfl⟩] at r11
      have r21 := rE k2 1
      rw [if_neg (fun y => d1 y.1.symm), if_pos ⟨rfl, rfl⟩] at r21
      have r4 : ∀ j, gR (sV (sR (sR wC k2 1 (some k4)) k11 1 (some k2)) k11 0 1) k4 j = none := fun j => by
        rw [rE, if_neg (fun y => d2 y.1.symm), if_neg (fun y => d3 y.1.symm)]; exact g4 j
      have q11 := (kE k11).trans q1C
      have q22 := (kE k2).trans q2C
      have q44 := (kE k4).trans q4
      have v22 := (vE k2 2 (fun y => d1 y.1.symm)).trans v2C
      clear rE vE kE
      generalize sV (sR (sR wC k2 1 (some k4)) k11 1 (some k2)) k11 0 1 = wE at *
      refine s_gfR q11 r11 (s_dO (s_cO q22 ⟨0, 0, ⟨Nat.zero_le _, Nat.zero_le _⟩, ?_⟩))
      obtain ⟨ci, hci, hci2⟩ : ∃ ci, gK wE k = some (.inl ci) ∧ ci < 19 := by
        rcases (TeA.f AE).2.2 with ad | ad | ad
        · exact ⟨11, ad, by decide⟩
        · exact ⟨12, ad, by decide⟩
        · exact ⟨13, ad, by decide⟩
      have lst : LST wE k2 k4 2 0 := ⟨q22, r21, q44, v22, by decide, fun i a b => by omega⟩
      have V0 : SEV (fun q => gK w q = none) wE e0 1 [] k11 k2 k4 2 := ⟨⟨nk11, hk11⟩, q11, vE1, r11, ⟨nk2, hk2⟩, ⟨nk4, hk4⟩, lst, fun i t ht => by cases ht⟩
      refine j2_add lst IE hci hci2 hkA.2.1 (fun y => by decide) (fun y => absurd y (by decide)) (fun w3 E' n' h3 => ?_)
      have V3 := V0.add AE h3 (fun q a => fE.no a) (fun y => by decide)
      have f03 := fE.add h3 nk2 nk4
      have I3 := h3.2.2.2.2.2.2
      have R3 := RE.add h3 q22 hk4 q44
      have n3 : n' = 2 := by
        rcases h3.2.2.2.2.1 with ⟨_, u, _⟩ | ⟨_, _, u, _⟩
        · exact u
        · exact absurd u (by decide)
      subst n3
      have kd : gK w r ≠ none := by rw [G.2.2.2]; exact fun z => by cases z
      have G3 : RDG T N ord w3 r s2 := ⟨R3, I3, rp.1, (f03 r kd).1.trans G.2.2.2⟩
      refine x6_both_34 (w0 := w) hO hS 400 FU 401 ([] ++ [b]) s2 w3 _ _ E' 2 1 (by omega) (by decide) (by decide) G3 (by have := rp.2.2.1; omega) f03 V3 ⟨Nat.le_refl 2, by show ((1 : Nat) : Int) ≤ s2.1; omega, Nat.le_refl 1⟩ (by decide) (fun _ => g) ?_ ?_ (fun x t q w' f' I' R' A' => ?_) ?_
      · show 7 * CST N s2 (moL T N 13 Pp 401 [b] s2) ≤ _
        omega
      · show 30 * CST N s2 (moL T N 13 Pp 401 [b] s2) + 8 * 1 ≤ _
        omega
      · have q : moL T N 13 Pp 401 [b] s2 = .ok (x, t) := q
        refine h1 (.sev 1 x) t (by rw [e9, q]) k11 w' f' I' R' A'
      · exact BAD.to hE FP.rf (fun p q => by
          have q : moL T N 13 Pp 401 [b] s2 = .error p := q
          rw [e9, q])
    · rw [b2i_f g]
      rw [if_neg g] at e9
      exact s_br (fun y => absurd rfl y) (fun _ => h1 b s2 e9 k w1 f1 I1 R1 (A1.up))

/-- the parts behind the first one -/
theorem x6_test_34 {D : Int} {e0 kk li : Nat} {Pp : LX → PRS Te} {S_ : Nat → Nat → Nat → Wd → (Option Nat → Wd → Prop) → (Nat → Wd → Prop) → Prop} {Q : Option Nat → Wd → Prop} (hO : ∀ s, LOK T N s → RDO T N s (Pp s)) (hS : WKT T N ord D e0 Pp (wp_X6_both S_)) : ∀ (m f1 f2 : Nat) (l : List Te) (s : LX) (w : Wd) (bc bs E n d : Nat), (N - s.1).toNat ≤ m → m < f1 → m < f2 → RDG T N ord w r s → D ≤ s.2.2.2 → FP r w0 w → SEV (fun q => gK w0 q = none) w e0 0 l kk li E n → (n ≤ 2 * l.length ∧ (l.length : Int) ≤ s.1 ∧ 1 ≤ l.length) → d ≤ 1 → (d = 1 → tkT T 14 s = true) → 7 * CST N s (moL T N 14 Pp f2 l s) ≤ bc + 6 * d → 30 * CST N s (moL T N 14 Pp f2 l s) + 8 * l.length ≤ bs + 4 * n + 22 * d → (∀ x t, moL T N 14 Pp f2 l s = .ok (x, t) → ∀ w', FP r w0 w' → TIW w' → RDX T N w' r t → TeA (fun q => gK w0 q = none) w' (e0 + 1) (.sev 0 x) kk → Q (some kk) w') → BAD w0 r XE (moL T N 14 Pp f2 l s) → wp_X6_test_34 S_ Q XE r kk f1 bc bs w := by
  intro m
  induction m with
  | zero =>
    intro f1 f2 l s w bc bs E n d hm h1 h2 G hD f0 V hl hd hd1 hB1 hB2 hQ hE
    obtain ⟨g1, rfl⟩ : ∃ g, f1 = g + 1 := ⟨f1 - 1, by omega⟩
    obtain ⟨g2, rfl⟩ : ∃ g, f2 = g + 1 := ⟨f2 - 1, by omega⟩
    have L := G.2.2.1
    have R := G.1
    rw [wp_X6_test_34]
    refine s_gf2 R.1.2.1 (x6_takes (by decide) R L (fun z w' f R' => ?_) (fun z => ?_))
    · have := (tk_lt' L (by decide) z).1; omega
    · have e9 : moL T N 14 Pp (g2 + 1) l s = .ok (l, s) := if_neg z
      exact s_ckI ⟨by decide, by decide⟩ (s_br (fun _ => hQ _ _ e9 w f0 G.2.1 R V.te) (fun y => absurd rfl y))
  | succ m ih =>
    intro f1 f2 l s w bc bs E n d hm h1 h2 G hD f0 V hl hd hd1 hB1 hB2 hQ hE
    obtain ⟨g1, rfl⟩ : ∃ g, f1 = g + 1 := ⟨f1 - 1, by omega⟩
    obtain ⟨g2, rfl⟩ : ∃ g, f2 = g + 1 := ⟨f2 - 1, by omega⟩
    have L := G.2.2.1
    have R := G.1
    have hN := R.1.2.2.2.1
    rw [wp_X6_test_34]
    refine s_gf2 R.1.2.1 (x6_takes (by decide) R L (fun z w1 f1' R1 => ?_) (fun z => ?_))
    · have lt := tk_lt' L (by decide) z
      have o1 := OKR.nx L lt.2
      have p1 := o1.2.1
      have p2 := o1.1.1
      have rp := hO _ o1.1
      have e9 : moL T N 14 Pp (g2 + 1) l s = match Pp (nxS T N s) with
        | .error e => .error e
        | .ok (t, s2) => moL T N 14 Pp g2 (l ++ [t]) s2 := by
        show (if tkT T 14 s = true then _ else _) = _
        rw [if_pos z]
        rfl
      have hBc : CST N (nxS T N s) (Pp (nxS T N s)) + 1 ≤ CST N s (moL T N 14 Pp (g2 + 1) l s) ∧ ∀ b s2, Pp (nxS T N s) = .ok (b, s2) → CST N (nxS T N s) (Pp (nxS T N s)) + CST N s2 (moL T N 14 Pp g2 (l ++ [b]) s2) + 1 ≤ CST N s (moL T N 14 Pp (g2 + 1) l s) := by
        cases eP : Pp (nxS T N s) with
        | error e =>
          rw [eP] at e9
          exact ⟨CST_err rfl e9 p1 p2.2, fun b s2 q => by cases q⟩
        | ok y =>
          obtain ⟨b, s2⟩ := y
          rw [eP] at e9 rp
          have rp : OKR T N (nxS T N s) s2 := rp
          have e9 : moL T N 14 Pp (g2 + 1) l s = moL T N 14 Pp g2 (l ++ [b]) s2 := e9
          rw [e9]
          have := CST_cons (N := N) (T := T) (s := s) (s1 := nxS T N s) (r1 := .ok (b, s2)) (r2 := moL T N 14 Pp g2 (l ++ [b]) s2) rfl p1 (by have := rp.2.1; omega) rp.1.1.2 (moL_ok (by decide) hO _ _ _ rp.1)
          refine ⟨by omega, fun b' s2' q => ?_⟩
          injection q with q
          injection q with qa qb
          subst qa
          subst qb
          exact this
      have I1 := G.2.1.sm f1'.1
      have G1 := G.to f1'.fp I1 R1 o1.1
      have V1 := V.fp f1'.fp R.1.2.1
      have f01 := f0.tr f1'.fp
      refine s_ckI ⟨by decide, by decide⟩ (s_br (fun y => absurd y (by decide)) (fun _ => ?_))
      refine s_gfR V1.2.1 V1.2.2.2.1 (s_gf2 R1.1.2.1 ⟨7 * CST N (nxS T N s) (Pp (nxS T N s)), 30 * CST N (nxS T N s) (Pp (nxS T N s)), ⟨by omega, by omega⟩, hS r _ w1 _ _ _ _ G1 hD ⟨Nat.le_refl _, Nat.le_refl _⟩ (fun b s2 e k9 w9 f9 I9 R9 A9 => ?_) (hE.to f01 (fun e q => by rw [e9, q]))⟩)
      have e8 : moL T N 14 Pp (g2 + 1) l s = moL T N 14 Pp g2 (l ++ [b]) s2 := by rw [e9, e]
      have rp2 : OKR T N (nxS T N s) s2 := by rw [e] at rp; exact rp
      have p3 := rp2.2.1
      have p4 := rp2.1.1
      have c9 := hBc.2 b s2 e
      have V9 := V1.fp f9 R1.1.2.1
      have f09 := f01.tr f9
      have lst := V9.2.2.2.2.2.2.1
      have F1 := V9.2.2.2.2.1
      have F2 := V9.2.2.2.2.2.1
      have A9' : TeA (fun q => gK w0 q = none ∧ q ≠ li ∧ q ≠ E) w9 e0 b k9 := A9.we (fun q a => ⟨f01.no a, (fun y => by
        subst y; have := V1.2.2.2.2.2.2.1.1; rw [this] at a; cases a), (fun y => by
        subst y; have := V1.2.2.2.2.2.2.1.2.2.1; rw [this] at a; cases a)⟩)
      obtain ⟨_, ak, ad⟩ := TeA.f A9
      obtain ⟨ci, hci, hci2⟩ : ∃ ci, gK w9 k9 = some (.inl ci) ∧ ci < 19 := by
        rcases ad with ad | ad | ad
        · exact ⟨11, ad, by decide⟩
        · exact ⟨12, ad, by decide⟩
        · exact ⟨13, ad, by decide⟩
      have n6 : (l.length : Int) = n → n < 600 := by omega
      refine s_dO (s_cO lst.1 ?_)
      by_cases gw : (l.length : Int) = n
      · refine ⟨1, n + max 1 (n / 2), ⟨by omega, by omega⟩, j2_add lst I9 hci hci2 ak n6 (fun _ => ⟨Nat.le_refl _, Nat.le_refl _⟩) (fun w3 E' n' h3 => ?_)⟩
        have V3 := V9.add A9' h3 (fun q a => f09.no a) n6
        have f03 := f09.add h3 F1.1 F2.1
        have I3 := h3.2.2.2.2.2.2
        have R3 := R9.add h3 lst.1 F2.2 lst.2.2.1
        have n3 : n' = n + max 1 (n / 2) := by
          rcases h3.2.2.2.2.1 with ⟨_, _, u⟩ | ⟨_, _, _, u, _⟩
          · omega
          · exact u
        have lz : (l ++ [b]).length = l.length + 1 := by rw [List.length_append]; rfl
        have G3 : RDG T N ord w3 r s2 := ⟨R3, I3, rp2.1, (h3.kr R9.1.2.1 lst.1 lst.2.2.1).trans ((f9 r (by rw [G1.2.2.2]; exact fun z => by cases z)).1.trans G1.2.2.2)⟩
        exact ih g1 g2 (l ++ [b]) s2 w3 _ _ E' n' 0 (by omega) (by omega) (by omega) G3 (by have := rp2.2.2.1; have e : (nxS T N s).2.2.2 = s.2.2.2 := rfl; omega) f03 V3 (by omega) (by decide) (fun y => absurd y (by decide)) (by omega) (by omega) (fun x t q w' f' I' R' A' => hQ x t (e8.trans q) w' f' I' R' A') (BAD.to hE FP.rf (fun p q => e8.trans q))
      · refine ⟨0, 0, ⟨Nat.zero_le _, Nat.zero_le _⟩, j2_add lst I9 hci hci2 ak n6 (fun y => absurd y gw) (fun w3 E' n' h3 => ?_)⟩
        have V3 := V9.add A9' h3 (fun q a => f09.no a) n6
        have f03 := f09.add h3 F1.1 F2.1
        have I3 := h3.2.2.2.2.2.2
        have R3 := R9.add h3 lst.1 F2.2 lst.2.2.1
        have n3 : n' = n := by
          rcases h3.2.2.2.2.1 with ⟨_, u, _⟩ | ⟨_, _, u, _⟩
          · exact u
          · exact absurd u gw
        have lz : (l ++ [b]).length = l.length + 1 := by rw [List.length_append]; rfl
        have G3 : RDG T N ord w3 r s2 := ⟨R3, I3, rp2.1, (h3.kr R9.1.2.1 lst.1 lst.2.2.1).trans ((f9 r (by rw [G1.2.2.2]; exact fun z => by cases z)).1.trans G1.2.2.2)⟩
        exact ih g1 g2 (l ++ [b]) s2 w3 _ _ E' n' 0 (by omega) (by omega) (by omega) G3 (by have := rp2.2.2.1; have e : (nxS T N s).2.2.2 = s.2.2.2 := rfl; omega) f03 V3 (by omega) (by decide) (fun y => absurd y (by decide)) (by omega) (by omega) (fun x t q w' f' I' R' A' => hQ x t (e8.trans q) w' f' I' R' A') (BAD.to hE FP.rf (fun p q => e8.trans q))
    · have e9 : moL T N 14 Pp (g2 + 1) l s = .ok (l, s) := if_neg z
      exact s_ckI ⟨by decide, by decide⟩ (s_br (fun _ => hQ _ _ e9 w f0 G.2.1 R V.te) (fun y => absurd rfl y))

theorem x6_test {D : Int} {e0 : Nat} {Pp : LX → PRS Te} {S_ : Nat → Nat → Nat → Wd → (Option Nat → Wd → Prop) → (Nat → Wd → Prop) → Prop} (hO : ∀ s, LOK T N s → RDO T N s (Pp s)) (hS : WKT T N ord D e0 Pp (wp_X6_both S_)) : WKT T N ord D (e0 + 1) (jnS T N 14 0 Pp) (wp_X6_test S_) := by
  intro r s w bc bs Q XE G hD hB h1 hE
  have L := G.2.2.1
  have L0 := L.1
  have R := G.1
  have hN := R.1.2.2.2.1
  have rp := hO s L
  unfold wp_X6_test
  refine s_gf2 R.1.2.1 ?_
  cases eP : Pp s with
  | error e =>
    have e9 : jnS T N 14 0 Pp s = .error e := by unfold jnS; rw [eP]
    rw [e9] at hB hE
    exact ⟨bc, bs, ⟨Nat.le_refl _, Nat.le_refl _⟩, hS r s w bc bs _ XE G hD (by rw [eP]; exact hB) (fun x t q => by rw [eP] at q; cases q) (by rw [eP]; exact hE)⟩
  | ok y =>
    obtain ⟨b, s2⟩ := y
    rw [eP] at rp
    have e9 : jnS T N 14 0 Pp s = if tkT T 14 s2 = true then (match moL T N 14 Pp 401 [b] s2 with
      | .error e => .error e
      | .ok (l, s3) => .ok (Te.sev 0 l, s3)) else .ok (b, s2) := by unfold jnS; rw [eP]; rfl
    have rp : OKR T N s s2 := rp
    have p3 := rp.2.1
    have L2 := rp.1.1
    have key : CST N s (Pp s) = (s2.1 - s.1).toNat := by rw [eP]; rfl
    have hBc : CST N s (Pp s) ≤ CST N s (jnS T N 14 0 Pp s) ∧ (tkT T 14 s2 = true → CST N s (Pp s) + CST N s2 (moL T N 14 Pp 401 [b] s2) ≤ CST N s (jnS T N 14 0 Pp s) ∧ 1 ≤ CST N s2 (moL T N 14 Pp 401 [b] s2)) := by
      rw [e9]
      by_cases g : tkT T 14 s2 = true
      · rw [if_pos g]
        have lt := tk_lt' rp.1 (by decide) g
        have r2 := moL_ok (T := T) (N := N) (i := 14) (by decide) hO 401 [b] s2 rp.1
        have e9 : moL T N 14 Pp 401 [b] s2 = match Pp (nxS T N s2) with
          | .error e => .error e
          | .ok (t, s3) => moL T N 14 Pp 400 ([b] ++ [t]) s3 := by
          show (if tkT T 14 s2 = true then _ else _) = _
          rw [if_pos g]
          rfl
        have o1 := OKR.nx rp.1 lt.2
        have p5 := o1.2.1
        have p6 := o1.1.1
        have rn := hO _ o1.1
        have c1 : 1 ≤ CST N s2 (moL T N 14 Pp 401 [b] s2) := by
          cases eq : Pp (nxS T N s2) with
          | error e =>
            rw [eq] at e9
            have := CST_err (N := N) (s := s2) (s1 := nxS T N s2) (r1 := Pp (nxS T N s2)) eq e9 p5 p6.2
            omega
          | ok y =>
            obtain ⟨b2, s3⟩ := y
            rw [eq] at e9 rn
            have rn : OKR T N (nxS T N s2) s3 := rn
            have e9 : moL T N 14 Pp 401 [b] s2 = moL T N 14 Pp 400 ([b] ++ [b2]) s3 := e9
            rw [e9]
            have := CST_cons (N := N) (T := T) (s := s2) (s1 := nxS T N s2) (r1 := .ok (b2, s3)) (r2 := moL T N 14 Pp 400 ([b] ++ [b2]) s3) rfl p5 (by have := rn.2.1; omega) rn.1.1.2 (moL_ok (by decide) hO _ _ _ rn.1)
            omega
        cases e2 : moL T N 14 Pp 401 [b] s2 with
        | error e => rw [e2] at c1; unfold CST at *; dsimp only at *; omega
        | ok y =>
          obtain ⟨y, s3⟩ := y
          rw [e2] at r2 c1
          have r2 : s3 = s2 ∨ OKR T N s2 s3 := r2
          have h3 : s2.1 ≤ s3.1 := by
            rcases r2 with h | h
            · rw [h]; exact Int.le_refl _
            · have := h.2.1; omega
          unfold CST at c1 ⊢
          rw [show Pp s = _ from eP]
          dsimp only at c1 ⊢
          omega
      · rw [if_neg g]
        refine ⟨?_, fun y => absurd y g⟩
        rw [key]; unfold CST; dsimp only; omega
    obtain ⟨hB1, hB2⟩ := hB
    refine ⟨7 * CST N s (Pp s), 30 * CST N s (Pp s), ⟨by omega, by omega⟩, hS r s w _ _ _ XE G hD ⟨Nat.le_refl _, Nat.le_refl _⟩ (fun x t q k w1 f1 I1 R1 A1 => ?_) (fun e q => by rw [eP] at q; cases q)⟩
    rw [eP] at q
    injection q with q
    injection q with qa qb
    subst qa
    subst qb
    have G1 := G.to f1 I1 R1 rp.1
    refine s_gf2 R1.1.2.1 (x6_is (by decide) R1 rp.1 (s_ckI b2i_in ?_))
    by_cases g : tkT T 14 s2 = true
    · rw [b2i_t g]
      rw [if_pos g] at e9
      have hBd := hBc.2 g
      refine s_br (fun _ => ?_) (fun y => absurd (by decide) y)
      have n13 : nfA 13 = 2 := rfl
      have n18 : nfA 18 = 3 := rfl
      refine ⟨⟨by omega, by omega⟩, fun k11 hk11 hn11 => ⟨3, 5, ⟨by omega, by omega⟩, ?_⟩⟩
      unfold wp_X17_init wp_X14_init
      refine ⟨⟨by omega, by omega⟩, fun k2 hk2 hn2 => ⟨1, 2, ⟨by omega, by omega⟩, ?_⟩⟩
      unfold wp_J2_init wp_J1_init wp_J0_init
      have N1 : NEW k11 w1 (nK w1 k11 (.inl 13)) := NEW.rf.nK
      have q1 : gK (nK w1 k11 (.inl 13)) k11 = some (.inl 13) := by rw [gK_nK, if_pos rfl]
      have IA : TIW (nK w1 k11 (.inl 13)) := TIW.new (k := k11) I1 N1 hk11 (by rw [q1]; exact fun z => by cases z) (fun j x hr => by rw [gR_nK, if_pos rfl] at hr; cases hr)
      have fA : FP r w (nK w1 k11 (.inl 13)) := f1.ne N1 (f1.no hn11)
      have RA := R1.new N1 hn11
      have AA : TeA (fun q => gK w q = none ∧ q ≠ k11) (nK w1 k11 (.inl 13)) e0 b k := TeA.mo (fun q a b => ⟨⟨a, fun y => b (y ▸ hn11)⟩, (N1 q (fun y => b (y ▸ hn11))).1, (N1 q (fun y => b (y ▸ hn11))).2.2, fun _ => (N1 q (fun y => b (y ▸ hn11))).2.1⟩) e0 b k A1
      have nk11 := f1.no hn11
      generalize nK w1 k11 (.inl 13) = wA at *
      have hc0 : ((0 : Nat) : Int) = 0 := rfl
      have q20 : gK (nK wA k2 (.inl 18)) k2 = some (.inl 18) := by rw [gK_nK, if_pos rfl]
      refine ⟨q20, ?_⟩
      rw [hc0]
      have N2 : NEW k2 wA (sV (nK wA k2 (.inl 18)) k2 0 0) := NEW.rf.nK.sV
      have q2 : gK (sV (nK wA k2 (.inl 18)) k2 0 0) k2 = some (.inl 18) := by rw [gK_sV, gK_nK, if_pos rfl]
      have d1 : k11 ≠ k2 := fun y => by subst y; rw [q1] at hn2; cases hn2
      have q1B : gK (sV (nK wA k2 (.inl 18)) k2 0 0) k11 = some (.inl 13) := (N2 k11 d1).1.trans q1
      have v2B : gV (sV (nK wA k2 (.inl 18)) k2 0 0) k2 2 = 0 := by rw [gV_ne (by omega), gV_nK, if_pos rfl]
      have IB : TIW (sV (nK wA k2 (.inl 18)) k2 0 0) := TIW.new (k := k2) IA N2 hk2 (by rw [q2]; exact fun z => by cases z) (fun j x hr => by rw [gR_sV, gR_nK, if_pos rfl] at hr; cases hr)
      have g2B : ∀ j, gR (sV (nK wA k2 (.inl 18)) k2 0 0) k2 j = none := fun j => by rw [gR_sV, gR_nK, if_pos rfl]
      have fB : FP r w (sV (nK wA k2 (.inl 18)) k2 0 0) := fA.ne N2 (fA.no hn2)
      have RB := RA.new N2 hn2
      have nk2 := fA.no hn2
      have kn2 : TeA (fun q => (gK w q = none ∧ q ≠ k11) ∧ q ≠ k2) (sV (nK wA k2 (.inl 18)) k2 0 0) e0 b k := TeA.mo (fun q a b => ⟨⟨a, fun y => b (y ▸ hn2)⟩, (N2 q (fun y => b (y ▸ hn2))).1, (N2 q (fun y => b (y ▸ hn2))).2.2, fun _ => (N2 q (fun y => b (y ▸ hn2))).2.1⟩) e0 b k AA
      generalize sV (nK wA k2 (.inl 18)) k2 0 0 = wB at *
      refine s_ckI ⟨by decide, by decide⟩ (s_br (fun y => absurd y (by decide)) (fun _ => ⟨⟨by decide, by decide, by omega, by show 2 ≤ 2; omega⟩, fun k4 hk4 hn4 => ?_⟩))
      have t2 : (2 : Int).toNat = 2 := rfl
      rw [t2]
      have N3 : NEW k4 wB (nK wB k4 (.inr (4, 2))) := NEW.rf.nK
      have q4 : gK (nK wB k4 (.inr (4, 2))) k4 = some (.inr (4, 2)) := by rw [gK_nK, if_pos rfl]
      have d2 : k11 ≠ k4 := fun y => by subst y; rw [q1B] at hn4; cases hn4
      have d3 : k2 ≠ k4 := fun y => by subst y; rw [q2] at hn4; cases hn4
      have q1C : gK (nK wB k4 (.inr (4, 2))) k11 = some (.inl 13) := (N3 k11 d2).1.trans q1B
      have q2C : gK (nK wB k4 (.inr (4, 2))) k2 = some (.inl 18) := (N3 k2 d3).1.trans q2
      have v2C : gV (nK wB k4 (.inr (4, 2))) k2 2 = 0 := ((N3 k2 d3).2.1 2).trans v2B
      have IC : TIW (nK wB k4 (.inr (4, 2))) := TIW.new (k := k4) IB N3 hk4 (by rw [q4]; exact fun z => by cases z) (fun j x hr => by rw [gR_nK, if_pos rfl] at hr; cases hr)
      have g4 : ∀ j, gR (nK wB k4 (.inr (4, 2))) k4 j = none := fun j => by rw [gR_nK, if_pos rfl]
      have g2C : ∀ j, gR (nK wB k4 (.inr (4, 2))) k2 j = none := fun j => ((N3 k2 d3).2.2 j).trans (g2B j)
      have fC : FP r w (nK wB k4 (.inr (4, 2))) := fB.ne N3 (fB.no hn4)
      have RC := RB.new N3 hn4
      have AC : TeA (fun q => ((gK w q = none ∧ q ≠ k11) ∧ q ≠ k2) ∧ q ≠ k4) (nK wB k4 (.inr (4, 2))) e0 b k := TeA.mo (fun q a b => ⟨⟨a, fun y => b (y ▸ hn4)⟩, (N3 q (fun y => b (y ▸ hn4))).1, (N3 q (fun y => b (y ▸ hn4))).2.2, fun _ => (N3 q (fun y => b (y ▸ hn4))).2.1⟩) e0 b k kn2
      have nk4 := fB.no hn4
      generalize nK wB k4 (.inr (4, 2)) = wC at *
      have hc1 : ((1 : Nat) : Int) = 1 := rfl
      refine ⟨q2C, ?_⟩
      refine ⟨q1C, ?_⟩
      refine ⟨q1C, by decide, ?_⟩
      rw [hc1, hc0]
      have rE : ∀ q j, gR (sV (sR (sR wC k2 1 (some k4)) k11 1 (some k2)) k11 0 0) q j = if q = k11 ∧ j = 1 then some k2 else if q = k2 ∧ j = 1 then some k4 else gR wC q j := fun q j => by
        rw [gR_sV, gR_sR, gR_sR]
      have vE : ∀ q j, ¬ (q = k11 ∧ j = 0) → gV (sV (sR (sR wC k2 1 (some k4)) k11 1 (some k2)) k11 0 0) q j = gV wC q j := fun q j y => gV_ne y
      have vE1 : gV (sV (sR (sR wC k2 1 (some k4)) k11 1 (some k2)) k11 0 0) k11 0 = 0 := gV_at
      have kE : ∀ q, gK (sV (sR (sR wC k2 1 (some k4)) k11 1 (some k2)) k11 0 0) q = gK wC q := fun _ => rfl
      have hkA := TeA.f AC
      have IE : TIW (sV (sR (sR wC k2 1 (some k4)) k11 1 (some k2)) k11 0 0) := by
        refine ⟨IC.k1 (fun q y => y) (fun q y => by rw [rE] at y; split at y; cases y; split at y; cases y; exact y), fun q j x a hr => ?_⟩
        rw [rE] at hr
        split at hr
        · injection hr with hr
          subst hr
          exact ⟨(by rw [kE, q2C]; exact fun z => by cases z), by omega, by omega, by omega⟩
        · split at hr
          · injection hr with hr
            subst hr
            exact ⟨(by rw [kE, q4]; exact fun z => by cases z), by omega, by omega, by omega⟩
          · exact IC.2 q j x a hr
      have kr11 : r ≠ k11 := fun y => RA.1.2.1.nk q1 (by decide) y.symm
      have RE : RDX T N (sV (sR (sR wC k2 1 (some k4)) k11 1 (some k2)) k11 0 0) r s2 := by
        obtain ⟨⟨b1, b2, b3, b4⟩, b5, b6, b7, b8, b9⟩ := RC
        have r2 : r ≠ k2 := fun y => k67.nk b2 q2C (by decide) y.symm
        have g9 : ∀ j, gV (sV (sR (sR wC k2 1 (some k4)) k11 1 (some k2)) k11 0 0) r j = gV wC r j := fun j => vE r j (fun y => kr11 y.1)
        exact ⟨⟨b1, b2, (by rw [rE, if_neg (fun y => kr11 y.1), if_neg (fun y => r2 y.1)]; exact b3), b4.fr rfl (fun q => vE 110 q (fun y => by have := y.1; omega))⟩, (g9 _).trans b5, (g9 _).trans b6, (g9 _).trans b7, (g9 _).trans b8, (g9 _).trans b9⟩
      have fE : FP r w (sV (sR (sR wC k2 1 (some k4)) k11 1 (some k2)) k11 0 0) := fun q hq => by
        have u1 : q ≠ k11 := fun y => hq (y ▸ nk11)
        have u2 : q ≠ k2 := fun y => hq (y ▸ nk2)
        obtain ⟨f1, f2, f3⟩ := fC q hq
        exact ⟨f1, fun j => (by rw [rE, if_neg (fun y => u1 y.1), if_neg (fun y => u2 y.1)]; exact f2 j), fun j y => (vE q j (fun y => u1 y.1)).trans (f3 j y)⟩
      have AE : TeA (fun q => gK w q = none ∧ q ≠ k2 ∧ q ≠ k4) (sV (sR (sR wC k2 1 (some k4)) k11 1 (some k2)) k11 0 0) e0 b k := by
        exact TeA.mo (F := fun q => ((gK w q = none ∧ q ≠ k11) ∧ q ≠ k2) ∧ q ≠ k4) (w := wC) (w' := sV (sR (sR wC k2 1 (some k4)) k11 1 (some k2)) k11 0 0) (fun q a b => ⟨⟨a.1.1.1, a.1.2, a.2⟩, rfl, fun j => by rw [rE, if_neg (fun y => a.1.1.2 y.1), if_neg (fun y => a.1.2 y.1)], fun _ j => vE q j (fun y => a.1.1.2 y.1)⟩) e0 b k AC
      have r11 := rE k11 1
      rw [if_pos ⟨rfl, rfl⟩] at r11
      have r21 := rE k2 1
      rw [if_neg (fun y => d1 y.1.symm), if_pos ⟨rfl, rfl⟩] at r21
      have r4 : ∀ j, gR (sV (sR (sR wC k2 1 (some k4)) k11 1 (some k2)) k11 0 0) k4 j = none := fun j => by
        rw [rE, if_neg (fun y => d2 y.1.symm), if_neg (fun y => d3 y.1.symm)]; exact g4 j
      have q11 := (kE k11).trans q1C
      have q22 := (kE k2).trans q2C
      have q44 := (kE k4).trans q4
      have v22 := (vE k2 2 (fun y => d1 y.1.symm)).trans v2C
      clear rE vE kE
      generalize sV (sR (sR wC k2 1 (some k4)) k11 1 (some k2)) k11 0 0 = wE at *
      refine s_gfR q11 r11 (s_dO (s_cO q22 ⟨0, 0, ⟨Nat.zero_le _, Nat.zero_le _⟩, ?_⟩))
      obtain ⟨ci, hci, hci2⟩ : ∃ ci, gK wE k = some (.inl ci) ∧ ci < 19 := by
        rcases (TeA.f AE).2.2 with ad | ad | ad
        · exact ⟨11, ad, by decide⟩
        · exact ⟨12, ad, by decide⟩
        · exact ⟨13, ad, by decide⟩
      have lst : LST wE k2 k4 2 0 := ⟨q22, r21, q44, v22, by decide, fun i a b => by omega⟩
      have V0 : SEV (fun q => gK w q = none) wE e0 0 [] k11 k2 k4 2 := ⟨⟨nk11, hk11⟩, q11, vE1, r11, ⟨nk2, hk2⟩, ⟨nk4, hk4⟩, lst, fun i t ht => by cases ht⟩
      refine j2_add lst IE hci hci2 hkA.2.1 (fun y => by decide) (fun y => absurd y (by decide)) (fun w3 E' n' h3 => ?_)
      have V3 := V0.add AE h3 (fun q a => fE.no a) (fun y => by decide)
      have f03 := fE.add h3 nk2 nk4
      have I3 := h3.2.2.2.2.2.2
      have R3 := RE.add h3 q22 hk4 q44
      have n3 : n' = 2 := by
        rcases h3.2.2.2.2.1 with ⟨_, u, _⟩ | ⟨_, _, u, _⟩
        · exact u
        · exact absurd u (by decide)
      subst n3
      have kd : gK w r ≠ none := by rw [G.2.2.2]; exact fun z => by cases z
      have G3 : RDG T N ord w3 r s2 := ⟨R3, I3, rp.1, (f03 r kd).1.trans G.2.2.2⟩
      refine x6_test_34 (w0 := w) hO hS 400 FU 401 ([] ++ [b]) s2 w3 _ _ E' 2 1 (by omega) (by decide) (by decide) G3 (by have := rp.2.2.1; omega) f03 V3 ⟨Nat.le_refl 2, by show ((1 : Nat) : Int) ≤ s2.1; omega, Nat.le_refl 1⟩ (by decide) (fun _ => g) ?_ ?_ (fun x t q w' f' I' R' A' => ?_) ?_
      · show 7 * CST N s2 (moL T N 14 Pp 401 [b] s2) ≤ _
        omega
      · show 30 * CST N s2 (moL T N 14 Pp 401 [b] s2) + 8 * 1 ≤ _
        omega
      · have q : moL T N 14 Pp 401 [b] s2 = .ok (x, t) := q
        refine h1 (.sev 0 x) t (by rw [e9, q]) k11 w' f' I' R' A'
      · exact BAD.to hE FP.rf (fun p q => by
          have q : moL T N 14 Pp 401 [b] s2 = .error p := q
          rw [e9, q])
    · rw [b2i_f g]
      rw [if_neg g] at e9
      exact s_br (fun y => absurd rfl y) (fun _ => h1 b s2 e9 k w1 f1 I1 R1 (A1.up))

theorem x6_teR : ∀ n : Nat, WKT T N ord (9 - (n : Int)) (3 * n + 1) (teR T N ord n) (wpR_X6_test n) := by
  intro n
  induction n with
  | zero =>
    intro r s w bc bs Q XE G hD _ _ _
    have := G.2.2.1.2.2.2.2
    omega
  | succ n ih =>
    have e : (9 : Int) - ((n + 1 : Nat) : Int) + 1 = 9 - (n : Int) := by omega
    have h : WKT T N ord (9 - ((n + 1 : Nat) : Int) + 1) (3 * n + 1) (teR T N ord n) (wpR_X6_test n) := by rw [e]; exact ih
    have p1 := x6_plain (teR_ok n) h
    have p2 := x6_both (fun s h => plL_ok (teR_ok n) 401 0 s h) p1
    exact x6_test (fun s h => jnS_ok (by decide) (fun s h => plL_ok (teR_ok n) 401 0 s h) h) p2
theorem x6_teT : WKT T N ord (-1) 31 (teR T N ord 10) (wpR_X6_test 10) := x6_teR 10
end WHOLE
