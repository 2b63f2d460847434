/-! THE PLAIN LAW: texts: the twin reads a whole test -/
set_option maxRecDepth 100000
section TMORE
variable {T : Int → Int} {N : Int} {ord : Bool} {w w' w1 w2 : Wd} {k t n g : Nat} {s : LX} {p : Int × Int} {P C L : OPS} {v x i lo o a x1 : Int} {Q : Int → Wd → Prop} {QW X : Wd → Prop}
theorem q5_moL {D lev all : Int} {j : Nat} {G9 : LX → Prop} {SP : LX → PRS Te} (hj : (j = 13 ∧ all = 1 ∧ lev = 2) ∨ (j = 14 ∧ all = 0 ∧ lev = 1)) (hO : ∀ s, LOK T N s → RDO T N s (SP s)) (hS : KTE T N ord D (lev + 1) G9 SP) (hT : TB lev P) (hb : inB P ≠ 32) : ∀ (m f2 : Nat) (l : List Te) (s : LX) (w : Wd) (L E : OPS) (g c : Nat), (N - s.1).toNat ≤ m → m < f2 → TWQ T N w s (L ++ P) E → CFG ord w → D ≤ s.2.2.2 → (∀ p ∈ L, lev ≤ bnd p.1 ∧ p.1 ≤ 30) → l ≠ [] → flush L E = apL ord all l C → G9 s → 4 * (N + 1 - s.1).toNat + c ≤ g → (∀ y t, moL T N j SP f2 l s = .ok (y, t) → ∀ w' g' L2 E2, FE w w' → TWQ T N w' t (L2 ++ P) E2 → (∀ p ∈ L2, lev ≤ bnd p.1 ∧ p.1 ≤ 30) → flush L2 E2 = apL ord all y C → (¬ tkT T j t = true ∧ G9 t) → 4 * (N + 1 - t.1).toNat + c ≤ g' → wp_X5_readExpression_20 QW X 0 1 g' 2 w') → (∀ e, moL T N j SP f2 l s = .error e → ∀ w', FE w w' → BDE T N w' e → X w') → wp_X5_readExpression_20 QW X 0 1 g 2 w := by
  have j45 : j < 45 := by omega
  intro m
  induction m with
  | zero =>
    intro f2 l s w L E g c hm hf h cf hD hL hl hfl hG hg hq hX
    obtain ⟨f2, rfl⟩ : ∃ f, f2 = f + 1 := ⟨f2 - 1, by omega⟩
    have nb : ¬ tkT T j s = true := fun y => by have := (tk_lt' h.2.1 j45 y).1; omega
    exact hq l s (if_neg nb) w g L E FE.rf h hL hfl ⟨nb, hG⟩ hg
  | succ m ih =>
    intro f2 l s w L E g c hm hf h cf hD hL hl hfl hG hg hq hX
    obtain ⟨f2, rfl⟩ : ∃ f, f2 = f + 1 := ⟨f2 - 1, by omega⟩
    by_cases z : tkT T j s = true
    · have S := h.1.1.1
      have Lk := h.2.1
      have L0 := Lk.1
      have hN := h.1.1.2.1
      have lt := tk_lt' Lk j45 z
      have o1 := OKR.nx Lk lt.2
      have p1 := o1.2.1
      have p2 := o1.1.1
      have e9 : moL T N j SP (f2 + 1) l s = match SP (nxS T N s) with
        | .error e => .error e
        | .ok (t, s2) => moL T N j SP f2 (l ++ [t]) s2 := by
        show (if tkT T j s = true then _ else _) = _
        rw [if_pos z]
        rfl
      obtain ⟨f, rfl⟩ : ∃ f, g = f + 1 := ⟨g - 1, by omega⟩
      have step : wp_X5_behindTest_22 (fun r w2 => wp_X5_readExpression_20 QW X 0 1 f r w2) 0 all w := by
        refine q5_47 hj h z hL hT (fun w1 f1 h1 => ?_)
        rw [hfl] at h1
        refine hS QW X f (c + 3) _ w1 _ _ h1 (cf.fe f1) hD (fun p P2 e => by
          injection e with e1 e2
          rw [← e1]
          show bnd (30 - all) < lev + 1
          rcases hj with ⟨_, b, d⟩ | ⟨_, b, d⟩
          · rw [b, d]; decide
          · rw [b, d]; decide) (by
          show (if 31 ≤ 30 - all then 30 - all else inB P) ≠ 32
          rw [if_neg (by omega)]
          exact hb) (by omega) (fun b s2 e w4 g4 L4 E4 f4 h4 hL4 hf4 hG4 hg4 => ?_) (fun e q w4 f4 b => hX e (by rw [e9, q]) w4 (f1.tr f4) b)
        have e8 : moL T N j SP (f2 + 1) l s = moL T N j SP f2 (l ++ [b]) s2 := by rw [e9, e]
        have rp := hO _ o1.1
        rw [e] at rp
        have rp : OKR T N (nxS T N s) s2 := rp
        have p3 := rp.2.1
        have h4' : TWQ T N w4 s2 ((L4 ++ [(30 - all, (((apL ord all l C).length : Nat) : Int))]) ++ P) E4 := by rw [List.append_assoc]; exact h4
        refine ih f2 (l ++ [b]) s2 w4 _ E4 g4 c (by omega) (by omega) h4' (cf.fe (f1.tr f4)) (by have := rp.2.2.1; have e : (nxS T N s).2.2.2 = s.2.2.2 := rfl; omega) (fun p hp => ?_) (by intro y; have := congrArg List.length y; rw [List.length_append] at this; exact absurd this (Nat.succ_ne_zero _)) ?_ hG4 (by omega) (fun y t q w5 g5 L5 E5 f5 h5 a b c d => hq y t (e8.trans q) w5 g5 L5 E5 (f1.tr (f4.tr f5)) h5 a b c d) (fun e q w5 f5 b => hX e (e8.trans q) w5 (f1.tr (f4.tr f5)) b)
        · rcases List.mem_append.mp hp with hp | hp
          · have := hL4 p hp; exact ⟨by omega, this.2⟩
          · have e := List.mem_singleton.mp hp
            rw [e]
            refine ⟨?_, by show 30 - all ≤ 30; omega⟩
            show lev ≤ bnd (30 - all)
            rcases hj with ⟨_, b, d⟩ | ⟨_, b, d⟩
            · rw [b, d]; decide
            · rw [b, d]; decide
        · rw [flush_app, hf4, apL_snoc b l hl]
          show flu1 (30 - all, (((apL ord all l C).length : Nat) : Int)) _ = stp ord all b (apL ord all l C)
          unfold flu1 stp
          rw [if_pos (by show 30 - all = 29 ∨ 30 - all = 30; omega)]
      refine l5_two h ?_
      unfold wp_X5_behindTest
      refine s_cO (KF S rfl) (y5_and h (s_ckI b2i_in ?_))
      rcases hj with ⟨b, d, _⟩ | ⟨b, d, _⟩
      · subst b
        subst d
        rw [b2i_t z]
        exact s_br (fun _ => step) (fun y => absurd (by decide) y)
      · subst b
        subst d
        have n13 : ¬ tkT T 13 s = true := fun y => absurd (tk_two y z) (by decide)
        rw [b2i_f n13]
        refine s_br (fun y => absurd rfl y) (fun _ => s_cO (KF S rfl) (y5_or h (s_ckI b2i_in ?_)))
        rw [b2i_t z]
        exact s_br (fun y => absurd y (by decide)) (fun _ => step)
    · exact hq l s (if_neg z) w g L E FE.rf h hL hfl ⟨z, hG⟩ hg
theorem q5_join {D lev all : Int} {j : Nat} {G9 : LX → Prop} {SP : LX → PRS Te} (hj : (j = 13 ∧ all = 1 ∧ lev = 2) ∨ (j = 14 ∧ all = 0 ∧ lev = 1)) (hO : ∀ s, LOK T N s → RDO T N s (SP s)) (hS : KTE T N ord D (lev + 1) G9 SP) : KTE T N ord D lev (fun t => ¬ tkT T j t = true ∧ G9 t) (jnS T N j all SP) := by
  intro QW X g c s w P C h cf hD hT hb hg hq hX
  have L := h.2.1
  have hN := h.1.1.2.1
  have rp := hO s L
  refine hS QW X g c s w P C h cf hD (fun p P2 e => by have := hT p P2 e; omega) hb hg (fun y t e w1 g1 L1 E1 f1 h1 hL1 hf1 hG1 hg1 => ?_) (fun e q w1 f1 b => hX e (by unfold jnS; rw [q]) w1 f1 b)
  rw [e] at rp
  have rp : OKR T N s t := rp
  have t1 := rp.1.1
  have e9 : jnS T N j all SP s = if tkT T j t = true then (match moL T N j SP 401 [y] t with
    | .error e => .error e
    | .ok (l, s3) => .ok (.sev all l, s3)) else .ok (y, t) := by unfold jnS; rw [e]; rfl
  have hL1' : ∀ p ∈ L1, lev ≤ bnd p.1 ∧ p.1 ≤ 30 := fun p hp => by have := hL1 p hp; exact ⟨by omega, this.2⟩
  by_cases z : tkT T j t = true
  · rw [if_pos z] at e9
    refine q5_moL (C := C) hj hO hS hT hb 400 401 [y] t w1 L1 E1 g1 c (by omega) (by decide) h1 (cf.fe f1) (by have := rp.2.2.1; omega) hL1' (fun q => by cases q) (by rw [hf1]; rfl) hG1 hg1 (fun l2 t2 q w2 g2 L2 E2 f2 h2 a b c d => ?_) (fun e q w2 f2 b => hX e (by rw [e9, q]) w2 (f1.tr f2) b)
    rw [q] at e9
    exact hq _ _ e9 w2 g2 L2 E2 (f1.tr f2) h2 a (by rw [b, apT_sev]) c d
  · rw [if_neg z] at e9
    exact hq y t e9 w1 g1 L1 E1 f1 h1 hL1' hf1 ⟨z, hG1⟩ hg1
theorem KTE.we {D lev : Int} {G G2 : LX → Prop} {SP : LX → PRS Te} (h : KTE T N ord D lev G SP) (hG : ∀ t, G t → G2 t) : KTE T N ord D lev G2 SP := fun QW X g c s w P C a1 a2 a3 a4 a5 a6 hq hX => h QW X g c s w P C a1 a2 a3 a4 a5 a6 (fun y t e w' g' L E b1 b2 b3 b4 b5 b6 => hq y t e w' g' L E b1 b2 b3 b4 (hG t b5) b6) hX
theorem q5_teR : ∀ n : Nat, KTE T N ord (9 - (n : Int)) 1 (anN T) (teR T N ord n) := by
  intro n
  induction n with
  | zero =>
    intro QW X g c s w P C h cf hD _ _ _ _ _
    have := h.2.1.2.2.2.2
    omega
  | succ n ih =>
    have e : (9 : Int) - ((n + 1 : Nat) : Int) + 1 = 9 - (n : Int) := by omega
    have h : KTE T N ord (9 - ((n + 1 : Nat) : Int) + 1) 1 (anN T) (teR T N ord n) := by rw [e]; exact ih
    have p1 := q5_plS (teR_ok n) h
    have p2 : KTE T N ord (9 - ((n + 1 : Nat) : Int)) 2 (fun t => ¬ tkT T 13 t = true ∧ True) (jnS T N 13 1 (plS T N ord (teR T N ord n))) := q5_join (Or.inl ⟨rfl, rfl, rfl⟩) (fun s h => plL_ok (teR_ok n) 401 0 s h) p1
    have p3 : KTE T N ord (9 - ((n + 1 : Nat) : Int)) 1 (fun t => ¬ tkT T 14 t = true ∧ (¬ tkT T 13 t = true ∧ True)) (jnS T N 14 0 (jnS T N 13 1 (plS T N ord (teR T N ord n)))) := q5_join (Or.inr ⟨rfl, rfl, rfl⟩) (fun s h => jnS_ok (by decide) (fun s h => plL_ok (teR_ok n) 401 0 s h) h) p2
    exact p3.we (fun t q => ⟨q.2.1, q.1⟩)
end TMORE
