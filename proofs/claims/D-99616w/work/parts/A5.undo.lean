/-! THE PLAIN LAW: tables copied; what can be undone is kept -/
set_option maxRecDepth 100000
theorem s_alR {w : Wd} {k t n : Nat} {i : Int} {r : Option Nat} {KR : Option Nat → Prop} (h : gK w k = some (.inr (t, n))) (hn : n < 2147483648) (hi : 0 ≤ i ∧ i < n) (e : gR w k i = r) (q : KR r) : alR w k t i KR := ⟨n, h, ⟨hi.1, hi.2, hn⟩, by subst e; exact q⟩
theorem s_asQ {w : Wd} {k t n kk ci : Nat} {i : Int} {KW : Wd → Prop} (h : gK w k = some (.inr (t, n))) (hn : n < 2147483648) (hi : 0 ≤ i ∧ i < n) (e : gK w kk = some (.inl ci)) (o : okT t ci = true) (q : KW (sR w k i (some kk))) : asQ w k t i (some kk) KW := ⟨Or.inr ⟨kk, ci, rfl, e, o⟩, n, h, ⟨hi.1, hi.2, hn⟩, q⟩
theorem cp_ne {w : Wd} {k1 k2 k : Nat} {n i : Int} (h : ¬ (k = k2 ∧ 0 ≤ i ∧ i < n)) : gV (cpV w k1 0 k2 0 n) k i = gV w k i := by
  rw [gV_cpV, if_neg (fun z => h ⟨z.1, z.2.1, by omega⟩)]
theorem cp_at {w : Wd} {k1 k2 : Nat} {n i : Int} (h : 0 ≤ i ∧ i < n) : gV (cpV w k1 0 k2 0 n) k2 i = gV w k1 i := by
  rw [gV_cpV, if_pos ⟨rfl, h.1, by omega⟩]
  exact congrArg _ (by omega)
/-- a table's cells -/
def TK (w : Wd) (T : Nat) : Prop := gK w T = some (.inl 3) ∧ (gR w T 0 = some (T + 1) ∧ gR w T 1 = some (T + 2) ∧ gR w T 2 = some (T + 3) ∧ gR w T 3 = some (T + 4) ∧ gR w T 4 = some (T + 5)) ∧ gK w (T + 1) = some (.inr (0, 48)) ∧ gK w (T + 2) = some (.inr (0, 6)) ∧ gK w (T + 3) = some (.inr (0, 6)) ∧ gK w (T + 4) = some (.inr (0, 6)) ∧ gK w (T + 5) = some (.inr (0, 6))
def tkB (T : Nat) : Bool := decide (look1 SKt T = some (.inl 3)) && (decide (look2 SRt T 0 = some (T + 1)) && (decide (look2 SRt T 1 = some (T + 2)) && (decide (look2 SRt T 2 = some (T + 3)) && (decide (look2 SRt T 3 = some (T + 4)) && (decide (look2 SRt T 4 = some (T + 5)) && (decide (look1 SKt (T + 1) = some (.inr (0, 48))) && (decide (look1 SKt (T + 2) = some (.inr (0, 6))) && (decide (look1 SKt (T + 3) = some (.inr (0, 6))) && (decide (look1 SKt (T + 4) = some (.inr (0, 6))) && decide (look1 SKt (T + 5) = some (.inr (0, 6))))))))))))
theorem tk_of {w : Wd} (S : SOK w) {T : Nat} (h : tkB T = true) : TK w T := by
  unfold tkB at h
  simp only [Bool.and_eq_true, decide_eq_true_eq] at h
  obtain ⟨h0, r0, r1, r2, r3, r4, k1, k2, k3, k4, k5⟩ := h
  exact ⟨KF S h0, ⟨RF S r0, RF S r1, RF S r2, RF S r3, RF S r4⟩, KF S k1, KF S k2, KF S k3, KF S k4, KF S k5⟩
theorem tkU : ∀ p : Fin 16, tkB (336 + 6 * p.val) = true := by decide +kernel
theorem tkO : ∀ p : Fin 16, tkB (432 + 6 * p.val) = true := by decide +kernel
theorem tk300 : tkB 300 = true := by decide +kernel
theorem tk306 : tkB 306 = true := by decide +kernel
theorem tk318 : tkB 318 = true := by decide +kernel
theorem x2_rows {w : Wd} {Q : Wd → Prop} {k1 k3 n : Nat} (h1 : gK w k1 = some (.inr (0, n))) (h3 : gK w k3 = some (.inr (0, n))) (hn : n < 2147483648) (hq : Q (cpV w k3 0 k1 0 n)) : wp_X2_rows (some k1) (some k3) w Q := by
  unfold wp_X2_rows
  exact ⟨k1, rfl, 0, n, h1, by decide, k3, rfl, n, n, h3, h1, ⟨by decide, by decide, by omega, by omega, by omega, hn, hn⟩, hq⟩
theorem x2_takes {w : Wd} {Q : Wd → Prop} {T T2 : Nat} (h : TK w T) (h2 : TK w T2) (hd : T + 5 < T2 ∨ T2 + 5 < T) (hq : ∀ w', Sm w w' → (∀ k j, ¬ (T ≤ k ∧ k ≤ T + 5) → gV w' k j = gV w k j) → (∀ o, TabEq w T2 o → TabEq w' T o) → Q w') : wp_X2_takes T (some T2) w Q := by
  obtain ⟨a0, ⟨a1, a2, a3, a4, a5⟩, a6, a7, a8, a9, a10⟩ := h
  obtain ⟨b0, ⟨b1, b2, b3, b4, b5⟩, b6, b7, b8, b9, b10⟩ := h2
  unfold wp_X2_takes
  refine s_gfA a0 a1 (s_dO (s_gfA b0 b1 (x2_rows a6 b6 (by decide) ?_)))
  refine s_gfA a0 a2 (s_gfA b0 b2 (x2_rows a7 b7 (by decide) ?_))
  refine s_gfA a0 a3 (s_gfA b0 b3 (x2_rows a8 b8 (by decide) ?_))
  refine s_gfA a0 a4 (s_gfA b0 b4 (x2_rows a9 b9 (by decide) ?_))
  refine s_gfA a0 a5 (s_gfA b0 b5 (x2_rows a10 b10 (by decide) ?_))
  refine s_gfI b0 rfl (s_pfI a0 ?_)
  refine hq _ ⟨fun _ => rfl, fun _ _ => rfl⟩ (fun k j hk => ?_) (fun o ho => ?_)
  · rw [gV_ne (by omega), cp_ne (by omega), cp_ne (by omega), cp_ne (by omega), cp_ne (by omega), cp_ne (by omega)]
  · obtain ⟨o1, o2, o3⟩ := ho
    refine ⟨?_, fun j u v => ?_, fun j u v => ?_⟩
    · rw [gV_at, cp_ne (by omega), cp_ne (by omega), cp_ne (by omega), cp_ne (by omega), cp_ne (by omega)]
      exact o1
    · rw [gV_ne (by omega), cp_ne (by omega), cp_ne (by omega), cp_ne (by omega), cp_ne (by omega), cp_at ⟨u, by omega⟩]
      exact o2 j u v
    · refine ⟨?_, ?_, ?_, ?_⟩
      · rw [gV_ne (by omega), cp_ne (by omega), cp_ne (by omega), cp_ne (by omega), cp_at ⟨u, by omega⟩, cp_ne (by omega)]
        exact (o3 j u v).1
      · rw [gV_ne (by omega), cp_ne (by omega), cp_ne (by omega), cp_at ⟨u, by omega⟩, cp_ne (by omega), cp_ne (by omega)]
        exact (o3 j u v).2.1
      · rw [gV_ne (by omega), cp_ne (by omega), cp_at ⟨u, by omega⟩, cp_ne (by omega), cp_ne (by omega), cp_ne (by omega)]
        exact (o3 j u v).2.2.1
      · rw [gV_ne (by omega), cp_at ⟨u, by omega⟩, cp_ne (by omega), cp_ne (by omega), cp_ne (by omega), cp_ne (by omega)]
        exact (o3 j u v).2.2.2
/-- one more is kept: the count, the tables, the sorts -/
def uN (n : Int) : Int := if n = 16 then 16 else n + 1
def uU (n : Int) (U : Nat → Int → Int) (o : Int → Int) : Nat → Int → Int := fun q => if n = 16 then (if q = 15 then o else U (q + 1)) else if (q : Int) = n then o else U q
def uS (n : Int) (S : Int → Int) (x : Int) : Int → Int := fun q => if n = 16 then (if q = 15 then x else S (q + 1)) else if q = n then x else S q
/-- what the component can undo -/
def UC (w : Wd) (n : Int) (U : Nat → Int → Int) (S : Int → Int) : Prop := (gV w 100 15 = n ∧ 0 ≤ n ∧ n ≤ 16) ∧ (∀ q : Int, 0 ≤ q → q < 16 → gV w 106 q = S q) ∧ ∃ π : Nat → Nat, (∀ q : Nat, q < 16 → π q < 16 ∧ gR w 104 q = some (336 + 6 * π q)) ∧ (∀ p q : Nat, p < 16 → q < 16 → π p = π q → p = q) ∧ ∀ q : Nat, (q : Int) < n → TabEq w (336 + 6 * π q) (U q)
/-- what the twin can undo -/
def UT (w : Wd) (n : Int) (U : Nat → Int → Int) (S : Int → Int) : Prop := (gV w 0 8 = n ∧ 0 ≤ n ∧ n ≤ 16) ∧ (∀ q : Int, 0 ≤ q → q < 16 → gV w 7 q = S q) ∧ ∀ q : Nat, (q : Int) < n → ∀ j : Int, 0 ≤ j → j < 75 → gV w 6 (75 * q + j) = U q j
/-- what keeping changes: the component, the twin -/
def FK (w w' : Wd) : Prop := Sq w w' ∧ ∀ k j, ¬ ((k = 100 ∧ j = 15) ∨ k = 106 ∨ (336 ≤ k ∧ k < 432)) → gV w' k j = gV w k j
def FM (w w' : Wd) : Prop := Sm w w' ∧ ∀ k j, ¬ ((k = 0 ∧ j = 8) ∨ k = 7 ∨ (k = 6 ∧ 0 ≤ j ∧ j < 1200)) → gV w' k j = gV w k j
section UNDO
variable {w w' : Wd} {n x : Int} {U9 U8 : Nat → Int → Int} {S9 S8 : Int → Int} {o : Int → Int} {Q : Wd → Prop} {X : Wd → Prop} {p : Option Nat}
theorem UC.cg (h : UC w n U9 S9) (hU : ∀ q : Nat, (q : Int) < n → U8 q = U9 q) (hS : ∀ q : Int, 0 ≤ q → q < 16 → S8 q = S9 q) : UC w n U8 S8 := by
  obtain ⟨h1, h2, π, h3, h4, h5⟩ := h
  exact ⟨h1, fun q a b => (h2 q a b).trans (hS q a b).symm, π, h3, h4, fun q a => by rw [hU q a]; exact h5 q a⟩
theorem UT.cg (h : UT w n U9 S9) (hU : ∀ q : Nat, (q : Int) < n → U8 q = U9 q) (hS : ∀ q : Int, 0 ≤ q → q < 16 → S8 q = S9 q) : UT w n U8 S8 := by
  obtain ⟨h1, h2, h3⟩ := h
  exact ⟨h1, fun q a b => (h2 q a b).trans (hS q a b).symm, fun q a j u v => by rw [hU q a]; exact h3 q a j u v⟩
theorem UC.fr (h : UC w n U9 S9) (hR : ∀ j, gR w' 104 j = gR w 104 j) (hV : ∀ k j, (k = 100 ∧ j = 15) ∨ k = 106 ∨ (336 ≤ k ∧ k < 432) → gV w' k j = gV w k j) : UC w' n U9 S9 := by
  obtain ⟨h1, h2, π, h3, h4, h5⟩ := h
  refine ⟨by rw [hV 100 15 (by omega)]; exact h1, fun q a b => by rw [hV 106 _ (by omega)]; exact h2 q a b, π, fun q a => ⟨(h3 q a).1, (hR _).trans (h3 q a).2⟩, h4, fun q a => (h5 q a).fr (fun k j u v => hV k j ?_) (fun _ _ _ => rfl)⟩
  have := (h3 q (by omega)).1
  omega
theorem UT.fr (h : UT w n U9 S9) (hV : ∀ k j, (k = 0 ∧ j = 8) ∨ k = 7 ∨ (k = 6 ∧ 0 ≤ j ∧ j < 1200) → gV w' k j = gV w k j) : UT w' n U9 S9 := by
  obtain ⟨h1, h2, h3⟩ := h
  exact ⟨by rw [hV 0 8 (by omega)]; exact h1, fun q a b => by rw [hV 7 _ (by omega)]; exact h2 q a b, fun q a j u v => by rw [hV 6 _ (by omega)]; exact h3 q a j u v⟩
theorem x0_keeps_76 (S : SOK w) (u : UC w n U9 S9) (hn : n < 16) (T : TabEq w 300 o) (hq : ∀ w', SOK w' → FK w w' → UC w' (n + 1) (fun q => if (q : Int) = n then o else U9 q) (fun q => if q = n then x else S9 q) → Q w') : wp_X0_keeps_76 Q 100 x w := by
  obtain ⟨⟨u1, u2, u3⟩, u4, π, u5, u6, u7⟩ := u
  obtain ⟨p1, p2⟩ := u5 n.toNat (by omega)
  have en : ((n.toNat : Nat) : Int) = n := by omega
  rw [en] at p2
  have tk := tk_of S (tkU ⟨π n.toNat, p1⟩)
  dsimp only at tk
  have tk3 := tk_of S tk300
  unfold wp_X0_keeps_76
  refine s_gfA (KF S rfl) (RF S rfl) (s_gfI (KF S rfl) u1 (s_alR (KF S rfl) (by decide) ⟨u2, by omega⟩ p2 (s_cO (KF S rfl) ?_)))
  rw [x0_table S]
  refine s_dO (s_cO tk.1 (x2_takes tk tk3 (by omega) (fun w1 m1 f1 t1 => ?_)))
  have S1 : SOK w1 := S.sm m1
  refine s_gfA (KF S1 rfl) (RF S1 rfl) (s_gfI (KF S1 rfl) ((f1 100 15 (by omega)).trans u1) (s_asI (KF S1 rfl) (by decide) ⟨u2, by omega⟩ (s_gfI (KF S1 rfl) ((gV_ne (by omega)).trans ((f1 100 15 (by omega)).trans u1)) (s_pfI (KF S1 rfl) ?_))))
  have fr : ∀ k j, ¬ (k = 100 ∧ j = 15) → ¬ (k = 106 ∧ j = n) → ¬ (336 + 6 * π n.toNat ≤ k ∧ k ≤ 336 + 6 * π n.toNat + 5) → gV (sV (sV w1 106 n x) 100 15 (n + 1)) k j = gV w k j := fun k j a b c => by
    rw [gV_ne (by omega), gV_ne (by omega), f1 k j c]
  refine hq _ S1 ⟨m1.sq, fun k j hk => fr k j (by omega) (by omega) (by omega)⟩ ⟨⟨gV_at, by omega, by omega⟩, fun q a b => ?_, π, fun q a => ⟨(u5 q a).1, (m1.2 _ _).trans (u5 q a).2⟩, u6, fun q a => ?_⟩
  · dsimp only
    by_cases z : q = n
    · rw [if_pos z, z, gV_ne (by omega), gV_at]
    · rw [if_neg z, fr 106 q (by omega) (by omega) (by omega)]
      exact u4 q a b
  · dsimp only
    by_cases z : (q : Int) = n
    · have z2 : q = n.toNat := by omega
      rw [if_pos z, z2]
      exact (t1 o T).fr (fun k j a b => by rw [gV_ne (by omega), gV_ne (by omega)]) (fun _ _ _ => rfl)
    · rw [if_neg z]
      have hp : π q ≠ π n.toNat := fun e => z (by have := u6 q n.toNat (by omega) (by omega) e; omega)
      have hq2 := (u5 q (by omega)).1
      exact (u7 q (by omega)).fr (fun k j a b => fr k j (by omega) (by omega) (by omega)) (fun _ _ _ => rfl)
theorem x0_keeps_18 : ∀ (m fuel : Nat) (y : Int) (w : Wd), y + m = 16 → 1 ≤ y → m < fuel → SOK w → (∀ j : Int, 0 ≤ j → j < 16 → ∃ t, gR w 104 j = some t ∧ gK w t = some (.inl 3)) → (∀ w', SOK w' → Sq w w' → (∀ k j, k ≠ 106 → gV w' k j = gV w k j) → (∀ j : Int, gR w' 104 j = if y - 1 ≤ j ∧ j < 15 then gR w 104 (j + 1) else gR w 104 j) → (∀ j : Int, gV w' 106 j = if y - 1 ≤ j ∧ j < 15 then gV w 106 (j + 1) else gV w 106 j) → X w') → wp_X0_keeps_18 Q X 100 x p fuel y w := by
  intro m
  induction m with
  | zero =>
    intro fuel y w h1 h2 h3 S ht hq
    obtain ⟨f, rfl⟩ : ∃ f, fuel = f + 1 := ⟨fuel - 1, by omega⟩
    rw [wp_X0_keeps_18]
    refine s_ckI ⟨by omega, by omega⟩ (s_br (fun _ => ?_) (fun z => absurd (by omega) z))
    exact hq w S Sq.rf (fun _ _ _ => rfl) (fun j => by rw [if_neg (by omega)]) (fun j => by rw [if_neg (by omega)])
  | succ m ih =>
    intro fuel y w h1 h2 h3 S ht hq
    obtain ⟨f, rfl⟩ : ∃ f, fuel = f + 1 := ⟨fuel - 1, by omega⟩
    obtain ⟨t, t1, t2⟩ := ht y (by omega) (by omega)
    have mq : Sq w (sV (sR w 104 (y - 1) (some t)) 106 (y - 1) (gV w 106 y)) := ⟨fun _ => rfl, fun k j hk => by rw [gR_sV, gR_sR, if_neg (fun z => hk z.1)], fun j r h => by
      rw [gR_sV, gR_sR] at h
      by_cases z : j = y - 1
      · rw [if_pos ⟨rfl, z⟩] at h
        exact ⟨y, t1.trans h⟩
      · rw [if_neg (fun y => z y.2)] at h
        exact ⟨j, h⟩⟩
    have S1 : SOK (sV (sR w 104 (y - 1) (some t)) 106 (y - 1) (gV w 106 y)) := S.sq mq
    have S0 : SOK (sR w 104 (y - 1) (some t)) := S1
    rw [wp_X0_keeps_18]
    refine s_ckI ⟨by omega, by omega⟩ (s_br (fun z => absurd z (by omega)) (fun _ => ?_))
    refine s_gfA (KF S rfl) (RF S rfl) (s_gfA (KF S rfl) (RF S rfl) (s_alR (KF S rfl) (by decide) ⟨by omega, by omega⟩ t1 (s_asQ (KF S rfl) (by decide) ⟨by omega, by omega⟩ t2 (by decide) ?_)))
    refine s_gfA (KF S0 rfl) (RF S0 rfl) (s_gfA (KF S0 rfl) (RF S0 rfl) (s_alI (KF S0 rfl) (by decide) ⟨by omega, by omega⟩ (rfl : gV (sR w 104 (y - 1) (some t)) 106 y = gV w 106 y) (s_asI (KF S0 rfl) (by decide) ⟨by omega, by omega⟩ ?_)))
    have gR1 : ∀ j, gR (sV (sR w 104 (y - 1) (some t)) 106 (y - 1) (gV w 106 y)) 104 j = if j = y - 1 then some t else gR w 104 j := fun j => by
      rw [gR_sV, gR_sR]
      by_cases z : j = y - 1
      · rw [if_pos ⟨rfl, z⟩, if_pos z]
      · rw [if_neg (fun h => z h.2), if_neg z]
    refine ih f (y + 1) (sV (sR w 104 (y - 1) (some t)) 106 (y - 1) (gV w 106 y)) (by omega) (by omega) (by omega) S1 (fun j a b => ?_) (fun w' S' e1 e2 e3 e4 => hq w' S' (mq.tr e1) (fun k j hk => ?_) (fun j => ?_) (fun j => ?_))
    · rw [gR1]
      by_cases z : j = y - 1
      · rw [if_pos z]; exact ⟨t, rfl, t2⟩
      · rw [if_neg z]; exact ht j a b
    · exact (e2 k j hk).trans (gV_ne (fun z => hk z.1))
    · rw [e3 j]
      by_cases z : y - 1 ≤ j ∧ j < 15
      · rw [if_pos z]
        by_cases z2 : j = y - 1
        · rw [if_neg (by omega), gR1, if_pos z2, z2, Int.sub_add_cancel]
          exact t1.symm
        · rw [if_pos ⟨by omega, z.2⟩, gR1, if_neg (by omega)]
      · rw [if_neg z, if_neg (by omega), gR1, if_neg (by omega)]
    · rw [e4 j]
      by_cases z : y - 1 ≤ j ∧ j < 15
      · rw [if_pos z]
        by_cases z2 : j = y - 1
        · rw [if_neg (by omega), z2, gV_at, Int.sub_add_cancel]
        · rw [if_pos ⟨by omega, z.2⟩, gV_ne (by omega)]
          rfl
      · rw [if_neg z, if_neg (by omega), gV_ne (by omega)]
        rfl
theorem FK.tr {w1 w2 : Wd} (h1 : FK w w1) (h2 : FK w1 w2) : FK w w2 := ⟨h1.1.tr h2.1, fun k j a => (h2.2 k j a).trans (h1.2 k j a)⟩
theorem x0_keeps (S : SOK w) (u : UC w n U9 S9) (T : TabEq w 300 o) (hq : ∀ w', SOK w' → FK w w' → UC w' (uN n) (uU n U9 o) (uS n S9 x) → Q w') : wp_X0_keeps 100 x w Q := by
  have u0 := u
  obtain ⟨⟨u1, u2, u3⟩, u4, π, u5, u6, u7⟩ := u
  unfold wp_X0_keeps
  refine s_gfI (KF S rfl) u1 (s_ckI ⟨by omega, by omega⟩ (s_br (fun z => ?_) (fun z => ?_)))
  · refine x0_keeps_76 S u0 (by omega) T (fun w' S' f' u' => hq w' S' f' ?_)
    have e1 : uN n = n + 1 := if_neg z
    rw [e1]
    exact u'.cg (fun q _ => if_neg z) (fun q _ _ => if_neg z)
  · have hn : n = 16 := by omega
    subst hn
    have g0 := (u5 0 (by decide)).2
    refine s_gfA (KF S rfl) (RF S rfl) (s_alR (KF S rfl) (by decide) ⟨by decide, by decide⟩ g0 ?_)
    have tk : ∀ q : Nat, q < 16 → gK w (336 + 6 * π q) = some (.inl 3) := fun q hq => (tk_of S (tkU ⟨π q, (u5 q hq).1⟩)).1
    refine x0_keeps_18 15 FU 1 w (by decide) (by decide) (by decide) S (fun j a b => ?_) (fun w1 S1 m1 f1 r1 v1 => ?_)
    · have h := (u5 j.toNat (by omega)).2
      have e : ((j.toNat : Nat) : Int) = j := by omega
      rw [e] at h
      exact ⟨_, h, tk _ (by omega)⟩
    · have k0 : gK w1 (336 + 6 * π 0) = some (.inl 3) := (m1.1 _).trans (tk 0 (by decide))
      refine s_gfA (KF S1 rfl) (RF S1 rfl) (s_asQ (KF S1 rfl) (by decide) ⟨by decide, by decide⟩ k0 (by decide) ?_)
      have m2 : Sq w (sR w1 104 15 (some (336 + 6 * π 0))) := ⟨fun k => m1.1 k, fun k j hk => (by rw [gR_sR, if_neg (fun z => hk z.1)] : gR (sR w1 104 15 (some (336 + 6 * π 0))) k j = gR w1 k j).trans (m1.2.1 k j hk), fun j r h => by
        rw [gR_sR] at h
        by_cases z : j = 15
        · rw [if_pos ⟨rfl, z⟩] at h
          exact ⟨0, g0.trans h⟩
        · rw [if_neg (fun y => z y.2)] at h
          exact m1.2.2 j r h⟩
      have S2 : SOK (sR w1 104 15 (some (336 + 6 * π 0))) := S.sq m2
      have e15 : gV (sR w1 104 15 (some (336 + 6 * π 0))) 100 15 = 16 := (f1 100 15 (by decide)).trans u1
      refine s_gfI (KF S2 rfl) e15 (s_pfI (KF S2 rfl) ?_)
      have S3 : SOK (sV (sR w1 104 15 (some (336 + 6 * π 0))) 100 15 (16 - 1)) := S2
      have fr : ∀ k j, k ≠ 106 → ¬ (k = 100 ∧ j = 15) → gV (sV (sR w1 104 15 (some (336 + 6 * π 0))) 100 15 (16 - 1)) k j = gV w k j := fun k j a b => (gV_ne b).trans (f1 k j a)
      have u9 : UC (sV (sR w1 104 15 (some (336 + 6 * π 0))) 100 15 (16 - 1)) 15 (fun q => U9 (q + 1)) (fun q => if q < 15 then S9 (q + 1) else S9 q) := by
        refine ⟨⟨gV_at, by decide, by decide⟩, fun q a b => ?_, fun q => if q = 15 then π 0 else π (q + 1), fun q a => ?_, fun i q a b e => ?_, fun q a => ?_⟩
        · rw [gV_ne (by omega)]
          show gV w1 106 q = _
          rw [v1 q]
          dsimp only
          by_cases z2 : q < 15
          · rw [if_pos ⟨by omega, z2⟩, if_pos z2]; exact u4 _ (by omega) (by omega)
          · rw [if_neg (by omega), if_neg z2]; exact u4 _ (by omega) (by omega)
        · rw [gR_sV, gR_sR]
          by_cases z2 : q = 15
          · subst z2
            exact ⟨(u5 0 (by decide)).1, rfl⟩
          · rw [if_neg (by omega), r1, if_pos ⟨by omega, by omega⟩]
            have h := u5 (q + 1) (by omega)
            simp only [if_neg z2]
            exact h
        · by_cases z2 : i = 15
          · by_cases z3 : q = 15
            · omega
            · simp only [if_pos z2, if_neg z3] at e
              have := u6 _ _ (by decide) (by omega) e
              omega
          · by_cases z3 : q = 15
            · simp only [if_neg z2, if_pos z3] at e
              have := u6 _ _ (by omega) (by decide) e
              omega
            · simp only [if_neg z2, if_neg z3] at e
              have := u6 _ _ (by omega) (by omega) e
              omega
        · have z2 : q ≠ 15 := by omega
          simp only [if_neg z2]
          have hp := (u5 (q + 1) (by omega)).1
          exact (u7 (q + 1) (by omega)).fr (fun k j a b => fr k j (by omega) (by omega)) (fun _ _ _ => rfl)
      have T3 : TabEq (sV (sR w1 104 15 (some (336 + 6 * π 0))) 100 15 (16 - 1)) 300 o := T.fr (fun k j a b => fr k j (by omega) (by omega)) (fun _ _ _ => rfl)
      have k3 : FK w (sV (sR w1 104 15 (some (336 + 6 * π 0))) 100 15 (16 - 1)) := ⟨m2, fun k j a => fr k j (by omega) (by omega)⟩
      refine x0_keeps_76 S3 u9 (by decide) T3 (fun w' S' f' u' => hq w' S' (FK.tr k3 f') ?_)
      refine u'.cg (fun q a => ?_) (fun q a b => ?_)
      · show (if (16 : Int) = 16 then (if q = 15 then o else U9 (q + 1)) else _) = _
        rw [if_pos rfl]
        by_cases z2 : q = 15
        · rw [if_pos z2, if_pos (by omega)]
        · rw [if_neg z2, if_neg (by omega)]
      · show (if (16 : Int) = 16 then (if q = 15 then x else S9 (q + 1)) else _) = _
        rw [if_pos rfl]
        by_cases z2 : q = 15
        · rw [if_pos z2, if_pos z2]
        · rw [if_neg z2, if_neg z2, if_pos (by omega)]
theorem x5_keepAll_2 {s : Int} (hs : 0 ≤ s ∧ s < 18) : ∀ (m fuel : Nat) (y : Int) (w : Wd), y + m = 75 → 0 ≤ y → m < fuel → SOK w → (∀ j, 0 ≤ j → j < 75 → gV w 3 (5 + j) = o j) → (∀ w', SOK w' → FL w w' 6 (75 * s + y) (75 * s + 75) (fun j => o (j - 75 * s)) → Q w') → wp_X5_keepAll_2 Q 0 s fuel y w := by
  intro m
  induction m with
  | zero =>
    intro fuel y w h1 h2 h3 S hr hq
    obtain ⟨f, rfl⟩ : ∃ f, fuel = f + 1 := ⟨fuel - 1, by omega⟩
    rw [wp_X5_keepAll_2]
    repeat' (with_reducible first | (refine s_gfI (by with_unfolding_all exact KF S rfl) (by repeat (first | exact rd_at | (apply rd_eq; omega) | (apply rd_ne; focus omega) | assumption | exact rfl)) ?_) | refine s_gfA (by with_unfolding_all exact KF S rfl) (by with_unfolding_all exact RF S rfl) ?_ | refine s_gfR (by with_unfolding_all exact KF S rfl) (by with_unfolding_all exact RF S rfl) ?_ | refine s_dO ?_ | refine s_cO (by with_unfolding_all exact KF S rfl) ?_ | (refine s_alI (by with_unfolding_all exact KF S rfl) (by decide) ⟨by omega, by omega⟩ (by repeat (first | exact rd_at | (apply rd_eq; omega) | (apply rd_ne; focus omega) | assumption | exact rfl)) ?_) | refine s_asI (by with_unfolding_all exact KF S rfl) (by decide) ⟨by omega, by omega⟩ ?_ | refine s_pfI (by with_unfolding_all exact KF S rfl) ?_ | refine s_pfZ (by with_unfolding_all exact KF S rfl) (by omega) ?_ | refine s_ckI (by first | assumption | exact b2i_in | exact ⟨by omega, by omega⟩) ?_ | refine s_ckL (by first | assumption | exact ⟨by omega, by omega⟩ | exact inIL b2i_in) ?_ | refine s_ckN (by omega) ?_ | refine s_zrb ?_ | refine s_zr (by omega) ?_ | ((refine s_br0 (fun _ => ?_) (fun _ => ?_) <;> try (exfalso; first | omega | contradiction))) | ((refine s_br1 (fun _ => ?_) (fun _ => ?_) <;> try (exfalso; first | omega | contradiction))) | ((refine s_br (fun _ => ?_) (fun _ => ?_) <;> try (exfalso; first | omega | contradiction))) | refine Eq.mpr (x0_in (by first | assumption | exact b2i_in | exact ⟨by omega, by omega⟩) (by first | assumption | exact b2i_in | exact ⟨by omega, by omega⟩) (by first | assumption | exact b2i_in | exact ⟨by omega, by omega⟩)) ?_ | refine Eq.mpr (x5_in (by first | assumption | exact ⟨by omega, by omega⟩ | exact inIL b2i_in) (by first | assumption | exact ⟨by omega, by omega⟩ | exact inIL b2i_in) (by first | assumption | exact ⟨by omega, by omega⟩ | exact inIL b2i_in)) ?_ | refine Eq.mpr (x0_isBar (by first | assumption | exact b2i_in | exact ⟨by omega, by omega⟩)) ?_ | refine Eq.mpr (x0_isTooth (by first | assumption | exact b2i_in | exact ⟨by omega, by omega⟩)) ?_ | refine Eq.mpr (x0_isSet (by first | assumption | exact b2i_in | exact ⟨by omega, by omega⟩)) ?_ | refine Eq.mpr (x5_isBar (by first | assumption | exact b2i_in | exact ⟨by omega, by omega⟩)) ?_ | refine Eq.mpr (x5_isTooth (by first | assumption | exact b2i_in | exact ⟨by omega, by omega⟩)) ?_ | refine Eq.mpr (x0_table (by with_unfolding_all exact S)) ?_ | (refine Eq.mpr (x0_isBox' (by with_unfolding_all exact S) (by first | assumption | exact b2i_in | exact ⟨by omega, by omega⟩) (by repeat (first | exact rd_at | (apply rd_eq; omega) | (apply rd_ne; focus omega) | assumption | exact rfl)) (by omega)) ?_) | (refine Eq.mpr (x0_isSuitor' (by with_unfolding_all exact S) (by first | assumption | exact b2i_in | exact ⟨by omega, by omega⟩) (by repeat (first | exact rd_at | (apply rd_eq; omega) | (apply rd_ne; focus omega) | assumption | exact rfl)) (by omega)) ?_) | (refine Eq.mpr (x5_isBox' (by with_unfolding_all exact S) (by first | assumption | exact b2i_in | exact ⟨by omega, by omega⟩) (by repeat (first | exact rd_at | (apply rd_eq; omega) | (apply rd_ne; focus omega) | assumption | exact rfl)) (by omega)) ?_) | (refine Eq.mpr (x5_isSuitor' (by with_unfolding_all exact S) (by first | assumption | exact b2i_in | exact ⟨by omega, by omega⟩) (by repeat (first | exact rd_at | (apply rd_eq; omega) | (apply rd_ne; focus omega) | assumption | exact rfl)) (by omega)) ?_) | refine Eq.mpr (x0_refuse (by with_unfolding_all exact S) (by omega)) ?_ | refine Eq.mpr (x0_done (by with_unfolding_all exact S)) ?_ | refine Eq.mpr (x0_settled (by with_unfolding_all exact S)) ?_ | refine Eq.mpr (x5_settled (by with_unfolding_all exact S) (by omega)) ?_ | (refine Eq.mpr (x5_change' (by with_unfolding_all exact S) (by omega) (by repeat (first | exact rd_at | (apply rd_eq; omega) | (apply rd_ne; focus omega) | assumption | exact rfl))) ?_) | refine Eq.mpr (x5_no (by with_unfolding_all exact S) (by omega)) ?_ | refine Eq.mpr (x5_yes (by with_unfolding_all exact S) (by omega)) ?_ | refine Eq.mpr (x0_ones (by first | omega)) ?_ | refine x5_ones' (by first | omega) ?_ | refine Eq.mpr x0_isOf ?_ | refine Eq.mpr x5_is ?_)
    exact hq w S (FL.nil (by omega))
  | succ m ih =>
    intro fuel y w h1 h2 h3 S hr hq
    obtain ⟨f, rfl⟩ : ∃ f, fuel = f + 1 := ⟨fuel - 1, by omega⟩
    rw [wp_X5_keepAll_2]
    repeat' (with_reducible first | (refine s_gfI (by with_unfolding_all exact KF S rfl) (by repeat (first | exact rd_at | (apply rd_eq; omega) | (apply rd_ne; focus omega) | assumption | exact rfl)) ?_) | refine s_gfA (by with_unfolding_all exact KF S rfl) (by with_unfolding_all exact RF S rfl) ?_ | refine s_gfR (by with_unfolding_all exact KF S rfl) (by with_unfolding_all exact RF S rfl) ?_ | refine s_dO ?_ | refine s_cO (by with_unfolding_all exact KF S rfl) ?_ | (refine s_alI (by with_unfolding_all exact KF S rfl) (by decide) ⟨by omega, by omega⟩ (by repeat (first | exact rd_at | (apply rd_eq; omega) | (apply rd_ne; focus omega) | assumption | exact rfl)) ?_) | refine s_asI (by with_unfolding_all exact KF S rfl) (by decide) ⟨by omega, by omega⟩ ?_ | refine s_pfI (by with_unfolding_all exact KF S rfl) ?_ | refine s_pfZ (by with_unfolding_all exact KF S rfl) (by omega) ?_ | refine s_ckI (by first | assumption | exact b2i_in | exact ⟨by omega, by omega⟩) ?_ | refine s_ckL (by first | assumption | exact ⟨by omega, by omega⟩ | exact inIL b2i_in) ?_ | refine s_ckN (by omega) ?_ | refine s_zrb ?_ | refine s_zr (by omega) ?_ | ((refine s_br0 (fun _ => ?_) (fun _ => ?_) <;> try (exfalso; first | omega | contradiction))) | ((refine s_br1 (fun _ => ?_) (fun _ => ?_) <;> try (exfalso; first | omega | contradiction))) | ((refine s_br (fun _ => ?_) (fun _ => ?_) <;> try (exfalso; first | omega | contradiction))) | refine Eq.mpr (x0_in (by first | assumption | exact b2i_in | exact ⟨by omega, by omega⟩) (by first | assumption | exact b2i_in | exact ⟨by omega, by omega⟩) (by first | assumption | exact b2i_in | exact ⟨by omega, by omega⟩)) ?_ | refine Eq.mpr (x5_in (by first | assumption | exact ⟨by omega, by omega⟩ | exact inIL b2i_in) (by first | assumption | exact ⟨by omega, by omega⟩ | exact inIL b2i_in) (by first | assumption | exact ⟨by omega, by omega⟩ | exact inIL b2i_in)) ?_ | refine Eq.mpr (x0_isBar (by first | assumption | exact b2i_in | exact ⟨by omega, by omega⟩)) ?_ | refine Eq.mpr (x0_isTooth (by first | assumption | exact b2i_in | exact ⟨by omega, by omega⟩)) ?_ | refine Eq.mpr (x0_isSet (by first | assumption | exact b2i_in | exact ⟨by omega, by omega⟩)) ?_ | refine Eq.mpr (x5_isBar (by first | assumption | exact b2i_in | exact ⟨by omega, by omega⟩)) ?_ | refine Eq.mpr (x5_isTooth (by first | assumption | exact b2i_in | exact ⟨by omega, by omega⟩)) ?_ | refine Eq.mpr (x0_table (by with_unfolding_all exact S)) ?_ | (refine Eq.mpr (x0_isBox' (by with_unfolding_all exact S) (by first | assumption | exact b2i_in | exact ⟨by omega, by omega⟩) (by repeat (first | exact rd_at | (apply rd_eq; omega) | (apply rd_ne; focus omega) | assumption | exact rfl)) (by omega)) ?_) | (refine Eq.mpr (x0_isSuitor' (by with_unfolding_all exact S) (by first | assumption | exact b2i_in | exact ⟨by omega, by omega⟩) (by repeat (first | exact rd_at | (apply rd_eq; omega) | (apply rd_ne; focus omega) | assumption | exact rfl)) (by omega)) ?_) | (refine Eq.mpr (x5_isBox' (by with_unfolding_all exact S) (by first | assumption | exact b2i_in | exact ⟨by omega, by omega⟩) (by repeat (first | exact rd_at | (apply rd_eq; omega) | (apply rd_ne; focus omega) | assumption | exact rfl)) (by omega)) ?_) | (refine Eq.mpr (x5_isSuitor' (by with_unfolding_all exact S) (by first | assumption | exact b2i_in | exact ⟨by omega, by omega⟩) (by repeat (first | exact rd_at | (apply rd_eq; omega) | (apply rd_ne; focus omega) | assumption | exact rfl)) (by omega)) ?_) | refine Eq.mpr (x0_refuse (by with_unfolding_all exact S) (by omega)) ?_ | refine Eq.mpr (x0_done (by with_unfolding_all exact S)) ?_ | refine Eq.mpr (x0_settled (by with_unfolding_all exact S)) ?_ | refine Eq.mpr (x5_settled (by with_unfolding_all exact S) (by omega)) ?_ | (refine Eq.mpr (x5_change' (by with_unfolding_all exact S) (by omega) (by repeat (first | exact rd_at | (apply rd_eq; omega) | (apply rd_ne; focus omega) | assumption | exact rfl))) ?_) | refine Eq.mpr (x5_no (by with_unfolding_all exact S) (by omega)) ?_ | refine Eq.mpr (x5_yes (by with_unfolding_all exact S) (by omega)) ?_ | refine Eq.mpr (x0_ones (by first | omega)) ?_ | refine x5_ones' (by first | omega) ?_ | refine Eq.mpr x0_isOf ?_ | refine Eq.mpr x5_is ?_)
    refine ih f _ _ (by omega) (by omega) (by omega) S (fun j a b => (gV_ne (by omega)).trans (hr j a b)) (fun w' S' e => hq w' S' (FL.cons (v := gV w 3 (5 + y)) ?_ (by omega) ?_))
    · rw [Int.add_assoc]; exact e
    · rw [hr y (by omega) (by omega)]
      exact congrArg o (by omega)
theorem x5_keepAll {s : Int} (hs : 0 ≤ s ∧ s < 18) (S : SOK w) (hr : ∀ j, 0 ≤ j → j < 75 → gV w 3 (5 + j) = o j) (hq : ∀ w', SOK w' → FL w w' 6 (75 * s) (75 * s + 75) (fun j => o (j - 75 * s)) → Q w') : wp_X5_keepAll 0 s w Q := by
  unfold wp_X5_keepAll
  exact x5_keepAll_2 hs 75 FU 0 w (by decide) (by decide) (by decide) S hr (fun w' S' e => hq w' S' (by rw [Int.add_zero] at e; exact e))
theorem x5_putBack_2 {s : Int} (hs : 0 ≤ s ∧ s < 18) : ∀ (m fuel : Nat) (y : Int) (w : Wd), y + m = 75 → 0 ≤ y → m < fuel → SOK w → (∀ j, 0 ≤ j → j < 75 → gV w 6 (75 * s + j) = o j) → (∀ w', SOK w' → FL w w' 3 (5 + y) 80 (fun j => o (j - 5)) → Q w') → wp_X5_putBack_2 Q 0 s fuel y w := by
  intro m
  induction m with
  | zero =>
    intro fuel y w h1 h2 h3 S hr hq
    obtain ⟨f, rfl⟩ : ∃ f, fuel = f + 1 := ⟨fuel - 1, by omega⟩
    rw [wp_X5_putBack_2]
    repeat' (with_reducible first | (refine s_gfI (by with_unfolding_all exact KF S rfl) (by repeat (first | exact rd_at | (apply rd_eq; omega) | (apply rd_ne; focus omega) | assumption | exact rfl)) ?_) | refine s_gfA (by with_unfolding_all exact KF S rfl) (by with_unfolding_all exact RF S rfl) ?_ | refine s_gfR (by with_unfolding_all exact KF S rfl) (by with_unfolding_all exact RF S rfl) ?_ | refine s_dO ?_ | refine s_cO (by with_unfolding_all exact KF S rfl) ?_ | (refine s_alI (by with_unfolding_all exact KF S rfl) (by decide) ⟨by omega, by omega⟩ (by repeat (first | exact rd_at | (apply rd_eq; omega) | (apply rd_ne; focus omega) | assumption | exact rfl)) ?_) | refine s_asI (by with_unfolding_all exact KF S rfl) (by decide) ⟨by omega, by omega⟩ ?_ | refine s_pfI (by with_unfolding_all exact KF S rfl) ?_ | refine s_pfZ (by with_unfolding_all exact KF S rfl) (by omega) ?_ | refine s_ckI (by first | assumption | exact b2i_in | exact ⟨by omega, by omega⟩) ?_ | refine s_ckL (by first | assumption | exact ⟨by omega, by omega⟩ | exact inIL b2i_in) ?_ | refine s_ckN (by omega) ?_ | refine s_zrb ?_ | refine s_zr (by omega) ?_ | ((refine s_br0 (fun _ => ?_) (fun _ => ?_) <;> try (exfalso; first | omega | contradiction))) | ((refine s_br1 (fun _ => ?_) (fun _ => ?_) <;> try (exfalso; first | omega | contradiction))) | ((refine s_br (fun _ => ?_) (fun _ => ?_) <;> try (exfalso; first | omega | contradiction))) | refine Eq.mpr (x0_in (by first | assumption | exact b2i_in | exact ⟨by omega, by omega⟩) (by first | assumption | exact b2i_in | exact ⟨by omega, by omega⟩) (by first | assumption | exact b2i_in | exact ⟨by omega, by omega⟩)) ?_ | refine Eq.mpr (x5_in (by first | assumption | exact ⟨by omega, by omega⟩ | exact inIL b2i_in) (by first | assumption | exact ⟨by omega, by omega⟩ | exact inIL b2i_in) (by first | assumption | exact ⟨by omega, by omega⟩ | exact inIL b2i_in)) ?_ | refine Eq.mpr (x0_isBar (by first | assumption | exact b2i_in | exact ⟨by omega, by omega⟩)) ?_ | refine Eq.mpr (x0_isTooth (by first | assumption | exact b2i_in | exact ⟨by omega, by omega⟩)) ?_ | refine Eq.mpr (x0_isSet (by first | assumption | exact b2i_in | exact ⟨by omega, by omega⟩)) ?_ | refine Eq.mpr (x5_isBar (by first | assumption | exact b2i_in | exact ⟨by omega, by omega⟩)) ?_ | refine Eq.mpr (x5_isTooth (by first | assumption | exact b2i_in | exact ⟨by omega, by omega⟩)) ?_ | refine Eq.mpr (x0_table (by with_unfolding_all exact S)) ?_ | (refine Eq.mpr (x0_isBox' (by with_unfolding_all exact S) (by first | assumption | exact b2i_in | exact ⟨by omega, by omega⟩) (by repeat (first | exact rd_at | (apply rd_eq; omega) | (apply rd_ne; focus omega) | assumption | exact rfl)) (by omega)) ?_) | (refine Eq.mpr (x0_isSuitor' (by with_unfolding_all exact S) (by first | assumption | exact b2i_in | exact ⟨by omega, by omega⟩) (by repeat (first | exact rd_at | (apply rd_eq; omega) | (apply rd_ne; focus omega) | assumption | exact rfl)) (by omega)) ?_) | (refine Eq.mpr (x5_isBox' (by with_unfolding_all exact S) (by first | assumption | exact b2i_in | exact ⟨by omega, by omega⟩) (by repeat (first | exact rd_at | (apply rd_eq; omega) | (apply rd_ne; focus omega) | assumption | exact rfl)) (by omega)) ?_) | (refine Eq.mpr (x5_isSuitor' (by with_unfolding_all exact S) (by first | assumption | exact b2i_in | exact ⟨by omega, by omega⟩) (by repeat (first | exact rd_at | (apply rd_eq; omega) | (apply rd_ne; focus omega) | assumption | exact rfl)) (by omega)) ?_) | refine Eq.mpr (x0_refuse (by with_unfolding_all exact S) (by omega)) ?_ | refine Eq.mpr (x0_done (by with_unfolding_all exact S)) ?_ | refine Eq.mpr (x0_settled (by with_unfolding_all exact S)) ?_ | refine Eq.mpr (x5_settled (by with_unfolding_all exact S) (by omega)) ?_ | (refine Eq.mpr (x5_change' (by with_unfolding_all exact S) (by omega) (by repeat (first | exact rd_at | (apply rd_eq; omega) | (apply rd_ne; focus omega) | assumption | exact rfl))) ?_) | refine Eq.mpr (x5_no (by with_unfolding_all exact S) (by omega)) ?_ | refine Eq.mpr (x5_yes (by with_unfolding_all exact S) (by omega)) ?_ | refine Eq.mpr (x0_ones (by first | omega)) ?_ | refine x5_ones' (by first | omega) ?_ | refine Eq.mpr x0_isOf ?_ | refine Eq.mpr x5_is ?_)
    exact hq w S (FL.nil (by omega))
  | succ m ih =>
    intro fuel y w h1 h2 h3 S hr hq
    obtain ⟨f, rfl⟩ : ∃ f, fuel = f + 1 := ⟨fuel - 1, by omega⟩
    rw [wp_X5_putBack_2]
    repeat' (with_reducible first | (refine s_gfI (by with_unfolding_all exact KF S rfl) (by repeat (first | exact rd_at | (apply rd_eq; omega) | (apply rd_ne; focus omega) | assumption | exact rfl)) ?_) | refine s_gfA (by with_unfolding_all exact KF S rfl) (by with_unfolding_all exact RF S rfl) ?_ | refine s_gfR (by with_unfolding_all exact KF S rfl) (by with_unfolding_all exact RF S rfl) ?_ | refine s_dO ?_ | refine s_cO (by with_unfolding_all exact KF S rfl) ?_ | (refine s_alI (by with_unfolding_all exact KF S rfl) (by decide) ⟨by omega, by omega⟩ (by repeat (first | exact rd_at | (apply rd_eq; omega) | (apply rd_ne; focus omega) | assumption | exact rfl)) ?_) | refine s_asI (by with_unfolding_all exact KF S rfl) (by decide) ⟨by omega, by omega⟩ ?_ | refine s_pfI (by with_unfolding_all exact KF S rfl) ?_ | refine s_pfZ (by with_unfolding_all exact KF S rfl) (by omega) ?_ | refine s_ckI (by first | assumption | exact b2i_in | exact ⟨by omega, by omega⟩) ?_ | refine s_ckL (by first | assumption | exact ⟨by omega, by omega⟩ | exact inIL b2i_in) ?_ | refine s_ckN (by omega) ?_ | refine s_zrb ?_ | refine s_zr (by omega) ?_ | ((refine s_br0 (fun _ => ?_) (fun _ => ?_) <;> try (exfalso; first | omega | contradiction))) | ((refine s_br1 (fun _ => ?_) (fun _ => ?_) <;> try (exfalso; first | omega | contradiction))) | ((refine s_br (fun _ => ?_) (fun _ => ?_) <;> try (exfalso; first | omega | contradiction))) | refine Eq.mpr (x0_in (by first | assumption | exact b2i_in | exact ⟨by omega, by omega⟩) (by first | assumption | exact b2i_in | exact ⟨by omega, by omega⟩) (by first | assumption | exact b2i_in | exact ⟨by omega, by omega⟩)) ?_ | refine Eq.mpr (x5_in (by first | assumption | exact ⟨by omega, by omega⟩ | exact inIL b2i_in) (by first | assumption | exact ⟨by omega, by omega⟩ | exact inIL b2i_in) (by first | assumption | exact ⟨by omega, by omega⟩ | exact inIL b2i_in)) ?_ | refine Eq.mpr (x0_isBar (by first | assumption | exact b2i_in | exact ⟨by omega, by omega⟩)) ?_ | refine Eq.mpr (x0_isTooth (by first | assumption | exact b2i_in | exact ⟨by omega, by omega⟩)) ?_ | refine Eq.mpr (x0_isSet (by first | assumption | exact b2i_in | exact ⟨by omega, by omega⟩)) ?_ | refine Eq.mpr (x5_isBar (by first | assumption | exact b2i_in | exact ⟨by omega, by omega⟩)) ?_ | refine Eq.mpr (x5_isTooth (by first | assumption | exact b2i_in | exact ⟨by omega, by omega⟩)) ?_ | refine Eq.mpr (x0_table (by with_unfolding_all exact S)) ?_ | (refine Eq.mpr (x0_isBox' (by with_unfolding_all exact S) (by first | assumption | exact b2i_in | exact ⟨by omega, by omega⟩) (by repeat (first | exact rd_at | (apply rd_eq; omega) | (apply rd_ne; focus omega) | assumption | exact rfl)) (by omega)) ?_) | (refine Eq.mpr (x0_isSuitor' (by with_unfolding_all exact S) (by first | assumption | exact b2i_in | exact ⟨by omega, by omega⟩) (by repeat (first | exact rd_at | (apply rd_eq; omega) | (apply rd_ne; focus omega) | assumption | exact rfl)) (by omega)) ?_) | (refine Eq.mpr (x5_isBox' (by with_unfolding_all exact S) (by first | assumption | exact b2i_in | exact ⟨by omega, by omega⟩) (by repeat (first | exact rd_at | (apply rd_eq; omega) | (apply rd_ne; focus omega) | assumption | exact rfl)) (by omega)) ?_) | (refine Eq.mpr (x5_isSuitor' (by with_unfolding_all exact S) (by first | assumption | exact b2i_in | exact ⟨by omega, by omega⟩) (by repeat (first | exact rd_at | (apply rd_eq; omega) | (apply rd_ne; focus omega) | assumption | exact rfl)) (by omega)) ?_) | refine Eq.mpr (x0_refuse (by with_unfolding_all exact S) (by omega)) ?_ | refine Eq.mpr (x0_done (by with_unfolding_all exact S)) ?_ | refine Eq.mpr (x0_settled (by with_unfolding_all exact S)) ?_ | refine Eq.mpr (x5_settled (by with_unfolding_all exact S) (by omega)) ?_ | (refine Eq.mpr (x5_change' (by with_unfolding_all exact S) (by omega) (by repeat (first | exact rd_at | (apply rd_eq; omega) | (apply rd_ne; focus omega) | assumption | exact rfl))) ?_) | refine Eq.mpr (x5_no (by with_unfolding_all exact S) (by omega)) ?_ | refine Eq.mpr (x5_yes (by with_unfolding_all exact S) (by omega)) ?_ | refine Eq.mpr (x0_ones (by first | omega)) ?_ | refine x5_ones' (by first | omega) ?_ | refine Eq.mpr x0_isOf ?_ | refine Eq.mpr x5_is ?_)
    refine ih f _ _ (by omega) (by omega) (by omega) S (fun j a b => (gV_ne (by omega)).trans (hr j a b)) (fun w' S' e => hq w' S' (FL.cons (v := gV w 6 (75 * s + y)) ?_ (by omega) ?_))
    · rw [Int.add_assoc]; exact e
    · rw [hr y (by omega) (by omega)]
      exact congrArg o (by omega)
theorem x5_putBack {s : Int} (hs : 0 ≤ s ∧ s < 18) (S : SOK w) (hr : ∀ j, 0 ≤ j → j < 75 → gV w 6 (75 * s + j) = o j) (hq : ∀ w', SOK w' → FL w w' 3 5 80 (fun j => o (j - 5)) → Q w') : wp_X5_putBack 0 s w Q := by
  unfold wp_X5_putBack
  exact x5_putBack_2 hs 75 FU 0 w (by decide) (by decide) (by decide) S hr (fun w' S' e => hq w' S' (by rw [Int.add_zero] at e; exact e))
theorem x5_remember_11 {g : Int → Int} : ∀ (m fuel : Nat) (y : Int) (w : Wd), y + m = 1125 → 0 ≤ y → m < fuel → SOK w → (∀ j, y ≤ j → j < 1125 → gV w 6 (j + 75) = g j) → (∀ w', SOK w' → FL w w' 6 y 1125 g → X w') → wp_X5_remember_11 Q X 0 x fuel y w := by
  intro m
  induction m with
  | zero =>
    intro fuel y w h1 h2 h3 S hr hq
    obtain ⟨f, rfl⟩ : ∃ f, fuel = f + 1 := ⟨fuel - 1, by omega⟩
    rw [wp_X5_remember_11]
    repeat' (with_reducible first | (refine s_gfI (by with_unfolding_all exact KF S rfl) (by repeat (first | exact rd_at | (apply rd_eq; omega) | (apply rd_ne; focus omega) | assumption | exact rfl)) ?_) | refine s_gfA (by with_unfolding_all exact KF S rfl) (by with_unfolding_all exact RF S rfl) ?_ | refine s_gfR (by with_unfolding_all exact KF S rfl) (by with_unfolding_all exact RF S rfl) ?_ | refine s_dO ?_ | refine s_cO (by with_unfolding_all exact KF S rfl) ?_ | (refine s_alI (by with_unfolding_all exact KF S rfl) (by decide) ⟨by omega, by omega⟩ (by repeat (first | exact rd_at | (apply rd_eq; omega) | (apply rd_ne; focus omega) | assumption | exact rfl)) ?_) | refine s_asI (by with_unfolding_all exact KF S rfl) (by decide) ⟨by omega, by omega⟩ ?_ | refine s_pfI (by with_unfolding_all exact KF S rfl) ?_ | refine s_pfZ (by with_unfolding_all exact KF S rfl) (by omega) ?_ | refine s_ckI (by first | assumption | exact b2i_in | exact ⟨by omega, by omega⟩) ?_ | refine s_ckL (by first | assumption | exact ⟨by omega, by omega⟩ | exact inIL b2i_in) ?_ | refine s_ckN (by omega) ?_ | refine s_zrb ?_ | refine s_zr (by omega) ?_ | ((refine s_br0 (fun _ => ?_) (fun _ => ?_) <;> try (exfalso; first | omega | contradiction))) | ((refine s_br1 (fun _ => ?_) (fun _ => ?_) <;> try (exfalso; first | omega | contradiction))) | ((refine s_br (fun _ => ?_) (fun _ => ?_) <;> try (exfalso; first | omega | contradiction))) | refine Eq.mpr (x0_in (by first | assumption | exact b2i_in | exact ⟨by omega, by omega⟩) (by first | assumption | exact b2i_in | exact ⟨by omega, by omega⟩) (by first | assumption | exact b2i_in | exact ⟨by omega, by omega⟩)) ?_ | refine Eq.mpr (x5_in (by first | assumption | exact ⟨by omega, by omega⟩ | exact inIL b2i_in) (by first | assumption | exact ⟨by omega, by omega⟩ | exact inIL b2i_in) (by first | assumption | exact ⟨by omega, by omega⟩ | exact inIL b2i_in)) ?_ | refine Eq.mpr (x0_isBar (by first | assumption | exact b2i_in | exact ⟨by omega, by omega⟩)) ?_ | refine Eq.mpr (x0_isTooth (by first | assumption | exact b2i_in | exact ⟨by omega, by omega⟩)) ?_ | refine Eq.mpr (x0_isSet (by first | assumption | exact b2i_in | exact ⟨by omega, by omega⟩)) ?_ | refine Eq.mpr (x5_isBar (by first | assumption | exact b2i_in | exact ⟨by omega, by omega⟩)) ?_ | refine Eq.mpr (x5_isTooth (by first | assumption | exact b2i_in | exact ⟨by omega, by omega⟩)) ?_ | refine Eq.mpr (x0_table (by with_unfolding_all exact S)) ?_ | (refine Eq.mpr (x0_isBox' (by with_unfolding_all exact S) (by first | assumption | exact b2i_in | exact ⟨by omega, by omega⟩) (by repeat (first | exact rd_at | (apply rd_eq; omega) | (apply rd_ne; focus omega) | assumption | exact rfl)) (by omega)) ?_) | (refine Eq.mpr (x0_isSuitor' (by with_unfolding_all exact S) (by first | assumption | exact b2i_in | exact ⟨by omega, by omega⟩) (by repeat (first | exact rd_at | (apply rd_eq; omega) | (apply rd_ne; focus omega) | assumption | exact rfl)) (by omega)) ?_) | (refine Eq.mpr (x5_isBox' (by with_unfolding_all exact S) (by first | assumption | exact b2i_in | exact ⟨by omega, by omega⟩) (by repeat (first | exact rd_at | (apply rd_eq; omega) | (apply rd_ne; focus omega) | assumption | exact rfl)) (by omega)) ?_) | (refine Eq.mpr (x5_isSuitor' (by with_unfolding_all exact S) (by first | assumption | exact b2i_in | exact ⟨by omega, by omega⟩) (by repeat (first | exact rd_at | (apply rd_eq; omega) | (apply rd_ne; focus omega) | assumption | exact rfl)) (by omega)) ?_) | refine Eq.mpr (x0_refuse (by with_unfolding_all exact S) (by omega)) ?_ | refine Eq.mpr (x0_done (by with_unfolding_all exact S)) ?_ | refine Eq.mpr (x0_settled (by with_unfolding_all exact S)) ?_ | refine Eq.mpr (x5_settled (by with_unfolding_all exact S) (by omega)) ?_ | (refine Eq.mpr (x5_change' (by with_unfolding_all exact S) (by omega) (by repeat (first | exact rd_at | (apply rd_eq; omega) | (apply rd_ne; focus omega) | assumption | exact rfl))) ?_) | refine Eq.mpr (x5_no (by with_unfolding_all exact S) (by omega)) ?_ | refine Eq.mpr (x5_yes (by with_unfolding_all exact S) (by omega)) ?_ | refine Eq.mpr (x0_ones (by first | omega)) ?_ | refine x5_ones' (by first | omega) ?_ | refine Eq.mpr x0_isOf ?_ | refine Eq.mpr x5_is ?_)
    exact hq w S (FL.nil (by omega))
  | succ m ih =>
    intro fuel y w h1 h2 h3 S hr hq
    obtain ⟨f, rfl⟩ : ∃ f, fuel = f + 1 := ⟨fuel - 1, by omega⟩
    rw [wp_X5_remember_11]
    repeat' (with_reducible first | (refine s_gfI (by with_unfolding_all exact KF S rfl) (by repeat (first | exact rd_at | (apply rd_eq; omega) | (apply rd_ne; focus omega) | assumption | exact rfl)) ?_) | refine s_gfA (by with_unfolding_all exact KF S rfl) (by with_unfolding_all exact RF S rfl) ?_ | refine s_gfR (by with_unfolding_all exact KF S rfl) (by with_unfolding_all exact RF S rfl) ?_ | refine s_dO ?_ | refine s_cO (by with_unfolding_all exact KF S rfl) ?_ | (refine s_alI (by with_unfolding_all exact KF S rfl) (by decide) ⟨by omega, by omega⟩ (by repeat (first | exact rd_at | (apply rd_eq; omega) | (apply rd_ne; focus omega) | assumption | exact rfl)) ?_) | refine s_asI (by with_unfolding_all exact KF S rfl) (by decide) ⟨by omega, by omega⟩ ?_ | refine s_pfI (by with_unfolding_all exact KF S rfl) ?_ | refine s_pfZ (by with_unfolding_all exact KF S rfl) (by omega) ?_ | refine s_ckI (by first | assumption | exact b2i_in | exact ⟨by omega, by omega⟩) ?_ | refine s_ckL (by first | assumption | exact ⟨by omega, by omega⟩ | exact inIL b2i_in) ?_ | refine s_ckN (by omega) ?_ | refine s_zrb ?_ | refine s_zr (by omega) ?_ | ((refine s_br0 (fun _ => ?_) (fun _ => ?_) <;> try (exfalso; first | omega | contradiction))) | ((refine s_br1 (fun _ => ?_) (fun _ => ?_) <;> try (exfalso; first | omega | contradiction))) | ((refine s_br (fun _ => ?_) (fun _ => ?_) <;> try (exfalso; first | omega | contradiction))) | refine Eq.mpr (x0_in (by first | assumption | exact b2i_in | exact ⟨by omega, by omega⟩) (by first | assumption | exact b2i_in | exact ⟨by omega, by omega⟩) (by first | assumption | exact b2i_in | exact ⟨by omega, by omega⟩)) ?_ | refine Eq.mpr (x5_in (by first | assumption | exact ⟨by omega, by omega⟩ | exact inIL b2i_in) (by first | assumption | exact ⟨by omega, by omega⟩ | exact inIL b2i_in) (by first | assumption | exact ⟨by omega, by omega⟩ | exact inIL b2i_in)) ?_ | refine Eq.mpr (x0_isBar (by first | assumption | exact b2i_in | exact ⟨by omega, by omega⟩)) ?_ | refine Eq.mpr (x0_isTooth (by first | assumption | exact b2i_in | exact ⟨by omega, by omega⟩)) ?_ | refine Eq.mpr (x0_isSet (by first | assumption | exact b2i_in | exact ⟨by omega, by omega⟩)) ?_ | refine Eq.mpr (x5_isBar (by first | assumption | exact b2i_in | exact ⟨by omega, by omega⟩)) ?_ | refine Eq.mpr (x5_isTooth (by first | assumption | exact b2i_in | exact ⟨by omega, by omega⟩)) ?_ | refine Eq.mpr (x0_table (by with_unfolding_all exact S)) ?_ | (refine Eq.mpr (x0_isBox' (by with_unfolding_all exact S) (by first | assumption | exact b2i_in | exact ⟨by omega, by omega⟩) (by repeat (first | exact rd_at | (apply rd_eq; omega) | (apply rd_ne; focus omega) | assumption | exact rfl)) (by omega)) ?_) | (refine Eq.mpr (x0_isSuitor' (by with_unfolding_all exact S) (by first | assumption | exact b2i_in | exact ⟨by omega, by omega⟩) (by repeat (first | exact rd_at | (apply rd_eq; omega) | (apply rd_ne; focus omega) | assumption | exact rfl)) (by omega)) ?_) | (refine Eq.mpr (x5_isBox' (by with_unfolding_all exact S) (by first | assumption | exact b2i_in | exact ⟨by omega, by omega⟩) (by repeat (first | exact rd_at | (apply rd_eq; omega) | (apply rd_ne; focus omega) | assumption | exact rfl)) (by omega)) ?_) | (refine Eq.mpr (x5_isSuitor' (by with_unfolding_all exact S) (by first | assumption | exact b2i_in | exact ⟨by omega, by omega⟩) (by repeat (first | exact rd_at | (apply rd_eq; omega) | (apply rd_ne; focus omega) | assumption | exact rfl)) (by omega)) ?_) | refine Eq.mpr (x0_refuse (by with_unfolding_all exact S) (by omega)) ?_ | refine Eq.mpr (x0_done (by with_unfolding_all exact S)) ?_ | refine Eq.mpr (x0_settled (by with_unfolding_all exact S)) ?_ | refine Eq.mpr (x5_settled (by with_unfolding_all exact S) (by omega)) ?_ | (refine Eq.mpr (x5_change' (by with_unfolding_all exact S) (by omega) (by repeat (first | exact rd_at | (apply rd_eq; omega) | (apply rd_ne; focus omega) | assumption | exact rfl))) ?_) | refine Eq.mpr (x5_no (by with_unfolding_all exact S) (by omega)) ?_ | refine Eq.mpr (x5_yes (by with_unfolding_all exact S) (by omega)) ?_ | refine Eq.mpr (x0_ones (by first | omega)) ?_ | refine x5_ones' (by first | omega) ?_ | refine Eq.mpr x0_isOf ?_ | refine Eq.mpr x5_is ?_)
    exact ih f _ _ (by omega) (by omega) (by omega) S (fun j a b => (gV_ne (by omega)).trans (hr j (by omega) b)) (fun w' S' e => hq w' S' (FL.cons (v := gV w 6 (y + 75)) e (by omega) (hr y (by omega) (by omega))))
theorem x5_remember_41 {g : Int → Int} : ∀ (m fuel : Nat) (y : Int) (w : Wd), y + m = 15 → 0 ≤ y → m < fuel → SOK w → (∀ j, y ≤ j → j < 15 → gV w 7 (j + 1) = g j) → (∀ w', SOK w' → FL w w' 7 y 15 g → X w') → wp_X5_remember_41 Q X 0 x fuel y w := by
  intro m
  induction m with
  | zero =>
    intro fuel y w h1 h2 h3 S hr hq
    obtain ⟨f, rfl⟩ : ∃ f, fuel = f + 1 := ⟨fuel - 1, by omega⟩
    rw [wp_X5_remember_41]
    repeat' (with_reducible first | (refine s_gfI (by with_unfolding_all exact KF S rfl) (by repeat (first | exact rd_at | (apply rd_eq; omega) | (apply rd_ne; focus omega) | assumption | exact rfl)) ?_) | refine s_gfA (by with_unfolding_all exact KF S rfl) (by with_unfolding_all exact RF S rfl) ?_ | refine s_gfR (by with_unfolding_all exact KF S rfl) (by with_unfolding_all exact RF S rfl) ?_ | refine s_dO ?_ | refine s_cO (by with_unfolding_all exact KF S rfl) ?_ | (refine s_alI (by with_unfolding_all exact KF S rfl) (by decide) ⟨by omega, by omega⟩ (by repeat (first | exact rd_at | (apply rd_eq; omega) | (apply rd_ne; focus omega) | assumption | exact rfl)) ?_) | refine s_asI (by with_unfolding_all exact KF S rfl) (by decide) ⟨by omega, by omega⟩ ?_ | refine s_pfI (by with_unfolding_all exact KF S rfl) ?_ | refine s_pfZ (by with_unfolding_all exact KF S rfl) (by omega) ?_ | refine s_ckI (by first | assumption | exact b2i_in | exact ⟨by omega, by omega⟩) ?_ | refine s_ckL (by first | assumption | exact ⟨by omega, by omega⟩ | exact inIL b2i_in) ?_ | refine s_ckN (by omega) ?_ | refine s_zrb ?_ | refine s_zr (by omega) ?_ | ((refine s_br0 (fun _ => ?_) (fun _ => ?_) <;> try (exfalso; first | omega | contradiction))) | ((refine s_br1 (fun _ => ?_) (fun _ => ?_) <;> try (exfalso; first | omega | contradiction))) | ((refine s_br (fun _ => ?_) (fun _ => ?_) <;> try (exfalso; first | omega | contradiction))) | refine Eq.mpr (x0_in (by first | assumption | exact b2i_in | exact ⟨by omega, by omega⟩) (by first | assumption | exact b2i_in | exact ⟨by omega, by omega⟩) (by first | assumption | exact b2i_in | exact ⟨by omega, by omega⟩)) ?_ | refine Eq.mpr (x5_in (by first | assumption | exact ⟨by omega, by omega⟩ | exact inIL b2i_in) (by first | assumption | exact ⟨by omega, by omega⟩ | exact inIL b2i_in) (by first | assumption | exact ⟨by omega, by omega⟩ | exact inIL b2i_in)) ?_ | refine Eq.mpr (x0_isBar (by first | assumption | exact b2i_in | exact ⟨by omega, by omega⟩)) ?_ | refine Eq.mpr (x0_isTooth (by first | assumption | exact b2i_in | exact ⟨by omega, by omega⟩)) ?_ | refine Eq.mpr (x0_isSet (by first | assumption | exact b2i_in | exact ⟨by omega, by omega⟩)) ?_ | refine Eq.mpr (x5_isBar (by first | assumption | exact b2i_in | exact ⟨by omega, by omega⟩)) ?_ | refine Eq.mpr (x5_isTooth (by first | assumption | exact b2i_in | exact ⟨by omega, by omega⟩)) ?_ | refine Eq.mpr (x0_table (by with_unfolding_all exact S)) ?_ | (refine Eq.mpr (x0_isBox' (by with_unfolding_all exact S) (by first | assumption | exact b2i_in | exact ⟨by omega, by omega⟩) (by repeat (first | exact rd_at | (apply rd_eq; omega) | (apply rd_ne; focus omega) | assumption | exact rfl)) (by omega)) ?_) | (refine Eq.mpr (x0_isSuitor' (by with_unfolding_all exact S) (by first | assumption | exact b2i_in | exact ⟨by omega, by omega⟩) (by repeat (first | exact rd_at | (apply rd_eq; omega) | (apply rd_ne; focus omega) | assumption | exact rfl)) (by omega)) ?_) | (refine Eq.mpr (x5_isBox' (by with_unfolding_all exact S) (by first | assumption | exact b2i_in | exact ⟨by omega, by omega⟩) (by repeat (first | exact rd_at | (apply rd_eq; omega) | (apply rd_ne; focus omega) | assumption | exact rfl)) (by omega)) ?_) | (refine Eq.mpr (x5_isSuitor' (by with_unfolding_all exact S) (by first | assumption | exact b2i_in | exact ⟨by omega, by omega⟩) (by repeat (first | exact rd_at | (apply rd_eq; omega) | (apply rd_ne; focus omega) | assumption | exact rfl)) (by omega)) ?_) | refine Eq.mpr (x0_refuse (by with_unfolding_all exact S) (by omega)) ?_ | refine Eq.mpr (x0_done (by with_unfolding_all exact S)) ?_ | refine Eq.mpr (x0_settled (by with_unfolding_all exact S)) ?_ | refine Eq.mpr (x5_settled (by with_unfolding_all exact S) (by omega)) ?_ | (refine Eq.mpr (x5_change' (by with_unfolding_all exact S) (by omega) (by repeat (first | exact rd_at | (apply rd_eq; omega) | (apply rd_ne; focus omega) | assumption | exact rfl))) ?_) | refine Eq.mpr (x5_no (by with_unfolding_all exact S) (by omega)) ?_ | refine Eq.mpr (x5_yes (by with_unfolding_all exact S) (by omega)) ?_ | refine Eq.mpr (x0_ones (by first | omega)) ?_ | refine x5_ones' (by first | omega) ?_ | refine Eq.mpr x0_isOf ?_ | refine Eq.mpr x5_is ?_)
    exact hq w S (FL.nil (by omega))
  | succ m ih =>
    intro fuel y w h1 h2 h3 S hr hq
    obtain ⟨f, rfl⟩ : ∃ f, fuel = f + 1 := ⟨fuel - 1, by omega⟩
    rw [wp_X5_remember_41]
    repeat' (with_reducible first | (refine s_gfI (by with_unfolding_all exact KF S rfl) (by repeat (first | exact rd_at | (apply rd_eq; omega) | (apply rd_ne; focus omega) | assumption | exact rfl)) ?_) | refine s_gfA (by with_unfolding_all exact KF S rfl) (by with_unfolding_all exact RF S rfl) ?_ | refine s_gfR (by with_unfolding_all exact KF S rfl) (by with_unfolding_all exact RF S rfl) ?_ | refine s_dO ?_ | refine s_cO (by with_unfolding_all exact KF S rfl) ?_ | (refine s_alI (by with_unfolding_all exact KF S rfl) (by decide) ⟨by omega, by omega⟩ (by repeat (first | exact rd_at | (apply rd_eq; omega) | (apply rd_ne; focus omega) | assumption | exact rfl)) ?_) | refine s_asI (by with_unfolding_all exact KF S rfl) (by decide) ⟨by omega, by omega⟩ ?_ | refine s_pfI (by with_unfolding_all exact KF S rfl) ?_ | refine s_pfZ (by with_unfolding_all exact KF S rfl) (by omega) ?_ | refine s_ckI (by first | assumption | exact b2i_in | exact ⟨by omega, by omega⟩) ?_ | refine s_ckL (by first | assumption | exact ⟨by omega, by omega⟩ | exact inIL b2i_in) ?_ | refine s_ckN (by omega) ?_ | refine s_zrb ?_ | refine s_zr (by omega) ?_ | ((refine s_br0 (fun _ => ?_) (fun _ => ?_) <;> try (exfalso; first | omega | contradiction))) | ((refine s_br1 (fun _ => ?_) (fun _ => ?_) <;> try (exfalso; first | omega | contradiction))) | ((refine s_br (fun _ => ?_) (fun _ => ?_) <;> try (exfalso; first | omega | contradiction))) | refine Eq.mpr (x0_in (by first | assumption | exact b2i_in | exact ⟨by omega, by omega⟩) (by first | assumption | exact b2i_in | exact ⟨by omega, by omega⟩) (by first | assumption | exact b2i_in | exact ⟨by omega, by omega⟩)) ?_ | refine Eq.mpr (x5_in (by first | assumption | exact ⟨by omega, by omega⟩ | exact inIL b2i_in) (by first | assumption | exact ⟨by omega, by omega⟩ | exact inIL b2i_in) (by first | assumption | exact ⟨by omega, by omega⟩ | exact inIL b2i_in)) ?_ | refine Eq.mpr (x0_isBar (by first | assumption | exact b2i_in | exact ⟨by omega, by omega⟩)) ?_ | refine Eq.mpr (x0_isTooth (by first | assumption | exact b2i_in | exact ⟨by omega, by omega⟩)) ?_ | refine Eq.mpr (x0_isSet (by first | assumption | exact b2i_in | exact ⟨by omega, by omega⟩)) ?_ | refine Eq.mpr (x5_isBar (by first | assumption | exact b2i_in | exact ⟨by omega, by omega⟩)) ?_ | refine Eq.mpr (x5_isTooth (by first | assumption | exact b2i_in | exact ⟨by omega, by omega⟩)) ?_ | refine Eq.mpr (x0_table (by with_unfolding_all exact S)) ?_ | (refine Eq.mpr (x0_isBox' (by with_unfolding_all exact S) (by first | assumption | exact b2i_in | exact ⟨by omega, by omega⟩) (by repeat (first | exact rd_at | (apply rd_eq; omega) | (apply rd_ne; focus omega) | assumption | exact rfl)) (by omega)) ?_) | (refine Eq.mpr (x0_isSuitor' (by with_unfolding_all exact S) (by first | assumption | exact b2i_in | exact ⟨by omega, by omega⟩) (by repeat (first | exact rd_at | (apply rd_eq; omega) | (apply rd_ne; focus omega) | assumption | exact rfl)) (by omega)) ?_) | (refine Eq.mpr (x5_isBox' (by with_unfolding_all exact S) (by first | assumption | exact b2i_in | exact ⟨by omega, by omega⟩) (by repeat (first | exact rd_at | (apply rd_eq; omega) | (apply rd_ne; focus omega) | assumption | exact rfl)) (by omega)) ?_) | (refine Eq.mpr (x5_isSuitor' (by with_unfolding_all exact S) (by first | assumption | exact b2i_in | exact ⟨by omega, by omega⟩) (by repeat (first | exact rd_at | (apply rd_eq; omega) | (apply rd_ne; focus omega) | assumption | exact rfl)) (by omega)) ?_) | refine Eq.mpr (x0_refuse (by with_unfolding_all exact S) (by omega)) ?_ | refine Eq.mpr (x0_done (by with_unfolding_all exact S)) ?_ | refine Eq.mpr (x0_settled (by with_unfolding_all exact S)) ?_ | refine Eq.mpr (x5_settled (by with_unfolding_all exact S) (by omega)) ?_ | (refine Eq.mpr (x5_change' (by with_unfolding_all exact S) (by omega) (by repeat (first | exact rd_at | (apply rd_eq; omega) | (apply rd_ne; focus omega) | assumption | exact rfl))) ?_) | refine Eq.mpr (x5_no (by with_unfolding_all exact S) (by omega)) ?_ | refine Eq.mpr (x5_yes (by with_unfolding_all exact S) (by omega)) ?_ | refine Eq.mpr (x0_ones (by first | omega)) ?_ | refine x5_ones' (by first | omega) ?_ | refine Eq.mpr x0_isOf ?_ | refine Eq.mpr x5_is ?_)
    exact ih f _ _ (by omega) (by omega) (by omega) S (fun j a b => (gV_ne (by omega)).trans (hr j (by omega) b)) (fun w' S' e => hq w' S' (FL.cons (v := gV w 7 (y + 1)) e (by omega) (hr y (by omega) (by omega))))
theorem x5_remember_77 (S : SOK w) (u : UT w n U9 S9) (hn : n < 16) (hr : ∀ j, 0 ≤ j → j < 75 → gV w 3 (5 + j) = o j) (hq : ∀ w', SOK w' → FM w w' → UT w' (n + 1) (fun q => if (q : Int) = n then o else U9 q) (fun q => if q = n then x else S9 q) → Q w') : wp_X5_remember_77 Q 0 x w := by
  obtain ⟨⟨u1, u2, u3⟩, u4, u5⟩ := u
  unfold wp_X5_remember_77
  refine s_gfI (KF S rfl) u1 (s_cO (KF S rfl) (x5_keepAll ⟨u2, by omega⟩ S hr (fun w1 S1 e1 => ?_)))
  refine s_gfA (KF S1 rfl) (RF S1 rfl) (s_gfI (KF S1 rfl) ((e1.2.1 0 8 (by omega)).trans u1) (s_asI (KF S1 rfl) (by decide) ⟨u2, by omega⟩ (s_gfI (KF S1 rfl) ((gV_ne (by omega)).trans ((e1.2.1 0 8 (by omega)).trans u1)) (s_pfI (KF S1 rfl) ?_))))
  have fr : ∀ k j, ¬ (k = 0 ∧ j = 8) → ¬ (k = 7 ∧ j = n) → ¬ (k = 6 ∧ 75 * n ≤ j ∧ j < 75 * n + 75) → gV (sV (sV w1 7 n x) 0 8 (n + 1)) k j = gV w k j := fun k j a b c => by
    rw [gV_ne (by omega), gV_ne (by omega), e1.2.1 k j c]
  refine hq _ S1 ⟨e1.1, fun k j hk => fr k j (by omega) (by omega) (by omega)⟩ ⟨⟨gV_at, by omega, by omega⟩, fun q a b => ?_, fun q a j h1 h2 => ?_⟩
  · dsimp only
    by_cases z : q = n
    · rw [if_pos z, z, gV_ne (by omega), gV_at]
    · rw [if_neg z, fr 7 q (by omega) (by omega) (by omega)]
      exact u4 q a b
  · dsimp only
    by_cases z : (q : Int) = n
    · rw [if_pos z, z, gV_ne (by omega), gV_ne (by omega), e1.2.2 _ (by omega) (by omega)]
      exact congrArg o (by omega)
    · rw [if_neg z, fr 6 _ (by omega) (by omega) (by omega)]
      exact u5 q (by omega) j h1 h2
theorem FM.tr {w1 w2 : Wd} (h1 : FM w w1) (h2 : FM w1 w2) : FM w w2 := ⟨h1.1.tr h2.1, fun k j a => (h2.2 k j a).trans (h1.2 k j a)⟩
theorem x5_remember (S : SOK w) (u : UT w n U9 S9) (hr : ∀ j, 0 ≤ j → j < 75 → gV w 3 (5 + j) = o j) (hq : ∀ w', SOK w' → FM w w' → UT w' (uN n) (uU n U9 o) (uS n S9 x) → Q w') : wp_X5_remember 0 x w Q := by
  have u0 := u
  obtain ⟨⟨u1, u2, u3⟩, u4, u5⟩ := u
  unfold wp_X5_remember
  refine s_gfI (KF S rfl) u1 (s_ckI ⟨by omega, by omega⟩ (s_br (fun z => ?_) (fun z => ?_)))
  · refine x5_remember_77 S u0 (by omega) hr (fun w' S' f' u' => hq w' S' f' ?_)
    have e1 : uN n = n + 1 := if_neg z
    rw [e1]
    exact u'.cg (fun q _ => if_neg z) (fun q _ _ => if_neg z)
  · have hn : n = 16 := by omega
    subst hn
    refine x5_remember_11 (g := fun j => gV w 6 (j + 75)) 1125 FU 0 w (by decide) (by decide) (by decide) S (fun _ _ _ => rfl) (fun w1 S1 e1 => ?_)
    refine x5_remember_41 (g := fun j => gV w1 7 (j + 1)) 15 FU 0 w1 (by decide) (by decide) (by decide) S1 (fun _ _ _ => rfl) (fun w2 S2 e2 => ?_)
    refine s_gfI (KF S2 rfl) ((e2.2.1 0 8 (by omega)).trans ((e1.2.1 0 8 (by omega)).trans u1)) (s_pfI (KF S2 rfl) ?_)
    have fr : ∀ k j, ¬ (k = 0 ∧ j = 8) → ¬ (k = 7 ∧ 0 ≤ j ∧ j < 15) → ¬ (k = 6 ∧ 0 ≤ j ∧ j < 1125) → gV (sV w2 0 8 (16 - 1)) k j = gV w k j := fun k j a b c => by
      rw [gV_ne (by omega), e2.2.1 k j b, e1.2.1 k j c]
    have S3 : SOK (sV w2 0 8 (16 - 1)) := S2
    have u9 : UT (sV w2 0 8 (16 - 1)) 15 (fun q => U9 (q + 1)) (fun q => if q < 15 then S9 (q + 1) else S9 q) := by
      refine ⟨⟨gV_at, by decide, by decide⟩, fun q a b => ?_, fun q a j h1 h2 => ?_⟩
      · dsimp only
        by_cases z2 : q < 15
        · rw [if_pos z2, gV_ne (by omega), e2.2.2 q a z2]
          show gV w1 7 (q + 1) = _
          rw [e1.2.1 7 _ (by omega)]
          exact u4 _ (by omega) (by omega)
        · rw [if_neg z2, fr 7 q (by omega) (by omega) (by omega)]
          exact u4 _ a b
      · rw [gV_ne (by omega), e2.2.1 6 _ (by omega), e1.2.2 _ (by omega) (by omega)]
        show gV w 6 (75 * (q : Int) + j + 75) = U9 (q + 1) j
        rw [← u5 (q + 1) (by omega) j h1 h2]
        exact congrArg _ (by omega)
    have k3 : FM w (sV w2 0 8 (16 - 1)) := ⟨e1.1.tr e2.1, fun k j a => fr k j (by omega) (by omega) (by omega)⟩
    refine x5_remember_77 S3 u9 (by decide) (fun j a b => (fr 3 _ (by omega) (by omega) (by omega)).trans (hr j a b)) (fun w' S' f' u' => hq w' S' (FM.tr k3 f') ?_)
    refine u'.cg (fun q a => ?_) (fun q a b => ?_)
    · show (if (16 : Int) = 16 then (if q = 15 then o else U9 (q + 1)) else _) = _
      rw [if_pos rfl]
      by_cases z2 : q = 15
      · rw [if_pos z2, if_pos (by omega)]
      · rw [if_neg z2, if_neg (by omega)]
    · show (if (16 : Int) = 16 then (if q = 15 then x else S9 (q + 1)) else _) = _
      rw [if_pos rfl]
      by_cases z2 : q = 15
      · rw [if_pos z2, if_pos z2]
      · rw [if_neg z2, if_neg z2, if_pos (by omega)]
end UNDO
