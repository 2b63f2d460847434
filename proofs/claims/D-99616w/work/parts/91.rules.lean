/-! THE PLAIN LAW: keep (rules from the last bar back): the tables -/
set_option maxRecDepth 100000
theorem ixo_lt {a b : Int} {n : Nat} (hn : n ≤ 30) (h0 : 0 ≤ a) (h1 : a < 2 ^ n) (g0 : 0 ≤ b) (g1 : b < 2 ^ n) : 0 ≤ ixo a b ∧ ixo a b < 2 ^ n := by
  have hp : (2 : Nat) ^ n ≤ 2 ^ 30 := Nat.pow_le_pow_right (by decide) hn
  have hpi : ((2 ^ n : Nat) : Int) = 2 ^ n := by rw [Int.natCast_pow]; rfl
  rw [← hpi] at h1 g1 ⊢
  generalize hN : (2 : Nat) ^ n = N at *
  have hx := i32_toInt (a := a) ⟨by omega, by omega⟩
  have hy := i32_toInt (a := b) ⟨by omega, by omega⟩
  unfold ixo
  generalize Int32.ofInt a = x at *
  generalize Int32.ofInt b = y at *
  have e1 : x.toInt = x.toBitVec.toInt := rfl
  have e3 : y.toInt = y.toBitVec.toInt := rfl
  have e2 : (x ^^^ y).toInt = (x.toBitVec ^^^ y.toBitVec).toInt := rfl
  rw [e1, BitVec.toInt_eq_toNat_cond] at hx
  rw [e3, BitVec.toInt_eq_toNat_cond] at hy
  rw [e2, BitVec.toInt_eq_toNat_cond, BitVec.toNat_xor]
  have h4 := x.toBitVec.isLt
  have h5 := y.toBitVec.isLt
  have h3 : x.toBitVec.toNat ^^^ y.toBitVec.toNat < 2 ^ n := Nat.xor_lt_two_pow (by rw [hN]; split at hx <;> omega) (by rw [hN]; split at hy <;> omega)
  rw [hN] at h3
  split <;> omega
theorem ixo_in {a b : Int} (h : 0 ≤ a ∧ a ≤ 255) (h2 : 0 ≤ b ∧ b ≤ 255) : 0 ≤ ixo a b ∧ ixo a b ≤ 255 := by
  have := ixo_lt (a := a) (b := b) (n := 8) (by decide) h.1 (by have := h.2; omega) h2.1 (by have := h2.2; omega)
  have e : (2 : Int) ^ 8 = 256 := by decide
  rw [e] at this
  omega
theorem ixo_comm (a b : Int) : ixo a b = ixo b a := by
  unfold ixo
  rw [Int32.xor_comm]
theorem pc8_ixo0 {s : Int} : pc8 (ixo s s) = 0 := by
  unfold ixo
  rw [Int32.xor_self]
  decide
theorem ok_iff {p s : Int} (hp : 0 ≤ p ∧ p ≤ 255) (hs : 0 ≤ s ∧ s ≤ 255) : nts p s = 0 ↔ ian s p = p := by
  have h1 := nts_in (p := p) (b := s) hp.1 hp.2
  have h2 := ian_le (a := s) (b := p) hs.1 (by omega)
  have z0 : ∀ t, tb 0 t = false := fun t => by unfold tb; simp
  constructor
  · intro h
    refine tb_ext ⟨h2.1, by omega⟩ hp (fun t ht => ?_)
    have e := congrArg (fun v => tb v t) h
    (try dsimp only at e)
    rw [nts_tb ht, z0] at e
    rw [tb_and]
    revert e
    cases tb p t <;> cases tb s t <;> simp
  · intro h
    refine tb_ext h1 ⟨by decide, by decide⟩ (fun t ht => ?_)
    have e := congrArg (fun v => tb v t) h
    (try dsimp only at e)
    rw [tb_and] at e
    rw [nts_tb ht, z0]
    revert e
    cases tb p t <;> cases tb s t <;> simp
theorem ok_pc {p s : Int} (hp : 0 ≤ p ∧ p ≤ 255) (hs : 0 ≤ s ∧ s ≤ 255) (h : nts p s = 0) : pc8 (nts s p) = pc8 s - pc8 p := by
  have z0 : ∀ t, tb 0 t = false := fun t => by unfold tb; simp
  have k : ∀ t, t < 8 → tI (tb (nts s p) t) = tI (tb s t) - tI (tb p t) := fun t ht => by
    have e := congrArg (fun v => tb v t) h
    (try dsimp only at e)
    rw [nts_tb ht, z0] at e
    rw [nts_tb ht]
    revert e
    cases tb p t <;> cases tb s t <;> simp [tI]
  rw [tb_pc' (nts_in hs.1 hs.2), tb_pc' hs, tb_pc' hp, k 0 (by decide), k 1 (by decide), k 2 (by decide), k 3 (by decide), k 4 (by decide), k 5 (by decide), k 6 (by decide), k 7 (by decide)]
  omega
def feM (g : Int → Int) (d set : Int) : Int := itI (fun s m => if d < pc8 (ixo s set) then m else iMn m (g s)) 0 256 1000000
def leM (g : Int → Int) (d set : Int) : Int := itI (fun s m => if d < pc8 (ixo set s) then m else if m ≤ g s then m else g s) 0 256 100000000
def feA (P : Int → Int) (d : Int) : Nat → Int → Int
  | 0, s => iMn 1000000 (if nts (P 7) s = 0 then pc8 (nts s (P 7)) + 0 else 1000000)
  | k + 1, s => iMn 1000000 (if nts (P (6 - k)) s = 0 then pc8 (nts s (P (6 - k))) + feM (feA P d k) d s else 1000000)
def leA (P : Int → Int) (d : Int) : Nat → Int → Int
  | 0, s => if ian s (P 7) = P 7 then (pc8 s - pc8 (P 7)) + 0 else 100000000
  | k + 1, s => if ian s (P (6 - k)) = P (6 - k) then (pc8 s - pc8 (P (6 - k))) + leM (leA P d k) d s else 100000000
def Rl (B c t : Int) : Prop := (c = t ∧ 0 ≤ c ∧ c ≤ B) ∨ (c = 1000000 ∧ 100000000 ≤ t ∧ t ≤ 100000000 + B)
theorem Rl_M {g g' : Int → Int} {d set B : Int} (hB : 0 ≤ B ∧ B ≤ 1000) (h : ∀ s, 0 ≤ s → s < 256 → Rl B (g s) (g' s)) : (feM g d set = leM g' d set ∧ 0 ≤ feM g d set ∧ feM g d set ≤ B) ∨ (feM g d set = 1000000 ∧ leM g' d set = 100000000) :=
  itI_rel (f := fun s m => if d < pc8 (ixo s set) then m else iMn m (g s)) (h := fun s m => if d < pc8 (ixo set s) then m else if m ≤ g' s then m else g' s) (P := fun _ m m' => (m = m' ∧ 0 ≤ m ∧ m ≤ B) ∨ (m = 1000000 ∧ m' = 100000000)) 256 0 1000000 100000000 (Or.inr ⟨rfl, rfl⟩) (fun s m m' u v q => by
    have h := h s u (by omega)
    unfold Rl at h
    (try dsimp only)
    rw [ixo_comm set s]
    by_cases z : d < pc8 (ixo s set)
    · rw [if_pos z, if_pos z]; exact q
    · rw [if_neg z, if_neg z]
      unfold iMn
      split <;> split <;> omega)
theorem Rl_A {P : Int → Int} {d : Int} (hP : ∀ r, 0 ≤ r → r < 8 → 0 ≤ P r ∧ P r ≤ 255) : ∀ (k : Nat), k < 8 → ∀ s, 0 ≤ s → s < 256 → Rl (8 * (k + 1)) (feA P d k s) (leA P d k s) := by
  intro k
  induction k with
  | zero =>
    intro _ s h0 h1
    have hp := hP 7 (by decide) (by decide)
    have o := ok_iff hp (s := s) ⟨h0, by omega⟩
    unfold feA leA Rl
    by_cases z : nts (P 7) s = 0
    · have e := ok_pc hp ⟨h0, by omega⟩ z
      have r := pc8_in (v := nts s (P 7))
      rw [if_pos z, if_pos (o.mp z), ← e]
      unfold iMn
      rw [if_pos (by omega)]
      omega
    · rw [if_neg z, if_neg (fun q => z (o.mpr q))]
      unfold iMn
      rw [if_neg (by omega)]
      omega
  | succ k ih =>
    intro hk s h0 h1
    have hp := hP (6 - k) (by omega) (by omega)
    have o := ok_iff hp (s := s) ⟨h0, by omega⟩
    have m := Rl_M (d := d) (set := s) (B := 8 * (k + 1)) (by omega) (ih (by omega))
    unfold feA leA Rl
    by_cases z : nts (P (6 - k)) s = 0
    · have e := ok_pc hp ⟨h0, by omega⟩ z
      have r := pc8_in (v := nts s (P (6 - k)))
      rw [if_pos z, if_pos (o.mp z), ← e]
      unfold iMn
      rcases m with m | m
      · rw [if_pos (by omega)]
        omega
      · rw [m.1, m.2, if_neg (by omega)]
        omega
    · rw [if_neg z, if_neg (fun q => z (o.mpr q))]
      unfold iMn
      rw [if_neg (by omega)]
      omega
section RULES
variable {w0 w : Wd} {ρ : Int → Int} {Q : Int → Wd → Prop} {i a b c d n : Int} {K : Int → Int → Wd → Prop}
theorem x0_fewestBehind_8 {g : Int → Int} {set bar : Int} (S : SOK w) (hb : 0 ≤ bar ∧ bar < 8) (hs : 0 ≤ set ∧ set ≤ 255) (hd : inI d) (hg : ∀ s, 0 ≤ s → s < 256 → gV w 124 (256 * bar + s) = g s ∧ inI (g s)) : ∀ (m fuel : Nat) (a x : Int), x + m = 256 → 0 ≤ x → m < fuel → inI a → Q (itI (fun s m => if d < pc8 (ixo s set) then m else iMn m (g s)) x m a) w → wp_X0_fewestBehind_8 Q 100 bar set d fuel a x w := by
  intro m
  induction m with
  | zero =>
    intro fuel a x h1 h2 h3 ha hq
    obtain ⟨f, rfl⟩ : ∃ f, fuel = f + 1 := ⟨fuel - 1, by omega⟩
    rw [wp_X0_fewestBehind_8]
    repeat' (with_reducible first | (refine s_gfI (by with_unfolding_all exact KF S rfl) (by repeat (first | exact rd_at | (apply rd_eq; omega) | (apply rd_ne; focus omega) | assumption | exact rfl)) ?_) | refine s_gfA (by with_unfolding_all exact KF S rfl) (by with_unfolding_all exact RF S rfl) ?_ | refine s_gfR (by with_unfolding_all exact KF S rfl) (by with_unfolding_all exact RF S rfl) ?_ | refine s_dO ?_ | refine s_cO (by with_unfolding_all exact KF S rfl) ?_ | (refine s_alI (by with_unfolding_all exact KF S rfl) (by decide) ⟨by omega, by omega⟩ (by repeat (first | exact rd_at | (apply rd_eq; omega) | (apply rd_ne; focus omega) | assumption | exact rfl)) ?_) | refine s_asI (by with_unfolding_all exact KF S rfl) (by decide) ⟨by omega, by omega⟩ ?_ | refine s_pfI (by with_unfolding_all exact KF S rfl) ?_ | refine s_pfZ (by with_unfolding_all exact KF S rfl) (by omega) ?_ | refine s_ckI (by first | assumption | exact b2i_in | exact ⟨by omega, by omega⟩) ?_ | refine s_ckL (by first | assumption | exact ⟨by omega, by omega⟩ | exact inIL b2i_in) ?_ | refine s_ckN (by omega) ?_ | refine s_zrb ?_ | refine s_zr (by omega) ?_ | ((refine s_br0 (fun _ => ?_) (fun _ => ?_) <;> try (exfalso; first | omega | contradiction))) | ((refine s_br1 (fun _ => ?_) (fun _ => ?_) <;> try (exfalso; first | omega | contradiction))) | ((refine s_br (fun _ => ?_) (fun _ => ?_) <;> try (exfalso; first | omega | contradiction))) | refine Eq.mpr (x0_in (by first | assumption | exact b2i_in | exact ⟨by omega, by omega⟩) (by first | assumption | exact b2i_in | exact ⟨by omega, by omega⟩) (by first | assumption | exact b2i_in | exact ⟨by omega, by omega⟩)) ?_ | refine Eq.mpr (x5_in (by first | assumption | exact ⟨by omega, by omega⟩ | exact inIL b2i_in) (by first | assumption | exact ⟨by omega, by omega⟩ | exact inIL b2i_in) (by first | assumption | exact ⟨by omega, by omega⟩ | exact inIL b2i_in)) ?_ | refine Eq.mpr (x0_isBar (by first | assumption | exact b2i_in | exact ⟨by omega, by omega⟩)) ?_ | refine Eq.mpr (x0_isTooth (by first | assumption | exact b2i_in | exact ⟨by omega, by omega⟩)) ?_ | refine Eq.mpr (x0_isSet (by first | assumption | exact b2i_in | exact ⟨by omega, by omega⟩)) ?_ | refine Eq.mpr (x5_isBar (by first | assumption | exact b2i_in | exact ⟨by omega, by omega⟩)) ?_ | refine Eq.mpr (x5_isTooth (by first | assumption | exact b2i_in | exact ⟨by omega, by omega⟩)) ?_ | refine Eq.mpr (x0_table (by with_unfolding_all exact S)) ?_ | (refine Eq.mpr (x0_isBox' (by with_unfolding_all exact S) (by first | assumption | exact b2i_in | exact ⟨by omega, by omega⟩) (by repeat (first | exact rd_at | (apply rd_eq; omega) | (apply rd_ne; focus omega) | assumption | exact rfl)) (by omega)) ?_) | (refine Eq.mpr (x0_isSuitor' (by with_unfolding_all exact S) (by first | assumption | exact b2i_in | exact ⟨by omega, by omega⟩) (by repeat (first | exact rd_at | (apply rd_eq; omega) | (apply rd_ne; focus omega) | assumption | exact rfl)) (by omega)) ?_) | (refine Eq.mpr (x5_isBox' (by with_unfolding_all exact S) (by first | assumption | exact b2i_in | exact ⟨by omega, by omega⟩) (by repeat (first | exact rd_at | (apply rd_eq; omega) | (apply rd_ne; focus omega) | assumption | exact rfl)) (by omega)) ?_) | (refine Eq.mpr (x5_isSuitor' (by with_unfolding_all exact S) (by first | assumption | exact b2i_in | exact ⟨by omega, by omega⟩) (by repeat (first | exact rd_at | (apply rd_eq; omega) | (apply rd_ne; focus omega) | assumption | exact rfl)) (by omega)) ?_) | refine Eq.mpr (x0_refuse (by with_unfolding_all exact S) (by omega)) ?_ | refine Eq.mpr (x0_done (by with_unfolding_all exact S)) ?_ | refine Eq.mpr (x0_settled (by with_unfolding_all exact S)) ?_ | refine Eq.mpr (x5_settled (by with_unfolding_all exact S) (by omega)) ?_ | (refine Eq.mpr (x5_change' (by with_unfolding_all exact S) (by omega) (by repeat (first | exact rd_at | (apply rd_eq; omega) | (apply rd_ne; focus omega) | assumption | exact rfl))) ?_) | refine Eq.mpr (x5_no (by with_unfolding_all exact S) (by omega)) ?_ | refine Eq.mpr (x5_yes (by with_unfolding_all exact S) (by omega)) ?_ | refine Eq.mpr (x0_ones (by first | omega)) ?_ | refine x5_ones' (by first | omega) ?_ | refine Eq.mpr x0_isOf ?_ | refine Eq.mpr x5_is ?_)
    exact hq
  | succ m ih =>
    intro fuel a x h1 h2 h3 ha hq
    obtain ⟨f, rfl⟩ : ∃ f, fuel = f + 1 := ⟨fuel - 1, by omega⟩
    obtain ⟨r, r2⟩ := hg x h2 (by omega)
    have hx := ixo_in (a := x) (b := set) ⟨h2, by omega⟩ hs
    have hp := pc8_in (v := ixo x set)
    rw [wp_X0_fewestBehind_8]
    unfold wp_X0_fewestBehind_47
    repeat' (with_reducible first | (refine s_gfI (by with_unfolding_all exact KF S rfl) (by repeat (first | exact rd_at | (apply rd_eq; omega) | (apply rd_ne; focus omega) | assumption | exact rfl)) ?_) | refine s_gfA (by with_unfolding_all exact KF S rfl) (by with_unfolding_all exact RF S rfl) ?_ | refine s_gfR (by with_unfolding_all exact KF S rfl) (by with_unfolding_all exact RF S rfl) ?_ | refine s_dO ?_ | refine s_cO (by with_unfolding_all exact KF S rfl) ?_ | (refine s_alI (by with_unfolding_all exact KF S rfl) (by decide) ⟨by omega, by omega⟩ (by repeat (first | exact rd_at | (apply rd_eq; omega) | (apply rd_ne; focus omega) | assumption | exact rfl)) ?_) | refine s_asI (by with_unfolding_all exact KF S rfl) (by decide) ⟨by omega, by omega⟩ ?_ | refine s_pfI (by with_unfolding_all exact KF S rfl) ?_ | refine s_pfZ (by with_unfolding_all exact KF S rfl) (by omega) ?_ | refine s_ckI (by first | assumption | exact b2i_in | exact ⟨by omega, by omega⟩) ?_ | refine s_ckL (by first | assumption | exact ⟨by omega, by omega⟩ | exact inIL b2i_in) ?_ | refine s_ckN (by omega) ?_ | refine s_zrb ?_ | refine s_zr (by omega) ?_ | ((refine s_br0 (fun _ => ?_) (fun _ => ?_) <;> try (exfalso; first | omega | contradiction))) | ((refine s_br1 (fun _ => ?_) (fun _ => ?_) <;> try (exfalso; first | omega | contradiction))) | ((refine s_br (fun _ => ?_) (fun _ => ?_) <;> try (exfalso; first | omega | contradiction))) | refine Eq.mpr (x0_in (by first | assumption | exact b2i_in | exact ⟨by omega, by omega⟩) (by first | assumption | exact b2i_in | exact ⟨by omega, by omega⟩) (by first | assumption | exact b2i_in | exact ⟨by omega, by omega⟩)) ?_ | refine Eq.mpr (x5_in (by first | assumption | exact ⟨by omega, by omega⟩ | exact inIL b2i_in) (by first | assumption | exact ⟨by omega, by omega⟩ | exact inIL b2i_in) (by first | assumption | exact ⟨by omega, by omega⟩ | exact inIL b2i_in)) ?_ | refine Eq.mpr (x0_isBar (by first | assumption | exact b2i_in | exact ⟨by omega, by omega⟩)) ?_ | refine Eq.mpr (x0_isTooth (by first | assumption | exact b2i_in | exact ⟨by omega, by omega⟩)) ?_ | refine Eq.mpr (x0_isSet (by first | assumption | exact b2i_in | exact ⟨by omega, by omega⟩)) ?_ | refine Eq.mpr (x5_isBar (by first | assumption | exact b2i_in | exact ⟨by omega, by omega⟩)) ?_ | refine Eq.mpr (x5_isTooth (by first | assumption | exact b2i_in | exact ⟨by omega, by omega⟩)) ?_ | refine Eq.mpr (x0_table (by with_unfolding_all exact S)) ?_ | (refine Eq.mpr (x0_isBox' (by with_unfolding_all exact S) (by first | assumption | exact b2i_in | exact ⟨by omega, by omega⟩) (by repeat (first | exact rd_at | (apply rd_eq; omega) | (apply rd_ne; focus omega) | assumption | exact rfl)) (by omega)) ?_) | (refine Eq.mpr (x0_isSuitor' (by with_unfolding_all exact S) (by first | assumption | exact b2i_in | exact ⟨by omega, by omega⟩) (by repeat (first | exact rd_at | (apply rd_eq; omega) | (apply rd_ne; focus omega) | assumption | exact rfl)) (by omega)) ?_) | (refine Eq.mpr (x5_isBox' (by with_unfolding_all exact S) (by first | assumption | exact b2i_in | exact ⟨by omega, by omega⟩) (by repeat (first | exact rd_at | (apply rd_eq; omega) | (apply rd_ne; focus omega) | assumption | exact rfl)) (by omega)) ?_) | (refine Eq.mpr (x5_isSuitor' (by with_unfolding_all exact S) (by first | assumption | exact b2i_in | exact ⟨by omega, by omega⟩) (by repeat (first | exact rd_at | (apply rd_eq; omega) | (apply rd_ne; focus omega) | assumption | exact rfl)) (by omega)) ?_) | refine Eq.mpr (x0_refuse (by with_unfolding_all exact S) (by omega)) ?_ | refine Eq.mpr (x0_done (by with_unfolding_all exact S)) ?_ | refine Eq.mpr (x0_settled (by with_unfolding_all exact S)) ?_ | refine Eq.mpr (x5_settled (by with_unfolding_all exact S) (by omega)) ?_ | (refine Eq.mpr (x5_change' (by with_unfolding_all exact S) (by omega) (by repeat (first | exact rd_at | (apply rd_eq; omega) | (apply rd_ne; focus omega) | assumption | exact rfl))) ?_) | refine Eq.mpr (x5_no (by with_unfolding_all exact S) (by omega)) ?_ | refine Eq.mpr (x5_yes (by with_unfolding_all exact S) (by omega)) ?_ | refine Eq.mpr (x0_ones (by first | omega)) ?_ | refine x5_ones' (by first | omega) ?_ | refine Eq.mpr x0_isOf ?_ | refine Eq.mpr x5_is ?_)
    · exact ih f _ _ (by omega) (by omega) (by omega) ha (itQ (P := fun z => Q z w) (if_pos (by assumption)) hq)
    · exact ih f _ _ (by omega) (by omega) (by omega) (by unfold iMn; split <;> assumption) (itQ (P := fun z => Q z w) (if_neg (by assumption)) hq)
theorem x5_leastNext_8 {g : Int → Int} {set bar : Int} (S : SOK w) (hb : -1 ≤ bar ∧ bar < 7) (hs : 0 ≤ set ∧ set ≤ 255) (hd : inI d) (hg : ∀ s, 0 ≤ s → s < 256 → gV w 47 (256 * (bar + 1) + s) = g s ∧ inI (g s)) : ∀ (m fuel : Nat) (a x : Int), x + m = 256 → 0 ≤ x → m < fuel → inI a → Q (itI (fun s m => if d < pc8 (ixo set s) then m else if m ≤ g s then m else g s) x m a) w → wp_X5_leastNext_8 Q 0 bar set d fuel a x w := by
  intro m
  induction m with
  | zero =>
    intro fuel a x h1 h2 h3 ha hq
    obtain ⟨f, rfl⟩ : ∃ f, fuel = f + 1 := ⟨fuel - 1, by omega⟩
    rw [wp_X5_leastNext_8]
    repeat' (with_reducible first | (refine s_gfI (by with_unfolding_all exact KF S rfl) (by repeat (first | exact rd_at | (apply rd_eq; omega) | (apply rd_ne; focus omega) | assumption | exact rfl)) ?_) | refine s_gfA (by with_unfolding_all exact KF S rfl) (by with_unfolding_all exact RF S rfl) ?_ | refine s_gfR (by with_unfolding_all exact KF S rfl) (by with_unfolding_all exact RF S rfl) ?_ | refine s_dO ?_ | refine s_cO (by with_unfolding_all exact KF S rfl) ?_ | (refine s_alI (by with_unfolding_all exact KF S rfl) (by decide) ⟨by omega, by omega⟩ (by repeat (first | exact rd_at | (apply rd_eq; omega) | (apply rd_ne; focus omega) | assumption | exact rfl)) ?_) | refine s_asI (by with_unfolding_all exact KF S rfl) (by decide) ⟨by omega, by omega⟩ ?_ | refine s_pfI (by with_unfolding_all exact KF S rfl) ?_ | refine s_pfZ (by with_unfolding_all exact KF S rfl) (by omega) ?_ | refine s_ckI (by first | assumption | exact b2i_in | exact ⟨by omega, by omega⟩) ?_ | refine s_ckL (by first | assumption | exact ⟨by omega, by omega⟩ | exact inIL b2i_in) ?_ | refine s_ckN (by omega) ?_ | refine s_zrb ?_ | refine s_zr (by omega) ?_ | ((refine s_br0 (fun _ => ?_) (fun _ => ?_) <;> try (exfalso; first | omega | contradiction))) | ((refine s_br1 (fun _ => ?_) (fun _ => ?_) <;> try (exfalso; first | omega | contradiction))) | ((refine s_br (fun _ => ?_) (fun _ => ?_) <;> try (exfalso; first | omega | contradiction))) | refine Eq.mpr (x0_in (by first | assumption | exact b2i_in | exact ⟨by omega, by omega⟩) (by first | assumption | exact b2i_in | exact ⟨by omega, by omega⟩) (by first | assumption | exact b2i_in | exact ⟨by omega, by omega⟩)) ?_ | refine Eq.mpr (x5_in (by first | assumption | exact ⟨by omega, by omega⟩ | exact inIL b2i_in) (by first | assumption | exact ⟨by omega, by omega⟩ | exact inIL b2i_in) (by first | assumption | exact ⟨by omega, by omega⟩ | exact inIL b2i_in)) ?_ | refine Eq.mpr (x0_isBar (by first | assumption | exact b2i_in | exact ⟨by omega, by omega⟩)) ?_ | refine Eq.mpr (x0_isTooth (by first | assumption | exact b2i_in | exact ⟨by omega, by omega⟩)) ?_ | refine Eq.mpr (x0_isSet (by first | assumption | exact b2i_in | exact ⟨by omega, by omega⟩)) ?_ | refine Eq.mpr (x5_isBar (by first | assumption | exact b2i_in | exact ⟨by omega, by omega⟩)) ?_ | refine Eq.mpr (x5_isTooth (by first | assumption | exact b2i_in | exact ⟨by omega, by omega⟩)) ?_ | refine Eq.mpr (x0_table (by with_unfolding_all exact S)) ?_ | (refine Eq.mpr (x0_isBox' (by with_unfolding_all exact S) (by first | assumption | exact b2i_in | exact ⟨by omega, by omega⟩) (by repeat (first | exact rd_at | (apply rd_eq; omega) | (apply rd_ne; focus omega) | assumption | exact rfl)) (by omega)) ?_) | (refine Eq.mpr (x0_isSuitor' (by with_unfolding_all exact S) (by first | assumption | exact b2i_in | exact ⟨by omega, by omega⟩) (by repeat (first | exact rd_at | (apply rd_eq; omega) | (apply rd_ne; focus omega) | assumption | exact rfl)) (by omega)) ?_) | (refine Eq.mpr (x5_isBox' (by with_unfolding_all exact S) (by first | assumption | exact b2i_in | exact ⟨by omega, by omega⟩) (by repeat (first | exact rd_at | (apply rd_eq; omega) | (apply rd_ne; focus omega) | assumption | exact rfl)) (by omega)) ?_) | (refine Eq.mpr (x5_isSuitor' (by with_unfolding_all exact S) (by first | assumption | exact b2i_in | exact ⟨by omega, by omega⟩) (by repeat (first | exact rd_at | (apply rd_eq; omega) | (apply rd_ne; focus omega) | assumption | exact rfl)) (by omega)) ?_) | refine Eq.mpr (x0_refuse (by with_unfolding_all exact S) (by omega)) ?_ | refine Eq.mpr (x0_done (by with_unfolding_all exact S)) ?_ | refine Eq.mpr (x0_settled (by with_unfolding_all exact S)) ?_ | refine Eq.mpr (x5_settled (by with_unfolding_all exact S) (by omega)) ?_ | (refine Eq.mpr (x5_change' (by with_unfolding_all exact S) (by omega) (by repeat (first | exact rd_at | (apply rd_eq; omega) | (apply rd_ne; focus omega) | assumption | exact rfl))) ?_) | refine Eq.mpr (x5_no (by with_unfolding_all exact S) (by omega)) ?_ | refine Eq.mpr (x5_yes (by with_unfolding_all exact S) (by omega)) ?_ | refine Eq.mpr (x0_ones (by first | omega)) ?_ | refine x5_ones' (by first | omega) ?_ | refine Eq.mpr x0_isOf ?_ | refine Eq.mpr x5_is ?_)
    exact hq
  | succ m ih =>
    intro fuel a x h1 h2 h3 ha hq
    obtain ⟨f, rfl⟩ : ∃ f, fuel = f + 1 := ⟨fuel - 1, by omega⟩
    obtain ⟨r, r2⟩ := hg x h2 (by omega)
    have hx := ixo_in (a := set) (b := x) hs ⟨h2, by omega⟩
    have hp := pc8_in (v := ixo set x)
    rw [wp_X5_leastNext_8]
    unfold wp_X5_leastNext_64
    repeat' (with_reducible first | (refine s_gfI (by with_unfolding_all exact KF S rfl) (by repeat (first | exact rd_at | (apply rd_eq; omega) | (apply rd_ne; focus omega) | assumption | exact rfl)) ?_) | refine s_gfA (by with_unfolding_all exact KF S rfl) (by with_unfolding_all exact RF S rfl) ?_ | refine s_gfR (by with_unfolding_all exact KF S rfl) (by with_unfolding_all exact RF S rfl) ?_ | refine s_dO ?_ | refine s_cO (by with_unfolding_all exact KF S rfl) ?_ | (refine s_alI (by with_unfolding_all exact KF S rfl) (by decide) ⟨by omega, by omega⟩ (by repeat (first | exact rd_at | (apply rd_eq; omega) | (apply rd_ne; focus omega) | assumption | exact rfl)) ?_) | refine s_asI (by with_unfolding_all exact KF S rfl) (by decide) ⟨by omega, by omega⟩ ?_ | refine s_pfI (by with_unfolding_all exact KF S rfl) ?_ | refine s_pfZ (by with_unfolding_all exact KF S rfl) (by omega) ?_ | refine s_ckI (by first | assumption | exact b2i_in | exact ⟨by omega, by omega⟩) ?_ | refine s_ckL (by first | assumption | exact ⟨by omega, by omega⟩ | exact inIL b2i_in) ?_ | refine s_ckN (by omega) ?_ | refine s_zrb ?_ | refine s_zr (by omega) ?_ | ((refine s_br0 (fun _ => ?_) (fun _ => ?_) <;> try (exfalso; first | omega | contradiction))) | ((refine s_br1 (fun _ => ?_) (fun _ => ?_) <;> try (exfalso; first | omega | contradiction))) | ((refine s_br (fun _ => ?_) (fun _ => ?_) <;> try (exfalso; first | omega | contradiction))) | refine Eq.mpr (x0_in (by first | assumption | exact b2i_in | exact ⟨by omega, by omega⟩) (by first | assumption | exact b2i_in | exact ⟨by omega, by omega⟩) (by first | assumption | exact b2i_in | exact ⟨by omega, by omega⟩)) ?_ | refine Eq.mpr (x5_in (by first | assumption | exact ⟨by omega, by omega⟩ | exact inIL b2i_in) (by first | assumption | exact ⟨by omega, by omega⟩ | exact inIL b2i_in) (by first | assumption | exact ⟨by omega, by omega⟩ | exact inIL b2i_in)) ?_ | refine Eq.mpr (x0_isBar (by first | assumption | exact b2i_in | exact ⟨by omega, by omega⟩)) ?_ | refine Eq.mpr (x0_isTooth (by first | assumption | exact b2i_in | exact ⟨by omega, by omega⟩)) ?_ | refine Eq.mpr (x0_isSet (by first | assumption | exact b2i_in | exact ⟨by omega, by omega⟩)) ?_ | refine Eq.mpr (x5_isBar (by first | assumption | exact b2i_in | exact ⟨by omega, by omega⟩)) ?_ | refine Eq.mpr (x5_isTooth (by first | assumption | exact b2i_in | exact ⟨by omega, by omega⟩)) ?_ | refine Eq.mpr (x0_table (by with_unfolding_all exact S)) ?_ | (refine Eq.mpr (x0_isBox' (by with_unfolding_all exact S) (by first | assumption | exact b2i_in | exact ⟨by omega, by omega⟩) (by repeat (first | exact rd_at | (apply rd_eq; omega) | (apply rd_ne; focus omega) | assumption | exact rfl)) (by omega)) ?_) | (refine Eq.mpr (x0_isSuitor' (by with_unfolding_all exact S) (by first | assumption | exact b2i_in | exact ⟨by omega, by omega⟩) (by repeat (first | exact rd_at | (apply rd_eq; omega) | (apply rd_ne; focus omega) | assumption | exact rfl)) (by omega)) ?_) | (refine Eq.mpr (x5_isBox' (by with_unfolding_all exact S) (by first | assumption | exact b2i_in | exact ⟨by omega, by omega⟩) (by repeat (first | exact rd_at | (apply rd_eq; omega) | (apply rd_ne; focus omega) | assumption | exact rfl)) (by omega)) ?_) | (refine Eq.mpr (x5_isSuitor' (by with_unfolding_all exact S) (by first | assumption | exact b2i_in | exact ⟨by omega, by omega⟩) (by repeat (first | exact rd_at | (apply rd_eq; omega) | (apply rd_ne; focus omega) | assumption | exact rfl)) (by omega)) ?_) | refine Eq.mpr (x0_refuse (by with_unfolding_all exact S) (by omega)) ?_ | refine Eq.mpr (x0_done (by with_unfolding_all exact S)) ?_ | refine Eq.mpr (x0_settled (by with_unfolding_all exact S)) ?_ | refine Eq.mpr (x5_settled (by with_unfolding_all exact S) (by omega)) ?_ | (refine Eq.mpr (x5_change' (by with_unfolding_all exact S) (by omega) (by repeat (first | exact rd_at | (apply rd_eq; omega) | (apply rd_ne; focus omega) | assumption | exact rfl))) ?_) | refine Eq.mpr (x5_no (by with_unfolding_all exact S) (by omega)) ?_ | refine Eq.mpr (x5_yes (by with_unfolding_all exact S) (by omega)) ?_ | refine Eq.mpr (x0_ones (by first | omega)) ?_ | refine x5_ones' (by first | omega) ?_ | refine Eq.mpr x0_isOf ?_ | refine Eq.mpr x5_is ?_)
    · exact ih f _ _ (by omega) (by omega) (by omega) ha (itQ (P := fun z => Q z w) (if_pos (by assumption)) hq)
    · exact ih f _ _ (by omega) (by omega) (by omega) ha (itQ (P := fun z => Q z w) ((if_neg (by assumption)).trans (if_pos (by assumption))) hq)
    · exact ih f _ _ (by omega) (by omega) (by omega) r2 (itQ (P := fun z => Q z w) ((if_neg (by assumption)).trans (if_neg (by assumption))) hq)
end RULES
