/-! THE PLAIN LAW: what a sum, a test tells: by the tree (keys from 1000 on), on both sides -/
set_option maxRecDepth 100000
def bV (sg a b : Int) : Int := if sg = 43 then a + b else if sg = 45 then a - b else if sg = 42 then a * b else if sg = 47 then Int.tdiv a b else Int.tmod a b
def bO (sg a b : Int) : Option Int := if (sg = 47 ∨ sg = 37) ∧ b = 0 then none else if 1000000000 < bV sg a b ∨ bV sg a b < -1000000000 then none else some (bV sg a b)
def evS (w : Wd) (E : Int → Int) : Nat → Nat → Option Int
  | 0, _ => none
  | n + 1, k => if gK w k = some (.inl 8) then some (gV w k 0) else if gK w k = some (.inl 9) then some (E (gV w k 0)) else
    match evS w E n (rK w k 1) with
    | none => none
    | some a => match evS w E n (rK w k 2) with
      | none => none
      | some b => bO (gV w k 0) a b
def cV (sg a b : Int) : Int := if sg = 60 then (if a < b then 1 else 0) else if sg = 62 then (if b < a then 1 else 0) else (if a = b then 1 else 0)
def evL (ev : Int → Option Int) (all : Int) : Int → Nat → Option Int
  | _, 0 => some all
  | i, m + 1 => match ev i with
    | none => none
    | some v => if v = all then evL ev all (i + 1) m else some (1 - all)
def evT (w : Wd) (E : Int → Int) : Nat → Nat → Option Int
  | 0, _ => none
  | n + 1, k => if gK w k = some (.inl 11) then
      match evS w E 60 (rK w k 1) with
      | none => none
      | some a => match evS w E 60 (rK w k 2) with
        | none => none
        | some b => some (cV (gV w k 0) a b)
    else if gK w k = some (.inl 12) then
      match evT w E n (rK w k 0) with
      | none => none
      | some v => some (1 - v)
    else evL (fun i => evT w E n (rK w (rK w (rK w k 1) 1) i)) (gV w k 0) 0 (gV w (rK w k 1) 2).toNat
theorem cV_in {sg a b : Int} : cV sg a b = 0 ∨ cV sg a b = 1 := by
  unfold cV
  split <;> split <;> first | exact Or.inl rfl | exact Or.inr rfl | (split <;> first | exact Or.inl rfl | exact Or.inr rfl)
theorem mul_in {a b : Int} (h1 : -1000000000 ≤ a ∧ a ≤ 1000000000) (h2 : -1000000000 ≤ b ∧ b ≤ 1000000000) : -1000000000000000000 ≤ a * b ∧ a * b ≤ 1000000000000000000 := by
  have e : (a * b).natAbs = a.natAbs * b.natAbs := Int.natAbs_mul a b
  have h : a.natAbs * b.natAbs ≤ 1000000000 * 1000000000 := Nat.mul_le_mul (by omega) (by omega)
  rw [← e] at h
  omega
theorem tdiv_in {a b : Int} (h1 : -1000000000 ≤ a ∧ a ≤ 1000000000) : -1000000000 ≤ Int.tdiv a b ∧ Int.tdiv a b ≤ 1000000000 := by
  have e : (Int.tdiv a b).natAbs = a.natAbs / b.natAbs := Int.natAbs_tdiv a b
  have h : a.natAbs / b.natAbs ≤ a.natAbs := Nat.div_le_self _ _
  rw [← e] at h
  omega
theorem tmod_in {a b : Int} (h1 : -1000000000 ≤ a ∧ a ≤ 1000000000) : -1000000000 ≤ Int.tmod a b ∧ Int.tmod a b ≤ 1000000000 := by
  have e : (Int.tmod a b).natAbs = a.natAbs % b.natAbs := Int.natAbs_tmod a b
  have h : a.natAbs % b.natAbs ≤ a.natAbs := Nat.mod_le _ _
  rw [← e] at h
  omega
theorem bV_in {sg a b : Int} (h1 : -1000000000 ≤ a ∧ a ≤ 1000000000) (h2 : -1000000000 ≤ b ∧ b ≤ 1000000000) : inL (bV sg a b) := by
  have q1 := mul_in h1 h2
  have q2 := tdiv_in (b := b) h1
  have q3 := tmod_in (b := b) h1
  unfold bV inL
  split
  · omega
  · split
    · omega
    · split
      · omega
      · split <;> omega
theorem bO_some {sg a b v : Int} (h : bO sg a b = some v) : -1000000000 ≤ v ∧ v ≤ 1000000000 ∧ v = bV sg a b ∧ ¬ ((sg = 47 ∨ sg = 37) ∧ b = 0) := by
  unfold bO at h
  split at h
  · cases h
  · next g =>
    split at h
    · cases h
    · next g2 =>
      cases h
      exact ⟨by omega, by omega, rfl, g⟩
section CSUM
variable {w0 w : Wd} {SS : Nat → Option Nat → Wd → (Int → Wd → Prop) → (Nat → Wd → Prop) → Prop} {Q : Int → Wd → Prop} {X : Nat → Wd → Prop} {k : Nat} {sg v a b : Int} {E : Int → Int}
theorem c_thr (S : SOK w) (h : X 192 w) : wp_X13_of_137 SS Q X (some 190) w := by
  unfold wp_X13_of_137
  refine s_dO ?_
  refine s_gfR (KF S rfl) (RF S rfl) ?_
  refine s_dO ?_
  exact ⟨⟨5, by decide, KF S rfl⟩, h⟩
theorem c_out (S : SOK w) (hv : inL v) (hQ : ¬ (1000000000 < v ∨ v < -1000000000) → Q v w) (hX : (1000000000 < v ∨ v < -1000000000) → X 192 w) : wp_X13_of_117 SS Q X (some 190) v w := by
  unfold wp_X13_of_117
  refine s_ckL hv (s_br (fun g => c_thr S (hX (Or.inl g))) (fun g => ?_))
  refine s_ckL hv (s_br (fun g2 => hQ (by omega)) (fun g2 => c_thr S (hX (Or.inr (by omega)))))
theorem c_49 (S : SOK w) (hk : gK w k = some (.inl 10)) (hs : gV w k 0 = sg) (h0 : sg = 43 ∨ sg = 45 ∨ sg = 42 ∨ sg = 47 ∨ sg = 37) (ha : -1000000000 ≤ a ∧ a ≤ 1000000000) (hb : -1000000000 ≤ b ∧ b ≤ 1000000000) (hz : ¬ ((sg = 47 ∨ sg = 37) ∧ b = 0)) (hQ : ∀ v, bO sg a b = some v → Q v w) (hX : bO sg a b = none → X 192 w) : wp_X13_of_49 SS Q X k (some 190) a b w := by
  have hin := bV_in (sg := sg) ha hb
  have key : wp_X13_of_117 SS Q X (some 190) (bV sg a b) w := c_out S hin (fun g => hQ _ (by unfold bO; rw [if_neg hz, if_neg g])) (fun g => hX (by unfold bO; rw [if_neg hz, if_pos g]))
  unfold wp_X13_of_49
  refine s_gfI hk hs (s_ckI ⟨by omega, by omega⟩ (s_br (fun g1 => ?_) (fun g1 => ?_)))
  · refine s_gfI hk hs (s_ckI ⟨by omega, by omega⟩ (s_br (fun g2 => ?_) (fun g2 => ?_)))
    · refine s_gfI hk hs (s_ckI ⟨by omega, by omega⟩ (s_br (fun g3 => ?_) (fun g3 => ?_)))
      · refine s_gfI hk hs (s_ckI ⟨by omega, by omega⟩ (s_br (fun g4 => ?_) (fun g4 => ?_)))
        · have e : bV sg a b = Int.tmod a b := by unfold bV; rw [if_neg g1, if_neg g2, if_neg g3, if_neg g4]
          rw [e] at key
          exact s_ckL ⟨by omega, by omega⟩ (s_ckL ⟨by omega, by omega⟩ (s_ckN (by omega) key))
        · have g4 : sg = 47 := by omega
          have e : bV sg a b = Int.tdiv a b := by unfold bV; rw [if_neg g1, if_neg g2, if_neg g3, if_pos g4]
          rw [e] at key
          exact s_ckL ⟨by omega, by omega⟩ (s_ckL ⟨by omega, by omega⟩ (s_ckN (by omega) key))
      · have g3 : sg = 42 := by omega
        have e : bV sg a b = a * b := by unfold bV; rw [if_neg g1, if_neg g2, if_pos g3]
        rw [e] at key
        exact key
    · have g2 : sg = 45 := by omega
      have e : bV sg a b = a - b := by unfold bV; rw [if_neg g1, if_pos g2]
      rw [e] at key
      exact key
  · have g1 : sg = 43 := by omega
    have e : bV sg a b = a + b := by unfold bV; rw [if_pos g1]
    rw [e] at key
    exact key
theorem c_37 (S : SOK w) (hk : gK w k = some (.inl 10)) (hs : gV w k 0 = sg) (h0 : sg = 47 ∨ sg = 37) (ha : -1000000000 ≤ a ∧ a ≤ 1000000000) (hb : -1000000000 ≤ b ∧ b ≤ 1000000000) (hQ : ∀ v, bO sg a b = some v → Q v w) (hX : bO sg a b = none → X 192 w) : wp_X13_of_37 SS Q X k (some 190) a b w := by
  unfold wp_X13_of_37
  refine s_ckL ⟨by omega, by omega⟩ (s_br (fun g => ?_) (fun g => ?_))
  · exact c_49 S hk hs (by omega) ha hb (by omega) hQ hX
  · refine s_dO ?_
    refine s_gfR (KF S rfl) (RF S rfl) ?_
    refine s_dO ?_
    exact ⟨⟨5, by decide, KF S rfl⟩, hX (by unfold bO; rw [if_pos ⟨h0, by omega⟩])⟩
/-- the values that a setting holds -/
def SetE (w : Wd) (E : Int → Int) (N : Int) : Prop := ∀ j : Int, 0 ≤ j → j < N → gV w 191 j = E j ∧ -1000000 ≤ E j ∧ E j ≤ 1000000
theorem valOp_lt {ord : Bool} {v a b : Int} (h : valOp ord v a b) : v < 16 := by
  cases ord
  · have h : v < 9 ∧ a = v + 1 ∧ b = 0 := h
    omega
  · have h : (v < 4 ∧ a = v + 1 ∧ b = 0) ∨ (4 ≤ v ∧ v < 10 ∧ a = 5 ∧ b = v - 4) ∨ (10 ≤ v ∧ v < 16 ∧ a = 6 ∧ b = v - 10) := h
    omega
theorem c_sum {N : Int} {ord : Bool} {op ar : Int → Int} (S : SOK w) (H : Hi w0 w) (hN : N ≤ 16) (hO : ∀ v a b, valOp ord v a b → v < N) (hE : SetE w E N) : ∀ (n m k : Nat) (a b : Int), n ≤ m + 1 → SumR w0 ord op ar n k a b → ∀ (Q : Int → Wd → Prop) (X : Nat → Wd → Prop), (∀ v, evS w0 E n k = some v → -1000000000 ≤ v → v ≤ 1000000000 → Q v w) → (evS w0 E n k = none → X 192 w) → wp_dSum (wpR_X13_of m) k (some 190) w Q X := by
  intro n
  induction n with
  | zero => intro m k a b _ h; exact h.elim
  | succ n ih =>
    intro m k a b hn h Q X hQ hX
    obtain ⟨hk, h⟩ := h
    rcases h with h | h | h
    · obtain ⟨g, _, _, h2, h3, h4⟩ := h
      obtain ⟨q1, q2, q3⟩ := H k hk (by rw [g]; exact fun z => by cases z)
      refine Or.inl ⟨q1.trans g, ?_⟩
      unfold wp_X11_of
      refine s_gfI (q1.trans g) (q2 0) (s_ckI ⟨by omega, by omega⟩ (hQ _ ?_ (by omega) (by omega)))
      rw [evS, if_pos g]
    · obtain ⟨g, _, h2, h3⟩ := h
      obtain ⟨q1, q2, q3⟩ := H k hk (by rw [g]; exact fun z => by cases z)
      have h4 := hO _ _ _ h3
      have h5 := hE _ h2 h4
      refine Or.inr (Or.inl ⟨q1.trans g, ?_⟩)
      unfold wp_X12_of
      refine s_dO (s_gfA (KF S rfl) (RF S rfl) (s_gfI (q1.trans g) (q2 0) (s_alI (KF S rfl) (by decide) ⟨h2, by omega⟩ h5.1 (hQ _ ?_ (by omega) (by omega)))))
      rw [evS, if_neg (by rw [g]; exact fun z => by cases z), if_pos g]
    · obtain ⟨g, h0, _, l, r, mm, e1, e2, s1, s2⟩ := h
      obtain ⟨q1, q2, q3⟩ := H k hk (by rw [g]; exact fun z => by cases z)
      have hn0 : n ≠ 0 := fun z => by subst z; exact s1
      obtain ⟨m', rfl⟩ : ∃ m', m = m' + 1 := ⟨m - 1, by omega⟩
      have ev : evS w0 E (n + 1) k = match evS w0 E n l with
        | none => none
        | some a => match evS w0 E n r with
          | none => none
          | some b => bO (gV w0 k 0) a b := by
        have r1 : rK w0 k 1 = l := by unfold rK; rw [e1]; rfl
        have r2 : rK w0 k 2 = r := by unfold rK; rw [e2]; rfl
        rw [evS, if_neg (by rw [g]; exact fun z => by cases z), if_neg (by rw [g]; exact fun z => by cases z), r1, r2]
      refine Or.inr (Or.inr ⟨q1.trans g, ?_⟩)
      show wp_X13_of (wpR_X13_of m') k (some 190) w Q X
      unfold wp_X13_of
      refine s_gfR (q1.trans g) ((q3 1).trans e1) (s_dO ?_)
      refine ih m' l a mm (by omega) s1 _ _ (fun v1 ev1 b1 b2 => ?_) (fun ev1 => hX (by rw [ev, ev1]))
      refine s_gfR (q1.trans g) ((q3 2).trans e2) (s_dO ?_)
      refine ih m' r mm (b - 1) (by omega) s2 _ _ (fun v2 ev2 b3 b4 => ?_) (fun ev2 => hX (by rw [ev, ev1, ev2]))
      rw [ev1, ev2] at ev
      have ev : evS w0 E (n + 1) k = bO (gV w0 k 0) v1 v2 := ev
      rw [ev] at hQ hX
      have hQ : ∀ v, bO (gV w0 k 0) v1 v2 = some v → Q v w := fun v hv => hQ v hv (bO_some hv).1 (bO_some hv).2.1
      have hs : gV w k 0 = gV w0 k 0 := q2 0
      generalize gV w0 k 0 = sg at *
      refine s_gfI (q1.trans g) hs (s_ckI ⟨by omega, by omega⟩ (s_br (fun z => ?_) (fun z => ?_)))
      · exact c_37 S (q1.trans g) hs (Or.inl z) ⟨b1, b2⟩ ⟨b3, b4⟩ hQ hX
      · refine s_gfI (q1.trans g) hs (s_ckI ⟨by omega, by omega⟩ (s_br (fun z2 => ?_) (fun z2 => ?_)))
        · exact c_49 S (q1.trans g) hs h0 ⟨b1, b2⟩ ⟨b3, b4⟩ (by omega) hQ hX
        · exact c_37 S (q1.trans g) hs (by omega) ⟨b1, b2⟩ ⟨b3, b4⟩ hQ hX
theorem evS_in (hE : ∀ j, 0 ≤ j → j < 16 → -1000000 ≤ E j ∧ E j ≤ 1000000) {ord : Bool} {op ar : Int → Int} : ∀ (n k : Nat) (a b : Int), SumR w0 ord op ar n k a b → ∀ v, evS w0 E n k = some v → -1000000000 ≤ v ∧ v ≤ 1000000000 := by
  intro n
  cases n with
  | zero => intro k a b h; exact h.elim
  | succ n =>
    intro k a b h v hv
    obtain ⟨hk, h⟩ := h
    rcases h with h | h | h
    · obtain ⟨g, _, _, h2, h3, h4⟩ := h
      rw [evS, if_pos g] at hv
      cases hv
      omega
    · obtain ⟨g, _, h2, h3⟩ := h
      have := hE _ h2 (valOp_lt h3)
      rw [evS, if_neg (by rw [g]; exact fun z => by cases z), if_pos g] at hv
      cases hv
      omega
    · obtain ⟨g, _⟩ := h
      rw [evS, if_neg (by rw [g]; exact fun z => by cases z), if_neg (by rw [g]; exact fun z => by cases z)] at hv
      split at hv
      · cases hv
      · split at hv
        · cases hv
        · exact ⟨(bO_some hv).1, (bO_some hv).2.1⟩
end CSUM
