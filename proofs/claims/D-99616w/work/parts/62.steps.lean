/-! THE PLAIN LAW: steps by the goal's head -/
set_option maxRecDepth 100000
def look1 : List (Nat × Kd) → Nat → Option Kd
  | [], _ => none
  | (a, d) :: l, k => if a == k then some d else look1 l k
def look2 : List (Nat × Nat × Nat) → Nat → Nat → Option Nat
  | [], _, _ => none
  | (a, b, t) :: l, k, j => if a == k && b == j then some t else look2 l k j
theorem look1_in : ∀ (l : List (Nat × Kd)) (k : Nat) (d : Kd), look1 l k = some d → (k, d) ∈ l := by
  intro l
  induction l with
  | nil => intro k d h; cases h
  | cons x l ih =>
    intro k d h
    obtain ⟨a, b⟩ := x
    unfold look1 at h
    by_cases g : (a == k) = true
    · rw [if_pos g] at h
      cases h
      rw [beq_iff_eq] at g
      subst g
      exact List.mem_cons_self
    · rw [if_neg g] at h
      exact List.mem_cons_of_mem _ (ih k d h)
theorem look2_in : ∀ (l : List (Nat × Nat × Nat)) (k j t : Nat), look2 l k j = some t → (k, j, t) ∈ l := by
  intro l
  induction l with
  | nil => intro k j t h; cases h
  | cons x l ih =>
    intro k j t h
    obtain ⟨a, b, c⟩ := x
    unfold look2 at h
    by_cases g : (a == k && b == j) = true
    · rw [if_pos g] at h
      cases h
      simp only [Bool.and_eq_true, beq_iff_eq] at g
      obtain ⟨rfl, rfl⟩ := g
      exact List.mem_cons_self
    · rw [if_neg g] at h
      exact List.mem_cons_of_mem _ (ih k j t h)
theorem KF {w : Wd} (h : SOK w) {k : Nat} {d : Kd} (e : look1 SKt k = some d) : gK w k = some d := h.1 (k, d) (look1_in _ _ _ e)
theorem RF {w : Wd} (h : SOK w) {k j : Nat} {t : Nat} (e : look2 SRt k j = some t) : gR w k j = some t := h.2 (k, j, t) (look2_in _ _ _ _ e)
section STEPS
variable {w : Wd} {k ci t n : Nat} {i i' v x : Int} {P A B : Prop} {KI : Int → Prop} {KN : Nat → Prop} {KR : Option Nat → Prop} {KW : Wd → Prop} {r : Option Nat}
theorem rd_at : gV (sV w k i x) k i = x := gV_at
theorem rd_eq (h : i' = i) : gV (sV w k i x) k i' = x := by rw [h]; exact gV_at
theorem rd_ne {k' : Nat} (h : ¬ (k' = k ∧ i' = i)) (e : gV w k' i' = v) : gV (sV w k i x) k' i' = v := (gV_ne h).trans e
theorem s_gfI {m : Nat} (h : gK w k = some (.inl ci)) (e : gV w k (@OfNat.ofNat Int m _) = v) (q : KI v) : gfI w k ci (@OfNat.ofNat Nat m _) KI := ⟨h, by subst e; exact q⟩
theorem s_gfA {j : Nat} (h : gK w k = some (.inl ci)) (e : gR w k j = some t) (q : KN t) : gfA w k ci j KN := ⟨h, t, e, q⟩
theorem s_gfR {j : Nat} (h : gK w k = some (.inl ci)) (e : gR w k j = r) (q : KR r) : gfR w k ci j KR := ⟨h, by subst e; exact q⟩
theorem s_pfI {m : Nat} (h : gK w k = some (.inl ci)) (q : KW (sV w k (@OfNat.ofNat Int m _) x)) : pfI w k ci (@OfNat.ofNat Nat m _) x KW := ⟨h, q⟩
theorem s_pfZ {m : Nat} (h : gK w k = some (.inl ci)) (hx : x = 0 ∨ x = 1) (q : KW (sV w k (@OfNat.ofNat Int m _) x)) : pfZ w k ci (@OfNat.ofNat Nat m _) x KW := ⟨h, hx, q⟩
theorem s_dO (q : KN k) : dO (some k) KN := ⟨k, rfl, q⟩
theorem s_cO (h : gK w k = some (.inl ci)) (q : P) : cO w k ci P := ⟨h, q⟩
theorem s_alI (h : gK w k = some (.inr (t, n))) (hn : n < 2147483648) (hi : 0 ≤ i ∧ i < n) (e : gV w k i = v) (q : KI v) : alI w k t i KI := ⟨n, h, ⟨hi.1, hi.2, hn⟩, by subst e; exact q⟩
theorem s_asI (h : gK w k = some (.inr (t, n))) (hn : n < 2147483648) (hi : 0 ≤ i ∧ i < n) (q : KW (sV w k i x)) : asI w k t i x KW := ⟨n, h, ⟨hi.1, hi.2, hn⟩, q⟩
theorem s_ckI (h : inI x) (q : P) : ckI x P := ⟨h, q⟩
theorem s_ckL (h : inL x) (q : P) : ckL x P := ⟨h, q⟩
theorem s_ckN (h : x ≠ 0) (q : P) : ckN x P := ⟨h, q⟩
theorem s_zr (h : x = 0 ∨ x = 1) (q : P) : zr x P := ⟨h, q⟩
theorem s_zrb {c : Prop} [Decidable c] (q : P) : zr (b2i c) P := by rw [b2i_zr]; exact q
theorem s_br {c : Prop} (a : c → A) (b : ¬ c → B) : br c A B := ⟨a, b⟩
theorem s_br0 {c : Prop} [Decidable c] (a : ¬ c → A) (b : c → B) : br (b2i c = 0) A B := ⟨fun e => a (by rw [b2i_0] at e; exact e), fun e => b (by rw [b2i_0] at e; exact Classical.not_not.mp e)⟩
theorem s_br1 {c : Prop} [Decidable c] (a : c → A) (b : ¬ c → B) : br (¬ b2i c = 0) A B := ⟨fun e => a (by rw [b2i_0] at e; exact Classical.not_not.mp e), fun e => b (by rw [b2i_0] at e; exact fun z => e (fun y => y z))⟩
end STEPS
theorem x5_no {w : Wd} (h : SOK w) {c : Int} {Q : Int → Wd → Prop} (hc : -6 ≤ c ∧ c ≤ -1) : wp_X5_tell 0 c w Q = Q c (sV (sV w 0 1 c) 2 (-c) (gV w 2 (-c) + 1)) := by
  rw [x5_tell h ⟨hc.1, by omega⟩, if_neg (by omega)]
theorem x5_yes {w : Wd} (h : SOK w) {v : Int} {Q : Int → Wd → Prop} (hv : 0 ≤ v ∧ v ≤ 2147483647) : wp_X5_tell 0 v w Q = Q v (sV w 0 1 0) := by
  rw [x5_tell h ⟨by omega, hv.2⟩, if_pos hv.1]
section STEPS2
variable {w : Wd} {Q : Int → Wd → Prop} {a n : Int}
theorem x0_isBox' (h : SOK w) (ha : inI a) (e : gV w 140 5 = n) (hb : 0 ≤ n ∧ n ≤ 6) : wp_X0_isBox 100 a w Q = Q (b2i (0 ≤ a ∧ a ≤ n - 1)) w := by subst e; exact x0_isBox h ha hb
theorem x0_isSuitor' (h : SOK w) (ha : inI a) (e : gV w 140 6 = n) (hb : 0 ≤ n ∧ n ≤ 6) : wp_X0_isSuitor 100 a w Q = Q (b2i (0 ≤ a ∧ a ≤ n - 1)) w := by subst e; exact x0_isSuitor h ha hb
theorem x5_isBox' (h : SOK w) (ha : inI a) (e : gV w 3 0 = n) (hb : 0 ≤ n ∧ n ≤ 6) : wp_X5_isBox 0 a w Q = Q (b2i (0 ≤ a ∧ a ≤ n - 1)) w := by subst e; exact x5_isBox h ha hb
theorem x5_isSuitor' (h : SOK w) (ha : inI a) (e : gV w 3 1 = n) (hb : 0 ≤ n ∧ n ≤ 6) : wp_X5_isSuitor 0 a w Q = Q (b2i (0 ≤ a ∧ a ≤ n - 1)) w := by subst e; exact x5_isSuitor h ha hb
theorem x5_change' (h : SOK w) {v : Int} (ha : 0 ≤ a ∧ a < 5516) (e : gV w 3 a = n) : wp_X5_change 0 a v w Q = Q n (sV (sV w 3 a v) 0 1 0) := by subst e; exact x5_change h ha
end STEPS2

