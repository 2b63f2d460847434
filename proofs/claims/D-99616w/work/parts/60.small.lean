/-! THE PLAIN LAW: the small methods -/
set_option maxRecDepth 100000
def b2i (c : Prop) [Decidable c] : Int := if c then 1 else 0
theorem b2i_t {c : Prop} [Decidable c] (h : c) : b2i c = 1 := if_pos h
theorem b2i_f {c : Prop} [Decidable c] (h : ¬ c) : b2i c = 0 := if_neg h
theorem b2i_in {c : Prop} [Decidable c] : inI (b2i c) := by unfold b2i; split <;> exact ⟨by decide, by decide⟩
theorem b2i_zr {c P : Prop} [Decidable c] : zr (b2i c) P = P := by unfold b2i; split; exact zr_1; exact zr_0
theorem b2i_0 {c : Prop} [Decidable c] : (b2i c = 0) = ¬ c := by
  by_cases h : c
  · rw [b2i_t h]; exact propext ⟨fun e => (by decide : ¬ (1 : Int) = 0).elim e, fun e => absurd h e⟩
  · rw [b2i_f h]; exact propext ⟨fun _ => h, fun _ => rfl⟩
section SMALL
variable {w : Wd} {Q : Int → Wd → Prop} {QR : Option Nat → Wd → Prop}
theorem x0_in {a b c : Int} (h1 : inI a) (h2 : inI b) (h3 : inI c) : wp_X0_in a b c w Q = Q (b2i (b ≤ a ∧ a ≤ c)) w := by
  unfold wp_X0_in
  rw [ckI_eq h1, ckI_eq h2]
  by_cases g : a < b
  · rw [brT g, zr_0, b2i_f (by omega)]
  · rw [brF g, ckI_eq h1, ckI_eq h3]
    by_cases g2 : c < a
    · rw [brT g2, zr_0, b2i_f (by omega)]
    · rw [brF g2, zr_1, b2i_t ⟨by omega, by omega⟩]
theorem x5_in {a b c : Int} (h1 : inL a) (h2 : inL b) (h3 : inL c) : wp_X5_in a b c w Q = Q (b2i (b ≤ a ∧ a ≤ c)) w := by
  unfold wp_X5_in
  rw [ckL_eq h1, ckL_eq h2]
  by_cases g : a < b
  · rw [brT g, zr_0, b2i_f (by omega)]
  · rw [brF g, ckL_eq h1, ckL_eq h3]
    by_cases g2 : c < a
    · rw [brT g2, zr_0, b2i_f (by omega)]
    · rw [brF g2, zr_1, b2i_t ⟨by omega, by omega⟩]
theorem inIL {a : Int} (h : inI a) : inL a := ⟨by have := h.1; omega, by have := h.2; omega⟩
theorem x0_isBar {a : Int} (h : inI a) : wp_X0_isBar a w Q = Q (b2i (0 ≤ a ∧ a ≤ 7)) w := by
  unfold wp_X0_isBar
  rw [x0_in h ⟨by decide, by decide⟩ ⟨by decide, by decide⟩, b2i_zr]
theorem x0_isTooth {a : Int} (h : inI a) : wp_X0_isTooth a w Q = Q (b2i (0 ≤ a ∧ a ≤ 7)) w := by
  unfold wp_X0_isTooth
  rw [x0_in h ⟨by decide, by decide⟩ ⟨by decide, by decide⟩, b2i_zr]
theorem x0_isSet {a : Int} (h : inI a) : wp_X0_isSet a w Q = Q (b2i (0 ≤ a ∧ a ≤ 255)) w := by
  unfold wp_X0_isSet
  rw [x0_in h ⟨by decide, by decide⟩ ⟨by decide, by decide⟩, b2i_zr]
theorem x5_isBar {a : Int} (h : inI a) : wp_X5_isBar a w Q = Q (b2i (0 ≤ a ∧ a ≤ 7)) w := by
  unfold wp_X5_isBar
  rw [ckI_eq h, x5_in (inIL h) ⟨by decide, by decide⟩ ⟨by decide, by decide⟩, b2i_zr]
theorem x5_isTooth {a : Int} (h : inI a) : wp_X5_isTooth a w Q = Q (b2i (0 ≤ a ∧ a ≤ 7)) w := by
  unfold wp_X5_isTooth
  rw [ckI_eq h, x5_in (inIL h) ⟨by decide, by decide⟩ ⟨by decide, by decide⟩, b2i_zr]
theorem x0_table (h : SOK w) : wp_X0_table 100 w QR = QR (some 300) w := by
  unfold wp_X0_table
  rw [gR_100_2 h, dO_some, gR_140_0 h]
theorem x0_isBox (h : SOK w) {a : Int} (ha : inI a) (hb : 0 ≤ gV w 140 5 ∧ gV w 140 5 ≤ 6) : wp_X0_isBox 100 a w Q = Q (b2i (0 ≤ a ∧ a ≤ gV w 140 5 - 1)) w := by
  unfold wp_X0_isBox
  rw [gR_100_2 h, dO_some, gI_140_5 h, x0_in ha ⟨by decide, by decide⟩ ⟨by omega, by omega⟩, b2i_zr]
theorem x0_isSuitor (h : SOK w) {a : Int} (ha : inI a) (hb : 0 ≤ gV w 140 6 ∧ gV w 140 6 ≤ 6) : wp_X0_isSuitor 100 a w Q = Q (b2i (0 ≤ a ∧ a ≤ gV w 140 6 - 1)) w := by
  unfold wp_X0_isSuitor
  rw [gR_100_2 h, dO_some, gI_140_6 h, x0_in ha ⟨by decide, by decide⟩ ⟨by omega, by omega⟩, b2i_zr]
theorem conjT {A B : Prop} (h : A) : (A ∧ B) = B := propext ⟨fun q => q.2, fun q => ⟨h, q⟩⟩
theorem x5_isBox (h : SOK w) {a : Int} (ha : inI a) (hb : 0 ≤ gV w 3 0 ∧ gV w 3 0 ≤ 6) : wp_X5_isBox 0 a w Q = Q (b2i (0 ≤ a ∧ a ≤ gV w 3 0 - 1)) w := by
  unfold wp_X5_isBox
  rw [ckI_eq ha, gA_0_3 h, aL_3 h, conjT ⟨by decide, by decide⟩, ckI_eq ⟨by omega, by omega⟩, x5_in (inIL ha) ⟨by decide, by decide⟩ ⟨by omega, by omega⟩, b2i_zr]
theorem x5_isSuitor (h : SOK w) {a : Int} (ha : inI a) (hb : 0 ≤ gV w 3 1 ∧ gV w 3 1 ≤ 6) : wp_X5_isSuitor 0 a w Q = Q (b2i (0 ≤ a ∧ a ≤ gV w 3 1 - 1)) w := by
  unfold wp_X5_isSuitor
  rw [ckI_eq ha, gA_0_3 h, aL_3 h, conjT ⟨by decide, by decide⟩, ckI_eq ⟨by omega, by omega⟩, x5_in (inIL ha) ⟨by decide, by decide⟩ ⟨by omega, by omega⟩, b2i_zr]
theorem gV_ne {k k' : Nat} {i i' x : Int} (h : ¬ (k' = k ∧ i' = i)) : gV (sV w k i x) k' i' = gV w k' i' := by rw [gV_sV, if_neg h]
theorem gV_at {k : Nat} {i x : Int} : gV (sV w k i x) k i = x := by rw [gV_sV, if_pos ⟨rfl, rfl⟩]
theorem x0_refuse (h : SOK w) {c : Int} (hc : -6 ≤ c ∧ c ≤ -1) : wp_X0_refuse 100 c w Q = Q c (sV (sV w 100 0 c) 101 (-c) (gV w 101 (-c) + 1)) := by
  unfold wp_X0_refuse
  have h2 : SOK (sV w 100 0 c) := h
  rw [pI_100_0 h, gA_100_1 h2, aL_101 h2, conjT ⟨by omega, by omega⟩, aS_101 h2, conjT ⟨by omega, by omega⟩, gV_ne (by omega)]
theorem x0_done (h : SOK w) {v : Int} : wp_X0_done 100 v w Q = Q v (sV w 100 0 0) := by
  unfold wp_X0_done
  rw [pI_100_0 h]
theorem x0_settled (h : SOK w) {v : Int} : wp_X0_settled 100 v w Q = Q v (sV (sV w 100 15 0) 100 0 0) := by
  unfold wp_X0_settled
  rw [pI_100_15 h, cO_100 (SOK_sV.mpr h), x0_done (SOK_sV.mpr h)]
theorem x0_doneOr (h : SOK w) {v : Int} (hv : -6 ≤ v ∧ v ≤ 2147483647) : wp_X0_doneOr 100 v w Q = if 0 ≤ v then Q v (sV w 100 0 0) else Q v (sV (sV w 100 0 v) 101 (-v) (gV w 101 (-v) + 1)) := by
  unfold wp_X0_doneOr
  rw [ckI_eq ⟨by omega, by omega⟩]
  by_cases g : 0 ≤ v
  · rw [brT g, if_pos g, cO_100 h, x0_done h]
  · rw [brF g, if_neg g, cO_100 h, x0_refuse h ⟨by omega, by omega⟩]
theorem x5_tell (h : SOK w) {v : Int} (hv : -6 ≤ v ∧ v ≤ 2147483647) : wp_X5_tell 0 v w Q = if 0 ≤ v then Q v (sV w 0 1 0) else Q v (sV (sV w 0 1 v) 2 (-v) (gV w 2 (-v) + 1)) := by
  unfold wp_X5_tell wp_X5_tell_10
  have hi : inI v := ⟨by omega, by omega⟩
  rw [ckI_eq hi]
  by_cases g : 0 ≤ v
  · rw [brT g, if_pos g, pI_0_1 h, ckI_eq hi, brT g]
  · have h2 : SOK (sV w 0 1 v) := h
    rw [brF g, if_neg g, pI_0_1 h, ckI_eq hi, brF g, gA_0_2 h2, aL_2 h2, conjT ⟨by omega, by omega⟩, aS_2 h2, conjT ⟨by omega, by omega⟩, gV_ne (by omega)]
theorem x5_settled (h : SOK w) {v : Int} (hv : 0 ≤ v ∧ v ≤ 2147483647) : wp_X5_settled 0 v w Q = Q v (sV (sV w 0 8 0) 0 1 0) := by
  unfold wp_X5_settled wp_X5_settled_13
  have h2 : SOK (sV w 0 8 0) := h
  rw [ckI_eq ⟨by omega, by omega⟩, brT hv.1, pI_0_8 h, cO_0 h2, x5_tell h2 ⟨by omega, by omega⟩, if_pos hv.1]
theorem x5_change (h : SOK w) {a v : Int} (ha : 0 ≤ a ∧ a < 5516) : wp_X5_change 0 a v w Q = Q (gV w 3 a) (sV (sV w 3 a v) 0 1 0) := by
  unfold wp_X5_change
  have h2 : SOK (sV w 3 a v) := h
  rw [gA_0_3 h, aL_3 h, conjT ⟨by omega, by omega⟩, gA_0_3 h, aS_3 h, conjT ⟨by omega, by omega⟩, pI_0_1 h2]
end SMALL
