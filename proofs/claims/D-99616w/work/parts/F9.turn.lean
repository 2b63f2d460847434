/-! THE PLAIN LAW: a turn (printed by tools/genF9.py) -/
set_option maxRecDepth 100000
/-- where a turn leads -/
def KX (i : Int) : Int → Nat → Nat → Wd → Prop := fun y bc bs w' => i < y ∧ ∃ (σ : Nat → Nat) (w2 : Wd), REK σ w' w2 ∧ σ 100 = 100 ∧ σ 0 = 0 ∧ INV y bc bs w2
/-- what is left to be shown of image and back -/
def OPI : Prop := ∀ (w : Wd) (i a : Int) (bc bs : Nat) (K : Int → Int → Wd → Prop), REL w i → inI a → 18000 ≤ bc ∧ 84000 ≤ bs → (∀ r r2 w', r = r2 → inI r → RKR w' (i + 6) → K r r2 w') → wp_X0_image 100 a bc bs w fun r w1 => wp_X5_image 0 a w1 fun r2 w2 => K r r2 w2
def OPB : Prop := ∀ (w : Wd) (i a : Int) (bc bs : Nat) (K : Int → Int → Wd → Prop), REL w i → inI a → 18000 ≤ bc ∧ 84000 ≤ bs → (∀ r r2 w', r = r2 → inI r → RKR w' (i + 6) → K r r2 w') → wp_X0_back 100 a bc bs w fun r w1 => wp_X5_back 0 a w1 fun r2 w2 => K r r2 w2
theorem ws_eq {A : (Int → Wd → Prop) → Prop} {P P' : Int → Wd → Prop} (h : A P') (e : ∀ r w, P' r w = P r w) : A P := by
  have q : P' = P := funext fun r => funext fun w => e r w
  rw [← q]
  exact h
section TURNS
variable {n : Nat} {sc : Nat → Int} {i : Int} {bc bs : Nat} {w : Wd}
theorem kx {w' : Wd} {bc bs : Nat} {i : Int} (hi : 0 ≤ i ∧ i ≤ 384) (hb : 3000 * (384 - i) ≤ bc ∧ 14000 * (384 - i) ≤ bs) (h : RKR w' (i + 6)) : KX i (i + 6) bc bs w' := by
  obtain ⟨σ, w2, r, s1, s0, R⟩ := h
  exact ⟨by omega, σ, w2, r, s1, s0, ⟨by omega, by omega⟩, by omega, by omega, R⟩
theorem k_ckI {r r2 : Int} {G : Prop} (e : r = r2) (h : inI r) (g : G) : ckI r <| ckI r2 <| br (r = r2) G False := ⟨h, by rw [← e]; exact h, fun _ => g, fun y => absurd e y⟩
theorem k_ckL {r r2 : Int} {G : Prop} (e : r = r2) (h : inL r) (g : G) : ckL r <| ckL r2 <| br (r = r2) G False := ⟨h, by rw [← e]; exact h, fun _ => g, fun y => absurd e y⟩
theorem tc_box (R : REL w i) (hs : ∀ j, inI (sc j)) (hn : 0 ≤ i ∧ i + 6 ≤ n ∧ i ≤ 378) (hb : 3000 * (390 - i) ≤ bc ∧ 14000 * (390 - i) ≤ bs) : wp_L_law_216 n sc (KX i) 999 100 0 i bc bs w := by
  have S := R.1
  unfold wp_L_law_216
  refine ⟨rfl, ⟨by omega, by omega⟩, ⟨KF S rfl, ?_⟩⟩
  let K : Int → Int → Wd → Prop := fun r r2 w2 => ckI r <| ckI r2 <| br (r = r2) (wp_L_law_1403 n sc (KX i) 999 100 0 i bc bs w2) False
  refine ws_eq (A := wp_X0_box 100 (sc (i + 1).toNat) w) (P' := fun r w1 => wp_X5_box 0 (sc (i + 1).toNat) w1 fun r2 w2 => K r r2 w2) (op_box R (hs _)  (K := K) (fun r r2 w2 e h q => k_ckI e h (kx (by omega) (by omega) q.rkr))) (fun r w1 => propext ⟨fun h => ⟨rfl, ⟨by omega, by omega⟩, ⟨h.1, h⟩⟩, fun h => h.2.2.2⟩)
theorem tc_of (R : REL w i) (hs : ∀ j, inI (sc j)) (hn : 0 ≤ i ∧ i + 6 ≤ n ∧ i ≤ 378) (hb : 3000 * (390 - i) ≤ bc ∧ 14000 * (390 - i) ≤ bs) : wp_L_law_239 n sc (KX i) 999 100 0 i bc bs w := by
  have S := R.1
  unfold wp_L_law_239
  refine ⟨rfl, ⟨by omega, by omega⟩, ⟨rfl, ⟨by omega, by omega⟩, ⟨KF S rfl, ?_⟩⟩⟩
  let K : Int → Int → Wd → Prop := fun r r2 w2 => ckI r <| ckI r2 <| br (r = r2) (wp_L_law_1403 n sc (KX i) 999 100 0 i bc bs w2) False
  refine ws_eq (A := wp_X0_of 100 (sc (i + 1).toNat) (sc (i + 2).toNat) w) (P' := fun r w1 => wp_X5_of 0 (sc (i + 1).toNat) (sc (i + 2).toNat) w1 fun r2 w2 => K r r2 w2) (op_of R (hs _) (hs _)  (K := K) (fun r r2 w2 e h q => k_ckI e h (kx (by omega) (by omega) q.rkr))) (fun r w1 => propext ⟨fun h => ⟨rfl, ⟨by omega, by omega⟩, ⟨rfl, ⟨by omega, by omega⟩, ⟨h.1, h⟩⟩⟩, fun h => h.2.2.2.2.2⟩)
theorem tc_pins (R : REL w i) (hs : ∀ j, inI (sc j)) (hn : 0 ≤ i ∧ i + 6 ≤ n ∧ i ≤ 378) (hb : 3000 * (390 - i) ≤ bc ∧ 14000 * (390 - i) ≤ bs) : wp_L_law_272 n sc (KX i) 999 100 0 i bc bs w := by
  have S := R.1
  unfold wp_L_law_272
  refine ⟨rfl, ⟨by omega, by omega⟩, ⟨rfl, ⟨by omega, by omega⟩, ⟨rfl, ⟨by omega, by omega⟩, ⟨KF S rfl, ?_⟩⟩⟩⟩
  let K : Int → Int → Wd → Prop := fun r r2 w2 => ckI r <| ckI r2 <| br (r = r2) (wp_L_law_1403 n sc (KX i) 999 100 0 i bc bs w2) False
  refine ws_eq (A := wp_X0_pins 100 (sc (i + 1).toNat) (sc (i + 2).toNat) (sc (i + 3).toNat) w) (P' := fun r w1 => wp_X5_pins 0 (sc (i + 1).toNat) (sc (i + 2).toNat) (sc (i + 3).toNat) w1 fun r2 w2 => K r r2 w2) (op_pins R (hs _) (hs _) (hs _)  (K := K) (fun r r2 w2 e h q => k_ckI e h (kx (by omega) (by omega) q.rkr))) (fun r w1 => propext ⟨fun h => ⟨rfl, ⟨by omega, by omega⟩, ⟨rfl, ⟨by omega, by omega⟩, ⟨rfl, ⟨by omega, by omega⟩, ⟨h.1, h⟩⟩⟩⟩, fun h => h.2.2.2.2.2.2.2⟩)
theorem tc_suitor (R : REL w i) (hs : ∀ j, inI (sc j)) (hn : 0 ≤ i ∧ i + 6 ≤ n ∧ i ≤ 378) (hb : 3000 * (390 - i) ≤ bc ∧ 14000 * (390 - i) ≤ bs) : wp_L_law_315 n sc (KX i) 999 100 0 i bc bs w := by
  have S := R.1
  unfold wp_L_law_315
  refine ⟨rfl, ⟨by omega, by omega⟩, ⟨rfl, ⟨by omega, by omega⟩, ⟨KF S rfl, ?_⟩⟩⟩
  let K : Int → Int → Wd → Prop := fun r r2 w2 => ckI r <| ckI r2 <| br (r = r2) (wp_L_law_1403 n sc (KX i) 999 100 0 i bc bs w2) False
  refine ws_eq (A := wp_X0_suitor 100 (sc (i + 1).toNat) (sc (i + 2).toNat) w) (P' := fun r w1 => wp_X5_suitor 0 (sc (i + 1).toNat) (sc (i + 2).toNat) w1 fun r2 w2 => K r r2 w2) (op_suitor R (hs _) (hs _)  (K := K) (fun r r2 w2 e h q => k_ckI e h (kx (by omega) (by omega) q.rkr))) (fun r w1 => propext ⟨fun h => ⟨rfl, ⟨by omega, by omega⟩, ⟨rfl, ⟨by omega, by omega⟩, ⟨h.1, h⟩⟩⟩, fun h => h.2.2.2.2.2⟩)
theorem tc_at (R : REL w i) (hs : ∀ j, inI (sc j)) (hn : 0 ≤ i ∧ i + 6 ≤ n ∧ i ≤ 378) (hb : 3000 * (390 - i) ≤ bc ∧ 14000 * (390 - i) ≤ bs) : wp_L_law_348 n sc (KX i) 999 100 0 i bc bs w := by
  have S := R.1
  unfold wp_L_law_348
  refine ⟨rfl, ⟨by omega, by omega⟩, ⟨rfl, ⟨by omega, by omega⟩, ⟨KF S rfl, ?_⟩⟩⟩
  let K : Int → Int → Wd → Prop := fun r r2 w2 => ckI r <| ckI r2 <| br (r = r2) (wp_L_law_1403 n sc (KX i) 999 100 0 i bc bs w2) False
  refine ws_eq (A := wp_X0_at 100 (sc (i + 1).toNat) (sc (i + 2).toNat) w) (P' := fun r w1 => wp_X5_at 0 (sc (i + 1).toNat) (sc (i + 2).toNat) w1 fun r2 w2 => K r r2 w2) (op_at R (hs _) (hs _)  (K := K) (fun r r2 w2 e h q => k_ckI e h (kx (by omega) (by omega) q.rkr))) (fun r w1 => propext ⟨fun h => ⟨rfl, ⟨by omega, by omega⟩, ⟨rfl, ⟨by omega, by omega⟩, ⟨h.1, h⟩⟩⟩, fun h => h.2.2.2.2.2⟩)
theorem tc_asks (R : REL w i) (hs : ∀ j, inI (sc j)) (hn : 0 ≤ i ∧ i + 6 ≤ n ∧ i ≤ 378) (hb : 3000 * (390 - i) ≤ bc ∧ 14000 * (390 - i) ≤ bs) : wp_L_law_381 n sc (KX i) 999 100 0 i bc bs w := by
  have S := R.1
  unfold wp_L_law_381
  refine ⟨rfl, ⟨by omega, by omega⟩, ⟨rfl, ⟨by omega, by omega⟩, ⟨rfl, ⟨by omega, by omega⟩, ⟨KF S rfl, ?_⟩⟩⟩⟩
  let K : Int → Int → Wd → Prop := fun r r2 w2 => ckI r <| ckI r2 <| br (r = r2) (wp_L_law_1403 n sc (KX i) 999 100 0 i bc bs w2) False
  refine ws_eq (A := wp_X0_asks 100 (sc (i + 1).toNat) (sc (i + 2).toNat) (sc (i + 3).toNat) w) (P' := fun r w1 => wp_X5_asks 0 (sc (i + 1).toNat) (sc (i + 2).toNat) (sc (i + 3).toNat) w1 fun r2 w2 => K r r2 w2) (op_asks R (hs _) (hs _) (hs _)  (K := K) (fun r r2 w2 e h q => k_ckI e h (kx (by omega) (by omega) q.rkr))) (fun r w1 => propext ⟨fun h => ⟨rfl, ⟨by omega, by omega⟩, ⟨rfl, ⟨by omega, by omega⟩, ⟨rfl, ⟨by omega, by omega⟩, ⟨h.1, h⟩⟩⟩⟩, fun h => h.2.2.2.2.2.2.2⟩)
theorem tc_terms (R : REL w i) (hs : ∀ j, inI (sc j)) (hn : 0 ≤ i ∧ i + 6 ≤ n ∧ i ≤ 378) (hb : 3000 * (390 - i) ≤ bc ∧ 14000 * (390 - i) ≤ bs) : wp_L_law_424 n sc (KX i) 999 100 0 i bc bs w := by
  have S := R.1
  unfold wp_L_law_424
  refine ⟨rfl, ⟨by omega, by omega⟩, ⟨rfl, ⟨by omega, by omega⟩, ⟨KF S rfl, ?_⟩⟩⟩
  let K : Int → Int → Wd → Prop := fun r r2 w2 => ckI r <| ckI r2 <| br (r = r2) (wp_L_law_1403 n sc (KX i) 999 100 0 i bc bs w2) False
  refine ws_eq (A := wp_X0_terms 100 (sc (i + 1).toNat) (sc (i + 2).toNat) w) (P' := fun r w1 => wp_X5_terms 0 (sc (i + 1).toNat) (sc (i + 2).toNat) w1 fun r2 w2 => K r r2 w2) (op_terms R (hs _) (hs _)  (K := K) (fun r r2 w2 e h q => k_ckI e h (kx (by omega) (by omega) q.rkr))) (fun r w1 => propext ⟨fun h => ⟨rfl, ⟨by omega, by omega⟩, ⟨rfl, ⟨by omega, by omega⟩, ⟨h.1, h⟩⟩⟩, fun h => h.2.2.2.2.2⟩)
theorem tc_feed (R : REL w i) (hs : ∀ j, inI (sc j)) (hn : 0 ≤ i ∧ i + 6 ≤ n ∧ i ≤ 378) (hb : 3000 * (390 - i) ≤ bc ∧ 14000 * (390 - i) ≤ bs) : wp_L_law_457 n sc (KX i) 999 100 0 i bc bs w := by
  have S := R.1
  unfold wp_L_law_457
  refine ⟨rfl, ⟨by omega, by omega⟩, ⟨rfl, ⟨by omega, by omega⟩, ⟨rfl, ⟨by omega, by omega⟩, ⟨rfl, ⟨by omega, by omega⟩, ⟨rfl, ⟨by omega, by omega⟩, ⟨KF S rfl, ?_⟩⟩⟩⟩⟩⟩
  let K : Int → Int → Wd → Prop := fun r r2 w2 => ckI r <| ckI r2 <| br (r = r2) (wp_L_law_1403 n sc (KX i) 999 100 0 i bc bs w2) False
  refine ws_eq (A := wp_X0_feed 100 (sc (i + 1).toNat) (sc (i + 2).toNat) (sc (i + 3).toNat) (sc (i + 4).toNat) (sc (i + 5).toNat) w) (P' := fun r w1 => wp_X5_feed 0 (sc (i + 1).toNat) (sc (i + 2).toNat) (sc (i + 3).toNat) (sc (i + 4).toNat) (sc (i + 5).toNat) w1 fun r2 w2 => K r r2 w2) (op_feed R (hs _) (hs _) (hs _) (hs _) (hs _)  (K := K) (fun r r2 w2 e h q => k_ckI e h (kx (by omega) (by omega) q.rkr))) (fun r w1 => propext ⟨fun h => ⟨rfl, ⟨by omega, by omega⟩, ⟨rfl, ⟨by omega, by omega⟩, ⟨rfl, ⟨by omega, by omega⟩, ⟨rfl, ⟨by omega, by omega⟩, ⟨rfl, ⟨by omega, by omega⟩, ⟨h.1, h⟩⟩⟩⟩⟩⟩, fun h => h.2.2.2.2.2.2.2.2.2.2.2⟩)
theorem tc_end (R : REL w i) (hs : ∀ j, inI (sc j)) (hn : 0 ≤ i ∧ i + 6 ≤ n ∧ i ≤ 378) (hb : 3000 * (390 - i) ≤ bc ∧ 14000 * (390 - i) ≤ bs) : wp_L_law_520 n sc (KX i) 999 100 0 i bc bs w := by
  have S := R.1
  unfold wp_L_law_520
  refine ⟨rfl, ⟨by omega, by omega⟩, ⟨KF S rfl, ?_⟩⟩
  let K : Int → Int → Wd → Prop := fun r r2 w2 => ckI r <| ckI r2 <| br (r = r2) (wp_L_law_1403 n sc (KX i) 999 100 0 i bc bs w2) False
  refine ws_eq (A := wp_X0_end 100 (sc (i + 1).toNat) w) (P' := fun r w1 => wp_X5_end 0 (sc (i + 1).toNat) w1 fun r2 w2 => K r r2 w2) (op_end R (hs _)  (K := K) (fun r r2 w2 e h q => k_ckI e h (kx (by omega) (by omega) q.rkr))) (fun r w1 => propext ⟨fun h => ⟨rfl, ⟨by omega, by omega⟩, ⟨h.1, h⟩⟩, fun h => h.2.2.2⟩)
theorem tc_row (R : REL w i) (hs : ∀ j, inI (sc j)) (hn : 0 ≤ i ∧ i + 6 ≤ n ∧ i ≤ 378) (hb : 3000 * (390 - i) ≤ bc ∧ 14000 * (390 - i) ≤ bs) : wp_L_law_543 n sc (KX i) 999 100 0 i bc bs w := by
  have S := R.1
  unfold wp_L_law_543
  refine ⟨KF S rfl, ?_⟩
  let K : Int → Int → Wd → Prop := fun r r2 w2 => ckI r <| ckI r2 <| br (r = r2) (wp_L_law_1403 n sc (KX i) 999 100 0 i bc bs w2) False
  refine ws_eq (A := wp_X0_row 100 w) (P' := fun r w1 => wp_X5_row 0 w1 fun r2 w2 => K r r2 w2) (op_row R   (K := K) (fun r r2 w2 e h q => k_ckI e h (kx (by omega) (by omega) q.rkr))) (fun r w1 => propext ⟨fun h => ⟨h.1, h⟩, fun h => h.2⟩)
theorem tc_rust (R : REL w i) (hs : ∀ j, inI (sc j)) (hn : 0 ≤ i ∧ i + 6 ≤ n ∧ i ≤ 378) (hb : 3000 * (390 - i) ≤ bc ∧ 14000 * (390 - i) ≤ bs) : wp_L_law_556 n sc (KX i) 999 100 0 i bc bs w := by
  have S := R.1
  unfold wp_L_law_556
  refine ⟨KF S rfl, ?_⟩
  let K : Int → Int → Wd → Prop := fun r r2 w2 => ckI r <| ckI r2 <| br (r = r2) (wp_L_law_1403 n sc (KX i) 999 100 0 i bc bs w2) False
  refine ws_eq (A := wp_X0_rust 100 w) (P' := fun r w1 => wp_X5_rust 0 w1 fun r2 w2 => K r r2 w2) (op_rust R   (K := K) (fun r r2 w2 e h q => k_ckI e h (kx (by omega) (by omega) q.rkr))) (fun r w1 => propext ⟨fun h => ⟨h.1, h⟩, fun h => h.2⟩)
theorem tc_law (R : REL w i) (hs : ∀ j, inI (sc j)) (hn : 0 ≤ i ∧ i + 6 ≤ n ∧ i ≤ 378) (hb : 3000 * (390 - i) ≤ bc ∧ 14000 * (390 - i) ≤ bs) : wp_L_law_569 n sc (KX i) 999 100 0 i bc bs w := by
  have S := R.1
  unfold wp_L_law_569
  refine ⟨KF S rfl, 18000, 84000, ⟨by omega, by omega⟩, ?_⟩
  let K : Int → Int → Wd → Prop := fun r r2 w2 => ckI r <| ckI r2 <| br (r = r2) (wp_L_law_1403 n sc (KX i) 999 100 0 i (bc - 18000) (bs - 84000) w2) False
  refine ws_eq (A := wp_X0_law 100 18000 84000 w) (P' := fun r w1 => wp_X5_law 0 w1 fun r2 w2 => K r r2 w2) (op_law R  (by decide) (K := K) (fun r r2 w2 e h q => k_ckI e h (kx (by omega) (by omega) q))) (fun r w1 => propext ⟨fun h => ⟨h.1, h⟩, fun h => h.2⟩)
theorem tc_orders (R : REL w i) (hs : ∀ j, inI (sc j)) (hn : 0 ≤ i ∧ i + 6 ≤ n ∧ i ≤ 378) (hb : 3000 * (390 - i) ≤ bc ∧ 14000 * (390 - i) ≤ bs) : wp_L_law_582 n sc (KX i) 999 100 0 i bc bs w := by
  have S := R.1
  unfold wp_L_law_582
  refine ⟨KF S rfl, 18000, 84000, ⟨by omega, by omega⟩, ?_⟩
  let K : Int → Int → Wd → Prop := fun r r2 w2 => ckI r <| ckI r2 <| br (r = r2) (wp_L_law_1403 n sc (KX i) 999 100 0 i (bc - 18000) (bs - 84000) w2) False
  refine ws_eq (A := wp_X0_orders 100 18000 84000 w) (P' := fun r w1 => wp_X5_orders 0 w1 fun r2 w2 => K r r2 w2) (op_orders R  (by omega) (by decide) (K := K) (fun r r2 w2 e h q => k_ckI e h (kx (by omega) (by omega) q))) (fun r w1 => propext ⟨fun h => ⟨h.1, h⟩, fun h => h.2⟩)
theorem tc_fault (R : REL w i) (hs : ∀ j, inI (sc j)) (hn : 0 ≤ i ∧ i + 6 ≤ n ∧ i ≤ 378) (hb : 3000 * (390 - i) ≤ bc ∧ 14000 * (390 - i) ≤ bs) : wp_L_law_595 n sc (KX i) 999 100 0 i bc bs w := by
  have S := R.1
  unfold wp_L_law_595
  refine ⟨KF S rfl, ?_⟩
  let K : Int → Int → Wd → Prop := fun r r2 w2 => ckI r <| ckI r2 <| br (r = r2) (wp_L_law_1403 n sc (KX i) 999 100 0 i bc bs w2) False
  refine ws_eq (A := wp_X0_fault 100 w) (P' := fun r w1 => wp_X5_fault 0 w1 fun r2 w2 => K r r2 w2) (op_fault R   (K := K) (fun r r2 w2 e h q => k_ckI e h (kx (by omega) (by omega) q.rkr))) (fun r w1 => propext ⟨fun h => ⟨h.1, h⟩, fun h => h.2⟩)
theorem tc_stopped (R : REL w i) (hs : ∀ j, inI (sc j)) (hn : 0 ≤ i ∧ i + 6 ≤ n ∧ i ≤ 378) (hb : 3000 * (390 - i) ≤ bc ∧ 14000 * (390 - i) ≤ bs) : wp_L_law_608 n sc (KX i) 999 100 0 i bc bs w := by
  have S := R.1
  unfold wp_L_law_608
  refine ⟨KF S rfl, ?_⟩
  let K : Int → Int → Wd → Prop := fun r r2 w2 => ckI r <| ckI r2 <| br (r = r2) (wp_L_law_1403 n sc (KX i) 999 100 0 i bc bs w2) False
  refine ws_eq (A := wp_X0_stopped 100 w) (P' := fun r w1 => wp_X5_stopped 0 w1 fun r2 w2 => K r r2 w2) (op_stopped R   (K := K) (fun r r2 w2 e h q => k_ckI e h (kx (by omega) (by omega) q.rkr))) (fun r w1 => propext ⟨fun h => ⟨h.1, h⟩, fun h => h.2⟩)
theorem tc_force (R : REL w i) (hs : ∀ j, inI (sc j)) (hn : 0 ≤ i ∧ i + 6 ≤ n ∧ i ≤ 378) (hb : 3000 * (390 - i) ≤ bc ∧ 14000 * (390 - i) ≤ bs) : wp_L_law_621 n sc (KX i) 999 100 0 i bc bs w := by
  have S := R.1
  unfold wp_L_law_621
  refine ⟨rfl, ⟨by omega, by omega⟩, ⟨KF S rfl, ?_⟩⟩
  let K : Int → Int → Wd → Prop := fun r r2 w2 => ckI r <| ckI r2 <| br (r = r2) (wp_L_law_1403 n sc (KX i) 999 100 0 i bc bs w2) False
  refine ws_eq (A := wp_X0_force 100 (sc (i + 1).toNat) w) (P' := fun r w1 => wp_X5_force 0 (sc (i + 1).toNat) w1 fun r2 w2 => K r r2 w2) (op_force R (hs _)  (K := K) (fun r r2 w2 e h q => k_ckI e h (kx (by omega) (by omega) q.rkr))) (fun r w1 => propext ⟨fun h => ⟨rfl, ⟨by omega, by omega⟩, ⟨h.1, h⟩⟩, fun h => h.2.2.2⟩)
theorem tc_pull (R : REL w i) (hs : ∀ j, inI (sc j)) (hn : 0 ≤ i ∧ i + 6 ≤ n ∧ i ≤ 378) (hb : 3000 * (390 - i) ≤ bc ∧ 14000 * (390 - i) ≤ bs) : wp_L_law_644 n sc (KX i) 999 100 0 i bc bs w := by
  have S := R.1
  unfold wp_L_law_644
  refine ⟨rfl, ⟨by omega, by omega⟩, ⟨rfl, ⟨by omega, by omega⟩, ⟨rfl, ⟨by omega, by omega⟩, ⟨KF S rfl, ?_⟩⟩⟩⟩
  let K : Int → Int → Wd → Prop := fun r r2 w2 => ckI r <| ckI r2 <| br (r = r2) (wp_L_law_1403 n sc (KX i) 999 100 0 i bc bs w2) False
  refine ws_eq (A := wp_X0_pull 100 (sc (i + 1).toNat) (sc (i + 2).toNat) (sc (i + 3).toNat) w) (P' := fun r w1 => wp_X5_pull 0 (sc (i + 1).toNat) (sc (i + 2).toNat) (sc (i + 3).toNat) w1 fun r2 w2 => K r r2 w2) (op_pull R (hs _) (hs _) (hs _)  (K := K) (fun r r2 w2 e h q => k_ckI e h (kx (by omega) (by omega) q.rkr))) (fun r w1 => propext ⟨fun h => ⟨rfl, ⟨by omega, by omega⟩, ⟨rfl, ⟨by omega, by omega⟩, ⟨rfl, ⟨by omega, by omega⟩, ⟨h.1, h⟩⟩⟩⟩, fun h => h.2.2.2.2.2.2.2⟩)
theorem tc_snap (R : REL w i) (hs : ∀ j, inI (sc j)) (hn : 0 ≤ i ∧ i + 6 ≤ n ∧ i ≤ 378) (hb : 3000 * (390 - i) ≤ bc ∧ 14000 * (390 - i) ≤ bs) : wp_L_law_687 n sc (KX i) 999 100 0 i bc bs w := by
  have S := R.1
  unfold wp_L_law_687
  refine ⟨rfl, ⟨by omega, by omega⟩, ⟨rfl, ⟨by omega, by omega⟩, ⟨KF S rfl, ?_⟩⟩⟩
  let K : Int → Int → Wd → Prop := fun r r2 w2 => ckI r <| ckI r2 <| br (r = r2) (wp_L_law_1403 n sc (KX i) 999 100 0 i bc bs w2) False
  refine ws_eq (A := wp_X0_snap 100 (sc (i + 1).toNat) (sc (i + 2).toNat) w) (P' := fun r w1 => wp_X5_snap 0 (sc (i + 1).toNat) (sc (i + 2).toNat) w1 fun r2 w2 => K r r2 w2) (op_snap R (hs _) (hs _)  (K := K) (fun r r2 w2 e h q => k_ckI e h (kx (by omega) (by omega) q.rkr))) (fun r w1 => propext ⟨fun h => ⟨rfl, ⟨by omega, by omega⟩, ⟨rfl, ⟨by omega, by omega⟩, ⟨h.1, h⟩⟩⟩, fun h => h.2.2.2.2.2⟩)
theorem tc_wed (R : REL w i) (hs : ∀ j, inI (sc j)) (hn : 0 ≤ i ∧ i + 6 ≤ n ∧ i ≤ 378) (hb : 3000 * (390 - i) ≤ bc ∧ 14000 * (390 - i) ≤ bs) : wp_L_law_720 n sc (KX i) 999 100 0 i bc bs w := by
  have S := R.1
  unfold wp_L_law_720
  refine ⟨rfl, ⟨by omega, by omega⟩, ⟨rfl, ⟨by omega, by omega⟩, ⟨KF S rfl, ?_⟩⟩⟩
  let K : Int → Int → Wd → Prop := fun r r2 w2 => ckI r <| ckI r2 <| br (r = r2) (wp_L_law_1403 n sc (KX i) 999 100 0 i bc bs w2) False
  refine ws_eq (A := wp_X0_wed 100 (sc (i + 1).toNat) (sc (i + 2).toNat) w) (P' := fun r w1 => wp_X5_wed 0 (sc (i + 1).toNat) (sc (i + 2).toNat) w1 fun r2 w2 => K r r2 w2) (op_wed R (hs _) (hs _)  (K := K) (fun r r2 w2 e h q => k_ckI e h (kx (by omega) (by omega) q.rkr))) (fun r w1 => propext ⟨fun h => ⟨rfl, ⟨by omega, by omega⟩, ⟨rfl, ⟨by omega, by omega⟩, ⟨h.1, h⟩⟩⟩, fun h => h.2.2.2.2.2⟩)
theorem tc_pass (R : REL w i) (hs : ∀ j, inI (sc j)) (hn : 0 ≤ i ∧ i + 6 ≤ n ∧ i ≤ 378) (hb : 3000 * (390 - i) ≤ bc ∧ 14000 * (390 - i) ≤ bs) : wp_L_law_753 n sc (KX i) 999 100 0 i bc bs w := by
  have S := R.1
  unfold wp_L_law_753
  refine ⟨KF S rfl, ?_⟩
  let K : Int → Int → Wd → Prop := fun r r2 w2 => ckI r <| ckI r2 <| br (r = r2) (wp_L_law_1403 n sc (KX i) 999 100 0 i bc bs w2) False
  refine ws_eq (A := wp_X0_pass 100 w) (P' := fun r w1 => wp_X5_pass 0 w1 fun r2 w2 => K r r2 w2) (op_pass R   (K := K) (fun r r2 w2 e h q => k_ckI e h (kx (by omega) (by omega) q.rkr))) (fun r w1 => propext ⟨fun h => ⟨h.1, h⟩, fun h => h.2⟩)
theorem tc_undo (R : REL w i) (hs : ∀ j, inI (sc j)) (hn : 0 ≤ i ∧ i + 6 ≤ n ∧ i ≤ 378) (hb : 3000 * (390 - i) ≤ bc ∧ 14000 * (390 - i) ≤ bs) : wp_L_law_766 n sc (KX i) 999 100 0 i bc bs w := by
  have S := R.1
  unfold wp_L_law_766
  refine ⟨KF S rfl, ?_⟩
  let K : Int → Int → Wd → Prop := fun r r2 w2 => ckI r <| ckI r2 <| br (r = r2) (wp_L_law_1403 n sc (KX i) 999 100 0 i bc bs w2) False
  refine ws_eq (A := wp_X0_undo 100 w) (P' := fun r w1 => wp_X5_undo 0 w1 fun r2 w2 => K r r2 w2) (op_undo R   (K := K) (fun r r2 w2 e h q => k_ckI e h (kx (by omega) (by omega) q.rkr))) (fun r w1 => propext ⟨fun h => ⟨h.1, h⟩, fun h => h.2⟩)
theorem tc_hear (R : REL w i) (hs : ∀ j, inI (sc j)) (hn : 0 ≤ i ∧ i + 6 ≤ n ∧ i ≤ 378) (hb : 3000 * (390 - i) ≤ bc ∧ 14000 * (390 - i) ≤ bs) : wp_L_law_779 n sc (KX i) 999 100 0 i bc bs w := by
  have S := R.1
  unfold wp_L_law_779
  refine ⟨rfl, ⟨by omega, by omega⟩, ⟨rfl, ⟨by omega, by omega⟩, ⟨rfl, ⟨by omega, by omega⟩, ⟨KF S rfl, ?_⟩⟩⟩⟩
  let K : Int → Int → Wd → Prop := fun r r2 w2 => ckI r <| ckI r2 <| br (r = r2) (wp_L_law_1403 n sc (KX i) 999 100 0 i bc bs w2) False
  refine ws_eq (A := wp_X0_hear 100 (sc (i + 1).toNat) (sc (i + 2).toNat) (sc (i + 3).toNat) w) (P' := fun r w1 => wp_X5_hear 0 (sc (i + 1).toNat) (sc (i + 2).toNat) (sc (i + 3).toNat) w1 fun r2 w2 => K r r2 w2) (op_hear R (hs _) (hs _) (hs _) (K := K) (fun r w2 h q => k_ckI rfl h (kx (by omega) (by omega) q.rkr))) (fun r w1 => propext ⟨fun h => ⟨rfl, ⟨by omega, by omega⟩, ⟨rfl, ⟨by omega, by omega⟩, ⟨rfl, ⟨by omega, by omega⟩, ⟨h.1, h⟩⟩⟩⟩, fun h => h.2.2.2.2.2.2.2⟩)
theorem tc_forget (R : REL w i) (hs : ∀ j, inI (sc j)) (hn : 0 ≤ i ∧ i + 6 ≤ n ∧ i ≤ 378) (hb : 3000 * (390 - i) ≤ bc ∧ 14000 * (390 - i) ≤ bs) : wp_L_law_822 n sc (KX i) 999 100 0 i bc bs w := by
  have S := R.1
  unfold wp_L_law_822
  refine ⟨KF S rfl, ?_⟩
  let K : Int → Int → Wd → Prop := fun r r2 w2 => ckI r <| ckI r2 <| br (r = r2) (wp_L_law_1403 n sc (KX i) 999 100 0 i bc bs w2) False
  refine ws_eq (A := wp_X0_forget 100 w) (P' := fun r w1 => wp_X5_forget 0 w1 fun r2 w2 => K r r2 w2) (op_forget R   (K := K) (fun r r2 w2 e h q => k_ckI e h (kx (by omega) (by omega) q.rkr))) (fun r w1 => propext ⟨fun h => ⟨h.1, h⟩, fun h => h.2⟩)
theorem tc_which (R : REL w i) (hs : ∀ j, inI (sc j)) (hn : 0 ≤ i ∧ i + 6 ≤ n ∧ i ≤ 378) (hb : 3000 * (390 - i) ≤ bc ∧ 14000 * (390 - i) ≤ bs) : wp_L_law_835 n sc (KX i) 999 100 0 i bc bs w := by
  have S := R.1
  unfold wp_L_law_835
  refine ⟨KF S rfl, ?_⟩
  let K : Int → Int → Wd → Prop := fun r r2 w2 => ckI r <| ckI r2 <| br (r = r2) (wp_L_law_1403 n sc (KX i) 999 100 0 i bc bs w2) False
  refine ws_eq (A := wp_X0_which 100 w) (P' := fun r w1 => wp_X5_which 0 w1 fun r2 w2 => K r r2 w2) (op_which R   (K := K) (fun r r2 w2 e h q => k_ckI e h (kx (by omega) (by omega) q.rkr))) (fun r w1 => propext ⟨fun h => ⟨h.1, h⟩, fun h => h.2⟩)
theorem tc_listen (R : REL w i) (hs : ∀ j, inI (sc j)) (hn : 0 ≤ i ∧ i + 6 ≤ n ∧ i ≤ 378) (hb : 3000 * (390 - i) ≤ bc ∧ 14000 * (390 - i) ≤ bs) : wp_L_law_848 n sc (KX i) 999 100 0 i bc bs w := by
  have S := R.1
  unfold wp_L_law_848
  refine ⟨rfl, ⟨by omega, by omega⟩, ⟨KF S rfl, ?_⟩⟩
  let K : Int → Int → Wd → Prop := fun r r2 w2 => ckI r <| ckI r2 <| br (r = r2) (wp_L_law_1403 n sc (KX i) 999 100 0 i bc bs w2) False
  refine ws_eq (A := wp_X0_listen 100 (sc (i + 1).toNat) w) (P' := fun r w1 => wp_X5_listen 0 (sc (i + 1).toNat) w1 fun r2 w2 => K r r2 w2) (op_listen R (hs _)  (K := K) (fun r r2 w2 e h q => k_ckI e h (kx (by omega) (by omega) q.rkr))) (fun r w1 => propext ⟨fun h => ⟨rfl, ⟨by omega, by omega⟩, ⟨h.1, h⟩⟩, fun h => h.2.2.2⟩)
theorem tc_steady (R : REL w i) (hs : ∀ j, inI (sc j)) (hn : 0 ≤ i ∧ i + 6 ≤ n ∧ i ≤ 378) (hb : 3000 * (390 - i) ≤ bc ∧ 14000 * (390 - i) ≤ bs) : wp_L_law_871 n sc (KX i) 999 100 0 i bc bs w := by
  have S := R.1
  unfold wp_L_law_871
  refine ⟨rfl, ⟨by omega, by omega⟩, ⟨KF S rfl, ?_⟩⟩
  let K : Int → Int → Wd → Prop := fun r r2 w2 => ckI r <| ckI r2 <| br (r = r2) (wp_L_law_1403 n sc (KX i) 999 100 0 i bc bs w2) False
  refine ws_eq (A := wp_X0_steady 100 (sc (i + 1).toNat) w) (P' := fun r w1 => wp_X5_steady 0 (sc (i + 1).toNat) w1 fun r2 w2 => K r r2 w2) (op_steady R (hs _)  (K := K) (fun r r2 w2 e h q => k_ckI e h (kx (by omega) (by omega) q.rkr))) (fun r w1 => propext ⟨fun h => ⟨rfl, ⟨by omega, by omega⟩, ⟨h.1, h⟩⟩, fun h => h.2.2.2⟩)
theorem tc_about (R : REL w i) (hs : ∀ j, inI (sc j)) (hn : 0 ≤ i ∧ i + 6 ≤ n ∧ i ≤ 378) (hb : 3000 * (390 - i) ≤ bc ∧ 14000 * (390 - i) ≤ bs) : wp_L_law_894 n sc (KX i) 999 100 0 i bc bs w := by
  have S := R.1
  unfold wp_L_law_894
  refine ⟨rfl, ⟨by omega, by omega⟩, ⟨rfl, ⟨by omega, by omega⟩, ⟨KF S rfl, ?_⟩⟩⟩
  let K : Int → Int → Wd → Prop := fun r r2 w2 => ckI r <| ckI r2 <| br (r = r2) (wp_L_law_1403 n sc (KX i) 999 100 0 i bc bs w2) False
  refine ws_eq (A := wp_X0_about 100 (sc (i + 1).toNat) (sc (i + 2).toNat) w) (P' := fun r w1 => wp_X5_about 0 (sc (i + 1).toNat) (sc (i + 2).toNat) w1 fun r2 w2 => K r r2 w2) (op_about R (hs _) (hs _)  (K := K) (fun r r2 w2 e h q => k_ckI e h (kx (by omega) (by omega) q.rkr))) (fun r w1 => propext ⟨fun h => ⟨rfl, ⟨by omega, by omega⟩, ⟨rfl, ⟨by omega, by omega⟩, ⟨h.1, h⟩⟩⟩, fun h => h.2.2.2.2.2⟩)
theorem tc_keep (R : REL w i) (hs : ∀ j, inI (sc j)) (hn : 0 ≤ i ∧ i + 6 ≤ n ∧ i ≤ 378) (hb : 3000 * (390 - i) ≤ bc ∧ 14000 * (390 - i) ≤ bs) : wp_L_law_927 n sc (KX i) 999 100 0 i bc bs w := by
  have S := R.1
  unfold wp_L_law_927
  refine ⟨rfl, ⟨by omega, by omega⟩, ⟨rfl, ⟨by omega, by omega⟩, ⟨rfl, ⟨by omega, by omega⟩, ⟨KF S rfl, ?_⟩⟩⟩⟩
  let K : Int → Int → Wd → Prop := fun r r2 w2 => ckI r <| ckI r2 <| br (r = r2) (wp_L_law_1403 n sc (KX i) 999 100 0 i bc bs w2) False
  refine ws_eq (A := wp_X0_keep 100 (sc (i + 1).toNat) (sc (i + 2).toNat) (sc (i + 3).toNat) w) (P' := fun r w1 => wp_X5_keep 0 (sc (i + 1).toNat) (sc (i + 2).toNat) (sc (i + 3).toNat) w1 fun r2 w2 => K r r2 w2) (op_keep R (hs _) (hs _) (hs _)  (K := K) (fun r r2 w2 e h q => k_ckI e h (kx (by omega) (by omega) q.rkr))) (fun r w1 => propext ⟨fun h => ⟨rfl, ⟨by omega, by omega⟩, ⟨rfl, ⟨by omega, by omega⟩, ⟨rfl, ⟨by omega, by omega⟩, ⟨h.1, h⟩⟩⟩⟩, fun h => h.2.2.2.2.2.2.2⟩)
theorem tc_clash (R : REL w i) (hs : ∀ j, inI (sc j)) (hn : 0 ≤ i ∧ i + 6 ≤ n ∧ i ≤ 378) (hb : 3000 * (390 - i) ≤ bc ∧ 14000 * (390 - i) ≤ bs) : wp_L_law_970 n sc (KX i) 999 100 0 i bc bs w := by
  have S := R.1
  unfold wp_L_law_970
  refine ⟨rfl, ⟨by omega, by omega⟩, ⟨rfl, ⟨by omega, by omega⟩, ⟨rfl, ⟨by omega, by omega⟩, ⟨KF S rfl, ?_⟩⟩⟩⟩
  let K : Int → Int → Wd → Prop := fun r r2 w2 => ckI r <| ckI r2 <| br (r = r2) (wp_L_law_1403 n sc (KX i) 999 100 0 i bc bs w2) False
  refine ws_eq (A := wp_X0_clash 100 (sc (i + 1).toNat) (sc (i + 2).toNat) (sc (i + 3).toNat) w) (P' := fun r w1 => wp_X5_clash 0 (sc (i + 1).toNat) (sc (i + 2).toNat) (sc (i + 3).toNat) w1 fun r2 w2 => K r r2 w2) (op_clash R (hs _) (hs _) (hs _)  (K := K) (fun r r2 w2 e h q => k_ckI e h (kx (by omega) (by omega) q.rkr))) (fun r w1 => propext ⟨fun h => ⟨rfl, ⟨by omega, by omega⟩, ⟨rfl, ⟨by omega, by omega⟩, ⟨rfl, ⟨by omega, by omega⟩, ⟨h.1, h⟩⟩⟩⟩, fun h => h.2.2.2.2.2.2.2⟩)
theorem tc_best (R : REL w i) (hs : ∀ j, inI (sc j)) (hn : 0 ≤ i ∧ i + 6 ≤ n ∧ i ≤ 378) (hb : 3000 * (390 - i) ≤ bc ∧ 14000 * (390 - i) ≤ bs) : wp_L_law_1013 n sc (KX i) 999 100 0 i bc bs w := by
  have S := R.1
  unfold wp_L_law_1013
  refine ⟨rfl, ⟨by omega, by omega⟩, ⟨rfl, ⟨by omega, by omega⟩, ⟨rfl, ⟨by omega, by omega⟩, ⟨KF S rfl, ?_⟩⟩⟩⟩
  let K : Int → Int → Wd → Prop := fun r r2 w2 => ckI r <| ckI r2 <| br (r = r2) (wp_L_law_1403 n sc (KX i) 999 100 0 i bc bs w2) False
  refine ws_eq (A := wp_X0_best 100 (sc (i + 1).toNat) (sc (i + 2).toNat) (sc (i + 3).toNat) w) (P' := fun r w1 => wp_X5_best 0 (sc (i + 1).toNat) (sc (i + 2).toNat) (sc (i + 3).toNat) w1 fun r2 w2 => K r r2 w2) (op_best R (hs _) (hs _) (hs _)  (K := K) (fun r r2 w2 e h q => k_ckI e h (kx (by omega) (by omega) q.rkr))) (fun r w1 => propext ⟨fun h => ⟨rfl, ⟨by omega, by omega⟩, ⟨rfl, ⟨by omega, by omega⟩, ⟨rfl, ⟨by omega, by omega⟩, ⟨h.1, h⟩⟩⟩⟩, fun h => h.2.2.2.2.2.2.2⟩)
theorem tc_filed (R : REL w i) (hs : ∀ j, inI (sc j)) (hn : 0 ≤ i ∧ i + 6 ≤ n ∧ i ≤ 378) (hb : 3000 * (390 - i) ≤ bc ∧ 14000 * (390 - i) ≤ bs) : wp_L_law_1056 n sc (KX i) 999 100 0 i bc bs w := by
  have S := R.1
  unfold wp_L_law_1056
  refine ⟨rfl, ⟨by omega, by omega⟩, ⟨rfl, ⟨by omega, by omega⟩, ⟨rfl, ⟨by omega, by omega⟩, ⟨rfl, ⟨by omega, by omega⟩, ⟨KF S rfl, ?_⟩⟩⟩⟩⟩
  let K : Int → Int → Wd → Prop := fun r r2 w2 => ckI r <| ckI r2 <| br (r = r2) (wp_L_law_1403 n sc (KX i) 999 100 0 i bc bs w2) False
  refine ws_eq (A := wp_X0_filed 100 (sc (i + 1).toNat) (sc (i + 2).toNat) (sc (i + 3).toNat) (sc (i + 4).toNat) w) (P' := fun r w1 => wp_X5_filed 0 (sc (i + 1).toNat) (sc (i + 2).toNat) (sc (i + 3).toNat) (sc (i + 4).toNat) w1 fun r2 w2 => K r r2 w2) (op_filed R (hs _) (hs _) (hs _) (hs _)  (K := K) (fun r r2 w2 e h q => k_ckI e h (kx (by omega) (by omega) q.rkr))) (fun r w1 => propext ⟨fun h => ⟨rfl, ⟨by omega, by omega⟩, ⟨rfl, ⟨by omega, by omega⟩, ⟨rfl, ⟨by omega, by omega⟩, ⟨rfl, ⟨by omega, by omega⟩, ⟨h.1, h⟩⟩⟩⟩⟩, fun h => h.2.2.2.2.2.2.2.2.2⟩)
theorem tc_shares (R : REL w i) (hs : ∀ j, inI (sc j)) (hn : 0 ≤ i ∧ i + 6 ≤ n ∧ i ≤ 378) (hb : 3000 * (390 - i) ≤ bc ∧ 14000 * (390 - i) ≤ bs) : wp_L_law_1109 n sc (KX i) 999 100 0 i bc bs w := by
  have S := R.1
  unfold wp_L_law_1109
  refine ⟨rfl, ⟨by omega, by omega⟩, ⟨rfl, ⟨by omega, by omega⟩, ⟨KF S rfl, ?_⟩⟩⟩
  let K : Int → Int → Wd → Prop := fun r r2 w2 => ckI r <| ckI r2 <| br (r = r2) (wp_L_law_1403 n sc (KX i) 999 100 0 i bc bs w2) False
  refine ws_eq (A := wp_X0_shares 100 (sc (i + 1).toNat) (sc (i + 2).toNat) w) (P' := fun r w1 => wp_X5_shares 0 (sc (i + 1).toNat) (sc (i + 2).toNat) w1 fun r2 w2 => K r r2 w2) (op_shares R (hs _) (hs _)  (K := K) (fun r r2 w2 e h q => k_ckI e h (kx (by omega) (by omega) q.rkr))) (fun r w1 => propext ⟨fun h => ⟨rfl, ⟨by omega, by omega⟩, ⟨rfl, ⟨by omega, by omega⟩, ⟨h.1, h⟩⟩⟩, fun h => h.2.2.2.2.2⟩)
theorem tc_again (R : REL w i) (hs : ∀ j, inI (sc j)) (hn : 0 ≤ i ∧ i + 6 ≤ n ∧ i ≤ 378) (hb : 3000 * (390 - i) ≤ bc ∧ 14000 * (390 - i) ≤ bs) : wp_L_law_1142 n sc (KX i) 999 100 0 i bc bs w := by
  have S := R.1
  unfold wp_L_law_1142
  refine ⟨rfl, ⟨by omega, by omega⟩, ⟨rfl, ⟨by omega, by omega⟩, ⟨KF S rfl, ?_⟩⟩⟩
  let K : Int → Int → Wd → Prop := fun r r2 w2 => ckI r <| ckI r2 <| br (r = r2) (wp_L_law_1403 n sc (KX i) 999 100 0 i bc bs w2) False
  refine ws_eq (A := wp_X0_again 100 (sc (i + 1).toNat) (sc (i + 2).toNat) w) (P' := fun r w1 => wp_X5_again 0 (sc (i + 1).toNat) (sc (i + 2).toNat) w1 fun r2 w2 => K r r2 w2) (op_again R (hs _) (hs _)  (K := K) (fun r r2 w2 e h q => k_ckI e h (kx (by omega) (by omega) q.rkr))) (fun r w1 => propext ⟨fun h => ⟨rfl, ⟨by omega, by omega⟩, ⟨rfl, ⟨by omega, by omega⟩, ⟨h.1, h⟩⟩⟩, fun h => h.2.2.2.2.2⟩)
theorem tc_ends (R : REL w i) (hs : ∀ j, inI (sc j)) (hn : 0 ≤ i ∧ i + 6 ≤ n ∧ i ≤ 378) (hb : 3000 * (390 - i) ≤ bc ∧ 14000 * (390 - i) ≤ bs) : wp_L_law_1175 n sc (KX i) 999 100 0 i bc bs w := by
  have S := R.1
  unfold wp_L_law_1175
  refine ⟨rfl, ⟨by omega, by omega⟩, ⟨KF S rfl, ?_⟩⟩
  let K : Int → Int → Wd → Prop := fun r r2 w2 => ckI r <| ckI r2 <| br (r = r2) (wp_L_law_1403 n sc (KX i) 999 100 0 i bc bs w2) False
  refine ws_eq (A := wp_X0_ends 100 (sc (i + 1).toNat) w) (P' := fun r w1 => wp_X5_ends 0 (sc (i + 1).toNat) w1 fun r2 w2 => K r r2 w2) (op_ends R (hs _)  (K := K) (fun r r2 w2 e h q => k_ckI e h (kx (by omega) (by omega) q.rkr))) (fun r w1 => propext ⟨fun h => ⟨rfl, ⟨by omega, by omega⟩, ⟨h.1, h⟩⟩, fun h => h.2.2.2⟩)
theorem tc_stands (R : REL w i) (hs : ∀ j, inI (sc j)) (hn : 0 ≤ i ∧ i + 6 ≤ n ∧ i ≤ 378) (hb : 3000 * (390 - i) ≤ bc ∧ 14000 * (390 - i) ≤ bs) : wp_L_law_1198 n sc (KX i) 999 100 0 i bc bs w := by
  have S := R.1
  unfold wp_L_law_1198
  refine ⟨rfl, ⟨by omega, by omega⟩, ⟨rfl, ⟨by omega, by omega⟩, ⟨KF S rfl, ?_⟩⟩⟩
  let K : Int → Int → Wd → Prop := fun r r2 w2 => ckL r <| ckL r2 <| br (r = r2) (wp_L_law_1403 n sc (KX i) 999 100 0 i bc bs w2) False
  refine ws_eq (A := wp_X0_stands 100 (sc (i + 1).toNat) (sc (i + 2).toNat) w) (P' := fun r w1 => wp_X5_stands 0 (sc (i + 1).toNat) (sc (i + 2).toNat) w1 fun r2 w2 => K r r2 w2) (op_stands R (hs _) (hs _)  (K := K) (fun r r2 w2 e h q => k_ckL e h (kx (by omega) (by omega) q.rkr))) (fun r w1 => propext ⟨fun h => ⟨rfl, ⟨by omega, by omega⟩, ⟨rfl, ⟨by omega, by omega⟩, ⟨h.1, h⟩⟩⟩, fun h => h.2.2.2.2.2⟩)
theorem tc_compare (R : REL w i) (hs : ∀ j, inI (sc j)) (hn : 0 ≤ i ∧ i + 6 ≤ n ∧ i ≤ 378) (hb : 3000 * (390 - i) ≤ bc ∧ 14000 * (390 - i) ≤ bs) : wp_L_law_1232 n sc (KX i) 999 100 0 i bc bs w := by
  have S := R.1
  unfold wp_L_law_1232
  refine ⟨rfl, ⟨by omega, by omega⟩, ⟨KF S rfl, ?_⟩⟩
  let K : Int → Int → Wd → Prop := fun r r2 w2 => ckI r <| ckI r2 <| br (r = r2) (wp_L_law_1403 n sc (KX i) 999 100 0 i bc bs w2) False
  refine ws_eq (A := wp_X0_compare 100 (sc (i + 1).toNat) w) (P' := fun r w1 => wp_X5_compare 0 (sc (i + 1).toNat) w1 fun r2 w2 => K r r2 w2) (op_compare R (hs _)  (K := K) (fun r r2 w2 e h q => k_ckI e h (kx (by omega) (by omega) q.rkr))) (fun r w1 => propext ⟨fun h => ⟨rfl, ⟨by omega, by omega⟩, ⟨h.1, h⟩⟩, fun h => h.2.2.2⟩)
theorem tc_generations (R : REL w i) (hs : ∀ j, inI (sc j)) (hn : 0 ≤ i ∧ i + 6 ≤ n ∧ i ≤ 378) (hb : 3000 * (390 - i) ≤ bc ∧ 14000 * (390 - i) ≤ bs) : wp_L_law_1255 n sc (KX i) 999 100 0 i bc bs w := by
  have S := R.1
  unfold wp_L_law_1255
  refine ⟨rfl, ⟨by omega, by omega⟩, ⟨rfl, ⟨by omega, by omega⟩, ⟨KF S rfl, ?_⟩⟩⟩
  let K : Int → Int → Wd → Prop := fun r r2 w2 => ckI r <| ckI r2 <| br (r = r2) (wp_L_law_1403 n sc (KX i) 999 100 0 i bc bs w2) False
  refine ws_eq (A := wp_X0_generations 100 (sc (i + 1).toNat) (sc (i + 2).toNat) w) (P' := fun r w1 => wp_X5_generations 0 (sc (i + 1).toNat) (sc (i + 2).toNat) w1 fun r2 w2 => K r r2 w2) (op_generations R (hs _) (hs _)  (K := K) (fun r r2 w2 e h q => k_ckI e h (kx (by omega) (by omega) q.rkr))) (fun r w1 => propext ⟨fun h => ⟨rfl, ⟨by omega, by omega⟩, ⟨rfl, ⟨by omega, by omega⟩, ⟨h.1, h⟩⟩⟩, fun h => h.2.2.2.2.2⟩)
theorem tc_drawn (R : REL w i) (hs : ∀ j, inI (sc j)) (hn : 0 ≤ i ∧ i + 6 ≤ n ∧ i ≤ 378) (hb : 3000 * (390 - i) ≤ bc ∧ 14000 * (390 - i) ≤ bs) : wp_L_law_1288 n sc (KX i) 999 100 0 i bc bs w := by
  have S := R.1
  unfold wp_L_law_1288
  refine ⟨rfl, ⟨by omega, by omega⟩, ⟨rfl, ⟨by omega, by omega⟩, ⟨KF S rfl, ?_⟩⟩⟩
  let K : Int → Int → Wd → Prop := fun r r2 w2 => ckI r <| ckI r2 <| br (r = r2) (wp_L_law_1403 n sc (KX i) 999 100 0 i bc bs w2) False
  refine ws_eq (A := wp_X0_drawn 100 (sc (i + 1).toNat) (sc (i + 2).toNat) w) (P' := fun r w1 => wp_X5_drawn 0 (sc (i + 1).toNat) (sc (i + 2).toNat) w1 fun r2 w2 => K r r2 w2) (op_drawn R (hs _) (hs _)  (K := K) (fun r r2 w2 e h q => k_ckI e h (kx (by omega) (by omega) q.rkr))) (fun r w1 => propext ⟨fun h => ⟨rfl, ⟨by omega, by omega⟩, ⟨rfl, ⟨by omega, by omega⟩, ⟨h.1, h⟩⟩⟩, fun h => h.2.2.2.2.2⟩)
theorem tc_image (R : REL w i) (hs : ∀ j, inI (sc j)) (hn : 0 ≤ i ∧ i + 6 ≤ n ∧ i ≤ 378) (hb : 3000 * (390 - i) ≤ bc ∧ 14000 * (390 - i) ≤ bs) (hO : OPI) : wp_L_law_1321 n sc (KX i) 999 100 0 i bc bs w := by
  have S := R.1
  unfold wp_L_law_1321
  refine ⟨rfl, ⟨by omega, by omega⟩, ⟨KF S rfl, 18000, 84000, ⟨by omega, by omega⟩, ?_⟩⟩
  let K : Int → Int → Wd → Prop := fun r r2 w2 => ckI r <| ckI r2 <| br (r = r2) (wp_L_law_1403 n sc (KX i) 999 100 0 i (bc - 18000) (bs - 84000) w2) False
  refine ws_eq (A := wp_X0_image 100 (sc (i + 1).toNat) 18000 84000 w) (P' := fun r w1 => wp_X5_image 0 (sc (i + 1).toNat) w1 fun r2 w2 => K r r2 w2) (hO w i _ _ _ K R (hs _) (by decide) (fun r r2 w2 e h q => k_ckI e h (kx (by omega) (by omega) q))) (fun r w1 => propext ⟨fun h => ⟨rfl, ⟨by omega, by omega⟩, ⟨h.1, h⟩⟩, fun h => h.2.2.2⟩)
theorem tc_back (R : REL w i) (hs : ∀ j, inI (sc j)) (hn : 0 ≤ i ∧ i + 6 ≤ n ∧ i ≤ 378) (hb : 3000 * (390 - i) ≤ bc ∧ 14000 * (390 - i) ≤ bs) (hO : OPB) : wp_L_law_1344 n sc (KX i) 999 100 0 i bc bs w := by
  have S := R.1
  unfold wp_L_law_1344
  refine ⟨rfl, ⟨by omega, by omega⟩, ⟨KF S rfl, 18000, 84000, ⟨by omega, by omega⟩, ?_⟩⟩
  let K : Int → Int → Wd → Prop := fun r r2 w2 => ckI r <| ckI r2 <| br (r = r2) (wp_L_law_1403 n sc (KX i) 999 100 0 i (bc - 18000) (bs - 84000) w2) False
  refine ws_eq (A := wp_X0_back 100 (sc (i + 1).toNat) 18000 84000 w) (P' := fun r w1 => wp_X5_back 0 (sc (i + 1).toNat) w1 fun r2 w2 => K r r2 w2) (hO w i _ _ _ K R (hs _) (by decide) (fun r r2 w2 e h q => k_ckI e h (kx (by omega) (by omega) q))) (fun r w1 => propext ⟨fun h => ⟨rfl, ⟨by omega, by omega⟩, ⟨h.1, h⟩⟩, fun h => h.2.2.2⟩)
theorem tc_count (R : REL w i) (hs : ∀ j, inI (sc j)) (hn : 0 ≤ i ∧ i + 6 ≤ n ∧ i ≤ 378) (hb : 3000 * (390 - i) ≤ bc ∧ 14000 * (390 - i) ≤ bs) : wp_L_law_1367 n sc (KX i) 999 100 0 i bc bs w := by
  have S := R.1
  unfold wp_L_law_1367
  refine ⟨rfl, ⟨by omega, by omega⟩, ⟨KF S rfl, ?_⟩⟩
  let K : Int → Int → Wd → Prop := fun r r2 w2 => ckI r <| ckI r2 <| br (r = r2) (wp_L_law_1403 n sc (KX i) 999 100 0 i bc bs w2) False
  refine ws_eq (A := wp_X0_count 100 (sc (i + 1).toNat) w) (P' := fun r w1 => wp_X5_count 0 (sc (i + 1).toNat) w1 fun r2 w2 => K r r2 w2) (op_count R (hs _) ⟨by omega, by omega⟩ (K := K) (fun r r2 w2 e h q => k_ckI e h (kx (by omega) (by omega) q.rkr))) (fun r w1 => propext ⟨fun h => ⟨rfl, ⟨by omega, by omega⟩, ⟨h.1, h⟩⟩, fun h => h.2.2.2⟩)
theorem tc_status (R : REL w i) (hs : ∀ j, inI (sc j)) (hn : 0 ≤ i ∧ i + 6 ≤ n ∧ i ≤ 378) (hb : 3000 * (390 - i) ≤ bc ∧ 14000 * (390 - i) ≤ bs) : wp_L_law_1390 n sc (KX i) 999 100 0 i bc bs w := by
  have S := R.1
  unfold wp_L_law_1390
  refine ⟨KF S rfl, ?_⟩
  let K : Int → Int → Wd → Prop := fun r r2 w2 => ckI r <| ckI r2 <| br (r = r2) (wp_L_law_1403 n sc (KX i) 999 100 0 i bc bs w2) False
  refine ws_eq (A := wp_X0_status 100 w) (P' := fun r w1 => wp_X5_status 0 w1 fun r2 w2 => K r r2 w2) (op_status R   (K := K) (fun r r2 w2 e h q => k_ckI e h (kx (by omega) (by omega) q.rkr))) (fun r w1 => propext ⟨fun h => ⟨h.1, h⟩, fun h => h.2⟩)
theorem ian63 {x : Int} : inI (ian x 63) := by
  have h := ian_le_r (a := x) (b := 63) (by decide) (by decide)
  exact ⟨by omega, by omega⟩
/-- a turn -/
theorem turn_inv (hI : OPI) (hB : OPB) (hN : n ≤ 384) (hs : ∀ j, inI (sc j)) : TURN n sc INV := by
  intro i bc bs w h
  obtain ⟨h1, h2, h3, R⟩ := h
  show wp_L_law_it n sc (KX i) 999 100 0 i bc bs w
  unfold wp_L_law_it
  refine ⟨rfl, s_ckI ⟨by omega, by omega⟩ (s_ckI ⟨by omega, by omega⟩ (s_br (fun _ => trivial) (fun y => ⟨rfl, ⟨by omega, by omega⟩, s_ckI ian63 ?_⟩)))⟩
  have hn : 0 ≤ i ∧ i + 6 ≤ n ∧ i ≤ 378 := by omega
  have hb : 3000 * (390 - i) ≤ bc ∧ 14000 * (390 - i) ≤ bs := ⟨h2, h3⟩
  refine s_br (fun _ => tc_box R hs hn hb) (fun _ => ?_)
  refine s_br (fun _ => tc_of R hs hn hb) (fun _ => ?_)
  refine s_br (fun _ => tc_pins R hs hn hb) (fun _ => ?_)
  refine s_br (fun _ => tc_suitor R hs hn hb) (fun _ => ?_)
  refine s_br (fun _ => tc_at R hs hn hb) (fun _ => ?_)
  refine s_br (fun _ => tc_asks R hs hn hb) (fun _ => ?_)
  refine s_br (fun _ => tc_terms R hs hn hb) (fun _ => ?_)
  refine s_br (fun _ => tc_feed R hs hn hb) (fun _ => ?_)
  refine s_br (fun _ => tc_end R hs hn hb) (fun _ => ?_)
  refine s_br (fun _ => tc_row R hs hn hb) (fun _ => ?_)
  refine s_br (fun _ => tc_rust R hs hn hb) (fun _ => ?_)
  refine s_br (fun _ => tc_law R hs hn hb) (fun _ => ?_)
  refine s_br (fun _ => tc_orders R hs hn hb) (fun _ => ?_)
  refine s_br (fun _ => tc_fault R hs hn hb) (fun _ => ?_)
  refine s_br (fun _ => tc_stopped R hs hn hb) (fun _ => ?_)
  refine s_br (fun _ => tc_force R hs hn hb) (fun _ => ?_)
  refine s_br (fun _ => tc_pull R hs hn hb) (fun _ => ?_)
  refine s_br (fun _ => tc_snap R hs hn hb) (fun _ => ?_)
  refine s_br (fun _ => tc_wed R hs hn hb) (fun _ => ?_)
  refine s_br (fun _ => tc_pass R hs hn hb) (fun _ => ?_)
  refine s_br (fun _ => tc_undo R hs hn hb) (fun _ => ?_)
  refine s_br (fun _ => tc_hear R hs hn hb) (fun _ => ?_)
  refine s_br (fun _ => tc_forget R hs hn hb) (fun _ => ?_)
  refine s_br (fun _ => tc_which R hs hn hb) (fun _ => ?_)
  refine s_br (fun _ => tc_listen R hs hn hb) (fun _ => ?_)
  refine s_br (fun _ => tc_steady R hs hn hb) (fun _ => ?_)
  refine s_br (fun _ => tc_about R hs hn hb) (fun _ => ?_)
  refine s_br (fun _ => tc_keep R hs hn hb) (fun _ => ?_)
  refine s_br (fun _ => tc_clash R hs hn hb) (fun _ => ?_)
  refine s_br (fun _ => tc_best R hs hn hb) (fun _ => ?_)
  refine s_br (fun _ => tc_filed R hs hn hb) (fun _ => ?_)
  refine s_br (fun _ => tc_shares R hs hn hb) (fun _ => ?_)
  refine s_br (fun _ => tc_again R hs hn hb) (fun _ => ?_)
  refine s_br (fun _ => tc_ends R hs hn hb) (fun _ => ?_)
  refine s_br (fun _ => tc_stands R hs hn hb) (fun _ => ?_)
  refine s_br (fun _ => tc_compare R hs hn hb) (fun _ => ?_)
  refine s_br (fun _ => tc_generations R hs hn hb) (fun _ => ?_)
  refine s_br (fun _ => tc_drawn R hs hn hb) (fun _ => ?_)
  refine s_br (fun _ => tc_image R hs hn hb hI) (fun _ => ?_)
  refine s_br (fun _ => tc_back R hs hn hb hB) (fun _ => ?_)
  refine s_br (fun _ => tc_count R hs hn hb) (fun _ => ?_)
  refine s_br (fun _ => tc_status R hs hn hb) (fun _ => ?_)
  unfold wp_L_law_1403
  have R6 : REL w (i + 6) := ⟨R.1, R.2.1, R.2.2.1, R.2.2.2.1, R.2.2.2.2.1, R.2.2.2.2.2.1, R.2.2.2.2.2.2.1.fr (by omega) (fun _ _ _ => rfl), R.2.2.2.2.2.2.2⟩
  exact kx (by omega) (by omega) R6.rkr
end TURNS
