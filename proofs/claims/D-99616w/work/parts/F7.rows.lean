/-! THE PLAIN LAW: the twin's row, laid by and taken back -/
set_option maxRecDepth 100000
section ROWS5
variable {w w' : Wd} {X : Wd → Prop} {Q : Int → Wd → Prop} {a : Int}
theorem y5_image_23 (ha : 0 ≤ a ∧ a ≤ 1) : ∀ (m fuel : Nat) (x : Int) (w : Wd), x + m = 5516 → m < fuel → 0 ≤ x → SOK w → (∀ w', FL w w' 4 (5516 * a + x) (5516 * a + 5516) (fun j => gV w 3 (j - 5516 * a)) → X w') → wp_X5_image_23 Q X 0 a fuel x w := by
  intro m
  induction m with
  | zero =>
    intro fuel x w hx hf h0 S hq
    obtain ⟨f, rfl⟩ : ∃ f, fuel = f + 1 := ⟨fuel - 1, by omega⟩
    rw [wp_X5_image_23]
    exact s_ckI ⟨by omega, by omega⟩ (s_br (fun _ => hq w ⟨Sm.rf, fun _ _ _ => rfl, fun j a b => absurd b (by omega)⟩) (fun y => absurd (by omega) y))
  | succ m ih =>
    intro fuel x w hx hf h0 S hq
    obtain ⟨f, rfl⟩ : ∃ f, fuel = f + 1 := ⟨fuel - 1, by omega⟩
    rw [wp_X5_image_23]
    refine s_ckI ⟨by omega, by omega⟩ (s_br (fun y => absurd y (by omega)) (fun _ => s_gfA (KF S rfl) (RF S rfl) (s_gfA (KF S rfl) (RF S rfl) (s_alI (KF S rfl) (by decide) ⟨by omega, by omega⟩ rfl (s_asI (KF S rfl) (by decide) ⟨by omega, by omega⟩ ?_)))))
    have S1 : SOK (sV w 4 (5516 * a + x) (gV w 3 x)) := S
    refine ih f (x + 1) _ (by omega) (by omega) (by omega) S1 (fun w' f1 => hq w' ⟨f1.1, fun k j hn => (f1.2.1 k j (fun z => hn ⟨z.1, by omega, z.2.2⟩)).trans (gV_ne (fun z => hn ⟨z.1, by omega, by omega⟩)), fun j u v => ?_⟩)
    by_cases z : j = 5516 * a + x
    · rw [z, f1.2.1 4 _ (by omega), gV_at]
      dsimp only
      rw [(by omega : 5516 * a + x - 5516 * a = x)]
    · exact (f1.2.2 j (by omega) v).trans (gV_ne (by omega))
theorem y5_back_39 (ha : 0 ≤ a ∧ a ≤ 1) : ∀ (m fuel : Nat) (x : Int) (w : Wd), x + m = 5516 → m < fuel → 0 ≤ x → SOK w → (∀ w', FL w w' 3 x 5516 (fun j => gV w 4 (5516 * a + j)) → X w') → wp_X5_back_39 Q X 0 a fuel x w := by
  intro m
  induction m with
  | zero =>
    intro fuel x w hx hf h0 S hq
    obtain ⟨f, rfl⟩ : ∃ f, fuel = f + 1 := ⟨fuel - 1, by omega⟩
    rw [wp_X5_back_39]
    exact s_ckI ⟨by omega, by omega⟩ (s_br (fun _ => hq w ⟨Sm.rf, fun _ _ _ => rfl, fun j a b => absurd b (by omega)⟩) (fun y => absurd (by omega) y))
  | succ m ih =>
    intro fuel x w hx hf h0 S hq
    obtain ⟨f, rfl⟩ : ∃ f, fuel = f + 1 := ⟨fuel - 1, by omega⟩
    rw [wp_X5_back_39]
    refine s_ckI ⟨by omega, by omega⟩ (s_br (fun y => absurd y (by omega)) (fun _ => s_gfA (KF S rfl) (RF S rfl) (s_gfA (KF S rfl) (RF S rfl) (s_alI (KF S rfl) (by decide) ⟨by omega, by omega⟩ rfl (s_asI (KF S rfl) (by decide) ⟨by omega, by omega⟩ ?_)))))
    have S1 : SOK (sV w 3 x (gV w 4 (5516 * a + x))) := S
    refine ih f (x + 1) _ (by omega) (by omega) (by omega) S1 (fun w' f1 => hq w' ⟨f1.1, fun k j hn => (f1.2.1 k j (fun z => hn ⟨z.1, by omega, z.2.2⟩)).trans (gV_ne (fun z => hn ⟨z.1, by omega, by omega⟩)), fun j u v => ?_⟩)
    by_cases z : j = x
    · rw [z, f1.2.1 3 _ (by omega), gV_at]
    · exact (f1.2.2 j (by omega) v).trans (gV_ne (by omega))
end ROWS5
