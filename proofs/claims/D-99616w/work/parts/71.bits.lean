/-! THE PLAIN LAW: bits -/
set_option maxRecDepth 100000
theorem ian_le {a b : Int} (h0 : 0 ≤ a) (h1 : a ≤ 2147483647) : 0 ≤ ian a b ∧ ian a b ≤ a := by
  have hx := i32_toInt (a := a) ⟨by omega, h1⟩
  unfold ian
  generalize Int32.ofInt a = x at *
  generalize Int32.ofInt b = y at *
  have e1 : x.toInt = x.toBitVec.toInt := rfl
  have e2 : (x &&& y).toInt = (x.toBitVec &&& y.toBitVec).toInt := rfl
  rw [e1, BitVec.toInt_eq_toNat_cond] at hx
  rw [e2, BitVec.toInt_eq_toNat_cond, BitVec.toNat_and]
  have h3 : x.toBitVec.toNat &&& y.toBitVec.toNat ≤ x.toBitVec.toNat := Nat.and_le_left
  have h4 := x.toBitVec.isLt
  split at hx <;> split <;> omega
theorem ian_le_r {a b : Int} (h0 : 0 ≤ b) (h1 : b ≤ 2147483647) : 0 ≤ ian a b ∧ ian a b ≤ b := by
  have hx := i32_toInt (a := b) ⟨by omega, h1⟩
  unfold ian
  generalize Int32.ofInt a = x at *
  generalize Int32.ofInt b = y at *
  have e1 : y.toInt = y.toBitVec.toInt := rfl
  have e2 : (x &&& y).toInt = (x.toBitVec &&& y.toBitVec).toInt := rfl
  rw [e1, BitVec.toInt_eq_toNat_cond] at hx
  rw [e2, BitVec.toInt_eq_toNat_cond, BitVec.toNat_and]
  have h3 : x.toBitVec.toNat &&& y.toBitVec.toNat ≤ y.toBitVec.toNat := Nat.and_le_right
  have h4 := y.toBitVec.isLt
  split at hx <;> split <;> omega
theorem ior_lt {a b : Int} {n : Nat} (hn : n ≤ 30) (h0 : 0 ≤ a) (h1 : a < 2 ^ n) (g0 : 0 ≤ b) (g1 : b < 2 ^ n) : 0 ≤ ior a b ∧ ior a b < 2 ^ n := by
  have hp : (2 : Nat) ^ n ≤ 2 ^ 30 := Nat.pow_le_pow_right (by decide) hn
  have hpi : ((2 ^ n : Nat) : Int) = 2 ^ n := by rw [Int.natCast_pow]; rfl
  rw [← hpi] at h1 g1 ⊢
  generalize hN : (2 : Nat) ^ n = N at *
  have hx := i32_toInt (a := a) ⟨by omega, by omega⟩
  have hy := i32_toInt (a := b) ⟨by omega, by omega⟩
  unfold ior
  generalize Int32.ofInt a = x at *
  generalize Int32.ofInt b = y at *
  have e1 : x.toInt = x.toBitVec.toInt := rfl
  have e3 : y.toInt = y.toBitVec.toInt := rfl
  have e2 : (x ||| y).toInt = (x.toBitVec ||| y.toBitVec).toInt := rfl
  rw [e1, BitVec.toInt_eq_toNat_cond] at hx
  rw [e3, BitVec.toInt_eq_toNat_cond] at hy
  rw [e2, BitVec.toInt_eq_toNat_cond, BitVec.toNat_or]
  have h4 := x.toBitVec.isLt
  have h5 := y.toBitVec.isLt
  have h3 : x.toBitVec.toNat ||| y.toBitVec.toNat < 2 ^ n := Nat.or_lt_two_pow (by rw [hN]; split at hx <;> omega) (by rw [hN]; split at hy <;> omega)
  rw [hN] at h3
  split <;> omega
theorem i1_in {x : Int} : 0 ≤ ian x 1 ∧ ian x 1 ≤ 1 := ian_le_r (by decide) (by decide)
theorem nts_in {p b : Int} (h0 : 0 ≤ p) (h1 : p ≤ 255) : 0 ≤ nts p b ∧ nts p b ≤ 255 := by
  have := ian_le (a := p) (b := ixo b (-1)) h0 (by omega)
  unfold nts
  omega
theorem pc8_in {v : Int} : 0 ≤ pc8 v ∧ pc8 v ≤ 8 := by
  unfold pc8
  omega
theorem bc8 : ∀ v : Fin 256, (ian (((ian (((ian ((v.val : Int) - (ian (ius (v.val : Int) 1) 1431655765)) 858993459) + (ian (ius ((v.val : Int) - (ian (ius (v.val : Int) 1) 1431655765)) 2) 858993459)) + (ius ((ian ((v.val : Int) - (ian (ius (v.val : Int) 1) 1431655765)) 858993459) + (ian (ius ((v.val : Int) - (ian (ius (v.val : Int) 1) 1431655765)) 2) 858993459)) 4)) 252645135) + (ius (ian (((ian ((v.val : Int) - (ian (ius (v.val : Int) 1) 1431655765)) 858993459) + (ian (ius ((v.val : Int) - (ian (ius (v.val : Int) 1) 1431655765)) 2) 858993459)) + (ius ((ian ((v.val : Int) - (ian (ius (v.val : Int) 1) 1431655765)) 858993459) + (ian (ius ((v.val : Int) - (ian (ius (v.val : Int) 1) 1431655765)) 2) 858993459)) 4)) 252645135) 8)) + (ius ((ian (((ian ((v.val : Int) - (ian (ius (v.val : Int) 1) 1431655765)) 858993459) + (ian (ius ((v.val : Int) - (ian (ius (v.val : Int) 1) 1431655765)) 2) 858993459)) + (ius ((ian ((v.val : Int) - (ian (ius (v.val : Int) 1) 1431655765)) 858993459) + (ian (ius ((v.val : Int) - (ian (ius (v.val : Int) 1) 1431655765)) 2) 858993459)) 4)) 252645135) + (ius (ian (((ian ((v.val : Int) - (ian (ius (v.val : Int) 1) 1431655765)) 858993459) + (ian (ius ((v.val : Int) - (ian (ius (v.val : Int) 1) 1431655765)) 2) 858993459)) + (ius ((ian ((v.val : Int) - (ian (ius (v.val : Int) 1) 1431655765)) 858993459) + (ian (ius ((v.val : Int) - (ian (ius (v.val : Int) 1) 1431655765)) 2) 858993459)) 4)) 252645135) 8)) 16)) 63) = pc8 (v.val : Int) := by decide +kernel
theorem o8 : ∀ v : Fin 256, itI (fun k a => a + ian (isr (v.val : Int) k) 1) 0 8 0 = pc8 (v.val : Int) := by decide +kernel
theorem by8 {P : Int → Prop} (h : ∀ v : Fin 256, P (v.val : Int)) {v : Int} (hv : 0 ≤ v ∧ v ≤ 255) : P v := by
  have := h ⟨v.toNat, by omega⟩
  have e : ((v.toNat : Nat) : Int) = v := by omega
  rw [← e]
  exact this
section BITS
variable {w : Wd} {Q : Int → Wd → Prop} {v k : Int}
theorem x0_ones (h : 0 ≤ v ∧ v ≤ 255) : wp_X0_ones v w Q = Q (pc8 v) w := by
  have e := by8 (P := fun v => (ian (((ian (((ian (v - (ian (ius v 1) 1431655765)) 858993459) + (ian (ius (v - (ian (ius v 1) 1431655765)) 2) 858993459)) + (ius ((ian (v - (ian (ius v 1) 1431655765)) 858993459) + (ian (ius (v - (ian (ius v 1) 1431655765)) 2) 858993459)) 4)) 252645135) + (ius (ian (((ian (v - (ian (ius v 1) 1431655765)) 858993459) + (ian (ius (v - (ian (ius v 1) 1431655765)) 2) 858993459)) + (ius ((ian (v - (ian (ius v 1) 1431655765)) 858993459) + (ian (ius (v - (ian (ius v 1) 1431655765)) 2) 858993459)) 4)) 252645135) 8)) + (ius ((ian (((ian (v - (ian (ius v 1) 1431655765)) 858993459) + (ian (ius (v - (ian (ius v 1) 1431655765)) 2) 858993459)) + (ius ((ian (v - (ian (ius v 1) 1431655765)) 858993459) + (ian (ius (v - (ian (ius v 1) 1431655765)) 2) 858993459)) 4)) 252645135) + (ius (ian (((ian (v - (ian (ius v 1) 1431655765)) 858993459) + (ian (ius (v - (ian (ius v 1) 1431655765)) 2) 858993459)) + (ius ((ian (v - (ian (ius v 1) 1431655765)) 858993459) + (ian (ius (v - (ian (ius v 1) 1431655765)) 2) 858993459)) 4)) 252645135) 8)) 16)) 63) = pc8 v) bc8 h
  unfold wp_X0_ones wp_J5_bitCount
  exact congrArg (fun z => Q z w) e
theorem x5_ones_4 : ∀ (m fuel : Nat) (a x : Int), x + m = 8 → 0 ≤ x → m < fuel → Q (itI (fun k a => a + ian (isr v k) 1) x m a) w → wp_X5_ones_4 Q v fuel a x w := by
  intro m
  induction m with
  | zero =>
    intro fuel a x h1 h2 h3 hq
    obtain ⟨f, rfl⟩ : ∃ f, fuel = f + 1 := ⟨fuel - 1, by omega⟩
    rw [wp_X5_ones_4]
    exact ⟨⟨by omega, by omega⟩, fun _ => hq, fun z => absurd (by omega) z⟩
  | succ m ih =>
    intro fuel a x h1 h2 h3 hq
    obtain ⟨f, rfl⟩ : ∃ f, fuel = f + 1 := ⟨fuel - 1, by omega⟩
    rw [wp_X5_ones_4]
    refine ⟨⟨by omega, by omega⟩, fun z => absurd z (by omega), fun _ => ?_⟩
    rw [itI_s] at hq
    exact ih f _ _ (by omega) (by omega) (by omega) hq
theorem x5_ones' (h : 0 ≤ v ∧ v ≤ 255) (hq : Q (pc8 v) w) : wp_X5_ones v w Q := by
  have e := by8 (P := fun v => itI (fun k a => a + ian (isr v k) 1) 0 8 0 = pc8 v) o8 h
  unfold wp_X5_ones
  exact x5_ones_4 8 FU 0 0 (by decide) (by decide) (by decide) (by rw [e]; exact hq)
theorem x0_isOf : wp_X0_isOf v k w Q = Q (b2i (ian (isr v k) 1 = 1)) w := by
  have h := i1_in (x := isr v k)
  unfold wp_X0_isOf
  rw [ckI_eq ⟨by omega, by omega⟩]
  by_cases g : ian (isr v k) 1 = 1
  · rw [brF (fun z => z g), zr_1, b2i_t g]
  · rw [brT g, zr_0, b2i_f g]
theorem x5_is : wp_X5_is v k w Q = Q (b2i (ian (isr v k) 1 = 1)) w := by
  have h := i1_in (x := isr v k)
  unfold wp_X5_is
  rw [ckI_eq ⟨by omega, by omega⟩]
  by_cases g : ian (isr v k) 1 = 1
  · rw [brF (fun z => z g), zr_1, b2i_t g]
  · rw [brT g, zr_0, b2i_f g]
end BITS
/-- bit k of a small number set, cleared -/
theorem cl8 : ∀ v : Fin 256, ∀ k : Fin 8, (ian (isr (v.val : Int) (k.val : Int)) 1 = 1 → ian (v.val : Int) (ixo (isl 1 (k.val : Int)) (-1)) = (v.val : Int) - isl 1 (k.val : Int)) ∧ (¬ ian (isr (v.val : Int) (k.val : Int)) 1 = 1 → ian (v.val : Int) (ixo (isl 1 (k.val : Int)) (-1)) = (v.val : Int)) ∧ (¬ ian (isr (v.val : Int) (k.val : Int)) 1 = 1 → ior (v.val : Int) (isl 1 (k.val : Int)) = (v.val : Int) + isl 1 (k.val : Int)) ∧ (0 ≤ ior (v.val : Int) (isl 1 (k.val : Int)) ∧ ior (v.val : Int) (isl 1 (k.val : Int)) ≤ 255) := by decide +kernel
theorem cl8' {v k : Int} (hv : 0 ≤ v ∧ v ≤ 255) (hk : 0 ≤ k ∧ k ≤ 7) : (ian (isr v k) 1 = 1 → ian v (ixo (isl 1 k) (-1)) = v - isl 1 k) ∧ (¬ ian (isr v k) 1 = 1 → ian v (ixo (isl 1 k) (-1)) = v) ∧ (¬ ian (isr v k) 1 = 1 → ior v (isl 1 k) = v + isl 1 k) ∧ (0 ≤ ior v (isl 1 k) ∧ ior v (isl 1 k) ≤ 255) := by
  have := cl8 ⟨v.toNat, by omega⟩ ⟨k.toNat, by omega⟩
  have e : ((v.toNat : Nat) : Int) = v := by omega
  have e2 : ((k.toNat : Nat) : Int) = k := by omega
  rw [← e, ← e2]
  exact this
theorem isl1 {k : Int} (hk : 0 ≤ k ∧ k ≤ 7) : isl 1 k = 2 ^ k.toNat := by
  have : k = 0 ∨ k = 1 ∨ k = 2 ∨ k = 3 ∨ k = 4 ∨ k = 5 ∨ k = 6 ∨ k = 7 := by omega
  rcases this with h | h | h | h | h | h | h | h <;> subst h <;> decide
