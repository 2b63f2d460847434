/-! THE PLAIN LAW: bits one by one; two boxes together -/
set_option maxRecDepth 100000
def tI (x : Bool) : Int := if x then 1 else 0
def tb (v : Int) (t : Nat) : Bool := (Int32.ofInt v).toBitVec.getLsbD t
theorem tb_and (a b : Int) (t : Nat) : tb (ian a b) t = (tb a t && tb b t) := by
  unfold tb ian
  rw [Int32.ofInt_toInt]
  exact BitVec.getLsbD_and
theorem tb_or (a b : Int) (t : Nat) : tb (ior a b) t = (tb a t || tb b t) := by
  unfold tb ior
  rw [Int32.ofInt_toInt]
  exact BitVec.getLsbD_or
theorem tb_xor (a b : Int) (t : Nat) : tb (ixo a b) t = (tb a t ^^ tb b t) := by
  unfold tb ixo
  rw [Int32.ofInt_toInt]
  exact BitVec.getLsbD_xor
theorem tb_m1 : ∀ t : Fin 8, tb (-1) t.val = true := by decide +kernel
theorem tb_isl : ∀ (u : Fin 256) (t : Fin 8), tb (isl (u.val : Int) 1) t.val = (decide (1 ≤ t.val) && tb (u.val : Int) (t.val - 1)) := by decide +kernel
theorem tb_isr : ∀ (u : Fin 256) (t : Fin 8), tb (isr (u.val : Int) 1) t.val = tb (u.val : Int) (t.val + 1) := by decide +kernel
theorem tb_bit : ∀ (u : Fin 256) (t : Fin 8), ian (isr (u.val : Int) (t.val : Int)) 1 = tI (tb (u.val : Int) t.val) := by decide +kernel
theorem tb_pc : ∀ u : Fin 256, pc8 (u.val : Int) = tI (tb (u.val : Int) 0) + tI (tb (u.val : Int) 1) + tI (tb (u.val : Int) 2) + tI (tb (u.val : Int) 3) + tI (tb (u.val : Int) 4) + tI (tb (u.val : Int) 5) + tI (tb (u.val : Int) 6) + tI (tb (u.val : Int) 7) := by decide +kernel
theorem tb_va : ∀ u : Fin 256, (u.val : Int) = tI (tb (u.val : Int) 0) + 2 * tI (tb (u.val : Int) 1) + 4 * tI (tb (u.val : Int) 2) + 8 * tI (tb (u.val : Int) 3) + 16 * tI (tb (u.val : Int) 4) + 32 * tI (tb (u.val : Int) 5) + 64 * tI (tb (u.val : Int) 6) + 128 * tI (tb (u.val : Int) 7) := by decide +kernel
theorem tb_hi : ∀ (u : Fin 256), tb (u.val : Int) 8 = false := by decide +kernel
theorem tb_ma : ∀ (t j : Fin 8), tb (ior (isl 1 ((t.val : Int) + 1)) (isr (isl 1 (t.val : Int)) 1)) j.val = (decide (j.val = t.val + 1) || decide (j.val + 1 = t.val)) := by decide +kernel
theorem by88 {P : Int → Nat → Prop} (h : ∀ (v : Fin 256) (t : Fin 8), P (v.val : Int) t.val) {v : Int} {t : Nat} (hv : 0 ≤ v ∧ v ≤ 255) (ht : t < 8) : P v t := by
  have := h ⟨v.toNat, by omega⟩ ⟨t, ht⟩
  have e : ((v.toNat : Nat) : Int) = v := by omega
  rw [← e]
  exact this
theorem tb_isl' {u : Int} {t : Nat} (h : 0 ≤ u ∧ u ≤ 255) (ht : t < 8) : tb (isl u 1) t = (decide (1 ≤ t) && tb u (t - 1)) := by88 (P := fun u t => tb (isl u 1) t = (decide (1 ≤ t) && tb u (t - 1))) tb_isl h ht
theorem tb_isr' {u : Int} {t : Nat} (h : 0 ≤ u ∧ u ≤ 255) (ht : t < 8) : tb (isr u 1) t = tb u (t + 1) := by88 (P := fun u t => tb (isr u 1) t = tb u (t + 1)) tb_isr h ht
theorem tb_bit' {u : Int} {t : Nat} (h : 0 ≤ u ∧ u ≤ 255) (ht : t < 8) : ian (isr u (t : Int)) 1 = tI (tb u t) := by88 (P := fun u t => ian (isr u (t : Int)) 1 = tI (tb u t)) tb_bit h ht
theorem tb_pc' {u : Int} (h : 0 ≤ u ∧ u ≤ 255) : pc8 u = tI (tb u 0) + tI (tb u 1) + tI (tb u 2) + tI (tb u 3) + tI (tb u 4) + tI (tb u 5) + tI (tb u 6) + tI (tb u 7) := by8 (P := fun u => pc8 u = tI (tb u 0) + tI (tb u 1) + tI (tb u 2) + tI (tb u 3) + tI (tb u 4) + tI (tb u 5) + tI (tb u 6) + tI (tb u 7)) tb_pc h
theorem tb_ext {u v : Int} (h : 0 ≤ u ∧ u ≤ 255) (h2 : 0 ≤ v ∧ v ≤ 255) (e : ∀ t, t < 8 → tb u t = tb v t) : u = v := by
  have a := by8 (P := fun u => u = tI (tb u 0) + 2 * tI (tb u 1) + 4 * tI (tb u 2) + 8 * tI (tb u 3) + 16 * tI (tb u 4) + 32 * tI (tb u 5) + 64 * tI (tb u 6) + 128 * tI (tb u 7)) tb_va h
  have b := by8 (P := fun u => u = tI (tb u 0) + 2 * tI (tb u 1) + 4 * tI (tb u 2) + 8 * tI (tb u 3) + 16 * tI (tb u 4) + 32 * tI (tb u 5) + 64 * tI (tb u 6) + 128 * tI (tb u 7)) tb_va h2
  rw [a, b, e 0 (by decide), e 1 (by decide), e 2 (by decide), e 3 (by decide), e 4 (by decide), e 5 (by decide), e 6 (by decide), e 7 (by decide)]
theorem tb_hi' {u : Int} (h : 0 ≤ u ∧ u ≤ 255) : tb u 8 = false := by8 (P := fun u => tb u 8 = false) tb_hi h
theorem tI_and (x y : Bool) : tI (x && y) = if x = true then tI y else 0 := by cases x <;> rfl
theorem tI_1 {x : Bool} : tI x = 1 ↔ x = true := by cases x <;> decide
/-- notes of the one beside a note of the other at tooth t -/
def nearV (v u t : Int) : Int := if ian (isr v t) 1 = 1 then ian u (ior (isl 1 (t + 1)) (isr (isl 1 t) 1)) else 0
theorem nearV_in {v u t : Int} (h : 0 ≤ u ∧ u ≤ 255) : 0 ≤ nearV v u t ∧ nearV v u t ≤ 255 := by
  unfold nearV
  have := ian_le (a := u) (b := ior (isl 1 (t + 1)) (isr (isl 1 t) 1)) h.1 (by omega)
  split <;> omega
theorem nearV_tb {v u : Int} {t j : Nat} (hv : 0 ≤ v ∧ v ≤ 255) (ht : t < 8) (hj : j < 8) : tb (nearV v u t) j = (tb v t && tb u j && (decide (j = t + 1) || decide (j + 1 = t))) := by
  unfold nearV
  rw [tb_bit' hv ht]
  have m := tb_ma ⟨t, ht⟩ ⟨j, hj⟩
  dsimp only at m
  by_cases z : tb v t = true
  · rw [if_pos (tI_1.mpr z), tb_and, m, z]
    simp
  · rw [if_neg (fun q => z (tI_1.mp q))]
    have z : tb v t = false := by simpa using z
    rw [z]
    have : tb 0 j = false := by unfold tb; simp
    simp [this]
theorem near_pc {v u : Int} {t : Nat} (hv : 0 ≤ v ∧ v ≤ 255) (hu : 0 ≤ u ∧ u ≤ 255) (ht : t < 8) : pc8 (nearV v u t) = if tb v t = true then tI (decide (1 ≤ t) && tb u (t - 1)) + tI (tb u (t + 1)) else 0 := by
  have h := nearV_in (v := v) (u := u) (t := t) hu
  have h8 := tb_hi' hu
  rw [tb_pc' h]
  by_cases z : tb v t = true
  · rw [if_pos z]
    have e : ∀ j, j < 8 → tb (nearV v u t) j = (tb u j && (decide (j = t + 1) || decide (j + 1 = t))) := fun j hj => by rw [nearV_tb hv ht hj, z]; simp
    rw [e 0 (by decide), e 1 (by decide), e 2 (by decide), e 3 (by decide), e 4 (by decide), e 5 (by decide), e 6 (by decide), e 7 (by decide)]
    have : t = 0 ∨ t = 1 ∨ t = 2 ∨ t = 3 ∨ t = 4 ∨ t = 5 ∨ t = 6 ∨ t = 7 := by omega
    rcases this with q | q | q | q | q | q | q | q <;> subst q <;> simp [tI, h8] <;> omega
  · rw [if_neg z]
    have z : tb v t = false := by simpa using z
    have e : ∀ j, j < 8 → tb (nearV v u t) j = false := fun j hj => by rw [nearV_tb hv ht hj, z]; simp
    rw [e 0 (by decide), e 1 (by decide), e 2 (by decide), e 3 (by decide), e 4 (by decide), e 5 (by decide), e 6 (by decide), e 7 (by decide)]
    rfl
theorem clash_bar {v u : Int} (hv : 0 ≤ v ∧ v ≤ 255) (hu : 0 ≤ u ∧ u ≤ 255) (a : Int) : itI (fun t a => a + pc8 (nearV v u t)) 0 8 a = a + (pc8 (ian v (isl u 1)) + pc8 (ian v (isr u 1))) := by
  have h1 := ian_le (a := v) (b := isl u 1) hv.1 (by omega)
  have h2 := ian_le (a := v) (b := isr u 1) hv.1 (by omega)
  have e1 : ∀ t : Nat, t < 8 → tb (ian v (isl u 1)) t = (tb v t && (decide (1 ≤ t) && tb u (t - 1))) := fun t ht => by rw [tb_and, tb_isl' hu ht]
  have e2 : ∀ t : Nat, t < 8 → tb (ian v (isr u 1)) t = (tb v t && tb u (t + 1)) := fun t ht => by rw [tb_and, tb_isr' hu ht]
  rw [tb_pc' (u := ian v (isl u 1)) (by omega), tb_pc' (u := ian v (isr u 1)) (by omega)]
  rw [e1 0 (by decide), e1 1 (by decide), e1 2 (by decide), e1 3 (by decide), e1 4 (by decide), e1 5 (by decide), e1 6 (by decide), e1 7 (by decide)]
  rw [e2 0 (by decide), e2 1 (by decide), e2 2 (by decide), e2 3 (by decide), e2 4 (by decide), e2 5 (by decide), e2 6 (by decide), e2 7 (by decide)]
  have p : ∀ t : Nat, t < 8 → pc8 (nearV v u t) = tI (tb v t && (decide (1 ≤ t) && tb u (t - 1))) + tI (tb v t && tb u (t + 1)) := fun t ht => by
    rw [near_pc hv hu ht]
    cases tb v t
    · rfl
    · simp
  have q : itI (fun t a => a + pc8 (nearV v u t)) 0 8 a = a + pc8 (nearV v u ((0 : Nat) : Int)) + pc8 (nearV v u ((1 : Nat) : Int)) + pc8 (nearV v u ((2 : Nat) : Int)) + pc8 (nearV v u ((3 : Nat) : Int)) + pc8 (nearV v u ((4 : Nat) : Int)) + pc8 (nearV v u ((5 : Nat) : Int)) + pc8 (nearV v u ((6 : Nat) : Int)) + pc8 (nearV v u ((7 : Nat) : Int)) := rfl
  rw [q, p 0 (by decide), p 1 (by decide), p 2 (by decide), p 3 (by decide), p 4 (by decide), p 5 (by decide), p 6 (by decide), p 7 (by decide)]
  omega
