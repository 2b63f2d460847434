/-! THE PLAIN LAW: texts: tokens (no machine in sight) -/
set_option maxRecDepth 100000
/-- the end of a run -/
def ruF (T : Int → Int) (N : Int) (P : Int → Bool) : Nat → Int → Int
  | 0, p => p
  | k + 1, p => if p < N ∧ P (T p) = true then ruF T N P k (p + 1) else p
def ruN (T : Int → Int) (N : Int) (P : Int → Bool) (p : Int) : Int := ruF T N P (N - p).toNat p
def blB (c : Int) : Bool := decide (c = 32)
def smB (c : Int) : Bool := decide (97 ≤ c ∧ c ≤ 122)
def dgB (c : Int) : Bool := decide (48 ≤ c ∧ c ≤ 57)
def skN (T : Int → Int) (N p : Int) : Int := ruN T N blB p
def teN (T : Int → Int) (N f : Int) : Int := if f < N ∧ smB (T f) = true then ruN T N smB f else if f < N ∧ dgB (T f) = true then ruN T N dgB f else if f < N then f + 1 else f
/-- from, to, leaves, deep -/
abbrev LX : Type := Int × Int × Int × Int
def nxS (T : Int → Int) (N : Int) (s : LX) : LX := (skN T N s.2.1, teN T N (skN T N s.2.1), s.2.2.1, s.2.2.2)
/-- k signs from f on, the last one first -/
def rcT (T : Int → Int) (f : Int) : Nat → List Int
  | 0 => []
  | k + 1 => T (f + k) :: rcT T f k
def isT (T : Int → Int) (s : LX) (l : List Int) : Bool := decide (rcT T s.1 (s.2.1 - s.1).toNat = l.reverse)
/-- the twin's words -/
def soT (T : Int → Int) (N f : Int) : Int := if N ≤ f then 0 else if smB (T f) = true then 1 else if dgB (T f) = true then 2 else 3
def hsT (T : Int → Int) (f : Int) : Nat → Int
  | 0 => 0
  | k + 1 => if 10 ≤ k then -1 else hsT T f k * 32 + T (f + k) - 96
def dgT (T : Int → Int) (f : Int) : Nat → Int
  | 0 => 0
  | k + 1 => if dgT T f k ≤ 1000000 then dgT T f k * 10 + T (f + k) - 48 else dgT T f k
def woT (T : Int → Int) (N f e : Int) : Int := if soT T N f = 1 then hsT T f (e - f).toNat else if soT T N f = 2 then dgT T f (e - f).toNat else if soT T N f = 3 then T f else 0
def hvR : List Int → Int
  | [] => 0
  | c :: l => hvR l * 32 + c - 96
/-- what a token is -/
def LOK (T : Int → Int) (N : Int) (s : LX) : Prop := (0 ≤ s.1 ∧ s.1 ≤ N) ∧ s.2.1 = teN T N s.1 ∧ (s.1 < N → T s.1 ≠ 32) ∧ (0 ≤ s.2.2.1 ∧ s.2.2.1 ≤ 50) ∧ 0 ≤ s.2.2.2 ∧ s.2.2.2 ≤ 8
section TOK
variable {T : Int → Int} {N p f e q c : Int} {P : Int → Bool} {s : LX} {l : List Int}
theorem ruN_st (h : p < N) (hP : P (T p) = true) : ruN T N P p = ruN T N P (p + 1) := by
  unfold ruN
  have e : (N - p).toNat = (N - (p + 1)).toNat + 1 := by omega
  rw [e]
  exact if_pos ⟨h, hP⟩
theorem ruN_en (h : ¬ (p < N ∧ P (T p) = true)) : ruN T N P p = p := by
  unfold ruN
  cases (N - p).toNat with
  | zero => rfl
  | succ k => exact if_neg h
theorem ruF_sp : ∀ (k : Nat) (p : Int), (p ≤ ruF T N P k p ∧ ruF T N P k p ≤ p + k) ∧ (∀ q, p ≤ q → q < ruF T N P k p → q < N ∧ P (T q) = true) ∧ ((ruF T N P k p < N ∧ P (T (ruF T N P k p)) = true) → ruF T N P k p = p + k) := by
  intro k
  induction k with
  | zero => intro p; exact ⟨⟨Int.le_refl _, by show p ≤ p + ((0 : Nat) : Int); omega⟩, fun q a b => absurd b (by show ¬ q < p; omega), fun _ => by show p = p + ((0 : Nat) : Int); omega⟩
  | succ k ih =>
    intro p
    have g : ruF T N P (k + 1) p = if p < N ∧ P (T p) = true then ruF T N P k (p + 1) else p := rfl
    by_cases h : p < N ∧ P (T p) = true
    · rw [g, if_pos h]
      obtain ⟨⟨a1, a2⟩, a3, a4⟩ := ih (p + 1)
      refine ⟨⟨by omega, by omega⟩, fun q u v => ?_, fun u => by have := a4 u; omega⟩
      by_cases e : q = p
      · rw [e]; exact h
      · exact a3 q (by omega) v
    · rw [g, if_neg h]
      exact ⟨⟨Int.le_refl _, by omega⟩, fun q u v => absurd v (by omega), fun u => absurd u h⟩
theorem ruN_sp (hp : p ≤ N) : (p ≤ ruN T N P p ∧ ruN T N P p ≤ N) ∧ (∀ q, p ≤ q → q < ruN T N P p → P (T q) = true) ∧ ¬ (ruN T N P p < N ∧ P (T (ruN T N P p)) = true) := by
  obtain ⟨⟨a1, a2⟩, a3, a4⟩ := ruF_sp (T := T) (N := N) (P := P) (N - p).toNat p
  refine ⟨⟨a1, ?_⟩, fun q u v => (a3 q u v).2, fun h => ?_⟩
  · show ruF T N P (N - p).toNat p ≤ N; omega
  · have := a4 h
    have h1 : ruF T N P (N - p).toNat p < N := h.1
    omega
theorem skN_sp (hp : p ≤ N) : (p ≤ skN T N p ∧ skN T N p ≤ N) ∧ (skN T N p < N → T (skN T N p) ≠ 32) := by
  obtain ⟨a1, a2, a3⟩ := ruN_sp (T := T) (P := blB) hp
  exact ⟨a1, fun h e => a3 ⟨h, by unfold blB; exact decide_eq_true e⟩⟩
theorem teN_sp (hf : f ≤ N) : (f ≤ teN T N f ∧ teN T N f ≤ N) ∧ (f < N → f < teN T N f) := by
  unfold teN
  by_cases h1 : f < N ∧ smB (T f) = true
  · rw [if_pos h1, ruN_st h1.1 h1.2]
    obtain ⟨a1, a2, a3⟩ := ruN_sp (T := T) (P := smB) (p := f + 1) (N := N) (by omega)
    omega
  · rw [if_neg h1]
    by_cases h2 : f < N ∧ dgB (T f) = true
    · rw [if_pos h2, ruN_st h2.1 h2.2]
      obtain ⟨a1, a2, a3⟩ := ruN_sp (T := T) (P := dgB) (p := f + 1) (N := N) (by omega)
      omega
    · rw [if_neg h2]
      split <;> omega
theorem LOK.to (h : LOK T N s) : (s.1 ≤ s.2.1 ∧ s.2.1 ≤ N) ∧ (s.1 < N → s.1 < s.2.1) := by
  rw [h.2.1]
  exact teN_sp h.1.2
theorem LOK.nx (h : LOK T N s) : LOK T N (nxS T N s) ∧ s.2.1 ≤ (nxS T N s).1 := by
  have t := h.to
  obtain ⟨a1, a2⟩ := skN_sp (T := T) t.1.2
  obtain ⟨h1, h2, h3, h4⟩ := h
  exact ⟨⟨⟨by show 0 ≤ skN T N s.2.1; omega, a1.2⟩, rfl, a2, h4⟩, a1.1⟩
theorem rcT_len : ∀ k : Nat, (rcT T f k).length = k := by
  intro k
  induction k with
  | zero => rfl
  | succ k ih => show (rcT T f k).length + 1 = k + 1; rw [ih]
theorem isT_len (h : isT T s l = true) : (s.2.1 - s.1).toNat = l.length := by
  unfold isT at h
  have h := of_decide_eq_true h
  have := congrArg List.length h
  rw [rcT_len, List.length_reverse] at this
  exact this
/-- by places -/
theorem rcT_iff : ∀ (n : Nat) (l : List Int), rcT T f n = l.reverse ↔ n = l.length ∧ ∀ k : Nat, k < n → T (f + k) = l.getD k 0 := by
  intro n
  induction n with
  | zero =>
    intro l
    constructor
    · intro h
      have : l.reverse.length = 0 := by rw [← h]; rfl
      rw [List.length_reverse] at this
      exact ⟨this.symm, fun k hk => absurd hk (by omega)⟩
    · intro h
      have : l = [] := List.eq_nil_of_length_eq_zero h.1.symm
      rw [this]; rfl
  | succ n ih =>
    intro l
    rcases List.eq_nil_or_concat l with h | ⟨l', c, h⟩
    · subst h
      constructor
      · intro h; cases h
      · intro h; exact absurd h.1 (by show ¬ n + 1 = 0; omega)
    · subst h
      rw [List.concat_eq_append, List.reverse_append]
      show T (f + n) :: rcT T f n = c :: l'.reverse ↔ _
      rw [List.cons.injEq, ih l', List.length_append]
      show _ ↔ n + 1 = l'.length + 1 ∧ _
      constructor
      · rintro ⟨h1, h2, h3⟩
        refine ⟨by omega, fun k hk => ?_⟩
        by_cases e : k = n
        · subst e
          rw [h1, List.getD_eq_getElem?_getD, List.getElem?_append_right (by omega), ← h2]
          simp
        · rw [h3 k (by omega), List.getD_eq_getElem?_getD, List.getD_eq_getElem?_getD, List.getElem?_append_left (by omega)]
      · rintro ⟨h1, h2⟩
        refine ⟨?_, by omega, fun k hk => ?_⟩
        · rw [h2 n (by omega), List.getD_eq_getElem?_getD, List.getElem?_append_right (by omega)]
          have : n - l'.length = 0 := by omega
          rw [this]; rfl
        · rw [h2 k (by omega), List.getD_eq_getElem?_getD, List.getD_eq_getElem?_getD, List.getElem?_append_left (by omega)]
theorem hvR_in : ∀ l : List Int, (∀ c ∈ l, 97 ≤ c ∧ c ≤ 122) → 0 ≤ hvR l := by
  intro l
  induction l with
  | nil => intro _; exact Int.le_refl _
  | cons c l ih =>
    intro h
    have h1 := h c List.mem_cons_self
    have h2 := ih (fun x hx => h x (List.mem_cons_of_mem _ hx))
    show 0 ≤ hvR l * 32 + c - 96
    omega
theorem hvR_inj : ∀ l m : List Int, (∀ c ∈ l, 97 ≤ c ∧ c ≤ 122) → (∀ c ∈ m, 97 ≤ c ∧ c ≤ 122) → hvR l = hvR m → l = m := by
  intro l
  induction l with
  | nil =>
    intro m _ hm h
    cases m with
    | nil => rfl
    | cons c m =>
      have h1 := hm c List.mem_cons_self
      have h2 := hvR_in m (fun x hx => hm x (List.mem_cons_of_mem _ hx))
      have h : 0 = hvR m * 32 + c - 96 := h
      omega
  | cons d l ih =>
    intro m hl hm h
    have g1 := hl d List.mem_cons_self
    have g2 := hvR_in l (fun x hx => hl x (List.mem_cons_of_mem _ hx))
    cases m with
    | nil =>
      have h : hvR l * 32 + d - 96 = 0 := h
      omega
    | cons c m =>
      have h1 := hm c List.mem_cons_self
      have h2 := hvR_in m (fun x hx => hm x (List.mem_cons_of_mem _ hx))
      have h : hvR l * 32 + d - 96 = hvR m * 32 + c - 96 := h
      have e1 : d = c := by omega
      have e2 : hvR l = hvR m := by omega
      rw [e1, ih m (fun x hx => hl x (List.mem_cons_of_mem _ hx)) (fun x hx => hm x (List.mem_cons_of_mem _ hx)) e2]
theorem hsT_hv : ∀ k : Nat, k ≤ 10 → hsT T f k = hvR (rcT T f k) := by
  intro k
  induction k with
  | zero => intro _; rfl
  | succ k ih =>
    intro h
    show (if 10 ≤ k then -1 else hsT T f k * 32 + T (f + k) - 96) = hvR (rcT T f k) * 32 + T (f + k) - 96
    rw [if_neg (by omega), ih (by omega)]
theorem hsT_big {k : Nat} (h : 10 < k) : hsT T f k = -1 := by
  obtain ⟨j, rfl⟩ : ∃ j, k = j + 1 := ⟨k - 1, by omega⟩
  exact if_pos (by omega)
theorem rcT_mem : ∀ (k : Nat) (c : Int), c ∈ rcT T f k → ∃ j : Nat, j < k ∧ c = T (f + j) := by
  intro k
  induction k with
  | zero => intro c h; cases h
  | succ k ih =>
    intro c h
    rcases List.mem_cons.mp h with h | h
    · exact ⟨k, by omega, h⟩
    · obtain ⟨j, h1, h2⟩ := ih c h
      exact ⟨j, by omega, h2⟩
/-- a word: by signs, by its number -/
theorem word_iff (h : LOK T N s) (h1 : 1 ≤ l.length) (h10 : l.length ≤ 10) (hl : ∀ c ∈ l, 97 ≤ c ∧ c ≤ 122) : (soT T N s.1 = 1 ∧ woT T N s.1 s.2.1 = hvR l.reverse) ↔ isT T s l = true := by
  have t := h.to
  have hlr : ∀ c ∈ l.reverse, 97 ≤ c ∧ c ≤ 122 := fun c hc => hl c (List.mem_reverse.mp hc)
  unfold isT
  rw [decide_eq_true_iff]
  constructor
  · rintro ⟨a1, a2⟩
    unfold woT at a2
    rw [if_pos a1] at a2
    have hn := hvR_in l.reverse hlr
    have small : s.1 < N ∧ smB (T s.1) = true := by
      unfold soT at a1
      by_cases g : N ≤ s.1
      · rw [if_pos g] at a1; exact absurd a1 (by decide)
      · rw [if_neg g] at a1
        by_cases g2 : smB (T s.1) = true
        · exact ⟨by omega, g2⟩
        · rw [if_neg g2] at a1
          split at a1 <;> exact absurd a1 (by decide)
    have ee : s.2.1 = ruN T N smB s.1 := by
      rw [h.2.1]; unfold teN; rw [if_pos small]
    obtain ⟨_, r2, _⟩ := ruN_sp (T := T) (P := smB) (p := s.1) (N := N) h.1.2
    rw [← ee] at r2
    by_cases g : 10 < (s.2.1 - s.1).toNat
    · rw [hsT_big g] at a2; omega
    · rw [hsT_hv _ (by omega)] at a2
      refine hvR_inj _ _ (fun c hc => ?_) hlr a2
      obtain ⟨j, j1, j2⟩ := rcT_mem _ _ hc
      have := r2 (s.1 + j) (by omega) (by omega)
      rw [← j2] at this
      unfold smB at this
      exact of_decide_eq_true this
  · intro a
    have hn := congrArg List.length a
    rw [rcT_len, List.length_reverse] at hn
    have g := (rcT_iff _ l).mp a
    have g0 := g.2 0 (by omega)
    have m0 : T s.1 ∈ l := by
      have e : s.1 + ((0 : Nat) : Int) = s.1 := by omega
      rw [e] at g0
      rw [g0, List.getD_eq_getElem?_getD]
      rw [List.getElem?_eq_getElem (show 0 < l.length by omega)]
      exact List.getElem_mem _
    have sm : smB (T s.1) = true := by unfold smB; exact decide_eq_true (hl _ m0)
    have so1 : soT T N s.1 = 1 := by
      unfold soT
      rw [if_neg (by omega), if_pos sm]
    refine ⟨so1, ?_⟩
    unfold woT
    rw [if_pos so1, hsT_hv _ (by omega), a]
theorem sign_iff (h : LOK T N s) (hc : ¬ (97 ≤ c ∧ c ≤ 122) ∧ ¬ (48 ≤ c ∧ c ≤ 57)) : (soT T N s.1 = 3 ∧ woT T N s.1 s.2.1 = c) ↔ isT T s [c] = true := by
  have t := h.to
  unfold isT
  rw [decide_eq_true_iff]
  show _ ↔ rcT T s.1 (s.2.1 - s.1).toNat = [c]
  constructor
  · rintro ⟨a1, a2⟩
    unfold woT at a2
    rw [if_neg (by omega), if_neg (by omega), if_pos a1] at a2
    unfold soT at a1
    by_cases g : N ≤ s.1
    · rw [if_pos g] at a1; exact absurd a1 (by decide)
    · rw [if_neg g] at a1
      by_cases g2 : smB (T s.1) = true
      · rw [if_pos g2] at a1; exact absurd a1 (by decide)
      · rw [if_neg g2] at a1
        by_cases g3 : dgB (T s.1) = true
        · rw [if_pos g3] at a1; exact absurd a1 (by decide)
        · have ee : s.2.1 = s.1 + 1 := by
            rw [h.2.1]; unfold teN
            rw [if_neg (fun y => g2 y.2), if_neg (fun y => g3 y.2), if_pos (by omega)]
          have e1 : (s.2.1 - s.1).toNat = 1 := by omega
          rw [e1]
          show [T (s.1 + ((0 : Nat) : Int))] = [c]
          rw [← a2]
          exact congrArg (fun x => [T x]) (by omega)
  · intro a
    have hn := congrArg List.length a
    rw [rcT_len] at hn
    have hn : (s.2.1 - s.1).toNat = 1 := hn
    rw [hn] at a
    have a : [T (s.1 + ((0 : Nat) : Int))] = [c] := a
    have e0 : s.1 + ((0 : Nat) : Int) = s.1 := by omega
    rw [e0] at a
    have ec : T s.1 = c := by injection a
    have n1 : ¬ smB (T s.1) = true := by unfold smB; rw [ec]; simpa using hc.1
    have n2 : ¬ dgB (T s.1) = true := by unfold dgB; rw [ec]; simpa using hc.2
    have so3 : soT T N s.1 = 3 := by
      unfold soT
      rw [if_neg (by omega), if_neg n1, if_neg n2]
    refine ⟨so3, ?_⟩
    unfold woT
    rw [if_neg (by omega), if_neg (by omega), if_pos so3, ec]
/-- digits -/
def tvT (T : Int → Int) (f : Int) : Nat → Int
  | 0 => 0
  | k + 1 => 10 * tvT T f k + T (f + k) - 48
theorem tvT_up (hd : ∀ j : Nat, 48 ≤ T (f + j)) : ∀ k : Nat, 0 ≤ tvT T f k := by
  intro k
  induction k with
  | zero => exact Int.le_refl _
  | succ k ih => have := hd k; show 0 ≤ 10 * tvT T f k + T (f + k) - 48; omega
end TOK
