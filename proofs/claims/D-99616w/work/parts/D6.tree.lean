/-! THE PLAIN LAW: texts: trees beside their code -/
set_option maxRecDepth 100000
/-- from place a on the code E is what op, ar tell -/
def AGR (op ar : Int → Int) (E : OPS) (a : Nat) : Prop := ∀ (i : Nat) (c : Int × Int), a ≤ i → E[i]? = some c → op i = c.1 ∧ ar i = c.2
def WFS (ord : Bool) : Su → Prop
  | .inner 0 v _ _ _ => 0 ≤ v ∧ v ≤ 1000
  | .inner 1 v _ _ _ => 0 ≤ v ∧ (if ord = true then v < 16 else v < 9)
  | .leaf => False
  | .inner (_ + 2) sg _ l r => (sg = 43 ∨ sg = 45 ∨ sg = 42 ∨ sg = 47 ∨ sg = 37) ∧ WFS ord l ∧ WFS ord r
def WFB (ord : Bool) (R : Te → Prop) : TeW → Prop
  | .inl (sg, l, r) => (sg = 60 ∨ sg = 62 ∨ sg = 61) ∧ (WFS ord l ∧ dpU l ≤ 60) ∧ WFS ord r ∧ dpU r ≤ 60
  | .inr (.inl (_, t)) => R t
  | .inr (.inr (all, ts)) => (all = 0 ∨ all = 1) ∧ 2 ≤ ts.length ∧ ∀ t, t ∈ ts → R t
def WFT (ord : Bool) : Nat → Te → Prop
  | 0, _ => False
  | m + 1, x => WFB ord (WFT ord m) (teV x)
section TREE
variable {ord : Bool} {w : Wd} {F : Nat → Prop} {op ar : Int → Int} {E D X Y C : OPS} {a b : Nat} {all : Int}
theorem AGR.pre (h : AGR op ar (D ++ X) a) : AGR op ar D a := fun i c hi hc => h i c hi (by
  rw [List.getElem?_append_left (List.getElem?_eq_some_iff.mp hc).1]
  exact hc)
theorem AGR.up (h : AGR op ar E a) (hb : a ≤ b) : AGR op ar E b := fun i c hi hc => h i c (by omega) hc
theorem AGR.at {p : Int × Int} (h : AGR op ar (D ++ p :: Y) a) (ha : a ≤ D.length) : op (D.length : Nat) = p.1 ∧ ar (D.length : Nat) = p.2 := h D.length p ha (by
  rw [List.getElem?_append_right (Nat.le_refl _), Nat.sub_self]
  rfl)
theorem sumR_of : ∀ (x : Su) (k : Nat) (C : OPS) (n : Nat), SuA F w x k → WFS ord x → dpU x ≤ n → AGR op ar (apS ord x C) C.length → SumR w ord op ar n k (C.length : Nat) ((apS ord x C).length : Nat) := by
  intro x
  induction x with
  | leaf => intro k C n h; exact h.elim
  | inner m v u l r il ir =>
  rcases m with _ | _ | m
  · intro k C n h hw hd hA
    obtain ⟨⟨a1, a2⟩, a3, a4⟩ := h
    have hd : 1 ≤ n := hd
    obtain ⟨n, rfl⟩ : ∃ n', n = n' + 1 := ⟨n - 1, by omega⟩
    have hA : AGR op ar (C ++ (0, v) :: []) C.length := hA
    have g := hA.at (Nat.le_refl _)
    have hw : 0 ≤ v ∧ v ≤ 1000 := hw
    have el : ((apS ord (.inner 0 v u l r) C).length : Int) = (C.length : Nat) + 1 := by
      show (((C ++ [(0, v)]).length : Nat) : Int) = _
      rw [List.length_append]
      rfl
    exact ⟨a2, Or.inl ⟨a3, el, g.1, g.2.trans a4.symm, by rw [g.2]; exact hw.1, by rw [g.2]; exact hw.2⟩⟩
  · intro k C n h hw hd hA
    obtain ⟨⟨a1, a2⟩, a3, a4⟩ := h
    have hd : 1 ≤ n := hd
    obtain ⟨n, rfl⟩ : ∃ n', n = n' + 1 := ⟨n - 1, by omega⟩
    have hA : AGR op ar (C ++ leC ord v :: []) C.length := hA
    have g := hA.at (Nat.le_refl _)
    have hw : 0 ≤ v ∧ (if ord = true then v < 16 else v < 9) := hw
    have el : ((apS ord (.inner 1 v u l r) C).length : Int) = (C.length : Nat) + 1 := by
      show (((C ++ [leC ord v]).length : Nat) : Int) = _
      rw [List.length_append]
      rfl
    have a4 : gV w k 0 = v := a4
    refine ⟨a2, Or.inr (Or.inl ⟨a3, el, by rw [a4]; exact hw.1, ?_⟩)⟩
    rw [g.1, g.2, a4]
    obtain ⟨h0, hw⟩ := hw
    unfold valOp leC
    cases ord with
    | false =>
      have hw : v < 9 := hw
      exact ⟨hw, rfl, rfl⟩
    | true =>
      have hw : v < 16 := hw
      rw [if_pos rfl, if_pos rfl]
      by_cases z1 : v < 4
      · rw [if_pos z1]; exact Or.inl ⟨z1, rfl, rfl⟩
      · rw [if_neg z1]
        by_cases z2 : v < 10
        · rw [if_pos z2]; exact Or.inr (Or.inl ⟨by omega, z2, rfl, rfl⟩)
        · rw [if_neg z2]; exact Or.inr (Or.inr ⟨by omega, hw, rfl, rfl⟩)
  · intro k C n h hw hd hA
    obtain ⟨⟨a1, a2⟩, a3, a4, kl, kr, a5, a6, a7, a8⟩ := h
    have hd : max (dpU l) (dpU r) + 1 ≤ n := hd
    obtain ⟨n, rfl⟩ : ∃ n', n = n' + 1 := ⟨n - 1, by omega⟩
    obtain ⟨h1, h2, h3⟩ := hw
    obtain ⟨X, eX, _⟩ := apS_pre (ord := ord) l C
    obtain ⟨Y, eY, _⟩ := apS_pre (ord := ord) r (apS ord l C)
    have hA : AGR op ar (apS ord r (apS ord l C) ++ (sgOp v, 0) :: []) C.length := hA
    have lX : C.length ≤ (apS ord l C).length := by rw [eX, List.length_append]; omega
    have lY : (apS ord l C).length ≤ (apS ord r (apS ord l C)).length := by rw [eY, List.length_append]; omega
    have A1 := hA.pre
    have A2 : AGR op ar (apS ord l C) C.length := by rw [eY] at A1; exact A1.pre
    have g := hA.at (by omega)
    have el : ((apS ord (.inner (m + 1 + 1) v u l r) C).length : Int) - 1 = ((apS ord r (apS ord l C)).length : Nat) := by
      show (((apS ord r (apS ord l C) ++ [(sgOp v, 0)]).length : Nat) : Int) - 1 = _
      rw [List.length_append]
      show (((apS ord r (apS ord l C)).length + 1 : Nat) : Int) - 1 = _
      omega
    have a4 : gV w k 0 = v := a4
    refine ⟨a2, Or.inr (Or.inr ⟨a3, by rw [a4]; exact h1, by rw [el, a4]; exact g.1, kl, kr, ((apS ord l C).length : Nat), a5, a6, il kl C n a7 h2 (by omega) A2, ?_⟩)⟩
    rw [el]
    exact ir kr (apS ord l C) n a8 h3 (by omega) (A1.up lX)
theorem stp_eq {t : Te} (h : apT ord t (D ++ [(30 - all, 0)]) = (D ++ [(30 - all, 0)]) ++ Y) : stp ord all t D = D ++ (30 - all, ((D.length + 1 + Y.length : Nat) : Int)) :: Y := by
  unfold stp setA
  rw [h]
  have e1 : (D ++ [(30 - all, (0 : Int))]) ++ Y = D ++ (30 - all, 0) :: Y := by rw [List.append_assoc]; rfl
  have e2 : ((D.length : Nat) : Int).toNat = D.length := rfl
  rw [e1, e2, List.set_append_right _ _ (Nat.le_refl _), Nat.sub_self]
  have e3 : (D ++ (30 - all, (0 : Int)) :: Y).getD D.length (0, 0) = (30 - all, 0) := by
    rw [List.getD_eq_getElem?_getD, List.getElem?_append_right (Nat.le_refl _), Nat.sub_self]
    rfl
  rw [e3, List.length_append]
  have e4 : D.length + ((30 - all, (0 : Int)) :: Y).length = D.length + 1 + Y.length := by
    show D.length + (Y.length + 1) = _
    omega
  rw [e4]
  rfl
theorem apT_pre : ∀ (x : Te) (C : OPS), ∃ X, apT ord x C = C ++ X := by
  intro x
  induction x with
  | leaf => intro C; exact ⟨[], (List.append_nil _).symm⟩
  | inner n a p l r il ir =>
  rcases n with _ | _ | _ | n
  · intro C
    obtain ⟨X, eX, _⟩ := apS_pre (ord := ord) p.1 C
    obtain ⟨Y, eY, _⟩ := apS_pre (ord := ord) p.2 (apS ord p.1 C)
    refine ⟨X ++ (Y ++ [(cmOp a, 0)]), ?_⟩
    show apS ord p.2 (apS ord p.1 C) ++ [(cmOp a, 0)] = _
    rw [eY, eX, List.append_assoc, List.append_assoc]
  · intro C; exact ⟨[], (List.append_nil _).symm⟩
  · intro C
    show ∃ X, (if teL a l = [] then apT ord r C else stp ord a r (apT ord l C)) = C ++ X
    by_cases z : teL a l = []
    · rw [if_pos z]; exact ir C
    · rw [if_neg z]
      obtain ⟨X, eX⟩ := il C
      obtain ⟨Y, eY⟩ := ir (apT ord l C ++ [(30 - a, 0)])
      rw [stp_eq eY, eX, List.append_assoc]
      exact ⟨_, rfl⟩
  · intro C
    obtain ⟨X, eX⟩ := il C
    refine ⟨X ++ List.replicate n (28, 0), ?_⟩
    show apT ord l C ++ List.replicate n (28, 0) = _
    rw [eX, List.append_assoc]
theorem fold_pre : ∀ (l : List Te) (D : OPS), ∃ X, l.foldl (fun D u => stp ord all u D) D = D ++ X := by
  intro l
  induction l with
  | nil => intro D; exact ⟨[], (List.append_nil _).symm⟩
  | cons t l ih =>
    intro D
    obtain ⟨Y, eY⟩ := apT_pre (ord := ord) t (D ++ [(30 - all, 0)])
    obtain ⟨X, eX⟩ := ih (stp ord all t D)
    refine ⟨(30 - all, ((D.length + 1 + Y.length : Nat) : Int)) :: Y ++ X, ?_⟩
    show l.foldl (fun D u => stp ord all u D) (stp ord all t D) = _
    rw [eX, stp_eq eY, List.append_assoc]
theorem apL_app {l1 l2 : List Te} (h : l1 ≠ []) : apL ord all (l1 ++ l2) C = l2.foldl (fun D u => stp ord all u D) (apL ord all l1 C) := by
  cases l1 with
  | nil => exact absurd rfl h
  | cons u ts =>
    show (ts ++ l2).foldl (fun D u => stp ord all u D) (apT ord u C) = _
    rw [List.foldl_append]
    rfl
theorem apT_Vc {x : Te} {sg : Int} {l r : Su} (h : teV x = .inl (sg, l, r)) (C : OPS) : apT ord x C = apS ord r (apS ord l C) ++ [(cmOp sg, 0)] := by
  cases x with
  | leaf => cases h
  | inner n a p l r =>
    rcases n with _ | _ | _ | n
    · injection h with h; injection h with h1 h2; subst h1; subst h2; rfl
    · cases h
    · cases h
    · cases h
theorem apT_Vn {x t : Te} {q : Nat} (h : teV x = .inr (.inl (q, t))) (C : OPS) : apT ord x C = apT ord t C ++ List.replicate q (28, 0) := by
  cases x with
  | leaf => injection h with h; cases h
  | inner n a p l r =>
    rcases n with _ | _ | _ | n
    · cases h
    · injection h with h; cases h
    · injection h with h; cases h
    · injection h with h; injection h with h; injection h with h1 h2; subst h1; subst h2; rfl
theorem TestR.up : ∀ (n k : Nat) (a b : Int), TestR w ord op ar n k a b → TestR w ord op ar (n + 1) k a b := by
  intro n
  induction n with
  | zero => intro k a b h; exact h.elim
  | succ n ih =>
    intro k a b h
    obtain ⟨h1, c, q, e1, e2, h⟩ := h
    refine ⟨h1, c, q, e1, e2, ?_⟩
    rcases h with h | ⟨k1, k2, t, k3, k4⟩ | ⟨k1, k2, li, E, n9, f, g1, g2, g3, g4, g5, g6, g7, g8, g9, g10, g11, g12⟩
    · exact Or.inl h
    · exact Or.inr (Or.inl ⟨k1, k2, t, k3, ih t _ _ k4⟩)
    · refine Or.inr (Or.inr ⟨k1, k2, li, E, n9, f, g1, g2, g3, g4, g5, g6, g7, g8, g9, g10, g11, fun i hi => ?_⟩)
      obtain ⟨t, u1, u2, u3⟩ := g12 i hi
      exact ⟨t, u1, ih t _ _ u2, u3⟩
theorem TestR.ups {n k : Nat} {a b : Int} (m : Nat) (h : TestR w ord op ar n k a b) : TestR w ord op ar (n + m) k a b := by
  induction m with
  | zero => exact h
  | succ m ih => exact TestR.up _ _ _ _ ih
theorem TestR.ext {n k : Nat} {a b : Int} {p : Nat} (h : TestR w ord op ar n k a b) (hp : ∀ i : Int, b ≤ i → i < b + 2 * p → op i = 28) : TestR w ord op ar n k a (b + 2 * p) := by
  cases n with
  | zero => exact h.elim
  | succ n =>
    obtain ⟨h1, c, q, e1, e2, h⟩ := h
    refine ⟨h1, c, q + p, by omega, fun i hi hb => ?_, h⟩
    by_cases z : i < b
    · exact e2 i hi z
    · exact hp i (by omega) hb
theorem rep_at {q : Nat} {i : Nat} (hA : AGR op ar (D ++ List.replicate q (28, 0)) a) (ha : a ≤ D.length) (h1 : D.length ≤ i) (h2 : i < D.length + q) : op (i : Int) = 28 := by
  refine (hA i (28, 0) (by omega) ?_).1
  rw [List.getElem?_append_right h1, List.getElem?_replicate, if_pos (by omega)]
theorem testR_of : ∀ (n m : Nat) (x : Te) (k : Nat) (C : OPS), TeA F w n x k → WFT ord m x → AGR op ar (apT ord x C) C.length → TestR w ord op ar n k (C.length : Nat) ((apT ord x C).length : Nat) := by
  intro n
  induction n with
  | zero => intro m x k C h; exact h.elim
  | succ n ih =>
    intro m x k C h hw hA
    obtain ⟨m, rfl⟩ : ∃ m', m = m' + 1 := by
      cases m with
      | zero => exact hw.elim
      | succ m => exact ⟨m, rfl⟩
    have h : TeB F w (TeA F w n) (teV x) k := h
    have hw : WFB ord (WFT ord m) (teV x) := hw
    rcases e : teV x with ⟨sg, l, r⟩ | ⟨q, t⟩ | ⟨all, ts⟩
    · rw [e] at h hw
      rw [apT_Vc e] at hA ⊢
      obtain ⟨⟨a1, a2⟩, a3, a4, kl, kr, a5, a6, a7, a8⟩ := h
      obtain ⟨h1, ⟨h2, h3⟩, h4, h5⟩ := hw
      obtain ⟨X, eX, _⟩ := apS_pre (ord := ord) l C
      obtain ⟨Y, eY, _⟩ := apS_pre (ord := ord) r (apS ord l C)
      have lX : C.length ≤ (apS ord l C).length := by rw [eX, List.length_append]; omega
      have lY : (apS ord l C).length ≤ (apS ord r (apS ord l C)).length := by rw [eY, List.length_append]; omega
      have hA : AGR op ar (apS ord r (apS ord l C) ++ (cmOp sg, 0) :: []) C.length := hA
      have A1 := hA.pre
      have A2 : AGR op ar (apS ord l C) C.length := by rw [eY] at A1; exact A1.pre
      have g := hA.at (by omega)
      have el : (((apS ord r (apS ord l C) ++ [(cmOp sg, 0)]).length : Nat) : Int) = ((apS ord r (apS ord l C)).length : Nat) + 1 := by
        rw [List.length_append]
        rfl
      rw [el]
      have e1 : (((apS ord r (apS ord l C)).length : Nat) : Int) + 1 - 1 = ((apS ord r (apS ord l C)).length : Nat) := by omega
      refine ⟨a2, ((apS ord r (apS ord l C)).length : Nat) + 1, 0, by omega, fun i b c => absurd c (by omega), Or.inl ⟨a3, by rw [a4]; exact h1, by rw [e1, a4]; exact g.1, kl, kr, ((apS ord l C).length : Nat), a5, a6, sumR_of l kl C 60 a7 h2 h3 A2, ?_⟩⟩
      rw [e1]
      exact sumR_of r kr (apS ord l C) 60 a8 h4 h5 (A1.up lX)
    · rw [e] at h hw
      have hw : WFT ord m t := hw
      have h : if q % 2 = 0 then TeA F w n t k else (F k ∧ 1000 ≤ k) ∧ gK w k = some (.inl 12) ∧ ∃ k', gR w k 0 = some k' ∧ TeA F w n t k' := h
      rw [apT_Vn e] at hA ⊢
      obtain ⟨X, eX⟩ := apT_pre (ord := ord) t C
      have lX : C.length ≤ (apT ord t C).length := by rw [eX, List.length_append]; omega
      have A1 := hA.pre
      have el : (((apT ord t C ++ List.replicate q (28, 0)).length : Nat) : Int) = ((apT ord t C).length : Nat) + q := by
        rw [List.length_append, List.length_replicate]
        omega
      rw [el]
      have r28 : ∀ i : Int, ((apT ord t C).length : Nat) ≤ i → i < ((apT ord t C).length : Nat) + q → op i = 28 := by
        intro i h1 h2
        obtain ⟨j, rfl⟩ : ∃ j : Nat, i = j := ⟨i.toNat, by omega⟩
        exact rep_at hA lX (by omega) (by omega)
      by_cases z : q % 2 = 0
      · rw [if_pos z] at h
        have go := TestR.up _ _ _ _ (ih m t k C h hw A1)
        have eq : (q : Int) = 2 * ((q / 2 : Nat) : Int) := by omega
        rw [eq]
        exact go.ext (fun i h1 h2 => r28 i h1 (by omega))
      · rw [if_neg z] at h
        obtain ⟨⟨a1, a2⟩, a3, k', a4, a5⟩ := h
        have go := ih m t k' C a5 hw A1
        have e1 : (((apT ord t C).length : Nat) : Int) + 1 - 1 = ((apT ord t C).length : Nat) := by omega
        refine ⟨a2, ((apT ord t C).length : Nat) + 1, (q - 1) / 2, by omega, fun i h1 h2 => r28 i (by omega) (by omega), Or.inr (Or.inl ⟨a3, ?_, k', a4, ?_⟩)⟩
        · rw [e1]; exact r28 _ (by omega) (by omega)
        · rw [e1]; exact go
    · rw [e] at h hw
      rw [apT_V e] at hA ⊢
      obtain ⟨⟨a1, a2⟩, a3, a4, li, E, n9, a5, ⟨l1, l2⟩, a7, a8, ⟨e1, e2⟩, a10, a11, a12, a13, a14⟩ := h
      obtain ⟨h1, h2, h3⟩ := hw
      have hP : ∀ i : Nat, 1 ≤ i → ∃ X, apL ord all ts C = apL ord all (ts.take i) C ++ X := by
        intro i hi
        have nz : ts.take i ≠ [] := fun y => by
          have := congrArg List.length y
          rw [List.length_take] at this
          have : min i ts.length = 0 := this
          omega
        obtain ⟨X, eX⟩ := fold_pre (ord := ord) (all := all) (ts.drop i) (apL ord all (ts.take i) C)
        rw [← apL_app nz, List.take_append_drop] at eX
        exact ⟨X, eX⟩
      have hPC : ∀ i : Nat, C.length ≤ (apL ord all (ts.take (i + 1)) C).length := by
        intro i
        obtain ⟨t0, ts2, et⟩ : ∃ t0 ts2, ts = t0 :: ts2 := by
          cases ts with
          | nil => exact absurd h2 (by show ¬ 2 ≤ 0; omega)
          | cons a b => exact ⟨a, b, rfl⟩
        rw [et]
        obtain ⟨X, eX⟩ := apT_pre (ord := ord) t0 C
        obtain ⟨Y, eY⟩ := fold_pre (ord := ord) (all := all) (ts2.take i) (apT ord t0 C)
        show C.length ≤ ((ts2.take i).foldl (fun D u => stp ord all u D) (apT ord t0 C)).length
        rw [eY, eX, List.length_append, List.length_append]
        omega
      have AT : ∀ i : Nat, AGR op ar (apL ord all (ts.take (i + 1)) C) C.length := by
        intro i
        obtain ⟨X, eX⟩ := hP (i + 1) (by omega)
        have A := hA
        rw [eX] at A
        exact A.pre
      have tS : ∀ i t, ts[i + 1]? = some t → apL ord all (ts.take (i + 1 + 1)) C = stp ord all t (apL ord all (ts.take (i + 1)) C) := by
        intro i t ht
        rw [List.take_succ, ht]
        refine apL_snoc t _ (fun y => ?_) C
        have := congrArg List.length y
        rw [List.length_take] at this
        have : min (i + 1) ts.length = 0 := this
        omega
      let f : Nat → Int := fun i => match i with
        | 0 => (C.length : Nat)
        | i + 1 => ((apL ord all (ts.take (i + 1)) C).length : Nat) + 1
      have f0 : f 0 = (C.length : Nat) := rfl
      have fS : ∀ i, f (i + 1) = ((apL ord all (ts.take (i + 1)) C).length : Nat) + 1 := fun i => rfl
      have el : (gV w li 2).toNat = ts.length := by rw [a12]; rfl
      have fm : f (gV w li 2).toNat = ((apL ord all ts C).length : Nat) + 1 := by
        rw [el]
        obtain ⟨p, ep⟩ : ∃ p, ts.length = p + 1 := ⟨ts.length - 1, by omega⟩
        rw [ep, fS, ← ep, List.take_length]
      refine ⟨a2, ((apL ord all ts C).length : Nat), 0, by omega, fun i b c => absurd c (by omega), Or.inr (Or.inr ⟨a3, by rw [a4]; exact h1, li, E, n9, f, a5, a7, l2, a8, e2, a10, a11, by rw [a12]; omega, by rw [a12]; omega, f0, fm, fun i hi => ?_⟩)⟩
      have hi : i < ts.length := by rw [a12] at hi; omega
      obtain ⟨t, ht⟩ : ∃ t, ts[i]? = some t := ⟨ts[i], List.getElem?_eq_getElem hi⟩
      obtain ⟨kt, g1, g2⟩ := a14 i t ht
      have wt := h3 t (List.mem_of_getElem? ht)
      have e9 : ∀ j, f (j + 1) - 1 = ((apL ord all (ts.take (j + 1)) C).length : Nat) := fun j => by rw [fS]; omega
      refine ⟨kt, g1, ?_, fun hi2 => ?_⟩
      · cases i with
        | zero =>
          have e1 : ts.take (0 + 1) = [t] := by rw [List.take_succ, ht]; rfl
          have A1 := AT 0
          rw [f0, e9 0]
          rw [e1] at A1 ⊢
          exact ih m t kt C g2 wt A1
        | succ i =>
          obtain ⟨Y, eY⟩ := apT_pre (ord := ord) t (apL ord all (ts.take (i + 1)) C ++ [(30 - all, 0)])
          have eS := stp_eq eY
          have A1 := AT (i + 1)
          rw [fS i, e9 (i + 1)]
          rw [tS i t ht] at A1 ⊢
          rw [eS] at A1
          have ll : (stp ord all t (apL ord all (ts.take (i + 1)) C)).length = (apT ord t (apL ord all (ts.take (i + 1)) C ++ [(30 - all, 0)])).length := setA_len
          rw [ll]
          have lD : (((apL ord all (ts.take (i + 1)) C).length : Nat) : Int) + 1 = ((apL ord all (ts.take (i + 1)) C ++ [(30 - all, 0)]).length : Nat) := by
            rw [List.length_append]; rfl
          rw [lD]
          refine ih m t kt _ g2 wt (fun j c hj hc => A1 j c ?_ ?_)
          · have := hPC i
            rw [List.length_append] at hj
            omega
          · rw [eY] at hc
            rw [List.length_append] at hj
            have hj : (apL ord all (ts.take (i + 1)) C).length + 1 ≤ j := hj
            rw [List.append_assoc, List.getElem?_append_right (by omega)] at hc
            rw [List.getElem?_append_right (by omega)]
            obtain ⟨d, ed⟩ : ∃ d, j - (apL ord all (ts.take (i + 1)) C).length = d + 1 := ⟨j - (apL ord all (ts.take (i + 1)) C).length - 1, by omega⟩
            rw [ed] at hc ⊢
            exact hc
      · have hi3 : i + 1 < ts.length := by rw [a12] at hi2; omega
        obtain ⟨t2, ht2⟩ : ∃ t, ts[i + 1]? = some t := ⟨ts[i + 1], List.getElem?_eq_getElem hi3⟩
        obtain ⟨Y, eY⟩ := apT_pre (ord := ord) t2 (apL ord all (ts.take (i + 1)) C ++ [(30 - all, 0)])
        have eS := stp_eq eY
        have A1 := AT (i + 1)
        rw [tS i t2 ht2, eS] at A1
        have g := A1.at (hPC i)
        have el2 : f (i + 2) - 1 = (((apL ord all (ts.take (i + 1)) C).length + 1 + Y.length : Nat) : Int) := by
          rw [e9 (i + 1), tS i t2 ht2, eS, List.length_append]
          show (((apL ord all (ts.take (i + 1)) C).length + (Y.length + 1) : Nat) : Int) = _
          omega
        rw [e9 i, a4, el2]
        exact g
end TREE
