/-! THE PLAIN LAW: texts: clauses beside their rows -/
set_option maxRecDepth 100000
def nsO (hd : Int) : Nat := if hd = 3 then 0 else if hd = 0 then 3 else 2
/-- the order at key k is the row f (ten numbers) -/
def OrdR (w : Wd) (op ar : Int → Int) (L : Int) (k : Nat) (f : Int → Int) : Prop := (1000 ≤ k ∧ gK w k = some (.inl 15)) ∧ (gV w k 0 = f 0 ∧ 0 ≤ f 0 ∧ f 0 ≤ 3) ∧ (gV w k 4 = f 9 ∧ 1 ≤ f 9 ∧ f 9 ≤ 20) ∧ (∀ i : Nat, i < 3 → if i < nsO (f 0) then ∃ s, gR w k ((i + 1 : Nat) : Int) = some s ∧ SumR w true op ar 60 s (f (1 + 2 * i)) (f (2 + 2 * i)) ∧ 0 ≤ f (1 + 2 * i) ∧ f (1 + 2 * i) < f (2 + 2 * i) ∧ f (2 + 2 * i) ≤ L else f (1 + 2 * i) = 0 ∧ f (2 + 2 * i) = 0) ∧ (0 ≤ f 7 ∧ f 7 ≤ f 8 ∧ f 8 ≤ L) ∧ (if f 7 = f 8 then gR w k 5 = none else ∃ t, gR w k 5 = some t ∧ TestR w true op ar 40 t (f 7) (f 8))
section CLAU
variable {ord : Bool} {w : Wd} {F : Nat → Prop} {op ar : Int → Int} {E D X Y C : OPS} {a b k r li e n : Nat} {all : Int} {c : Cl} {l : List Cl}
theorem apT_lt : ∀ (m : Nat) (x : Te) (C : OPS), WFT ord m x → C.length < (apT ord x C).length := by
  intro m
  induction m with
  | zero => intro x C h; exact h.elim
  | succ m ih =>
    intro x C h
    have h : WFB ord (WFT ord m) (teV x) := h
    rcases e : teV x with ⟨sg, l, r⟩ | ⟨q, t⟩ | ⟨all, ts⟩
    · rw [e] at h
      rw [apT_Vc e]
      obtain ⟨X, eX, _⟩ := apS_pre (ord := ord) l C
      obtain ⟨Y, eY, _⟩ := apS_pre (ord := ord) r (apS ord l C)
      rw [eY, eX, List.length_append, List.length_append, List.length_append]
      show C.length < C.length + X.length + Y.length + 1
      omega
    · rw [e] at h
      rw [apT_Vn e, List.length_append]
      have := ih t C h
      omega
    · rw [e] at h
      rw [apT_V e]
      obtain ⟨_, h2, h3⟩ := h
      cases ts with
      | nil => exact absurd h2 (by show ¬ 2 ≤ 0; omega)
      | cons t ts =>
        have := ih t C (h3 t List.mem_cons_self)
        obtain ⟨Y, eY⟩ := fold_pre (ord := ord) (all := all) ts (apT ord t C)
        show C.length < (ts.foldl (fun D u => stp ord all u D) (apT ord t C)).length
        rw [eY, List.length_append]
        omega
theorem cdU_pre : ∀ (l : List Su) (C : OPS), ∃ X, cdU ord l C = C ++ X := by
  intro l
  induction l with
  | nil => intro C; exact ⟨[], (List.append_nil _).symm⟩
  | cons a l ih =>
    intro C
    obtain ⟨X, eX, _⟩ := apS_pre (ord := ord) a C
    obtain ⟨Y, eY⟩ := ih (apS ord a C)
    refine ⟨X ++ Y, ?_⟩
    show cdU ord l (apS ord a C) = _
    rw [eY, eX, List.append_assoc]
theorem cdT_pre (o : Option Te) (C : OPS) : ∃ X, cdT ord o C = C ++ X := by
  cases o with
  | none => exact ⟨[], (List.append_nil _).symm⟩
  | some t => exact apT_pre t C
theorem cdC_pre (c : Cl) (C : OPS) : ∃ X, cdC ord c C = C ++ X := by
  obtain ⟨X, eX⟩ := cdU_pre (ord := ord) c.2.1 C
  obtain ⟨Y, eY⟩ := cdT_pre (ord := ord) c.2.2.2 (cdU ord c.2.1 C)
  refine ⟨X ++ Y, ?_⟩
  show cdT ord c.2.2.2 (cdU ord c.2.1 C) = _
  rw [eY, eX, List.append_assoc]
theorem cdF_pre : ∀ (l : List Cl) (C : OPS), ∃ X, l.foldl (fun D c => cdC ord c D) C = C ++ X := by
  intro l
  induction l with
  | nil => intro C; exact ⟨[], (List.append_nil _).symm⟩
  | cons c l ih =>
    intro C
    obtain ⟨X, eX⟩ := cdC_pre (ord := ord) c C
    obtain ⟨Y, eY⟩ := ih (cdC ord c C)
    refine ⟨X ++ Y, ?_⟩
    show l.foldl (fun D c => cdC ord c D) (cdC ord c C) = _
    rw [eY, eX, List.append_assoc]
/-- the code up to behind clause i is the beginning of the code -/
theorem cdL_pre {i : Nat} (h : l[i]? = some c) : ∃ X, cdL ord l = cdC ord c (cdL ord (l.take i)) ++ X := by
  have e1 : l.take (i + 1) = l.take i ++ [c] := by rw [List.take_succ, h]; rfl
  have e2 : cdL ord l = (l.drop (i + 1)).foldl (fun D c => cdC ord c D) (cdL ord (l.take (i + 1))) := by
    show l.foldl (fun D c => cdC ord c D) [] = (l.drop (i + 1)).foldl (fun D c => cdC ord c D) ((l.take (i + 1)).foldl (fun D c => cdC ord c D) [])
    rw [← List.foldl_append, List.take_append_drop]
  obtain ⟨X, eX⟩ := cdF_pre (ord := ord) (l.drop (i + 1)) (cdL ord (l.take (i + 1)))
  rw [← e2, e1, cdL_snoc] at eX
  exact ⟨X, eX⟩
theorem when_of {g : Option Nat} {o : Option Te} {C : OPS} (h : OPT g o (fun t kt => TeA F w 31 t kt)) (hw : ∀ t, o = some t → WFT ord 31 t) (hA : AGR op ar (cdT ord o C) C.length) : if ((C.length : Nat) : Int) = ((cdT ord o C).length : Nat) then g = none else ∃ t, g = some t ∧ TestR w ord op ar 40 t (C.length : Nat) ((cdT ord o C).length : Nat) := by
  cases o with
  | none => exact (if_pos rfl).mpr h
  | some t =>
    obtain ⟨kt, h1, h2⟩ := h
    have lt := apT_lt 31 t C (hw t rfl)
    have lt : C.length < (cdT ord (some t) C).length := lt
    rw [if_neg (by omega)]
    exact ⟨kt, h1, (testR_of 31 31 t kt C h2 (hw t rfl) hA).ups 9⟩
/-- a law's clause beside its row -/
theorem clauR_of (h : ClA F w false c k) (hw : WFC false c) (hA : AGR op ar (cdC false c C) 0) (h400 : (cdC false c C).length ≤ 400) : ClauR w op ar k c.1 (C.length : Nat) ((cdU false c.2.1 C).length : Nat) ((cdU false c.2.1 C).length : Nat) ((cdC false c C).length : Nat) := by
  obtain ⟨⟨a1, a2⟩, a3, a4, a5, _, a7⟩ := h
  obtain ⟨w1, w2, w3, _, w5⟩ := hw
  obtain ⟨X, eX⟩ := cdU_pre (ord := false) c.2.1 C
  obtain ⟨Y, eY⟩ := cdT_pre (ord := false) c.2.2.2 (cdU false c.2.1 C)
  have lX : C.length ≤ (cdU false c.2.1 C).length := by rw [eX, List.length_append]; omega
  have lY : (cdU false c.2.1 C).length ≤ (cdC false c C).length := by
    show (cdU false c.2.1 C).length ≤ (cdT false c.2.2.2 (cdU false c.2.1 C)).length
    rw [eY, List.length_append]; omega
  have hA : AGR op ar (cdT false c.2.2.2 (cdU false c.2.1 C)) 0 := hA
  have A1 : AGR op ar (cdU false c.2.1 C) 0 := by
    have q := hA
    rw [eY] at q
    exact q.pre
  refine ⟨a2, a3, a4, w1.1, w1.2, by omega, by omega, Int.le_refl _, by omega, by omega, ?_, when_of a7 w5 (hA.up (Nat.zero_le _))⟩
  have o1 := a5 0 (by decide)
  by_cases z : c.1 = 3
  · rw [if_pos z]
    rw [if_pos z] at w3
    have e := List.eq_nil_of_length_eq_zero w3
    rw [e] at o1
    exact o1
  · rw [if_neg z]
    rw [if_neg z, if_pos rfl] at w3
    obtain ⟨y, e⟩ : ∃ y, c.2.1 = [y] := by
      cases q : c.2.1 with
      | nil => rw [q] at w3; cases w3
      | cons y l9 =>
        rw [q] at w3
        have w3 : l9.length + 1 = 1 := w3
        rw [List.eq_nil_of_length_eq_zero (by omega : l9.length = 0)]
        exact ⟨y, rfl⟩
    rw [e] at o1 A1 ⊢
    obtain ⟨ka, g1, g2⟩ := o1
    have ww := w2 y (by rw [e]; exact List.mem_cons_self)
    exact ⟨ka, g1, sumR_of y ka C 60 g2 ww.1 ww.2 (A1.up (Nat.zero_le _))⟩
/-- an order beside its row -/
theorem ordR_of {f : Int → Int} {L : Int} (h : ClA F w true c k) (hw : WFC true c) (hA : AGR op ar (cdC true c C) 0) (h400 : ((cdC true c C).length : Nat) ≤ L) (hf : ∀ o, 0 ≤ o → o < 10 → f o = rwO c C o) : OrdR w op ar L k f := by
  obtain ⟨⟨a1, a2⟩, a3, a4, a5, a6, a7⟩ := h
  obtain ⟨w1, w2, w3, w4, w5⟩ := hw
  obtain ⟨hd, sl, tm, ot⟩ := c
  obtain ⟨X, eX⟩ := cdU_pre (ord := true) sl C
  obtain ⟨Y, eY⟩ := cdT_pre (ord := true) ot (cdU true sl C)
  have lX : C.length ≤ (cdU true sl C).length := by rw [eX, List.length_append]; omega
  have lY : (cdU true sl C).length ≤ (cdC true (hd, sl, tm, ot) C).length := by
    show (cdU true sl C).length ≤ (cdT true ot (cdU true sl C)).length
    rw [eY, List.length_append]; omega
  have hA : AGR op ar (cdT true ot (cdU true sl C)) 0 := hA
  have A1 : AGR op ar (cdU true sl C) 0 := by
    have q := hA
    rw [eY] at q
    exact q.pre
  have w3 : sl.length = (if hd = 3 then 0 else if true = false then 1 else if hd = 0 then 3 else 2) := w3
  have a4 : gV w k 0 = hd := a4
  have f9 : f 9 = tm := hf 9 (by decide) (by decide)
  have f7 : f 7 = ((cdU true sl C).length : Nat) := hf 7 (by decide) (by decide)
  have f8 : f 8 = ((cdC true (hd, sl, tm, ot) C).length : Nat) := hf 8 (by decide) (by decide)
  have rS : ∀ o, 0 ≤ o → o < 7 → f o = rwS true sl 1 C (udp (fun _ => 0) 0 hd) o := fun o h0 h7 => by
    rw [hf o h0 (by omega)]
    show udp (udp (udp (rwS true sl 1 C (udp (fun _ => 0) 0 hd)) 9 tm) 7 _) 8 _ o = _
    unfold udp
    rw [if_neg (by omega), if_neg (by omega), if_neg (by omega)]
  have f7' := f7
  have f8' := f8
  have h400' : (((cdC true (hd, sl, tm, ot) C).length : Nat) : Int) ≤ L := h400
  refine ⟨⟨a2, a3⟩, ?_, ⟨(a6 rfl).trans f9.symm, by rw [f9]; exact w4.1, by rw [f9]; exact w4.2⟩, ?_, ⟨by omega, by omega, by omega⟩, ?_⟩
  · have f0 : f 0 = hd := by
      rw [rS 0 (by decide) (by decide)]
      by_cases z3 : hd = 3
      · rw [if_pos z3] at w3
        rw [List.eq_nil_of_length_eq_zero w3]
        rfl
      · rw [if_neg z3, if_neg (by decide)] at w3
        by_cases z0 : hd = 0
        · rw [if_pos z0] at w3
          match sl, w3 with
          | [y1, y2, y3], _ => rfl
        · rw [if_neg z0] at w3
          match sl, w3 with
          | [y1, y2], _ => rfl
    rw [f0]
    exact ⟨a4, w1.1, w1.2⟩
  · have sm : ∀ (y : Su) (ka : Nat) (D : OPS), SuA (fun q => F q ∧ q ≠ k) w y ka → y ∈ sl → AGR op ar (apS true y D) 0 → SumR w true op ar 60 ka (D.length : Nat) ((apS true y D).length : Nat) ∧ D.length < (apS true y D).length := fun y ka D g m A => by
      have ww := w2 y m
      obtain ⟨Z, eZ, nZ⟩ := apS_pre (ord := true) y D
      refine ⟨sumR_of y ka D 60 g ww.1 ww.2 (A.up (Nat.zero_le _)), ?_⟩
      rw [eZ, List.length_append]
      have : Z.length ≠ 0 := fun u => nZ (List.eq_nil_of_length_eq_zero u)
      omega
    have f0 : f 0 = rwS true sl 1 C (udp (fun _ => 0) 0 hd) 0 := rS 0 (by decide) (by decide)
    have f1 : f 1 = rwS true sl 1 C (udp (fun _ => 0) 0 hd) 1 := rS 1 (by decide) (by decide)
    have f2 : f 2 = rwS true sl 1 C (udp (fun _ => 0) 0 hd) 2 := rS 2 (by decide) (by decide)
    have f3 : f 3 = rwS true sl 1 C (udp (fun _ => 0) 0 hd) 3 := rS 3 (by decide) (by decide)
    have f4 : f 4 = rwS true sl 1 C (udp (fun _ => 0) 0 hd) 4 := rS 4 (by decide) (by decide)
    have f5 : f 5 = rwS true sl 1 C (udp (fun _ => 0) 0 hd) 5 := rS 5 (by decide) (by decide)
    have f6 : f 6 = rwS true sl 1 C (udp (fun _ => 0) 0 hd) 6 := rS 6 (by decide) (by decide)
    have lC : (((cdC true (hd, sl, tm, ot) C).length : Nat) : Int) ≤ L := h400
    by_cases z3 : hd = 3
    · rw [if_pos z3] at w3
      have e := List.eq_nil_of_length_eq_zero w3
      subst e
      intro i hi
      have n0 : nsO (f 0) = 0 := by rw [f0]; show nsO hd = 0; unfold nsO; rw [if_pos z3]
      rw [n0, if_neg (by omega)]
      rcases (by omega : i = 0 ∨ i = 1 ∨ i = 2) with r | r | r <;> subst r
      · exact ⟨f1, f2⟩
      · exact ⟨f3, f4⟩
      · exact ⟨f5, f6⟩
    · rw [if_neg z3, if_neg (by decide)] at w3
      by_cases z0 : hd = 0
      · rw [if_pos z0] at w3
        match sl, w3 with
        | [y1, y2, y3], _ =>
          have n0 : nsO (f 0) = 3 := by rw [f0]; show nsO hd = 3; unfold nsO; rw [if_neg z3, if_pos z0]
          obtain ⟨k1, o1, p1⟩ := a5 0 (by decide)
          obtain ⟨k2, o2, p2⟩ := a5 1 (by decide)
          obtain ⟨k3, o3, p3⟩ := a5 2 (by decide)
          obtain ⟨Z3, e3, _⟩ := apS_pre (ord := true) y3 (apS true y2 (apS true y1 C))
          obtain ⟨Z2, e2, _⟩ := apS_pre (ord := true) y2 (apS true y1 C)
          have B3 : AGR op ar (apS true y3 (apS true y2 (apS true y1 C))) 0 := A1
          have B2 : AGR op ar (apS true y2 (apS true y1 C)) 0 := by rw [e3] at B3; exact B3.pre
          have B1 : AGR op ar (apS true y1 C) 0 := by rw [e2] at B2; exact B2.pre
          have s1 := sm y1 k1 C p1 List.mem_cons_self B1
          have s2 := sm y2 k2 _ p2 (List.mem_cons_of_mem _ List.mem_cons_self) B2
          have s3 := sm y3 k3 _ p3 (List.mem_cons_of_mem _ (List.mem_cons_of_mem _ List.mem_cons_self)) B3
          have g1 : f 1 = (C.length : Nat) := f1
          have g2 : f 2 = ((apS true y1 C).length : Nat) := f2
          have g3 : f 3 = ((apS true y1 C).length : Nat) := f3
          have g4 : f 4 = ((apS true y2 (apS true y1 C)).length : Nat) := f4
          have g5 : f 5 = ((apS true y2 (apS true y1 C)).length : Nat) := f5
          have g6 : f 6 = ((apS true y3 (apS true y2 (apS true y1 C))).length : Nat) := f6
          have lY : (apS true y3 (apS true y2 (apS true y1 C))).length ≤ (cdC true (hd, [y1, y2, y3], tm, ot) C).length := lY
          intro i hi
          rw [n0, if_pos hi]
          rcases (by omega : i = 0 ∨ i = 1 ∨ i = 2) with r | r | r <;> subst r
          · show ∃ s, gR w k 1 = some s ∧ SumR w true op ar 60 s (f 1) (f 2) ∧ 0 ≤ f 1 ∧ f 1 < f 2 ∧ f 2 ≤ L
            rw [g1, g2]
            exact ⟨k1, o1, s1.1, by omega, by omega, by omega⟩
          · show ∃ s, gR w k 2 = some s ∧ SumR w true op ar 60 s (f 3) (f 4) ∧ 0 ≤ f 3 ∧ f 3 < f 4 ∧ f 4 ≤ L
            rw [g3, g4]
            exact ⟨k2, o2, s2.1, by omega, by omega, by omega⟩
          · show ∃ s, gR w k 3 = some s ∧ SumR w true op ar 60 s (f 5) (f 6) ∧ 0 ≤ f 5 ∧ f 5 < f 6 ∧ f 6 ≤ L
            rw [g5, g6]
            exact ⟨k3, o3, s3.1, by omega, by omega, by omega⟩
      · rw [if_neg z0] at w3
        match sl, w3 with
        | [y1, y2], _ =>
          have n0 : nsO (f 0) = 2 := by rw [f0]; show nsO hd = 2; unfold nsO; rw [if_neg z3, if_neg z0]
          obtain ⟨k1, o1, p1⟩ := a5 0 (by decide)
          obtain ⟨k2, o2, p2⟩ := a5 1 (by decide)
          obtain ⟨Z2, e2, _⟩ := apS_pre (ord := true) y2 (apS true y1 C)
          have B2 : AGR op ar (apS true y2 (apS true y1 C)) 0 := A1
          have B1 : AGR op ar (apS true y1 C) 0 := by rw [e2] at B2; exact B2.pre
          have s1 := sm y1 k1 C p1 List.mem_cons_self B1
          have s2 := sm y2 k2 _ p2 (List.mem_cons_of_mem _ List.mem_cons_self) B2
          have g1 : f 1 = (C.length : Nat) := f1
          have g2 : f 2 = ((apS true y1 C).length : Nat) := f2
          have g3 : f 3 = ((apS true y1 C).length : Nat) := f3
          have g4 : f 4 = ((apS true y2 (apS true y1 C)).length : Nat) := f4
          have lY : (apS true y2 (apS true y1 C)).length ≤ (cdC true (hd, [y1, y2], tm, ot) C).length := lY
          intro i hi
          rw [n0]
          rcases (by omega : i = 0 ∨ i = 1 ∨ i = 2) with r | r | r <;> subst r
          · rw [if_pos (by decide)]
            show ∃ s, gR w k 1 = some s ∧ SumR w true op ar 60 s (f 1) (f 2) ∧ 0 ≤ f 1 ∧ f 1 < f 2 ∧ f 2 ≤ L
            rw [g1, g2]
            exact ⟨k1, o1, s1.1, by omega, by omega, by omega⟩
          · rw [if_pos (by decide)]
            show ∃ s, gR w k 2 = some s ∧ SumR w true op ar 60 s (f 3) (f 4) ∧ 0 ≤ f 3 ∧ f 3 < f 4 ∧ f 4 ≤ L
            rw [g3, g4]
            exact ⟨k2, o2, s2.1, by omega, by omega, by omega⟩
          · rw [if_neg (by decide)]
            exact ⟨f5, f6⟩
  · rw [f7, f8]
    exact when_of a7 w5 (hA.up (Nat.zero_le _))
/-- a law beside its text -/
theorem lawR_of {c9 : Int → Int} {kk : Nat} (hk : 1000 ≤ k ∧ gK w k = some (.inl 14) ∧ gR w k 0 = some li) (h : CLS F w false r l li kk n) (hw : ∀ c, c ∈ l → WFC false c) (hD : (cdL false l).length ≤ 400) (hl : l.length ≤ 12) (h1 : c9 1 = (l.length : Nat)) (hc : ∀ (i : Nat) (c : Cl), l[i]? = some c → ∀ o, 0 ≤ o → o < 8 → c9 (2 + 8 * i + o) = rwL c (cdL false (l.take i)) o) (hop : ∀ (i : Nat) (p : Int × Int), (cdL false l)[i]? = some p → c9 (98 + 2 * i) = p.1 ∧ c9 (99 + 2 * i) = p.2) : LawR w k c9 := by
  obtain ⟨_, _, ⟨b1, b2⟩, ⟨b3, b4⟩, ⟨l1, l2, l3, l4, l5, _⟩, h8⟩ := h
  have A0 : AGR (fun j => c9 (98 + 2 * j)) (fun j => c9 (99 + 2 * j)) (cdL false l) 0 := fun i p _ hp => hop i p hp
  refine ⟨hk.1, hk.2.1, li, kk, n, hk.2.2, b2, l1, l2, b4, l3, l5.2.1, l4.trans h1.symm, by rw [h1]; omega, by rw [h1]; omega, by rw [h1]; omega, fun q hq0 hq => ?_⟩
  rw [h1] at hq
  obtain ⟨i, rfl⟩ : ∃ i : Nat, q = i := ⟨q.toNat, by omega⟩
  have hi : i < l.length := by omega
  have hcl : l[i]? = some l[i] := List.getElem?_eq_getElem hi
  generalize l[i] = c at hcl
  obtain ⟨kc, g1, g2⟩ := h8 i c hcl
  have R := hc i c hcl
  obtain ⟨X, eX⟩ := cdL_pre (ord := false) hcl
  have A1 : AGR (fun j => c9 (98 + 2 * j)) (fun j => c9 (99 + 2 * j)) (cdC false c (cdL false (l.take i))) 0 := by
    rw [eX] at A0
    exact A0.pre
  have h4 : (cdC false c (cdL false (l.take i))).length ≤ 400 := by
    rw [eX, List.length_append] at hD
    omega
  have go := clauR_of g2 (hw c (List.mem_of_getElem? hcl)) A1 h4
  have r0 : c9 (2 + 8 * i) = c.1 := by
    have q := R 0 (by decide) (by decide)
    rw [Int.add_zero] at q
    exact q
  have r3 : c9 (5 + 8 * i) = ((cdL false (l.take i)).length : Nat) := by
    have q := R 3 (by decide) (by decide)
    rw [(by omega : (2 : Int) + 8 * i + 3 = 5 + 8 * i)] at q
    exact q
  have r4 : c9 (6 + 8 * i) = ((cdU false c.2.1 (cdL false (l.take i))).length : Nat) := by
    have q := R 4 (by decide) (by decide)
    rw [(by omega : (2 : Int) + 8 * i + 4 = 6 + 8 * i)] at q
    exact q
  have r5 : c9 (7 + 8 * i) = ((cdU false c.2.1 (cdL false (l.take i))).length : Nat) := by
    have q := R 5 (by decide) (by decide)
    rw [(by omega : (2 : Int) + 8 * i + 5 = 7 + 8 * i)] at q
    exact q
  have r6 : c9 (8 + 8 * i) = ((cdC false c (cdL false (l.take i))).length : Nat) := by
    have q := R 6 (by decide) (by decide)
    rw [(by omega : (2 : Int) + 8 * i + 6 = 8 + 8 * i)] at q
    exact q
  refine ⟨kc, g1, ?_⟩
  rw [r0, r3, r4, r5, r6]
  exact go
end CLAU
