/-! THE PLAIN LAW: texts: the component reads a clause -/
set_option maxRecDepth 100000
/-- all that was there stands as it was -/
def KPW (w w' : Wd) : Prop := ∀ k, gK w k ≠ none → gK w' k = gK w k ∧ (∀ j, gR w' k j = gR w k j) ∧ ∀ j, gV w' k j = gV w k j
/-- a part that may lack -/
def OPT {α : Type} (o : Option Nat) (p : Option α) (A : α → Nat → Prop) : Prop := match p with
  | none => o = none
  | some a => ∃ k, o = some k ∧ A a k
/-- a clause at k -/
def ClA (F : Nat → Prop) (w : Wd) (ord : Bool) (c : Cl) (k : Nat) : Prop := (F k ∧ 1000 ≤ k) ∧ gK w k = some (.inl (if ord = true then 15 else 7)) ∧ gV w k 0 = c.1 ∧ (∀ i : Nat, i < (if ord = true then 3 else 1) → OPT (gR w k ((i + 1 : Nat) : Int)) (c.2.1[i]?) (fun a ka => SuA (fun q => F q ∧ q ≠ k) w a ka)) ∧ (ord = true → gV w k 4 = c.2.2.1) ∧ OPT (gR w k (if ord = true then 5 else 2)) c.2.2.2 (fun t kt => TeA (fun q => F q ∧ q ≠ k) w 31 t kt)
/-- the reader's clauses -/
def CLS (F : Nat → Prop) (w : Wd) (ord : Bool) (r : Nat) (l : List Cl) (li E n : Nat) : Prop := F r ∧ gR w r 7 = some li ∧ (F li ∧ 1000 ≤ li) ∧ (F E ∧ 1000 ≤ E) ∧ LST w li E n l.length ∧ ∀ (i : Nat) (c : Cl), l[i]? = some c → ∃ k, gR w E (i : Int) = some k ∧ ClA (fun q => F q ∧ q ≠ li ∧ q ≠ E) w ord c k
section CLAUSES
variable {T : Int → Int} {N : Int} {ord : Bool} {w w' w0 w1 w2 : Wd} {r k t n c : Nat} {s : LX} {P : Prop} {v x i : Int} {QW X : Wd → Prop} {XE : Nat → Wd → Prop} {bc bs : Nat} {F F' : Nat → Prop}
theorem OPT.mo {α : Type} {o o' : Option Nat} {p : Option α} {A A' : α → Nat → Prop} (e : o' = o) (h : OPT o p A) (hA : ∀ a k, A a k → A' a k) : OPT o' p A' := by
  subst e
  cases p with
  | none => exact h
  | some a =>
    obtain ⟨k, a1, a2⟩ := h
    exact ⟨k, a1, hA a k a2⟩
theorem KPW.rf : KPW w w := fun _ _ => ⟨rfl, fun _ => rfl, fun _ => rfl⟩
theorem KPW.no (f : KPW w w') (h : gK w' k = none) : gK w k = none := by
  by_cases e : gK w k = none
  · exact e
  · exact absurd ((f k e).1.symm.trans h) e
theorem KPW.fp (h : KPW w0 w) (f : FP r w w') (hr : gK w0 r = none) : KPW w0 w' := fun k hk => by
  obtain ⟨a1, a2, a3⟩ := h k hk
  obtain ⟨b1, b2, b3⟩ := f k (by rw [a1]; exact hk)
  exact ⟨b1.trans a1, fun j => (b2 j).trans (a2 j), fun j => (b3 j (fun y => hk (by rw [y.1]; exact hr))).trans (a3 j)⟩
theorem KPW.ne (h : KPW w0 w) (f : NEW k w w') (hr : gK w0 k = none) : KPW w0 w' := fun q hq => by
  have e : q ≠ k := fun y => hq (y ▸ hr)
  obtain ⟨a1, a2, a3⟩ := h q hq
  obtain ⟨b1, b2, b3⟩ := f q e
  exact ⟨b1.trans a1, fun j => (b3 j).trans (a2 j), fun j => (b2 j).trans (a3 j)⟩
theorem KPW.add {li E E' n' k : Nat} {z : Int} (f : KPW w0 w) (h : ADD w w' li E n z k E' n') (h1 : gK w0 li = none) (h2 : gK w0 E = none) : KPW w0 w' := by
  obtain ⟨_, _, _, y5, y6, _, _⟩ := h
  have h3 : gK w0 E' = none := by
    rcases y6 with ⟨u, _⟩ | ⟨u1, _⟩
    · rw [u]; exact h2
    · exact f.no u1
  intro q hq
  obtain ⟨v1, v2, v3⟩ := y5 q (fun y => hq (y ▸ h1)) (fun y => hq (y ▸ h2)) (fun y => hq (y ▸ h3))
  obtain ⟨f1, f2, f3⟩ := f q hq
  exact ⟨v1.trans f1, fun j => (v3 j).trans (f2 j), fun j => (v2 j).trans (f3 j)⟩
theorem ClA.mo {cl : Cl} (hF : ∀ k, F k → gK w k ≠ none → F' k ∧ gK w' k = gK w k ∧ (∀ j, gR w' k j = gR w k j) ∧ (¬ k67 w k → ∀ j, gV w' k j = gV w k j)) (h : ClA F w ord cl k) : ClA F' w' ord cl k := by
  obtain ⟨⟨a1, a2⟩, a3, a4, a5, a6, a7⟩ := h
  obtain ⟨b1, b2, b3, b4⟩ := hF k a1 (by rw [a3]; exact fun z => by cases z)
  have b4 := b4 (fun y => by
    rcases y with y | y <;> · rw [a3] at y; injection y with y; injection y with y; split at y <;> omega)
  have hS : ∀ (x : Su) (k' : Nat), SuA (fun q => F q ∧ q ≠ k) w x k' → SuA (fun q => F' q ∧ q ≠ k) w' x k' := SuA.mo (fun k a b => by
    obtain ⟨b1, b2, b3, b4⟩ := hF k a.1 b
    refine ⟨⟨b1, a.2⟩, b2, b3, fun g => b4 ?_ 0⟩
    rintro (y | y)
    · rw [y] at g
      rcases g with g | g | g <;> · injection g with g; injection g with g; omega
    · rw [y] at g
      rcases g with g | g | g <;> · injection g with g; injection g with g; omega)
  refine ⟨⟨b1, a2⟩, b2.trans a3, (b4 0).trans a4, fun i hi => (a5 i hi).mo (b3 _) hS, fun y => (b4 4).trans (a6 y), a7.mo (b3 _) (TeA.mo (fun q a b => ⟨⟨(hF q a.1 b).1, a.2⟩, (hF q a.1 b).2⟩) 31)⟩
theorem ClA.fp {cl : Cl} (f : FP r w w') (hr : k67 w r) (h : ClA F w ord cl k) : ClA F w' ord cl k := ClA.mo (fun q a b => by
  obtain ⟨f1, f2, f3⟩ := f q b
  exact ⟨a, f1, f2, fun g j => f3 j (fun e => g (by rw [e.1]; exact hr))⟩) h
theorem CLS.mo {l : List Cl} {li E : Nat} (hr : gK w r ≠ none) (hF : ∀ k, F k → gK w k ≠ none → F' k ∧ gK w' k = gK w k ∧ (∀ j, gR w' k j = gR w k j) ∧ (¬ k67 w k → ∀ j, gV w' k j = gV w k j)) (h : CLS F w ord r l li E n) : CLS F' w' ord r l li E n := by
  obtain ⟨h1, h2, h4, h5, ⟨l1, l2, l3, l4, l5, l6⟩, h8⟩ := h
  have fr := hF r h1 hr
  have fl := hF li h4.1 (by rw [l1]; exact fun z => by cases z)
  have fE := hF E h5.1 (by rw [l3]; exact fun z => by cases z)
  have nl : ¬ k67 w li := fun y => by rcases y with y | y <;> · rw [l1] at y; injection y with y; injection y with y; omega
  have kp : ∀ (x : Cl) (k : Nat), ClA (fun q => F q ∧ q ≠ li ∧ q ≠ E) w ord x k → ClA (fun q => F' q ∧ q ≠ li ∧ q ≠ E) w' ord x k := fun x k => ClA.mo (fun q a b => ⟨⟨(hF q a.1 b).1, a.2⟩, (hF q a.1 b).2⟩)
  refine ⟨fr.1, (fr.2.2.1 7).trans h2, ⟨fl.1, h4.2⟩, ⟨fE.1, h5.2⟩, ⟨fl.2.1.trans l1, (fl.2.2.1 1).trans l2, fE.2.1.trans l3, (fl.2.2.2 nl 2).trans l4, l5, fun i a b y hy => ?_⟩, fun i t ht => ?_⟩
  · rw [fE.2.2.1] at hy
    obtain ⟨j, rfl⟩ : ∃ j : Nat, i = (j : Int) := ⟨i.toNat, by omega⟩
    have jl : j < l.length := by omega
    obtain ⟨kt, a5, a6⟩ := h8 j l[j] (List.getElem?_eq_getElem jl)
    rw [a5] at hy
    injection hy with hy
    subst hy
    have := kp _ _ a6
    exact ⟨this.1.2, _, this.2.1, by split <;> decide⟩
  · obtain ⟨kt, a, b⟩ := h8 i t ht
    exact ⟨kt, (fE.2.2.1 _).trans a, kp _ _ b⟩
theorem CLS.fp {l : List Cl} {li E : Nat} (f : FP r w w') (hr : k67 w r) (h : CLS F w ord r l li E n) : CLS F w' ord r l li E n := h.mo (by rcases hr with u | u <;> rw [u] <;> exact fun z => by cases z) (fun q a b => by
  obtain ⟨f1, f2, f3⟩ := f q b
  exact ⟨a, f1, f2, fun g j => f3 j (fun e => g (by rw [e.1]; exact hr))⟩)
theorem CLS.ne {l : List Cl} {li E : Nat} (hr : gK w r ≠ none) (hn : NEW c w w') (hF : ¬ F c) (h : CLS F w ord r l li E n) : CLS F w' ord r l li E n := h.mo hr (fun q a _ => by
  have e : q ≠ c := fun e => hF (e ▸ a)
  exact ⟨a, (hn q e).1, (hn q e).2.2, fun _ => (hn q e).2.1⟩)
theorem ClA.ne {cl : Cl} (hn : NEW c w w') (hF : ¬ F c) (h : ClA F w ord cl k) : ClA F w' ord cl k := h.mo (fun q a _ => by
  have e : q ≠ c := fun e => hF (e ▸ a)
  exact ⟨a, (hn q e).1, (hn q e).2.2, fun _ => (hn q e).2.1⟩)
/-- a sum is filed -/
theorem ClA.sum {hd tm : Int} {l : List Su} {ot : Option Te} {a : Su} {ka : Nat} (h : ClA F w ord (hd, l, tm, ot) k) (hl : l.length < (if ord = true then 3 else 1)) (A : SuA (fun q => F q ∧ q ≠ k) w a ka) : ClA F (sR w k ((l.length + 1 : Nat) : Int) (some ka)) ord (hd, l ++ [a], tm, ot) k := by
  obtain ⟨a1, a3, a4, a5, a6, a7⟩ := h
  have nn : NEW k w (sR w k ((l.length + 1 : Nat) : Int) (some ka)) := NEW.rf.sR
  have kS : ∀ (x : Su) (k' : Nat), SuA (fun q => F q ∧ q ≠ k) w x k' → SuA (fun q => F q ∧ q ≠ k) (sR w k ((l.length + 1 : Nat) : Int) (some ka)) x k' := fun x k' => SuA.ne nn (fun y => y.2 rfl)
  have kT : ∀ (x : Te) (k' : Nat), TeA (fun q => F q ∧ q ≠ k) w 31 x k' → TeA (fun q => F q ∧ q ≠ k) (sR w k ((l.length + 1 : Nat) : Int) (some ka)) 31 x k' := fun x k' => TeA.ne nn (fun y => y.2 rfl)
  refine ⟨a1, a3, a4, fun i hi => ?_, a6, ?_⟩
  · show OPT (gR (sR w k ((l.length + 1 : Nat) : Int) (some ka)) k ((i + 1 : Nat) : Int)) ((l ++ [a])[i]?) _
    by_cases e : i = l.length
    · subst e
      rw [List.getElem?_append_right (Nat.le_refl _), Nat.sub_self, gR_sR, if_pos ⟨rfl, rfl⟩]
      exact ⟨ka, rfl, kS a ka A⟩
    · have e2 : (l ++ [a])[i]? = l[i]? := by
        by_cases g : i < l.length
        · exact List.getElem?_append_left g
        · rw [List.getElem?_eq_none (by rw [List.length_append]; show l.length + 1 ≤ i; omega), List.getElem?_eq_none (by omega)]
      rw [e2]
      exact (a5 i hi).mo (by rw [gR_sR, if_neg (by omega)]) kS
  · refine a7.mo ?_ kT
    rw [gR_sR, if_neg]
    intro y
    have y := y.2
    split at hl
    · next g => rw [if_pos g] at y; omega
    · next g => rw [if_neg g] at y; omega
/-- the test is filed -/
theorem ClA.tst {hd tm : Int} {l : List Su} {t : Te} {kt : Nat} (h : ClA F w ord (hd, l, tm, none) k) (A : TeA (fun q => F q ∧ q ≠ k) w 31 t kt) : ClA F (sR w k (if ord = true then 5 else 2) (some kt)) ord (hd, l, tm, some t) k := by
  obtain ⟨a1, a3, a4, a5, a6, a7⟩ := h
  have nn : NEW k w (sR w k (if ord = true then 5 else 2) (some kt)) := NEW.rf.sR
  refine ⟨a1, a3, a4, fun i hi => ?_, a6, kt, ?_, TeA.ne nn (fun y => y.2 rfl) A⟩
  · refine (a5 i hi).mo ?_ (fun x k' => SuA.ne nn (fun y => y.2 rfl))
    rw [gR_sR, if_neg]
    intro y
    have y := y.2
    split at hi
    · next g => rw [if_pos g] at y; omega
    · next g => rw [if_neg g] at y; omega
  · rw [gR_sR, if_pos ⟨rfl, rfl⟩]
/-- the times are filed -/
theorem ClA.tim {hd tm : Int} {l : List Su} {ot : Option Te} (h : ClA F w true (hd, l, tm, ot) k) : ClA F (sV w k 4 x) true (hd, l, x, ot) k := by
  obtain ⟨a1, a3, a4, a5, a6, a7⟩ := h
  have nn : NEW k w (sV w k 4 x) := NEW.rf.sV
  refine ⟨a1, a3, (gV_ne (by omega)).trans a4, fun i hi => ?_, fun _ => gV_at, ?_⟩
  · exact (a5 i hi).mo rfl (fun x k' => SuA.ne nn (fun y => y.2 rfl))
  · exact a7.mo rfl (fun x k' => TeA.ne nn (fun y => y.2 rfl))
theorem TIW.set {x : Nat} {j : Int} (h : TIW w) (hx : gK w x ≠ none) (h0 : 1000 ≤ x) : TIW (sR w k j (some x)) := by
  refine ⟨h.k1 (fun q y => y) (fun q e => by rw [gR_sR] at e; split at e; cases e; exact e), fun q j' y a b => ?_⟩
  rw [gR_sR] at b
  split at b
  · injection b with b
    subst b
    exact ⟨hx, by omega, by omega, by omega⟩
  · exact h.2 q j' y a b
theorem RDX.nw (R : RDX T N w r s) (hn : NEW k w w') (hk : 1000 ≤ k) (kr : k ≠ r) : RDX T N w' r s := by
  obtain ⟨⟨h1, h2, h3, h4⟩, h5, h6, h7, h8, h9⟩ := R
  have nr : r ≠ k := Ne.symm kr
  have n1 : (110 : Nat) ≠ k := by omega
  refine ⟨⟨h1, by unfold k67; rw [(hn r nr).1]; exact h2, ((hn r nr).2.2 _).trans h3, h4.fr (hn 110 n1).1 (hn 110 n1).2.1⟩, ?_, ?_, ?_, ?_, ?_⟩
  · rw [(hn r nr).2.1]; exact h5
  · rw [(hn r nr).2.1]; exact h6
  · rw [(hn r nr).2.1]; exact h7
  · rw [(hn r nr).2.1]; exact h8
  · rw [(hn r nr).2.1]; exact h9
/-- one more clause: the count has gone up already -/
theorem CLS.add {l : List Cl} {li E E' n' k : Nat} {t : Cl} (hr : k67 w r) (h : CLS F w ord r l li E n) (A : ClA (fun q => F q ∧ q ≠ li ∧ q ≠ E) w ord t k) (h9 : ADD w w' li E n l.length k E' n') (hF : ∀ q, gK w q = none → F q) (hn : n < 600) : CLS F w' ord r (l ++ [t]) li E' n' := by
  obtain ⟨h1, h2, h4, h5, ⟨l1, l2, l3, l4, l5, l6⟩, h8⟩ := h
  obtain ⟨⟨y1, y2, y2b, y2c⟩, y3, y4, y5, y6, y7, y8⟩ := h9
  have le : li ≠ E := fun y => by subst y; rw [l1] at l3; cases l3
  have kl : r ≠ li := fun y => hr.nk l1 (by decide) y.symm
  have kE : r ≠ E := fun y => by subst y; rcases hr with u | u <;> rw [l3] at u <;> cases u
  have rl : gK w r ≠ none := by rcases hr with u | u <;> rw [u] <;> exact fun z => by cases z
  have E'F : F E' ∧ 1000 ≤ E' := by
    rcases y6 with ⟨u, _⟩ | ⟨u1, u2, _⟩
    · rw [u]; exact h5
    · exact ⟨hF E' u1, u2⟩
  have nE : ∀ q, gK w q ≠ none → q ≠ E → q ≠ E' := fun q a b => by
    rcases y6 with ⟨u, _⟩ | ⟨u1, _⟩
    · rw [u]; exact b
    · exact fun z => a (by rw [z]; exact u1)
  have kp : ∀ (x : Cl) (k : Nat), ClA (fun q => F q ∧ q ≠ li ∧ q ≠ E) w ord x k → ClA (fun q => F q ∧ q ≠ li ∧ q ≠ E') w' ord x k := fun x k => ClA.mo (fun q a b => by
    have q3 := nE q b a.2.2
    obtain ⟨v1, v2, v3⟩ := y5 q a.2.1 a.2.2 q3
    exact ⟨⟨a.1, a.2.1, q3⟩, v1, v3, fun _ => v2⟩)
  have fk := y5 r kl kE (nE r rl kE)
  have lz : ((l ++ [t]).length : Int) = (l.length : Int) + 1 := by rw [List.length_append]; rfl
  have kd : ∀ x k, ClA (fun q => F q ∧ q ≠ li ∧ q ≠ E') w' ord x k → 1000 ≤ k ∧ ∃ c, gK w' k = some (.inl c) ∧ c < 19 := fun x k a => ⟨a.1.2, _, a.2.1, by split <;> decide⟩
  refine ⟨h1, (fk.2.2 7).trans h2, h4, E'F, ⟨y1, y2, y2b, by rw [lz]; exact y2c, ?_, fun i a b y hy => ?_⟩, fun i t2 ht => ?_⟩
  · rw [lz]
    rcases y6 with ⟨u, u2, u3⟩ | ⟨u1, u2, u3, u4, _⟩
    · omega
    · omega
  · rw [lz] at b
    by_cases c : i = l.length
    · rw [c, y4] at hy
      injection hy with hy
      subst hy
      exact kd _ _ (kp t k A)
    · rw [y3 i a (by omega)] at hy
      obtain ⟨j, rfl⟩ : ∃ j : Nat, i = (j : Int) := ⟨i.toNat, by omega⟩
      have jl : j < l.length := by omega
      obtain ⟨kt, a5, a6⟩ := h8 j l[j] (List.getElem?_eq_getElem jl)
      rw [a5] at hy
      injection hy with hy
      subst hy
      exact kd _ _ (kp _ _ a6)
  · by_cases c : i < l.length
    · rw [List.getElem?_append_left c] at ht
      obtain ⟨kt, a5, a6⟩ := h8 i t2 ht
      exact ⟨kt, (y3 i (by omega) (by omega)).trans a5, kp _ _ a6⟩
    · rw [List.getElem?_append_right (by omega)] at ht
      have ci : i - l.length = 0 := by
        by_cases z : i - l.length = 0
        · exact z
        · rw [List.getElem?_eq_none (by show 1 ≤ i - l.length; omega)] at ht; cases ht
      rw [ci] at ht
      have ht : t = t2 := by injection ht
      subst ht
      have ei : (i : Int) = (l.length : Int) := by omega
      rw [ei]
      exact ⟨k, y4, kp _ _ A⟩
end CLAUSES
