/-! THE PLAIN LAW: what is built beside a world by static keys -/
set_option maxRecDepth 100000
/-- references go to live cells -/
def CLO (u : Wd) : Prop := ∀ (k : Nat) (j : Int) (r : Nat), gK u k ≠ none → gR u k j = some r → gK u r ≠ none
def SI (σ : Nat → Nat) (w u : Wd) : Prop := REK σ w u ∧ CLO u
/-- σ, with k at a -/
def upK (σ : Nat → Nat) (a k : Nat) : Nat → Nat := fun x => if x = a then k else σ x
section SIMU
variable {w w' u u' u0 : Wd} {σ : Nat → Nat} {a b k p T : Nat} {d : Kd} {i j x n : Int} {ci t bc bs : Nat} {Q : Wd → Prop} {KN : Nat → Prop} {KW : Nat → Wd → Prop}
theorem upK_at : upK σ a k a = k := if_pos rfl
theorem upK_ne (h : b ≠ a) : upK σ a k b = σ b := if_neg h
theorem si_new (S : SI σ w u) (ha : a < 800) (hd : gK u a = none) (hk : gK w k = none) : SI (upK σ a k) (nK w k d) (nK u a d) := by
  obtain ⟨⟨r1, r2, r3, r4, r5, r6⟩, c⟩ := S
  have hs : ∀ y, gK u y ≠ none → y ≠ a ∧ σ y ≠ k := fun y hy => ⟨fun e => hy (e ▸ hd), fun e => hy ((r2 y hy).symm.trans (by rw [e]; exact hk))⟩
  have lv : ∀ y, gK (nK u a d) y ≠ none → y = a ∨ gK u y ≠ none := fun y hy => by
    rw [gK_nK] at hy
    by_cases e : y = a
    · exact Or.inl e
    · rw [if_neg e] at hy
      exact Or.inr hy
  refine ⟨⟨fun y hy => ?_, fun y hy => ?_, fun y i hy => ?_, fun y i hy => ?_, fun y i r hy hr => ?_, fun y z hy hz e => ?_⟩, fun y i r hy hr => ?_⟩
  · rcases lv y hy with e | e
    · exact Or.inl (by omega)
    · rw [upK_ne (hs y e).1]
      exact r1 y e
  · rcases lv y hy with e | e
    · rw [e, upK_at, gK_nK, gK_nK, if_pos rfl, if_pos rfl]
    · rw [upK_ne (hs y e).1, gK_nK, gK_nK, if_neg (hs y e).2, if_neg (hs y e).1]
      exact r2 y e
  · rcases lv y hy with e | e
    · rw [e, upK_at, gV_nK, gV_nK, if_pos rfl, if_pos rfl]
    · rw [upK_ne (hs y e).1, gV_nK, gV_nK, if_neg (hs y e).2, if_neg (hs y e).1]
      exact r3 y i e
  · rcases lv y hy with e | e
    · rw [e, upK_at, gR_nK, gR_nK, if_pos rfl, if_pos rfl]
      rfl
    · rw [upK_ne (hs y e).1, gR_nK, gR_nK, if_neg (hs y e).2, if_neg (hs y e).1, r4 y i e]
      cases er : gR u y i with
      | none => rfl
      | some r =>
        show some (σ r) = some (upK σ a k r)
        rw [upK_ne (hs r (c y i r e er)).1]
  · rcases lv y hy with e | e
    · rw [e, gR_nK, if_pos rfl] at hr
      cases hr
    · rw [gR_nK, if_neg (hs y e).1] at hr
      rw [upK_ne (hs r (c y i r e hr)).1]
      exact r5 y i r e hr
  · rcases lv y hy with g | g
    · rcases lv z hz with h | h
      · exact g.trans h.symm
      · rw [g, upK_at, upK_ne (hs z h).1] at e
        exact absurd e.symm (hs z h).2
    · rcases lv z hz with h | h
      · rw [h, upK_at, upK_ne (hs y g).1] at e
        exact absurd e (hs y g).2
      · rw [upK_ne (hs y g).1, upK_ne (hs z h).1] at e
        exact r6 y z g h e
  · rcases lv y hy with e | e
    · rw [e, gR_nK, if_pos rfl] at hr
      cases hr
    · rw [gR_nK, if_neg (hs y e).1] at hr
      have q := c y i r e hr
      rw [gK_nK, if_neg (hs r q).1]
      exact q
theorem si_ref (S : SI σ w u) (ha : gK u a ≠ none) (hb : gK u b ≠ none) : SI σ (sR w (σ a) j (some (σ b))) (sR u a j (some b)) := by
  obtain ⟨⟨r1, r2, r3, r4, r5, r6⟩, c⟩ := S
  refine ⟨⟨r1, r2, r3, fun y i hy => ?_, fun y i r hy hr => ?_, r6⟩, fun y i r hy hr => ?_⟩
  · rw [gR_sR, gR_sR]
    by_cases e : y = a ∧ i = j
    · rw [if_pos ⟨by rw [e.1], e.2⟩, if_pos e]
      rfl
    · rw [if_neg (fun z => e ⟨r6 y a hy ha z.1, z.2⟩), if_neg e]
      exact r4 y i hy
  · rw [gR_sR] at hr
    by_cases e : y = a ∧ i = j
    · rw [if_pos e] at hr
      injection hr with hr
      rw [← hr]
      exact (r1 b hb).imp id (fun z => z.2)
    · rw [if_neg e] at hr
      exact r5 y i r hy hr
  · rw [gR_sR] at hr
    by_cases e : y = a ∧ i = j
    · rw [if_pos e] at hr
      injection hr with hr
      rw [← hr]
      exact hb
    · rw [if_neg e] at hr
      exact c y i r hy hr
theorem si_val (S : SI σ w u) (ha : gK u a ≠ none) : SI σ (sV w (σ a) j x) (sV u a j x) := by
  obtain ⟨⟨r1, r2, r3, r4, r5, r6⟩, c⟩ := S
  refine ⟨⟨r1, r2, fun y i hy => ?_, r4, r5, r6⟩, c⟩
  rw [gV_sV, gV_sV]
  by_cases e : y = a ∧ i = j
  · rw [if_pos ⟨by rw [e.1], e.2⟩, if_pos e]
  · rw [if_neg (fun z => e ⟨r6 y a hy ha z.1, z.2⟩), if_neg e]
    exact r3 y i hy
end SIMU
/-! a world by lists over another -/
def lkK : List (Nat × Kd) → Nat → Option Kd
  | [], _ => none
  | e :: l, k => if k = e.1 then some e.2 else lkK l k
def lkR : List (Nat × Nat × Nat) → Nat → Int → Option Nat
  | [], _, _ => none
  | e :: l, k, j => if k = e.1 ∧ j = (e.2.1 : Int) then some e.2.2 else lkR l k j
def lkV : List (Nat × Nat × Int) → Nat → Int → Option Int
  | [], _, _ => none
  | e :: l, k, j => if k = e.1 ∧ j = (e.2.1 : Int) then some e.2.2 else lkV l k j
def MW (u0 : Wd) (L : List (Nat × Kd)) (R : List (Nat × Nat × Nat)) (V : List (Nat × Nat × Int)) : Wd := (fun k j => match lkV V k j with
  | some x => x
  | none => match lkK L k with
    | some _ => 0
    | none => gV u0 k j, fun k j => match lkR R k j with
  | some x => some x
  | none => match lkK L k with
    | some _ => none
    | none => gR u0 k j, fun k => match lkK L k with
  | some d => some d
  | none => gK u0 k)
section MWS
variable {w w' u u' u0 : Wd} {σ : Nat → Nat} {a b k p T : Nat} {d : Kd} {i j x n : Int} {ci t bc bs : Nat} {Q : Wd → Prop} {KN : Nat → Prop} {KW : Nat → Wd → Prop} {L : List (Nat × Kd)} {R : List (Nat × Nat × Nat)} {V : List (Nat × Nat × Int)}
theorem mw_hd : gK (MW u0 ((a, d) :: L) R V) a = some d := by
  have e : lkK ((a, d) :: L) a = some d := if_pos rfl
  show (match lkK ((a, d) :: L) a with
    | some d => some d
    | none => gK u0 a) = some d
  rw [e]
theorem mw_tl (h : k ≠ a) : gK (MW u0 ((a, d) :: L) R V) k = gK (MW u0 L R V) k := by
  have e : lkK ((a, d) :: L) k = lkK L k := if_neg h
  show (match lkK ((a, d) :: L) k with
    | some d => some d
    | none => gK u0 k) = _
  rw [e]
  rfl
theorem mw_any {R' : List (Nat × Nat × Nat)} {V' : List (Nat × Nat × Int)} : gK (MW u0 L R' V') k = gK (MW u0 L R V) k := rfl
/-- every entry is of a live cell -/
def WFm (u0 : Wd) (L : List (Nat × Kd)) (R : List (Nat × Nat × Nat)) (V : List (Nat × Nat × Int)) : Prop := (∀ e ∈ R, gK (MW u0 L R V) e.1 ≠ none) ∧ ∀ e ∈ V, gK (MW u0 L R V) e.1 ≠ none
theorem lkR_none (h : ∀ e ∈ R, e.1 ≠ k) : lkR R k j = none := by
  induction R with
  | nil => rfl
  | cons e l ih =>
    show (if k = e.1 ∧ j = (e.2.1 : Int) then some e.2.2 else lkR l k j) = none
    rw [if_neg (fun z => h e (List.mem_cons_self ..) z.1.symm)]
    exact ih (fun e' he => h e' (List.mem_cons_of_mem _ he))
theorem lkV_none (h : ∀ e ∈ V, e.1 ≠ k) : lkV V k j = none := by
  induction V with
  | nil => rfl
  | cons e l ih =>
    show (if k = e.1 ∧ j = (e.2.1 : Int) then some e.2.2 else lkV l k j) = none
    rw [if_neg (fun z => h e (List.mem_cons_self ..) z.1.symm)]
    exact ih (fun e' he => h e' (List.mem_cons_of_mem _ he))
theorem mw_new (W : WFm u0 L R V) (hd : gK (MW u0 L R V) a = none) : nK (MW u0 L R V) a d = MW u0 ((a, d) :: L) R V := by
  have hR : ∀ j, lkR R a j = none := fun j => lkR_none (fun e he z => W.1 e he (by rw [z]; exact hd))
  have hV : ∀ j, lkV V a j = none := fun j => lkV_none (fun e he z => W.2 e he (by rw [z]; exact hd))
  have hh : lkK ((a, d) :: L) a = some d := if_pos rfl
  have ht : ∀ k, k ≠ a → lkK ((a, d) :: L) k = lkK L k := fun k h => if_neg h
  refine Prod.ext (funext fun k => funext fun j => ?_) (Prod.ext (funext fun k => funext fun j => ?_) (funext fun k => ?_))
  · show gV (nK (MW u0 L R V) a d) k j = gV (MW u0 ((a, d) :: L) R V) k j
    rw [gV_nK]
    unfold gV MW
    by_cases e : k = a
    · rw [if_pos e, e]
      dsimp only
      rw [hV, hh]
    · rw [if_neg e]
      dsimp only
      rw [ht k e]
  · show gR (nK (MW u0 L R V) a d) k j = gR (MW u0 ((a, d) :: L) R V) k j
    rw [gR_nK]
    unfold gR MW
    by_cases e : k = a
    · rw [if_pos e, e]
      dsimp only
      rw [hR, hh]
    · rw [if_neg e]
      dsimp only
      rw [ht k e]
  · show gK (nK (MW u0 L R V) a d) k = gK (MW u0 ((a, d) :: L) R V) k
    rw [gK_nK]
    by_cases e : k = a
    · rw [if_pos e, e, mw_hd]
    · rw [if_neg e, mw_tl e]
theorem mw_ref {p : Nat} : sR (MW u0 L R V) a (p : Int) (some b) = MW u0 L ((a, p, b) :: R) V := by
  refine Prod.ext rfl (Prod.ext (funext fun k => funext fun j => ?_) rfl)
  show (if k = a ∧ j = (p : Int) then some b else gR (MW u0 L R V) k j) = match lkR ((a, p, b) :: R) k j with
    | some x => some x
    | none => match lkK L k with
      | some _ => none
      | none => gR u0 k j
  by_cases e : k = a ∧ j = (p : Int)
  · have h : lkR ((a, p, b) :: R) k j = some b := if_pos e
    rw [if_pos e, h]
  · have h : lkR ((a, p, b) :: R) k j = lkR R k j := if_neg e
    rw [if_neg e, h]
    rfl
theorem mw_val {p : Nat} : sV (MW u0 L R V) a (p : Int) x = MW u0 L R ((a, p, x) :: V) := by
  refine Prod.ext (funext fun k => funext fun j => ?_) rfl
  show (if k = a ∧ j = (p : Int) then x else gV (MW u0 L R V) k j) = match lkV ((a, p, x) :: V) k j with
    | some x => x
    | none => match lkK L k with
      | some _ => 0
      | none => gV u0 k j
  by_cases e : k = a ∧ j = (p : Int)
  · have h : lkV ((a, p, x) :: V) k j = some x := if_pos e
    rw [if_pos e, h]
  · have h : lkV ((a, p, x) :: V) k j = lkV V k j := if_neg e
    rw [if_neg e, h]
    rfl
/-- the world w stands beside the lists over u0 -/
def MM (u0 : Wd) (σ : Nat → Nat) (w : Wd) (L : List (Nat × Kd)) (R : List (Nat × Nat × Nat)) (V : List (Nat × Nat × Int)) : Prop := SI σ w (MW u0 L R V) ∧ WFm u0 L R V
theorem WFm.new (W : WFm u0 L R V) : WFm u0 ((a, d) :: L) R V := by
  have g : ∀ k, gK (MW u0 L R V) k ≠ none → gK (MW u0 ((a, d) :: L) R V) k ≠ none := fun k h => by
    by_cases e : k = a
    · rw [e, mw_hd]
      exact fun z => by cases z
    · rw [mw_tl e]
      exact h
  exact ⟨fun e he => g _ (W.1 e he), fun e he => g _ (W.2 e he)⟩
/-- a new cell, to be known at a -/
theorem MM.new (M : MM u0 σ w L R V) (ha : a < 800) (hd : gK (MW u0 L R V) a = none) (hk : gK w k = none) : MM u0 (upK σ a k) (nK w k d) ((a, d) :: L) R V := by
  refine ⟨?_, M.2.new⟩
  rw [← mw_new M.2 hd]
  exact si_new M.1 ha hd hk
theorem MM.ref {p : Nat} (M : MM u0 σ w L R V) (ha : gK (MW u0 L R V) a ≠ none) (hb : gK (MW u0 L R V) b ≠ none) : MM u0 σ (sR w (σ a) (p : Int) (some (σ b))) L ((a, p, b) :: R) V := by
  refine ⟨?_, fun e he => ?_, M.2.2⟩
  · rw [← mw_ref]
    exact si_ref M.1 ha hb
  · rcases List.mem_cons.mp he with z | z
    · rw [z]
      exact ha
    · exact M.2.1 e z
theorem MM.val {p : Nat} (M : MM u0 σ w L R V) (ha : gK (MW u0 L R V) a ≠ none) : MM u0 σ (sV w (σ a) (p : Int) x) L R ((a, p, x) :: V) := by
  refine ⟨?_, M.2.1, fun e he => ?_⟩
  · rw [← mw_val]
    exact si_val M.1 ha
  · rcases List.mem_cons.mp he with z | z
    · rw [z]
      exact ha
    · exact M.2.2 e z
theorem MM.gk (M : MM u0 σ w L R V) (h : gK (MW u0 L R V) a = some d) : gK w (σ a) = some d := (M.1.1.2.1 a (kd_ne h)).trans h
/-! the steps -/
theorem mm_O (M : MM u0 σ w L R V) (a : Nat) (ha : a < 800) (hd : gK (MW u0 L R V) a = none) (hb : 1 ≤ bc ∧ nfA ci ≤ bs) (h : ∀ σ' w', MM u0 σ' w' ((a, .inl ci) :: L) R V → (∀ x, x ≠ a → σ' x = σ x) → KW (σ' a) w') : wnO w ci bc bs KW := ⟨hb, fun k _ hk => by
  have q := h (upK σ a k) _ (M.new ha hd hk) (fun x hx => upK_ne hx)
  rw [upK_at] at q
  exact q⟩
theorem mm_A (M : MM u0 σ w L R V) (a : Nat) (ha : a < 800) (hd : gK (MW u0 L R V) a = none) (hb : 0 ≤ n ∧ n ≤ 65536 ∧ 1 ≤ bc ∧ n.toNat ≤ bs) (h : ∀ σ' w', MM u0 σ' w' ((a, .inr (t, n.toNat)) :: L) R V → (∀ x, x ≠ a → σ' x = σ x) → KW (σ' a) w') : wnA w t bc bs n KW := ⟨hb, fun k _ hk => by
  have q := h (upK σ a k) _ (M.new ha hd hk) (fun x hx => upK_ne hx)
  rw [upK_at] at q
  exact q⟩
theorem mm_pfR (M : MM u0 σ w L R V) (hT : σ p = T) (hp : gK (MW u0 L R V) p = some (.inl ci)) (hb : gK (MW u0 L R V) b ≠ none) {jn : Nat} (h : ∀ w', MM u0 σ w' L ((p, jn, b) :: R) V → Q w') : pfR w T ci jn (some (σ b)) Q := by
  subst hT
  exact ⟨M.gk hp, h _ (M.ref (kd_ne hp) hb)⟩
theorem mm_pfI (M : MM u0 σ w L R V) (hT : σ p = T) (hp : gK (MW u0 L R V) p = some (.inl ci)) {jn : Nat} (h : ∀ w', MM u0 σ w' L R ((p, jn, x) :: V) → Q w') : pfI w T ci jn x Q := by
  subst hT
  exact ⟨M.gk hp, h _ (M.val (kd_ne hp))⟩
theorem mm_AR (M : MM u0 σ w L R V) (hT : σ p = T) (hp : gK (MW u0 L R V) p = some (.inl ci)) (a : Nat) (ha : a < 800) (hd : gK (MW u0 L R V) a = none) (hb : 0 ≤ n ∧ n ≤ 65536 ∧ 1 ≤ bc ∧ n.toNat ≤ bs) {jn : Nat} (h : ∀ σ' w', MM u0 σ' w' ((a, .inr (t, n.toNat)) :: L) ((p, jn, a) :: R) V → (∀ x, x ≠ a → σ' x = σ x) → Q w') : wnA w t bc bs n (fun k w2 => pfR w2 T ci jn (some k) Q) := by
  have hpa : p ≠ a := fun e => by
    rw [e, hd] at hp
    cases hp
  exact mm_A M a ha hd hb (fun σ' w' M' hs => mm_pfR M' ((hs p hpa).trans hT) ((mw_tl hpa).trans hp) (kd_ne mw_hd) (fun w2 M2 => h σ' w2 M2 hs))
theorem mm_QR (M : MM u0 σ w L R V) (hT : σ p = T) (hp : gK (MW u0 L R V) p = some (.inl ci)) (a : Nat) (ha : a < 800) (hd : gK (MW u0 L R V) a = none) (hb : 0 ≤ n ∧ n ≤ 65536 ∧ 1 ≤ bc ∧ n.toNat ≤ bs) {jn : Nat} (h : ∀ σ' w', MM u0 σ' w' ((a, .inr (t, n.toNat)) :: L) ((p, jn, a) :: R) V → (∀ x, x ≠ a → σ' x = σ x) → Q w') : wnQ w t bc bs n (fun k w2 => pfR w2 T ci jn (some k) Q) := mm_AR M hT hp a ha hd hb h
theorem mm_gfA (M : MM u0 σ w L R V) (hT : σ p = T) (hp : gK (MW u0 L R V) p = some (.inl ci)) {jn : Nat} (hr : gR (MW u0 L R V) p (jn : Int) = some a) (h : KN (σ a)) : gfA w T ci jn KN := by
  subst hT
  refine ⟨M.gk hp, σ a, ?_, h⟩
  rw [M.1.1.2.2.2.1 p _ (kd_ne hp), hr]
  rfl
theorem mm_asI {m : Nat} (M : MM u0 σ w L R V) (q : Nat) (hi : i = (q : Int)) (hp : gK (MW u0 L R V) a = some (.inr (t, m))) (hq : q < m ∧ m < 2147483648) (h : ∀ w', MM u0 σ w' L R ((a, q, x) :: V) → Q w') : asI w (σ a) t i x Q := by
  subst hi
  exact ⟨m, M.gk hp, ⟨by omega, by omega, hq.2⟩, h _ (M.val (kd_ne hp))⟩
theorem mm_asQ {m : Nat} (M : MM u0 σ w L R V) (q : Nat) (hi : i = (q : Int)) (hp : gK (MW u0 L R V) a = some (.inr (t, m))) (hq : q < m ∧ m < 2147483648) (hb : gK (MW u0 L R V) b = some (.inl ci)) (ho : okT t ci = true) (h : ∀ w', MM u0 σ w' L ((a, q, b) :: R) V → Q w') : asQ w (σ a) t i (some (σ b)) Q := by
  subst hi
  exact ⟨Or.inr ⟨σ b, ci, rfl, M.gk hb, ho⟩, m, M.gk hp, ⟨by omega, by omega, hq.2⟩, h _ (M.ref (kd_ne hp) (kd_ne hb))⟩
/-! a table -/
def tbL (a : Nat) (L : List (Nat × Kd)) : List (Nat × Kd) := (a + 5, .inr (0, 6)) :: (a + 4, .inr (0, 6)) :: (a + 3, .inr (0, 6)) :: (a + 2, .inr (0, 6)) :: (a + 1, .inr (0, 48)) :: L
def tbR (a : Nat) (R : List (Nat × Nat × Nat)) : List (Nat × Nat × Nat) := (a, 4, a + 5) :: (a, 3, a + 4) :: (a, 2, a + 3) :: (a, 1, a + 2) :: (a, 0, a + 1) :: R
theorem x2_ini (M : MM u0 σ w L R V) (hT : σ a = T) (ha : a + 5 < 800) (hp : gK (MW u0 L R V) a = some (.inl 3)) (hd : ∀ j, 1 ≤ j → j ≤ 5 → gK (MW u0 L R V) (a + j) = none) (hb : 5 ≤ bc ∧ 72 ≤ bs) (h : ∀ σ' w', MM u0 σ' w' (tbL a L) (tbR a R) V → (∀ x, x < a + 1 ∨ a + 5 < x → σ' x = σ x) → Q w') : wp_X2_init T bc bs w Q := by
  have t48 : Int.toNat 48 = 48 := rfl
  have t6 : Int.toNat 6 = 6 := rfl
  have d1 := hd 1 (by decide) (by decide)
  have d2 := hd 2 (by decide) (by decide)
  have d3 := hd 3 (by decide) (by decide)
  have d4 := hd 4 (by decide) (by decide)
  have d5 := hd 5 (by decide) (by decide)
  unfold wp_X2_init
  refine mm_AR M hT hp (a + 1) (by omega) d1 ⟨by decide, by decide, by omega, by omega⟩ (fun σ1 w1 M1 s1 => ?_)
  refine mm_AR M1 ((s1 a (by omega)).trans hT) ((mw_tl (by omega)).trans hp) (a + 2) (by omega) ((mw_tl (by omega)).trans d2) ⟨by decide, by decide, by omega, by omega⟩ (fun σ2 w2 M2 s2 => ?_)
  refine mm_AR M2 ((s2 a (by omega)).trans ((s1 a (by omega)).trans hT)) ((mw_tl (by omega)).trans ((mw_tl (by omega)).trans hp)) (a + 3) (by omega) ((mw_tl (by omega)).trans ((mw_tl (by omega)).trans d3)) ⟨by decide, by decide, by omega, by omega⟩ (fun σ3 w3 M3 s3 => ?_)
  refine mm_AR M3 ((s3 a (by omega)).trans ((s2 a (by omega)).trans ((s1 a (by omega)).trans hT))) ((mw_tl (by omega)).trans ((mw_tl (by omega)).trans ((mw_tl (by omega)).trans hp))) (a + 4) (by omega) ((mw_tl (by omega)).trans ((mw_tl (by omega)).trans ((mw_tl (by omega)).trans d4))) ⟨by decide, by decide, by omega, by omega⟩ (fun σ4 w4 M4 s4 => ?_)
  refine mm_AR M4 ((s4 a (by omega)).trans ((s3 a (by omega)).trans ((s2 a (by omega)).trans ((s1 a (by omega)).trans hT)))) ((mw_tl (by omega)).trans ((mw_tl (by omega)).trans ((mw_tl (by omega)).trans ((mw_tl (by omega)).trans hp)))) (a + 5) (by omega) ((mw_tl (by omega)).trans ((mw_tl (by omega)).trans ((mw_tl (by omega)).trans ((mw_tl (by omega)).trans d5)))) ⟨by decide, by decide, by omega, by omega⟩ (fun σ5 w5 M5 s5 => ?_)
  exact h σ5 w5 M5 (fun x hx => (s5 x (by omega)).trans ((s4 x (by omega)).trans ((s3 x (by omega)).trans ((s2 x (by omega)).trans (s1 x (by omega))))))
end MWS
