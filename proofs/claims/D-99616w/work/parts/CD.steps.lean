/-! THE PLAIN LAW: texts: the component reads a clause, step by step -/
set_option maxRecDepth 100000
section TAILS
variable (T : Int → Int) (N : Int) (ord : Bool)
def tlC (hd tm : Int) (l : List Su) (s : LX) : PRS Cl := match whnS T N ord s with
  | .error e => .error e
  | .ok (t, s4) => .ok ((hd, l, tm, t), s4)
def tlB (hd : Int) (l : List Su) (s : LX) : PRS Cl := match timS T N ord s with
  | .error e => .error e
  | .ok (n, s3) => tlC T N ord hd n l s3
def tlA (hd : Int) (s : LX) : PRS Cl := match sumsS T N ord hd s with
  | .error e => .error e
  | .ok (l, s2) => tlB T N ord hd l s2
end TAILS
/-- in the midst of a clause at k8 -/
def MID (T : Int → Int) (N : Int) (ord : Bool) (w0 w : Wd) (r : Nat) (s : LX) (l : List Cl) (li E n k8 : Nat) (c : Cl) : Prop := gK w0 r = none ∧ RDG T N ord w r s ∧ KPW w0 w ∧ CLS (fun q => gK w0 q = none ∧ q ≠ k8) w ord r l li E n ∧ ClA (fun q => gK w0 q = none ∧ q ≠ li ∧ q ≠ E) w ord c k8 ∧ gV w r 2 = l.length + 1 ∧ l.length < 12 ∧ n ≤ 17
/-- behind a clause -/
def PST (T : Int → Int) (N : Int) (ord : Bool) (w0 w : Wd) (r : Nat) (s : LX) (l : List Cl) (li E n : Nat) : Prop := gK w0 r = none ∧ RDG T N ord w r s ∧ KPW w0 w ∧ CLS (fun q => gK w0 q = none) w ord r l li E n ∧ gV w r 2 = l.length ∧ l.length ≤ 12 ∧ n ≤ 17
/-- the reader faults -/
def BAK (w0 : Wd) (XE : Nat → Wd → Prop) {α : Type} (rr : PRS α) : Prop := ∀ e, rr = .error e → ∀ k w', KPW w0 w' → TIW w' → gK w' k = some (.inl 6) → gV w' k 6 = e → XE k w'
section STEPS
variable {T : Int → Int} {N : Int} {ord : Bool} {w w' w0 w1 w2 : Wd} {r k t n li E k8 : Nat} {s : LX} {P : Prop} {v x i : Int} {QW X : Wd → Prop} {XE : Nat → Wd → Prop} {bc bs : Nat} {F F' : Nat → Prop} {l : List Cl} {c : Cl}
theorem MID.fp {t : LX} (h : MID T N ord w0 w r s l li E n k8 c) (f : FP r w w') (I : TIW w') (R : RDX T N w' r t) (L : LOK T N t) : MID T N ord w0 w' r t l li E n k8 c := by
  obtain ⟨h0, h1, h2, h3, h4, h5, h6⟩ := h
  have fr := f r (by rw [h1.2.2.2]; exact fun z => by cases z)
  exact ⟨h0, h1.to f I R L, h2.fp f h0, h3.fp f h1.1.1.2.1, h4.fp f h1.1.1.2.1, (fr.2.2 2 (fun y => by omega)).trans h5, h6⟩
theorem MID.set {c2 : Cl} (h : MID T N ord w0 w r s l li E n k8 c) (hn : NEW k8 w w') (I : TIW w') (A : ClA (fun q => gK w0 q = none ∧ q ≠ li ∧ q ≠ E) w' ord c2 k8) : MID T N ord w0 w' r s l li E n k8 c2 := by
  obtain ⟨h0, h1, h2, h3, h4, h5, h6⟩ := h
  have kr : k8 ≠ r := fun y => h3.1.2 y.symm
  have kl : gK w r ≠ none := by rw [h1.2.2.2]; exact fun z => by cases z
  have R' := h1.1.nw hn h4.1.2 kr
  exact ⟨h0, ⟨R', I, h1.2.2.1, (hn r kr.symm).1.trans h1.2.2.2⟩, h2.ne hn h4.1.1.1, h3.ne kl hn (fun y => y.2 rfl), A, ((hn r kr.symm).2.1 2).trans h5, h6⟩
theorem BAK.bad {α β : Type} {r1 : PRS α} {r2 : PRS β} (h : BAK w0 XE r1) (f : KPW w0 w) (hr : gK w0 r = none) (he : ∀ e, r2 = .error e → r1 = .error e) : BAD w r XE r2 := fun e q k w2 f2 I K V => h e (he e q) k w2 (f.fp f2 hr) I K V
theorem max_le {n : Nat} (h : n ≤ 12) : n + max 1 (n / 2) ≤ 18 := by omega
/-- the clause is put behind the others -/
theorem x_put (h : MID T N ord w0 w r s l li E n k8 c) (hB : 1 ≤ bc ∧ 17 ≤ bs) (hq : ∀ w' E' n', PST T N ord w0 w' r s (l ++ [c]) li E' n' → QW w') : dO (some li) fun k2 => cO w k2 18 <| xB bc bs fun mc5 ms6 => wp_J2_add k2 (some k8) mc5 ms6 w fun r3 w4 => QW w4 := by
  obtain ⟨h0, h1, h2, h3, h4, h5, h6, h7⟩ := h
  have h3' : CLS (fun q => gK w0 q = none) w ord r l li E n := h3.mo (by rw [h1.2.2.2]; exact fun z => by cases z) (fun q a _ => ⟨a.1, rfl, fun _ => rfl, fun _ _ => rfl⟩)
  have lst := h3'.2.2.2.2.1
  refine s_dO (s_cO lst.1 ⟨bc, bs, ⟨Nat.le_refl _, Nat.le_refl _⟩, j2_add lst h1.2.1 h4.2.1 (by split <;> decide) h4.1.2 (fun y => by omega) (fun y => ⟨hB.1, by omega⟩) (fun w' E' n' h9 => ?_)⟩)
  have rk := h9.kr h1.1.1.2.1 lst.1 lst.2.2.1
  have R' := h1.1.add h9 lst.1 h3'.2.2.2.1.2 lst.2.2.1
  refine hq w' E' n' ⟨h0, ⟨R', h9.2.2.2.2.2.2, h1.2.2.1, rk.trans h1.2.2.2⟩, h2.add h9 h3'.2.2.1.1 h3'.2.2.2.1.1, h3'.add h1.1.1.2.1 h4 h9 (fun q a => h2.no a) (by omega), ?_, ?_, ?_⟩
  · have y5 := h9.2.2.2.1
    have u1 : r ≠ li := fun y => h1.1.1.2.1.nk lst.1 (by decide) y.symm
    have u2 : r ≠ E := fun y => by subst y; have := h1.2.2.2; rw [lst.2.2.1] at this; cases this
    have u3 : r ≠ E' := fun y => by
      rcases h9.2.2.2.2.1 with ⟨u, _⟩ | ⟨u, _⟩
      · exact u2 (y.trans u)
      · rw [← y, h1.2.2.2] at u; cases u
    rw [(y5 r u1 u2 u3).2.1 2, h5, List.length_append]
    rfl
  · rw [List.length_append]; show l.length + 1 ≤ 12; omega
  · rcases h9.2.2.2.2.1 with ⟨_, u, _⟩ | ⟨_, _, u2, u, _⟩
    · omega
    · omega
theorem CST_sh {α : Type} {s s1 : LX} {rr : PRS α} (h : s.1 ≤ s1.1) (hN : s1.1 ≤ N) (hl : RDL T N s1 rr) : CST N s1 rr + (s1.1 - s.1).toNat = CST N s rr := by
  cases rr with
  | error e => unfold CST; dsimp only; omega
  | ok y =>
    obtain ⟨y, s3⟩ := y
    have hl : s3 = s1 ∨ OKR T N s1 s3 := hl
    have h3 : s1.1 ≤ s3.1 := by
      rcases hl with h | h
      · rw [h]; exact Int.le_refl _
      · have := h.2.1; omega
    unfold CST; dsimp only; omega
theorem whnS_ok (h : LOK T N s) : RDL T N s (whnS T N ord s) := by
  unfold whnS
  by_cases g : tkT T (if ord = true then 44 else 29) s = true
  · rw [if_pos g]
    have lt := tk_lt' h (by split <;> decide) g
    have o1 := OKR.nx h lt.2
    have r := teR_ok (ord := ord) 10 _ o1.1
    cases e : teR T N ord 10 (nxS T N s) with
    | error p => rw [e] at r; exact r
    | ok y =>
      obtain ⟨x, s2⟩ := y
      rw [e] at r
      exact Or.inr (o1.tr r)
  · rw [if_neg g]; exact Or.inl rfl
theorem timS_ok (h : LOK T N s) : RDL T N s (timS T N ord s) := by
  unfold timS
  by_cases g : ord = true ∧ tkT T 43 s = true
  · rw [if_pos g]
    have lt := tk_lt' h (by decide) g.2
    have o1 := OKR.nx h lt.2
    exact (o1.rl (nuS_ok o1.1).rl).rl
  · rw [if_neg g]; exact Or.inl rfl
theorem behS_ok {i : Nat} (hi : i < 45) (h : LOK T N s) : RDO T N s (behS T N ord i s) := by
  unfold behS
  by_cases g : tkT T i s = true
  · rw [if_pos g]
    have lt := tk_lt' h hi g
    have o1 := OKR.nx h lt.2
    exact o1.rl (suR_ok 10 _ o1.1).rl
  · rw [if_neg g]; exact h.1
theorem RDL.tr {β : Type} {u : LX} {r : PRS β} (o : u = s ∨ OKR T N s u) (h : RDL T N u r) : RDL T N s r := by
  rcases o with o | o
  · subst o; exact h
  · exact (o.rl h).rl
theorem sumsS_ok {hd : Int} (h : LOK T N s) : RDL T N s (sumsS T N ord hd s) := by
  unfold sumsS
  by_cases g : hd = 3
  · rw [if_pos g]; exact Or.inl rfl
  · rw [if_neg g]
    have r := suR_ok (ord := ord) 10 s h
    cases e : suR T N ord 10 s with
    | error p => rw [e] at r; exact r
    | ok y =>
      obtain ⟨a, s2⟩ := y
      rw [e] at r
      have r : OKR T N s s2 := r
      dsimp only
      by_cases g2 : ord = false
      · rw [if_pos g2]; exact Or.inr r
      · rw [if_neg g2]
        have r2 := behS_ok (ord := ord) (i := if hd = 0 then 40 else if hd = 1 then 41 else 42) (by split <;> (try split) <;> decide) r.1
        cases e2 : behS T N ord (if hd = 0 then 40 else if hd = 1 then 41 else 42) s2 with
        | error p => rw [e2] at r2; exact r2
        | ok y =>
          obtain ⟨b, s3⟩ := y
          rw [e2] at r2
          have r2 : OKR T N s2 s3 := r2
          dsimp only
          by_cases g3 : hd = 0
          · rw [if_pos g3]
            have r3 := behS_ok (ord := ord) (i := 41) (by decide) r2.1
            cases e3 : behS T N ord 41 s3 with
            | error p => rw [e3] at r3; exact r3
            | ok y =>
              obtain ⟨c, s4⟩ := y
              rw [e3] at r3
              exact Or.inr ((r.tr r2).tr r3)
          · rw [if_neg g3]; exact Or.inr (r.tr r2)
theorem tlC_ok {hd tm : Int} {l : List Su} (h : LOK T N s) : RDL T N s (tlC T N ord hd tm l s) := by
  unfold tlC
  have r := whnS_ok (ord := ord) h
  cases e : whnS T N ord s with
  | error p => rw [e] at r; exact r
  | ok y =>
    obtain ⟨a, s2⟩ := y
    rw [e] at r
    exact r
theorem RDL.lok {α : Type} {a : α} {u : LX} (L : LOK T N s) (h : RDL T N s (.ok (a, u))) : LOK T N u ∧ (u = s ∨ OKR T N s u) := by
  have h : u = s ∨ OKR T N s u := h
  refine ⟨?_, h⟩
  rcases h with h | h
  · subst h; exact L
  · exact h.1
theorem tlB_ok {hd : Int} {l : List Su} (h : LOK T N s) : RDL T N s (tlB T N ord hd l s) := by
  unfold tlB
  have r := timS_ok (ord := ord) h
  cases e : timS T N ord s with
  | error p => rw [e] at r; exact r
  | ok y =>
    obtain ⟨a, s2⟩ := y
    rw [e] at r
    obtain ⟨L, o⟩ := r.lok h
    exact RDL.tr o (tlC_ok L)
theorem tlA_ok {hd : Int} (h : LOK T N s) : RDL T N s (tlA T N ord hd s) := by
  unfold tlA
  have r := sumsS_ok (ord := ord) (hd := hd) h
  cases e : sumsS T N ord hd s with
  | error p => rw [e] at r; exact r
  | ok y =>
    obtain ⟨a, s2⟩ := y
    rw [e] at r
    obtain ⟨L, o⟩ := r.lok h
    exact RDL.tr o (tlB_ok L)
theorem claS_eq {m : Int} : claS T N ord m s = if m = 12 ∨ hdI T ord s = -1 then .error s.1 else tlA T N ord (hdI T ord s) (nxS T N s) := by
  unfold claS tlA tlB tlC
  rfl

/-- the test behind, if there is one; then the clause is put -/
theorem x7_94 {hd tm : Int} {sl : List Su} (h : MID T N false w0 w r s l li E n k8 (hd, sl, tm, none)) (hB1 : 7 * CST N s (tlC T N false hd tm sl s) + 1 ≤ bc) (hB2 : 30 * CST N s (tlC T N false hd tm sl s) + 17 ≤ bs) (hq : ∀ c t, tlC T N false hd tm sl s = .ok (c, t) → ∀ w' E' n', PST T N false w0 w' r t (l ++ [c]) li E' n' → QW w') (hE : BAK w0 XE (tlC T N false hd tm sl s)) : wp_X7_clause_94 QW XE r k8 bc bs w := by
  have G := h.2.1
  have hc := G.2.2.2
  have L := G.2.2.1
  have R := G.1
  unfold wp_X7_clause_94
  refine s_cO hc (x6_takes (by decide) R L (fun z w1 f1 R1 => ?_) (fun z => ?_))
  · have lt := tk_lt' L (by decide) z
    have o1 := OKR.nx L lt.2
    have p1 := o1.2.1
    have p2 := o1.1.1
    have rp := teR_ok (ord := false) 10 _ o1.1
    have h1 := h.fp f1.fp (G.2.1.sm f1.1) R1 o1.1
    have e9 : tlC T N false hd tm sl s = match teR T N false 10 (nxS T N s) with
      | .error e => .error e
      | .ok (t, s4) => .ok ((hd, sl, tm, some t), s4) := by
      unfold tlC whnS
      have e5 : (if false = true then 44 else 29 : Nat) = 29 := rfl
      rw [e5, if_pos z]
      cases teR T N false 10 (nxS T N s) <;> rfl
    have hc1 := h1.2.1.2.2.2
    refine s_ckI ⟨by decide, by decide⟩ (s_br (fun y => absurd y (by decide)) (fun _ => s_cO hc1 ?_))
    have hBc : CST N (nxS T N s) (teR T N false 10 (nxS T N s)) + 1 ≤ CST N s (tlC T N false hd tm sl s) := by
      cases eP : teR T N false 10 (nxS T N s) with
      | error e =>
        rw [eP] at e9
        exact CST_err rfl e9 p1 p2.2
      | ok y =>
        obtain ⟨b, s2⟩ := y
        rw [eP] at e9 rp
        have rp : OKR T N (nxS T N s) s2 := rp
        have := rp.2.1
        rw [e9]
        unfold CST; dsimp only; omega
    refine ⟨7 * CST N (nxS T N s) (teR T N false 10 (nxS T N s)), 30 * CST N (nxS T N s) (teR T N false 10 (nxS T N s)), ⟨by omega, by omega⟩, x6_teT r _ w1 _ _ _ _ h1.2.1 (by have := o1.1.2.2.2.2; omega) ⟨Nat.le_refl _, Nat.le_refl _⟩ (fun b s2 e kt w2 f2 I2 R2 A2 => ?_) (hE.bad h1.2.2.1 h.1 (fun e q => by rw [e9, q]))⟩
    have e8 : tlC T N false hd tm sl s = .ok ((hd, sl, tm, some b), s2) := by rw [e9, e]
    have rp2 : OKR T N (nxS T N s) s2 := by rw [e] at rp; exact rp
    have h2 := h1.fp f2 I2 R2 rp2.1
    have k8l : gK w1 k8 ≠ none := by rw [h1.2.2.2.2.1.2.1]; exact fun z => by cases z
    have lil : gK w1 li ≠ none := by rw [h1.2.2.2.1.2.2.2.2.1.1]; exact fun z => by cases z
    have El : gK w1 E ≠ none := by rw [h1.2.2.2.1.2.2.2.2.1.2.2.1]; exact fun z => by cases z
    have A3 : TeA (fun q => (gK w0 q = none ∧ q ≠ li ∧ q ≠ E) ∧ q ≠ k8) w2 31 b kt := A2.we (fun q a => ⟨⟨h1.2.2.1.no a, fun y => lil (y ▸ a), fun y => El (y ▸ a)⟩, fun y => k8l (y ▸ a)⟩)
    obtain ⟨_, ak, ad⟩ := TeA.f A3
    have kl : gK w2 kt ≠ none := by
      rcases ad with ad | ad | ad <;> rw [ad] <;> exact fun z => by cases z
    refine ⟨h2.2.2.2.2.1.2.1, ?_⟩
    have h3 := h2.set (w' := sR w2 k8 2 (some kt)) NEW.rf.sR (h2.2.1.2.1.set kl ak) (h2.2.2.2.2.1.tst A3)
    have hc3 := h3.2.1.2.2.2
    unfold wp_X7_clause_111
    have hc1 : ((2 : Nat) : Int) = 2 := rfl
    rw [hc1]
    exact s_gfR hc3 h3.2.2.2.1.2.1 (x_put h3 ⟨by omega, by omega⟩ (fun w' E' n' p => hq _ _ e8 w' E' n' p))
  · have e9 : tlC T N false hd tm sl s = .ok ((hd, sl, tm, none), s) := by
      unfold tlC whnS
      have e5 : (if false = true then 44 else 29 : Nat) = 29 := rfl
      rw [e5, if_neg z]
    unfold wp_X7_clause_111
    exact s_ckI ⟨by decide, by decide⟩ (s_br (fun _ => s_gfR hc h.2.2.2.1.2.1 (x_put h ⟨by omega, by omega⟩ (fun w' E' n' p => hq _ _ e9 w' E' n' p))) (fun y => absurd rfl y))
end STEPS
