/-! THE PLAIN LAW: texts: the component reads a text -/
set_option maxRecDepth 100000
/-- a new reader -/
def INI (T : Int → Int) (N : Int) (ord : Bool) (w0 w : Wd) (r li E : Nat) : Prop := gK w0 r = none ∧ RDX T N w r (0, 0, 0, 0) ∧ TIW w ∧ gK w r = some (.inl (kdR ord)) ∧ KPW w0 w ∧ CLS (fun q => gK w0 q = none) w ord r [] li E 2 ∧ gV w r 2 = 0
/-- a clause's walk -/
def WKC (T : Int → Int) (N : Int) (ord : Bool) : Prop := ∀ (w0 w : Wd) (r : Nat) (s : LX) (l : List Cl) (li E n bc bs : Nat) (QW : Wd → Prop) (XE : Nat → Wd → Prop), PST T N ord w0 w r s l li E n → BGT N s (claS T N ord l.length s) bc bs → (∀ c t, claS T N ord l.length s = .ok (c, t) → ∀ w' E' n', PST T N ord w0 w' r t (l ++ [c]) li E' n' → QW w') → BAK w0 XE (claS T N ord l.length s) → wp_dClause r bc bs w QW XE
section READ
variable {T : Int → Int} {N : Int} {ord : Bool} {w w' w0 w1 w2 : Wd} {r k t n li E k8 : Nat} {s : LX} {P : Prop} {v x i : Int} {QW X : Wd → Prop} {XE : Nat → Wd → Prop} {bc bs : Nat} {F F' : Nat → Prop} {l : List Cl} {c : Cl}
theorem wkc_law : WKC T N false := fun w0 w r s l li E n bc bs QW XE h hB hq hE => Or.inl ⟨h.2.1.2.2.2, x7_clause h hB hq hE⟩
theorem claS_ok {m : Int} (h : LOK T N s) : RDO T N s (claS T N ord m s) := by
  rw [claS_eq]
  by_cases g : m = 12 ∨ hdI T ord s = -1
  · rw [if_pos g]; exact h.1
  · rw [if_neg g]
    have lt := hd_lt h (fun y => g (Or.inr y))
    have o1 := OKR.nx h lt.2
    exact o1.rl (tlA_ok o1.1)
theorem rdL_ok : ∀ (k : Nat) (l : List Cl) (s : LX), LOK T N s → RDL T N s (rdL T N ord k l s) := by
  intro k
  induction k with
  | zero => intro l s h; exact h.1
  | succ k ih =>
    intro l s h
    have e9 : rdL T N ord (k + 1) l s = if tkT T 15 s = true then (match claS T N ord l.length (nxS T N s) with
      | .error e => .error e
      | .ok (c, s2) => rdL T N ord k (l ++ [c]) s2) else if s.1 < N then .error s.1 else .ok (l, s) := rfl
    rw [e9]
    by_cases g : tkT T 15 s = true
    · rw [if_pos g]
      have o1 := OKR.nx h (tk_lt' h (by decide) g).2
      have r := claS_ok (ord := ord) (m := l.length) o1.1
      cases e : claS T N ord l.length (nxS T N s) with
      | error p => rw [e] at r; exact r
      | ok y =>
        obtain ⟨x, s2⟩ := y
        rw [e] at r
        have o2 : OKR T N s s2 := o1.tr r
        exact (o2.rl (ih _ s2 o2.1)).rl
    · rw [if_neg g]
      by_cases g2 : s.1 < N
      · rw [if_pos g2]; exact h.1
      · rw [if_neg g2]; exact Or.inl rfl
theorem PST.lw {t : LX} (h : PST T N ord w0 w r s l li E n) (f : LW r w w') (R : RDX T N w' r t) (L : LOK T N t) : PST T N ord w0 w' r t l li E n := by
  obtain ⟨h0, h1, h2, h3, h4, h5⟩ := h
  exact ⟨h0, h1.to f.fp (h1.2.1.sm f.1) R L, h2.fp f.fp h0, h3.fp f.fp h1.1.1.2.1, (f.2 r 2 (by omega)).trans h4, h5⟩
theorem x6_read_8 (hC : WKC T N ord) : ∀ (m f1 f2 : Nat) (l : List Cl) (s : LX) (w : Wd) (E n bc bs : Nat), (N - s.1).toNat ≤ m → m < f1 → m < f2 → PST T N ord w0 w r s l li E n → BGT N s (rdL T N ord f2 l s) bc bs → (∀ l2 t, rdL T N ord f2 l s = .ok (l2, t) → ∀ w' E' n', PST T N ord w0 w' r t l2 li E' n' → QW w') → BAK w0 XE (rdL T N ord f2 l s) → wp_X6_read_8 QW XE (fun bc8 bs9 w7 => gfI2 w7 r 16 17 3 fun v10 => gfI2 w7 r 16 17 1 fun v11 => ckI v10 <| ckI v11 <| br (v11 ≤ v10) (QW w7) (wnO w7 6 bc8 bs9 fun k14 w15 => gfI2 w15 r 16 17 3 fun v16 => wp_X8_init k14 v16 w15 fun w17 => thr w17 k14 XE)) r f1 bc bs w := by
  intro m
  induction m with
  | zero =>
    intro f1 f2 l s w E n bc bs hm h1 h2 h hB hQ hE
    obtain ⟨g1, rfl⟩ : ∃ g, f1 = g + 1 := ⟨f1 - 1, by omega⟩
    obtain ⟨g2, rfl⟩ : ∃ g, f2 = g + 1 := ⟨f2 - 1, by omega⟩
    have G := h.2.1
    have L := G.2.2.1
    have L0 := L.1
    have R := G.1
    have hN := R.1.2.2.2.1
    rw [wp_X6_read_8]
    refine s_gf2 R.1.2.1 (x6_takes (by decide) R L (fun z w' f R' => ?_) (fun z => ?_))
    · have := (tk_lt' L (by decide) z).1; omega
    · have e9 : rdL T N ord (g2 + 1) l s = .ok (l, s) := by
        show (if tkT T 15 s = true then _ else if s.1 < N then _ else _) = _
        rw [if_neg z, if_neg (by omega)]
      exact s_ckI ⟨by decide, by decide⟩ (s_br (fun _ => s_gfI2 R.1.2.1 R.2.2.1 (s_gfI2 R.1.2.1 R.2.1 (s_ckI ⟨by omega, by omega⟩ (s_ckI ⟨by omega, by omega⟩ (s_br (fun _ => hQ _ _ e9 w E n h) (fun y => absurd (by omega) y)))))) (fun y => absurd rfl y))
  | succ m ih =>
    intro f1 f2 l s w E n bc bs hm h1 h2 h hB hQ hE
    obtain ⟨g1, rfl⟩ : ∃ g, f1 = g + 1 := ⟨f1 - 1, by omega⟩
    obtain ⟨g2, rfl⟩ : ∃ g, f2 = g + 1 := ⟨f2 - 1, by omega⟩
    have G := h.2.1
    have L := G.2.2.1
    have L0 := L.1
    have R := G.1
    have hN := R.1.2.2.2.1
    rw [wp_X6_read_8]
    refine s_gf2 R.1.2.1 (x6_takes (by decide) R L (fun z w1 f R1 => ?_) (fun z => ?_))
    · have lt := tk_lt' L (by decide) z
      have o1 := OKR.nx L lt.2
      have p1 := o1.2.1
      have p2 := o1.1.1
      have rp := claS_ok (ord := ord) (m := l.length) o1.1
      have e9 : rdL T N ord (g2 + 1) l s = match claS T N ord l.length (nxS T N s) with
        | .error e => .error e
        | .ok (c, s2) => rdL T N ord g2 (l ++ [c]) s2 := by
        show (if tkT T 15 s = true then _ else _) = _
        rw [if_pos z]
        rfl
      have hBc : CST N (nxS T N s) (claS T N ord l.length (nxS T N s)) + 1 ≤ CST N s (rdL T N ord (g2 + 1) l s) ∧ ∀ b s2, claS T N ord l.length (nxS T N s) = .ok (b, s2) → CST N (nxS T N s) (claS T N ord l.length (nxS T N s)) + CST N s2 (rdL T N ord g2 (l ++ [b]) s2) + 1 ≤ CST N s (rdL T N ord (g2 + 1) l s) := by
        cases eP : claS T N ord l.length (nxS T N s) with
        | error e =>
          rw [eP] at e9
          exact ⟨CST_err rfl e9 p1 p2.2, fun b s2 q => by cases q⟩
        | ok y =>
          obtain ⟨b, s2⟩ := y
          rw [eP] at e9 rp
          have rp : OKR T N (nxS T N s) s2 := rp
          have e9 : rdL T N ord (g2 + 1) l s = rdL T N ord g2 (l ++ [b]) s2 := e9
          rw [e9]
          have := CST_cons (N := N) (T := T) (s := s) (s1 := nxS T N s) (r1 := .ok (b, s2)) (r2 := rdL T N ord g2 (l ++ [b]) s2) rfl p1 (by have := rp.2.1; omega) rp.1.1.2 (rdL_ok _ _ _ rp.1)
          refine ⟨by omega, fun b' s2' q => ?_⟩
          injection q with q
          injection q with qa qb
          subst qa
          subst qb
          exact this
      obtain ⟨hB1, hB2⟩ := hB
      have h3 := h.lw f R1 o1.1
      refine s_ckI ⟨by decide, by decide⟩ (s_br (fun y => absurd y (by decide)) (fun _ => ?_))
      refine ⟨7 * CST N (nxS T N s) (claS T N ord l.length (nxS T N s)), 30 * CST N (nxS T N s) (claS T N ord l.length (nxS T N s)), ⟨by omega, by omega⟩, hC w0 w1 r _ l li E n _ _ _ _ h3 ⟨Nat.le_refl _, Nat.le_refl _⟩ (fun c s2 e w' E' n' h4 => ?_) (fun e q k w' a b c d => hE e (by rw [e9, q]) k w' a b c d)⟩
      have e8 : rdL T N ord (g2 + 1) l s = rdL T N ord g2 (l ++ [c]) s2 := by rw [e9, e]
      have rp2 : OKR T N (nxS T N s) s2 := by rw [e] at rp; exact rp
      have p3 := rp2.2.1
      have c9 := hBc.2 c s2 e
      exact ih g1 g2 (l ++ [c]) s2 w' E' n' _ _ (by omega) (by omega) (by omega) h4 ⟨by omega, by omega⟩ (fun l2 t q w' E' n' h => hQ l2 t (e8.trans q) w' E' n' h) (fun e q k w' a b c d => hE e (e8.trans q) k w' a b c d)
    · refine s_ckI ⟨by decide, by decide⟩ (s_br (fun _ => s_gfI2 R.1.2.1 R.2.2.1 (s_gfI2 R.1.2.1 R.2.1 (s_ckI ⟨by omega, by omega⟩ (s_ckI ⟨by omega, by omega⟩ (s_br (fun y => ?_) (fun y => ?_)))))) (fun y => absurd rfl y))
      · have e9 : rdL T N ord (g2 + 1) l s = .ok (l, s) := by
          show (if tkT T 15 s = true then _ else if s.1 < N then _ else _) = _
          rw [if_neg z, if_neg (by omega)]
        exact hQ _ _ e9 w E n h
      · have e9 : rdL T N ord (g2 + 1) l s = .error s.1 := by
          show (if tkT T 15 s = true then _ else if s.1 < N then _ else _) = _
          rw [if_neg z, if_pos (by omega)]
        rw [e9] at hB hE
        obtain ⟨hB1, hB2⟩ := hB
        unfold CST at hB1 hB2
        dsimp only at hB1 hB2
        exact x6_fault R G.2.1 L ⟨by omega, by omega⟩ (hE.bad (r2 := (.error s.1 : PRS (List Cl))) h.2.2.1 h.1 (fun e q => q) _ rfl)
theorem LOK.st (h : 0 ≤ N) : LOK T N (nxS T N (0, 0, 0, 0)) := by
  obtain ⟨a1, a2⟩ := skN_sp (T := T) (p := (0 : Int)) (N := N) h
  exact ⟨⟨a1.1, a1.2⟩, rfl, a2, ⟨Int.le_refl _, by show (0 : Int) ≤ 50; decide⟩, Int.le_refl _, by show (0 : Int) ≤ 8; decide⟩
theorem x6_read (hC : WKC T N ord) (h : INI T N ord w0 w r li E) (hB1 : 7 * (N.toNat + 1) ≤ bc) (hB2 : 30 * (N.toNat + 1) ≤ bs) (hQ : ∀ l2 t, rdS T N ord = .ok (l2, t) → ∀ w' E' n', PST T N ord w0 w' r t l2 li E' n' → QW w') (hE : BAK w0 XE (rdS T N ord)) : wp_X6_read r bc bs w QW XE := by
  obtain ⟨h0, R, I, hc, h2, h3, h4⟩ := h
  have hN := R.1.2.2.2.1
  have LS := LOK.st (T := T) (N := N) hN.1
  unfold wp_X6_read
  refine s_gf2 R.1.2.1 (x6_next R (by decide) hN.1 (fun w1 f R1 => ?_))
  have I1 := I.sm f.1
  have G1 : RDG T N ord w1 r (nxS T N (0, 0, 0, 0)) := ⟨R1, I1, LS, (f.1.1 r).trans hc⟩
  have P1 : PST T N ord w0 w1 r (nxS T N (0, 0, 0, 0)) [] li E 2 := ⟨h0, G1, h2.fp f.fp h0, h3.fp f.fp R.1.2.1, (f.2 r 2 (by omega)).trans h4, by decide, by decide⟩
  have rp := claS_ok (ord := ord) (m := 0) LS
  have L1 := LS.1
  have e9 : rdS T N ord = match claS T N ord 0 (nxS T N (0, 0, 0, 0)) with
    | .error e => .error e
    | .ok (c, s2) => rdL T N ord 401 [c] s2 := rfl
  have hBc : CST N (nxS T N (0, 0, 0, 0)) (claS T N ord 0 (nxS T N (0, 0, 0, 0))) ≤ N.toNat + 1 ∧ ∀ b s2, claS T N ord 0 (nxS T N (0, 0, 0, 0)) = .ok (b, s2) → CST N (nxS T N (0, 0, 0, 0)) (claS T N ord 0 (nxS T N (0, 0, 0, 0))) + CST N s2 (rdL T N ord 401 [b] s2) ≤ N.toNat + 1 := by
    cases eP : claS T N ord 0 (nxS T N (0, 0, 0, 0)) with
    | error e => exact ⟨by unfold CST; dsimp only; omega, fun b s2 q => by cases q⟩
    | ok y =>
      obtain ⟨b, s2⟩ := y
      rw [eP] at rp
      have rp : OKR T N (nxS T N (0, 0, 0, 0)) s2 := rp
      have p1 := rp.2.1
      have p2 := rp.1.1
      have rl := rdL_ok (ord := ord) 401 [b] s2 rp.1
      have key : CST N s2 (rdL T N ord 401 [b] s2) ≤ (N - s2.1 + 1).toNat := by
        cases e : rdL T N ord 401 [b] s2 with
        | error e => unfold CST; dsimp only; omega
        | ok y =>
          obtain ⟨l2, t⟩ := y
          rw [e] at rl
          have := (rl.lok rp.1).1.1
          unfold CST; dsimp only; omega
      refine ⟨by unfold CST; dsimp only; omega, fun b' s2' q => ?_⟩
      injection q with q
      injection q with qa qb
      subst qa
      subst qb
      unfold CST at key ⊢; dsimp only at key ⊢; omega
  refine ⟨7 * CST N (nxS T N (0, 0, 0, 0)) (claS T N ord 0 (nxS T N (0, 0, 0, 0))), 30 * CST N (nxS T N (0, 0, 0, 0)) (claS T N ord 0 (nxS T N (0, 0, 0, 0))), ⟨by omega, by omega⟩, hC w0 w1 r _ [] li E 2 _ _ _ _ P1 ⟨Nat.le_refl _, Nat.le_refl _⟩ (fun c s2 e w' E' n' h4 => ?_) (fun e q k w' a b c d => hE e (by rw [e9]; have q : claS T N ord 0 (nxS T N (0, 0, 0, 0)) = .error e := q; rw [q]) k w' a b c d)⟩
  have e : claS T N ord 0 (nxS T N (0, 0, 0, 0)) = .ok (c, s2) := e
  have e8 : rdS T N ord = rdL T N ord 401 [c] s2 := by rw [e9, e]
  have c9 := hBc.2 c s2 e
  have p2 := h4.2.1.2.2.1.1
  exact x6_read_8 hC 400 FU 401 [c] s2 w' E' n' _ _ (by omega) (by decide) (by decide) h4 ⟨by omega, by omega⟩ (fun l2 t q w' E' n' h => hQ l2 t (e8.trans q) w' E' n' h) (fun e q k w' a b c d => hE e (e8.trans q) k w' a b c d)
end READ
