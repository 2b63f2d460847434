/-! THE PLAIN LAW: texts: the component reads a law's clause -/
set_option maxRecDepth 100000
section LCLAUSE
variable {T : Int → Int} {N : Int} {ord : Bool} {w w' w0 w1 w2 : Wd} {r k t n li E k8 : Nat} {s : LX} {P : Prop} {v x i : Int} {QW X : Wd → Prop} {XE : Nat → Wd → Prop} {bc bs : Nat} {F F' : Nat → Prop} {l : List Cl} {c : Cl}
theorem PST.cnt (h : PST T N ord w0 w r s l li E n) : gK w0 r = none ∧ RDG T N ord (sV w r 2 x) r s ∧ KPW w0 (sV w r 2 x) ∧ CLS (fun q => gK w0 q = none) (sV w r 2 x) ord r l li E n ∧ gV (sV w r 2 x) r 2 = x := by
  obtain ⟨h0, h1, h2, h3, h4, h5, h6⟩ := h
  have nn : NEW r w (sV w r 2 x) := NEW.rf.sV
  have kl : gK w r ≠ none := by rw [h1.2.2.2]; exact fun z => by cases z
  refine ⟨h0, ⟨?_, h1.2.1, h1.2.2.1, h1.2.2.2⟩, h2.ne nn h0, h3.mo kl (fun q a b => ⟨a, rfl, fun _ => rfl, fun g j => gV_ne (fun y => g (by rw [y.1]; exact h1.1.1.2.1))⟩), gV_at⟩
  obtain ⟨⟨b1, b2, b3, b4⟩, b5, b6, b7, b8, b9⟩ := h1.1
  exact ⟨⟨b1, b2, b3, b4.fr rfl (fun q => gV_ne (by omega))⟩, (gV_ne (by omega)).trans b5, (gV_ne (by omega)).trans b6, (gV_ne (by omega)).trans b7, (gV_ne (by omega)).trans b8, (gV_ne (by omega)).trans b9⟩
theorem x6_begins {p1 : Int} (h : PST T N ord w0 w r s l li E n) (hp : p1 = 0 ∨ p1 = 1) (hE : l.length = 12 ∨ p1 = 0 → (1 ≤ bc ∧ 7 ≤ bs) ∧ ∀ k w', FP r w w' → TIW w' → gK w' k = some (.inl 6) → gV w' k 6 = s.1 → XE k w') (hq : l.length < 12 → p1 = 1 → QW (sV w r 2 (l.length + 1))) : wp_X6_begins r p1 bc bs w QW XE := by
  have hv := h.2.2.2.2.1
  have h12 := h.2.2.2.2.2.1
  have G := h.2.1
  have R := G.1
  unfold wp_X6_begins
  refine s_gfI2 R.1.2.1 hv (s_ckI ⟨by omega, by omega⟩ (s_br (fun y => ?_) (fun y => s_ckI ⟨by omega, by omega⟩ (s_br (fun z => ?_) (fun z => ?_)))))
  · have hE := hE (Or.inl (by omega))
    unfold wp_X6_begins_13
    exact x6_fault R G.2.1 G.2.2.1 hE.1 hE.2
  · exact s_gfI2 R.1.2.1 hv (s_pfI2 R.1.2.1 (hq (by omega) (by omega)))
  · have hE := hE (Or.inr (Decidable.not_not.mp z))
    unfold wp_X6_begins_13
    exact x6_fault R G.2.1 G.2.2.1 hE.1 hE.2
/-- a new clause's cell -/
theorem MID.new {hd : Int} {t : LX} (h : PST T N ord w0 w r s l li E n) (hl : l.length < 12) (f : LW r (sV w r 2 (l.length + 1)) w1) (R1 : RDX T N w1 r t) (Lt : LOK T N t) (hn : NEW k8 w1 w2) (hk : 1000 ≤ k8) (h0 : gK w1 k8 = none) (k2 : gK w2 k8 = some (.inl (if ord = true then 15 else 7))) (v0 : gV w2 k8 0 = hd) (v4 : ord = true → gV w2 k8 4 = 1) (hR : ∀ j, gR w2 k8 j = none) : MID T N ord w0 w2 r t l li E n k8 (hd, [], 1, none) := by
  have c := h.cnt (x := l.length + 1)
  obtain ⟨c0, c1, c2, c3, c4⟩ := c
  have kr1 : k67 (sV w r 2 (l.length + 1)) r := c1.1.1.2.1
  have d3 := c3.fp f.fp kr1
  have d2 := c2.fp f.fp c0
  have kl : gK w1 r ≠ none := by rcases R1.1.2.1 with u | u <;> rw [u] <;> exact fun z => by cases z
  have I1 : TIW w1 := c1.2.1.sm f.1
  have kr : k8 ≠ r := R1.rn h0
  have lil : gK w1 li ≠ none := by rw [d3.2.2.2.2.1.1]; exact fun z => by cases z
  have El : gK w1 E ≠ none := by rw [d3.2.2.2.2.1.2.2.1]; exact fun z => by cases z
  have I2 : TIW w2 := TIW.new (k := k8) I1 hn hk (by rw [k2]; exact fun z => by cases z) (fun j x hr => by rw [hR] at hr; cases hr)
  have G1 : RDG T N ord w1 r t := ⟨R1, I1, Lt, (f.1.1 r).trans c1.2.2.2⟩
  refine ⟨c0, ⟨R1.nw hn hk kr, I2, Lt, (hn r kr.symm).1.trans G1.2.2.2⟩, d2.ne hn (d2.no h0), ?_, ⟨⟨⟨d2.no h0, fun y => lil (y ▸ h0), fun y => El (y ▸ h0)⟩, hk⟩, k2, v0, fun i hi => hR _, v4, hR _⟩, ?_, hl, h.2.2.2.2.2.2⟩
  · exact d3.mo kl (fun q a b => by
      have e : q ≠ k8 := fun e => b (e ▸ h0)
      exact ⟨⟨a, e⟩, (hn q e).1, (hn q e).2.2, fun _ => (hn q e).2.1⟩)
  · rw [(hn r kr.symm).2.1 2, f.2 r 2 (by omega)]; exact c4
theorem hd_in : -1 ≤ hdI T ord s ∧ hdI T ord s ≤ 3 := by
  unfold hdI
  split
  · rcases fiW_in (T := T) (s := s) 4 36 0 with h | ⟨h, _⟩ <;> omega
  · rcases fiW_in (T := T) (s := s) 4 16 0 with h | ⟨h, _⟩ <;> omega
theorem hd_lt (L : LOK T N s) (h : hdI T ord s ≠ -1) : s.1 < N ∧ s.1 < s.2.1 := by
  unfold hdI at h
  split at h
  · rcases fiW_in (T := T) (s := s) 4 36 0 with h1 | ⟨h1, h2⟩
    · exact absurd h1 h
    · exact tk_lt' L (by omega) h2
  · rcases fiW_in (T := T) (s := s) 4 16 0 with h1 | ⟨h1, h2⟩
    · exact absurd h1 h
    · exact tk_lt' L (by omega) h2

/-- the sum, and on -/
theorem x7_ta {hd : Int} (h : MID T N false w0 w r s l li E n k8 (hd, [], 1, none)) (hB1 : 7 * CST N s (tlA T N false hd s) + 1 ≤ bc) (hB2 : 30 * CST N s (tlA T N false hd s) + 17 ≤ bs) (hi : -1 ≤ hd ∧ hd ≤ 3) (hq : ∀ c t, tlA T N false hd s = .ok (c, t) → ∀ w' E' n', PST T N false w0 w' r t (l ++ [c]) li E' n' → QW w') (hE : BAK w0 XE (tlA T N false hd s)) : ckI hd <| br (hd = 3) (wp_X7_clause_94 QW XE r k8 bc bs w) (cO w r 16 <| xB bc bs fun mc14 ms15 => wpR_X6_sum 10 r mc14 ms15 w (fun o12 w13 => pfR w13 k8 7 1 o12 fun w18 => wp_X7_clause_94 QW XE r k8 (bc - mc14) (bs - ms15) w18) XE) := by
  have G := h.2.1
  have hc := G.2.2.2
  have L := G.2.2.1
  have R := G.1
  refine s_ckI ⟨by omega, by omega⟩ (s_br (fun y => ?_) (fun y => s_cO hc ?_))
  · have e9 : tlA T N false hd s = tlC T N false hd 1 [] s := by
      unfold tlA sumsS tlB timS
      rw [if_pos y]
      have e5 : ¬ (false = true ∧ tkT T 43 s = true) := fun y => Bool.noConfusion y.1
      dsimp only
      rw [if_neg e5]
    rw [e9] at hB1 hB2 hq hE
    exact x7_94 h hB1 hB2 hq hE
  · have rp := suR_ok (ord := false) 10 s L
    have e9 : tlA T N false hd s = match suR T N false 10 s with
      | .error e => .error e
      | .ok (a, s2) => tlC T N false hd 1 [a] s2 := by
      unfold tlA sumsS tlB timS
      rw [if_neg y]
      cases suR T N false 10 s with
      | error e => rfl
      | ok z =>
        obtain ⟨a, s2⟩ := z
        have e5 : ¬ (false = true ∧ tkT T 43 s2 = true) := fun y => Bool.noConfusion y.1
        dsimp only
        rw [if_pos rfl]
        dsimp only
        rw [if_neg e5]
    have hBc : CST N s (suR T N false 10 s) ≤ CST N s (tlA T N false hd s) ∧ ∀ a s2, suR T N false 10 s = .ok (a, s2) → CST N s (suR T N false 10 s) + CST N s2 (tlC T N false hd 1 [a] s2) ≤ CST N s (tlA T N false hd s) := by
      cases eP : suR T N false 10 s with
      | error e =>
        rw [eP] at e9
        rw [e9]
        exact ⟨by unfold CST; dsimp only; omega, fun b s2 q => by cases q⟩
      | ok y =>
        obtain ⟨b, s2⟩ := y
        rw [eP] at e9 rp
        have rp : OKR T N s s2 := rp
        have e9 : tlA T N false hd s = tlC T N false hd 1 [b] s2 := e9
        rw [e9]
        have := CST_le (N := N) (T := T) (s := s) (r1 := .ok (b, s2)) (r2 := tlC T N false hd 1 [b] s2) rfl (by have := rp.2.1; omega) rp.1.1.2 (tlC_ok rp.1)
        refine ⟨by omega, fun b' s2' q => ?_⟩
        injection q with q
        injection q with qa qb
        subst qa
        subst qb
        exact this
    refine ⟨7 * CST N s (suR T N false 10 s), 30 * CST N s (suR T N false 10 s), ⟨by omega, by omega⟩, x6_suT r _ w _ _ _ _ G (by have := L.2.2.2.2; omega) ⟨Nat.le_refl _, Nat.le_refl _⟩ (fun a s2 e ka w2 f2 I2 R2 A2 => ?_) (hE.bad h.2.2.1 h.1 (fun e q => by rw [e9, q]))⟩
    have e8 : tlA T N false hd s = tlC T N false hd 1 [a] s2 := by rw [e9, e]
    have rp2 : OKR T N s s2 := by rw [e] at rp; exact rp
    have hBd := hBc.2 a s2 e
    have h2 := h.fp f2 I2 R2 rp2.1
    have k8l : gK w k8 ≠ none := by rw [h.2.2.2.2.1.2.1]; exact fun z => by cases z
    have lil : gK w li ≠ none := by rw [h.2.2.2.1.2.2.2.2.1.1]; exact fun z => by cases z
    have El : gK w E ≠ none := by rw [h.2.2.2.1.2.2.2.2.1.2.2.1]; exact fun z => by cases z
    have A3 : SuA (fun q => (gK w0 q = none ∧ q ≠ li ∧ q ≠ E) ∧ q ≠ k8) w2 a ka := A2.we (fun q a => ⟨⟨h.2.2.1.no a, fun y => lil (y ▸ a), fun y => El (y ▸ a)⟩, fun y => k8l (y ▸ a)⟩)
    obtain ⟨_, ak, kl⟩ := SuA.f A3
    have h3 := h2.set (w' := sR w2 k8 1 (some ka)) NEW.rf.sR (h2.2.1.2.1.set kl ak) (h2.2.2.2.2.1.sum (by decide) A3)
    refine ⟨h2.2.2.2.2.1.2.1, ?_⟩
    have hc1 : ((1 : Nat) : Int) = 1 := rfl
    rw [hc1]
    rw [e8] at hB1 hB2 hBd hq hE
    exact x7_94 (sl := [a]) h3 (by omega) (by omega) hq hE
theorem x7_53 (h : PST T N false w0 w r s l li E n) (hB : BGT N s (claS T N false l.length s) bc bs) (hq : ∀ c t, claS T N false l.length s = .ok (c, t) → ∀ w' E' n', PST T N false w0 w' r t (l ++ [c]) li E' n' → QW w') (hE : BAK w0 XE (claS T N false l.length s)) : wp_X7_clause_53 QW XE r (hdI T false s) bc bs w := by
  have hi := hd_in (T := T) (ord := false) (s := s)
  have G := h.2.1
  have hc := G.2.2.2
  have L := G.2.2.1
  have R := G.1
  have L0 := L.1
  have t := L.to
  have e9 := claS_eq (T := T) (N := N) (ord := false) (s := s) (m := l.length)
  have go : ∀ p : Int, (p = 0 ∨ p = 1) → (p = 0 ↔ hdI T false s = -1) → wp_X7_clause_65 QW XE r (hdI T false s) p r bc bs w := by
    intro p hp hp2
    unfold wp_X7_clause_65
    by_cases bad : (l.length : Int) = 12 ∨ hdI T false s = -1
    · rw [if_pos bad] at e9
      rw [e9] at hB hE
      obtain ⟨hB1, hB2⟩ := hB
      unfold CST at hB1 hB2
      dsimp only at hB1 hB2
      refine s_cO hc ⟨bc, bs, ⟨Nat.le_refl _, Nat.le_refl _⟩, x6_begins h hp (fun _ => ⟨by omega, hE.bad (r2 := (.error s.1 : PRS Cl)) h.2.2.1 h.1 (fun e q => q) _ rfl⟩) (fun a b => absurd bad ?_)⟩
      rintro (y | y)
      · omega
      · have := hp2.mpr y; omega
    · rw [if_neg bad] at e9
      have hne : hdI T false s ≠ -1 := fun y => bad (Or.inr y)
      have lt := hd_lt L hne
      have o1 := OKR.nx L lt.2
      have p1 := o1.2.1
      have p2 := o1.1.1
      have sh := CST_sh (N := N) (s := s) (s1 := nxS T N s) (T := T) (rr := tlA T N false (hdI T false s) (nxS T N s)) (by omega) p2.2 (tlA_ok o1.1)
      rw [e9] at hB hE hq
      obtain ⟨hB1, hB2⟩ := hB
      have n7 : nfA 7 = 3 := rfl
      refine s_cO hc ⟨0, 0, ⟨Nat.zero_le _, Nat.zero_le _⟩, x6_begins h hp (fun y => absurd ?_ bad) (fun hl _ => ?_)⟩
      · rcases y with y | y
        · exact Or.inl (by omega)
        · exact Or.inr (hp2.mp y)
      have c := h.cnt (x := l.length + 1)
      refine s_cO c.2.1.2.2.2 (x6_next c.2.1.1 (by omega) t.1.2 (fun w6 f6 R6 => ?_))
      refine ⟨⟨by omega, by omega⟩, fun k8 hk hn => ?_⟩
      unfold wp_X9_init
      have kk : gK (nK w6 k8 (.inl 7)) k8 = some (.inl 7) := by rw [gK_nK, if_pos rfl]
      refine ⟨kk, ?_⟩
      have hc0 : ((0 : Nat) : Int) = 0 := rfl
      rw [hc0]
      have M := MID.new (hd := hdI T false s) h hl f6 R6 o1.1 (k8 := k8) (w2 := sV (nK w6 k8 (.inl 7)) k8 0 (hdI T false s)) NEW.rf.nK.sV hk hn kk gV_at (fun y => Bool.noConfusion y) (fun j => by rw [gR_sV, gR_nK, if_pos rfl])
      exact x7_ta M (by omega) (by omega) hi hq hE
  unfold wp_X7_clause_53
  refine s_ckI ⟨by omega, by omega⟩ (s_br (fun y => go 0 (Or.inl rfl) ⟨fun _ => y, fun _ => rfl⟩) (fun y => go 1 (Or.inr rfl) ⟨fun z => absurd z (by decide), fun z => absurd z y⟩))
theorem x7_clause (h : PST T N false w0 w r s l li E n) (hB : BGT N s (claS T N false l.length s) bc bs) (hq : ∀ c t, claS T N false l.length s = .ok (c, t) → ∀ w' E' n', PST T N false w0 w' r t (l ++ [c]) li E' n' → QW w') (hE : BAK w0 XE (claS T N false l.length s)) : wp_X7_clause r bc bs w QW XE := by
  have G := h.2.1
  have hc := G.2.2.2
  have L := G.2.2.1
  have R := G.1
  have fin := x7_53 h hB hq hE
  have e0 : hdI T false s = fiW T 16 4 0 s := rfl
  rw [e0] at fin
  unfold wp_X7_clause
  refine s_cO hc (x6_is (by decide) R L (s_ckI b2i_in ?_))
  by_cases z0 : tkT T 16 s = true
  · rw [b2i_t z0]
    rw [fiW_t z0] at fin
    exact s_br (fun y => absurd y (by decide)) (fun _ => fin)
  rw [fiW_s z0] at fin
  rw [b2i_f z0]
  refine s_br (fun _ => s_cO hc (x6_is (by decide) R L (s_ckI b2i_in ?_))) (fun y => absurd rfl y)
  by_cases z1 : tkT T 17 s = true
  · rw [b2i_t z1]
    rw [fiW_t z1] at fin
    exact s_br (fun y => absurd y (by decide)) (fun _ => fin)
  rw [fiW_s z1] at fin
  rw [b2i_f z1]
  refine s_br (fun _ => s_cO hc (x6_is (by decide) R L (s_ckI b2i_in ?_))) (fun y => absurd rfl y)
  by_cases z2 : tkT T 18 s = true
  · rw [b2i_t z2]
    rw [fiW_t z2] at fin
    exact s_br (fun y => absurd y (by decide)) (fun _ => fin)
  rw [fiW_s z2] at fin
  rw [b2i_f z2]
  refine s_br (fun _ => s_cO hc (x6_is (by decide) R L (s_ckI b2i_in ?_))) (fun y => absurd rfl y)
  by_cases z3 : tkT T 19 s = true
  · rw [b2i_t z3]
    rw [fiW_t z3] at fin
    exact s_br (fun y => absurd y (by decide)) (fun _ => fin)
  rw [fiW_s z3] at fin
  rw [b2i_f z3]
  exact s_br (fun _ => fin) (fun y => absurd rfl y)
end LCLAUSE
