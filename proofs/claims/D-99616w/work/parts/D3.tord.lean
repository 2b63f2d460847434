/-! THE PLAIN LAW: texts: the twin reads an order -/
set_option maxRecDepth 100000
section TORD
variable {T : Int → Int} {N : Int} {ord : Bool} {w w' w0 w1 w2 : Wd} {kk k n g : Nat} {s t : LX} {C D : OPS} {v x i o a b m e lo hi : Int} {Q : Int → Wd → Prop} {QW X : Wd → Prop} {f f' : Int → Int} {l : List Cl} {c : Cl} {sl : List Su} {hd : Int}
theorem udp_udp : udp (udp f o v) o x = udp f o x := funext fun j => by
  unfold udp
  by_cases z : j = o
  · rw [if_pos z, if_pos z]
  · rw [if_neg z, if_neg z, if_neg z]
/-- a number, outside expressions -/
theorem c5_number (h : TWC T N w s C) (hb : 0 ≤ lo ∧ lo ≤ 1000 ∧ 0 ≤ hi ∧ hi ≤ 1000) (h1 : ∀ v t, nuS T N lo hi s = .ok (v, t) → ∀ w', FE w w' → TWC T N w' t C → Q v w') (h0 : nuS T N lo hi s = .error s.1 → ∀ v w', FE w w' → BDC T N w' s.1 → Q v w') : wp_X5_number 0 lo hi w Q := by
  have g1 := h.1
  have g2 := h.2.1
  have S := g1.1.1
  have so : 0 ≤ soT T N s.1 ∧ soT T N s.1 ≤ 3 := by
    unfold soT
    split
    · omega
    · split
      · omega
      · split <;> omega
  unfold wp_X5_number
  refine s_gfI (KF S rfl) g1.2.2.2.2 (s_gfI (KF S rfl) g1.2.2.2.1 (s_ckI ⟨by omega, by omega⟩ (s_br (fun y => ?_) (fun y => ?_))))
  · unfold wp_X5_number_32 wp_X5_number_33
    refine s_cO (KF S rfl) (c5_must0 h (fun w' f b => h0 (if_neg (fun z => y ((so2 g2).mpr ⟨z.1, z.2.1⟩))) _ w' f b))
  · have y : soT T N s.1 = 2 := Decidable.not_not.mp y
    have z := (so2 g2).mp y
    obtain ⟨w1, w2, w3⟩ := wo2 g2 y
    have tv : 0 ≤ tvT T s.1 (s.2.1 - s.1).toNat := by
      rcases w3 with w3 | w3 <;> omega
    refine s_gfI (KF S rfl) g1.2.2.2.2 ?_
    unfold wp_X5_in
    have bad : ¬ (lo ≤ woT T N s.1 s.2.1 ∧ woT T N s.1 s.2.1 ≤ hi) → wp_X5_number_32 Q (woT T N s.1 s.2.1) 0 w := by
      intro u
      unfold wp_X5_number_32 wp_X5_number_33
      refine s_cO (KF S rfl) (c5_must0 h (fun w' f b => h0 (if_neg (fun q => u ?_)) _ w' f b))
      obtain ⟨_, _, q1, q2⟩ := q
      rcases w3 with w3 | w3 <;> omega
    refine s_ckL ⟨by omega, by omega⟩ (s_ckL ⟨by omega, by omega⟩ (s_br (fun a => ?_) (fun a => s_ckL ⟨by omega, by omega⟩ (s_ckL ⟨by omega, by omega⟩ (s_br (fun b => ?_) (fun b => ?_))))))
    · exact s_zr (Or.inl rfl) (s_ckI ⟨by decide, by decide⟩ (s_br (fun _ => bad (by omega)) (fun y => absurd rfl y)))
    · exact s_zr (Or.inl rfl) (s_ckI ⟨by decide, by decide⟩ (s_br (fun _ => bad (by omega)) (fun y => absurd rfl y)))
    · refine s_zr (Or.inr rfl) (s_ckI ⟨by decide, by decide⟩ (s_br (fun y => absurd y (by decide)) (fun _ => ?_)))
      unfold wp_X5_number_33
      have ew : woT T N s.1 s.2.1 = tvT T s.1 (s.2.1 - s.1).toNat := by rcases w3 with w3 | w3 <;> omega
      refine s_cO (KF S rfl) (c5_must1 h (fun w' f b => h1 _ _ ?_ w' f b))
      rw [ew]
      exact if_pos ⟨z.1, z.2, by omega, by omega⟩
/-! gone wrong -/
theorem fr54 {u : Wd} {i x : Int} : FRW u (sV u 54 i x) := FRW.rf.sV (Or.inr (Or.inr rfl))
theorem rs22_bad (hb : 0 ≤ o ∧ o + 1 < 120) (h : BDC T N w e) (hf : FX w0 w) (hq : ∀ w', FX w0 w' → BDC T N w' e → QW w') : wp_X5_readSum_22 QW 0 o w := by
  have S := h.1.1
  unfold wp_X5_readSum_22
  exact s_gfA (KF S rfl) (RF S rfl) (s_gfI (KF S rfl) rfl (s_asI (KF S rfl) (by decide) ⟨by omega, by omega⟩ (hq _ (hf.tr fr54.fx) (h.fr fr54))))
theorem rs_bad (hb : 0 ≤ o ∧ o + 1 < 120) (h : BDC T N w e) (hf : FX w0 w) (hq : ∀ w', FX w0 w' → BDC T N w' e → QW w') : wp_X5_readSum 0 o w QW := by
  have S := h.1.1
  unfold wp_X5_readSum
  refine s_gfA (KF S rfl) (RF S rfl) (s_gfI (KF S rfl) rfl (s_asI (KF S rfl) (by decide) ⟨by omega, by omega⟩ ?_))
  have h1 := h.fr (fr54 (u := w) (i := o) (x := gV w 0 23))
  have S1 := h1.1.1
  exact s_gfI (KF S1 rfl) h1.2.1 (s_ckI ⟨by decide, by decide⟩ (s_br (fun _ => rs22_bad hb h1 (hf.tr fr54.fx) hq) (fun y => absurd (by decide) y)))
theorem mj_bad (h : BDC T N w e) (hq : QW w) : wp_X5_mustJoin 0 x w QW := by
  have S := h.1.1
  unfold wp_X5_mustJoin
  exact s_gfI (KF S rfl) h.2.1 (s_ckI ⟨by decide, by decide⟩ (s_br (fun _ => hq) (fun y => absurd (by decide) y)))
theorem o240_bad (hb : 0 ≤ b ∧ b + 10 ≤ 120) (h : BDC T N w e) (hf : FX w0 w) (hq : ∀ w', FX w0 w' → BDC T N w' e → QW w') : wp_X5_readOrder_240 QW 0 b w := by
  have S := h.1.1
  unfold wp_X5_readOrder_240
  exact s_gfA (KF S rfl) (RF S rfl) (s_gfI (KF S rfl) rfl (s_asI (KF S rfl) (by decide) ⟨by omega, by omega⟩ (hq _ (hf.tr fr54.fx) (h.fr fr54))))
theorem o201_bad (hb : 0 ≤ b ∧ b + 10 ≤ 120) (h : BDC T N w e) (hf : FX w0 w) (hq : ∀ w', FX w0 w' → BDC T N w' e → QW w') : wp_X5_readOrder_201 QW 0 b w := by
  have S := h.1.1
  unfold wp_X5_readOrder_201
  refine s_gfA (KF S rfl) (RF S rfl) (s_gfI (KF S rfl) rfl (s_asI (KF S rfl) (by decide) ⟨by omega, by omega⟩ ?_))
  have h1 := h.fr (fr54 (u := w) (i := b + 7) (x := gV w 0 23))
  have S1 := h1.1.1
  exact s_gfI (KF S1 rfl) h1.2.1 (s_ckI ⟨by decide, by decide⟩ (s_br (fun _ => o240_bad hb h1 (hf.tr fr54.fx) hq) (fun y => absurd (by decide) y)))
theorem o153_bad (hb : 0 ≤ b ∧ b + 10 ≤ 120) (h : BDC T N w e) (hf : FX w0 w) (hq : ∀ w', FX w0 w' → BDC T N w' e → QW w') : wp_X5_readOrder_153 QW 0 b w := by
  have S := h.1.1
  unfold wp_X5_readOrder_153
  refine s_gfA (KF S rfl) (RF S rfl) (s_asI (KF S rfl) (by decide) ⟨by omega, by omega⟩ ?_)
  have h1 := h.fr (fr54 (u := w) (i := b + 9) (x := 1))
  have S1 := h1.1.1
  exact s_gfI (KF S1 rfl) h1.2.1 (s_ckI ⟨by decide, by decide⟩ (s_br (fun _ => o201_bad hb h1 (hf.tr fr54.fx) hq) (fun y => absurd (by decide) y)))
theorem o137_bad (hb : 0 ≤ b ∧ b + 10 ≤ 120) (hi : 0 ≤ hd ∧ hd ≤ 3) (h : BDC T N w e) (hf : FX w0 w) (hq : ∀ w', FX w0 w' → BDC T N w' e → QW w') : wp_X5_readOrder_137 QW 0 hd b w := by
  have S := h.1.1
  unfold wp_X5_readOrder_137
  refine s_ckI ⟨by omega, by omega⟩ (s_br (fun _ => o153_bad hb h hf hq) (fun _ => s_cO (KF S rfl) (mj_bad h (s_cO (KF S rfl) (rs_bad ⟨by omega, by omega⟩ h hf (fun w' f' h' => o153_bad hb h' f' hq))))))
/-! steps -/
theorem q5_rs22 (hk : KM true 54 10) (hb : 0 ≤ b ∧ b + 10 ≤ 120) (ho : 0 ≤ o ∧ o ≤ 8) (h : TWB T N true 54 10 w0 w s C n b f) (hq : ∀ w', TWB T N true 54 10 w0 w' s C n b (udp f (o + 1) (C.length : Nat)) → QW w') : wp_X5_readSum_22 QW 0 (b + o) w := by
  have S := h.S
  unfold wp_X5_readSum_22
  rw [Int.add_assoc]
  exact s_gfA (KF S rfl) (RF S rfl) (s_gfI (KF S rfl) h.n23 (s_asI (KF S rfl) (by decide) ⟨by omega, by omega⟩ (hq _ (h.set hk (by omega)))))
theorem q5_rs (hk : KM true 54 10) (hb : 0 ≤ b ∧ b + 10 ≤ 120) (ho : 0 ≤ o ∧ o ≤ 8) (h : TWB T N true 54 10 w0 w s C n b f) (hq : ∀ y t, suR T N true 10 s = .ok (y, t) → ∀ w', TWB T N true 54 10 w0 w' t (apS true y C) n b (udp (udp f o (C.length : Nat)) (o + 1) ((apS true y C).length : Nat)) → QW w') (hE : BDX T N w0 QW (suR T N true 10 s)) : wp_X5_readSum 0 (b + o) w QW := by
  have S := h.S
  unfold wp_X5_readSum
  refine s_gfA (KF S rfl) (RF S rfl) (s_gfI (KF S rfl) h.n23 (s_asI (KF S rfl) (by decide) ⟨by omega, by omega⟩ ?_))
  have h1 := h.set (o := o) (v := (C.length : Nat)) hk ho.1
  have S1 := h1.S
  refine s_gfI (KF S1 rfl) h1.b19 (s_ckI ⟨by decide, by decide⟩ (s_br (fun y => absurd rfl y) (fun _ => s_cO (KF S1 rfl) (q5_sumE h1.1 h1.2.1 (fun y t ey w5 f5 h5 => ?_) (fun e1 ey w5 f5 b5 => rs22_bad ⟨by omega, by omega⟩ b5.c (h1.2.2.2.1.tr f5.fx) (hE e1 ey))))))
  have rp : OKR T N s t := by
    have q := suR_ok (T := T) (N := N) (ord := true) 10 s h1.1.2.1
    rw [ey] at q
    exact q
  have d0 : t.2.2.2 = 0 := rp.2.2.1.trans h1.1.2.2.2.2.1
  exact q5_rs22 hk hb ho (h1.fe hk f5 (h5.c d0)) (hq y t ey)
theorem wd_we : ∀ j : Fin 3, (1 ≤ (wdS (40 + j.val)).length ∧ (wdS (40 + j.val)).length ≤ 10) ∧ (∀ c ∈ wdS (40 + j.val), 97 ≤ c ∧ c ≤ 122) ∧ joinsT.getD j.val 0 = hvR (wdS (40 + j.val)).reverse ∧ -1 ≤ joinsT.getD j.val 0 ∧ joinsT.getD j.val 0 ≤ 1125899906842624 := by decide +kernel
/-- a word, then a sum -/
theorem q5_beh {p : Nat} (hp : p < 3) (hk : KM true 54 10) (hb : 0 ≤ b ∧ b + 10 ≤ 120) (ho : 0 ≤ o ∧ o ≤ 8) (h : TWB T N true 54 10 w0 w s C n b f) (hq : ∀ y t, behS T N true (40 + p) s = .ok (y, t) → ∀ w', TWB T N true 54 10 w0 w' t (apS true y C) n b (udp (udp f o (C.length : Nat)) (o + 1) ((apS true y C).length : Nat)) → QW w') (hE : BDX T N w0 QW (behS T N true (40 + p) s)) : wp_X5_mustJoin 0 (p : Int) w (fun w2 => cO w2 0 0 <| wp_X5_readSum 0 (b + o) w2 QW) := by
  have S := h.S
  have wa := wd_we ⟨p, hp⟩
  dsimp only at wa
  have ew := h.2.1.2.2.2.2.2 p hp
  unfold wp_X5_mustJoin
  refine s_gfI (KF S rfl) h.b19 (s_ckI ⟨by decide, by decide⟩ (s_br (fun y => absurd rfl y) (fun _ => s_gfA (KF S rfl) (RF S rfl) (s_alI (KF S rfl) (by decide) ⟨by omega, by omega⟩ ew (s_cO (KF S rfl) (y5_isWord (j := 40 + p) h.1.1 h.1.2.1 wa.1.1 wa.1.2 wa.2.1 wa.2.2.1 ⟨by omega, by omega⟩ (s_cO (KF S rfl) (c5_must h.1 (fun z w3 f3 h3 => ?_) (fun z w3 f3 b3 => ?_)))))))))
  · have h4 := h.fe hk f3 h3
    have S4 := h4.S
    have eb : behS T N true (40 + p) s = suR T N true 10 (nxS T N s) := if_pos z
    rw [eb] at hq hE
    exact s_cO (KF S4 rfl) (q5_rs hk hb ho h4 hq hE)
  · have S4 := b3.1.1
    have eb : behS T N true (40 + p) s = .error s.1 := if_neg z
    exact s_cO (KF S4 rfl) (rs_bad ⟨by omega, by omega⟩ b3 (h.2.2.2.1.tr f3.fx) (hE _ eb))
theorem q5_240 (hk : KM true 54 10) (hb : 0 ≤ b ∧ b + 10 ≤ 120) (h : TWB T N true 54 10 w0 w s C n b f) (hq : ∀ w', TWB T N true 54 10 w0 w' s C n b (udp f 8 (C.length : Nat)) → QW w') : wp_X5_readOrder_240 QW 0 b w := by
  have S := h.S
  unfold wp_X5_readOrder_240
  exact s_gfA (KF S rfl) (RF S rfl) (s_gfI (KF S rfl) h.n23 (s_asI (KF S rfl) (by decide) ⟨by omega, by omega⟩ (hq _ (h.set hk (by decide)))))
theorem y5_if2 (h : TWC T N w s C) (hq : Q (b2i (tkT T 44 s = true)) w) : wp_X5_isWord 0 294 w Q := y5_isWord (j := 44) h.1 h.2.1 (by decide) (by decide) (by decide) (by decide) ⟨by decide, by decide⟩ hq
theorem y5_times (h : TWC T N w s C) (hq : Q (b2i (tkT T 43 s = true)) w) : wp_X5_isWord 0 21279923 w Q := y5_isWord (j := 43) h.1 h.2.1 (by decide) (by decide) (by decide) (by decide) ⟨by decide, by decide⟩ hq
theorem whnS_ord : whnS T N true s = if tkT T 44 s = true then (match teR T N true 10 (nxS T N s) with
  | .error e => .error e
  | .ok (t, s2) => .ok (some t, s2)) else .ok (none, s) := rfl
theorem q5_201 (hk : KM true 54 10) (hb : 0 ≤ b ∧ b + 10 ≤ 120) (h : TWB T N true 54 10 w0 w s C n b f) (hq : ∀ ot t, whnS T N true s = .ok (ot, t) → ∀ w', TWB T N true 54 10 w0 w' t (cdT true ot C) n b (udp (udp f 7 (C.length : Nat)) 8 ((cdT true ot C).length : Nat)) → QW w') (hE : BDX T N w0 QW (whnS T N true s)) : wp_X5_readOrder_201 QW 0 b w := by
  have S := h.S
  unfold wp_X5_readOrder_201
  refine s_gfA (KF S rfl) (RF S rfl) (s_gfI (KF S rfl) h.n23 (s_asI (KF S rfl) (by decide) ⟨by omega, by omega⟩ ?_))
  have h2 := h.set (o := 7) (v := (C.length : Nat)) hk (by decide)
  have S2 := h2.S
  refine s_gfI (KF S2 rfl) h2.b19 (s_ckI ⟨by decide, by decide⟩ (s_br (fun y => absurd rfl y) (fun _ => s_cO (KF S2 rfl) (y5_if2 h2.1 (s_ckI b2i_in ?_)))))
  have ew := whnS_ord (T := T) (N := N) (s := s)
  by_cases z : tkT T 44 s = true
  · rw [b2i_t z]
    rw [if_pos z] at ew
    refine s_br (fun y => absurd y (by decide)) (fun _ => s_cO (KF S2 rfl) (c5_next h2.1 (fun w3 f3 h3 => ?_)))
    have B3 := h2.fe hk f3.fe h3
    have S3 := B3.S
    refine s_cO (KF S3 rfl) (q5_testE B3.1 B3.2.1 (fun y t ey w4 f4 h4 => ?_) (fun e1 ey w4 f4 b4 => ?_))
    · have rp : OKR T N (nxS T N s) t := by
        have q := teR_ok (T := T) (N := N) (ord := true) 10 (nxS T N s) B3.1.2.1
        rw [ey] at q
        exact q
      have d0 : t.2.2.2 = 0 := rp.2.2.1.trans B3.1.2.2.2.2.1
      have B4 := B3.fe hk f4 (h4.c d0)
      rw [ey] at ew
      exact q5_240 hk hb B4 (fun w5 B5 => hq (some y) t ew w5 B5)
    · rw [ey] at ew
      exact o240_bad hb b4.c (B3.2.2.2.1.tr f4.fx) (fun w5 f5 b5 => hE e1 ew w5 f5 b5)
  · rw [b2i_f z]
    rw [if_neg z] at ew
    exact s_br (fun _ => q5_240 hk hb h2 (fun w5 B5 => hq none s ew w5 B5)) (fun y => absurd rfl y)
theorem timS_ord : timS T N true s = if tkT T 43 s = true then nuS T N 1 20 (nxS T N s) else .ok (1, s) := by
  unfold timS
  by_cases z : tkT T 43 s = true
  · rw [if_pos z, if_pos ⟨rfl, z⟩]
  · rw [if_neg z, if_neg (fun y => z y.2)]
/-- an order, behind its sums -/
theorem q5_153 (hk : KM true 54 10) (hb : 0 ≤ b ∧ b + 10 ≤ 120) (h : TWB T N true 54 10 w0 w s C n b f) (hq : ∀ tm ot t, tlB T N true hd sl s = .ok ((hd, sl, tm, ot), t) → ∀ w', TWB T N true 54 10 w0 w' t (cdT true ot C) n b (udp (udp (udp f 9 tm) 7 (C.length : Nat)) 8 ((cdT true ot C).length : Nat)) → QW w') (hE : BDX T N w0 QW (tlB T N true hd sl s)) : wp_X5_readOrder_153 QW 0 b w := by
  have S := h.S
  unfold wp_X5_readOrder_153
  refine s_gfA (KF S rfl) (RF S rfl) (s_asI (KF S rfl) (by decide) ⟨by omega, by omega⟩ ?_)
  have h1 := h.set (o := 9) (v := 1) hk (by decide)
  have S1 := h1.S
  have et := timS_ord (T := T) (N := N) (s := s)
  -- the test, from any place on
  have go : ∀ (tm : Int) (u : LX) (w9 : Wd), timS T N true s = .ok (tm, u) → TWB T N true 54 10 w0 w9 u C n b (udp f 9 tm) → wp_X5_readOrder_201 QW 0 b w9 := by
    intro tm u w9 eu h9
    have e9 : tlB T N true hd sl s = match whnS T N true u with
      | .error e => .error e
      | .ok (t, s4) => .ok ((hd, sl, tm, t), s4) := by
      unfold tlB
      rw [eu]
      rfl
    refine q5_201 hk hb h9 (fun ot t ew w5 B5 => ?_) (fun e1 ew w5 f5 b5 => ?_)
    · rw [ew] at e9
      exact hq tm ot t e9 w5 B5
    · rw [ew] at e9
      exact hE e1 e9 w5 f5 b5
  refine s_gfI (KF S1 rfl) h1.b19 (s_ckI ⟨by decide, by decide⟩ (s_br (fun y => absurd rfl y) (fun _ => s_cO (KF S1 rfl) (y5_times h1.1 (s_ckI b2i_in ?_)))))
  by_cases z : tkT T 43 s = true
  · rw [b2i_t z]
    rw [if_pos z] at et
    refine s_br (fun y => absurd y (by decide)) (fun _ => s_cO (KF S1 rfl) (c5_next h1.1 (fun w3 f3 h3 => ?_)))
    have B3 := h1.fe hk f3.fe h3
    have S3 := B3.S
    refine s_gfA (KF S3 rfl) (RF S3 rfl) (s_cO (KF S3 rfl) (c5_number B3.1 ⟨by decide, by decide, by decide, by decide⟩ (fun v t ev w4 f4 h4 => ?_) (fun ev v w4 f4 b4 => ?_)))
    · have B4 := B3.fe hk f4 h4
      have S4 := B4.S
      refine s_asI (KF S4 rfl) (by decide) ⟨by omega, by omega⟩ ?_
      have B5 := B4.set (o := 9) (v := v) hk (by decide)
      rw [udp_udp] at B5
      exact go v t _ (et.trans ev) B5
    · have S4 := b4.1.1
      have e9 : tlB T N true hd sl s = .error (nxS T N s).1 := by
        unfold tlB
        rw [et, ev]
      exact s_asI (KF S4 rfl) (by decide) ⟨by omega, by omega⟩ (o201_bad hb (b4.fr fr54) ((B3.2.2.2.1.tr f4.fx).tr fr54.fx) (hE _ e9))
  · rw [b2i_f z]
    rw [if_neg z] at et
    exact s_br (fun _ => go 1 s _ et h1) (fun y => absurd rfl y)
/-- what a clause's end must be: the row's numbers -/
def OQ (T : Int → Int) (N : Int) (w0 : Wd) (QW : Wd → Prop) (C0 : OPS) (n : Nat) (b hd : Int) (rr : PRS Cl) : Prop := ∀ c t, rr = .ok (c, t) → c.1 = hd → ∀ w', TWB T N true 54 10 w0 w' t (cdC true c C0) n b (rwO c C0) → QW w'
theorem q5_153' (hk : KM true 54 10) (hb : 0 ≤ b ∧ b + 10 ≤ 120) (h : TWB T N true 54 10 w0 w s (cdU true sl C) n b (rwS true sl 1 C (udp (fun _ => 0) 0 hd))) (hq : OQ T N w0 QW C n b hd (tlB T N true hd sl s)) (hE : BDX T N w0 QW (tlB T N true hd sl s)) : wp_X5_readOrder_153 QW 0 b w := q5_153 hk hb h (fun tm ot t e w' B => hq _ t e rfl w' B) hE
theorem q5_137n (hi : 0 ≤ hd ∧ hd ≤ 3) (h0 : hd ≠ 0) (hk : KM true 54 10) (hb : 0 ≤ b ∧ b + 10 ≤ 120) (h : TWB T N true 54 10 w0 w s (cdU true sl C) n b (rwS true sl 1 C (udp (fun _ => 0) 0 hd))) (hq : OQ T N w0 QW C n b hd (tl3 T N hd sl s)) (hE : BDX T N w0 QW (tl3 T N hd sl s)) : wp_X5_readOrder_137 QW 0 hd b w := by
  have e : tl3 T N hd sl s = tlB T N true hd sl s := if_neg h0
  rw [e] at hq hE
  unfold wp_X5_readOrder_137
  exact s_ckI ⟨by omega, by omega⟩ (s_br (fun _ => q5_153' hk hb h hq hE) (fun y => absurd h0 y))
theorem q5_1370 {y1 y2 : Su} (hk : KM true 54 10) (hb : 0 ≤ b ∧ b + 10 ≤ 120) (h : TWB T N true 54 10 w0 w s (cdU true [y1, y2] C) n b (rwS true [y1, y2] 1 C (udp (fun _ => 0) 0 0))) (hq : OQ T N w0 QW C n b 0 (tl3 T N 0 [y1, y2] s)) (hE : BDX T N w0 QW (tl3 T N 0 [y1, y2] s)) : wp_X5_readOrder_137 QW 0 0 b w := by
  have S := h.S
  have e : tl3 T N 0 [y1, y2] s = match behS T N true 41 s with
    | .error e => .error e
    | .ok (c, s4) => tlB T N true 0 ([y1, y2] ++ [c]) s4 := if_pos rfl
  unfold wp_X5_readOrder_137
  refine s_ckI ⟨by decide, by decide⟩ (s_br (fun y => absurd rfl y) (fun _ => s_cO (KF S rfl) (q5_beh (p := 1) (o := 5) (by decide) hk hb ⟨by decide, by decide⟩ h (fun y t ey w3 B3 => ?_) (fun e1 ey w3 f3 b3 => ?_))))
  · have ey : behS T N true 41 s = .ok (y, t) := ey
    rw [ey] at e
    have e : tl3 T N 0 [y1, y2] s = tlB T N true 0 [y1, y2, y] t := e
    rw [e] at hq hE
    exact q5_153' (sl := [y1, y2, y]) hk hb B3 hq hE
  · have ey : behS T N true 41 s = .error e1 := ey
    rw [ey] at e
    exact o153_bad hb b3 f3 (hE e1 e)
theorem tlA_ord3 : tlA T N true 3 s = tl3 T N 3 [] s := rfl
theorem tlA_ord {hd : Int} (h3 : hd ≠ 3) : tlA T N true hd s = match suR T N true 10 s with
  | .error e => .error e
  | .ok (a, s2) => tl2 T N hd (if hd = 0 then 40 else if hd = 1 then 41 else 42) [a] s2 := by
  unfold tlA sumsS
  rw [if_neg h3]
  cases suR T N true 10 s with
  | error e => rfl
  | ok q =>
    obtain ⟨a, s2⟩ := q
    dsimp only
    rw [if_neg (by decide)]
    unfold tl2 tl3
    cases behS T N true (if hd = 0 then 40 else if hd = 1 then 41 else 42) s2 with
    | error e => rfl
    | ok z =>
      obtain ⟨b, s3⟩ := z
      dsimp only
      by_cases g : hd = 0
      · rw [if_pos g, if_pos g]
        cases behS T N true 41 s3 with
        | error e => rfl
        | ok z => rfl
      · rw [if_neg g, if_neg g]; rfl
/-- an order that has begun well -/
theorem q5_ord54 (h : TWL T N true 54 10 w s l) (hl : l.length < 12) (hi : 0 ≤ hd ∧ hd ≤ 3) (hq : ∀ c t, tlA T N true hd (nxS T N s) = .ok (c, t) → ∀ w', FX w w' → TWL T N true 54 10 w' t (l ++ [c]) → QW w') (hE : BDX T N w QW (tlA T N true hd (nxS T N s))) : wp_X5_readOrder_54 QW 0 hd 1 0 w := by
  have hk : KM true 54 10 := Or.inr ⟨rfl, rfl, rfl⟩
  have S := h.1.1.1.1
  unfold wp_X5_readOrder_54
  refine s_cO (KF S rfl) (c5_must1 h.1 (fun w1 f1 h1 => ?_))
  have S1 := h1.1.1.1
  have n1 : gV w1 0 21 = (l.length : Nat) := (f1.2 0 21 (by omega) (by omega)).trans h.2.2.1
  refine s_gfI (KF S1 rfl) h1.2.2.1 (s_ckI ⟨by decide, by decide⟩ (s_br (fun _ => ?_) (fun y => absurd rfl y)))
  refine s_gfI (KF S1 rfl) n1 (s_gfI (KF S1 rfl) n1 (s_pfI (KF S1 rfl) ?_))
  have f2 : FRW w1 (sV w1 0 21 ((l.length : Nat) + 1)) := FRW.rf.sV (Or.inl ⟨rfl, rfl⟩)
  have S2 : SOK (sV w1 0 21 ((l.length : Nat) + 1)) := S1
  refine y5_readOrder_85 (b := 10 * (l.length : Nat)) S2 ⟨by omega, by omega⟩ 10 FU 0 _ (by decide) (by decide) (by decide) S2 (fun o a c => absurd a (by omega)) (fun w3 f3 e21 eo r3 => ?_)
  have S3 := S2.sm f3.1
  refine s_gfA (KF S3 rfl) (RF S3 rfl) (s_asI (KF S3 rfl) (by decide) ⟨by omega, by omega⟩ ?_)
  have f4 : FRW w1 (sV w3 54 (10 * (l.length : Nat)) hd) := (f2.tr f3).sV (Or.inr (Or.inr rfl))
  have B4 : TWB T N true 54 10 w (sV w3 54 (10 * (l.length : Nat)) hd) (nxS T N s) (cdU true [] (cdL true l)) l.length (10 * (l.length : Nat)) (rwS true [] 1 (cdL true l) (udp (fun _ => 0) 0 hd)) := by
    refine ⟨h1.fr f4, (h.2.1.fx f1.fx).fx f4.fx, (gV_ne (by omega)).trans (e21.trans gV_at), f1.fx.tr f4.fx, fun q hq2 => ?_, ?_⟩
    · exact (gV_ne (by omega)).trans ((eo q hq2).trans ((gV_ne (by omega)).trans (f1.2 54 q (by omega) (by omega))))
    · have q := r3.set (o := 0) (v := hd)
      rw [Int.add_zero] at q
      exact q
  generalize sV w3 54 (10 * (l.length : Nat)) hd = w4 at B4 ⊢
  have S4 := B4.S
  have hbb : 0 ≤ 10 * ((l.length : Nat) : Int) ∧ 10 * ((l.length : Nat) : Int) + 10 ≤ 120 := ⟨by omega, by omega⟩
  have hQ : OQ T N w QW (cdL true l) l.length (10 * (l.length : Nat)) hd (tlA T N true hd (nxS T N s)) := fun c t e _ w5 B5 => hq c t e w5 B5.2.2.2.1 (TWL.add hk h hl B5 (fun o _ _ => rfl))
  refine s_ckI ⟨by omega, by omega⟩ (s_br (fun z => ?_) (fun z => ?_))
  · subst z
    rw [tlA_ord3] at hQ hE
    exact q5_137n hi (by decide) hk hbb B4 hQ hE
  · have et := tlA_ord (T := T) (N := N) (s := nxS T N s) z
    refine s_cO (KF S4 rfl) (q5_rs (o := 1) hk hbb ⟨by decide, by decide⟩ B4 (fun y t ey w5 B5 => ?_) (fun e1 ey w5 f5 b5 => ?_))
    · rw [ey] at et
      have et : tlA T N true hd (nxS T N s) = tl2 T N hd (if hd = 0 then 40 else if hd = 1 then 41 else 42) [y] t := et
      rw [et] at hQ hE
      have S5 := B5.S
      have key : ∀ p : Nat, p < 3 → hd = (p : Int) → cO w5 0 0 (wp_X5_mustJoin 0 hd w5 fun w14 => cO w14 0 0 <| wp_X5_readSum 0 ((10 * ((l.length : Nat) : Int)) + 3) w14 fun w16 => wp_X5_readOrder_137 QW 0 hd (10 * ((l.length : Nat) : Int)) w16) := by
        intro p hp ep
        have e40 : (if hd = 0 then 40 else if hd = 1 then 41 else 42) = 40 + p := by
          rcases (by omega : p = 0 ∨ p = 1 ∨ p = 2) with r | r | r <;> subst r <;> subst ep <;> rfl
        rw [e40] at hQ hE
        have e2 : tl2 T N hd (40 + p) [y] t = match behS T N true (40 + p) t with
          | .error e => .error e
          | .ok (b, s3) => tl3 T N hd ([y] ++ [b]) s3 := rfl
        rw [ep]
        refine s_cO (KF S5 rfl) (q5_beh hp hk hbb (o := 3) ⟨by decide, by decide⟩ B5 (fun y2 t2 ey2 w6 B6 => ?_) (fun e1 ey2 w6 f6 b6 => ?_))
        · rw [ey2] at e2
          have e2 : tl2 T N hd (40 + p) [y] t = tl3 T N hd [y, y2] t2 := e2
          rw [e2] at hQ hE
          rw [← ep]
          by_cases g : hd = 0
          · rw [g] at hQ hE B6 ⊢
            exact q5_1370 hk hbb B6 hQ hE
          · exact q5_137n (sl := [y, y2]) hi g hk hbb B6 hQ hE
        · rw [ey2] at e2
          rw [← ep]
          exact o137_bad hbb hi b6 f6 (hE e1 e2)
      rcases (by omega : hd = 0 ∨ hd = 1 ∨ hd = 2) with r | r | r
      · exact key 0 (by decide) r
      · exact key 1 (by decide) r
      · exact key 2 (by decide) r
    · rw [ey] at et
      have S5 := b5.1.1
      exact s_cO (KF S5 rfl) (mj_bad b5 (s_cO (KF S5 rfl) (rs_bad ⟨by omega, by omega⟩ b5 f5 (fun w6 f6 b6 => o137_bad hbb hi b6 f6 (hE e1 et)))))
/-- the twin reads an order -/
theorem q5_readOrder (h : TWL T N true 54 10 w s l) (hq : ∀ c t, claS T N true l.length s = .ok (c, t) → ∀ w', FX w w' → TWL T N true 54 10 w' t (l ++ [c]) → QW w') (hE : BDX T N w QW (claS T N true l.length s)) : wp_X5_readOrder 0 w QW := by
  have S := h.1.1.1.1
  have ec := claS_eq (T := T) (N := N) (ord := true) (s := s) (m := (l.length : Nat))
  have bad : ((l.length : Nat) : Int) = 12 ∨ hdI T true s = -1 → wp_X5_readOrder_53 QW 0 (hdI T true s) 0 w := by
    intro y
    rw [if_pos y] at ec
    unfold wp_X5_readOrder_53 wp_X5_readOrder_54
    refine s_cO (KF S rfl) (c5_must0 h.1 (fun w1 f1 b1 => ?_))
    have S1 := b1.1.1
    exact s_gfI (KF S1 rfl) b1.2.1 (s_ckI ⟨by decide, by decide⟩ (s_br (fun y => absurd y (by decide)) (fun _ => hE _ ec w1 f1.fx b1)))
  unfold wp_X5_readOrder
  refine y5_readOrder_4 h.1.1 h.1.2.1 h.2.1.2 4 FU 0 (-1) rfl (by decide) ⟨by decide, by decide⟩ (fun z bz ez => ?_)
  have ez : z = hdI T true s := by
    have e0 : fiW T (36 + 0) 4 ((0 : Nat) : Int) s = hdI T true s := rfl
    rw [e0] at ez
    rw [ez]
    split
    · next y => exact y.symm
    · rfl
  subst ez
  refine s_ckI ⟨by omega, by omega⟩ (s_br (fun y => bad (Or.inr y)) (fun y => s_gfI (KF S rfl) h.2.2.1 (s_ckI ⟨by omega, by have := h.2.2.2.1; omega⟩ (s_br (fun u => bad (Or.inl (by have := h.2.2.2.1; omega))) (fun u => ?_)))))
  rw [if_neg (by omega)] at ec
  have hE2 : BDX T N w QW (tlA T N true (hdI T true s) (nxS T N s)) := fun e q => hE e (ec.trans q)
  exact q5_ord54 h (by omega) ⟨by omega, bz.2⟩ (fun c t q => hq c t (ec.trans q)) hE2
end TORD
