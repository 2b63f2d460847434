/-! THE PLAIN LAW: texts: the twin reads ands, ors -/
set_option maxRecDepth 100000
section TJOIN
variable {T : Int → Int} {N : Int} {ord : Bool} {w w' w1 w2 : Wd} {k t n g : Nat} {s : LX} {p : Int × Int} {P C L : OPS} {v x i lo o a x1 : Int} {Q : Int → Wd → Prop} {QW X : Wd → Prop}
/-- the code grows, the pile's top has its place already -/
theorem y5_emit2 (S : SOK w) (r1 : gV w 0 29 = (P.length : Nat)) (r2 : gV w 0 23 = (C.length : Nat)) (r3 : PIL w P) (r4 : COD w C) (r5 : PBD (C.length + 1) P) (hl : C.length < 400) (hq : ∀ w', FP5 w w' → RAW w' P (C ++ [(o, a)]) → QW w') : wp_X5_emit 0 o a w QW := by
  unfold wp_X5_emit
  refine s_gfA (KF S rfl) (RF S rfl) (s_gfI (KF S rfl) r2 (s_asI (KF S rfl) (by decide) ⟨by omega, by omega⟩ ?_))
  have S1 : SOK (sV w 24 (C.length : Nat) o) := S
  refine s_gfA (KF S1 rfl) (RF S1 rfl) (s_gfI (KF S1 rfl) ((gV_ne (by omega)).trans r2) (s_asI (KF S1 rfl) (by decide) ⟨by omega, by omega⟩ ?_))
  have S2 : SOK (sV (sV w 24 (C.length : Nat) o) 25 (C.length : Nat) a) := S
  refine s_gfI (KF S2 rfl) ((gV_ne (by omega)).trans ((gV_ne (by omega)).trans r2)) (s_pfI (KF S2 rfl) ?_)
  have f3 : FP5 w (sV (sV (sV w 24 (C.length : Nat) o) 25 (C.length : Nat) a) 0 23 ((C.length : Nat) + 1)) := ((FP5.rf.sV (Or.inr (by decide))).sV (Or.inr (by decide))).sV (Or.inl (by decide))
  refine hq _ f3 ⟨(gV_ne (by omega)).trans ((gV_ne (by omega)).trans ((gV_ne (by omega)).trans r1)), ?_, r3.fr (fun i hi => ⟨?_, ?_⟩), COD.app (r4.fr (fun i hi => ⟨?_, ?_⟩)) ?_ ?_, by rw [List.length_append]; exact r5⟩
  · rw [gV_at, List.length_append]; rfl
  · exact (gV_ne (by omega)).trans ((gV_ne (by omega)).trans (gV_ne (by omega)))
  · exact (gV_ne (by omega)).trans ((gV_ne (by omega)).trans (gV_ne (by omega)))
  · exact (gV_ne (by omega)).trans ((gV_ne (by omega)).trans (gV_ne (by omega)))
  · exact (gV_ne (by omega)).trans ((gV_ne (by omega)).trans (gV_ne (by omega)))
  · exact (gV_ne (by omega)).trans ((gV_ne (by omega)).trans gV_at)
  · exact (gV_ne (by omega)).trans gV_at
/-- the sign of a join -/
theorem q5_47 {all lev : Int} {j : Nat} {L E : OPS} (hj : (j = 13 ∧ all = 1 ∧ lev = 2) ∨ (j = 14 ∧ all = 0 ∧ lev = 1)) (h : TWQ T N w s (L ++ P) E) (z : tkT T j s = true) (hL : ∀ p ∈ L, lev ≤ bnd p.1 ∧ p.1 ≤ 30) (hT : TB lev P) (hq : ∀ w', FE w w' → TWQ T N w' (nxS T N s) ((30 - all, ((flush L E).length : Nat)) :: P) (flush L E ++ [(30 - all, 0)]) → Q 0 w') : wp_X5_behindTest_22 Q 0 all w := by
  have S := h.1.1.1
  have Lk := h.2.1
  have L0 := Lk.1
  have hN := h.1.1.2.1
  have t9 := Lk.to
  have nx := Lk.nx
  have len2 : s.1 + 2 ≤ s.2.1 := by
    have e := isT_len z
    rcases hj with ⟨a, _⟩ | ⟨a, _⟩
    · subst a; have : (wdS 13).length = 3 := rfl; omega
    · subst a; have : (wdS 14).length = 2 := rfl; omega
  have key : ∀ w1, FE w w1 → TWQ T N w1 s P (flush L E) → wp_X5_behindTest_47 Q 0 all (30 - all) 0 w1 := by
    intro w1 f1 h1
    have S1 := h1.1.1.1
    have n1 := h1.2.2.2.2.2.2
    unfold wp_X5_behindTest_47
    refine s_gfI (KF S1 rfl) h1.2.2.2.2.2.1.2.1 (s_cO (KF S1 rfl) (y5_push S1 h1.2.2.2.2.2.1 (by omega) ⟨by omega, by omega⟩ (fun _ => by omega) (fun w2 f2 a1 a2 a3 a4 a5 => ?_)))
    have S2 : SOK w2 := S1.sm f2.1
    have go : wp_X5_behindTest_66 Q 0 (30 - all) 0 w2 := by
      unfold wp_X5_behindTest_66
      refine s_cO (KF S2 rfl) (y5_emit2 (P := (30 - all, ((flush L E).length : Nat)) :: P) S2 a1 a2 a3 a4 (fun p hp => ?_) (by omega) (fun w3 f3 R3 => ?_))
      · rcases List.mem_cons.mp hp with hp | hp
        · rw [hp]
          exact ⟨⟨by show 20 ≤ 30 - all; omega, by show 30 - all ≤ 32; omega⟩, ⟨by show 0 ≤ (((flush L E).length : Nat) : Int); omega, by show (((flush L E).length : Nat) : Int) ≤ 400; omega⟩, fun _ => by show (((flush L E).length : Nat) : Int) < ((flush L E).length + 1 : Nat); omega⟩
        · exact (a5.mo (Nat.le_succ _)) p hp
      · have S3 : SOK w3 := S2.sm f3.1
        have f23 := f2.tr f3
        have X3 := h1.1.fp f23
        refine s_cO (KF S3 rfl) (y5_next X3 (by omega) t9.1.2 (fun w4 f4 X4 => ?_))
        refine hq w4 (f1.tr (f23.fe.tr f4.fe)) ⟨X4, nx.1, (f4.2 0 19 (by omega)).trans ((f23.2 0 19 (by omega) (by omega)).trans h1.2.2.1), (f4.2 0 26 (by omega)).trans ((f23.2 0 26 (by omega) (by omega)).trans h1.2.2.2.1), (f4.2 0 30 (by omega)).trans ((f23.2 0 30 (by omega) (by omega)).trans h1.2.2.2.2.1), R3.fn f4, ?_⟩
        rw [List.length_append]
        show (((flush L E).length + 1 + (P.length + 1) : Nat) : Int) ≤ (nxS T N s).1
        omega
    rcases hj with ⟨_, b, _⟩ | ⟨_, b, _⟩
    · subst b
      exact s_ckI ⟨by decide, by decide⟩ (s_br (fun y => absurd y (by decide)) (fun _ => go))
    · subst b
      exact s_ckI ⟨by decide, by decide⟩ (s_br (fun _ => go) (fun y => absurd rfl y))
  unfold wp_X5_behindTest_22
  rcases hj with ⟨_, b, c⟩ | ⟨_, b, c⟩
  · subst b
    subst c
    refine s_ckI ⟨by decide, by decide⟩ (s_br (fun y => absurd y (by decide)) (fun _ => ?_))
    unfold wp_X5_behindTest_32
    refine s_cO (KF S rfl) ?_
    exact q5_settle h (fun p hp => (hL p hp).1) hT ⟨by decide, by decide⟩ (fun w1 f1 _ h1 => s_ckI ⟨by decide, by decide⟩ (s_br (fun y => absurd y (by decide)) (fun _ => key w1 f1 h1)))
  · subst b
    subst c
    refine s_ckI ⟨by decide, by decide⟩ (s_br (fun _ => ?_) (fun y => absurd rfl y))
    unfold wp_X5_behindTest_32
    refine s_cO (KF S rfl) ?_
    exact q5_settle h (fun p hp => (hL p hp).1) hT ⟨by decide, by decide⟩ (fun w1 f1 _ h1 => s_ckI ⟨by decide, by decide⟩ (s_br (fun _ => key w1 f1 h1) (fun y => absurd rfl y)))
end TJOIN
