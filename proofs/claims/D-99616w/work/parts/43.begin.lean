/-! THE START: the world is empty; the machine's side G of the keys -/
theorem va_K_of {s : State} {A : Array Value} (hts : ∀ w ∈ lw_tbl, w.before A s = true) : ∃ (D : va_G) (cA : Nat → ClassId), (∀ (c : Nat) (q : vw_C), clA[c]? = some q → u_Kn s q.1 q.2.1 q.2.2 (D.1 c) (D.2 c)) ∧ ∀ t, t < 7 → ArrOfT s (cA t) (aty t) ∧ va_RA s (cA t) (aty t) := by
  have hall : ∀ w ∈ lw_all, w.before A s = true := fun w h => hts w (lw_all_tbl h)
  have hc : ∀ c : Nat, ∃ q9 : ClassId × (Nat → Nat), ∀ q : vw_C, clA[c]? = some q → u_Kn s q.1 q.2.1 q.2.2 q9.1 q9.2 := by
    intro c
    have key : ∀ {C : String} {T : u_T} {N n : Nat}, (∀ z ∈ u_ws C T N, z ∈ lw_all) → Cond.instantiable C n ∈ lw_all → clA[c]? = some (C, T, N) → ∃ q9 : ClassId × (Nat → Nat), ∀ q : vw_C, clA[c]? = some q → u_Kn s q.1 q.2.1 q.2.2 q9.1 q9.2 := by
      intro C T N n h1 h2 h3
      obtain ⟨c0, i0, h⟩ := u_known hall h1 (hall _ h2)
      refine ⟨(c0, i0), fun q hq => ?_⟩
      cases h3.symm.trans hq
      exact h
    by_cases hn : c < 19
    · match c, hn with
      | 0, _ => exact key in_X5 q1539 rfl
      | 1, _ => exact key in_X0 q158 rfl
      | 2, _ => exact key in_X1 q166 rfl
      | 3, _ => exact key in_X2 q172 rfl
      | 4, _ => exact key in_X3 q281 rfl
      | 5, _ => exact key in_X4 q287 rfl
      | 6, _ => exact key in_X8 q907 rfl
      | 7, _ => exact key in_X9 q930 rfl
      | 8, _ => exact key in_X11 q995 rfl
      | 9, _ => exact key in_X12 q1051 rfl
      | 10, _ => exact key in_X13 q1064 rfl
      | 11, _ => exact key in_X15 q1118 rfl
      | 12, _ => exact key in_X16 q1137 rfl
      | 13, _ => exact key in_X17 q1148 rfl
      | 14, _ => exact key in_X19 q1247 rfl
      | 15, _ => exact key in_X18 q1194 rfl
      | 16, _ => exact key in_X7 q779 rfl
      | 17, _ => exact key in_X20 q1468 rfl
      | 18, _ => exact key in_J2 q204 rfl
      | n + 19, hn => exact absurd hn (by omega)
    · refine ⟨(0, fun _ => 0), fun q hq => ?_⟩
      have := (List.getElem?_eq_some_iff.mp hq).1
      have e : clA.length = 19 := rfl
      omega
  have ha : ∀ t, ∃ cA : ClassId, t < 7 → ArrOfT s cA (aty t) ∧ va_RA s cA (aty t) := by
    intro t
    have prim : ∀ {ty : FieldType}, Cond.arrayClass ty ∈ lw_all → (∀ C, ty ≠ .object C) → (∃ cA, s.vm.findClass ("[" ++ ty.toString) = some cA ∧ ArrOfT s cA ty) := by
      intro ty h _
      obtain ⟨c, k, comp, f1, f2, f3⟩ := Cond.arrayClass_spec (hall _ h)
      exact ⟨c, f1, fun N z => ⟨(fun k h => by cases h), k, f2, comp, f3⟩⟩
    have objs : ∀ {C : String}, Cond.arrayOver (.object C) ∈ lw_tbl → ∃ cA, ArrOfT s cA (.object C) ∧ va_RA s cA (.object C) := by
      intro C h
      obtain ⟨comp, c, k, f1, f2, f3, f4, f5⟩ := Cond.arrayOver_spec (hts _ h)
      exact ⟨c, fun N z => ⟨(fun k h => by cases h), k, f3, comp, f4⟩, k, comp, f3, f4, f1, f5⟩
    match t with
    | 0 => obtain ⟨c, h1, h2⟩ := prim (ty := .int) q202 (fun C h => by cases h); exact ⟨c, fun _ => ⟨h2, h1⟩⟩
    | 1 => obtain ⟨c, h1, h2⟩ := prim (ty := .long) q357 (fun C h => by cases h); exact ⟨c, fun _ => ⟨h2, h1⟩⟩
    | 2 => obtain ⟨c, h1, h2⟩ := prim (ty := .byte) q346 (fun C h => by cases h); exact ⟨c, fun _ => ⟨h2, h1⟩⟩
    | 3 => obtain ⟨c, h1, h2⟩ := prim (ty := .boolean) q1755 (fun C h => by cases h); exact ⟨c, fun _ => ⟨h2, h1⟩⟩
    | 4 => obtain ⟨c, h⟩ := objs q216; exact ⟨c, fun _ => h⟩
    | 5 => obtain ⟨c, h⟩ := objs q276; exact ⟨c, fun _ => h⟩
    | 6 => obtain ⟨c, h⟩ := objs q278; exact ⟨c, fun _ => h⟩
    | n + 7 => exact ⟨0, fun h => absurd h (by omega)⟩
  refine ⟨(fun c => (hc c).choose.1, fun c => (hc c).choose.2), fun t => (ha t).choose, fun c q hq => (hc c).choose_spec q hq, fun t ht => (ha t).choose_spec ht⟩
theorem va_K_tys {s : State} {D : va_G} {cA : Nat → ClassId} {a1 : Nat → Nat} {a2 : Nat} {G : GW} (hG : G.1 = D ∧ G.2.1 = cA) (h1 : ∀ (c : Nat) (q : vw_C), clA[c]? = some q → u_Kn s q.1 q.2.1 q.2.2 (D.1 c) (D.2 c)) (h2 : ∀ t, t < 7 → ArrOfT s (cA t) (aty t) ∧ va_RA s (cA t) (aty t)) : va_K G.1 clA (tysG G) s := by
  obtain ⟨rfl, rfl⟩ := hG
  refine ⟨h1, fun k q hq => ?_⟩
  have hk : k < 7 := (List.getElem?_eq_some_iff.mp hq).1
  rw [tysG_at G hk] at hq
  cases hq
  exact h2 k hk
theorem str_of {s : State} {b : Nat} {A : Nat → Prop} (hts : ∀ w ∈ lw_tbl, w.before #[Value.ref b] s = true) (hf : ∀ c ∈ flatC (Jvm.Cond.and given_1 narrow_1), c.before #[Value.ref b] s = true) (hA : ∀ a : Nat, a < s.heap.size → ¬ A a) (i : Nat) (hi : i < 45) : ∃ a v : Nat, vk_R (strA i).1 (strA i).2.1 (strA i).2.2.1 a s ∧ va_O "java/lang/String" a A s s.heap ∧ va_OF "java/lang/String" "coder" "B" (.int 0) a A s s.heap ∧ va_OF "java/lang/String" "value" "[B" (.ref v) a A s s.heap ∧ va_T .byte v (strA i).2.2.2.length (fun j => .int (Int32.ofInt ((strA i).2.2.2.getD j 0))) A s s.heap := by
  obtain ⟨adK, adV, h1, h2⟩ := vk_Sof (args := #[Value.ref b]) (s := s) (N := 1) (tm := fun _ => Term.string (strA i).1 (strA i).2.1) (len := [(strA i).2.2.2.length]) (byt := [(strA i).2.2.2.map Int32.ofInt]) (A := A)
    (fun j hj => by
      have hj : j = 0 := by omega
      subst hj
      exact str_len i hi)
    (fun j hj => hf _ (str_ex i hi)) (fun j hj => hf _ (str_co i hi)) (fun j hj => hf _ (str_ar i hi))
    (fun j hj => by
      have hj : j = 0 := by omega
      subst hj
      exact hf _ (str_le i hi))
    (fun j hj q hq => by
      have hj : j = 0 := by omega
      subst hj
      have hq : q < (strA i).2.2.2.length := hq
      have e : (([(strA i).2.2.2.map Int32.ofInt]).getD 0 []).getD q 0 = Int32.ofInt ((strA i).2.2.2.getD q 0) := by
        show ((strA i).2.2.2.map Int32.ofInt).getD q 0 = _
        simp [List.getD, hq]
      rw [e]
      exact hf _ (str_el i hi q hq))
    (fun j k hj hk hne => absurd (by omega) hne) hA
  obtain ⟨o1, o2, o3, o4⟩ := h1.1 0 (by decide)
  refine ⟨adK 0, adV 0, vk_R.of (hts _ (str_ref i hi)) (h2 0 (by decide)), o1, o2, o3, ?_⟩
  obtain ⟨cell, c1, c2, c3, c4, c5, c6, c7⟩ := o4
  refine ⟨cell, c1, c2, c3, c4, c5, fun j hj => ?_, c7⟩
  rw [c6 j hj]
  have hj : j < (strA i).2.2.2.length := hj
  have e : (([(strA i).2.2.2.map Int32.ofInt]).getD 0 []).getD j 0 = Int32.ofInt ((strA i).2.2.2.getD j 0) := by
    show ((strA i).2.2.2.map Int32.ofInt).getD j 0 = _
    simp [List.getD, hj]
  dsimp only
  rw [e]
/-- the keys' addresses at the start -/
def adS (f : Nat → Nat × Nat) (mi b : Nat) : Nat → Nat := fun k => if 1000 ≤ k then k - 1000 else if k = 999 then b else if k = 960 then mi else if 900 ≤ k then (f (k - 900)).1 else if 800 ≤ k then (f (k - 800)).2 else 0
theorem ST_start {s : State} {b : Nat} {A : Nat → Prop} (hts : ∀ w ∈ lw_tbl, w.before #[Value.ref b] s = true) (hgv : (Jvm.Cond.and given_1 narrow_1).before #[Value.ref b] s = true) (hA : ∀ a : Nat, a < s.heap.size → ¬ A a) (D : va_G) (cA : Nat → ClassId) : ∃ ad : Nat → Nat, (∀ k, 1000 ≤ k → ad k = k - 1000) ∧ ad 999 = b ∧ ST (D, cA, ad, fun _ => 0) A s s.heap := by
  have hf := flat_of_before _ hgv
  have hS : ∀ i, ∃ p : Nat × Nat, i < 45 → vk_R (strA i).1 (strA i).2.1 (strA i).2.2.1 p.1 s ∧ va_O "java/lang/String" p.1 A s s.heap ∧ va_OF "java/lang/String" "coder" "B" (.int 0) p.1 A s s.heap ∧ va_OF "java/lang/String" "value" "[B" (.ref p.2) p.1 A s s.heap ∧ va_T .byte p.2 (strA i).2.2.2.length (fun j => .int (Int32.ofInt ((strA i).2.2.2.getD j 0))) A s s.heap := by
    intro i
    by_cases hi : i < 45
    · obtain ⟨a, v, h⟩ := str_of hts hf hA i hi
      exact ⟨(a, v), fun _ => h⟩
    · exact ⟨(0, 0), fun h => absurd h hi⟩
  obtain ⟨mi, hmi⟩ := va_Mi.of (hf _ pr_mi)
  refine ⟨adS (fun i => (hS i).choose) mi b, fun k hk => by unfold adS; rw [if_pos hk], rfl, ?_⟩
  refine ⟨fun w hw => va_Nw.of (nst_tab hw) (hts w (List.mem_filter.mp hw).1), ⟨va_AO.of (hts _ q216), va_AO.of (hts _ q276), va_AO.of (hts _ q278)⟩, va_Fw.of (hts _ q498) (hts _ q497) (hts _ q503) (hts _ q501) (hts _ q499), ⟨hmi, va_Dc.of (hts _ q2312)⟩, va_Zof (hts _ q860) (hts _ (lw_all_tbl q138)) (va_eqi (hf _ pr_cs)) hA, ⟨va_Zqof (hts _ q311) (hts _ (lw_all_tbl q128)) (hf _ pr_us) hA, va_Zqof (hts _ q313) (hts _ (lw_all_tbl q128)) (hf _ pr_ss) hA, va_Zqof (hts _ q876) (hts _ (lw_all_tbl q134)) (hf _ pr_so) hA⟩, fun i hi => ?_⟩
  have e1 : adS (fun i => (hS i).choose) mi b (900 + i) = ((hS i).choose).1 := by
    unfold adS
    rw [if_neg (by omega), if_neg (by omega), if_neg (by omega), if_pos (by omega), Nat.add_sub_cancel_left]
  have e2 : adS (fun i => (hS i).choose) mi b (800 + i) = ((hS i).choose).2 := by
    unfold adS
    rw [if_neg (by omega), if_neg (by omega), if_neg (by omega), if_neg (by omega), if_pos (by omega), Nat.add_sub_cancel_left]
  unfold ST1
  show vk_R _ _ _ (adS (fun i => (hS i).choose) mi b (900 + i)) s ∧ _
  dsimp only
  rw [e1, e2]
  exact (hS i).choose_spec hi
