/-! THE CLAIM out of the plain law over the wp's -/
abbrev PRO (INV : Int → Nat → Nat → Wd → Prop) : Prop := ∀ w : Wd, (∀ k, gK w k = none) → wp_L_law (fun x1 x2 bc bs w' => ∃ (σ : Nat → Nat) (w2 : Wd), REK σ w' w2 ∧ σ 100 = x1 ∧ σ 0 = x2 ∧ INV 0 bc bs w2) 999 1200128 5501098 w
abbrev TURN (n : Nat) (sc : Nat → Int) (INV : Int → Nat → Nat → Wd → Prop) : Prop := ∀ (i : Int) (bc bs : Nat) (w : Wd), INV i bc bs w → wp_L_law_it n sc (fun y bc bs w' => i < y ∧ ∃ (σ : Nat → Nat) (w2 : Wd), REK σ w' w2 ∧ σ 100 = 100 ∧ σ 0 = 0 ∧ INV y bc bs w2) 999 100 0 i bc bs w
theorem SCR.rek {x : Cx} {n : Nat} {sc : Nat → Int} (h : SCR x n sc) (σ : Nat → Nat) : SCR (cxR x σ) n sc := by
  have e : adG (xG (cxR x σ)) 999 = adG (xG x) 999 := adR_big (G := xG x) (σ := σ) (k := 999) (by decide)
  unfold SCR
  rw [e]
  exact h
theorem LEND.rek {x : Cx} {Z : State → Prop} (h : ∀ G : GW, LEND (xp x, xl x, xe x, xR x, xs x, xm x, xa x, xb x, xM x, xc x, G, xA x, xn x, xmc x, xms x) Z) (σ : Nat → Nat) : ∀ G : GW, LEND (xp (cxR x σ), xl (cxR x σ), xe (cxR x σ), xR (cxR x σ), xs (cxR x σ), xm (cxR x σ), xa (cxR x σ), xb (cxR x σ), xM (cxR x σ), xc (cxR x σ), G, xA (cxR x σ), xn (cxR x σ), xmc (cxR x σ), xms (cxR x σ)) Z := h
theorem turns {n : Nat} {sc : Nat → Int} {INV : Int → Nat → Nat → Wd → Prop} (T : TURN n sc INV) (hI : ∀ i bc bs w, INV i bc bs w → i ≤ 400) {Z : State → Prop} : ∀ (m : Nat) (x : Cx) (_ : OK x "DowryBoxesLaw" cL_law 113) (_ : xn x = 4) (_ : SCR x n sc) (_ : ∀ G : GW, LEND (xp x, xl x, xe x, xR x, xs x, xm x, xa x, xb x, xM x, xc x, G, xA x, xn x, xmc x, xms x) Z) (i : Int) (_ : 400 - i < m) (bc bs : Nat) (w : Wd), INV i bc bs w → J x Z w bc bs 18 [(0, .ref (adG (xG x) 999)), (1, .ref (adG (xG x) 100)), (2, .ref (adG (xG x) 0)), (3, vI i)] [] := by
  intro m
  induction m with
  | zero =>
    intro x O hm hsc hend i hi bc bs w h
    have := hI i bc bs w h
    omega
  | succ m ih =>
    intro x O hm hsc hend i hi bc bs w h
    refine wk_L_law_it O hm hsc (hend (xG x)) _ 999 100 0 i (fun y bc bs w h => ?_) bc bs w (T i bc bs w h)
    obtain ⟨hy, σ, w2, R, s1, s0, h⟩ := h
    refine J.rek R ?_ (ih (cxR x σ) (O.rek σ) hm (hsc.rek σ) (LEND.rek hend σ) y (by omega) _ _ w2 h)
    show [(0, Value.ref (adR (xG x) σ 999)), (1, Value.ref (adR (xG x) σ 100)), (2, Value.ref (adR (xG x) σ 0)), (3, vI y)] = _
    rw [adR_big (G := xG x) (σ := σ) (k := 999) (by decide), adR_at (G := xG x) (σ := σ) (k := 100) (Or.inl (by decide)), adR_at (G := xG x) (σ := σ) (k := 0) (Or.inl (by decide)), s1, s0]
/-- the start, out of the plain law -/
theorem start_of {p : Program} {e : Env} {s : State} {m : MethodId} {below : List Frame} {meth : Method} {c : Code} (l : Launch) {b L : Nat} {xs9 : Nat → Int32} (hL : L ≤ 384) (C0 : lw_At p s m meth c b L xs9) (INV : Int → Nat → Nat → Wd → Prop) (hI : ∀ i bc bs w, INV i bc bs w → i ≤ 400) (hP : PRO INV) (hT : TURN L (fun j => (xs9 j).toInt) INV) : W p l e room_1 s m #[Value.ref b] below meth c s.heap [] 0 0 (lw_Z below #[Value.ref b] s) (entryFrame m ([Value.ref b] : List Value).toArray 4) := by
  obtain ⟨hx, hb, hr, hml, hown, hts, hX, hbl, hlocks, hgv⟩ := id C0
  have hbA : ¬ (fun q : Nat => s.heap.size ≤ q) b := Nat.not_le.mpr hbl
  obtain ⟨D, cA, hK1, hK2⟩ := va_K_of hts
  obtain ⟨ad, a1, a2, hST⟩ := ST_start (A := fun q : Nat => s.heap.size ≤ q) hts hgv (fun a ha => Nat.not_le.mpr ha) D cA
  have hK : va_K D clA (tysG (D, cA, ad, fun _ => 0)) s := va_K_tys (G := (D, cA, ad, fun _ => 0)) (a1 := id) (a2 := 0) ⟨rfl, rfl⟩ hK1 hK2
  let x : Cx := (p, l, e, room_1, s, m, #[Value.ref b], below, meth, c, (D, cA, ad, fun _ => 0), (fun q : Nat => s.heap.size ≤ q), 4, 1200128, 5501098)
  have O : OK x "DowryBoxesLaw" cL_law 113 := ⟨⟨hx, hb, hml, hown, fun w h => hts w (lw_all_tbl h)⟩, hK, hST, fun q h => h, hlocks, ⟨by show (113 : Nat) ≤ 8192; decide, by show (60 * 113 : Nat) ≤ 100000; decide, rfl, rfl⟩, a1⟩
  have hend : ∀ G : GW, LEND (xp x, xl x, xe x, xR x, xs x, xm x, xa x, xb x, xM x, xc x, G, xA x, xn x, xmc x, xms x) (lw_Z below #[Value.ref b] s) := by
    intro G w bc bs pc L9 hd H locs cells slots ls hP9 hS hl h1 h2
    have h1 : cells + bc = 1200128 := h1
    have h2 : slots + bs = 5501098 := h2
    refine va_forget (fun q hq => hS.2.2 q hq) ?_
    refine W.widen (k := 1200128) (n := 5501098) (by omega) (by omega) ?_
    exact lw_ret hx hb hr hlocks hd
  have hsc : SCR x L (fun j => (xs9 j).toInt) := by
    refine ⟨?_, ?_, ?_, hL⟩
    · show va_X (ad 999) L (fun j => Int32.ofInt (xs9 j).toInt) s s.heap
      rw [a2]
      have e9 : (fun j => Int32.ofInt (xs9 j).toInt) = xs9 := funext fun j => Int32.ofInt_toInt _
      rw [e9]
      exact hX
    · show ad 999 < s.heap.size
      rw [a2]
      exact hbl
    · show ¬ s.heap.size ≤ ad 999
      rw [a2]
      exact hbA
  have hl := lv_entry ([.ref b]) (n := 4) (Nat.le_of_ble_eq_true rfl)
  rw [lg_entry_eq]
  generalize (lg_sl ([.ref b]) ++ List.replicate (4 - (lg_sl ([.ref b])).length) Slot.unset).toArray = ls at hl ⊢
  have hl : lv_has ls 4 [(0, .ref b)] := hl
  let w0 : Wd := (fun _ _ => 0, fun _ _ => none, fun _ => none)
  have K := wk_L_law (Z := lw_Z below #[Value.ref b] s) O rfl (fun x1 x2 bc bs w' => ∃ (σ : Nat → Nat) (w2 : Wd), REK σ w' w2 ∧ σ 100 = x1 ∧ σ 0 = x2 ∧ INV 0 bc bs w2) 999 (fun x1 x2 bc bs w h => by
    obtain ⟨σ, w2, R, s1, s0, h⟩ := h
    refine J.rek R ?_ (turns hT hI 401 (cxR x σ) (O.rek σ) rfl (hsc.rek σ) (LEND.rek hend σ) 0 (by omega) _ _ w2 h)
    show [(0, Value.ref (adR (xG x) σ 999)), (1, Value.ref (adR (xG x) σ 100)), (2, Value.ref (adR (xG x) σ 0)), (3, vI 0)] = _
    rw [adR_big (G := xG x) (σ := σ) (k := 999) (by decide), adR_at (G := xG x) (σ := σ) (k := 100) (Or.inl (by decide)), adR_at (G := xG x) (σ := σ) (k := 0) (Or.inl (by decide)), s1, s0]) 1200128 5501098 w0 (hP w0 (fun _ => rfl))
  have hl : lv_has ls 4 [(0, .ref (ad 999))] := by rw [a2]; exact hl
  exact K s.heap [] 0 0 ls ⟨[], fun k => ⟨fun h => absurd rfl h, fun h => by cases h⟩, fun k q h => by simp at h, fun i j p q h => by simp at h, fun k q h => by simp at h⟩ va_S.rf hl (Nat.zero_add _) (Nat.zero_add _)
