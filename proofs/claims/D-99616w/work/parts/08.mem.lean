/-! ROWS for the heap -/
theorem gKs {w : Wd} {k : Nat} {d : Kd} (h : gK w k = some d) : gK w k ≠ none := fun e => by rw [h] at e; cases e
theorem arE_upI {w : Wd} {k c : Nat} {i v : Int} (hc : (c : Int) = i) : (fun j : Nat => Int32.ofInt (gV (sV w k i v) k j)) = upd (fun j : Nat => Int32.ofInt (gV w k j)) c (Int32.ofInt v) := by
  funext j
  unfold upd
  rw [gV_sV]
  by_cases hj : j = c
  · subst hj
    rw [if_pos ⟨rfl, hc⟩, if_pos rfl]
  · rw [if_neg (fun e => hj (by have := e.2; omega)), if_neg hj]
theorem arE_upL {w : Wd} {k c : Nat} {i v : Int} (hc : (c : Int) = i) : (fun j : Nat => Int64.ofInt (gV (sV w k i v) k j)) = vp_updL (fun j : Nat => Int64.ofInt (gV w k j)) c (Int64.ofInt v) := by
  funext j
  unfold vp_updL
  rw [gV_sV]
  by_cases hj : j = c
  · subst hj
    rw [if_pos ⟨rfl, hc⟩, if_pos rfl]
  · rw [if_neg (fun e => hj (by have := e.2; omega)), if_neg hj]
theorem arE_upR {G : GW} {w : Wd} {k c : Nat} {i : Int} {v : Option Nat} (hc : (c : Int) = i) : (fun j : Nat => (gR (sR w k i v) k j).map (adG G)) = va_up (fun j : Nat => (gR w k j).map (adG G)) c (v.map (adG G)) := by
  funext j
  unfold va_up
  rw [gR_sR]
  by_cases hj : j = c
  · subst hj
    rw [if_pos ⟨rfl, hc⟩, if_pos rfl]
  · rw [if_neg (fun e => hj (by have := e.2; omega)), if_neg hj]
theorem nB_nar (v : Int) : vp_nar .byte (Int32.ofInt v) = Int32.ofInt (nB v) := (nB_32 v).symm
theorem nZ_nar (v : Int) : vp_nar .boolean (Int32.ofInt v) = Int32.ofInt (nZ v) := (Int32.ofInt_toInt _).symm
theorem arE_ref {G : GW} {w : Wd} {k t : Nat} (ht : 4 ≤ t ∧ t < 7) : arE G w k t = .inr (.inr (.inr (.inr (fun i : Nat => (gR w k i).map (adG G))))) := by
  match t, ht with
  | 4, _ => rfl
  | 5, _ => rfl
  | 6, _ => rfl
theorem aty_ref {t : Nat} (ht : 4 ≤ t ∧ t < 7) : ∃ C, aty t = .object C := by
  match t, ht with
  | 4, _ => exact ⟨_, rfl⟩
  | 5, _ => exact ⟨_, rfl⟩
  | 6, _ => exact ⟨_, rfl⟩
section MEM
variable {x : Cx} {own : String} {cc : ByteArray} {d : Nat} {Q : State → Prop} {w : Wd} {bc bs pc : Nat} {L L' : List (Nat × Value)} {st : List Value}
/-- a field's value on the stack, by its type -/
theorem j_getf (O : OK x own cc d) {C ref : String} {T : u_T} {index k ci j : Nat} (cls : clA[ci]? = some (C, T, nfA ci)) (hin : ∀ z ∈ u_ws C T (nfA ci), z ∈ lw_all) (hj : j < nfA ci) (hk : gK w k = some (.inl ci)) (q : Cond.fieldLink own index ref (T j).2.1 (T j).2.2.1 ∈ lw_all) (hr : ref = (T j).1) (hd : decode cc pc = .ok (.getfield index, 3)) (K : J x Q w bc bs (pc + 3) L (fvl (xG x) w k (tyA ci j) j :: st)) : J x Q w bc bs pc L (.ref (adG (xG x) k) :: st) := by
  intro H locs cells slots ls hP hS hl h1 h2
  subst hr
  have hc := hP.at (gKs hk)
  rw [cE_obj hk] at hc
  exact va_get (cl := clA) (C := C) (T := T) (N := nfA ci) O.1.1 O.1.2.1 O.1.2.2.2.2 hin O.1.2.2.2.1 O.2.1 hc 0 rfl cls j hj (O.1.2.2.2.2 _ q) (fun _ z => z) (fs_at hj) hd (K H locs cells slots ls hP hS hl h1 h2)
theorem j_getfN (O : OK x own cc d) {C ref host : String} {T : u_T} {index k ci j : Nat} (cls : clA[ci]? = some (C, T, nfA ci)) (hin : ∀ z ∈ u_ws C T (nfA ci), z ∈ lw_all) (hj : j < nfA ci) (hk : gK w k = some (.inl ci)) (q : Cond.fieldLinkNest own index ref (T j).2.1 (T j).2.2.1 host ∈ lw_nst) (hr : ref = (T j).1) (hd : decode cc pc = .ok (.getfield index, 3)) (K : J x Q w bc bs (pc + 3) L (fvl (xG x) w k (tyA ci j) j :: st)) : J x Q w bc bs pc L (.ref (adG (xG x) k) :: st) := by
  intro H locs cells slots ls hP hS hl h1 h2
  subst hr
  have hc := hP.at (gKs hk)
  rw [cE_obj hk] at hc
  exact va_getN (cl := clA) (C := C) (T := T) (N := nfA ci) O.1.1 O.1.2.1 O.1.2.2.2.2 hin O.1.2.2.2.1 O.2.1 hc 0 rfl cls j hj (va_Nw.use rfl (O.2.2.1.nst _ q)) (fun _ z => z) (fs_at hj) hd (K H locs cells slots ls hP hS hl h1 h2)
theorem fvl_I {G : GW} {w : Wd} {k j : Nat} : fvl G w k .int j = vI (gV w k j) := rfl
theorem fvl_L {G : GW} {w : Wd} {k j : Nat} : fvl G w k .long j = vL (gV w k j) := rfl
theorem fvl_Z {G : GW} {w : Wd} {k j : Nat} : fvl G w k .boolean j = vI (gV w k j) := rfl
theorem fvl_B {G : GW} {w : Wd} {k j : Nat} : fvl G w k .byte j = vI (gV w k j) := rfl
theorem fvl_C {G : GW} {w : Wd} {k j : Nat} : fvl G w k .char j = vI (gV w k j) := rfl
theorem fvl_O {G : GW} {w : Wd} {k j : Nat} {C : String} : fvl G w k (.object C) j = vR G (gR w k j) := rfl
theorem fvl_A {G : GW} {w : Wd} {k j : Nat} {t : FieldType} : fvl G w k (.array t) j = vR G (gR w k j) := rfl
/-- what a field's type keeps of a value -/
def fOKI (ty : FieldType) (v : Int) : Prop := match ty with
  | .int => True
  | .boolean => v = 0 ∨ v = 1
  | .char => 0 ≤ v ∧ v < 65536
  | _ => False
theorem fOKI_nf {ty : FieldType} {v : Int} (h : fOKI ty v) : narrow ty (vI v) = vI v ∧ fits ty (vI v) = true := by
  cases ty with
  | int => exact ⟨rfl, rfl⟩
  | boolean =>
    rcases h with rfl | rfl
    · exact ⟨rfl, rfl⟩
    · exact ⟨rfl, rfl⟩
  | char =>
    obtain ⟨j, rfl⟩ : ∃ j : Nat, v = j := ⟨v.toNat, (Int.toNat_of_nonneg h.1).symm⟩
    exact pk_charN (by have := h.2; omega)
  | _ => exact absurd h id
theorem fRef_nf {G : GW} {ty : FieldType} {r : Option Nat} (h : (∃ C, ty = .object C) ∨ ∃ t, ty = .array t) : narrow ty (vR G r) = vR G r ∧ fits ty (vR G r) = true := by
  rcases h with ⟨C, rfl⟩ | ⟨t, rfl⟩
  · cases r with
    | none => exact ⟨rfl, rfl⟩
    | some r => exact ⟨rfl, rfl⟩
  · cases r with
    | none => exact ⟨rfl, rfl⟩
    | some r => exact ⟨rfl, rfl⟩
theorem fvl_sV {G : GW} {w : Wd} {k i j : Nat} {ty : FieldType} {v : Int} (h : i ≠ j) : fvl G (sV w k j v) k ty i = fvl G w k ty i := by
  have hij : ¬ ((i : Int) = (j : Int)) := fun e => h (by omega)
  unfold fvl
  simp only [gV_sV, gR_sV, hij, and_false, if_false]
theorem fvl_sR {G : GW} {w : Wd} {k i j : Nat} {ty : FieldType} {v : Option Nat} (h : i ≠ j) : fvl G (sR w k j v) k ty i = fvl G w k ty i := by
  have hij : ¬ ((i : Int) = (j : Int)) := fun e => h (by omega)
  unfold fvl
  simp only [gV_sR, gR_sR, hij, and_false, if_false]
theorem gV_same (w : Wd) (k : Nat) (i v : Int) : gV (sV w k i v) k i = v := by rw [gV_sV, if_pos ⟨rfl, rfl⟩]
theorem gR_same (w : Wd) (k : Nat) (i : Int) (v : Option Nat) : gR (sR w k i v) k i = v := by rw [gR_sR, if_pos ⟨rfl, rfl⟩]
theorem j_putf (O : OK x own cc d) {C ref : String} {T : u_T} {index k ci j : Nat} {w' : Wd} {v : Value} (cls : clA[ci]? = some (C, T, nfA ci)) (hin : ∀ z ∈ u_ws C T (nfA ci), z ∈ lw_all) (hnm : ∀ a, a < nfA ci → ∀ b, b < nfA ci → a ≠ b → (T a).2.1 ≠ (T b).2.1) (hty : ∀ i, i < nfA ci → parseFieldDescriptor (T i).2.2.1 = some (tyA ci i)) (hj : j < nfA ci) (hk : gK w k = some (.inl ci)) (q : Cond.fieldLink own index ref (T j).2.1 (T j).2.2.1 ∈ lw_all) (hr : ref = (T j).1) (hfin : (T j).2.2.2 = false) (hnf : narrow (tyA ci j) v = v ∧ fits (tyA ci j) v = true) (hg : ∀ k', gK w' k' = gK w k') (hw : ∀ k', k' ≠ k → cE (xG x) w' k' = cE (xG x) w k') (hv : fvl (xG x) w' k (tyA ci j) j = v) (ho : ∀ i, i ≠ j → fvl (xG x) w' k (tyA ci i) i = fvl (xG x) w k (tyA ci i) i) (hd : decode cc pc = .ok (.putfield index, 3)) (K : J x Q w' bc bs (pc + 3) L st) : J x Q w bc bs pc L (v :: .ref (adG (xG x) k) :: st) := by
  intro H locs cells slots ls hP hS hl h1 h2
  subst hr
  obtain ⟨ks, p0, g1, g2, g3, g4⟩ := hP.put (w' := w') (gKs hk) hg hw
  rw [cE_obj hk] at g3
  rw [cE_obj (show gK w' k = some (.inl ci) by rw [hg]; exact hk), ← fs_set (f := fun i => fvl (xG x) w k (tyA ci i) i) (g := fun i => fvl (xG x) w' k (tyA ci i) i) hj hv ho] at g4
  refine va_put (cl := clA) (C := C) (T := T) (N := nfA ci) O.1.1 O.1.2.1 O.1.2.2.2.2 hin (tyA ci) hty hnm O.1.2.2.2.1 O.2.1 g1 g2 hS p0 g3 cls j hj (O.1.2.2.2.2 _ q) (fun _ z => z) hfin (hty j hj) hnf.1 hnf.2 (by rw [fs_len]; exact hj) hd (fun H1 locs1 a1 a2 a3 => K H1 locs1 cells slots ls (g4 H1 a1 a2) a3 hl h1 h2)
theorem j_putfN (O : OK x own cc d) {C ref host : String} {T : u_T} {index k ci j : Nat} {w' : Wd} {v : Value} (cls : clA[ci]? = some (C, T, nfA ci)) (hin : ∀ z ∈ u_ws C T (nfA ci), z ∈ lw_all) (hnm : ∀ a, a < nfA ci → ∀ b, b < nfA ci → a ≠ b → (T a).2.1 ≠ (T b).2.1) (hty : ∀ i, i < nfA ci → parseFieldDescriptor (T i).2.2.1 = some (tyA ci i)) (hj : j < nfA ci) (hk : gK w k = some (.inl ci)) (q : Cond.fieldLinkNest own index ref (T j).2.1 (T j).2.2.1 host ∈ lw_nst) (hr : ref = (T j).1) (hfin : (T j).2.2.2 = false) (hnf : narrow (tyA ci j) v = v ∧ fits (tyA ci j) v = true) (hg : ∀ k', gK w' k' = gK w k') (hw : ∀ k', k' ≠ k → cE (xG x) w' k' = cE (xG x) w k') (hv : fvl (xG x) w' k (tyA ci j) j = v) (ho : ∀ i, i ≠ j → fvl (xG x) w' k (tyA ci i) i = fvl (xG x) w k (tyA ci i) i) (hd : decode cc pc = .ok (.putfield index, 3)) (K : J x Q w' bc bs (pc + 3) L st) : J x Q w bc bs pc L (v :: .ref (adG (xG x) k) :: st) := by
  intro H locs cells slots ls hP hS hl h1 h2
  subst hr
  obtain ⟨ks, p0, g1, g2, g3, g4⟩ := hP.put (w' := w') (gKs hk) hg hw
  rw [cE_obj hk] at g3
  rw [cE_obj (show gK w' k = some (.inl ci) by rw [hg]; exact hk), ← fs_set (f := fun i => fvl (xG x) w k (tyA ci i) i) (g := fun i => fvl (xG x) w' k (tyA ci i) i) hj hv ho] at g4
  refine va_putN (cl := clA) (C := C) (T := T) (N := nfA ci) O.1.1 O.1.2.1 O.1.2.2.2.2 hin (tyA ci) hty hnm O.1.2.2.2.1 O.2.1 g1 g2 hS p0 g3 cls j hj (va_Nw.use rfl (O.2.2.1.nst _ q)) (fun _ z => z) hfin (hty j hj) hnf.1 hnf.2 (by rw [fs_len]; exact hj) hd (fun H1 locs1 a1 a2 a3 => K H1 locs1 cells slots ls (g4 H1 a1 a2) a3 hl h1 h2)
theorem j_putfF (O : OK x own cc d) {C ref : String} {T : u_T} {index k ci j : Nat} {w' : Wd} {v : Value} (cls : clA[ci]? = some (C, T, nfA ci)) (hin : ∀ z ∈ u_ws C T (nfA ci), z ∈ lw_all) (hnm : ∀ a, a < nfA ci → ∀ b, b < nfA ci → a ≠ b → (T a).2.1 ≠ (T b).2.1) (hty : ∀ i, i < nfA ci → parseFieldDescriptor (T i).2.2.1 = some (tyA ci i)) (hj : j < nfA ci) (hk : gK w k = some (.inl ci)) (q : Cond.fieldLink own index ref (T j).2.1 (T j).2.2.1 ∈ lw_all) (hr : ref = (T j).1) (hfin : (T j).2.2.2 = true) (hin2 : (xM x).name = "<init>") (hdecl : (T j).1 = own) (hnf : narrow (tyA ci j) v = v ∧ fits (tyA ci j) v = true) (hg : ∀ k', gK w' k' = gK w k') (hw : ∀ k', k' ≠ k → cE (xG x) w' k' = cE (xG x) w k') (hv : fvl (xG x) w' k (tyA ci j) j = v) (ho : ∀ i, i ≠ j → fvl (xG x) w' k (tyA ci i) i = fvl (xG x) w k (tyA ci i) i) (hd : decode cc pc = .ok (.putfield index, 3)) (K : J x Q w' bc bs (pc + 3) L st) : J x Q w bc bs pc L (v :: .ref (adG (xG x) k) :: st) := by
  intro H locs cells slots ls hP hS hl h1 h2
  subst hr
  obtain ⟨ks, p0, g1, g2, g3, g4⟩ := hP.put (w' := w') (gKs hk) hg hw
  rw [cE_obj hk] at g3
  rw [cE_obj (show gK w' k = some (.inl ci) by rw [hg]; exact hk), ← fs_set (f := fun i => fvl (xG x) w k (tyA ci i) i) (g := fun i => fvl (xG x) w' k (tyA ci i) i) hj hv ho] at g4
  refine va_putF (cl := clA) (C := C) (T := T) (N := nfA ci) O.1.1 O.1.2.1 O.1.2.2.2.2 hin (tyA ci) hty hnm O.1.2.2.2.1 O.2.1 g1 g2 hS p0 g3 cls j hj (O.1.2.2.2.2 _ q) (fun _ z => z) hfin hin2 hdecl (hty j hj) hnf.1 hnf.2 (by rw [fs_len]; exact hj) hd (fun H1 locs1 a1 a2 a3 => K H1 locs1 cells slots ls (g4 H1 a1 a2) a3 hl h1 h2)
theorem j_iald (O : OK x own cc d) {k : Nat} {i : Int} {KK : Int → Prop} (hd : decode cc pc = .ok (.iaload, 1)) (h : alI w k 0 i KK) (K : ∀ v, KK v → J x Q w bc bs (pc + 1) L (vI v :: st)) : J x Q w bc bs pc L (vI i :: .ref (adG (xG x) k) :: st) := by
  intro H locs cells slots ls hP hS hl h1 h2
  obtain ⟨n, hk, hi, hK⟩ := h
  have hc := hP.at (gKs hk)
  rw [cE_arr hk] at hc
  obtain ⟨e1, e2⟩ := i32_in hi
  refine va_iald O.1.1 O.1.2.1 O.2.1 hc 0 0 rfl (tysG_at (xG x) (t := 0) (by decide)) e1 hd ?_
  rw [e2]
  exact K _ hK H locs cells slots ls hP hS hl h1 h2
theorem j_bald (O : OK x own cc d) {k : Nat} {i : Int} {KK : Int → Prop} (hd : decode cc pc = .ok (.baload, 1)) (h : alI w k 2 i KK) (K : ∀ v, KK v → J x Q w bc bs (pc + 1) L (vI v :: st)) : J x Q w bc bs pc L (vI i :: .ref (adG (xG x) k) :: st) := by
  intro H locs cells slots ls hP hS hl h1 h2
  obtain ⟨n, hk, hi, hK⟩ := h
  have hc := hP.at (gKs hk)
  rw [cE_arr hk] at hc
  obtain ⟨e1, e2⟩ := i32_in hi
  refine va_bald O.1.1 O.1.2.1 O.2.1 hc 0 2 rfl (tysG_at (xG x) (t := 2) (by decide)) e1 hd ?_
  rw [e2]
  exact K _ hK H locs cells slots ls hP hS hl h1 h2
theorem j_zald (O : OK x own cc d) {k : Nat} {i : Int} {KK : Int → Prop} (hd : decode cc pc = .ok (.baload, 1)) (h : alI w k 3 i KK) (K : ∀ v, KK v → J x Q w bc bs (pc + 1) L (vI v :: st)) : J x Q w bc bs pc L (vI i :: .ref (adG (xG x) k) :: st) := by
  intro H locs cells slots ls hP hS hl h1 h2
  obtain ⟨n, hk, hi, hK⟩ := h
  have hc := hP.at (gKs hk)
  rw [cE_arr hk] at hc
  obtain ⟨e1, e2⟩ := i32_in hi
  refine va_zald O.1.1 O.1.2.1 O.2.1 hc 0 3 rfl (tysG_at (xG x) (t := 3) (by decide)) e1 hd ?_
  rw [e2]
  exact K _ hK H locs cells slots ls hP hS hl h1 h2
theorem j_lald (O : OK x own cc d) {k : Nat} {i : Int} {KK : Int → Prop} (hd : decode cc pc = .ok (.laload, 1)) (h : alI w k 1 i KK) (K : ∀ v, KK v → J x Q w bc bs (pc + 1) L (vL v :: st)) : J x Q w bc bs pc L (vI i :: .ref (adG (xG x) k) :: st) := by
  intro H locs cells slots ls hP hS hl h1 h2
  obtain ⟨n, hk, hi, hK⟩ := h
  have hc := hP.at (gKs hk)
  rw [cE_arr hk] at hc
  obtain ⟨e1, e2⟩ := i32_in hi
  refine va_lald O.1.1 O.1.2.1 O.2.1 hc 0 1 rfl (tysG_at (xG x) (t := 1) (by decide)) e1 hd ?_
  rw [e2]
  exact K _ hK H locs cells slots ls hP hS hl h1 h2
theorem j_aald (O : OK x own cc d) {k t : Nat} {i : Int} {KK : Option Nat → Prop} (ht : 4 ≤ t ∧ t < 7) (hd : decode cc pc = .ok (.aaload, 1)) (h : alR w k t i KK) (K : ∀ v, KK v → J x Q w bc bs (pc + 1) L (vR (xG x) v :: st)) : J x Q w bc bs pc L (vI i :: .ref (adG (xG x) k) :: st) := by
  intro H locs cells slots ls hP hS hl h1 h2
  obtain ⟨n, hk, hi, hK⟩ := h
  have hc := hP.at (gKs hk)
  rw [cE_arr hk, arE_ref ht] at hc
  obtain ⟨e1, e2⟩ := i32_in hi
  obtain ⟨C, hC⟩ := aty_ref ht
  refine va_aldq O.1.1 O.1.2.1 O.2.1 hc 0 t rfl (by rw [tysG_at (xG x) ht.2, hC]) e1 hd ?_
  rw [e2]
  exact K _ hK H locs cells slots ls hP hS hl h1 h2
theorem j_alen (O : OK x own cc d) {k : Nat} {KK : Int → Prop} (hd : decode cc pc = .ok (.arraylength, 1)) (h : aln w k KK) (K : ∀ v, KK v → J x Q w bc bs (pc + 1) L (vI v :: st)) : J x Q w bc bs pc L (.ref (adG (xG x) k) :: st) := by
  intro H locs cells slots ls hP hS hl h1 h2
  obtain ⟨t, n, hk, ht, hK⟩ := h
  have hc := hP.at (gKs hk)
  rw [cE_arr hk] at hc
  exact va_alen (v := Int32.ofInt (n : Int)) O.1.1 O.1.2.1 O.2.1 hc 0 t rfl (tysG_at (xG x) ht) rfl hd (K _ hK H locs cells slots ls hP hS hl h1 h2)
theorem j_iast (O : OK x own cc d) {k : Nat} {i v : Int} {KK : Wd → Prop} (hd : decode cc pc = .ok (.iastore, 1)) (h : asI w k 0 i (v) KK) (K : ∀ w', KK w' → J x Q w' bc bs (pc + 1) L st) : J x Q w bc bs pc L (vI v :: vI i :: .ref (adG (xG x) k) :: st) := by
  intro H locs cells slots ls hP hS hl h1 h2
  obtain ⟨n, hk, hi, hK⟩ := h
  obtain ⟨ks, p0, g1, g2, g3, g4⟩ := hP.put (w' := sV w k i (v)) (gKs hk) (fun _ => rfl) (fun k' hk' => cE_sV hk')
  rw [cE_arr hk] at g3
  rw [cE_arr (show gK (sV w k i (v)) k = some (.inr (0, n)) from hk)] at g4
  obtain ⟨e1, e2⟩ := i32_in hi
  rw [show arE (xG x) (sV w k i (v)) k 0 = .inl (upd (fun j : Nat => Int32.ofInt (gV w k j)) (Int32.ofInt i).toNatClampNeg (Int32.ofInt v)) from congrArg Sum.inl (arE_upI (v := v) e2)] at g4
  refine va_iast O.1.1 O.1.2.1 O.2.1 g1 g2 hS p0 0 g3 (tysG_at (xG x) (t := 0) (by decide)) e1 hd (fun H1 locs1 a1 a2 a3 => ?_)
  exact K _ hK H1 locs1 cells slots ls (g4 H1 a1 a2) a3 hl h1 h2
theorem j_bast (O : OK x own cc d) {k : Nat} {i v : Int} {KK : Wd → Prop} (hd : decode cc pc = .ok (.bastore, 1)) (h : asI w k 2 i (nB v) KK) (K : ∀ w', KK w' → J x Q w' bc bs (pc + 1) L st) : J x Q w bc bs pc L (vI v :: vI i :: .ref (adG (xG x) k) :: st) := by
  intro H locs cells slots ls hP hS hl h1 h2
  obtain ⟨n, hk, hi, hK⟩ := h
  obtain ⟨ks, p0, g1, g2, g3, g4⟩ := hP.put (w' := sV w k i (nB v)) (gKs hk) (fun _ => rfl) (fun k' hk' => cE_sV hk')
  rw [cE_arr hk] at g3
  rw [cE_arr (show gK (sV w k i (nB v)) k = some (.inr (2, n)) from hk)] at g4
  obtain ⟨e1, e2⟩ := i32_in hi
  rw [show arE (xG x) (sV w k i (nB v)) k 2 = .inl (upd (fun j : Nat => Int32.ofInt (gV w k j)) (Int32.ofInt i).toNatClampNeg (Int32.ofInt (nB v))) from congrArg Sum.inl (arE_upI (v := nB v) e2)] at g4
  refine va_bast O.1.1 O.1.2.1 O.2.1 g1 g2 hS p0 2 g3 (tysG_at (xG x) (t := 2) (by decide)) e1 hd (fun H1 locs1 a1 a2 a3 => ?_)
  rw [nB_nar] at a1 a2
  exact K _ hK H1 locs1 cells slots ls (g4 H1 a1 a2) a3 hl h1 h2
theorem j_zast (O : OK x own cc d) {k : Nat} {i v : Int} {KK : Wd → Prop} (hd : decode cc pc = .ok (.bastore, 1)) (h : asI w k 3 i (nZ v) KK) (K : ∀ w', KK w' → J x Q w' bc bs (pc + 1) L st) : J x Q w bc bs pc L (vI v :: vI i :: .ref (adG (xG x) k) :: st) := by
  intro H locs cells slots ls hP hS hl h1 h2
  obtain ⟨n, hk, hi, hK⟩ := h
  obtain ⟨ks, p0, g1, g2, g3, g4⟩ := hP.put (w' := sV w k i (nZ v)) (gKs hk) (fun _ => rfl) (fun k' hk' => cE_sV hk')
  rw [cE_arr hk] at g3
  rw [cE_arr (show gK (sV w k i (nZ v)) k = some (.inr (3, n)) from hk)] at g4
  obtain ⟨e1, e2⟩ := i32_in hi
  rw [show arE (xG x) (sV w k i (nZ v)) k 3 = .inl (upd (fun j : Nat => Int32.ofInt (gV w k j)) (Int32.ofInt i).toNatClampNeg (Int32.ofInt (nZ v))) from congrArg Sum.inl (arE_upI (v := nZ v) e2)] at g4
  refine va_zast O.1.1 O.1.2.1 O.2.1 g1 g2 hS p0 3 g3 (tysG_at (xG x) (t := 3) (by decide)) e1 hd (fun H1 locs1 a1 a2 a3 => ?_)
  rw [nZ_nar] at a1 a2
  exact K _ hK H1 locs1 cells slots ls (g4 H1 a1 a2) a3 hl h1 h2
theorem j_last (O : OK x own cc d) {k : Nat} {i v : Int} {KK : Wd → Prop} (hd : decode cc pc = .ok (.lastore, 1)) (h : asI w k 1 i (v) KK) (K : ∀ w', KK w' → J x Q w' bc bs (pc + 1) L st) : J x Q w bc bs pc L (vL v :: vI i :: .ref (adG (xG x) k) :: st) := by
  intro H locs cells slots ls hP hS hl h1 h2
  obtain ⟨n, hk, hi, hK⟩ := h
  obtain ⟨ks, p0, g1, g2, g3, g4⟩ := hP.put (w' := sV w k i (v)) (gKs hk) (fun _ => rfl) (fun k' hk' => cE_sV hk')
  rw [cE_arr hk] at g3
  rw [cE_arr (show gK (sV w k i (v)) k = some (.inr (1, n)) from hk)] at g4
  obtain ⟨e1, e2⟩ := i32_in hi
  rw [show arE (xG x) (sV w k i (v)) k 1 = .inr (.inl (vp_updL (fun j : Nat => Int64.ofInt (gV w k j)) (Int32.ofInt i).toNatClampNeg (Int64.ofInt v))) from congrArg (fun z => Sum.inr (Sum.inl z)) (arE_upL (v := v) e2)] at g4
  refine va_last O.1.1 O.1.2.1 O.2.1 g1 g2 hS p0 1 g3 (tysG_at (xG x) (t := 1) (by decide)) e1 hd (fun H1 locs1 a1 a2 a3 => ?_)
  exact K _ hK H1 locs1 cells slots ls (g4 H1 a1 a2) a3 hl h1 h2
end MEM
