/-! BASE: the world by keys. A world w: ints, longs, booleans, bytes at (key, place); references (keys) at (key, place); the kind of each key. -/
abbrev Kd : Type := Nat ⊕ (Nat × Nat)
abbrev Wd : Type := (Nat → Int → Int) × (Nat → Int → Option Nat) × (Nat → Option Kd)
def gV (w : Wd) (k : Nat) (i : Int) : Int := w.1 k i
def gR (w : Wd) (k : Nat) (i : Int) : Option Nat := w.2.1 k i
def gK (w : Wd) (k : Nat) : Option Kd := w.2.2 k
def sV (w : Wd) (k : Nat) (i x : Int) : Wd := (fun k' i' => if k' = k ∧ i' = i then x else w.1 k' i', w.2)
def sR (w : Wd) (k : Nat) (i : Int) (r : Option Nat) : Wd := (w.1, fun k' i' => if k' = k ∧ i' = i then r else w.2.1 k' i', w.2.2)
def nK (w : Wd) (k : Nat) (d : Kd) : Wd := (fun k' i' => if k' = k then 0 else w.1 k' i', fun k' i' => if k' = k then none else w.2.1 k' i', fun k' => if k' = k then some d else w.2.2 k')
theorem gV_sV (w : Wd) (k k' : Nat) (i i' x : Int) : gV (sV w k i x) k' i' = if k' = k ∧ i' = i then x else gV w k' i' := rfl
theorem gR_sV (w : Wd) (k k' : Nat) (i i' x : Int) : gR (sV w k i x) k' i' = gR w k' i' := rfl
theorem gK_sV (w : Wd) (k k' : Nat) (i x : Int) : gK (sV w k i x) k' = gK w k' := rfl
theorem gV_sR (w : Wd) (k k' : Nat) (i i' : Int) (r : Option Nat) : gV (sR w k i r) k' i' = gV w k' i' := rfl
theorem gR_sR (w : Wd) (k k' : Nat) (i i' : Int) (r : Option Nat) : gR (sR w k i r) k' i' = if k' = k ∧ i' = i then r else gR w k' i' := rfl
theorem gK_sR (w : Wd) (k k' : Nat) (i : Int) (r : Option Nat) : gK (sR w k i r) k' = gK w k' := rfl
theorem gV_nK (w : Wd) (k k' : Nat) (i' : Int) (d : Kd) : gV (nK w k d) k' i' = if k' = k then 0 else gV w k' i' := rfl
theorem gR_nK (w : Wd) (k k' : Nat) (i' : Int) (d : Kd) : gR (nK w k d) k' i' = if k' = k then none else gR w k' i' := rfl
theorem gK_nK (w : Wd) (k k' : Nat) (d : Kd) : gK (nK w k d) k' = if k' = k then some d else gK w k' := rfl
abbrev vI (v : Int) : Value := .int (Int32.ofInt v)
abbrev vL (v : Int) : Value := .long (Int64.ofInt v)
/-- the machine's side: class numbers, array classes by code, the keys' addresses -/
abbrev GW : Type := va_G × (Nat → ClassId) × (Nat → Nat) × (Nat → Nat)
abbrev adG (G : GW) : Nat → Nat := G.2.2.1
abbrev vR (G : GW) (o : Option Nat) : Value := va_rf (o.map (adG G))
def fvl (G : GW) (w : Wd) (k : Nat) (ty : FieldType) (j : Nat) : Value := match ty with
  | .long => vL (gV w k j)
  | .object _ => vR G (gR w k j)
  | .array _ => vR G (gR w k j)
  | .float => .float 0
  | .double => .double 0
  | _ => vI (gV w k j)
/-- array types by code: 0 int, 1 long, 2 byte, 3 boolean, 4 Object, 5 State, 6 Table -/
def aty : Nat → FieldType := fun t => match t with
  | 0 => .int
  | 1 => .long
  | 2 => .byte
  | 3 => .boolean
  | 4 => .object "java/lang/Object"
  | 5 => .object "DowryBoxes$State"
  | _ => .object "DowryBoxes$Table"
def tysG (G : GW) : List (ClassId × FieldType) := [(G.2.1 0, aty 0), (G.2.1 1, aty 1), (G.2.1 2, aty 2), (G.2.1 3, aty 3), (G.2.1 4, aty 4), (G.2.1 5, aty 5), (G.2.1 6, aty 6)]
theorem tysG_at (G : GW) {t : Nat} (h : t < 7) : (tysG G)[t]? = some (G.2.1 t, aty t) := by
  match t, h with
  | 0, _ => rfl
  | 1, _ => rfl
  | 2, _ => rfl
  | 3, _ => rfl
  | 4, _ => rfl
  | 5, _ => rfl
  | 6, _ => rfl
  | t + 7, h => exact absurd h (by omega)
def arE (G : GW) (w : Wd) (k t : Nat) : (Nat → Int32) ⊕ (Nat → Int64) ⊕ (Nat → UInt32) ⊕ (Nat → UInt64) ⊕ (Nat → Option Nat) := match t with
  | 0 => .inl (fun i => Int32.ofInt (gV w k i))
  | 1 => .inr (.inl (fun i => Int64.ofInt (gV w k i)))
  | 2 => .inl (fun i => Int32.ofInt (gV w k i))
  | 3 => .inl (fun i => Int32.ofInt (gV w k i))
  | _ => .inr (.inr (.inr (.inr (fun i => (gR w k i).map (adG G)))))
def cE (G : GW) (w : Wd) (k : Nat) : va_E := match gK w k with
  | some (.inl ci) => .inr (ci, (List.range (nfA ci)).map (fun j => fvl G w k (tyA ci j) j))
  | some (.inr (t, n)) => .inl (G.2.1 t, n, arE G w k t)
  | none => .inr (0, [])
abbrev wsG (G : GW) (w : Wd) (ks : List Nat) : va_W := ks.map (fun k => (adG G k, cE G w k))
/-- the heap holds the world -/
def HP (G : GW) (A : Nat → Prop) (w : Wd) (H : Heap) : Prop := ∃ ks : List Nat, (∀ k, gK w k ≠ none ↔ k ∈ ks) ∧ va_P G.1 clA (wsG G w ks) H ∧ va_D A (wsG G w ks)
/-- which cells a method may change -/
def Aw (G : GW) (w : Wd) (sz : Nat) : Nat → Prop := fun q => (∃ k, gK w k ≠ none ∧ adG G k = q) ∨ sz ≤ q
theorem HP.weaken {G : GW} {A B : Nat → Prop} {w : Wd} {H : Heap} (h : HP G A w H) (hAB : ∀ k, gK w k ≠ none → A (adG G k) → B (adG G k)) : HP G B w H := by
  obtain ⟨ks, h1, h2, h3⟩ := h
  refine ⟨ks, h1, h2, h3.weaken (fun i q hi hA => ?_)⟩
  have hm := List.mem_of_getElem? hi
  obtain ⟨k, hk, rfl⟩ := List.mem_map.mp hm
  exact hAB k ((h1 k).mpr hk) hA
theorem HP.self {G : GW} {A : Nat → Prop} {w : Wd} {H : Heap} {sz : Nat} (h : HP G A w H) : HP G (Aw G w sz) w H := h.weaken (fun k hk _ => Or.inl ⟨k, hk, rfl⟩)
theorem HP.top {G : GW} {A : Nat → Prop} {w : Wd} {H : Heap} (h : HP G A w H) : HP G (fun _ => True) w H := h.weaken (fun _ _ _ => trivial)
theorem HP.in {G : GW} {A : Nat → Prop} {w : Wd} {H : Heap} (h : HP G A w H) {k : Nat} (hk : gK w k ≠ none) : A (adG G k) := by
  obtain ⟨ks, h1, h2, h3⟩ := h
  obtain ⟨i, hi⟩ := List.getElem?_of_mem ((h1 k).mp hk)
  exact h3.2 i (adG G k, cE G w k) (by rw [List.getElem?_map, hi]; rfl)
theorem HP.inj {G : GW} {A : Nat → Prop} {w : Wd} {H : Heap} (h : HP G A w H) {k k' : Nat} (hk : gK w k ≠ none) (hk' : gK w k' ≠ none) (e : adG G k = adG G k') : k = k' := by
  obtain ⟨ks, h1, h2, h3⟩ := h
  obtain ⟨i, hi⟩ := List.getElem?_of_mem ((h1 k).mp hk)
  obtain ⟨j, hj⟩ := List.getElem?_of_mem ((h1 k').mp hk')
  have hij := h3.1 i j (adG G k, cE G w k) (adG G k', cE G w k') (by rw [List.getElem?_map, hi]; rfl) (by rw [List.getElem?_map, hj]; rfl) e
  subst hij
  exact Option.some.inj (hi.symm.trans hj)
theorem HP.lt {G : GW} {A : Nat → Prop} {w : Wd} {H : Heap} (h : HP G A w H) {k : Nat} (hk : gK w k ≠ none) : adG G k < H.size := by
  obtain ⟨ks, h1, h2, h3⟩ := h
  obtain ⟨i, hi⟩ := List.getElem?_of_mem ((h1 k).mp hk)
  exact va_at.lt (h2 i (adG G k, cE G w k) (by rw [List.getElem?_map, hi]; rfl))
theorem HP.at {G : GW} {A : Nat → Prop} {w : Wd} {H : Heap} (h : HP G A w H) {k : Nat} (hk : gK w k ≠ none) : va_P G.1 clA [(adG G k, cE G w k)] H := by
  obtain ⟨ks, h1, h2, h3⟩ := h
  obtain ⟨i, hi⟩ := List.getElem?_of_mem ((h1 k).mp hk)
  exact h2.sub [i] (by simp [List.getElem?_map, hi])
/-- one cell changes: the list of the world's cells, place by place -/
theorem ws_set {G : GW} {A : Nat → Prop} {w w' : Wd} {ks : List Nat} (hD : va_D A (wsG G w ks)) {k q : Nat} (hq : ks[q]? = some k) (hw : ∀ k', k' ≠ k → cE G w' k' = cE G w k') : (wsG G w ks).set q (adG G k, cE G w' k) = wsG G w' ks := by
  apply List.ext_getElem?
  intro j
  have hl : q < (wsG G w ks).length := by rw [List.length_map]; exact (List.getElem?_eq_some_iff.mp hq).1
  by_cases hj : j = q
  · subst hj
    rw [List.getElem?_set_self hl, List.getElem?_map, hq]
    rfl
  · rw [List.getElem?_set_ne (Ne.symm hj), List.getElem?_map, List.getElem?_map]
    cases hb : ks[j]? with
    | none => rfl
    | some b =>
      have hbk : b ≠ k := by
        intro e
        subst e
        exact hj (hD.1 j q (adG G b, cE G w b) (adG G b, cE G w b) (by rw [List.getElem?_map, hb]; rfl) (by rw [List.getElem?_map, hq]; rfl) rfl)
      show some (adG G b, cE G w b) = some (adG G b, cE G w' b)
      rw [hw b hbk]
/-- what changes when one place is written -/
theorem HP.put {G : GW} {A : Nat → Prop} {w w' : Wd} {H : Heap} (h : HP G A w H) {k : Nat} (hk : gK w k ≠ none) (hg : ∀ k', gK w' k' = gK w k') (hw : ∀ k', k' ≠ k → cE G w' k' = cE G w k') :
    ∃ (ks : List Nat) (q : Nat), va_P G.1 clA (wsG G w ks) H ∧ va_D A (wsG G w ks) ∧ (wsG G w ks)[q]? = some (adG G k, cE G w k) ∧ ∀ H1 : Heap, va_P G.1 clA ((wsG G w ks).set q (adG G k, cE G w' k)) H1 → va_D A ((wsG G w ks).set q (adG G k, cE G w' k)) → HP G A w' H1 := by
  obtain ⟨ks, h1, h2, h3⟩ := h
  obtain ⟨q, hq⟩ := List.getElem?_of_mem ((h1 k).mp hk)
  refine ⟨ks, q, h2, h3, by rw [List.getElem?_map, hq]; rfl, fun H1 a b => ?_⟩
  rw [ws_set h3 hq hw] at a b
  exact ⟨ks, fun k' => by rw [hg k']; exact h1 k', a, b⟩
/-- a new cell at a fresh key -/
theorem HP.new {G : GW} {A : Nat → Prop} {w w' : Wd} {H : Heap} (h : HP G A w H) {k : Nat} {d : Kd} (hk : gK w k = none) (hg : ∀ k', gK w' k' = if k' = k then some d else gK w k') (hw : ∀ k', k' ≠ k → cE G w' k' = cE G w k') :
    ∃ ks : List Nat, va_P G.1 clA (wsG G w ks) H ∧ va_D A (wsG G w ks) ∧ ∀ H1 : Heap, va_P G.1 clA (wsG G w ks ++ [(adG G k, cE G w' k)]) H1 → va_D A (wsG G w ks ++ [(adG G k, cE G w' k)]) → HP G A w' H1 := by
  obtain ⟨ks, h1, h2, h3⟩ := h
  refine ⟨ks, h2, h3, fun H1 a b => ?_⟩
  have hn : k ∉ ks := fun hm => (h1 k).mpr hm hk
  have e : wsG G w ks ++ [(adG G k, cE G w' k)] = wsG G w' (ks ++ [k]) := by
    rw [wsG, wsG, List.map_append]
    congr 1
    apply List.map_congr_left
    intro b hb
    have hbk : b ≠ k := fun e => hn (e ▸ hb)
    rw [hw b hbk]
  rw [e] at a b
  refine ⟨ks ++ [k], fun k' => ?_, a, b⟩
  rw [hg k', List.mem_append, List.mem_singleton]
  by_cases hkk : k' = k
  · simp [hkk]
  · simp [hkk, h1 k']
theorem cE_sV {G : GW} {w : Wd} {k k' : Nat} {i x : Int} (h : k' ≠ k) : cE G (sV w k i x) k' = cE G w k' := by
  have e : ∀ i', gV (sV w k i x) k' i' = gV w k' i' := fun i' => by rw [gV_sV, if_neg (fun q => h q.1)]
  have e2 : ∀ ty j, fvl G (sV w k i x) k' ty j = fvl G w k' ty j := fun ty j => by
    unfold fvl
    simp only [e, gR_sV]
  have e3 : ∀ t, arE G (sV w k i x) k' t = arE G w k' t := fun t => by
    unfold arE
    simp only [e, gR_sV]
  unfold cE
  simp only [gK_sV, e2, e3]
theorem cE_sR {G : GW} {w : Wd} {k k' : Nat} {i : Int} {r : Option Nat} (h : k' ≠ k) : cE G (sR w k i r) k' = cE G w k' := by
  have e : ∀ i', gR (sR w k i r) k' i' = gR w k' i' := fun i' => by rw [gR_sR, if_neg (fun q => h q.1)]
  have e2 : ∀ ty j, fvl G (sR w k i r) k' ty j = fvl G w k' ty j := fun ty j => by
    unfold fvl
    simp only [e, gV_sR]
  have e3 : ∀ t, arE G (sR w k i r) k' t = arE G w k' t := fun t => by
    unfold arE
    simp only [e, gV_sR]
  unfold cE
  simp only [gK_sR, e2, e3]
theorem cE_nK {G : GW} {w : Wd} {k k' : Nat} {d : Kd} (h : k' ≠ k) : cE G (nK w k d) k' = cE G w k' := by
  have e : ∀ i', gV (nK w k d) k' i' = gV w k' i' := fun i' => by rw [gV_nK, if_neg h]
  have e0 : ∀ i', gR (nK w k d) k' i' = gR w k' i' := fun i' => by rw [gR_nK, if_neg h]
  have e2 : ∀ ty j, fvl G (nK w k d) k' ty j = fvl G w k' ty j := fun ty j => by
    unfold fvl
    simp only [e, e0]
  have e3 : ∀ t, arE G (nK w k d) k' t = arE G w k' t := fun t => by
    unfold arE
    simp only [e, e0]
  unfold cE
  simp only [gK_nK, if_neg h, e2, e3]
theorem cE_obj {G : GW} {w : Wd} {k ci : Nat} (h : gK w k = some (.inl ci)) : cE G w k = .inr (ci, (List.range (nfA ci)).map (fun j => fvl G w k (tyA ci j) j)) := by
  unfold cE
  rw [h]
theorem cE_arr {G : GW} {w : Wd} {k t n : Nat} (h : gK w k = some (.inr (t, n))) : cE G w k = .inl (G.2.1 t, n, arE G w k t) := by
  unfold cE
  rw [h]
theorem fs_at {f : Nat → Value} {N j : Nat} (h : j < N) : ((List.range N).map f)[j]? = some (f j) := by
  rw [List.getElem?_map, List.getElem?_range h]
  rfl
theorem fs_len {f : Nat → Value} {N : Nat} : ((List.range N).map f).length = N := by simp
theorem fs_set {f g : Nat → Value} {N j : Nat} {v : Value} (h : j < N) (hj : g j = v) (ho : ∀ i, i ≠ j → g i = f i) : ((List.range N).map f).set j v = (List.range N).map g := by
  apply List.ext_getElem?
  intro i
  have hl : j < ((List.range N).map f).length := by rw [fs_len]; exact h
  by_cases hi : i = j
  · subst hi
    rw [List.getElem?_set_self hl, fs_at h, hj]
  · rw [List.getElem?_set_ne (Ne.symm hi)]
    by_cases hN : i < N
    · rw [fs_at hN, fs_at hN, ho i hi]
    · rw [List.getElem?_eq_none (by rw [fs_len]; omega), List.getElem?_eq_none (by rw [fs_len]; omega)]
