/-! THE PLAIN LAW: texts: what is read (no machine in sight) -/
set_option maxRecDepth 100000
/-- trees of sums (0: a number, 1: a value, else two and a sign), of tests (0: two sums and a sign, 1: none, 2: one more behind, else nots) -/
abbrev Su : Type := Std.DTreeMap.Internal.Impl Int (fun _ => Unit)
abbrev Te : Type := Std.DTreeMap.Internal.Impl Int (fun _ => Su × Su)
def Su.num (v : Int) : Su := .inner 0 v () .leaf .leaf
def Su.val (v : Int) : Su := .inner 1 v () .leaf .leaf
def Su.two (sg : Int) (l r : Su) : Su := .inner 2 sg () l r
def Te.cmp (sg : Int) (l r : Su) : Te := .inner 0 sg (l, r) .leaf .leaf
def Te.nots (q : Nat) (t : Te) : Te := .inner (q + 3) 0 (.leaf, .leaf) t .leaf
def Te.snoc (all : Int) (a t : Te) : Te := .inner 2 all (.leaf, .leaf) a t
def Te.sev (all : Int) (ts : List Te) : Te := ts.foldl (Te.snoc all) (.inner 1 all (.leaf, .leaf) .leaf .leaf)
abbrev TeW : Type := (Int × Su × Su) ⊕ ((Nat × Te) ⊕ (Int × List Te))
def teL (all : Int) : Te → List Te
  | .inner 2 a _ l r => if a = all then teL all l ++ [r] else []
  | _ => []
/-- what a test is -/
def teV : Te → TeW
  | .inner 0 sg p _ _ => .inl (sg, p)
  | .inner 1 all _ _ _ => .inr (.inr (all, []))
  | .inner 2 all _ l r => .inr (.inr (all, teL all l ++ [r]))
  | .inner (q + 3) _ _ t _ => .inr (.inl (q, t))
  | .leaf => .inr (.inr (0, []))
theorem teV_fold {all : Int} : ∀ (ts : List Te) (a : Te), teV a = .inr (.inr (all, teL all a)) → teV (ts.foldl (Te.snoc all) a) = .inr (.inr (all, teL all a ++ ts)) := by
  intro ts
  induction ts with
  | nil => intro a h; rw [List.append_nil]; exact h
  | cons t ts ih =>
    intro a h
    have e1 : teL all (Te.snoc all a t) = teL all a ++ [t] := if_pos rfl
    have e2 : teV (Te.snoc all a t) = .inr (.inr (all, teL all a ++ [t])) := rfl
    have e3 := ih (Te.snoc all a t) (by rw [e2, e1])
    rw [e1, List.append_assoc] at e3
    exact e3
theorem teV_sev {all : Int} {ts : List Te} : teV (Te.sev all ts) = .inr (.inr (all, ts)) := teV_fold ts (.inner 1 all (.leaf, .leaf) .leaf .leaf) rfl
abbrev PRS (α : Type) : Type := Except Int (α × LX)
section SPEC
variable (T : Int → Int) (N : Int) (ord : Bool)
def wdS (i : Nat) : List Int := (strA i).2.2.2
def tkT (i : Nat) (s : LX) : Bool := isT T s (wdS i)
/-- a number from least to most -/
def nuS (least most : Int) (s : LX) : PRS Int := if s.1 < N ∧ dgB (T s.1) = true ∧ least ≤ tvT T s.1 (s.2.1 - s.1).toNat ∧ tvT T s.1 (s.2.1 - s.1).toNat ≤ most then .ok (tvT T s.1 (s.2.1 - s.1).toNat, nxS T N s) else .error s.1
/-- which value a word is: law's at 20 .., orders' at 30 .. -/
def fiW (i0 : Nat) : Nat → Int → LX → Int
  | 0, _, _ => -1
  | k + 1, j, s => if tkT T i0 s = true then j else fiW (i0 + 1) k (j + 1) s
def vaI (s : LX) : Int := if ord = true then fiW T 30 6 0 s else fiW T 20 9 0 s
def lvS (s : LX) : LX := (s.1, s.2.1, s.2.2.1 + 1, s.2.2.2)
def dpS (s : LX) (d : Int) : LX := (s.1, s.2.1, s.2.2.1, s.2.2.2 + d)
def vaS (s : LX) : PRS Int := if vaI T ord s = -1 then .ok (-1, s) else if s.2.2.1 = 50 then .error s.1 else if ord = true ∧ 4 ≤ vaI T ord s then (match nuS T N 0 5 (nxS T N (lvS s)) with
  | .error e => .error e
  | .ok (v, s2) => .ok ((if vaI T ord s = 4 then 4 + v else 10 + v), s2)) else .ok (vaI T ord s, nxS T N (lvS s))
/-- a part; S: sums in brackets -/
def paS (S : LX → PRS Su) (s : LX) : PRS Su := if tkT T 0 s = true then (if s.2.2.2 = 8 then .error s.1 else match S (nxS T N (dpS s 1)) with
  | .error e => .error e
  | .ok (x, s2) => if tkT T 1 s2 = true then .ok (x, dpS (nxS T N s2) (-1)) else .error s2.1) else if s.1 < N ∧ dgB (T s.1) = true then (if s.2.2.1 = 50 then .error s.1 else match nuS T N 0 1000 (lvS s) with
  | .error e => .error e
  | .ok (v, s2) => .ok (.num v, s2)) else match vaS T N ord s with
  | .error e => .error e
  | .ok (v, s2) => if v = -1 then .error s2.1 else .ok (.val v, s2)
def muB (s : LX) : Bool := tkT T 2 s || tkT T 3 s || tkT T 4 s
def adB (s : LX) : Bool := tkT T 5 s || tkT T 6 s
def tmL (S : LX → PRS Su) : Nat → Su → LX → PRS Su
  | 0, _, s => .error s.1
  | k + 1, a, s => if muB T s = true then (match paS T N ord S (nxS T N s) with
    | .error e => .error e
    | .ok (b, s2) => tmL S k (.two (T s.1) a b) s2) else .ok (a, s)
def tmS (S : LX → PRS Su) (s : LX) : PRS Su := match paS T N ord S s with
  | .error e => .error e
  | .ok (a, s2) => tmL T N ord S 401 a s2
def suL (S : LX → PRS Su) : Nat → Su → LX → PRS Su
  | 0, _, s => .error s.1
  | k + 1, a, s => if adB T s = true then (match tmS T N ord S (nxS T N s) with
    | .error e => .error e
    | .ok (b, s2) => suL S k (.two (T s.1) a b) s2) else .ok (a, s)
def suS (S : LX → PRS Su) (s : LX) : PRS Su := match tmS T N ord S s with
  | .error e => .error e
  | .ok (a, s2) => suL T N ord S 401 a s2
def suR : Nat → LX → PRS Su
  | 0, s => .error s.1
  | n + 1, s => suS T N ord (suR n) s
/-- a test's part -/
def poS (S : LX → PRS Te) (s : LX) : PRS Te := if tkT T 8 s = true then (if s.2.2.2 = 8 then .error s.1 else match S (nxS T N (dpS s 1)) with
  | .error e => .error e
  | .ok (x, s2) => if tkT T 9 s2 = true then .ok (x, dpS (nxS T N s2) (-1)) else .error s2.1) else match suR T N ord 10 s with
  | .error e => .error e
  | .ok (a, s2) => if tkT T 10 s2 = true ∨ tkT T 11 s2 = true ∨ tkT T 12 s2 = true then (match suR T N ord 10 (nxS T N s2) with
    | .error e => .error e
    | .ok (b, s3) => .ok (.cmp (T s2.1) a b, s3)) else .error s2.1
def plL (S : LX → PRS Te) : Nat → Nat → LX → PRS Te
  | 0, _, s => .error s.1
  | k + 1, q, s => if tkT T 7 s = true then plL S k (q + 1) (nxS T N s) else match poS T N ord S s with
    | .error e => .error e
    | .ok (t, s2) => .ok (.nots q t, s2)
def plS (S : LX → PRS Te) (s : LX) : PRS Te := plL T N ord S 401 0 s
/-- more behind an and, an or -/
def moL (i : Nat) (P : LX → PRS Te) : Nat → List Te → LX → PRS (List Te)
  | 0, _, s => .error s.1
  | k + 1, l, s => if tkT T i s = true then (match P (nxS T N s) with
    | .error e => .error e
    | .ok (t, s2) => moL i P k (l ++ [t]) s2) else .ok (l, s)
def jnS (i : Nat) (all : Int) (P : LX → PRS Te) (s : LX) : PRS Te := match P s with
  | .error e => .error e
  | .ok (t, s2) => if tkT T i s2 = true then (match moL T N i P 401 [t] s2 with
    | .error e => .error e
    | .ok (l, s3) => .ok (.sev all l, s3)) else .ok (t, s2)
def boS2 (S : LX → PRS Te) (s : LX) : PRS Te := jnS T N 13 1 (plS T N ord S) s
def teS (S : LX → PRS Te) (s : LX) : PRS Te := jnS T N 14 0 (boS2 T N ord S) s
def teR : Nat → LX → PRS Te
  | 0, s => .error s.1
  | n + 1, s => teS T N ord (teR n) s
/-- a clause: head, sums, times, test -/
abbrev Cl : Type := Int × List Su × Int × Option Te
def hdI (s : LX) : Int := if ord = true then fiW T 36 4 0 s else fiW T 16 4 0 s
def behS (i : Nat) (s : LX) : PRS Su := if tkT T i s = true then suR T N ord 10 (nxS T N s) else .error s.1
def sumsS (hd : Int) (s : LX) : PRS (List Su) := if hd = 3 then .ok ([], s) else match suR T N ord 10 s with
  | .error e => .error e
  | .ok (a, s2) => if ord = false then .ok ([a], s2) else match behS T N ord (if hd = 0 then 40 else if hd = 1 then 41 else 42) s2 with
    | .error e => .error e
    | .ok (b, s3) => if hd = 0 then (match behS T N ord 41 s3 with
      | .error e => .error e
      | .ok (c, s4) => .ok ([a, b, c], s4)) else .ok ([a, b], s3)
def timS (s : LX) : PRS Int := if ord = true ∧ tkT T 43 s = true then nuS T N 1 20 (nxS T N s) else .ok (1, s)
def whnS (s : LX) : PRS (Option Te) := if tkT T (if ord = true then 44 else 29) s = true then (match teR T N ord 10 (nxS T N s) with
  | .error e => .error e
  | .ok (t, s2) => .ok (some t, s2)) else .ok (none, s)
def claS (made : Int) (s : LX) : PRS Cl := if made = 12 ∨ hdI T ord s = -1 then .error s.1 else match sumsS T N ord (hdI T ord s) (nxS T N s) with
  | .error e => .error e
  | .ok (l, s2) => match timS T N ord s2 with
    | .error e => .error e
    | .ok (n, s3) => match whnS T N ord s3 with
      | .error e => .error e
      | .ok (t, s4) => .ok ((hdI T ord s, l, n, t), s4)
def rdL : Nat → List Cl → LX → PRS (List Cl)
  | 0, _, s => .error s.1
  | k + 1, l, s => if tkT T 15 s = true then (match claS T N ord l.length (nxS T N s) with
    | .error e => .error e
    | .ok (c, s2) => rdL k (l ++ [c]) s2) else if s.1 < N then .error s.1 else .ok (l, s)
def rdS : PRS (List Cl) := match claS T N ord 0 (nxS T N (0, 0, 0, 0)) with
  | .error e => .error e
  | .ok (c, s2) => rdL T N ord 401 [c] s2
end SPEC
