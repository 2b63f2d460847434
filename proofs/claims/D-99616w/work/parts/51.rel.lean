/-! THE PLAIN LAW: how the two lie beside one another -/
/-- a table (object t, its rows t+1 .. t+5) holds 75 numbers of the row: year, damp, mood, pins, broken, spring, wed, left -/
def TabEq (w : Wd) (t : Nat) (o : Int → Int) : Prop := gV w t 5 = o 0 ∧ (∀ j : Int, 0 ≤ j → j < 48 → gV w (t + 1) j = o (3 + j)) ∧ ∀ j : Int, 0 ≤ j → j < 6 → gV w (t + 2) j = o (51 + j) ∧ gV w (t + 3) j = o (57 + j) ∧ gV w (t + 4) j = o (63 + j) ∧ gV w (t + 5) j = o (69 + j)
/-- what 75 such numbers are, for nb boxes and ns suitors -/
def TabOK (o : Int → Int) (nb ns : Int) : Prop := (0 ≤ o 0 ∧ o 0 ≤ 999) ∧ (0 ≤ o 1 ∧ o 1 ≤ 10) ∧ (0 ≤ o 2 ∧ o 2 ≤ 9) ∧ (∀ j : Int, 0 ≤ j → j < 48 → 0 ≤ o (3 + j) ∧ o (3 + j) ≤ 255) ∧ (∀ j : Int, 0 ≤ j → j < 6 → (0 ≤ o (51 + j) ∧ o (51 + j) ≤ 255) ∧ (0 ≤ o (57 + j) ∧ o (57 + j) ≤ 20) ∧ (-1 ≤ o (63 + j) ∧ o (63 + j) ≤ 5) ∧ (0 ≤ o (69 + j) ∧ o (69 + j) ≤ 60)) ∧ (∀ j : Int, 0 ≤ j → j < nb → (o (63 + j) = -1 → o (69 + j) = 0) ∧ (o (63 + j) ≠ -1 → o (63 + j) < ns ∧ 1 ≤ o (69 + j))) ∧ ∀ i j : Int, 0 ≤ i → i < nb → 0 ≤ j → j < nb → o (63 + i) = o (63 + j) → o (63 + i) ≠ -1 → i = j
/-- which number an operation's sign is -/
def sgOp (c : Int) : Int := if c = 43 then 20 else if c = 45 then 21 else if c = 42 then 22 else if c = 47 then 23 else 24
def cmOp (c : Int) : Int := if c = 60 then 25 else if c = 62 then 26 else 27
/-- what a value's place in the setting is in the code (in a law's text; in orders) -/
def valOp (ord : Bool) (v a b : Int) : Prop := if ord then (v < 4 ∧ a = v + 1 ∧ b = 0) ∨ (4 ≤ v ∧ v < 10 ∧ a = 5 ∧ b = v - 4) ∨ (10 ≤ v ∧ v < 16 ∧ a = 6 ∧ b = v - 10) else v < 9 ∧ a = v + 1 ∧ b = 0
/-- the sum at key k is the code from a up to b -/
def SumR (w : Wd) (ord : Bool) (op ar : Int → Int) : Nat → Nat → Int → Int → Prop
  | 0, _, _, _ => False
  | n + 1, k, a, b => 1000 ≤ k ∧ ((gK w k = some (.inl 8) ∧ b = a + 1 ∧ op a = 0 ∧ ar a = gV w k 0 ∧ 0 ≤ ar a ∧ ar a ≤ 1000) ∨ (gK w k = some (.inl 9) ∧ b = a + 1 ∧ 0 ≤ gV w k 0 ∧ valOp ord (gV w k 0) (op a) (ar a)) ∨ (gK w k = some (.inl 10) ∧ (gV w k 0 = 43 ∨ gV w k 0 = 45 ∨ gV w k 0 = 42 ∨ gV w k 0 = 47 ∨ gV w k 0 = 37) ∧ op (b - 1) = sgOp (gV w k 0) ∧ ∃ l r m, gR w k 1 = some l ∧ gR w k 2 = some r ∧ SumR w ord op ar n l a m ∧ SumR w ord op ar n r m (b - 1)))
/-- the test at key k is the code from a up to b (AND, OR: behind each part but the last one stands the sign, with the place behind the next part; NOTs by twos may stand behind) -/
def TestR (w : Wd) (ord : Bool) (op ar : Int → Int) : Nat → Nat → Int → Int → Prop
  | 0, _, _, _ => False
  | n + 1, k, a, b => 1000 ≤ k ∧ ∃ (c : Int) (q : Nat), b = c + 2 * q ∧ (∀ i : Int, c ≤ i → i < b → op i = 28) ∧ ((gK w k = some (.inl 11) ∧ (gV w k 0 = 60 ∨ gV w k 0 = 62 ∨ gV w k 0 = 61) ∧ op (c - 1) = cmOp (gV w k 0) ∧ ∃ l r m, gR w k 1 = some l ∧ gR w k 2 = some r ∧ SumR w ord op ar 60 l a m ∧ SumR w ord op ar 60 r m (c - 1)) ∨ (gK w k = some (.inl 12) ∧ op (c - 1) = 28 ∧ ∃ t, gR w k 0 = some t ∧ TestR w ord op ar n t a (c - 1)) ∨ (gK w k = some (.inl 13) ∧ (gV w k 0 = 0 ∨ gV w k 0 = 1) ∧ ∃ (li E n9 : Nat) (f : Nat → Int), gR w k 1 = some li ∧ gK w li = some (.inl 18) ∧ 1000 ≤ li ∧ gR w li 1 = some E ∧ 1000 ≤ E ∧ gK w E = some (.inr (4, n9)) ∧ n9 < 1000 ∧ 2 ≤ gV w li 2 ∧ gV w li 2 ≤ n9 ∧ f 0 = a ∧ f (gV w li 2).toNat = c + 1 ∧ ∀ i : Nat, (i : Int) < gV w li 2 → ∃ t, gR w E i = some t ∧ TestR w ord op ar n t (f i) (f (i + 1) - 1) ∧ ((i : Int) + 1 < gV w li 2 → op (f (i + 1) - 1) = 30 - gV w k 0 ∧ ar (f (i + 1) - 1) = f (i + 2) - 1)))
/-- a law's clause at key k: head, its sum, its test, by the code's places -/
def ClauR (w : Wd) (op ar : Int → Int) (k : Nat) (hd s1 s2 t1 t2 : Int) : Prop := 1000 ≤ k ∧ gK w k = some (.inl 7) ∧ gV w k 0 = hd ∧ 0 ≤ hd ∧ hd ≤ 3 ∧ 0 ≤ s1 ∧ s1 ≤ s2 ∧ s2 ≤ t1 ∧ t1 ≤ t2 ∧ t2 ≤ 400 ∧ (if hd = 3 then gR w k 1 = none else ∃ s, gR w k 1 = some s ∧ SumR w false op ar 60 s s1 s2) ∧ (if t1 = t2 then gR w k 2 = none else ∃ t, gR w k 2 = some t ∧ TestR w false op ar 40 t t1 t2)
/-- the law at key k is the text c (900 numbers) -/
def LawR (w : Wd) (k : Nat) (c : Int → Int) : Prop := 1000 ≤ k ∧ gK w k = some (.inl 14) ∧ ∃ li E n : Nat, gR w k 0 = some li ∧ 1000 ≤ li ∧ gK w li = some (.inl 18) ∧ gR w li 1 = some E ∧ 1000 ≤ E ∧ gK w E = some (.inr (4, n)) ∧ n < 1000 ∧ gV w li 2 = c 1 ∧ 0 ≤ c 1 ∧ c 1 ≤ 12 ∧ c 1 ≤ n ∧ ∀ q : Int, 0 ≤ q → q < c 1 → ∃ cl, gR w E q = some cl ∧ ClauR w (fun j => c (98 + 2 * j)) (fun j => c (99 + 2 * j)) cl (c (2 + 8 * q)) (c (5 + 8 * q)) (c (6 + 8 * q)) (c (7 + 8 * q)) (c (8 + 8 * q))
/-- the laws of a state: the list at key lk, its elements at key ek -/
def LawsR (w : Wd) (lk ek : Nat) (o : Int → Int) : Prop := gK w lk = some (.inl 18) ∧ gR w lk 1 = some ek ∧ (∃ n : Nat, gK w ek = some (.inr (4, n)) ∧ 2 ≤ n ∧ n < 1000 ∧ o 3 ≤ n ∧ ∀ q, ¬ (0 ≤ q ∧ q < o 3) → gR w ek q = none) ∧ gV w lk 2 = o 3 ∧ 0 ≤ o 3 ∧ o 3 ≤ 6 ∧ -1 ≤ o 4 ∧ o 4 < o 3 ∧ ∀ q : Int, 0 ≤ q → q < o 3 → ∃ k, gR w ek q = some k ∧ LawR w k (fun j => o (116 + 900 * q + j))
/-- what a state holds apart from table and laws: the object s, its rows s+1 (ears), s+2 (wants), s+3 (heard) -/
def StaR (w : Wd) (s : Nat) (o : Int → Int) : Prop := (gV w s 5 = o 0 ∧ 0 ≤ o 0 ∧ o 0 ≤ 6) ∧ (gV w s 6 = o 1 ∧ 0 ≤ o 1 ∧ o 1 ≤ 6) ∧ (gV w s 7 = o 2 ∧ 0 ≤ o 2 ∧ o 2 ≤ 8) ∧ gV w s 8 = o 6 ∧ gV w s 9 = o 7 ∧ gV w s 10 = o 4 ∧ (∀ j : Int, 0 ≤ j → j < 6 → (gV w (s + 1) j = o (80 + j) ∧ 0 ≤ o (80 + j) ∧ o (80 + j) ≤ 7) ∧ gV w (s + 2) j = o (86 + j) ∧ 0 ≤ o (86 + j) ∧ o (86 + j) ≤ 60) ∧ (∀ j : Int, 0 ≤ j → j < 24 → gV w (s + 3) j = o (92 + j)) ∧ ∀ j : Int, 0 ≤ j → j < o 2 → (0 ≤ o (92 + 3 * j) ∧ o (92 + 3 * j) ≤ 7) ∧ (0 ≤ o (93 + 3 * j) ∧ o (93 + 3 * j) ≤ 7) ∧ 0 ≤ o (94 + 3 * j) ∧ o (94 + 3 * j) ≤ 1
/-- the state at s, its table at t, its laws at lk, ek, is the row o -/
def StR (w : Wd) (s t lk ek : Nat) (o : Int → Int) : Prop := TabEq w t (fun j => o (5 + j)) ∧ TabOK (fun j => o (5 + j)) (o 0) (o 1) ∧ StaR w s o ∧ LawsR w lk ek o
/-- an image (place q): none, or a state of its own at static keys 150 + 10 q, its table 324 + 6 q -/
def ImgR (w : Wd) (q : Nat) : Prop := (gV w 5 q = 0 ∧ gR w 103 q = none) ∨ (gV w 5 q = 1 ∧ gR w 103 q = some (150 + 10 * q) ∧ gK w (150 + 10 * q) = some (.inl 2) ∧ gR w (150 + 10 * q) 0 = some (324 + 6 * q) ∧ gR w (150 + 10 * q) 4 = some (154 + 10 * q) ∧ (∀ j, j < 3 → gR w (150 + 10 * q) (j + 1 : Nat) = some (151 + 10 * q + j) ∧ gK w (151 + 10 * q + j) = some (.inr (0, if j = 2 then 24 else 6))) ∧ gK w (324 + 6 * q) = some (.inl 3) ∧ (∀ j, j < 5 → gR w (324 + 6 * q) (j : Nat) = some (325 + 6 * q + j) ∧ gK w (325 + 6 * q + j) = some (.inr (0, if j = 0 then 48 else 6))) ∧ StR w (150 + 10 * q) (324 + 6 * q) (154 + 10 * q) (155 + 10 * q) (fun j => gV w 4 (5516 * q + j)))
/-- the constants of the reference's words -/
def wordsT : List Int := [2552, 654910919, 15192243, 86486190, 659870194, 5170, 24165011, 824370, 441828]
def ordersT : List Int := [824370, 146885, 404362868, 3747098803, 398548, 15192243]
def headsT : List Int := [12635795, 12889267, 13094067, 67155]
def actsT : List Int := [546188, 636976, 23716, 525939]
def joinsT : List Int := [52, 486, 655]
def ConR (w : Wd) : Prop := (∀ j : Nat, j < 9 → gV w 31 j = wordsT.getD j 0) ∧ (∀ j : Nat, j < 6 → gV w 32 j = ordersT.getD j 0) ∧ (∀ j : Nat, j < 4 → gV w 33 j = headsT.getD j 0) ∧ (∀ j : Nat, j < 4 → gV w 52 j = actsT.getD j 0) ∧ ∀ j : Nat, j < 3 → gV w 53 j = joinsT.getD j 0
/-- what can be undone -/
def UndR (w : Wd) : Prop := (gV w 100 15 = gV w 0 8 ∧ 0 ≤ gV w 0 8 ∧ gV w 0 8 ≤ 16) ∧ (∀ q : Int, 0 ≤ q → q < 16 → gV w 106 q = gV w 7 q ∧ 0 ≤ gV w 7 q ∧ gV w 7 q ≤ 3) ∧ (∀ q : Nat, q < 16 → gR w 105 q = some (432 + 6 * q)) ∧ ∃ π : Nat → Nat, (∀ q : Nat, q < 16 → π q < 16 ∧ gR w 104 q = some (336 + 6 * π q)) ∧ (∀ p q : Nat, p < 16 → q < 16 → π p = π q → p = q) ∧ ∀ q : Nat, (q : Int) < gV w 0 8 → TabEq w (336 + 6 * π q) (fun j => gV w 6 (75 * q + j)) ∧ TabOK (fun j => gV w 6 (75 * q + j)) (gV w 3 0) (gV w 3 1) ∧ gV w 6 (75 * q + 1) = gV w 3 6 ∧ gV w 6 (75 * q + 2) = gV w 3 7
/-- the counts, the tape, what else is told -/
def ScaR (w : Wd) (i : Int) : Prop := (gV w 100 0 = gV w 0 1 ∧ -6 ≤ gV w 0 1 ∧ gV w 0 1 ≤ 0) ∧ (∀ q : Int, 0 ≤ q → q < 7 → gV w 101 q = gV w 2 q ∧ 0 ≤ gV w 2 q ∧ gV w 2 q ≤ i) ∧ (gV w 100 11 = gV w 0 13 ∧ 0 ≤ gV w 0 13 ∧ gV w 0 13 ≤ 400) ∧ (∀ q : Int, 0 ≤ q → q < 400 → 0 ≤ gV w 12 q ∧ gV w 12 q ≤ 255 ∧ gV w 110 q = if gV w 12 q < 128 then gV w 12 q else gV w 12 q - 256) ∧ (gV w 100 12 = gV w 0 18 ∧ -1 ≤ gV w 0 18 ∧ gV w 0 18 ≤ 400) ∧ (gV w 100 13 = gV w 0 11 ∧ 0 ≤ gV w 0 11 ∧ gV w 0 11 ≤ 400) ∧ (gV w 100 14 = gV w 0 57 ∧ -1 ≤ gV w 0 57 ∧ gV w 0 57 ≤ 12) ∧ gV w 0 20 = 0 ∧ (∀ q : Int, 0 ≤ q → q < 3 → gV w 125 q = 0)
def nts (p b : Int) : Int := ian p (ixo b (-1))
/-- how many bits of 0 .. 255 -/
def pc8 (v : Int) : Int := v % 2 + v / 2 % 2 + v / 4 % 2 + v / 8 % 2 + v / 16 % 2 + v / 32 % 2 + v / 64 % 2 + v / 128 % 2
/-- notes of box b of a table -/
def ntb (pins brk : Int → Int) (b : Int) : Int := pc8 (nts (pins (8 * b)) (brk b)) + pc8 (nts (pins (8 * b + 1)) (brk b)) + pc8 (nts (pins (8 * b + 2)) (brk b)) + pc8 (nts (pins (8 * b + 3)) (brk b)) + pc8 (nts (pins (8 * b + 4)) (brk b)) + pc8 (nts (pins (8 * b + 5)) (brk b)) + pc8 (nts (pins (8 * b + 6)) (brk b)) + pc8 (nts (pins (8 * b + 7)) (brk b))
/-- what generations left -/
def DraR (w : Wd) : Prop := (gV w 100 32 = gV w 0 61 ∧ -1 ≤ gV w 0 61 ∧ gV w 0 61 ≤ 6) ∧ (∀ j : Int, 0 ≤ j → j < 48 → 0 ≤ gV w 319 j ∧ gV w 319 j ≤ 255) ∧ (∀ j : Int, 0 ≤ j → j < 6 → 0 ≤ gV w 320 j ∧ gV w 320 j ≤ 255) ∧ ∀ j : Int, 0 ≤ j → j < gV w 0 61 → gV w 60 j = ntb (gV w 319) (gV w 320) j ∧ gV w 321 j = gV w 60 (6 + j) ∧ gV w 323 j = gV w 60 (12 + j) ∧ (0 ≤ gV w 60 (6 + j) ∧ gV w 60 (6 + j) ≤ 20) ∧ 0 ≤ gV w 60 (12 + j) ∧ gV w 60 (12 + j) ≤ 60
/-- the cells as a whole: keys; references go to cells; the arrays of laws are known to their lists alone; no cell of an image that isn't there -/
def TID (w : Wd) : Prop := (∀ k, gK w k ≠ none → k < 800 ∨ 1000 ≤ k) ∧ (∀ (k : Nat) (j : Int) (r : Nat), gK w k ≠ none → gR w k j = some r → gK w r ≠ none ∧ (r = 145 → k = 144 ∧ j = 1) ∧ (r = 155 → k = 154 ∧ j = 1) ∧ (r = 165 → k = 164 ∧ j = 1)) ∧ ∀ q : Nat, q < 2 → gV w 5 q = 0 → ∀ j : Nat, j < 6 → gK w (150 + 10 * q + j) = none ∧ gK w (324 + 6 * q + j) = none
/-- the two beside one another, at the i-th number of the script -/
def REL (w : Wd) (i : Int) : Prop := SOK w ∧ StR w 140 300 144 145 (gV w 3) ∧ ImgR w 0 ∧ ImgR w 1 ∧ ConR w ∧ UndR w ∧ ScaR w i ∧ DraR w ∧ TID w
def INV (i : Int) (bc bs : Nat) (w : Wd) : Prop := (0 ≤ i ∧ i ≤ 390) ∧ 3000 * (390 - i) ≤ bc ∧ 14000 * (390 - i) ≤ bs ∧ REL w i
