/-! THE PLAIN LAW: the two constructors (printed by tools/genF2.py) -/
set_option maxRecDepth 100000
def e0 : Wd := (fun _ _ => 0, fun _ _ => none, fun _ => none)
section CTORS
variable {w w' : Wd} {σ : Nat → Nat} {T : Nat} {Q : Wd → Prop} {L : List (Nat × Kd)} {R : List (Nat × Nat × Nat)} {V : List (Nat × Nat × Int)}
theorem mw_ge {m y : Nat} (h : L.all (fun e => Nat.blt e.1 m) = true) (hy : m ≤ y) : gK (MW e0 L R V) y = none := by
  have q : lkK L y = none := by
    induction L with
    | nil => rfl
    | cons e l ih =>
      rw [List.all_cons, Bool.and_eq_true] at h
      have b : e.1 < m := Nat.blt_eq.mp h.1
      show (if y = e.1 then some e.2 else lkK l y) = none
      rw [if_neg (by omega)]
      exact ih h.2
  show (match lkK L y with
    | some d => some d
    | none => gK e0 y) = none
  rw [q]
  rfl
def LC0 : List (Nat × Kd) := (tbL 318 ((318, .inl 3) :: ((130, .inr (1, 21)) :: ((128, .inr (0, 6)) :: ((127, .inr (0, 6)) :: ((126, .inr (0, 6)) :: ((125, .inr (0, 3)) :: ((124, .inr (0, 2048)) :: ((122, .inr (0, 448)) :: ((121, .inr (0, 6)) :: ((120, .inr (0, 6)) :: ((119, .inr (0, 36)) :: ((118, .inr (0, 36)) :: ((117, .inr (0, 6)) :: ((191, .inr (1, 16)) :: (192, .inl 5) :: ((190, .inl 4) :: ((110, .inr (2, 400)) :: (tbL 312 ((312, .inl 3) :: (tbL 306 ((306, .inl 3) :: ((107, .inr (0, 16)) :: ((106, .inr (0, 16)) :: ((105, .inr (6, 16)) :: ((104, .inr (6, 16)) :: ((103, .inr (5, 2)) :: (stL 140 300 ((140, .inl 2) :: ((101, .inr (0, 7)) :: [(100, .inl 1)])))))))))))))))))))))))))))))
def RC0 : List (Nat × Nat × Nat) := ((100, 31, 318) :: (tbR 318 ((100, 30, 130) :: ((100, 28, 128) :: ((100, 27, 127) :: ((100, 26, 126) :: ((100, 25, 125) :: ((100, 24, 124) :: ((100, 22, 122) :: ((100, 21, 121) :: ((100, 20, 120) :: ((100, 19, 119) :: ((100, 18, 118) :: ((100, 17, 117) :: ((100, 16, 190) :: ((190, 1, 191) :: (190, 0, 192) :: ((100, 10, 110) :: ((100, 9, 312) :: (tbR 312 ((100, 8, 306) :: (tbR 306 ((100, 7, 107) :: ((100, 6, 106) :: ((100, 5, 105) :: ((100, 4, 104) :: ((100, 3, 103) :: ((100, 2, 140) :: (stR 140 300 ((100, 1, 101) :: [])))))))))))))))))))))))))))))
def VC0 : List (Nat × Nat × Int) := ((100, 32, -1) :: ((100, 14, -1) :: ((100, 12, -1) :: (stV 140 []))))
theorem x0_ini (M : MM e0 σ w [(100, .inl 1)] [] []) (hT : σ 100 = T) (h : ∀ σ' w', MM e0 σ' w' (uqL 16 LC0) (uqR 16 RC0) VC0 → σ' 100 = T → Q w') : wp_X0_init T 300 6000 w Q := by
  unfold wp_X0_init
  refine mm_AR M hT rfl 101 (by decide) rfl (by decide) (fun σ1 w1 M1 s1 => ?_)
  have e1 : σ1 100 = T := (s1 100 (by decide)).trans hT
  refine mm_O M1 140 (by decide) rfl (by decide) (fun σ2 w2 M2 s2 => ⟨11, 119, by decide, ?_⟩)
  have e2 : σ2 100 = T := (s2 100 (by decide)).trans e1
  refine x1_ini (t := 300) M2 rfl (by decide) rfl (fun y hy => (mw_tl (by omega)).trans ((mw_tl (by omega)).trans ((mw_tl (by omega)).trans rfl))) (by decide) (fun σ3 w3 M3 s3 => ?_)
  have e3 : σ3 100 = T := (s3 100 (by omega)).trans e2
  rw [← s3 140 (by omega)]
  refine mm_pfR M3 e3 rfl (kd_ne rfl) (fun w4 M4 => ?_)
  refine mm_QR M4 e3 rfl 103 (by decide) rfl (by decide) (fun σ5 w5 M5 s5 => ?_)
  have e5 : σ5 100 = T := (s5 100 (by decide)).trans e3
  refine mm_QR M5 e5 rfl 104 (by decide) rfl (by decide) (fun σ6 w6 M6 s6 => ?_)
  have e6 : σ6 100 = T := (s6 100 (by decide)).trans e5
  refine mm_QR M6 e6 rfl 105 (by decide) rfl (by decide) (fun σ7 w7 M7 s7 => ?_)
  have e7 : σ7 100 = T := (s7 100 (by decide)).trans e6
  refine mm_AR M7 e7 rfl 106 (by decide) rfl (by decide) (fun σ8 w8 M8 s8 => ?_)
  have e8 : σ8 100 = T := (s8 100 (by decide)).trans e7
  refine mm_AR M8 e8 rfl 107 (by decide) rfl (by decide) (fun σ9 w9 M9 s9 => ?_)
  have e9 : σ9 100 = T := (s9 100 (by decide)).trans e8
  refine mm_O M9 306 (by decide) rfl (by decide) (fun σ10 w10 M10 s10 => ⟨5, 72, by decide, ?_⟩)
  have e10 : σ10 100 = T := (s10 100 (by decide)).trans e9
  refine x2_ini M10 rfl (by decide) rfl (fun j a b => by rcases (by omega : j = 1 ∨ j = 2 ∨ j = 3 ∨ j = 4 ∨ j = 5) with rfl | rfl | rfl | rfl | rfl <;> rfl) (by decide) (fun σ11 w11 M11 s11 => ?_)
  have e11 : σ11 100 = T := (s11 100 (by omega)).trans e10
  rw [← s11 306 (by omega)]
  refine mm_pfR M11 e11 rfl (kd_ne rfl) (fun w12 M12 => ?_)
  refine mm_O M12 312 (by decide) rfl (by decide) (fun σ13 w13 M13 s13 => ⟨5, 72, by decide, ?_⟩)
  have e13 : σ13 100 = T := (s13 100 (by decide)).trans e11
  refine x2_ini M13 rfl (by decide) rfl (fun j a b => by rcases (by omega : j = 1 ∨ j = 2 ∨ j = 3 ∨ j = 4 ∨ j = 5) with rfl | rfl | rfl | rfl | rfl <;> rfl) (by decide) (fun σ14 w14 M14 s14 => ?_)
  have e14 : σ14 100 = T := (s14 100 (by omega)).trans e13
  rw [← s14 312 (by omega)]
  refine mm_pfR M14 e14 rfl (kd_ne rfl) (fun w15 M15 => ?_)
  refine mm_AR M15 e14 rfl 110 (by decide) rfl (by decide) (fun σ16 w16 M16 s16 => ?_)
  have e16 : σ16 100 = T := (s16 100 (by decide)).trans e14
  refine mm_pfI M16 e16 rfl (fun w17 M17 => ?_)
  refine mm_pfI M17 e16 rfl (fun w18 M18 => ?_)
  refine mm_O M18 190 (by decide) rfl (by decide) (fun σ19 w19 M19 s19 => ⟨2, 22, by decide, ?_⟩)
  have e19 : σ19 100 = T := (s19 100 (by decide)).trans e16
  refine x3_ini M19 rfl rfl rfl rfl (by decide) (fun σ20 w20 M20 s20 => ?_)
  have e20 : σ20 100 = T := (s20 100 (by decide) (by decide)).trans e19
  rw [← s20 190 (by decide) (by decide)]
  refine mm_pfR M20 e20 rfl (kd_ne rfl) (fun w21 M21 => ?_)
  refine mm_AR M21 e20 rfl 117 (by decide) rfl (by decide) (fun σ22 w22 M22 s22 => ?_)
  have e22 : σ22 100 = T := (s22 100 (by decide)).trans e20
  refine mm_AR M22 e22 rfl 118 (by decide) rfl (by decide) (fun σ23 w23 M23 s23 => ?_)
  have e23 : σ23 100 = T := (s23 100 (by decide)).trans e22
  refine mm_AR M23 e23 rfl 119 (by decide) rfl (by decide) (fun σ24 w24 M24 s24 => ?_)
  have e24 : σ24 100 = T := (s24 100 (by decide)).trans e23
  refine mm_AR M24 e24 rfl 120 (by decide) rfl (by decide) (fun σ25 w25 M25 s25 => ?_)
  have e25 : σ25 100 = T := (s25 100 (by decide)).trans e24
  refine mm_AR M25 e25 rfl 121 (by decide) rfl (by decide) (fun σ26 w26 M26 s26 => ?_)
  have e26 : σ26 100 = T := (s26 100 (by decide)).trans e25
  refine mm_AR M26 e26 rfl 122 (by decide) rfl (by decide) (fun σ27 w27 M27 s27 => ?_)
  have e27 : σ27 100 = T := (s27 100 (by decide)).trans e26
  refine mm_AR M27 e27 rfl 124 (by decide) rfl (by decide) (fun σ28 w28 M28 s28 => ?_)
  have e28 : σ28 100 = T := (s28 100 (by decide)).trans e27
  refine mm_AR M28 e28 rfl 125 (by decide) rfl (by decide) (fun σ29 w29 M29 s29 => ?_)
  have e29 : σ29 100 = T := (s29 100 (by decide)).trans e28
  refine mm_AR M29 e29 rfl 126 (by decide) rfl (by decide) (fun σ30 w30 M30 s30 => ?_)
  have e30 : σ30 100 = T := (s30 100 (by decide)).trans e29
  refine mm_AR M30 e30 rfl 127 (by decide) rfl (by decide) (fun σ31 w31 M31 s31 => ?_)
  have e31 : σ31 100 = T := (s31 100 (by decide)).trans e30
  refine mm_AR M31 e31 rfl 128 (by decide) rfl (by decide) (fun σ32 w32 M32 s32 => ?_)
  have e32 : σ32 100 = T := (s32 100 (by decide)).trans e31
  refine mm_AR M32 e32 rfl 130 (by decide) rfl (by decide) (fun σ33 w33 M33 s33 => ?_)
  have e33 : σ33 100 = T := (s33 100 (by decide)).trans e32
  refine mm_O M33 318 (by decide) rfl (by decide) (fun σ34 w34 M34 s34 => ⟨5, 72, by decide, ?_⟩)
  have e34 : σ34 100 = T := (s34 100 (by decide)).trans e33
  refine x2_ini M34 rfl (by decide) rfl (fun j a b => by rcases (by omega : j = 1 ∨ j = 2 ∨ j = 3 ∨ j = 4 ∨ j = 5) with rfl | rfl | rfl | rfl | rfl <;> rfl) (by decide) (fun σ35 w35 M35 s35 => ?_)
  have e35 : σ35 100 = T := (s35 100 (by omega)).trans e34
  rw [← s35 318 (by omega)]
  refine mm_pfR M35 e35 rfl (kd_ne rfl) (fun w36 M36 => ?_)
  refine mm_pfI M36 e35 rfl (fun w37 M37 => ?_)
  have z0 : gK (MW e0 LC0 RC0 VC0) 100 = some (.inl 1) := rfl
  have z4 : gK (MW e0 LC0 RC0 VC0) 104 = some (.inr (6, 16)) := rfl
  have z5 : gK (MW e0 LC0 RC0 VC0) 105 = some (.inr (6, 16)) := rfl
  have Z : MM e0 σ35 w37 (uqL 0 LC0) (uqR 0 RC0) VC0 := M37
  exact x0_232 (σ := σ35) z0 z4 z5 rfl rfl (fun y ya yb => mw_ge (m := 336) rfl ya) (fun σ2 w2 M2 s2 => h σ2 w2 M2 ((s2 100 (by decide)).trans e35)) 16 0 FU _ _ w37 σ35 rfl (by unfold FU; decide) Z (fun _ _ => rfl) e35 (by decide) (by decide)
def LF0 : List (Nat × Kd) := ((60, .inr (0, 18)) :: ((54, .inr (0, 120)) :: ((53, .inr (1, 3)) :: ((52, .inr (1, 4)) :: ((51, .inr (1, 21)) :: ((50, .inr (0, 6)) :: ((49, .inr (0, 3)) :: ((48, .inr (0, 8)) :: ((47, .inr (0, 2048)) :: ((46, .inr (0, 448)) :: ((45, .inr (3, 36)) :: ((44, .inr (0, 6)) :: ((43, .inr (0, 36)) :: ((42, .inr (0, 36)) :: ((41, .inr (0, 6)) :: ((37, .inr (1, 400)) :: ((36, .inr (1, 13)) :: ((35, .inr (1, 13)) :: ((33, .inr (1, 4)) :: ((32, .inr (1, 6)) :: ((31, .inr (1, 9)) :: ((28, .inr (0, 400)) :: ((27, .inr (0, 400)) :: ((25, .inr (0, 400)) :: ((24, .inr (0, 400)) :: ((22, .inr (0, 96)) :: ((12, .inr (0, 400)) :: ((10, .inr (0, 16)) :: ((9, .inr (0, 1200)) :: ((7, .inr (0, 16)) :: ((6, .inr (0, 1350)) :: ((5, .inr (3, 2)) :: ((4, .inr (0, 11032)) :: ((3, .inr (0, 5516)) :: ((2, .inr (0, 7)) :: ((0, .inl 0) :: uqL 16 LC0))))))))))))))))))))))))))))))))))))
def RF0 : List (Nat × Nat × Nat) := ((0, 60, 60) :: ((0, 54, 54) :: ((0, 53, 53) :: ((0, 52, 52) :: ((0, 51, 51) :: ((0, 50, 50) :: ((0, 49, 49) :: ((0, 48, 48) :: ((0, 47, 47) :: ((0, 46, 46) :: ((0, 45, 45) :: ((0, 44, 44) :: ((0, 43, 43) :: ((0, 42, 42) :: ((0, 41, 41) :: ((0, 37, 37) :: ((0, 36, 36) :: ((0, 35, 35) :: ((0, 33, 33) :: ((0, 32, 32) :: ((0, 31, 31) :: ((0, 28, 28) :: ((0, 27, 27) :: ((0, 25, 25) :: ((0, 24, 24) :: ((0, 22, 22) :: ((0, 12, 12) :: ((0, 10, 10) :: ((0, 9, 9) :: ((0, 7, 7) :: ((0, 6, 6) :: ((0, 5, 5) :: ((0, 4, 4) :: ((0, 3, 3) :: ((0, 2, 2) :: (uqR 16 RC0))))))))))))))))))))))))))))))))))))
def VF0 : List (Nat × Nat × Int) := ((3, 6, 2) :: ((3, 4, -1) :: ((0, 61, -1) :: ((0, 57, -1) :: ((53, 2, 655) :: ((53, 1, 486) :: ((53, 0, 52) :: ((52, 3, 525939) :: ((52, 2, 23716) :: ((52, 1, 636976) :: ((52, 0, 546188) :: ((33, 3, 67155) :: ((33, 2, 13094067) :: ((33, 1, 12889267) :: ((33, 0, 12635795) :: ((32, 5, 15192243) :: ((32, 4, 398548) :: ((32, 3, 3747098803) :: ((32, 2, 404362868) :: ((32, 1, 146885) :: ((32, 0, 824370) :: ((31, 8, 441828) :: ((31, 7, 824370) :: ((31, 6, 24165011) :: ((31, 5, 5170) :: ((31, 4, 659870194) :: ((31, 3, 86486190) :: ((31, 2, 15192243) :: ((31, 1, 654910919) :: ((31, 0, 2552) :: ((0, 18, -1) :: VC0)))))))))))))))))))))))))))))))
theorem x5_ini (M : MM e0 σ w ((0, .inl 0) :: uqL 16 LC0) (uqR 16 RC0) VC0) (hT : σ 0 = T) (h : ∀ σ' w', MM e0 σ' w' LF0 RF0 VF0 → σ' 0 = T → σ' 100 = σ 100 → Q w') : wp_X5_init T 40 25000 w Q := by
  unfold wp_X5_init
  refine mm_AR M hT rfl 2 (by decide) rfl (by decide) (fun σ1 w1 M1 s1 => ?_)
  have e1 : σ1 0 = T := (s1 0 (by decide)).trans hT
  refine mm_AR M1 e1 rfl 3 (by decide) rfl (by decide) (fun σ2 w2 M2 s2 => ?_)
  have e2 : σ2 0 = T := (s2 0 (by decide)).trans e1
  refine mm_AR M2 e2 rfl 4 (by decide) rfl (by decide) (fun σ3 w3 M3 s3 => ?_)
  have e3 : σ3 0 = T := (s3 0 (by decide)).trans e2
  refine mm_AR M3 e3 rfl 5 (by decide) rfl (by decide) (fun σ4 w4 M4 s4 => ?_)
  have e4 : σ4 0 = T := (s4 0 (by decide)).trans e3
  refine mm_AR M4 e4 rfl 6 (by decide) rfl (by decide) (fun σ5 w5 M5 s5 => ?_)
  have e5 : σ5 0 = T := (s5 0 (by decide)).trans e4
  refine mm_AR M5 e5 rfl 7 (by decide) rfl (by decide) (fun σ6 w6 M6 s6 => ?_)
  have e6 : σ6 0 = T := (s6 0 (by decide)).trans e5
  refine mm_AR M6 e6 rfl 9 (by decide) rfl (by decide) (fun σ7 w7 M7 s7 => ?_)
  have e7 : σ7 0 = T := (s7 0 (by decide)).trans e6
  refine mm_AR M7 e7 rfl 10 (by decide) rfl (by decide) (fun σ8 w8 M8 s8 => ?_)
  have e8 : σ8 0 = T := (s8 0 (by decide)).trans e7
  refine mm_AR M8 e8 rfl 12 (by decide) rfl (by decide) (fun σ9 w9 M9 s9 => ?_)
  have e9 : σ9 0 = T := (s9 0 (by decide)).trans e8
  refine mm_pfI M9 e9 rfl (fun w10 M10 => ?_)
  refine mm_AR M10 e9 rfl 22 (by decide) rfl (by decide) (fun σ11 w11 M11 s11 => ?_)
  have e11 : σ11 0 = T := (s11 0 (by decide)).trans e9
  refine mm_AR M11 e11 rfl 24 (by decide) rfl (by decide) (fun σ12 w12 M12 s12 => ?_)
  have e12 : σ12 0 = T := (s12 0 (by decide)).trans e11
  refine mm_AR M12 e12 rfl 25 (by decide) rfl (by decide) (fun σ13 w13 M13 s13 => ?_)
  have e13 : σ13 0 = T := (s13 0 (by decide)).trans e12
  refine mm_AR M13 e13 rfl 27 (by decide) rfl (by decide) (fun σ14 w14 M14 s14 => ?_)
  have e14 : σ14 0 = T := (s14 0 (by decide)).trans e13
  refine mm_AR M14 e14 rfl 28 (by decide) rfl (by decide) (fun σ15 w15 M15 s15 => ?_)
  have e15 : σ15 0 = T := (s15 0 (by decide)).trans e14
  refine mm_A M15 31 (by decide) rfl (by decide) (fun σ16 w16 M16 s16 => ?_)
  have e16 : σ16 0 = T := (s16 0 (by decide)).trans e15
  refine mm_asI (t := 1) (m := 9) M16 0 rfl rfl (by decide) (fun w17 M17 => ?_)
  refine mm_asI (t := 1) (m := 9) M17 1 rfl rfl (by decide) (fun w18 M18 => ?_)
  refine mm_asI (t := 1) (m := 9) M18 2 rfl rfl (by decide) (fun w19 M19 => ?_)
  refine mm_asI (t := 1) (m := 9) M19 3 rfl rfl (by decide) (fun w20 M20 => ?_)
  refine mm_asI (t := 1) (m := 9) M20 4 rfl rfl (by decide) (fun w21 M21 => ?_)
  refine mm_asI (t := 1) (m := 9) M21 5 rfl rfl (by decide) (fun w22 M22 => ?_)
  refine mm_asI (t := 1) (m := 9) M22 6 rfl rfl (by decide) (fun w23 M23 => ?_)
  refine mm_asI (t := 1) (m := 9) M23 7 rfl rfl (by decide) (fun w24 M24 => ?_)
  refine mm_asI (t := 1) (m := 9) M24 8 rfl rfl (by decide) (fun w25 M25 => ?_)
  refine mm_pfR M25 e16 rfl (kd_ne rfl) (fun w26 M26 => ?_)
  refine mm_A M26 32 (by decide) rfl (by decide) (fun σ27 w27 M27 s27 => ?_)
  have e27 : σ27 0 = T := (s27 0 (by decide)).trans e16
  refine mm_asI (t := 1) (m := 6) M27 0 rfl rfl (by decide) (fun w28 M28 => ?_)
  refine mm_asI (t := 1) (m := 6) M28 1 rfl rfl (by decide) (fun w29 M29 => ?_)
  refine mm_asI (t := 1) (m := 6) M29 2 rfl rfl (by decide) (fun w30 M30 => ?_)
  refine mm_asI (t := 1) (m := 6) M30 3 rfl rfl (by decide) (fun w31 M31 => ?_)
  refine mm_asI (t := 1) (m := 6) M31 4 rfl rfl (by decide) (fun w32 M32 => ?_)
  refine mm_asI (t := 1) (m := 6) M32 5 rfl rfl (by decide) (fun w33 M33 => ?_)
  refine mm_pfR M33 e27 rfl (kd_ne rfl) (fun w34 M34 => ?_)
  refine mm_A M34 33 (by decide) rfl (by decide) (fun σ35 w35 M35 s35 => ?_)
  have e35 : σ35 0 = T := (s35 0 (by decide)).trans e27
  refine mm_asI (t := 1) (m := 4) M35 0 rfl rfl (by decide) (fun w36 M36 => ?_)
  refine mm_asI (t := 1) (m := 4) M36 1 rfl rfl (by decide) (fun w37 M37 => ?_)
  refine mm_asI (t := 1) (m := 4) M37 2 rfl rfl (by decide) (fun w38 M38 => ?_)
  refine mm_asI (t := 1) (m := 4) M38 3 rfl rfl (by decide) (fun w39 M39 => ?_)
  refine mm_pfR M39 e35 rfl (kd_ne rfl) (fun w40 M40 => ?_)
  refine mm_AR M40 e35 rfl 35 (by decide) rfl (by decide) (fun σ41 w41 M41 s41 => ?_)
  have e41 : σ41 0 = T := (s41 0 (by decide)).trans e35
  refine mm_AR M41 e41 rfl 36 (by decide) rfl (by decide) (fun σ42 w42 M42 s42 => ?_)
  have e42 : σ42 0 = T := (s42 0 (by decide)).trans e41
  refine mm_AR M42 e42 rfl 37 (by decide) rfl (by decide) (fun σ43 w43 M43 s43 => ?_)
  have e43 : σ43 0 = T := (s43 0 (by decide)).trans e42
  refine mm_AR M43 e43 rfl 41 (by decide) rfl (by decide) (fun σ44 w44 M44 s44 => ?_)
  have e44 : σ44 0 = T := (s44 0 (by decide)).trans e43
  refine mm_AR M44 e44 rfl 42 (by decide) rfl (by decide) (fun σ45 w45 M45 s45 => ?_)
  have e45 : σ45 0 = T := (s45 0 (by decide)).trans e44
  refine mm_AR M45 e45 rfl 43 (by decide) rfl (by decide) (fun σ46 w46 M46 s46 => ?_)
  have e46 : σ46 0 = T := (s46 0 (by decide)).trans e45
  refine mm_AR M46 e46 rfl 44 (by decide) rfl (by decide) (fun σ47 w47 M47 s47 => ?_)
  have e47 : σ47 0 = T := (s47 0 (by decide)).trans e46
  refine mm_AR M47 e47 rfl 45 (by decide) rfl (by decide) (fun σ48 w48 M48 s48 => ?_)
  have e48 : σ48 0 = T := (s48 0 (by decide)).trans e47
  refine mm_AR M48 e48 rfl 46 (by decide) rfl (by decide) (fun σ49 w49 M49 s49 => ?_)
  have e49 : σ49 0 = T := (s49 0 (by decide)).trans e48
  refine mm_AR M49 e49 rfl 47 (by decide) rfl (by decide) (fun σ50 w50 M50 s50 => ?_)
  have e50 : σ50 0 = T := (s50 0 (by decide)).trans e49
  refine mm_AR M50 e50 rfl 48 (by decide) rfl (by decide) (fun σ51 w51 M51 s51 => ?_)
  have e51 : σ51 0 = T := (s51 0 (by decide)).trans e50
  refine mm_AR M51 e51 rfl 49 (by decide) rfl (by decide) (fun σ52 w52 M52 s52 => ?_)
  have e52 : σ52 0 = T := (s52 0 (by decide)).trans e51
  refine mm_AR M52 e52 rfl 50 (by decide) rfl (by decide) (fun σ53 w53 M53 s53 => ?_)
  have e53 : σ53 0 = T := (s53 0 (by decide)).trans e52
  refine mm_AR M53 e53 rfl 51 (by decide) rfl (by decide) (fun σ54 w54 M54 s54 => ?_)
  have e54 : σ54 0 = T := (s54 0 (by decide)).trans e53
  refine mm_A M54 52 (by decide) rfl (by decide) (fun σ55 w55 M55 s55 => ?_)
  have e55 : σ55 0 = T := (s55 0 (by decide)).trans e54
  refine mm_asI (t := 1) (m := 4) M55 0 rfl rfl (by decide) (fun w56 M56 => ?_)
  refine mm_asI (t := 1) (m := 4) M56 1 rfl rfl (by decide) (fun w57 M57 => ?_)
  refine mm_asI (t := 1) (m := 4) M57 2 rfl rfl (by decide) (fun w58 M58 => ?_)
  refine mm_asI (t := 1) (m := 4) M58 3 rfl rfl (by decide) (fun w59 M59 => ?_)
  refine mm_pfR M59 e55 rfl (kd_ne rfl) (fun w60 M60 => ?_)
  refine mm_A M60 53 (by decide) rfl (by decide) (fun σ61 w61 M61 s61 => ?_)
  have e61 : σ61 0 = T := (s61 0 (by decide)).trans e55
  refine mm_asI (t := 1) (m := 3) M61 0 rfl rfl (by decide) (fun w62 M62 => ?_)
  refine mm_asI (t := 1) (m := 3) M62 1 rfl rfl (by decide) (fun w63 M63 => ?_)
  refine mm_asI (t := 1) (m := 3) M63 2 rfl rfl (by decide) (fun w64 M64 => ?_)
  refine mm_pfR M64 e61 rfl (kd_ne rfl) (fun w65 M65 => ?_)
  refine mm_AR M65 e61 rfl 54 (by decide) rfl (by decide) (fun σ66 w66 M66 s66 => ?_)
  have e66 : σ66 0 = T := (s66 0 (by decide)).trans e61
  refine mm_pfI M66 e66 rfl (fun w67 M67 => ?_)
  refine mm_AR M67 e66 rfl 60 (by decide) rfl (by decide) (fun σ68 w68 M68 s68 => ?_)
  have e68 : σ68 0 = T := (s68 0 (by decide)).trans e66
  refine mm_pfI M68 e68 rfl (fun w69 M69 => ?_)
  refine mm_gfA M69 e68 rfl (a := 3) rfl (mm_asI (t := 0) (m := 5516) M69 4 rfl rfl (by decide) (fun w70 M70 => ?_))
  refine mm_gfA M70 e68 rfl (a := 3) rfl (mm_asI (t := 0) (m := 5516) M70 6 rfl rfl (by decide) (fun w71 M71 => ?_))
  refine h σ68 _ M71 e68 ?_
  exact (s68 100 (by decide)).trans ((s66 100 (by decide)).trans ((s61 100 (by decide)).trans ((s55 100 (by decide)).trans ((s54 100 (by decide)).trans ((s53 100 (by decide)).trans ((s52 100 (by decide)).trans ((s51 100 (by decide)).trans ((s50 100 (by decide)).trans ((s49 100 (by decide)).trans ((s48 100 (by decide)).trans ((s47 100 (by decide)).trans ((s46 100 (by decide)).trans ((s45 100 (by decide)).trans ((s44 100 (by decide)).trans ((s43 100 (by decide)).trans ((s42 100 (by decide)).trans ((s41 100 (by decide)).trans ((s35 100 (by decide)).trans ((s27 100 (by decide)).trans ((s16 100 (by decide)).trans ((s15 100 (by decide)).trans ((s14 100 (by decide)).trans ((s13 100 (by decide)).trans ((s12 100 (by decide)).trans ((s11 100 (by decide)).trans ((s9 100 (by decide)).trans ((s8 100 (by decide)).trans ((s7 100 (by decide)).trans ((s6 100 (by decide)).trans ((s5 100 (by decide)).trans ((s4 100 (by decide)).trans ((s3 100 (by decide)).trans ((s2 100 (by decide)).trans ((s1 100 (by decide))))))))))))))))))))))))))))))))))))
end CTORS
