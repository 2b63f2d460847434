/-! numbers -/
theorem bi_10 : (Int8.ofInt 10).toInt32 = Int32.ofInt 10 := by decide +kernel
theorem bi_100 : (Int8.ofInt 100).toInt32 = Int32.ofInt 100 := by decide +kernel
theorem bi_116 : (Int8.ofInt 116).toInt32 = Int32.ofInt 116 := by decide +kernel
theorem bi_12 : (Int8.ofInt 12).toInt32 = Int32.ofInt 12 := by decide +kernel
theorem bi_120 : (Int8.ofInt 120).toInt32 = Int32.ofInt 120 := by decide +kernel
theorem bi_122 : (Int8.ofInt 122).toInt32 = Int32.ofInt 122 := by decide +kernel
theorem bi_13 : (Int8.ofInt 13).toInt32 = Int32.ofInt 13 := by decide +kernel
theorem bi_14 : (Int8.ofInt 14).toInt32 = Int32.ofInt 14 := by decide +kernel
theorem bi_15 : (Int8.ofInt 15).toInt32 = Int32.ofInt 15 := by decide +kernel
theorem bi_16 : (Int8.ofInt 16).toInt32 = Int32.ofInt 16 := by decide +kernel
theorem bi_17 : (Int8.ofInt 17).toInt32 = Int32.ofInt 17 := by decide +kernel
theorem bi_18 : (Int8.ofInt 18).toInt32 = Int32.ofInt 18 := by decide +kernel
theorem bi_20 : (Int8.ofInt 20).toInt32 = Int32.ofInt 20 := by decide +kernel
theorem bi_21 : (Int8.ofInt 21).toInt32 = Int32.ofInt 21 := by decide +kernel
theorem bi_22 : (Int8.ofInt 22).toInt32 = Int32.ofInt 22 := by decide +kernel
theorem bi_23 : (Int8.ofInt 23).toInt32 = Int32.ofInt 23 := by decide +kernel
theorem bi_24 : (Int8.ofInt 24).toInt32 = Int32.ofInt 24 := by decide +kernel
theorem bi_25 : (Int8.ofInt 25).toInt32 = Int32.ofInt 25 := by decide +kernel
theorem bi_26 : (Int8.ofInt 26).toInt32 = Int32.ofInt 26 := by decide +kernel
theorem bi_27 : (Int8.ofInt 27).toInt32 = Int32.ofInt 27 := by decide +kernel
theorem bi_28 : (Int8.ofInt 28).toInt32 = Int32.ofInt 28 := by decide +kernel
theorem bi_29 : (Int8.ofInt 29).toInt32 = Int32.ofInt 29 := by decide +kernel
theorem bi_30 : (Int8.ofInt 30).toInt32 = Int32.ofInt 30 := by decide +kernel
theorem bi_31 : (Int8.ofInt 31).toInt32 = Int32.ofInt 31 := by decide +kernel
theorem bi_32 : (Int8.ofInt 32).toInt32 = Int32.ofInt 32 := by decide +kernel
theorem bi_36 : (Int8.ofInt 36).toInt32 = Int32.ofInt 36 := by decide +kernel
theorem bi_37 : (Int8.ofInt 37).toInt32 = Int32.ofInt 37 := by decide +kernel
theorem bi_40 : (Int8.ofInt 40).toInt32 = Int32.ofInt 40 := by decide +kernel
theorem bi_41 : (Int8.ofInt 41).toInt32 = Int32.ofInt 41 := by decide +kernel
theorem bi_42 : (Int8.ofInt 42).toInt32 = Int32.ofInt 42 := by decide +kernel
theorem bi_43 : (Int8.ofInt 43).toInt32 = Int32.ofInt 43 := by decide +kernel
theorem bi_45 : (Int8.ofInt 45).toInt32 = Int32.ofInt 45 := by decide +kernel
theorem bi_47 : (Int8.ofInt 47).toInt32 = Int32.ofInt 47 := by decide +kernel
theorem bi_48 : (Int8.ofInt 48).toInt32 = Int32.ofInt 48 := by decide +kernel
theorem bi_50 : (Int8.ofInt 50).toInt32 = Int32.ofInt 50 := by decide +kernel
theorem bi_56 : (Int8.ofInt 56).toInt32 = Int32.ofInt 56 := by decide +kernel
theorem bi_57 : (Int8.ofInt 57).toInt32 = Int32.ofInt 57 := by decide +kernel
theorem bi_59 : (Int8.ofInt 59).toInt32 = Int32.ofInt 59 := by decide +kernel
theorem bi_6 : (Int8.ofInt 6).toInt32 = Int32.ofInt 6 := by decide +kernel
theorem bi_60 : (Int8.ofInt 60).toInt32 = Int32.ofInt 60 := by decide +kernel
theorem bi_61 : (Int8.ofInt 61).toInt32 = Int32.ofInt 61 := by decide +kernel
theorem bi_62 : (Int8.ofInt 62).toInt32 = Int32.ofInt 62 := by decide +kernel
theorem bi_63 : (Int8.ofInt 63).toInt32 = Int32.ofInt 63 := by decide +kernel
theorem bi_64 : (Int8.ofInt 64).toInt32 = Int32.ofInt 64 := by decide +kernel
theorem bi_68 : (Int8.ofInt 68).toInt32 = Int32.ofInt 68 := by decide +kernel
theorem bi_7 : (Int8.ofInt 7).toInt32 = Int32.ofInt 7 := by decide +kernel
theorem bi_74 : (Int8.ofInt 74).toInt32 = Int32.ofInt 74 := by decide +kernel
theorem bi_75 : (Int8.ofInt 75).toInt32 = Int32.ofInt 75 := by decide +kernel
theorem bi_8 : (Int8.ofInt 8).toInt32 = Int32.ofInt 8 := by decide +kernel
theorem bi_80 : (Int8.ofInt 80).toInt32 = Int32.ofInt 80 := by decide +kernel
theorem bi_86 : (Int8.ofInt 86).toInt32 = Int32.ofInt 86 := by decide +kernel
theorem bi_9 : (Int8.ofInt 9).toInt32 = Int32.ofInt 9 := by decide +kernel
theorem bi_91 : (Int8.ofInt 91).toInt32 = Int32.ofInt 91 := by decide +kernel
theorem bi_92 : (Int8.ofInt 92).toInt32 = Int32.ofInt 92 := by decide +kernel
theorem bi_93 : (Int8.ofInt 93).toInt32 = Int32.ofInt 93 := by decide +kernel
theorem bi_96 : (Int8.ofInt 96).toInt32 = Int32.ofInt 96 := by decide +kernel
theorem bi_97 : (Int8.ofInt 97).toInt32 = Int32.ofInt 97 := by decide +kernel
theorem bi_98 : (Int8.ofInt 98).toInt32 = Int32.ofInt 98 := by decide +kernel
theorem bi_99 : (Int8.ofInt 99).toInt32 = Int32.ofInt 99 := by decide +kernel
theorem bi_m2 : (Int8.ofInt (-2)).toInt32 = Int32.ofInt (-2) := by decide +kernel
theorem bi_m3 : (Int8.ofInt (-3)).toInt32 = Int32.ofInt (-3) := by decide +kernel
theorem bi_m5 : (Int8.ofInt (-5)).toInt32 = Int32.ofInt (-5) := by decide +kernel
theorem bi_m6 : (Int8.ofInt (-6)).toInt32 = Int32.ofInt (-6) := by decide +kernel
theorem l2_10 : (10 : Int64) = Int64.ofInt 10 := by decide +kernel
theorem l2_1000 : (1000 : Int64) = Int64.ofInt 1000 := by decide +kernel
theorem l2_1000000 : (1000000 : Int64) = Int64.ofInt 1000000 := by decide +kernel
theorem l2_1000000000 : (1000000000 : Int64) = Int64.ofInt 1000000000 := by decide +kernel
theorem l2_1000000000000 : (1000000000000 : Int64) = Int64.ofInt 1000000000000 := by decide +kernel
theorem l2_1000003 : (1000003 : Int64) = Int64.ofInt 1000003 := by decide +kernel
theorem l2_1103 : (1103 : Int64) = Int64.ofInt 1103 := by decide +kernel
theorem l2_12345 : (12345 : Int64) = Int64.ofInt 12345 := by decide +kernel
theorem l2_12635795 : (12635795 : Int64) = Int64.ofInt 12635795 := by decide +kernel
theorem l2_12889267 : (12889267 : Int64) = Int64.ofInt 12889267 := by decide +kernel
theorem l2_13 : (13 : Int64) = Int64.ofInt 13 := by decide +kernel
theorem l2_13094067 : (13094067 : Int64) = Int64.ofInt 13094067 := by decide +kernel
theorem l2_14 : (14 : Int64) = Int64.ofInt 14 := by decide +kernel
theorem l2_146885 : (146885 : Int64) = Int64.ofInt 146885 := by decide +kernel
theorem l2_1476 : (1476 : Int64) = Int64.ofInt 1476 := by decide +kernel
theorem l2_14836 : (14836 : Int64) = Int64.ofInt 14836 := by decide +kernel
theorem l2_15 : (15 : Int64) = Int64.ofInt 15 := by decide +kernel
theorem l2_15192243 : (15192243 : Int64) = Int64.ofInt 15192243 := by decide +kernel
theorem l2_2 : (2 : Int64) = Int64.ofInt 2 := by decide +kernel
theorem l2_20 : (20 : Int64) = Int64.ofInt 20 := by decide +kernel
theorem l2_21279923 : (21279923 : Int64) = Int64.ofInt 21279923 := by decide +kernel
theorem l2_23716 : (23716 : Int64) = Int64.ofInt 23716 := by decide +kernel
theorem l2_24 : (24 : Int64) = Int64.ofInt 24 := by decide +kernel
theorem l2_24165011 : (24165011 : Int64) = Int64.ofInt 24165011 := by decide +kernel
theorem l2_25 : (25 : Int64) = Int64.ofInt 25 := by decide +kernel
theorem l2_255 : (255 : Int64) = Int64.ofInt 255 := by decide +kernel
theorem l2_2552 : (2552 : Int64) = Int64.ofInt 2552 := by decide +kernel
theorem l2_27 : (27 : Int64) = Int64.ofInt 27 := by decide +kernel
theorem l2_294 : (294 : Int64) = Int64.ofInt 294 := by decide +kernel
theorem l2_3 : (3 : Int64) = Int64.ofInt 3 := by decide +kernel
theorem l2_32 : (32 : Int64) = Int64.ofInt 32 := by decide +kernel
theorem l2_3747098803 : (3747098803 : Int64) = Int64.ofInt 3747098803 := by decide +kernel
theorem l2_398548 : (398548 : Int64) = Int64.ofInt 398548 := by decide +kernel
theorem l2_404362868 : (404362868 : Int64) = Int64.ofInt 404362868 := by decide +kernel
theorem l2_441828 : (441828 : Int64) = Int64.ofInt 441828 := by decide +kernel
theorem l2_48 : (48 : Int64) = Int64.ofInt 48 := by decide +kernel
theorem l2_486 : (486 : Int64) = Int64.ofInt 486 := by decide +kernel
theorem l2_498 : (498 : Int64) = Int64.ofInt 498 := by decide +kernel
theorem l2_5 : (5 : Int64) = Int64.ofInt 5 := by decide +kernel
theorem l2_5170 : (5170 : Int64) = Int64.ofInt 5170 := by decide +kernel
theorem l2_52 : (52 : Int64) = Int64.ofInt 52 := by decide +kernel
theorem l2_525939 : (525939 : Int64) = Int64.ofInt 525939 := by decide +kernel
theorem l2_546188 : (546188 : Int64) = Int64.ofInt 546188 := by decide +kernel
theorem l2_60 : (60 : Int64) = Int64.ofInt 60 := by decide +kernel
theorem l2_636976 : (636976 : Int64) = Int64.ofInt 636976 := by decide +kernel
theorem l2_654910919 : (654910919 : Int64) = Int64.ofInt 654910919 := by decide +kernel
theorem l2_655 : (655 : Int64) = Int64.ofInt 655 := by decide +kernel
theorem l2_659870194 : (659870194 : Int64) = Int64.ofInt 659870194 := by decide +kernel
theorem l2_67155 : (67155 : Int64) = Int64.ofInt 67155 := by decide +kernel
theorem l2_7 : (7 : Int64) = Int64.ofInt 7 := by decide +kernel
theorem l2_8 : (8 : Int64) = Int64.ofInt 8 := by decide +kernel
theorem l2_824370 : (824370 : Int64) = Int64.ofInt 824370 := by decide +kernel
theorem l2_86486190 : (86486190 : Int64) = Int64.ofInt 86486190 := by decide +kernel
theorem l2_9 : (9 : Int64) = Int64.ofInt 9 := by decide +kernel
theorem l2_96 : (96 : Int64) = Int64.ofInt 96 := by decide +kernel
theorem l2_999 : (999 : Int64) = Int64.ofInt 999 := by decide +kernel
theorem l2_m1 : (-1 : Int64) = Int64.ofInt (-1) := by decide +kernel
theorem l2_m1000000000 : (-1000000000 : Int64) = Int64.ofInt (-1000000000) := by decide +kernel
theorem l2_m4000000000 : (-4000000000 : Int64) = Int64.ofInt (-4000000000) := by decide +kernel
theorem lc_0 : Int64.ofNat ((0 : Fin 2) : Nat) = Int64.ofInt 0 := by decide +kernel
theorem lc_1 : Int64.ofNat ((1 : Fin 2) : Nat) = Int64.ofInt 1 := by decide +kernel
theorem ld_1000000 : (1000000 : Int32) = Int32.ofInt 1000000 := by decide +kernel
theorem ld_100000000 : (100000000 : Int32) = Int32.ofInt 100000000 := by decide +kernel
theorem ld_1431655765 : (1431655765 : Int32) = Int32.ofInt 1431655765 := by decide +kernel
theorem ld_2147483639 : (2147483639 : Int32) = Int32.ofInt 2147483639 := by decide +kernel
theorem ld_252645135 : (252645135 : Int32) = Int32.ofInt 252645135 := by decide +kernel
theorem ld_858993459 : (858993459 : Int32) = Int32.ofInt 858993459 := by decide +kernel
theorem ld_m100000000 : (-100000000 : Int32) = Int32.ofInt (-100000000) := by decide +kernel
theorem si_1000 : (Int16.ofInt 1000).toInt32 = Int32.ofInt 1000 := by decide +kernel
theorem si_11032 : (Int16.ofInt 11032).toInt32 = Int32.ofInt 11032 := by decide +kernel
theorem si_1125 : (Int16.ofInt 1125).toInt32 = Int32.ofInt 1125 := by decide +kernel
theorem si_1200 : (Int16.ofInt 1200).toInt32 = Int32.ofInt 1200 := by decide +kernel
theorem si_1350 : (Int16.ofInt 1350).toInt32 = Int32.ofInt 1350 := by decide +kernel
theorem si_2048 : (Int16.ofInt 2048).toInt32 = Int32.ofInt 2048 := by decide +kernel
theorem si_255 : (Int16.ofInt 255).toInt32 = Int32.ofInt 255 := by decide +kernel
theorem si_256 : (Int16.ofInt 256).toInt32 = Int32.ofInt 256 := by decide +kernel
theorem si_400 : (Int16.ofInt 400).toInt32 = Int32.ofInt 400 := by decide +kernel
theorem si_448 : (Int16.ofInt 448).toInt32 = Int32.ofInt 448 := by decide +kernel
theorem si_5516 : (Int16.ofInt 5516).toInt32 = Int32.ofInt 5516 := by decide +kernel
theorem si_900 : (Int16.ofInt 900).toInt32 = Int32.ofInt 900 := by decide +kernel
theorem si_999 : (Int16.ofInt 999).toInt32 = Int32.ofInt 999 := by decide +kernel
