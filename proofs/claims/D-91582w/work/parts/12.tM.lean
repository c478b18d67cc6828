set_option maxRecDepth 100000
theorem kb_10 : (Int8.ofInt 10).toInt32 = (10 : Int32) := by decide
theorem kb_11 : (Int8.ofInt 11).toInt32 = (11 : Int32) := by decide
theorem kb_12 : (Int8.ofInt 12).toInt32 = (12 : Int32) := by decide
theorem kb_120 : (Int8.ofInt 120).toInt32 = (120 : Int32) := by decide
theorem kb_122 : (Int8.ofInt 122).toInt32 = (122 : Int32) := by decide
theorem kb_13 : (Int8.ofInt 13).toInt32 = (13 : Int32) := by decide
theorem kb_14 : (Int8.ofInt 14).toInt32 = (14 : Int32) := by decide
theorem kb_15 : (Int8.ofInt 15).toInt32 = (15 : Int32) := by decide
theorem kb_16 : (Int8.ofInt 16).toInt32 = (16 : Int32) := by decide
theorem kb_17 : (Int8.ofInt 17).toInt32 = (17 : Int32) := by decide
theorem kb_20 : (Int8.ofInt 20).toInt32 = (20 : Int32) := by decide
theorem kb_21 : (Int8.ofInt 21).toInt32 = (21 : Int32) := by decide
theorem kb_22 : (Int8.ofInt 22).toInt32 = (22 : Int32) := by decide
theorem kb_23 : (Int8.ofInt 23).toInt32 = (23 : Int32) := by decide
theorem kb_24 : (Int8.ofInt 24).toInt32 = (24 : Int32) := by decide
theorem kb_25 : (Int8.ofInt 25).toInt32 = (25 : Int32) := by decide
theorem kb_26 : (Int8.ofInt 26).toInt32 = (26 : Int32) := by decide
theorem kb_27 : (Int8.ofInt 27).toInt32 = (27 : Int32) := by decide
theorem kb_28 : (Int8.ofInt 28).toInt32 = (28 : Int32) := by decide
theorem kb_29 : (Int8.ofInt 29).toInt32 = (29 : Int32) := by decide
theorem kb_30 : (Int8.ofInt 30).toInt32 = (30 : Int32) := by decide
theorem kb_31 : (Int8.ofInt 31).toInt32 = (31 : Int32) := by decide
theorem kb_32 : (Int8.ofInt 32).toInt32 = (32 : Int32) := by decide
theorem kb_40 : (Int8.ofInt 40).toInt32 = (40 : Int32) := by decide
theorem kb_41 : (Int8.ofInt 41).toInt32 = (41 : Int32) := by decide
theorem kb_42 : (Int8.ofInt 42).toInt32 = (42 : Int32) := by decide
theorem kb_43 : (Int8.ofInt 43).toInt32 = (43 : Int32) := by decide
theorem kb_45 : (Int8.ofInt 45).toInt32 = (45 : Int32) := by decide
theorem kb_47 : (Int8.ofInt 47).toInt32 = (47 : Int32) := by decide
theorem kb_48 : (Int8.ofInt 48).toInt32 = (48 : Int32) := by decide
theorem kb_50 : (Int8.ofInt 50).toInt32 = (50 : Int32) := by decide
theorem kb_57 : (Int8.ofInt 57).toInt32 = (57 : Int32) := by decide
theorem kb_59 : (Int8.ofInt 59).toInt32 = (59 : Int32) := by decide
theorem kb_6 : (Int8.ofInt 6).toInt32 = (6 : Int32) := by decide
theorem kb_60 : (Int8.ofInt 60).toInt32 = (60 : Int32) := by decide
theorem kb_61 : (Int8.ofInt 61).toInt32 = (61 : Int32) := by decide
theorem kb_62 : (Int8.ofInt 62).toInt32 = (62 : Int32) := by decide
theorem kb_68 : (Int8.ofInt 68).toInt32 = (68 : Int32) := by decide
theorem kb_7 : (Int8.ofInt 7).toInt32 = (7 : Int32) := by decide
theorem kb_8 : (Int8.ofInt 8).toInt32 = (8 : Int32) := by decide
theorem kb_9 : (Int8.ofInt 9).toInt32 = (9 : Int32) := by decide
theorem kb_91 : (Int8.ofInt 91).toInt32 = (91 : Int32) := by decide
theorem kb_93 : (Int8.ofInt 93).toInt32 = (93 : Int32) := by decide
theorem kb_97 : (Int8.ofInt 97).toInt32 = (97 : Int32) := by decide
theorem kb_98 : (Int8.ofInt 98).toInt32 = (98 : Int32) := by decide
theorem kb_m2 : (Int8.ofInt (-2)).toInt32 = (-2 : Int32) := by decide
theorem kb_m3 : (Int8.ofInt (-3)).toInt32 = (-3 : Int32) := by decide
theorem kb_m4 : (Int8.ofInt (-4)).toInt32 = (-4 : Int32) := by decide
theorem kb_m5 : (Int8.ofInt (-5)).toInt32 = (-5 : Int32) := by decide
theorem kb_m6 : (Int8.ofInt (-6)).toInt32 = (-6 : Int32) := by decide
theorem kc_0 : Int32.ofInt 0 = (0 : Int32) := by decide
theorem kc_1 : Int32.ofInt 1 = (1 : Int32) := by decide
theorem kc_2 : Int32.ofInt 2 = (2 : Int32) := by decide
theorem kc_3 : Int32.ofInt 3 = (3 : Int32) := by decide
theorem kc_4 : Int32.ofInt 4 = (4 : Int32) := by decide
theorem kc_5 : Int32.ofInt 5 = (5 : Int32) := by decide
theorem kc_m1 : Int32.ofInt (-1) = (-1 : Int32) := by decide
theorem kc_m8 : Int32.ofInt (-8) = (-8 : Int32) := by decide
theorem kl_0 : Int64.ofNat ((0 : Fin 2) : Nat) = (0 : Int64) := by decide
theorem kl_1 : Int64.ofNat ((1 : Fin 2) : Nat) = (1 : Int64) := by decide
theorem ks_1000 : (Int16.ofInt 1000).toInt32 = (1000 : Int32) := by decide
theorem ks_200 : (Int16.ofInt 200).toInt32 = (200 : Int32) := by decide
theorem ks_2268 : (Int16.ofInt 2268).toInt32 = (2268 : Int32) := by decide
theorem ks_23016 : (Int16.ofInt 23016).toInt32 = (23016 : Int32) := by decide
theorem ks_2348 : (Int16.ofInt 2348).toInt32 = (2348 : Int32) := by decide
theorem ks_2368 : (Int16.ofInt 2368).toInt32 = (2368 : Int32) := by decide
theorem ks_240 : (Int16.ofInt 240).toInt32 = (240 : Int32) := by decide
theorem ks_2448 : (Int16.ofInt 2448).toInt32 = (2448 : Int32) := by decide
theorem ks_2528 : (Int16.ofInt 2528).toInt32 = (2528 : Int32) := by decide
theorem ks_255 : (Int16.ofInt 255).toInt32 = (255 : Int32) := by decide
theorem ks_3528 : (Int16.ofInt 3528).toInt32 = (3528 : Int32) := by decide
theorem ks_399 : (Int16.ofInt 399).toInt32 = (399 : Int32) := by decide
theorem ks_400 : (Int16.ofInt 400).toInt32 = (400 : Int32) := by decide
theorem ks_4008 : (Int16.ofInt 4008).toInt32 = (4008 : Int32) := by decide
theorem ks_5008 : (Int16.ofInt 5008).toInt32 = (5008 : Int32) := by decide
theorem ks_5056 : (Int16.ofInt 5056).toInt32 = (5056 : Int32) := by decide
theorem ks_898 : (Int16.ofInt 898).toInt32 = (898 : Int32) := by decide
theorem clX7 : CL 8 RX7 TX7 62 := ⟨rfl, in_X7, tyX7_ok, nmX7⟩
theorem fX7_7 : FL RX7 7 8 2 (.array .int) := FL.mk (k := 2) clX7 (by decide) rfl q1772 rfl
theorem fX7_14 : FL RX7 14 8 3 (.array .int) := FL.mk (k := 3) clX7 (by decide) rfl q1773 rfl
theorem fX7_17 : FL RX7 17 8 4 (.array .boolean) := FL.mk (k := 4) clX7 (by decide) rfl q1774 rfl
theorem fX7_21 : FL RX7 21 8 7 (.array .boolean) := FL.mk (k := 7) clX7 (by decide) rfl q1777 rfl
theorem fX7_24 : FL RX7 24 8 8 (.array .int) := FL.mk (k := 8) clX7 (by decide) rfl q1778 rfl
theorem fX7_27 : FL RX7 27 8 9 (.array .int) := FL.mk (k := 9) clX7 (by decide) rfl q1779 rfl
theorem fX7_30 : FL RX7 30 8 15 (.int) := FL.mk (k := 15) clX7 (by decide) rfl q1785 rfl
theorem fwX7_30 : FLw RX7 30 8 15 (.int) := ⟨fX7_30, RX7, TX7, 62, rfl, rfl⟩
theorem fX7_34 : FL RX7 34 8 18 (.array .int) := FL.mk (k := 18) clX7 (by decide) rfl q1788 rfl
theorem fX7_37 : FL RX7 37 8 20 (.array .int) := FL.mk (k := 20) clX7 (by decide) rfl q1790 rfl
theorem fX7_40 : FL RX7 40 8 21 (.array .int) := FL.mk (k := 21) clX7 (by decide) rfl q1791 rfl
theorem fX7_43 : FL RX7 43 8 23 (.array .int) := FL.mk (k := 23) clX7 (by decide) rfl q1793 rfl
theorem fX7_46 : FL RX7 46 8 24 (.array .int) := FL.mk (k := 24) clX7 (by decide) rfl q1794 rfl
theorem fX7_49 : FL RX7 49 8 27 (.array .boolean) := FL.mk (k := 27) clX7 (by decide) rfl q1797 rfl
theorem fX7_52 : FL RX7 52 8 28 (.array .boolean) := FL.mk (k := 28) clX7 (by decide) rfl q1798 rfl
theorem fX7_55 : FL RX7 55 8 29 (.array .long) := FL.mk (k := 29) clX7 (by decide) rfl q1799 rfl
theorem fX7_59 : FL RX7 59 8 30 (.array .long) := FL.mk (k := 30) clX7 (by decide) rfl q1800 rfl
theorem fX7_62 : FL RX7 62 8 35 (.array .int) := FL.mk (k := 35) clX7 (by decide) rfl q1805 rfl
theorem fX7_65 : FL RX7 65 8 36 (.array .int) := FL.mk (k := 36) clX7 (by decide) rfl q1806 rfl
theorem fX7_68 : FL RX7 68 8 37 (.array .int) := FL.mk (k := 37) clX7 (by decide) rfl q1807 rfl
theorem fX7_71 : FL RX7 71 8 38 (.array .int) := FL.mk (k := 38) clX7 (by decide) rfl q1808 rfl
theorem fX7_74 : FL RX7 74 8 39 (.array .int) := FL.mk (k := 39) clX7 (by decide) rfl q1809 rfl
theorem fX7_77 : FL RX7 77 8 40 (.array .int) := FL.mk (k := 40) clX7 (by decide) rfl q1810 rfl
theorem fX7_80 : FL RX7 80 8 41 (.array .int) := FL.mk (k := 41) clX7 (by decide) rfl q1811 rfl
theorem fX7_83 : FL RX7 83 8 42 (.array .int) := FL.mk (k := 42) clX7 (by decide) rfl q1812 rfl
theorem fX7_86 : FL RX7 86 8 46 (.array .int) := FL.mk (k := 46) clX7 (by decide) rfl q1816 rfl
theorem fX7_89 : FL RX7 89 8 47 (.array .boolean) := FL.mk (k := 47) clX7 (by decide) rfl q1817 rfl
theorem fX7_92 : FL RX7 92 8 48 (.array .int) := FL.mk (k := 48) clX7 (by decide) rfl q1818 rfl
theorem fX7_95 : FL RX7 95 8 49 (.array .int) := FL.mk (k := 49) clX7 (by decide) rfl q1819 rfl
theorem fX7_98 : FL RX7 98 8 52 (.array .int) := FL.mk (k := 52) clX7 (by decide) rfl q1822 rfl
theorem fX7_101 : FL RX7 101 8 55 (.array .int) := FL.mk (k := 55) clX7 (by decide) rfl q1825 rfl
theorem fX7_104 : FL RX7 104 8 56 (.array .int) := FL.mk (k := 56) clX7 (by decide) rfl q1826 rfl
theorem fX7_107 : FL RX7 107 8 57 (.array .int) := FL.mk (k := 57) clX7 (by decide) rfl q1827 rfl
theorem fX7_110 : FL RX7 110 8 58 (.array .int) := FL.mk (k := 58) clX7 (by decide) rfl q1828 rfl
theorem fX7_113 : FL RX7 113 8 0 (.int) := FL.mk (k := 0) clX7 (by decide) rfl q1770 rfl
theorem fwX7_113 : FLw RX7 113 8 0 (.int) := ⟨fX7_113, RX7, TX7, 62, rfl, rfl⟩
theorem fX7_116 : FL RX7 116 8 1 (.int) := FL.mk (k := 1) clX7 (by decide) rfl q1771 rfl
theorem fwX7_116 : FLw RX7 116 8 1 (.int) := ⟨fX7_116, RX7, TX7, 62, rfl, rfl⟩
theorem fX7_169 : FL RX7 169 8 10 (.int) := FL.mk (k := 10) clX7 (by decide) rfl q1780 rfl
theorem fwX7_169 : FLw RX7 169 8 10 (.int) := ⟨fX7_169, RX7, TX7, 62, rfl, rfl⟩
theorem fX7_185 : FL RX7 185 8 6 (.int) := FL.mk (k := 6) clX7 (by decide) rfl q1776 rfl
theorem fwX7_185 : FLw RX7 185 8 6 (.int) := ⟨fX7_185, RX7, TX7, 62, rfl, rfl⟩
theorem fX7_188 : FL RX7 188 8 5 (.int) := FL.mk (k := 5) clX7 (by decide) rfl q1775 rfl
theorem fwX7_188 : FLw RX7 188 8 5 (.int) := ⟨fX7_188, RX7, TX7, 62, rfl, rfl⟩
theorem fX7_223 : FL RX7 223 8 12 (.int) := FL.mk (k := 12) clX7 (by decide) rfl q1782 rfl
theorem fwX7_223 : FLw RX7 223 8 12 (.int) := ⟨fX7_223, RX7, TX7, 62, rfl, rfl⟩
theorem fX7_226 : FL RX7 226 8 16 (.boolean) := FL.mk (k := 16) clX7 (by decide) rfl q1786 rfl
theorem fwX7_226 : FLw RX7 226 8 16 (.boolean) := ⟨fX7_226, RX7, TX7, 62, rfl, rfl⟩
theorem fX7_233 : FL RX7 233 8 11 (.int) := FL.mk (k := 11) clX7 (by decide) rfl q1781 rfl
theorem fwX7_233 : FLw RX7 233 8 11 (.int) := ⟨fX7_233, RX7, TX7, 62, rfl, rfl⟩
theorem fX7_236 : FL RX7 236 8 14 (.long) := FL.mk (k := 14) clX7 (by decide) rfl q1784 rfl
theorem fwX7_236 : FLw RX7 236 8 14 (.long) := ⟨fX7_236, RX7, TX7, 62, rfl, rfl⟩
theorem fX7_246 : FL RX7 246 8 13 (.int) := FL.mk (k := 13) clX7 (by decide) rfl q1783 rfl
theorem fwX7_246 : FLw RX7 246 8 13 (.int) := ⟨fX7_246, RX7, TX7, 62, rfl, rfl⟩
theorem fX7_265 : FL RX7 265 8 19 (.int) := FL.mk (k := 19) clX7 (by decide) rfl q1789 rfl
theorem fwX7_265 : FLw RX7 265 8 19 (.int) := ⟨fX7_265, RX7, TX7, 62, rfl, rfl⟩
theorem fX7_268 : FL RX7 268 8 25 (.int) := FL.mk (k := 25) clX7 (by decide) rfl q1795 rfl
theorem fwX7_268 : FLw RX7 268 8 25 (.int) := ⟨fX7_268, RX7, TX7, 62, rfl, rfl⟩
theorem fX7_321 : FL RX7 321 8 26 (.int) := FL.mk (k := 26) clX7 (by decide) rfl q1796 rfl
theorem fwX7_321 : FLw RX7 321 8 26 (.int) := ⟨fX7_321, RX7, TX7, 62, rfl, rfl⟩
theorem fX7_327 : FL RX7 327 8 22 (.int) := FL.mk (k := 22) clX7 (by decide) rfl q1792 rfl
theorem fwX7_327 : FLw RX7 327 8 22 (.int) := ⟨fX7_327, RX7, TX7, 62, rfl, rfl⟩
theorem fX7_397 : FL RX7 397 8 17 (.int) := FL.mk (k := 17) clX7 (by decide) rfl q1787 rfl
theorem fwX7_397 : FLw RX7 397 8 17 (.int) := ⟨fX7_397, RX7, TX7, 62, rfl, rfl⟩
theorem fX7_444 : FL RX7 444 8 31 (.boolean) := FL.mk (k := 31) clX7 (by decide) rfl q1801 rfl
theorem fwX7_444 : FLw RX7 444 8 31 (.boolean) := ⟨fX7_444, RX7, TX7, 62, rfl, rfl⟩
theorem fX7_455 : FL RX7 455 8 32 (.long) := FL.mk (k := 32) clX7 (by decide) rfl q1802 rfl
theorem fwX7_455 : FLw RX7 455 8 32 (.long) := ⟨fX7_455, RX7, TX7, 62, rfl, rfl⟩
theorem fX7_462 : FL RX7 462 8 33 (.long) := FL.mk (k := 33) clX7 (by decide) rfl q1803 rfl
theorem fwX7_462 : FLw RX7 462 8 33 (.long) := ⟨fX7_462, RX7, TX7, 62, rfl, rfl⟩
theorem fX7_471 : FL RX7 471 8 34 (.int) := FL.mk (k := 34) clX7 (by decide) rfl q1804 rfl
theorem fwX7_471 : FLw RX7 471 8 34 (.int) := ⟨fX7_471, RX7, TX7, 62, rfl, rfl⟩
theorem fX7_493 : FL RX7 493 8 43 (.boolean) := FL.mk (k := 43) clX7 (by decide) rfl q1813 rfl
theorem fwX7_493 : FLw RX7 493 8 43 (.boolean) := ⟨fX7_493, RX7, TX7, 62, rfl, rfl⟩
theorem fX7_496 : FL RX7 496 8 44 (.int) := FL.mk (k := 44) clX7 (by decide) rfl q1814 rfl
theorem fwX7_496 : FLw RX7 496 8 44 (.int) := ⟨fX7_496, RX7, TX7, 62, rfl, rfl⟩
theorem fX7_499 : FL RX7 499 8 45 (.int) := FL.mk (k := 45) clX7 (by decide) rfl q1815 rfl
theorem fwX7_499 : FLw RX7 499 8 45 (.int) := ⟨fX7_499, RX7, TX7, 62, rfl, rfl⟩
theorem fX7_538 : FL RX7 538 8 50 (.int) := FL.mk (k := 50) clX7 (by decide) rfl q1820 rfl
theorem fwX7_538 : FLw RX7 538 8 50 (.int) := ⟨fX7_538, RX7, TX7, 62, rfl, rfl⟩
theorem fX7_541 : FL RX7 541 8 51 (.int) := FL.mk (k := 51) clX7 (by decide) rfl q1821 rfl
theorem fwX7_541 : FLw RX7 541 8 51 (.int) := ⟨fX7_541, RX7, TX7, 62, rfl, rfl⟩
theorem fX7_561 : FL RX7 561 8 54 (.int) := FL.mk (k := 54) clX7 (by decide) rfl q1824 rfl
theorem fwX7_561 : FLw RX7 561 8 54 (.int) := ⟨fX7_561, RX7, TX7, 62, rfl, rfl⟩
theorem fX7_564 : FL RX7 564 8 53 (.boolean) := FL.mk (k := 53) clX7 (by decide) rfl q1823 rfl
theorem fwX7_564 : FLw RX7 564 8 53 (.boolean) := ⟨fX7_564, RX7, TX7, 62, rfl, rfl⟩
theorem fX7_587 : FL RX7 587 8 59 (.int) := FL.mk (k := 59) clX7 (by decide) rfl q1829 rfl
theorem fwX7_587 : FLw RX7 587 8 59 (.int) := ⟨fX7_587, RX7, TX7, 62, rfl, rfl⟩
theorem fX7_590 : FL RX7 590 8 60 (.long) := FL.mk (k := 60) clX7 (by decide) rfl q1830 rfl
theorem fwX7_590 : FLw RX7 590 8 60 (.long) := ⟨fX7_590, RX7, TX7, 62, rfl, rfl⟩
theorem fX7_593 : FL RX7 593 8 61 (.long) := FL.mk (k := 61) clX7 (by decide) rfl q1831 rfl
theorem fwX7_593 : FLw RX7 593 8 61 (.long) := ⟨fX7_593, RX7, TX7, 62, rfl, rfl⟩
theorem scX7_121 : SC RX7 121 yX7_in cX7_in 6 (some .boolean) 3 := ⟨q1961, q1962, q144, q1963, by decide, by decide, by decide, by decide +kernel⟩
theorem vcX7_125 : VCm RX7 125 8 yX7_told cX7_told 2 (some .int) 1 := ⟨⟨TX7, 62, rfl⟩, q1964, q1966, qs62, q144, q1967, by decide, by decide, by decide, by decide +kernel⟩
theorem scX7_133 : SC RX7 133 yX7_placeAt cX7_placeAt 1 (some .int) 1 := ⟨q1978, q1979, q144, q1980, by decide, by decide, by decide, by decide +kernel⟩
theorem scX7_144 : SC RX7 144 yX7_areLetters cX7_areLetters 3 (some .boolean) 1 := ⟨q1990, q1991, q144, q1992, by decide, by decide, by decide, by decide +kernel⟩
theorem scX7_148 : SC RX7 148 yX7_nameAt cX7_nameAt 1 (some .int) 1 := ⟨q2007, q2008, q144, q2009, by decide, by decide, by decide, by decide +kernel⟩
theorem vcX7_151 : VCm RX7 151 8 yX7_addFour cX7_addFour 6 none 5 := ⟨⟨TX7, 62, rfl⟩, q2010, q2012, qs65, q144, q2013, by decide, by decide, by decide, by decide +kernel⟩
theorem scX7_155 : SC RX7 155 yX7_isPerson cX7_isPerson 4 (some .boolean) 4 := ⟨q1985, q1986, q144, q1987, by decide, by decide, by decide, by decide +kernel⟩
theorem scX7_159 : SC RX7 159 yX7_isDay cX7_isDay 1 (some .boolean) 1 := ⟨q1995, q1996, q144, q1997, by decide, by decide, by decide, by decide +kernel⟩
theorem vcX7_162 : VCm RX7 162 8 yX7_isPlace cX7_isPlace 2 (some .boolean) 1 := ⟨⟨TX7, 62, rfl⟩, q1999, q2001, qs63, q144, q2002, by decide, by decide, by decide, by decide +kernel⟩
theorem vcX7_165 : VCm RX7 165 8 yX7_addName cX7_addName 8 none 6 := ⟨⟨TX7, 62, rfl⟩, q2003, q2005, qs64, q144, q2006, by decide, by decide, by decide, by decide +kernel⟩
theorem vcX7_172 : VCm RX7 172 8 yX7_isName cX7_isName 2 (some .boolean) 1 := ⟨⟨TX7, 62, rfl⟩, q2022, q2024, qs66, q144, q2025, by decide, by decide, by decide, by decide +kernel⟩
theorem vcX7_177 : VCm RX7 177 8 yX7_hasMoved cX7_hasMoved 5 (some .boolean) 3 := ⟨⟨TX7, 62, rfl⟩, q2043, q2045, qs68, q144, q2046, by decide, by decide, by decide, by decide +kernel⟩
theorem vcX7_181 : VCm RX7 181 8 yX7_whereOf cX7_whereOf 4 (some .int) 3 := ⟨⟨TX7, 62, rfl⟩, q2039, q2041, qs67, q144, q2042, by decide, by decide, by decide, by decide +kernel⟩
theorem vcX7_191 : VCm RX7 191 8 yX7_setName cX7_setName 3 none 1 := ⟨⟨TX7, 62, rfl⟩, q2065, q2067, qs71, q144, q2068, by decide, by decide, by decide, by decide +kernel⟩
theorem vcX7_195 : VCm RX7 195 8 yX7_find cX7_find 10 (some .boolean) 2 := ⟨⟨TX7, 62, rfl⟩, q2073, q2075, qs73, q144, q2076, by decide, by decide, by decide, by decide +kernel⟩
theorem vcX7_199 : VCm RX7 199 8 yX7_findForce cX7_findForce 5 none 1 := ⟨⟨TX7, 62, rfl⟩, q2051, q2053, qs69, q144, q2054, by decide, by decide, by decide, by decide +kernel⟩
theorem vcX7_202 : VCm RX7 202 8 yX7_isOnNow cX7_isOnNow 3 (some .boolean) 1 := ⟨⟨TX7, 62, rfl⟩, q2061, q2063, qs70, q144, q2064, by decide, by decide, by decide, by decide +kernel⟩
theorem vcX7_205 : VCm RX7 205 8 yX7_knowBy cX7_knowBy 4 none 2 := ⟨⟨TX7, 62, rfl⟩, q2095, q2097, qs77, q144, q2098, by decide, by decide, by decide, by decide +kernel⟩
theorem vcX7_213 : VCm RX7 213 8 yX7_likeOf cX7_likeOf 8 (some .int) 2 := ⟨⟨TX7, 62, rfl⟩, q2103, q2105, qs78, q144, q2106, by decide, by decide, by decide, by decide +kernel⟩
theorem vcX7_217 : VCm RX7 217 8 yX7_isBarred cX7_isBarred 5 (some .boolean) 2 := ⟨⟨TX7, 62, rfl⟩, q2117, q2119, qs79, q144, q2120, by decide, by decide, by decide, by decide +kernel⟩
theorem vcX7_220 : VCm RX7 220 8 yX7_four cX7_four 3 none 1 := ⟨⟨TX7, 62, rfl⟩, q2125, q2127, qs80, q144, q2128, by decide, by decide, by decide, by decide +kernel⟩
theorem vcX7_230 : VCm RX7 230 8 yX7_next cX7_next 1 none 0 := ⟨⟨TX7, 62, rfl⟩, q2145, q2147, qs82, q144, q2148, by decide, by decide, by decide, by decide +kernel⟩
theorem scX7_240 : SC RX7 240 yX7_isSmall cX7_isSmall 1 (some .boolean) 1 := ⟨q2149, q2150, q144, q2151, by decide, by decide, by decide, by decide +kernel⟩
theorem scX7_243 : SC RX7 243 yX7_isDigit cX7_isDigit 1 (some .boolean) 1 := ⟨q2152, q2153, q144, q2154, by decide, by decide, by decide, by decide +kernel⟩
theorem vcX7_261 : VCm RX7 261 8 yX7_must cX7_must 2 none 1 := ⟨⟨TX7, 62, rfl⟩, q2181, q2183, qs86, q144, q2184, by decide, by decide, by decide, by decide +kernel⟩
theorem scX7_271 : SC RX7 271 yX7_binds cX7_binds 1 (some .int) 1 := ⟨q2255, q2256, q144, q2257, by decide, by decide, by decide, by decide +kernel⟩
theorem vcX7_274 : VCm RX7 274 8 yX7_emit cX7_emit 3 none 2 := ⟨⟨TX7, 62, rfl⟩, q2227, q2229, qs95, q144, q2230, by decide, by decide, by decide, by decide +kernel⟩
theorem vcX7_287 : VCm RX7 287 8 yX7_isWord cX7_isWord 3 (some .boolean) 1 := ⟨⟨TX7, 62, rfl⟩, q2170, q2172, qs85, q144, q2173, by decide, by decide, by decide, by decide +kernel⟩
theorem vcX7_324 : VCm RX7 324 8 yX7_push cX7_push 3 none 2 := ⟨⟨TX7, 62, rfl⟩, q2202, q2204, qs90, q144, q2205, by decide, by decide, by decide, by decide +kernel⟩
theorem vcX7_330 : VCm RX7 330 8 yX7_isSign cX7_isSign 2 (some .boolean) 1 := ⟨⟨TX7, 62, rfl⟩, q2206, q2208, qs91, q144, q2209, by decide, by decide, by decide, by decide +kernel⟩
theorem vcX7_333 : VCm RX7 333 8 yX7_open cX7_open 2 none 1 := ⟨⟨TX7, 62, rfl⟩, q2210, q2212, qs92, q144, q2213, by decide, by decide, by decide, by decide +kernel⟩
theorem vcX7_336 : VCm RX7 336 8 yX7_partAt cX7_partAt 1 (some .int) 0 := ⟨⟨TX7, 62, rfl⟩, q2235, q2237, qs97, q144, q2238, by decide, by decide, by decide, by decide +kernel⟩
theorem vcX7_342 : VCm RX7 342 8 yX7_leaf cX7_leaf 4 none 3 := ⟨⟨TX7, 62, rfl⟩, q2223, q2225, qs94, q144, q2226, by decide, by decide, by decide, by decide +kernel⟩
theorem vcX7_348 : VCm RX7 348 8 yX7_plainAt cX7_plainAt 1 (some .int) 0 := ⟨⟨TX7, 62, rfl⟩, q2214, q2216, qs93, q144, q2217, by decide, by decide, by decide, by decide +kernel⟩
theorem vcX7_351 : VCm RX7 351 8 yX7_readPart cX7_readPart 3 (some .int) 0 := ⟨⟨TX7, 62, rfl⟩, q2231, q2233, qs96, q144, q2234, by decide, by decide, by decide, by decide +kernel⟩
theorem vcX7_354 : VCm RX7 354 8 yX7_settle cX7_settle 2 none 1 := ⟨⟨TX7, 62, rfl⟩, q2258, q2260, qs99, q144, q2261, by decide, by decide, by decide, by decide +kernel⟩
theorem vcX7_357 : VCm RX7 357 8 yX7_inner cX7_inner 3 (some .int) 0 := ⟨⟨TX7, 62, rfl⟩, q2262, q2264, qs100, q144, q2265, by decide, by decide, by decide, by decide +kernel⟩
theorem vcX7_360 : VCm RX7 360 8 yX7_isCompared cX7_isCompared 2 (some .boolean) 0 := ⟨⟨TX7, 62, rfl⟩, q2266, q2268, qs101, q144, q2269, by decide, by decide, by decide, by decide +kernel⟩
theorem vcX7_368 : VCm RX7 368 8 yX7_readPlain cX7_readPlain 2 (some .int) 0 := ⟨⟨TX7, 62, rfl⟩, q2197, q2199, qs89, q144, q2200, by decide, by decide, by decide, by decide +kernel⟩
theorem vcX7_371 : VCm RX7 371 8 yX7_behindSum cX7_behindSum 4 (some .int) 1 := ⟨⟨TX7, 62, rfl⟩, q2251, q2253, qs98, q144, q2254, by decide, by decide, by decide, by decide +kernel⟩
theorem vcX7_375 : VCm RX7 375 8 yX7_behindTest cX7_behindTest 2 (some .int) 0 := ⟨⟨TX7, 62, rfl⟩, q2274, q2276, qs102, q144, q2277, by decide, by decide, by decide, by decide +kernel⟩
theorem vcX7_394 : VCm RX7 394 8 yX7_headAt cX7_headAt 1 (some .int) 0 := ⟨⟨TX7, 62, rfl⟩, q2165, q2167, qs84, q144, q2168, by decide, by decide, by decide, by decide +kernel⟩
theorem vcX7_402 : VCm RX7 402 8 yX7_number cX7_number 6 (some .int) 2 := ⟨⟨TX7, 62, rfl⟩, q2186, q2188, qs87, q144, q2189, by decide, by decide, by decide, by decide +kernel⟩
theorem vcX7_412 : VCm RX7 412 8 yX7_readExpression cX7_readExpression 3 none 1 := ⟨⟨TX7, 62, rfl⟩, q2193, q2195, qs88, q144, q2196, by decide, by decide, by decide, by decide +kernel⟩
theorem vcX7_417 : VCm RX7 417 8 yX7_begin cX7_begin 1 none 0 := ⟨⟨TX7, 62, rfl⟩, q2141, q2143, qs81, q144, q2144, by decide, by decide, by decide, by decide +kernel⟩
theorem vcX7_420 : VCm RX7 420 8 yX7_readClause cX7_readClause 4 none 0 := ⟨⟨TX7, 62, rfl⟩, q2161, q2163, qs83, q144, q2164, by decide, by decide, by decide, by decide +kernel⟩
theorem scX7_423 : SC RX7 423 yX7_textAt cX7_textAt 1 (some .int) 1 := ⟨q2055, q2056, q144, q2057, by decide, by decide, by decide, by decide +kernel⟩
theorem scX7_426 : SC RX7 426 yX7_clauseAt cX7_clauseAt 2 (some .int) 2 := ⟨q2058, q2059, q144, q2060, by decide, by decide, by decide, by decide +kernel⟩
theorem vcX7_429 : VCm RX7 429 8 yX7_setNothing cX7_setNothing 2 none 0 := ⟨⟨TX7, 62, rfl⟩, q2069, q2071, qs72, q144, q2072, by decide, by decide, by decide, by decide +kernel⟩
theorem vcX7_432 : VCm RX7 432 8 yX7_setPlace cX7_setPlace 2 none 1 := ⟨⟨TX7, 62, rfl⟩, q2293, q2295, qs104, q144, q2296, by decide, by decide, by decide, by decide +kernel⟩
theorem vcX7_435 : VCm RX7 435 8 yX7_paperOf cX7_paperOf 6 (some .int) 2 := ⟨⟨TX7, 62, rfl⟩, q2405, q2407, qs117, q144, q2408, by decide, by decide, by decide, by decide +kernel⟩
theorem vcX7_438 : VCm RX7 438 8 yX7_putOf cX7_putOf 4 (some .int) 1 := ⟨⟨TX7, 62, rfl⟩, q2393, q2395, qs114, q144, q2396, by decide, by decide, by decide, by decide +kernel⟩
theorem vcX7_441 : VCm RX7 441 8 yX7_brokenOf cX7_brokenOf 7 (some .int) 2 := ⟨⟨TX7, 62, rfl⟩, q2369, q2371, qs112, q144, q2372, by decide, by decide, by decide, by decide +kernel⟩
theorem vcX7_447 : VCm RX7 447 8 yX7_reckon cX7_reckon 6 (some .long) 3 := ⟨⟨TX7, 62, rfl⟩, q2085, q2087, qs76, q144, q2088, by decide, by decide, by decide, by decide +kernel⟩
theorem vcX7_458 : VCm RX7 458 8 yX7_run cX7_run 8 none 3 := ⟨⟨TX7, 62, rfl⟩, q2081, q2083, qs75, q144, q2084, by decide, by decide, by decide, by decide +kernel⟩
theorem vcX7_465 : VCm RX7 465 8 yX7_isSo cX7_isSo 3 (some .boolean) 2 := ⟨⟨TX7, 62, rfl⟩, q2077, q2079, qs74, q144, q2080, by decide, by decide, by decide, by decide +kernel⟩
theorem vcX7_468 : VCm RX7 468 8 yX7_ruleOf cX7_ruleOf 3 (some .int) 2 := ⟨⟨TX7, 62, rfl⟩, q2289, q2291, qs103, q144, q2292, by decide, by decide, by decide, by decide +kernel⟩
theorem vcX7_474 : VCm RX7 474 8 yX7_mayLead cX7_mayLead 7 (some .boolean) 5 := ⟨⟨TX7, 62, rfl⟩, q2324, q2326, qs108, q144, q2327, by decide, by decide, by decide, by decide +kernel⟩
theorem vcX7_478 : VCm RX7 478 8 yX7_away cX7_away 5 (some .int) 2 := ⟨⟨TX7, 62, rfl⟩, q2328, q2330, qs109, q144, q2331, by decide, by decide, by decide, by decide +kernel⟩
theorem vcX7_481 : VCm RX7 481 8 yX7_areThere cX7_areThere 3 (some .boolean) 0 := ⟨⟨TX7, 62, rfl⟩, q2309, q2311, qs105, q144, q2312, by decide, by decide, by decide, by decide +kernel⟩
theorem vcX7_484 : VCm RX7 484 8 yX7_setRules cX7_setRules 4 none 2 := ⟨⟨TX7, 62, rfl⟩, q2313, q2315, qs106, q144, q2316, by decide, by decide, by decide, by decide +kernel⟩
theorem scX7_487 : SC RX7 487 yX7_ones cX7_ones 3 (some .int) 1 := ⟨q2317, q2318, q144, q2319, by decide, by decide, by decide, by decide +kernel⟩
theorem vcX7_490 : VCm RX7 490 8 yX7_leastBy cX7_leastBy 7 (some .int) 1 := ⟨⟨TX7, 62, rfl⟩, q2320, q2322, qs107, q144, q2323, by decide, by decide, by decide, by decide +kernel⟩
theorem vcX7_504 : VCm RX7 504 8 yX7_isBooth cX7_isBooth 2 (some .boolean) 1 := ⟨⟨TX7, 62, rfl⟩, q2349, q2351, qs110, q144, q2352, by decide, by decide, by decide, by decide +kernel⟩
theorem vcX7_507 : VCm RX7 507 8 yX7_isBox cX7_isBox 2 (some .boolean) 1 := ⟨⟨TX7, 62, rfl⟩, q2357, q2359, qs111, q144, q2360, by decide, by decide, by decide, by decide +kernel⟩
theorem vcX7_510 : VCm RX7 510 8 yX7_aheadOf cX7_aheadOf 8 (some .int) 2 := ⟨⟨TX7, 62, rfl⟩, q2373, q2375, qs113, q144, q2376, by decide, by decide, by decide, by decide +kernel⟩
theorem vcX7_517 : VCm RX7 517 8 yX7_boothOf cX7_boothOf 2 (some .int) 1 := ⟨⟨TX7, 62, rfl⟩, q2397, q2399, qs115, q144, q2400, by decide, by decide, by decide, by decide +kernel⟩
theorem vcX7_520 : VCm RX7 520 8 yX7_doesCount cX7_doesCount 5 (some .boolean) 1 := ⟨⟨TX7, 62, rfl⟩, q2401, q2403, qs116, q144, q2404, by decide, by decide, by decide, by decide +kernel⟩
theorem vcX7_523 : VCm RX7 523 8 yX7_setBooth cX7_setBooth 3 none 1 := ⟨⟨TX7, 62, rfl⟩, q2413, q2415, qs119, q144, q2416, by decide, by decide, by decide, by decide +kernel⟩
theorem vcX7_529 : VCm RX7 529 8 yX7_isAgain cX7_isAgain 2 (some .boolean) 1 := ⟨⟨TX7, 62, rfl⟩, q2409, q2411, qs118, q144, q2412, by decide, by decide, by decide, by decide +kernel⟩
theorem vcX7_532 : VCm RX7 532 8 yX7_findValid cX7_findValid 4 none 1 := ⟨⟨TX7, 62, rfl⟩, q2417, q2419, qs120, q144, q2420, by decide, by decide, by decide, by decide +kernel⟩
theorem vcX7_535 : VCm RX7 535 8 yX7_seatOf cX7_seatOf 2 (some .int) 1 := ⟨⟨TX7, 62, rfl⟩, q2433, q2435, qs122, q144, q2436, by decide, by decide, by decide, by decide +kernel⟩
theorem vcX7_544 : VCm RX7 544 8 yX7_addSeat cX7_addSeat 4 none 1 := ⟨⟨TX7, 62, rfl⟩, q2429, q2431, qs121, q144, q2432, by decide, by decide, by decide, by decide +kernel⟩
theorem vcX7_547 : VCm RX7 547 8 yX7_findWinner cX7_findWinner 6 none 1 := ⟨⟨TX7, 62, rfl⟩, q2437, q2439, qs123, q144, q2440, by decide, by decide, by decide, by decide +kernel⟩
theorem vcX7_550 : VCm RX7 550 8 yX7_hangs cX7_hangs 7 (some .boolean) 1 := ⟨⟨TX7, 62, rfl⟩, q2441, q2443, qs124, q144, q2444, by decide, by decide, by decide, by decide +kernel⟩
theorem vcX7_553 : VCm RX7 553 8 yX7_joinBooths cX7_joinBooths 9 (some .int) 2 := ⟨⟨TX7, 62, rfl⟩, q2449, q2451, qs125, q144, q2452, by decide, by decide, by decide, by decide +kernel⟩
theorem vcX7_558 : VCm RX7 558 8 yX7_daysOf cX7_daysOf 4 (some .int) 2 := ⟨⟨TX7, 62, rfl⟩, q2478, q2480, qs128, q144, q2481, by decide, by decide, by decide, by decide +kernel⟩
theorem vcX7_567 : VCm RX7 567 8 yX7_isGone cX7_isGone 5 (some .boolean) 2 := ⟨⟨TX7, 62, rfl⟩, q2470, q2472, qs126, q144, q2473, by decide, by decide, by decide, by decide +kernel⟩
theorem vcX7_570 : VCm RX7 570 8 yX7_pollOf cX7_pollOf 5 (some .int) 3 := ⟨⟨TX7, 62, rfl⟩, q2474, q2476, qs127, q144, q2477, by decide, by decide, by decide, by decide +kernel⟩
theorem vcX7_573 : VCm RX7 573 8 yX7_keepWay cX7_keepWay 4 none 1 := ⟨⟨TX7, 62, rfl⟩, q2482, q2484, qs129, q144, q2485, by decide, by decide, by decide, by decide +kernel⟩
theorem scX7_576 : SC RX7 576 yX7_choose cX7_choose 5 (some .long) 2 := ⟨q2499, q2500, q144, q2501, by decide, by decide, by decide, by decide +kernel⟩
theorem scX7_584 : SC RX7 584 yX7_mayBe cX7_mayBe 11 (some .boolean) 4 := ⟨q2496, q2497, q144, q2498, by decide, by decide, by decide, by decide +kernel⟩
theorem vcX7_596 : VCm RX7 596 8 yX7_addBooth cX7_addBooth 3 none 1 := ⟨⟨TX7, 62, rfl⟩, q2506, q2508, qs130, q144, q2509, by decide, by decide, by decide, by decide +kernel⟩
def mM_in (p0 : Int64) (p1 : Int64) (p2 : Int64) : Option (Int32) :=
  if p0 < p1 then
  (some (0 : Int32))
  else
  (if p2 < p0 then
  (some (0 : Int32))
  else
  (some (1 : Int32)))
def mM_told (p0 : Int32) (σ : SM) : Option (Int32 × SM) :=
  if (0 : Int32) ≤ p0 then
  (st1 (sI σ 0 1 (0 : Int32)) fun σ2 =>
  some (p0, σ2))
  else
  (st1 (sI σ 0 1 p0) fun σ4 =>
  some (p0, σ4))
def mM_image_23  (k23 : Int32 → Int32 → SM → Option (Int32 × SM)) (v1 : Int32) (v2 : Int32) (σ : SM) : Option (Int32 × SM) :=
  if (23016 : Int32) ≤ v2 then
  (ck (bnd v1 2) <|
  st1 (sI σ 3 (v1.toNatClampNeg) (1 : Int32)) fun σ3 =>
  bd2 (mM_told (0 : Int32) σ3) fun r6 σ7 =>
  some (r6, σ7))
  else
  (ck (bnd v2 23016) <|
  ck (bnd (((23016 : Int32) * v1) + v2) 46032) <|
  st1 (sI σ 2 ((((23016 : Int32) * v1) + v2).toNatClampNeg) (gI σ 1 (v2.toNatClampNeg))) fun σ10 =>
  k23 v1 (v2 + (1 : Int32)) σ10)
def mM_image (p0 : Int32) (σ : SM) : Option (Int32 × SM) :=
  st1 (sI σ 0 0 (0 : Int32)) fun σ1 =>
  bd1 (mM_in (p0.toInt64) (0 : Int64) (1 : Int64)) fun r4 =>
  if r4 = (0 : Int32) then
  (bd2 (mM_told (-1 : Int32) σ1) fun r7 σ8 =>
  some (r7, σ8))
  else
  (lq3 (mM_image_23) LF p0 (0 : Int32) σ1)
def mM_back_39  (k39 : Int32 → Int32 → SM → Option (Int32 × SM)) (v1 : Int32) (v2 : Int32) (σ : SM) : Option (Int32 × SM) :=
  if (23016 : Int32) ≤ v2 then
  (bd2 (mM_told (0 : Int32) σ) fun r3 σ4 =>
  some (r3, σ4))
  else
  (ck (bnd (((23016 : Int32) * v1) + v2) 46032) <|
  ck (bnd v2 23016) <|
  st1 (sI σ 1 (v2.toNatClampNeg) (gI σ 2 ((((23016 : Int32) * v1) + v2).toNatClampNeg))) fun σ7 =>
  k39 v1 (v2 + (1 : Int32)) σ7)
def mM_back (p0 : Int32) (σ : SM) : Option (Int32 × SM) :=
  st1 (sI σ 0 0 (0 : Int32)) fun σ1 =>
  bd1 (mM_in (p0.toInt64) (0 : Int64) (1 : Int64)) fun r4 =>
  if r4 = (0 : Int32) then
  (bd2 (mM_told (-1 : Int32) σ1) fun r12 σ13 =>
  some (r12, σ13))
  else
  (ck (bnd p0 2) <|
  if (gI σ1 3 (p0.toNatClampNeg)) = (0 : Int32) then
  (bd2 (mM_told (-2 : Int32) σ1) fun r9 σ10 =>
  some (r9, σ10))
  else
  (lq3 (mM_back_39) LF p0 (0 : Int32) σ1))
def mM_placeAt (p0 : Int32) : Option (Int32) :=
  some ((20 : Int32) + ((3 : Int32) * p0))
def mM_place_41  (σ : SM) : Option (Int32 × SM) :=
  bd2 (mM_told (-1 : Int32) σ) fun r2 σ3 =>
  some (r2, σ3)
def mM_place (p0 : Int32) (p1 : Int32) (p2 : Int32) (σ : SM) : Option (Int32 × SM) :=
  st1 (sI σ 0 0 (0 : Int32)) fun σ1 =>
  bd1 (mM_in (p0.toInt64) (0 : Int64) (5 : Int64)) fun r4 =>
  if r4 = (0 : Int32) then
  (mM_place_41 σ1)
  else
  (bd1 (mM_in (p1.toInt64) (0 : Int64) (99 : Int64)) fun r7 =>
  if r7 = (0 : Int32) then
  (mM_place_41 σ1)
  else
  (bd1 (mM_in (p2.toInt64) (0 : Int64) (99 : Int64)) fun r10 =>
  if r10 = (0 : Int32) then
  (mM_place_41 σ1)
  else
  (if (gI σ1 1 0) = (16 : Int32) then
  (bd2 (mM_told (-5 : Int32) σ1) fun r30 σ31 =>
  some (r30, σ31))
  else
  (bd1 (mM_placeAt (gI σ1 1 0)) fun r14 =>
  ck (bnd r14 23016) <|
  st1 (sI σ1 1 (r14.toNatClampNeg) p0) fun σ16 =>
  ck (bnd (r14 + (1 : Int32)) 23016) <|
  st1 (sI σ16 1 ((r14 + (1 : Int32)).toNatClampNeg) p1) fun σ19 =>
  ck (bnd (r14 + (2 : Int32)) 23016) <|
  st1 (sI σ19 1 ((r14 + (2 : Int32)).toNatClampNeg) p2) fun σ22 =>
  st1 (sI σ22 1 0 ((gI σ22 1 0) + (1 : Int32))) fun σ24 =>
  bd2 (mM_told ((gI σ24 1 0) - (1 : Int32)) σ24) fun r27 σ28 =>
  some (r27, σ28)))))
def mM_areLetters_38  (k5 : Int32 → Int32 → Int32 → Option (Int32)) (v0 : Int32) (v2 : Int32) (t0 : Int32) : Option (Int32) :=
  k5 v0 t0 (v2 + (-8 : Int32))
def mM_areLetters_37  (k5 : Int32 → Int32 → Int32 → Option (Int32)) (v0 : Int32) (v2 : Int32) : Option (Int32) :=
  mM_areLetters_38 k5 v0 v2 (0 : Int32)
def mM_areLetters_5  (k5 : Int32 → Int32 → Int32 → Option (Int32)) (v0 : Int32) (v1 : Int32) (v2 : Int32) : Option (Int32) :=
  if v2 < (0 : Int32) then
  (ck (isZ v1) <|
  some v1)
  else
  (if v1 = (0 : Int32) then
  (mM_areLetters_37 k5 v0 v2)
  else
  (bd1 (mM_in (((v0 >>> (v2 &&& 31)) &&& (255 : Int32)).toInt64) (97 : Int64) (122 : Int64)) fun r5 =>
  if r5 = (0 : Int32) then
  (mM_areLetters_37 k5 v0 v2)
  else
  (mM_areLetters_38 k5 v0 v2 (1 : Int32))))
def mM_areLetters (p0 : Int32) : Option (Int32) :=
  lq3 (mM_areLetters_5) LF p0 (1 : Int32) (24 : Int32)
def mM_isPerson (p0 : Int32) (p1 : Int32) (p2 : Int32) (p3 : Int32) : Option (Int32) :=
  bd1 (mM_in (p0.toInt64) (0 : Int64) (99 : Int64)) fun r2 =>
  if r2 = (0 : Int32) then
  (some (0 : Int32))
  else
  (bd1 (mM_in (p1.toInt64) (0 : Int64) (120 : Int64)) fun r5 =>
  if r5 = (0 : Int32) then
  (some (0 : Int32))
  else
  (bd1 (mM_in (p2.toInt64) (0 : Int64) (3 : Int64)) fun r8 =>
  if r8 = (0 : Int32) then
  (some (0 : Int32))
  else
  (bd1 (mM_areLetters p3) fun r11 =>
  if r11 = (0 : Int32) then
  (some (0 : Int32))
  else
  (some (1 : Int32)))))
def mM_isDay (p0 : Int32) : Option (Int32) :=
  bd1 (mM_in (p0.toInt64) (0 : Int64) (399 : Int64)) fun r2 =>
  ck (isZ r2) <|
  some r2
def mM_isPlace (p0 : Int32) (σ : SM) : Option (Int32) :=
  bd1 (mM_in (p0.toInt64) (0 : Int64) ((gI σ 1 0).toInt64 - (1 : Int64))) fun r2 =>
  ck (isZ r2) <|
  some r2
def mM_nameAt (p0 : Int32) : Option (Int32) :=
  some ((68 : Int32) + ((11 : Int32) * p0))
def mM_addFour (p0 : Int32) (p1 : Int32) (p2 : Int32) (p3 : Int32) (p4 : Int32) (σ : SM) : Option (SM) :=
  ck (bnd p0 23016) <|
  st1 (sI σ 1 (p0.toNatClampNeg) p1) fun σ2 =>
  ck (bnd (p0 + (1 : Int32)) 23016) <|
  st1 (sI σ2 1 ((p0 + (1 : Int32)).toNatClampNeg) p2) fun σ5 =>
  ck (bnd (p0 + (2 : Int32)) 23016) <|
  st1 (sI σ5 1 ((p0 + (2 : Int32)).toNatClampNeg) p3) fun σ8 =>
  ck (bnd (p0 + (3 : Int32)) 23016) <|
  st1 (sI σ8 1 ((p0 + (3 : Int32)).toNatClampNeg) p4) fun σ11 =>
  some σ11
def mM_addName (p0 : Int32) (p1 : Int32) (p2 : Int32) (p3 : Int32) (p4 : Int32) (p5 : Int32) (σ : SM) : Option (SM) :=
  bd1 (mM_nameAt (gI σ 1 1)) fun r2 =>
  bd1 (mM_addFour r2 p0 p1 p2 p3 σ) fun σ4 =>
  bd1 (mM_addFour (r2 + (4 : Int32)) p4 p5 (-1 : Int32) (-1 : Int32) σ4) fun σ6 =>
  bd1 (mM_addFour (r2 + (7 : Int32)) (-1 : Int32) (-1 : Int32) (-1 : Int32) (-1 : Int32) σ6) fun σ8 =>
  st1 (sI σ8 1 1 ((gI σ8 1 1) + (1 : Int32))) fun σ9 =>
  some σ9
def mM_name_25  (σ : SM) : Option (Int32 × SM) :=
  bd2 (mM_told (-1 : Int32) σ) fun r2 σ3 =>
  some (r2, σ3)
def mM_name (p0 : Int32) (p1 : Int32) (p2 : Int32) (p3 : Int32) (p4 : Int32) (p5 : Int32) (σ : SM) : Option (Int32 × SM) :=
  st1 (sI σ 0 0 (0 : Int32)) fun σ1 =>
  bd1 (mM_isPerson p1 p2 p3 p4) fun r4 =>
  if r4 = (0 : Int32) then
  (mM_name_25 σ1)
  else
  (bd1 (mM_isDay p5) fun r7 =>
  if r7 = (0 : Int32) then
  (mM_name_25 σ1)
  else
  (bd1 (mM_isPlace p0 σ1) fun r10 =>
  if r10 = (0 : Int32) then
  (bd2 (mM_told (-2 : Int32) σ1) fun r22 σ23 =>
  some (r22, σ23))
  else
  (if (gI σ1 1 1) = (200 : Int32) then
  (bd2 (mM_told (-5 : Int32) σ1) fun r19 σ20 =>
  some (r19, σ20))
  else
  (bd1 (mM_addName p0 p1 p2 p3 p4 p5 σ1) fun σ14 =>
  bd2 (mM_told ((gI σ14 1 1) - (1 : Int32)) σ14) fun r16 σ17 =>
  some (r16, σ17)))))
def mM_row_243  (k84 : Int32 → Int32 → Int32 → Int32 → Int32 → SM → Option (Int32 × SM)) (v1 : Int32) (v2 : Int32) (v3 : Int32) (v4 : Int32) (v5 : Int32) (σ : SM) : Option (Int32 × SM) :=
  k84 v1 v2 v3 v4 (v5 + (1 : Int32)) σ
def mM_row_84  (k84 : Int32 → Int32 → Int32 → Int32 → Int32 → SM → Option (Int32 × SM)) (v1 : Int32) (v2 : Int32) (v3 : Int32) (v4 : Int32) (v5 : Int32) (σ : SM) : Option (Int32 × SM) :=
  if (v3 / (7 : Int32)) ≤ v5 then
  (bd2 (mM_told v4 σ) fun r3 σ4 =>
  some (r3, σ4))
  else
  (ck (bnd (((7 : Int32) * v5) + (3 : Int32)) 400) <|
  ck (bnd (((7 : Int32) * v5) + (4 : Int32)) 400) <|
  ck (bnd (((7 : Int32) * v5) + (5 : Int32)) 400) <|
  ck (bnd (((7 : Int32) * v5) + (6 : Int32)) 400) <|
  ck (bnd ((7 : Int32) * v5) 400) <|
  ck (bnd (((7 : Int32) * v5) + (1 : Int32)) 400) <|
  ck (bnd (((7 : Int32) * v5) + (2 : Int32)) 400) <|
  bd1 (mM_isPerson (gI σ 6 (((7 : Int32) * v5).toNatClampNeg)) (gI σ 6 ((((7 : Int32) * v5) + (1 : Int32)).toNatClampNeg)) (gI σ 6 ((((7 : Int32) * v5) + (2 : Int32)).toNatClampNeg)) (((((gI σ 6 ((((7 : Int32) * v5) + (3 : Int32)).toNatClampNeg)) <<< ((24 : Int32) &&& 31)) ||| ((gI σ 6 ((((7 : Int32) * v5) + (4 : Int32)).toNatClampNeg)) <<< ((16 : Int32) &&& 31))) ||| ((gI σ 6 ((((7 : Int32) * v5) + (5 : Int32)).toNatClampNeg)) <<< ((8 : Int32) &&& 31))) ||| (gI σ 6 ((((7 : Int32) * v5) + (6 : Int32)).toNatClampNeg)))) fun r13 =>
  if r13 = (0 : Int32) then
  (mM_row_243 k84 v1 v2 v3 v4 v5 σ)
  else
  (ck (bnd ((7 : Int32) * v5) 400) <|
  ck (bnd (((7 : Int32) * v5) + (1 : Int32)) 400) <|
  ck (bnd (((7 : Int32) * v5) + (2 : Int32)) 400) <|
  bd1 (mM_addName v1 (gI σ 6 (((7 : Int32) * v5).toNatClampNeg)) (gI σ 6 ((((7 : Int32) * v5) + (1 : Int32)).toNatClampNeg)) (gI σ 6 ((((7 : Int32) * v5) + (2 : Int32)).toNatClampNeg)) (((((gI σ 6 ((((7 : Int32) * v5) + (3 : Int32)).toNatClampNeg)) <<< ((24 : Int32) &&& 31)) ||| ((gI σ 6 ((((7 : Int32) * v5) + (4 : Int32)).toNatClampNeg)) <<< ((16 : Int32) &&& 31))) ||| ((gI σ 6 ((((7 : Int32) * v5) + (5 : Int32)).toNatClampNeg)) <<< ((8 : Int32) &&& 31))) ||| (gI σ 6 ((((7 : Int32) * v5) + (6 : Int32)).toNatClampNeg))) v2 σ) fun σ19 =>
  mM_row_243 k84 v1 v2 v3 (v4 + (1 : Int32)) v5 σ19))
def mM_row (p0 : Int32) (p1 : Int32) (σ : SM) : Option (Int32 × SM) :=
  st1 (sI σ 0 0 (0 : Int32)) fun σ1 =>
  st1 (sI σ1 0 10 (0 : Int32)) fun σ3 =>
  bd1 (mM_isDay p1) fun r6 =>
  if r6 = (0 : Int32) then
  (bd2 (mM_told (-1 : Int32) σ3) fun r23 σ24 =>
  some (r23, σ24))
  else
  (bd1 (mM_isPlace p0 σ3) fun r9 =>
  if r9 = (0 : Int32) then
  (bd2 (mM_told (-2 : Int32) σ3) fun r20 σ21 =>
  some (r20, σ21))
  else
  (if ((gI σ3 1 1) + ((gI σ1 0 10) / (7 : Int32))) ≤ (200 : Int32) then
  (if (gI σ1 0 10) = (0 : Int32) then
  (bd2 (mM_told (-6 : Int32) σ3) fun r14 σ15 =>
  some (r14, σ15))
  else
  (lq6 (mM_row_84) LF p0 p1 (gI σ1 0 10) (0 : Int32) (0 : Int32) σ3))
  else
  (bd2 (mM_told (-5 : Int32) σ3) fun r17 σ18 =>
  some (r17, σ18))))
def mM_isName (p0 : Int32) (σ : SM) : Option (Int32) :=
  bd1 (mM_in (p0.toInt64) (0 : Int64) ((gI σ 1 1).toInt64 - (1 : Int64))) fun r2 =>
  ck (isZ r2) <|
  some r2
def mM_off_19  (σ : SM) : Option (Int32 × SM) :=
  bd2 (mM_told (-1 : Int32) σ) fun r2 σ3 =>
  some (r2, σ3)
def mM_off (p0 : Int32) (p1 : Int32) (p2 : Int32) (σ : SM) : Option (Int32 × SM) :=
  st1 (sI σ 0 0 (0 : Int32)) fun σ1 =>
  bd1 (mM_isDay p1) fun r4 =>
  if r4 = (0 : Int32) then
  (mM_off_19 σ1)
  else
  (bd1 (mM_isDay p2) fun r7 =>
  if r7 = (0 : Int32) then
  (mM_off_19 σ1)
  else
  (bd1 (mM_isName p0 σ1) fun r10 =>
  if r10 = (0 : Int32) then
  (bd2 (mM_told (-2 : Int32) σ1) fun r29 σ30 =>
  some (r29, σ30))
  else
  (bd1 (mM_nameAt p0) fun r13 =>
  ck (bnd (r13 + (6 : Int32)) 23016) <|
  if (gI σ1 1 ((r13 + (6 : Int32)).toNatClampNeg)) = (-1 : Int32) then
  (ck (bnd (r13 + (6 : Int32)) 23016) <|
  st1 (sI σ1 1 ((r13 + (6 : Int32)).toNatClampNeg) p1) fun σ17 =>
  ck (bnd ((r13 + (6 : Int32)) + (1 : Int32)) 23016) <|
  st1 (sI σ17 1 (((r13 + (6 : Int32)) + (1 : Int32)).toNatClampNeg) p2) fun σ20 =>
  bd2 (mM_told (0 : Int32) σ20) fun r23 σ24 =>
  some (r23, σ24))
  else
  (bd2 (mM_told (-4 : Int32) σ1) fun r26 σ27 =>
  some (r26, σ27)))))
def mM_moved_20  (σ : SM) : Option (Int32 × SM) :=
  bd2 (mM_told (-1 : Int32) σ) fun r2 σ3 =>
  some (r2, σ3)
def mM_moved_42  (σ : SM) : Option (Int32 × SM) :=
  bd2 (mM_told (-2 : Int32) σ) fun r2 σ3 =>
  some (r2, σ3)
def mM_moved (p0 : Int32) (p1 : Int32) (p2 : Int32) (p3 : Int32) (σ : SM) : Option (Int32 × SM) :=
  st1 (sI σ 0 0 (0 : Int32)) fun σ1 =>
  bd1 (mM_isDay p2) fun r4 =>
  if r4 = (0 : Int32) then
  (mM_moved_20 σ1)
  else
  (bd1 (mM_isDay p3) fun r7 =>
  if r7 = (0 : Int32) then
  (mM_moved_20 σ1)
  else
  (bd1 (mM_isName p0 σ1) fun r10 =>
  if r10 = (0 : Int32) then
  (mM_moved_42 σ1)
  else
  (bd1 (mM_isPlace p1 σ1) fun r13 =>
  if r13 = (0 : Int32) then
  (mM_moved_42 σ1)
  else
  (bd1 (mM_nameAt p0) fun r16 =>
  ck (bnd r16 23016) <|
  if (gI σ1 1 (r16.toNatClampNeg)) = p1 then
  (bd2 (mM_told (-3 : Int32) σ1) fun r39 σ40 =>
  some (r39, σ40))
  else
  (bd1 (mM_nameAt p0) fun r20 =>
  ck (bnd (r20 + (8 : Int32)) 23016) <|
  if (gI σ1 1 ((r20 + (8 : Int32)).toNatClampNeg)) = (-1 : Int32) then
  (ck (bnd (r20 + (8 : Int32)) 23016) <|
  st1 (sI σ1 1 ((r20 + (8 : Int32)).toNatClampNeg) p1) fun σ24 =>
  ck (bnd ((r20 + (8 : Int32)) + (1 : Int32)) 23016) <|
  st1 (sI σ24 1 (((r20 + (8 : Int32)) + (1 : Int32)).toNatClampNeg) p2) fun σ27 =>
  ck (bnd ((r20 + (8 : Int32)) + (2 : Int32)) 23016) <|
  st1 (sI σ27 1 (((r20 + (8 : Int32)) + (2 : Int32)).toNatClampNeg) p3) fun σ30 =>
  bd2 (mM_told (0 : Int32) σ30) fun r33 σ34 =>
  some (r33, σ34))
  else
  (bd2 (mM_told (-4 : Int32) σ1) fun r36 σ37 =>
  some (r36, σ37)))))))
def mM_of (p0 : Int32) (p1 : Int32) (σ : SM) : Option (Int32 × SM) :=
  st1 (sI σ 0 0 (0 : Int32)) fun σ1 =>
  bd1 (mM_isName p0 σ1) fun r4 =>
  if r4 = (0 : Int32) then
  (some ((-1 : Int32), σ1))
  else
  (bd1 (mM_in (p1.toInt64) (0 : Int64) (4 : Int64)) fun r7 =>
  if r7 = (0 : Int32) then
  (some ((-1 : Int32), σ1))
  else
  (bd1 (mM_nameAt p0) fun r10 =>
  ck (bnd (r10 + p1) 23016) <|
  some ((gI σ1 1 ((r10 + p1).toNatClampNeg)), σ1)))
def mM_hasMoved (p0 : Int32) (p1 : Int32) (p2 : Int32) (σ : SM) : Option (Int32) :=
  bd1 (mM_nameAt p0) fun r2 =>
  ck (bnd (r2 + (8 : Int32)) 23016) <|
  if (gI σ 1 ((r2 + (8 : Int32)).toNatClampNeg)) = (-1 : Int32) then
  (some (0 : Int32))
  else
  (ck (bnd ((r2 + (8 : Int32)) + (1 : Int32)) 23016) <|
  if p1 < (gI σ 1 (((r2 + (8 : Int32)) + (1 : Int32)).toNatClampNeg)) then
  (some (0 : Int32))
  else
  (ck (bnd ((r2 + (8 : Int32)) + (2 : Int32)) 23016) <|
  if p2 < (gI σ 1 (((r2 + (8 : Int32)) + (2 : Int32)).toNatClampNeg)) then
  (some (0 : Int32))
  else
  (some (1 : Int32))))
def mM_whereOf (p0 : Int32) (p1 : Int32) (p2 : Int32) (σ : SM) : Option (Int32) :=
  bd1 (mM_hasMoved p0 p1 p2 σ) fun r2 =>
  if r2 = (0 : Int32) then
  (bd1 (mM_nameAt p0) fun r5 =>
  ck (bnd r5 23016) <|
  some (gI σ 1 (r5.toNatClampNeg)))
  else
  (bd1 (mM_nameAt p0) fun r8 =>
  ck (bnd (r8 + (8 : Int32)) 23016) <|
  some (gI σ 1 ((r8 + (8 : Int32)).toNatClampNeg)))
def mM_where (p0 : Int32) (p1 : Int32) (p2 : Int32) (σ : SM) : Option (Int32 × SM) :=
  st1 (sI σ 0 0 (0 : Int32)) fun σ1 =>
  bd1 (mM_isName p0 σ1) fun r4 =>
  if r4 = (0 : Int32) then
  (some ((-1 : Int32), σ1))
  else
  (bd1 (mM_isDay p1) fun r7 =>
  if r7 = (0 : Int32) then
  (some ((-1 : Int32), σ1))
  else
  (bd1 (mM_isDay p2) fun r10 =>
  if r10 = (0 : Int32) then
  (some ((-1 : Int32), σ1))
  else
  (bd1 (mM_nameAt p0) fun r13 =>
  ck (bnd (r13 + (5 : Int32)) 23016) <|
  if p2 < (gI σ1 1 ((r13 + (5 : Int32)).toNatClampNeg)) then
  (some ((-1 : Int32), σ1))
  else
  (bd1 (mM_whereOf p0 p1 p2 σ1) fun r17 =>
  some (r17, σ1)))))
def mM_textAt (p0 : Int32) : Option (Int32) :=
  some ((5056 : Int32) + ((898 : Int32) * p0))
def mM_clauseAt (p0 : Int32) (p1 : Int32) : Option (Int32) :=
  bd1 (mM_textAt p0) fun r2 =>
  some ((r2 + (2 : Int32)) + ((8 : Int32) * p1))
def mM_findForce_163  (k31 : Int32 → Int32 → SM → Option (SM)) (v1 : Int32) (v2 : Int32) (σ : SM) : Option (SM) :=
  k31 v1 (v2 + (-1 : Int32)) σ
def mM_findForce_157  (k61 : Int32 → Int32 → Int32 → SM → Option (SM)) (v1 : Int32) (v2 : Int32) (v3 : Int32) (σ : SM) : Option (SM) :=
  k61 v1 v2 (v3 + (1 : Int32)) σ
def mM_findForce_61  (k31 : Int32 → Int32 → SM → Option (SM)) (k61 : Int32 → Int32 → Int32 → SM → Option (SM)) (v1 : Int32) (v2 : Int32) (v3 : Int32) (σ : SM) : Option (SM) :=
  bd1 (mM_textAt v2) fun r2 =>
  ck (bnd (r2 + (1 : Int32)) 23016) <|
  if (gI σ 1 ((r2 + (1 : Int32)).toNatClampNeg)) ≤ v3 then
  (mM_findForce_163 k31 v1 v2 σ)
  else
  (ck (bnd v2 20) <|
  if (gI σ 12 (v2.toNatClampNeg)) = (0 : Int32) then
  (mM_findForce_163 k31 v1 v2 σ)
  else
  (bd1 (mM_clauseAt v2 v3) fun r8 =>
  ck (bnd r8 23016) <|
  if (gI σ 1 (r8.toNatClampNeg)) = (0 : Int32) then
  (ck (bnd (((12 : Int32) * v2) + v3) 240) <|
  if (gI σ 13 ((((12 : Int32) * v2) + v3).toNatClampNeg)) = (0 : Int32) then
  (ck (bnd (r8 + (1 : Int32)) 23016) <|
  if v2 ≤ (gI σ 1 ((r8 + (1 : Int32)).toNatClampNeg)) then
  (mM_findForce_157 k61 v1 v2 v3 σ)
  else
  (ck (bnd (r8 + (1 : Int32)) 23016) <|
  ck (bnd (r8 + (2 : Int32)) 23016) <|
  ck (bnd (((12 : Int32) * (gI σ 1 ((r8 + (1 : Int32)).toNatClampNeg))) + (gI σ 1 ((r8 + (2 : Int32)).toNatClampNeg))) 240) <|
  st1 (sI σ 13 ((((12 : Int32) * (gI σ 1 ((r8 + (1 : Int32)).toNatClampNeg))) + (gI σ 1 ((r8 + (2 : Int32)).toNatClampNeg))).toNatClampNeg) (1 : Int32)) fun σ18 =>
  mM_findForce_157 k61 v1 v2 v3 σ18))
  else
  (mM_findForce_157 k61 v1 v2 v3 σ))
  else
  (mM_findForce_157 k61 v1 v2 v3 σ)))
def mM_findForce_58  (k31 : Int32 → Int32 → SM → Option (SM)) (v1 : Int32) (v2 : Int32) (t0 : Int32) (t1 : Int32) (σ : SM) : Option (SM) :=
  ck (bnd t1 20) <|
  ck (isZ t0) <|
  st1 (sI σ 12 (t1.toNatClampNeg) t0) fun σ3 =>
  lq4 (mM_findForce_61 k31) LF v1 v2 (0 : Int32) σ3
def mM_findForce_31  (k31 : Int32 → Int32 → SM → Option (SM)) (v1 : Int32) (v2 : Int32) (σ : SM) : Option (SM) :=
  if v2 < (0 : Int32) then
  (some σ)
  else
  (bd1 (mM_textAt v2) fun r3 =>
  ck (bnd r3 23016) <|
  if v1 < (gI σ 1 (r3.toNatClampNeg)) then
  (mM_findForce_58 k31 v1 v2 (0 : Int32) v2 σ)
  else
  (mM_findForce_58 k31 v1 v2 (1 : Int32) v2 σ))
def mM_findForce_2  (k2 : Int32 → Int32 → SM → Option (SM)) (v1 : Int32) (v2 : Int32) (σ : SM) : Option (SM) :=
  if (240 : Int32) ≤ v2 then
  (lq3 (mM_findForce_31) LF v1 ((gI σ 1 2) - (1 : Int32)) σ)
  else
  (ck (bnd v2 240) <|
  st1 (sI σ 13 (v2.toNatClampNeg) (0 : Int32)) fun σ3 =>
  k2 v1 (v2 + (1 : Int32)) σ3)
def mM_findForce (p0 : Int32) (σ : SM) : Option (SM) :=
  lq3 (mM_findForce_2) LF p0 (0 : Int32) σ
def mM_setNothing_2  (k2 : Int32 → SM → Option (SM)) (v1 : Int32) (σ : SM) : Option (SM) :=
  if (17 : Int32) ≤ v1 then
  (st1 (sL σ 14 5 ((gI σ 0 5).toInt64)) fun σ2 =>
  some σ2)
  else
  (ck (bnd v1 17) <|
  st1 (sL σ 14 (v1.toNatClampNeg) (0 : Int64)) fun σ5 =>
  k2 (v1 + (1 : Int32)) σ5)
def mM_setNothing (σ : SM) : Option (SM) :=
  lq2 (mM_setNothing_2) LF (0 : Int32) σ
def mM_setName_152  (v1 : Int32) (t0 : Int64) (t1 : Int32) (σ : SM) : Option (SM) :=
  ck (bnd t1 17) <|
  st1 (sL σ 14 (t1.toNatClampNeg) t0) fun σ2 =>
  bd1 (mM_hasMoved v1 (gI σ2 0 5) (gI σ2 0 6) σ2) fun r5 =>
  if r5 = (0 : Int32) then
  (st1 (sL σ2 14 15 (0 : Int64)) fun σ7 =>
  some σ7)
  else
  (st1 (sL σ2 14 15 (1 : Int64)) fun σ9 =>
  some σ9)
def mM_setName_128  (v1 : Int32) (v2 : Int32) (t0 : Int64) (t1 : Int32) (σ : SM) : Option (SM) :=
  ck (bnd t1 17) <|
  st1 (sL σ 14 (t1.toNatClampNeg) t0) fun σ2 =>
  ck (bnd (v2 + (3 : Int32)) 23016) <|
  if (gI σ2 1 ((v2 + (3 : Int32)).toNatClampNeg)) = (3 : Int32) then
  (mM_setName_152 v1 (1 : Int64) (14 : Int32) σ2)
  else
  (mM_setName_152 v1 (0 : Int64) (14 : Int32) σ2)
def mM_setName_104  (v1 : Int32) (v2 : Int32) (t0 : Int64) (t1 : Int32) (σ : SM) : Option (SM) :=
  ck (bnd t1 17) <|
  st1 (sL σ 14 (t1.toNatClampNeg) t0) fun σ2 =>
  ck (bnd (v2 + (3 : Int32)) 23016) <|
  if (gI σ2 1 ((v2 + (3 : Int32)).toNatClampNeg)) = (2 : Int32) then
  (mM_setName_128 v1 v2 (1 : Int64) (13 : Int32) σ2)
  else
  (mM_setName_128 v1 v2 (0 : Int64) (13 : Int32) σ2)
def mM_setName (p0 : Int32) (σ : SM) : Option (SM) :=
  bd1 (mM_nameAt p0) fun r2 =>
  bd1 (mM_setNothing  σ) fun σ4 =>
  ck (bnd (r2 + (2 : Int32)) 23016) <|
  st1 (sL σ4 14 1 ((gI σ4 1 ((r2 + (2 : Int32)).toNatClampNeg)).toInt64)) fun σ6 =>
  ck (bnd (r2 + (1 : Int32)) 23016) <|
  st1 (sL σ6 14 2 ((gI σ6 1 ((r2 + (1 : Int32)).toNatClampNeg)).toInt64)) fun σ9 =>
  bd1 (mM_whereOf p0 (gI σ9 0 5) (gI σ9 0 6) σ9) fun r12 =>
  st1 (sL σ9 14 3 (r12.toInt64)) fun σ13 =>
  bd1 (mM_placeAt ((gL σ13 14 3).toInt32)) fun r16 =>
  ck (bnd r16 23016) <|
  st1 (sL σ13 14 4 ((gI σ13 1 (r16.toNatClampNeg)).toInt64)) fun σ18 =>
  ck (bnd (r2 + (3 : Int32)) 23016) <|
  if (gI σ18 1 ((r2 + (3 : Int32)).toNatClampNeg)) = (1 : Int32) then
  (mM_setName_104 p0 r2 (1 : Int64) (12 : Int32) σ18)
  else
  (mM_setName_104 p0 r2 (0 : Int64) (12 : Int32) σ18)
def mM_reckon_68  (v2 : Int64) (v4 : Int64) (t0 : Int32) (σ : SM) : Option (Int64 × SM) :=
  ck (isZ t0) <|
  st1 (sI σ 0 31 t0) fun σ1 =>
  if (gI σ1 0 31) = (0 : Int32) then
  (nzL v4 <|
  some ((v2 / v4), σ1))
  else
  (some ((0 : Int64), σ1))
def mM_reckon (p0 : Int32) (p1 : Int64) (p2 : Int64) (σ : SM) : Option (Int64 × SM) :=
  (if p0 = (20 : Int32) then
  (some ((p1 + p2), σ))
  else if p0 = (21 : Int32) then
  (some ((p1 - p2), σ))
  else if p0 = (22 : Int32) then
  (some ((p1 * p2), σ))
  else if p0 = (23 : Int32) then
  (if p2 = (0 : Int64) then
  (mM_reckon_68 p1 p2 (1 : Int32) σ)
  else
  (mM_reckon_68 p1 p2 (0 : Int32) σ))
  else if p0 = (24 : Int32) then
  (if p2 ≤ p1 then
  (some ((0 : Int64), σ))
  else
  (some ((1 : Int64), σ)))
  else if p0 = (25 : Int32) then
  (if p1 ≤ p2 then
  (some ((0 : Int64), σ))
  else
  (some ((1 : Int64), σ)))
  else (if p1 = p2 then
  (some ((1 : Int64), σ))
  else
  (some ((0 : Int64), σ))))
def mM_run_254  (v4 : Int32) (σ : SM) : Option (SM) :=
  if v4 ≤ (0 : Int32) then
  (st1 (sL σ 0 32 (0 : Int64)) fun σ2 =>
  some σ2)
  else
  (st1 (sL σ 0 32 (gL σ 15 0)) fun σ4 =>
  some σ4)
def mM_run_251  (k11 : Int32 → Int32 → Int32 → Int32 → SM → Option (SM)) (v1 : Int32) (v3 : Int32) (v4 : Int32) (v5 : Int32) (σ : SM) : Option (SM) :=
  k11 v1 v3 v4 v5 σ
def mM_run_237  (k11 : Int32 → Int32 → Int32 → Int32 → SM → Option (SM)) (v1 : Int32) (v3 : Int32) (v4 : Int32) (v5 : Int32) (v7 : Int32) (t0 : Int64) (t1 : Int64) (σ : SM) : Option (SM) :=
  if t1 = t0 then
  (mM_run_251 k11 v1 v3 v4 v7 σ)
  else
  (mM_run_251 k11 v1 v3 (v4 + (-1 : Int32)) v5 σ)
def mM_run_180  (k11 : Int32 → Int32 → Int32 → Int32 → SM → Option (SM)) (v1 : Int32) (v3 : Int32) (v4 : Int32) (v5 : Int32) (t0 : Int32) (σ : SM) : Option (SM) :=
  ck (isZ t0) <|
  st1 (sI σ 0 31 t0) fun σ1 =>
  mM_run_251 k11 v1 v3 v4 v5 σ1
def mM_run_175  (k11 : Int32 → Int32 → Int32 → Int32 → SM → Option (SM)) (v1 : Int32) (v3 : Int32) (v4 : Int32) (v5 : Int32) (σ : SM) : Option (SM) :=
  mM_run_180 k11 v1 v3 v4 v5 (1 : Int32) σ
def mM_run_98  (k11 : Int32 → Int32 → Int32 → Int32 → SM → Option (SM)) (v1 : Int32) (v3 : Int32) (v4 : Int32) (v5 : Int32) (t0 : Int64) (t1 : Int32) (σ : SM) : Option (SM) :=
  ck (bnd t1 400) <|
  st1 (sL σ 15 (t1.toNatClampNeg) t0) fun σ2 =>
  mM_run_251 k11 v1 v3 (v4 + (1 : Int32)) v5 σ2
def mM_run_11  (k11 : Int32 → Int32 → Int32 → Int32 → SM → Option (SM)) (v1 : Int32) (v3 : Int32) (v4 : Int32) (v5 : Int32) (σ : SM) : Option (SM) :=
  if v3 ≤ v5 then
  (mM_run_254 v4 σ)
  else
  (if (gI σ 0 31) = (0 : Int32) then
  (bd1 (mM_textAt v1) fun r4 =>
  ck (bnd ((r4 + (98 : Int32)) + ((2 : Int32) * v5)) 23016) <|
  bd1 (mM_textAt v1) fun r7 =>
  ck (bnd (((r7 + (98 : Int32)) + ((2 : Int32) * v5)) + (1 : Int32)) 23016) <|
  if (20 : Int32) ≤ (gI σ 1 (((r4 + (98 : Int32)) + ((2 : Int32) * v5)).toNatClampNeg)) then
  (if (27 : Int32) ≤ (gI σ 1 (((r4 + (98 : Int32)) + ((2 : Int32) * v5)).toNatClampNeg)) then
  (if (gI σ 1 (((r4 + (98 : Int32)) + ((2 : Int32) * v5)).toNatClampNeg)) = (27 : Int32) then
  (ck (bnd (v4 - (1 : Int32)) 400) <|
  ck (bnd (v4 - (1 : Int32)) 400) <|
  st1 (sL σ 15 ((v4 - (1 : Int32)).toNatClampNeg) ((1 : Int64) - (gL σ 15 ((v4 - (1 : Int32)).toNatClampNeg)))) fun σ16 =>
  mM_run_251 k11 v1 v3 v4 (v5 + (1 : Int32)) σ16)
  else
  (ck (bnd (v4 - (1 : Int32)) 400) <|
  if (gI σ 1 (((r4 + (98 : Int32)) + ((2 : Int32) * v5)).toNatClampNeg)) = (28 : Int32) then
  (mM_run_237 k11 v1 v3 v4 (v5 + (1 : Int32)) (gI σ 1 ((((r7 + (98 : Int32)) + ((2 : Int32) * v5)) + (1 : Int32)).toNatClampNeg)) (0 : Int64) (gL σ 15 ((v4 - (1 : Int32)).toNatClampNeg)) σ)
  else
  (mM_run_237 k11 v1 v3 v4 (v5 + (1 : Int32)) (gI σ 1 ((((r7 + (98 : Int32)) + ((2 : Int32) * v5)) + (1 : Int32)).toNatClampNeg)) (1 : Int64) (gL σ 15 ((v4 - (1 : Int32)).toNatClampNeg)) σ)))
  else
  (ck (bnd ((v4 + (-1 : Int32)) - (1 : Int32)) 400) <|
  ck (bnd (v4 + (-1 : Int32)) 400) <|
  bd2 (mM_reckon (gI σ 1 (((r4 + (98 : Int32)) + ((2 : Int32) * v5)).toNatClampNeg)) (gL σ 15 (((v4 + (-1 : Int32)) - (1 : Int32)).toNatClampNeg)) (gL σ 15 ((v4 + (-1 : Int32)).toNatClampNeg)) σ) fun r21 σ22 =>
  ck (bnd ((v4 + (-1 : Int32)) - (1 : Int32)) 400) <|
  st1 (sL σ22 15 (((v4 + (-1 : Int32)) - (1 : Int32)).toNatClampNeg) r21) fun σ24 =>
  if (gI σ24 0 31) = (0 : Int32) then
  (ck (bnd ((v4 + (-1 : Int32)) - (1 : Int32)) 400) <|
  bd1 (mM_in (gL σ24 15 (((v4 + (-1 : Int32)) - (1 : Int32)).toNatClampNeg)) (-1000000000 : Int64) (1000000000 : Int64)) fun r29 =>
  if r29 = (0 : Int32) then
  (mM_run_175 k11 v1 v3 (v4 + (-1 : Int32)) (v5 + (1 : Int32)) σ24)
  else
  (mM_run_180 k11 v1 v3 (v4 + (-1 : Int32)) (v5 + (1 : Int32)) (0 : Int32) σ24))
  else
  (mM_run_175 k11 v1 v3 (v4 + (-1 : Int32)) (v5 + (1 : Int32)) σ24)))
  else
  (if (gI σ 1 (((r4 + (98 : Int32)) + ((2 : Int32) * v5)).toNatClampNeg)) = (0 : Int32) then
  (mM_run_98 k11 v1 v3 v4 (v5 + (1 : Int32)) ((gI σ 1 ((((r7 + (98 : Int32)) + ((2 : Int32) * v5)) + (1 : Int32)).toNatClampNeg)).toInt64) v4 σ)
  else
  (ck (bnd (gI σ 1 (((r4 + (98 : Int32)) + ((2 : Int32) * v5)).toNatClampNeg)) 17) <|
  mM_run_98 k11 v1 v3 v4 (v5 + (1 : Int32)) (gL σ 14 ((gI σ 1 (((r4 + (98 : Int32)) + ((2 : Int32) * v5)).toNatClampNeg)).toNatClampNeg)) v4 σ)))
  else
  (mM_run_254 v4 σ))
def mM_run (p0 : Int32) (p1 : Int32) (p2 : Int32) (σ : SM) : Option (SM) :=
  st1 (sI σ 0 31 (0 : Int32)) fun σ1 =>
  lq5 (mM_run_11) LF p0 p2 (0 : Int32) p1 σ1
def mM_isSo_60  (v1 : Int32) (v2 : Int32) (σ : SM) : Option (Int32 × SM) :=
  ck (bnd (v2 + (3 : Int32)) 23016) <|
  ck (bnd (v2 + (4 : Int32)) 23016) <|
  bd1 (mM_run v1 (gI σ 1 ((v2 + (3 : Int32)).toNatClampNeg)) (gI σ 1 ((v2 + (4 : Int32)).toNatClampNeg)) σ) fun σ4 =>
  st1 (sL σ4 0 33 (gL σ4 0 32)) fun σ5 =>
  if (gI σ5 0 31) = (0 : Int32) then
  (some ((1 : Int32), σ5))
  else
  (some ((0 : Int32), σ5))
def mM_isSo (p0 : Int32) (p1 : Int32) (σ : SM) : Option (Int32 × SM) :=
  ck (bnd (p1 + (5 : Int32)) 23016) <|
  ck (bnd (p1 + (6 : Int32)) 23016) <|
  if (gI σ 1 ((p1 + (6 : Int32)).toNatClampNeg)) ≤ (gI σ 1 ((p1 + (5 : Int32)).toNatClampNeg)) then
  (mM_isSo_60 p0 p1 σ)
  else
  (ck (bnd (p1 + (5 : Int32)) 23016) <|
  ck (bnd (p1 + (6 : Int32)) 23016) <|
  bd1 (mM_run p0 (gI σ 1 ((p1 + (5 : Int32)).toNatClampNeg)) (gI σ 1 ((p1 + (6 : Int32)).toNatClampNeg)) σ) fun σ7 =>
  if (gI σ7 0 31) = (0 : Int32) then
  (if (gL σ7 0 32) = (0 : Int64) then
  (some ((0 : Int32), σ7))
  else
  (mM_isSo_60 p0 p1 σ7))
  else
  (some ((0 : Int32), σ7)))
def mM_find_140  (k8 : Int32 → Int32 → Int32 → Int64 → Int32 → SM → Option (Int32 × SM)) (v1 : Int32) (v2 : Int32) (v3 : Int32) (v4 : Int64) (v6 : Int32) (σ : SM) : Option (Int32 × SM) :=
  k8 v1 v2 v3 v4 (v6 + (1 : Int32)) σ
def mM_find_134  (k22 : Int32 → Int32 → Int32 → Int64 → Int32 → Int32 → SM → Option (Int32 × SM)) (v1 : Int32) (v2 : Int32) (v3 : Int32) (v4 : Int64) (v6 : Int32) (v7 : Int32) (σ : SM) : Option (Int32 × SM) :=
  k22 v1 v2 v3 v4 v6 (v7 + (1 : Int32)) σ
def mM_find_108  (k22 : Int32 → Int32 → Int32 → Int64 → Int32 → Int32 → SM → Option (Int32 × SM)) (v1 : Int32) (v2 : Int32) (v3 : Int32) (v4 : Int64) (v6 : Int32) (v7 : Int32) (v8 : Int32) (t0 : Int32) (σ : SM) : Option (Int32 × SM) :=
  if t0 = (0 : Int32) then
  (mM_find_134 k22 v1 v2 v3 v4 v6 v7 σ)
  else
  (bd2 (mM_isSo v6 v8 σ) fun r3 σ4 =>
  if r3 = (0 : Int32) then
  (mM_find_134 k22 v1 v2 v3 v4 v6 v7 σ4)
  else
  (mM_find_134 k22 v1 v2 (1 : Int32) (gL σ4 0 33) v6 v7 σ4))
def mM_find_107  (k22 : Int32 → Int32 → Int32 → Int64 → Int32 → Int32 → SM → Option (Int32 × SM)) (v1 : Int32) (v2 : Int32) (v3 : Int32) (v4 : Int64) (v6 : Int32) (v7 : Int32) (v8 : Int32) (σ : SM) : Option (Int32 × SM) :=
  mM_find_108 k22 v1 v2 v3 v4 v6 v7 v8 (0 : Int32) σ
def mM_find_87  (k22 : Int32 → Int32 → Int32 → Int64 → Int32 → Int32 → SM → Option (Int32 × SM)) (v1 : Int32) (v2 : Int32) (v3 : Int32) (v4 : Int64) (v6 : Int32) (v7 : Int32) (v8 : Int32) (σ : SM) : Option (Int32 × SM) :=
  ck (bnd (((12 : Int32) * v6) + v7) 240) <|
  if (gI σ 13 ((((12 : Int32) * v6) + v7).toNatClampNeg)) = (0 : Int32) then
  (mM_find_108 k22 v1 v2 v3 v4 v6 v7 v8 (1 : Int32) σ)
  else
  (mM_find_107 k22 v1 v2 v3 v4 v6 v7 v8 σ)
def mM_find_22  (k8 : Int32 → Int32 → Int32 → Int64 → Int32 → SM → Option (Int32 × SM)) (k22 : Int32 → Int32 → Int32 → Int64 → Int32 → Int32 → SM → Option (Int32 × SM)) (v1 : Int32) (v2 : Int32) (v3 : Int32) (v4 : Int64) (v6 : Int32) (v7 : Int32) (σ : SM) : Option (Int32 × SM) :=
  bd1 (mM_textAt v6) fun r2 =>
  ck (bnd (r2 + (1 : Int32)) 23016) <|
  if (gI σ 1 ((r2 + (1 : Int32)).toNatClampNeg)) ≤ v7 then
  (mM_find_140 k8 v1 v2 v3 v4 v6 σ)
  else
  (ck (bnd v6 20) <|
  if (gI σ 12 (v6.toNatClampNeg)) = (0 : Int32) then
  (mM_find_140 k8 v1 v2 v3 v4 v6 σ)
  else
  (bd1 (mM_clauseAt v6 v7) fun r8 =>
  ck (bnd r8 23016) <|
  if (gI σ 1 (r8.toNatClampNeg)) = v1 then
  (if v2 = (-1 : Int32) then
  (mM_find_87 k22 v1 v2 v3 v4 v6 v7 r8 σ)
  else
  (ck (bnd (r8 + (1 : Int32)) 23016) <|
  if (gI σ 1 ((r8 + (1 : Int32)).toNatClampNeg)) = v2 then
  (mM_find_87 k22 v1 v2 v3 v4 v6 v7 r8 σ)
  else
  (mM_find_107 k22 v1 v2 v3 v4 v6 v7 r8 σ)))
  else
  (mM_find_107 k22 v1 v2 v3 v4 v6 v7 r8 σ)))
def mM_find_8  (k8 : Int32 → Int32 → Int32 → Int64 → Int32 → SM → Option (Int32 × SM)) (v1 : Int32) (v2 : Int32) (v3 : Int32) (v4 : Int64) (v6 : Int32) (σ : SM) : Option (Int32 × SM) :=
  if (gI σ 1 2) ≤ v6 then
  (st1 (sL σ 0 33 v4) fun σ2 =>
  ck (isZ v3) <|
  some (v3, σ2))
  else
  (lq7 (mM_find_22 k8) LF v1 v2 v3 v4 v6 (0 : Int32) σ)
def mM_find (p0 : Int32) (p1 : Int32) (σ : SM) : Option (Int32 × SM) :=
  lq6 (mM_find_8) LF p0 p1 (0 : Int32) (0 : Int64) (0 : Int32) σ
def mM_isOnNow_69  (v1 : Int32) (σ : SM) : Option (Int32 × SM) :=
  bd1 (mM_setName v1 σ) fun σ2 =>
  bd2 (mM_find (1 : Int32) (-1 : Int32) σ2) fun r4 σ5 =>
  if r4 = (0 : Int32) then
  (some ((0 : Int32), σ5))
  else
  (bd2 (mM_find (2 : Int32) (-1 : Int32) σ5) fun r8 σ9 =>
  if r8 = (0 : Int32) then
  (some ((1 : Int32), σ9))
  else
  (some ((0 : Int32), σ9)))
def mM_isOnNow (p0 : Int32) (σ : SM) : Option (Int32 × SM) :=
  bd1 (mM_nameAt p0) fun r2 =>
  ck (bnd (r2 + (5 : Int32)) 23016) <|
  if (gI σ 0 6) < (gI σ 1 ((r2 + (5 : Int32)).toNatClampNeg)) then
  (some ((0 : Int32), σ))
  else
  (ck (bnd (r2 + (6 : Int32)) 23016) <|
  if (gI σ 1 ((r2 + (6 : Int32)).toNatClampNeg)) = (-1 : Int32) then
  (mM_isOnNow_69 p0 σ)
  else
  (ck (bnd (r2 + (6 : Int32)) 23016) <|
  if (gI σ 0 5) < (gI σ 1 ((r2 + (6 : Int32)).toNatClampNeg)) then
  (mM_isOnNow_69 p0 σ)
  else
  (ck (bnd ((r2 + (6 : Int32)) + (1 : Int32)) 23016) <|
  if (gI σ 0 6) < (gI σ 1 (((r2 + (6 : Int32)) + (1 : Int32)).toNatClampNeg)) then
  (mM_isOnNow_69 p0 σ)
  else
  (some ((0 : Int32), σ)))))
def mM_on (p0 : Int32) (p1 : Int32) (p2 : Int32) (σ : SM) : Option (Int32 × SM) :=
  st1 (sI σ 0 0 (0 : Int32)) fun σ1 =>
  bd1 (mM_isName p0 σ1) fun r4 =>
  if r4 = (0 : Int32) then
  (some ((-1 : Int32), σ1))
  else
  (bd1 (mM_isDay p1) fun r7 =>
  if r7 = (0 : Int32) then
  (some ((-1 : Int32), σ1))
  else
  (bd1 (mM_isDay p2) fun r10 =>
  if r10 = (0 : Int32) then
  (some ((-1 : Int32), σ1))
  else
  (st1 (sI σ1 0 5 p1) fun σ12 =>
  st1 (sI σ12 0 6 p2) fun σ14 =>
  bd1 (mM_findForce p1 σ14) fun σ17 =>
  bd2 (mM_isOnNow p0 σ17) fun r19 σ20 =>
  if r19 = (0 : Int32) then
  (some ((0 : Int32), σ20))
  else
  (some ((1 : Int32), σ20)))))
def mM_knowBy_84  (k38 : Int32 → Int32 → Int32 → SM → Option (SM)) (v1 : Int32) (v2 : Int32) (v3 : Int32) (σ : SM) : Option (SM) :=
  k38 v1 v2 (v3 + (1 : Int32)) σ
def mM_knowBy_38  (k38 : Int32 → Int32 → Int32 → SM → Option (SM)) (v1 : Int32) (v2 : Int32) (v3 : Int32) (σ : SM) : Option (SM) :=
  if (gI σ 1 1) ≤ v3 then
  (some σ)
  else
  (bd2 (mM_isOnNow v3 σ) fun r3 σ4 =>
  ck (bnd v3 200) <|
  ck (isZ r3) <|
  st1 (sI σ4 4 (v3.toNatClampNeg) r3) fun σ7 =>
  ck (bnd v3 200) <|
  if (gI σ7 4 (v3.toNatClampNeg)) = (0 : Int32) then
  (mM_knowBy_84 k38 v1 v2 v3 σ7)
  else
  (bd1 (mM_whereOf v3 v1 v2 σ7) fun r12 =>
  ck (bnd r12 16) <|
  ck (bnd r12 16) <|
  st1 (sI σ7 5 (r12.toNatClampNeg) ((gI σ7 5 (r12.toNatClampNeg)) + (1 : Int32))) fun σ15 =>
  mM_knowBy_84 k38 v1 v2 v3 σ15))
def mM_knowBy_17  (k17 : Int32 → Int32 → Int32 → SM → Option (SM)) (v1 : Int32) (v2 : Int32) (v3 : Int32) (σ : SM) : Option (SM) :=
  if (16 : Int32) ≤ v3 then
  (lq4 (mM_knowBy_38) LF v1 v2 (0 : Int32) σ)
  else
  (ck (bnd v3 16) <|
  st1 (sI σ 5 (v3.toNatClampNeg) (0 : Int32)) fun σ3 =>
  k17 v1 v2 (v3 + (1 : Int32)) σ3)
def mM_knowBy (p0 : Int32) (p1 : Int32) (σ : SM) : Option (SM) :=
  st1 (sI σ 0 5 p0) fun σ1 =>
  st1 (sI σ1 0 6 p1) fun σ3 =>
  bd1 (mM_findForce p0 σ3) fun σ6 =>
  lq4 (mM_knowBy_17) LF p0 p1 (0 : Int32) σ6
def mM_roll (p0 : Int32) (p1 : Int32) (p2 : Int32) (σ : SM) : Option (Int32 × SM) :=
  st1 (sI σ 0 0 (0 : Int32)) fun σ1 =>
  bd1 (mM_isPlace p0 σ1) fun r4 =>
  if r4 = (0 : Int32) then
  (some ((-1 : Int32), σ1))
  else
  (bd1 (mM_isDay p1) fun r7 =>
  if r7 = (0 : Int32) then
  (some ((-1 : Int32), σ1))
  else
  (bd1 (mM_isDay p2) fun r10 =>
  if r10 = (0 : Int32) then
  (some ((-1 : Int32), σ1))
  else
  (bd1 (mM_knowBy p1 p2 σ1) fun σ13 =>
  ck (bnd p0 16) <|
  some ((gI σ13 5 (p0.toNatClampNeg)), σ13))))
def mM_likeOf_129 (σ : SM) (k83 : Int32 → Int32 → Int32 → Int32 → Option (Int32)) (v3 : Int32) (v4 : Int32) (v7 : Int32) (t0 : Int32) (t1 : Int32) : Option (Int32) :=
  k83 v3 v4 (t1 + t0) (v7 + (-8 : Int32))
def mM_likeOf_83 (σ : SM) (k83 : Int32 → Int32 → Int32 → Int32 → Option (Int32)) (v3 : Int32) (v4 : Int32) (v6 : Int32) (v7 : Int32) : Option (Int32) :=
  if v7 < (0 : Int32) then
  (some v6)
  else
  (ck (bnd (v3 + (4 : Int32)) 23016) <|
  ck (bnd (v4 + (4 : Int32)) 23016) <|
  if (((gI σ 1 ((v3 + (4 : Int32)).toNatClampNeg)) >>> (v7 &&& 31)) &&& (255 : Int32)) = (((gI σ 1 ((v4 + (4 : Int32)).toNatClampNeg)) >>> (v7 &&& 31)) &&& (255 : Int32)) then
  (mM_likeOf_129 σ k83 v3 v4 v7 (1 : Int32) v6)
  else
  (mM_likeOf_129 σ k83 v3 v4 v7 (0 : Int32) v6))
def mM_likeOf_76 (σ : SM) (v3 : Int32) (v4 : Int32) (t0 : Int32) (t1 : Int32) : Option (Int32) :=
  lq4 (mM_likeOf_83 σ) LF v3 v4 (t1 + t0) (24 : Int32)
def mM_likeOf_56 (σ : SM) (v3 : Int32) (v4 : Int32) (v5 : Int32) (t0 : Int32) : Option (Int32) :=
  bd1 (mM_in (v5.toInt64) (-2 : Int64) (2 : Int64)) fun r2 =>
  if r2 = (0 : Int32) then
  (mM_likeOf_76 σ v3 v4 (0 : Int32) t0)
  else
  (mM_likeOf_76 σ v3 v4 (1 : Int32) t0)
def mM_likeOf (p0 : Int32) (p1 : Int32) (σ : SM) : Option (Int32) :=
  bd1 (mM_nameAt p0) fun r2 =>
  bd1 (mM_nameAt p1) fun r4 =>
  ck (bnd (r2 + (2 : Int32)) 23016) <|
  ck (bnd (r4 + (2 : Int32)) 23016) <|
  ck (bnd (r2 + (1 : Int32)) 23016) <|
  ck (bnd (r4 + (1 : Int32)) 23016) <|
  if (gI σ 1 ((r2 + (1 : Int32)).toNatClampNeg)) = (gI σ 1 ((r4 + (1 : Int32)).toNatClampNeg)) then
  (mM_likeOf_56 σ r2 r4 ((gI σ 1 ((r2 + (2 : Int32)).toNatClampNeg)) - (gI σ 1 ((r4 + (2 : Int32)).toNatClampNeg))) (1 : Int32))
  else
  (mM_likeOf_56 σ r2 r4 ((gI σ 1 ((r2 + (2 : Int32)).toNatClampNeg)) - (gI σ 1 ((r4 + (2 : Int32)).toNatClampNeg))) (0 : Int32))
def mM_like (p0 : Int32) (p1 : Int32) (σ : SM) : Option (Int32 × SM) :=
  st1 (sI σ 0 0 (0 : Int32)) fun σ1 =>
  bd1 (mM_isName p0 σ1) fun r4 =>
  if r4 = (0 : Int32) then
  (some ((-1 : Int32), σ1))
  else
  (bd1 (mM_isName p1 σ1) fun r7 =>
  if r7 = (0 : Int32) then
  (some ((-1 : Int32), σ1))
  else
  (if p0 = p1 then
  (some ((-1 : Int32), σ1))
  else
  (bd1 (mM_likeOf p0 p1 σ1) fun r11 =>
  some (r11, σ1))))
def mM_apart_21  (σ : SM) : Option (Int32 × SM) :=
  bd2 (mM_told (-2 : Int32) σ) fun r2 σ3 =>
  some (r2, σ3)
def mM_apart_116  (t0 : Int32) (t1 : Int32) (σ : SM) : Option (Int32 × SM) :=
  ck (bnd t1 23016) <|
  st1 (sI σ 1 (t1.toNatClampNeg) t0) fun σ2 =>
  st1 (sI σ2 1 8 ((gI σ2 1 8) + (1 : Int32))) fun σ4 =>
  bd2 (mM_told (gI σ4 1 8) σ4) fun r7 σ8 =>
  some (r7, σ8)
def mM_apart_86  (v1 : Int32) (v2 : Int32) (t0 : Int32) (t1 : Int32) (σ : SM) : Option (Int32 × SM) :=
  ck (bnd t1 23016) <|
  st1 (sI σ 1 (t1.toNatClampNeg) t0) fun σ2 =>
  if v2 ≤ v1 then
  (mM_apart_116 v1 (((2268 : Int32) + ((2 : Int32) * (gI σ2 1 8))) + (1 : Int32)) σ2)
  else
  (mM_apart_116 v2 (((2268 : Int32) + ((2 : Int32) * (gI σ2 1 8))) + (1 : Int32)) σ2)
def mM_apart (p0 : Int32) (p1 : Int32) (σ : SM) : Option (Int32 × SM) :=
  st1 (sI σ 0 0 (0 : Int32)) fun σ1 =>
  bd1 (mM_isName p0 σ1) fun r4 =>
  if r4 = (0 : Int32) then
  (mM_apart_21 σ1)
  else
  (bd1 (mM_isName p1 σ1) fun r7 =>
  if r7 = (0 : Int32) then
  (mM_apart_21 σ1)
  else
  (if p0 = p1 then
  (bd2 (mM_told (-3 : Int32) σ1) fun r16 σ17 =>
  some (r16, σ17))
  else
  (if (gI σ1 1 8) = (40 : Int32) then
  (bd2 (mM_told (-5 : Int32) σ1) fun r13 σ14 =>
  some (r13, σ14))
  else
  (if p1 ≤ p0 then
  (mM_apart_86 p0 p1 p1 ((2268 : Int32) + ((2 : Int32) * (gI σ1 1 8))) σ1)
  else
  (mM_apart_86 p0 p1 p0 ((2268 : Int32) + ((2 : Int32) * (gI σ1 1 8))) σ1)))))
def mM_isBarred_62 (σ : SM) (k5 : Int32 → Int32 → Int32 → Int32 → Option (Int32)) (v1 : Int32) (v2 : Int32) (v4 : Int32) (t0 : Int32) : Option (Int32) :=
  k5 v1 v2 t0 (v4 + (1 : Int32))
def mM_isBarred_57 (σ : SM) (k5 : Int32 → Int32 → Int32 → Int32 → Option (Int32)) (v1 : Int32) (v2 : Int32) (v4 : Int32) : Option (Int32) :=
  mM_isBarred_62 σ k5 v1 v2 v4 (1 : Int32)
def mM_isBarred_61 (σ : SM) (k5 : Int32 → Int32 → Int32 → Int32 → Option (Int32)) (v1 : Int32) (v2 : Int32) (v4 : Int32) : Option (Int32) :=
  mM_isBarred_62 σ k5 v1 v2 v4 (0 : Int32)
def mM_isBarred_5 (σ : SM) (k5 : Int32 → Int32 → Int32 → Int32 → Option (Int32)) (v1 : Int32) (v2 : Int32) (v3 : Int32) (v4 : Int32) : Option (Int32) :=
  if (gI σ 1 8) ≤ v4 then
  (ck (isZ v3) <|
  some v3)
  else
  (if v3 = (0 : Int32) then
  (ck (bnd ((2268 : Int32) + ((2 : Int32) * v4)) 23016) <|
  if (gI σ 1 (((2268 : Int32) + ((2 : Int32) * v4)).toNatClampNeg)) = v1 then
  (ck (bnd (((2268 : Int32) + ((2 : Int32) * v4)) + (1 : Int32)) 23016) <|
  if (gI σ 1 ((((2268 : Int32) + ((2 : Int32) * v4)) + (1 : Int32)).toNatClampNeg)) = v2 then
  (mM_isBarred_57 σ k5 v1 v2 v4)
  else
  (mM_isBarred_61 σ k5 v1 v2 v4))
  else
  (mM_isBarred_61 σ k5 v1 v2 v4))
  else
  (mM_isBarred_57 σ k5 v1 v2 v4))
def mM_isBarred (p0 : Int32) (p1 : Int32) (σ : SM) : Option (Int32) :=
  lq4 (mM_isBarred_5 σ) LF p0 p1 (0 : Int32) (0 : Int32)
def mM_twice_157  (k36 : Int32 → Int32 → Int32 → Int32 → Int32 → Int32 → SM → Option (Int32 × SM)) (v1 : Int32) (v2 : Int32) (v3 : Int32) (v4 : Int32) (v5 : Int32) (v6 : Int32) (σ : SM) : Option (Int32 × SM) :=
  k36 v1 v2 v3 v4 v5 (v6 + (1 : Int32)) σ
def mM_twice_151  (k53 : Int32 → Int32 → Int32 → Int32 → Int32 → Int32 → Int32 → SM → Option (Int32 × SM)) (v1 : Int32) (v2 : Int32) (v3 : Int32) (v4 : Int32) (v5 : Int32) (v6 : Int32) (v7 : Int32) (σ : SM) : Option (Int32 × SM) :=
  k53 v1 v2 v3 v4 v5 v6 (v7 + (1 : Int32)) σ
def mM_twice_146  (k53 : Int32 → Int32 → Int32 → Int32 → Int32 → Int32 → Int32 → SM → Option (Int32 × SM)) (v1 : Int32) (v2 : Int32) (v3 : Int32) (v4 : Int32) (v6 : Int32) (v7 : Int32) (t0 : Int32) (σ : SM) : Option (Int32 × SM) :=
  mM_twice_151 k53 v1 v2 v3 (v4 + (1 : Int32)) t0 v6 v7 σ
def mM_twice_53  (k36 : Int32 → Int32 → Int32 → Int32 → Int32 → Int32 → SM → Option (Int32 × SM)) (k53 : Int32 → Int32 → Int32 → Int32 → Int32 → Int32 → Int32 → SM → Option (Int32 × SM)) (v1 : Int32) (v2 : Int32) (v3 : Int32) (v4 : Int32) (v5 : Int32) (v6 : Int32) (v7 : Int32) (σ : SM) : Option (Int32 × SM) :=
  if (gI σ 1 1) ≤ v7 then
  (mM_twice_157 k36 v1 v2 v3 v4 v5 v6 σ)
  else
  (ck (bnd v6 200) <|
  if (gI σ 4 (v6.toNatClampNeg)) = (0 : Int32) then
  (mM_twice_157 k36 v1 v2 v3 v4 v5 v6 σ)
  else
  (ck (bnd v7 200) <|
  if (gI σ 4 (v7.toNatClampNeg)) = (0 : Int32) then
  (mM_twice_151 k53 v1 v2 v3 v4 v5 v6 v7 σ)
  else
  (bd1 (mM_whereOf v6 v1 v2 σ) fun r7 =>
  bd1 (mM_whereOf v7 v1 v2 σ) fun r9 =>
  if r7 = r9 then
  (mM_twice_151 k53 v1 v2 v3 v4 v5 v6 v7 σ)
  else
  (bd1 (mM_likeOf v6 v7 σ) fun r12 =>
  if r12 < (5 : Int32) then
  (mM_twice_151 k53 v1 v2 v3 v4 v5 v6 v7 σ)
  else
  (bd1 (mM_isBarred v6 v7 σ) fun r15 =>
  if r15 = (0 : Int32) then
  (if v4 = v3 then
  (mM_twice_146 k53 v1 v2 v3 v4 v6 v7 (((200 : Int32) * v6) + v7) σ)
  else
  (mM_twice_146 k53 v1 v2 v3 v4 v6 v7 v5 σ))
  else
  (mM_twice_151 k53 v1 v2 v3 v4 v5 v6 v7 σ))))))
def mM_twice_36  (k36 : Int32 → Int32 → Int32 → Int32 → Int32 → Int32 → SM → Option (Int32 × SM)) (v1 : Int32) (v2 : Int32) (v3 : Int32) (v4 : Int32) (v5 : Int32) (v6 : Int32) (σ : SM) : Option (Int32 × SM) :=
  if (gI σ 1 1) ≤ v6 then
  (if v3 = (-1 : Int32) then
  (some (v4, σ))
  else
  (some (v5, σ)))
  else
  (lq8 (mM_twice_53 k36) LF v1 v2 v3 v4 v5 v6 (v6 + (1 : Int32)) σ)
def mM_twice (p0 : Int32) (p1 : Int32) (p2 : Int32) (σ : SM) : Option (Int32 × SM) :=
  st1 (sI σ 0 0 (0 : Int32)) fun σ1 =>
  bd1 (mM_isDay p0) fun r4 =>
  if r4 = (0 : Int32) then
  (some ((-1 : Int32), σ1))
  else
  (bd1 (mM_isDay p1) fun r7 =>
  if r7 = (0 : Int32) then
  (some ((-1 : Int32), σ1))
  else
  (bd1 (mM_knowBy p0 p1 σ1) fun σ10 =>
  lq7 (mM_twice_36) LF p0 p1 p2 (0 : Int32) (-1 : Int32) (0 : Int32) σ10))
def mM_four_3  (k3 : Int32 → Int32 → SM → Option (SM)) (v1 : Int32) (v2 : Int32) (σ : SM) : Option (SM) :=
  if v2 < (0 : Int32) then
  (some σ)
  else
  (ck (bnd (gI σ 0 10) 400) <|
  st1 (sI σ 6 ((gI σ 0 10).toNatClampNeg) ((v1 >>> (v2 &&& 31)) &&& (255 : Int32))) fun σ3 =>
  st1 (sI σ3 0 10 ((gI σ3 0 10) + (1 : Int32))) fun σ5 =>
  k3 v1 (v2 + (-8 : Int32)) σ5)
def mM_four (p0 : Int32) (σ : SM) : Option (SM) :=
  lq3 (mM_four_3) LF p0 (24 : Int32) σ
def mM_feed (p0 : Int32) (p1 : Int32) (p2 : Int32) (p3 : Int32) (p4 : Int32) (σ : SM) : Option (Int32 × SM) :=
  st1 (sI σ 0 0 (0 : Int32)) fun σ1 =>
  if ((gI σ1 0 10) + (20 : Int32)) ≤ (400 : Int32) then
  (bd1 (mM_four p0 σ1) fun σ5 =>
  bd1 (mM_four p1 σ5) fun σ7 =>
  bd1 (mM_four p2 σ7) fun σ9 =>
  bd1 (mM_four p3 σ9) fun σ11 =>
  bd1 (mM_four p4 σ11) fun σ13 =>
  some ((gI σ13 0 10), σ13))
  else
  (some ((-1 : Int32), σ1))
def mM_end (p0 : Int32) (σ : SM) : Option (Int32 × SM) :=
  st1 (sI σ 0 0 (0 : Int32)) fun σ1 =>
  if p0 < (0 : Int32) then
  (some ((-1 : Int32), σ1))
  else
  (if p0 ≤ (gI σ1 0 10) then
  (st1 (sI σ1 0 10 p0) fun σ5 =>
  some (p0, σ5))
  else
  (some ((-1 : Int32), σ1)))
def mM_fault (σ : SM) : Option (Int32 × SM) :=
  st1 (sI σ 0 0 (0 : Int32)) fun σ1 =>
  some ((gI σ1 0 15), σ1)
def mM_isSmall (p0 : Int32) : Option (Int32) :=
  if p0 < (97 : Int32) then
  (some (0 : Int32))
  else
  (if (122 : Int32) < p0 then
  (some (0 : Int32))
  else
  (some (1 : Int32)))
def mM_isDigit (p0 : Int32) : Option (Int32) :=
  if p0 < (48 : Int32) then
  (some (0 : Int32))
  else
  (if (57 : Int32) < p0 then
  (some (0 : Int32))
  else
  (some (1 : Int32)))
def mM_next_319  (k243 : SM → Option (SM)) (t0 : Int64) (σ : SM) : Option (SM) :=
  st1 (sL σ 0 14 t0) fun σ1 =>
  st1 (sI σ1 0 12 ((gI σ1 0 12) + (1 : Int32))) fun σ3 =>
  k243 σ3
def mM_next_243  (k243 : SM → Option (SM)) (σ : SM) : Option (SM) :=
  if (gI σ 0 13) = (2 : Int32) then
  (if (gI σ 0 10) ≤ (gI σ 0 12) then
  (some σ)
  else
  (ck (bnd (gI σ 0 12) 400) <|
  bd1 (mM_isDigit (gI σ 6 ((gI σ 0 12).toNatClampNeg))) fun r5 =>
  if r5 = (0 : Int32) then
  (some σ)
  else
  (if (gL σ 0 14) ≤ (1000000 : Int64) then
  (ck (bnd (gI σ 0 12) 400) <|
  mM_next_319 k243 ((((gL σ 0 14) * (10 : Int64)) + (gI σ 6 ((gI σ 0 12).toNatClampNeg)).toInt64) - (48 : Int64)) σ)
  else
  (mM_next_319 k243 (gL σ 0 14) σ))))
  else
  (some σ)
def mM_next_227  (k149 : SM → Option (SM)) (t0 : Int64) (σ : SM) : Option (SM) :=
  st1 (sL σ 0 14 t0) fun σ1 =>
  st1 (sI σ1 0 12 ((gI σ1 0 12) + (1 : Int32))) fun σ3 =>
  k149 σ3
def mM_next_149  (k149 : SM → Option (SM)) (σ : SM) : Option (SM) :=
  if (gI σ 0 13) = (1 : Int32) then
  (if (gI σ 0 10) ≤ (gI σ 0 12) then
  (lq1 (mM_next_243) LF σ)
  else
  (ck (bnd (gI σ 0 12) 400) <|
  bd1 (mM_isSmall (gI σ 6 ((gI σ 0 12).toNatClampNeg))) fun r5 =>
  if r5 = (0 : Int32) then
  (lq1 (mM_next_243) LF σ)
  else
  (if (10 : Int32) ≤ ((gI σ 0 12) - (gI σ 0 11)) then
  (mM_next_227 k149 (-1 : Int64) σ)
  else
  (ck (bnd (gI σ 0 12) 400) <|
  mM_next_227 k149 ((((gL σ 0 14) * (32 : Int64)) + (gI σ 6 ((gI σ 0 12).toNatClampNeg)).toInt64) - (96 : Int64)) σ))))
  else
  (lq1 (mM_next_243) LF σ)
def mM_next_114  (t0 : Int32) (σ : SM) : Option (SM) :=
  st1 (sI σ 0 13 t0) fun σ1 =>
  if (gI σ1 0 13) = (3 : Int32) then
  (ck (bnd (gI σ1 0 11) 400) <|
  st1 (sL σ1 0 14 ((gI σ1 6 ((gI σ1 0 11).toNatClampNeg)).toInt64)) fun σ5 =>
  st1 (sI σ5 0 12 ((gI σ5 0 12) + (1 : Int32))) fun σ7 =>
  lq1 (mM_next_149) LF σ7)
  else
  (lq1 (mM_next_149) LF σ1)
def mM_next_46  (σ : SM) : Option (SM) :=
  st1 (sI σ 0 12 (gI σ 0 11)) fun σ1 =>
  st1 (sL σ1 0 14 (0 : Int64)) fun σ3 =>
  if (gI σ3 0 11) = (gI σ3 0 10) then
  (mM_next_114 (0 : Int32) σ3)
  else
  (ck (bnd (gI σ3 0 11) 400) <|
  bd1 (mM_isSmall (gI σ3 6 ((gI σ3 0 11).toNatClampNeg))) fun r8 =>
  if r8 = (0 : Int32) then
  (ck (bnd (gI σ3 0 11) 400) <|
  bd1 (mM_isDigit (gI σ3 6 ((gI σ3 0 11).toNatClampNeg))) fun r12 =>
  if r12 = (0 : Int32) then
  (mM_next_114 (3 : Int32) σ3)
  else
  (mM_next_114 (2 : Int32) σ3))
  else
  (mM_next_114 (1 : Int32) σ3))
def mM_next_8  (k8 : SM → Option (SM)) (σ : SM) : Option (SM) :=
  if (gI σ 0 10) ≤ (gI σ 0 11) then
  (mM_next_46 σ)
  else
  (ck (bnd (gI σ 0 11) 400) <|
  if (gI σ 6 ((gI σ 0 11).toNatClampNeg)) = (32 : Int32) then
  (st1 (sI σ 0 11 ((gI σ 0 11) + (1 : Int32))) fun σ4 =>
  k8 σ4)
  else
  (mM_next_46 σ))
def mM_next (σ : SM) : Option (SM) :=
  st1 (sI σ 0 11 (gI σ 0 12)) fun σ1 =>
  lq1 (mM_next_8) LF σ1
def mM_begin (σ : SM) : Option (SM) :=
  st1 (sI σ 0 12 (0 : Int32)) fun σ1 =>
  st1 (sI σ1 0 16 (0 : Int32)) fun σ3 =>
  st1 (sI σ3 0 15 (-1 : Int32)) fun σ5 =>
  bd1 (mM_next  σ5) fun σ8 =>
  some σ8
def mM_isWord (p0 : Int64) (σ : SM) : Option (Int32) :=
  if (gI σ 0 13) = (1 : Int32) then
  (if (gL σ 0 14) = p0 then
  (some (1 : Int32))
  else
  (some (0 : Int32)))
  else
  (some (0 : Int32))
def mM_headAt_40 (σ : SM) (u : Unit) : Option (Int32) :=
  bd1 (mM_isWord (659105125 : Int64) σ) fun r2 =>
  if r2 = (0 : Int32) then
  (bd1 (mM_isWord (494 : Int64) σ) fun r5 =>
  if r5 = (0 : Int32) then
  (bd1 (mM_isWord (15558 : Int64) σ) fun r8 =>
  if r8 = (0 : Int32) then
  (some (3 : Int32))
  else
  (some (2 : Int32)))
  else
  (some (1 : Int32)))
  else
  (some (0 : Int32))
def mM_headAt_104 (σ : SM) (u : Unit) : Option (Int32) :=
  bd1 (mM_isWord (1279278 : Int64) σ) fun r2 =>
  if r2 = (0 : Int32) then
  (some (5 : Int32))
  else
  (some (4 : Int32))
def mM_headAt (σ : SM) : Option (Int32) :=
  bd1 (mM_isWord (659105125 : Int64) σ) fun r2 =>
  if r2 = (0 : Int32) then
  (bd1 (mM_isWord (494 : Int64) σ) fun r5 =>
  if r5 = (0 : Int32) then
  (bd1 (mM_isWord (15558 : Int64) σ) fun r8 =>
  if r8 = (0 : Int32) then
  (bd1 (mM_isWord (736548 : Int64) σ) fun r11 =>
  if r11 = (0 : Int32) then
  (bd1 (mM_isWord (1279278 : Int64) σ) fun r14 =>
  if r14 = (0 : Int32) then
  (bd1 (mM_isWord (441972 : Int64) σ) fun r17 =>
  if r17 = (0 : Int32) then
  (bd1 (mM_isWord (6194 : Int64) σ) fun r20 =>
  if r20 = (0 : Int32) then
  (bd1 (mM_isWord (6327 : Int64) σ) fun r23 =>
  if r23 = (0 : Int32) then
  (some (-1 : Int32))
  else
  (some (7 : Int32)))
  else
  (some (6 : Int32)))
  else
  (mM_headAt_104 σ ()))
  else
  (mM_headAt_104 σ ()))
  else
  (mM_headAt_40 σ ()))
  else
  (mM_headAt_40 σ ()))
  else
  (mM_headAt_40 σ ()))
  else
  (mM_headAt_40 σ ())
def mM_must_24  (σ : SM) : Option (SM) :=
  if (gI σ 0 16) = (0 : Int32) then
  (bd1 (mM_next  σ) fun σ3 =>
  some σ3)
  else
  (some σ)
def mM_must (p0 : Int32) (σ : SM) : Option (SM) :=
  if (gI σ 0 16) = (0 : Int32) then
  (if p0 = (0 : Int32) then
  (st1 (sI σ 0 16 (1 : Int32)) fun σ3 =>
  st1 (sI σ3 0 15 (gI σ3 0 11)) fun σ5 =>
  mM_must_24 σ5)
  else
  (mM_must_24 σ))
  else
  (mM_must_24 σ)
def mM_number_33  (v5 : Int32) (t0 : Int32) (σ : SM) : Option (Int32 × SM) :=
  bd1 (mM_must t0 σ) fun σ2 =>
  some (v5, σ2)
def mM_number_32  (v5 : Int32) (σ : SM) : Option (Int32 × SM) :=
  mM_number_33 v5 (0 : Int32) σ
def mM_number (p0 : Int64) (p1 : Int64) (σ : SM) : Option (Int32 × SM) :=
  if (gI σ 0 13) = (2 : Int32) then
  (bd1 (mM_in (gL σ 0 14) p0 p1) fun r3 =>
  if r3 = (0 : Int32) then
  (mM_number_32 ((gL σ 0 14).toInt32) σ)
  else
  (mM_number_33 ((gL σ 0 14).toInt32) (1 : Int32) σ))
  else
  (mM_number_32 ((gL σ 0 14).toInt32) σ)
def mM_push (p0 : Int32) (p1 : Int32) (σ : SM) : Option (SM) :=
  ck (bnd (gI σ 0 25) 400) <|
  st1 (sI σ 10 ((gI σ 0 25).toNatClampNeg) p0) fun σ2 =>
  ck (bnd (gI σ2 0 25) 400) <|
  st1 (sI σ2 11 ((gI σ2 0 25).toNatClampNeg) p1) fun σ5 =>
  st1 (sI σ5 0 25 ((gI σ5 0 25) + (1 : Int32))) fun σ7 =>
  some σ7
def mM_isSign (p0 : Int32) (σ : SM) : Option (Int32) :=
  if (gI σ 0 13) = (3 : Int32) then
  (if (gL σ 0 14) = p0.toInt64 then
  (some (1 : Int32))
  else
  (some (0 : Int32)))
  else
  (some (0 : Int32))
def mM_open_15  (v1 : Int32) (t0 : Int32) (σ : SM) : Option (SM) :=
  bd1 (mM_must t0 σ) fun σ2 =>
  if (gI σ2 0 16) = (0 : Int32) then
  (st1 (sI σ2 0 26 ((gI σ2 0 26) + (1 : Int32))) fun σ4 =>
  bd1 (mM_push v1 (0 : Int32) σ4) fun σ7 =>
  some σ7)
  else
  (some σ2)
def mM_open (p0 : Int32) (σ : SM) : Option (SM) :=
  if (8 : Int32) ≤ (gI σ 0 26) then
  (mM_open_15 p0 (0 : Int32) σ)
  else
  (mM_open_15 p0 (1 : Int32) σ)
def mM_plainAt_30 (σ : SM) (u : Unit) : Option (Int32) :=
  bd1 (mM_isWord (763077 : Int64) σ) fun r2 =>
  if r2 = (0 : Int32) then
  (bd1 (mM_isWord (394885 : Int64) σ) fun r5 =>
  if r5 = (0 : Int32) then
  (some (14 : Int32))
  else
  (some (13 : Int32)))
  else
  (some (12 : Int32))
def mM_plainAt (σ : SM) : Option (Int32) :=
  bd1 (mM_isWord (763077 : Int64) σ) fun r2 =>
  if r2 = (0 : Int32) then
  (bd1 (mM_isWord (394885 : Int64) σ) fun r5 =>
  if r5 = (0 : Int32) then
  (bd1 (mM_isWord (773205170 : Int64) σ) fun r8 =>
  if r8 = (0 : Int32) then
  (bd1 (mM_isWord (14145700 : Int64) σ) fun r11 =>
  if r11 = (0 : Int32) then
  (bd1 (mM_isWord (86486190 : Int64) σ) fun r14 =>
  if r14 = (0 : Int32) then
  (some (-1 : Int32))
  else
  (some (16 : Int32)))
  else
  (some (15 : Int32)))
  else
  (mM_plainAt_30 σ ()))
  else
  (mM_plainAt_30 σ ()))
  else
  (mM_plainAt_30 σ ())
def mM_emit (p0 : Int32) (p1 : Int32) (σ : SM) : Option (SM) :=
  ck (bnd (gI σ 0 19) 400) <|
  st1 (sI σ 8 ((gI σ 0 19).toNatClampNeg) p0) fun σ2 =>
  ck (bnd (gI σ2 0 19) 400) <|
  st1 (sI σ2 9 ((gI σ2 0 19).toNatClampNeg) p1) fun σ5 =>
  st1 (sI σ5 0 19 ((gI σ5 0 19) + (1 : Int32))) fun σ7 =>
  some σ7
def mM_leaf_19  (v2 : Int32) (v3 : Int32) (t0 : Int32) (σ : SM) : Option (SM) :=
  bd1 (mM_must t0 σ) fun σ2 =>
  if (gI σ2 0 16) = (0 : Int32) then
  (bd1 (mM_emit v2 v3 σ2) fun σ5 =>
  st1 (sI σ5 0 22 ((gI σ5 0 22) + (1 : Int32))) fun σ6 =>
  some σ6)
  else
  (some σ2)
def mM_leaf_18  (v2 : Int32) (v3 : Int32) (σ : SM) : Option (SM) :=
  mM_leaf_19 v2 v3 (0 : Int32) σ
def mM_leaf (p0 : Int32) (p1 : Int32) (p2 : Int32) (σ : SM) : Option (SM) :=
  if p0 = (0 : Int32) then
  (mM_leaf_18 p1 p2 σ)
  else
  (if (50 : Int32) ≤ (gI σ 0 22) then
  (mM_leaf_18 p1 p2 σ)
  else
  (mM_leaf_19 p1 p2 (1 : Int32) σ))
def mM_partAt_40 (σ : SM) (u : Unit) : Option (Int32) :=
  bd1 (mM_isWord (1253 : Int64) σ) fun r2 =>
  if r2 = (0 : Int32) then
  (bd1 (mM_isWord (8902245 : Int64) σ) fun r5 =>
  if r5 = (0 : Int32) then
  (bd1 (mM_isWord (17171557 : Int64) σ) fun r8 =>
  if r8 = (0 : Int32) then
  (some (4 : Int32))
  else
  (some (3 : Int32)))
  else
  (some (2 : Int32)))
  else
  (some (1 : Int32))
def mM_partAt_124 (σ : SM) (u : Unit) : Option (Int32) :=
  bd1 (mM_isWord (4153 : Int64) σ) fun r2 =>
  if r2 = (0 : Int32) then
  (bd1 (mM_isWord (14726323 : Int64) σ) fun r5 =>
  if r5 = (0 : Int32) then
  (bd1 (mM_isWord (538449491 : Int64) σ) fun r8 =>
  if r8 = (0 : Int32) then
  (some (8 : Int32))
  else
  (some (7 : Int32)))
  else
  (some (6 : Int32)))
  else
  (some (5 : Int32))
def mM_partAt (σ : SM) : Option (Int32) :=
  bd1 (mM_isWord (1253 : Int64) σ) fun r2 =>
  if r2 = (0 : Int32) then
  (bd1 (mM_isWord (8902245 : Int64) σ) fun r5 =>
  if r5 = (0 : Int32) then
  (bd1 (mM_isWord (17171557 : Int64) σ) fun r8 =>
  if r8 = (0 : Int32) then
  (bd1 (mM_isWord (627764 : Int64) σ) fun r11 =>
  if r11 = (0 : Int32) then
  (bd1 (mM_isWord (4153 : Int64) σ) fun r14 =>
  if r14 = (0 : Int32) then
  (bd1 (mM_isWord (14726323 : Int64) σ) fun r17 =>
  if r17 = (0 : Int32) then
  (bd1 (mM_isWord (538449491 : Int64) σ) fun r20 =>
  if r20 = (0 : Int32) then
  (bd1 (mM_isWord (7657646 : Int64) σ) fun r23 =>
  if r23 = (0 : Int32) then
  (bd1 (mM_isWord (17076 : Int64) σ) fun r26 =>
  if r26 = (0 : Int32) then
  (bd1 (mM_isWord (654812564 : Int64) σ) fun r29 =>
  if r29 = (0 : Int32) then
  (bd1 (mM_isWord (409204 : Int64) σ) fun r32 =>
  if r32 = (0 : Int32) then
  (some (-1 : Int32))
  else
  (some (11 : Int32)))
  else
  (some (10 : Int32)))
  else
  (some (9 : Int32)))
  else
  (mM_partAt_124 σ ()))
  else
  (mM_partAt_124 σ ()))
  else
  (mM_partAt_124 σ ()))
  else
  (mM_partAt_124 σ ()))
  else
  (mM_partAt_40 σ ()))
  else
  (mM_partAt_40 σ ()))
  else
  (mM_partAt_40 σ ()))
  else
  (mM_partAt_40 σ ())
def mM_readPart_85  (t0 : Int32) (t1 : Int32) (t2 : Int32) (σ : SM) : Option (Int32 × SM) :=
  bd1 (mM_leaf t2 t1 t0 σ) fun σ2 =>
  some ((3 : Int32), σ2)
def mM_readPart_72  (v2 : Int32) (t0 : Int32) (t1 : Int32) (σ : SM) : Option (Int32 × SM) :=
  if v2 = (0 : Int32) then
  (mM_readPart_85 (0 : Int32) t0 t1 σ)
  else
  (mM_readPart_85 ((gL σ 0 14).toInt32) t0 t1 σ)
def mM_readPart_62  (v1 : Int32) (v2 : Int32) (t0 : Int32) (σ : SM) : Option (Int32 × SM) :=
  if v1 = (-1 : Int32) then
  (mM_readPart_72 v2 (0 : Int32) t0 σ)
  else
  (mM_readPart_72 v2 v1 t0 σ)
def mM_readPart_57  (v1 : Int32) (v2 : Int32) (σ : SM) : Option (Int32 × SM) :=
  mM_readPart_62 v1 v2 (1 : Int32) σ
def mM_readPart_46  (v1 : Int32) (t0 : Int32) (σ : SM) : Option (Int32 × SM) :=
  if v1 = (-1 : Int32) then
  (if t0 = (0 : Int32) then
  (mM_readPart_62 v1 t0 (0 : Int32) σ)
  else
  (mM_readPart_57 v1 t0 σ))
  else
  (mM_readPart_57 v1 t0 σ)
def mM_readPart_45  (v1 : Int32) (σ : SM) : Option (Int32 × SM) :=
  mM_readPart_46 v1 (0 : Int32) σ
def mM_readPart (σ : SM) : Option (Int32 × SM) :=
  bd1 (mM_isSign (91 : Int32) σ) fun r2 =>
  if r2 = (0 : Int32) then
  (bd1 (mM_partAt  σ) fun r5 =>
  if (gI σ 0 13) = (2 : Int32) then
  (if (100000 : Int64) < (gL σ 0 14) then
  (mM_readPart_45 r5 σ)
  else
  (mM_readPart_46 r5 (1 : Int32) σ))
  else
  (mM_readPart_45 r5 σ))
  else
  (bd1 (mM_open (31 : Int32) σ) fun σ9 =>
  some ((1 : Int32), σ9))
def mM_readPlain (σ : SM) : Option (Int32 × SM) :=
  bd1 (mM_isWord (14836 : Int64) σ) fun r2 =>
  if r2 = (0 : Int32) then
  (bd1 (mM_isSign (40 : Int32) σ) fun r5 =>
  if r5 = (0 : Int32) then
  (bd1 (mM_plainAt  σ) fun r8 =>
  if r8 = (-1 : Int32) then
  (bd2 (mM_readPart  σ) fun r11 σ12 =>
  some (r11, σ12))
  else
  (bd1 (mM_leaf (1 : Int32) r8 (0 : Int32) σ) fun σ14 =>
  some ((2 : Int32), σ14)))
  else
  (bd1 (mM_open (30 : Int32) σ) fun σ16 =>
  some ((0 : Int32), σ16)))
  else
  (bd1 (mM_push (27 : Int32) (0 : Int32) σ) fun σ18 =>
  bd1 (mM_next  σ18) fun σ20 =>
  some ((0 : Int32), σ20))
def mM_binds (p0 : Int32) : Option (Int32) :=
  if p0 < (30 : Int32) then
  (if p0 = (29 : Int32) then
  (some (1 : Int32))
  else
  (if p0 = (28 : Int32) then
  (some (2 : Int32))
  else
  (if p0 = (27 : Int32) then
  (some (3 : Int32))
  else
  (if p0 < (24 : Int32) then
  (if p0 < (22 : Int32) then
  (some (5 : Int32))
  else
  (some (6 : Int32)))
  else
  (some (4 : Int32))))))
  else
  (some (0 : Int32))
def mM_settle_63  (k0 : Int32 → SM → Option (SM)) (v1 : Int32) (σ : SM) : Option (SM) :=
  ck (bnd (gI σ 0 25) 400) <|
  ck (bnd (gI σ 11 ((gI σ 0 25).toNatClampNeg)) 400) <|
  st1 (sI σ 9 ((gI σ 11 ((gI σ 0 25).toNatClampNeg)).toNatClampNeg) (gI σ 0 19)) fun σ3 =>
  k0 v1 σ3
def mM_settle_0  (k0 : Int32 → SM → Option (SM)) (v1 : Int32) (σ : SM) : Option (SM) :=
  if (gI σ 0 25) ≤ (0 : Int32) then
  (some σ)
  else
  (ck (bnd ((gI σ 0 25) - (1 : Int32)) 400) <|
  bd1 (mM_binds (gI σ 10 (((gI σ 0 25) - (1 : Int32)).toNatClampNeg))) fun r4 =>
  if r4 < v1 then
  (some σ)
  else
  (st1 (sI σ 0 25 ((gI σ 0 25) - (1 : Int32))) fun σ6 =>
  ck (bnd (gI σ6 0 25) 400) <|
  if (gI σ6 10 ((gI σ6 0 25).toNatClampNeg)) = (28 : Int32) then
  (mM_settle_63 k0 v1 σ6)
  else
  (ck (bnd (gI σ6 0 25) 400) <|
  if (gI σ6 10 ((gI σ6 0 25).toNatClampNeg)) = (29 : Int32) then
  (mM_settle_63 k0 v1 σ6)
  else
  (ck (bnd (gI σ6 0 25) 400) <|
  bd1 (mM_emit (gI σ6 10 ((gI σ6 0 25).toNatClampNeg)) (0 : Int32) σ6) fun σ14 =>
  k0 v1 σ14))))
def mM_settle (p0 : Int32) (σ : SM) : Option (SM) :=
  lq2 (mM_settle_0) LF p0 σ
def mM_inner_33 (σ : SM) (k4 : Int32 → Int32 → Option (Int32)) (v2 : Int32) (t0 : Int32) : Option (Int32) :=
  k4 t0 (v2 + (1 : Int32))
def mM_inner_4 (σ : SM) (k4 : Int32 → Int32 → Option (Int32)) (v1 : Int32) (v2 : Int32) : Option (Int32) :=
  if (gI σ 0 25) ≤ v2 then
  (some v1)
  else
  (ck (bnd v2 400) <|
  if (gI σ 10 (v2.toNatClampNeg)) < (30 : Int32) then
  (mM_inner_33 σ k4 v2 v1)
  else
  (ck (bnd v2 400) <|
  mM_inner_33 σ k4 v2 (gI σ 10 (v2.toNatClampNeg))))
def mM_inner (σ : SM) : Option (Int32) :=
  lq2 (mM_inner_4 σ) LF (-1 : Int32) (0 : Int32)
def mM_isCompared_36 (σ : SM) (v1 : Int32) : Option (Int32) :=
  if v1 < (0 : Int32) then
  (some (0 : Int32))
  else
  (ck (bnd v1 400) <|
  bd1 (mM_in ((gI σ 10 (v1.toNatClampNeg)).toInt64) (24 : Int64) (26 : Int64)) fun r4 =>
  if r4 = (0 : Int32) then
  (some (0 : Int32))
  else
  (some (1 : Int32)))
def mM_isCompared_7 (σ : SM) (k7 : Int32 → Option (Int32)) (v1 : Int32) : Option (Int32) :=
  if v1 < (0 : Int32) then
  (mM_isCompared_36 σ v1)
  else
  (ck (bnd v1 400) <|
  bd1 (mM_in ((gI σ 10 (v1.toNatClampNeg)).toInt64) (20 : Int64) (23 : Int64)) fun r4 =>
  if r4 = (0 : Int32) then
  (mM_isCompared_36 σ v1)
  else
  (k7 (v1 + (-1 : Int32))))
def mM_isCompared (σ : SM) : Option (Int32) :=
  lq1 (mM_isCompared_7 σ) LF ((gI σ 0 25) - (1 : Int32))
def mM_behindSum_210  (v2 : Int32) (t0 : Int32) (σ : SM) : Option (Int32 × SM) :=
  bd1 (mM_must t0 σ) fun σ2 =>
  if (gI σ2 0 16) = (0 : Int32) then
  (bd1 (mM_settle (5 : Int32) σ2) fun σ5 =>
  bd1 (mM_push v2 (0 : Int32) σ5) fun σ7 =>
  some ((1 : Int32), σ7))
  else
  (some ((1 : Int32), σ2))
def mM_behindSum_205  (v2 : Int32) (σ : SM) : Option (Int32 × SM) :=
  mM_behindSum_210 v2 (1 : Int32) σ
def mM_behindSum_188  (t0 : Int32) (σ : SM) : Option (Int32 × SM) :=
  if t0 = (26 : Int32) then
  (bd1 (mM_isSign (61 : Int32) σ) fun r3 =>
  if r3 = (0 : Int32) then
  (mM_behindSum_210 t0 (0 : Int32) σ)
  else
  (mM_behindSum_205 t0 σ))
  else
  (mM_behindSum_205 t0 σ)
def mM_behindSum_149  (σ : SM) : Option (Int32 × SM) :=
  bd1 (mM_isCompared  σ) fun r2 =>
  if r2 = (0 : Int32) then
  (bd1 (mM_isSign (60 : Int32) σ) fun r5 =>
  if r5 = (0 : Int32) then
  (bd1 (mM_isSign (62 : Int32) σ) fun r8 =>
  if r8 = (0 : Int32) then
  (mM_behindSum_188 (26 : Int32) σ)
  else
  (mM_behindSum_188 (25 : Int32) σ))
  else
  (mM_behindSum_188 (24 : Int32) σ))
  else
  (some ((2 : Int32), σ))
def mM_behindSum_57  (v1 : Int32) (t0 : Int32) (σ : SM) : Option (Int32 × SM) :=
  if t0 = (-1 : Int32) then
  (bd1 (mM_inner  σ) fun r3 =>
  if r3 = (31 : Int32) then
  (bd1 (mM_isSign (93 : Int32) σ) fun r8 =>
  bd1 (mM_must r8 σ) fun σ10 =>
  if (gI σ10 0 16) = (0 : Int32) then
  (bd1 (mM_settle (5 : Int32) σ10) fun σ13 =>
  st1 (sI σ13 0 25 ((gI σ13 0 25) - (1 : Int32))) fun σ14 =>
  st1 (sI σ14 0 26 ((gI σ14 0 26) - (1 : Int32))) fun σ16 =>
  some ((3 : Int32), σ16))
  else
  (some ((3 : Int32), σ10)))
  else
  (if r3 = (-1 : Int32) then
  (if v1 = (0 : Int32) then
  (some ((4 : Int32), σ))
  else
  (mM_behindSum_149 σ))
  else
  (mM_behindSum_149 σ)))
  else
  (bd1 (mM_binds t0) fun r19 =>
  bd1 (mM_settle r19 σ) fun σ21 =>
  bd1 (mM_push t0 (0 : Int32) σ21) fun σ23 =>
  bd1 (mM_next  σ23) fun σ25 =>
  some ((1 : Int32), σ25))
def mM_behindSum (p0 : Int32) (σ : SM) : Option (Int32 × SM) :=
  bd1 (mM_isSign (43 : Int32) σ) fun r2 =>
  if r2 = (0 : Int32) then
  (bd1 (mM_isSign (45 : Int32) σ) fun r5 =>
  if r5 = (0 : Int32) then
  (bd1 (mM_isSign (42 : Int32) σ) fun r8 =>
  if r8 = (0 : Int32) then
  (bd1 (mM_isSign (47 : Int32) σ) fun r11 =>
  if r11 = (0 : Int32) then
  (mM_behindSum_57 p0 (-1 : Int32) σ)
  else
  (mM_behindSum_57 p0 (23 : Int32) σ))
  else
  (mM_behindSum_57 p0 (22 : Int32) σ))
  else
  (mM_behindSum_57 p0 (21 : Int32) σ))
  else
  (mM_behindSum_57 p0 (20 : Int32) σ)
def mM_behindTest_66  (t0 : Int32) (σ : SM) : Option (Int32 × SM) :=
  bd1 (mM_emit t0 (0 : Int32) σ) fun σ2 =>
  bd1 (mM_next  σ2) fun σ4 =>
  some ((0 : Int32), σ4)
def mM_behindTest_47  (v1 : Int32) (t0 : Int32) (σ : SM) : Option (Int32 × SM) :=
  bd1 (mM_push t0 (gI σ 0 19) σ) fun σ2 =>
  if v1 = (0 : Int32) then
  (mM_behindTest_66 (29 : Int32) σ2)
  else
  (mM_behindTest_66 (28 : Int32) σ2)
def mM_behindTest_32  (v1 : Int32) (t0 : Int32) (σ : SM) : Option (Int32 × SM) :=
  bd1 (mM_settle t0 σ) fun σ2 =>
  if v1 = (0 : Int32) then
  (mM_behindTest_47 v1 (29 : Int32) σ2)
  else
  (mM_behindTest_47 v1 (28 : Int32) σ2)
def mM_behindTest_22  (v1 : Int32) (σ : SM) : Option (Int32 × SM) :=
  if v1 = (0 : Int32) then
  (mM_behindTest_32 v1 (1 : Int32) σ)
  else
  (mM_behindTest_32 v1 (2 : Int32) σ)
def mM_behindTest (σ : SM) : Option (Int32 × SM) :=
  bd1 (mM_isWord (1476 : Int64) σ) fun r2 =>
  if r2 = (0 : Int32) then
  (bd1 (mM_isWord (498 : Int64) σ) fun r5 =>
  if r5 = (0 : Int32) then
  (bd1 (mM_inner  σ) fun r8 =>
  if r8 = (-1 : Int32) then
  (some ((4 : Int32), σ))
  else
  (bd1 (mM_isSign (41 : Int32) σ) fun r11 =>
  bd1 (mM_must r11 σ) fun σ13 =>
  if (gI σ13 0 16) = (0 : Int32) then
  (bd1 (mM_settle (1 : Int32) σ13) fun σ16 =>
  st1 (sI σ16 0 25 ((gI σ16 0 25) - (1 : Int32))) fun σ17 =>
  st1 (sI σ17 0 26 ((gI σ17 0 26) - (1 : Int32))) fun σ19 =>
  some ((2 : Int32), σ19))
  else
  (some ((2 : Int32), σ13))))
  else
  (mM_behindTest_22 r2 σ))
  else
  (mM_behindTest_22 r2 σ)
def mM_readExpression_76  (σ : SM) : Option (SM) :=
  bd1 (mM_settle (1 : Int32) σ) fun σ2 =>
  some σ2
def mM_readExpression_72  (k20 : Int32 → Int32 → SM → Option (SM)) (v1 : Int32) (t0 : Int32) (σ : SM) : Option (SM) :=
  k20 v1 t0 σ
def mM_readExpression_20  (k20 : Int32 → Int32 → SM → Option (SM)) (v1 : Int32) (v2 : Int32) (σ : SM) : Option (SM) :=
  if (gI σ 0 16) = (0 : Int32) then
  (if v2 = (4 : Int32) then
  (mM_readExpression_76 σ)
  else
  (if v2 = (0 : Int32) then
  (bd2 (mM_readPlain  σ) fun r16 σ17 =>
  mM_readExpression_72 k20 v1 r16 σ17)
  else
  (if v2 = (1 : Int32) then
  (bd2 (mM_readPart  σ) fun r13 σ14 =>
  mM_readExpression_72 k20 v1 r13 σ14)
  else
  (if v2 = (3 : Int32) then
  (bd2 (mM_behindSum v1 σ) fun r10 σ11 =>
  mM_readExpression_72 k20 v1 r10 σ11)
  else
  (bd2 (mM_behindTest  σ) fun r7 σ8 =>
  mM_readExpression_72 k20 v1 r7 σ8)))))
  else
  (mM_readExpression_76 σ)
def mM_readExpression_19  (v1 : Int32) (t0 : Int32) (σ : SM) : Option (SM) :=
  lq3 (mM_readExpression_20) LF v1 t0 σ
def mM_readExpression (p0 : Int32) (σ : SM) : Option (SM) :=
  st1 (sI σ 0 25 (0 : Int32)) fun σ1 =>
  st1 (sI σ1 0 26 (0 : Int32)) fun σ3 =>
  if p0 = (0 : Int32) then
  (mM_readExpression_19 p0 (1 : Int32) σ3)
  else
  (mM_readExpression_19 p0 (0 : Int32) σ3)
def mM_readClause_225  (v2 : Int32) (σ : SM) : Option (SM) :=
  ck (bnd (v2 + (6 : Int32)) 96) <|
  st1 (sI σ 7 ((v2 + (6 : Int32)).toNatClampNeg) (gI σ 0 19)) fun σ2 =>
  some σ2
def mM_readClause_175  (v2 : Int32) (σ : SM) : Option (SM) :=
  ck (bnd (v2 + (4 : Int32)) 96) <|
  st1 (sI σ 7 ((v2 + (4 : Int32)).toNatClampNeg) (gI σ 0 19)) fun σ2 =>
  ck (bnd (v2 + (5 : Int32)) 96) <|
  st1 (sI σ2 7 ((v2 + (5 : Int32)).toNatClampNeg) (gI σ2 0 19)) fun σ5 =>
  if (gI σ5 0 16) = (0 : Int32) then
  (bd1 (mM_isWord (294 : Int64) σ5) fun r9 =>
  if r9 = (0 : Int32) then
  (mM_readClause_225 v2 σ5)
  else
  (bd1 (mM_next  σ5) fun σ12 =>
  bd1 (mM_readExpression (1 : Int32) σ12) fun σ14 =>
  mM_readClause_225 v2 σ14))
  else
  (mM_readClause_225 v2 σ5)
def mM_readClause_153  (v1 : Int32) (v2 : Int32) (σ : SM) : Option (SM) :=
  ck (bnd (v2 + (3 : Int32)) 96) <|
  st1 (sI σ 7 ((v2 + (3 : Int32)).toNatClampNeg) (gI σ 0 19)) fun σ2 =>
  if v1 < (5 : Int32) then
  (mM_readClause_175 v2 σ2)
  else
  (bd1 (mM_readExpression (0 : Int32) σ2) fun σ6 =>
  mM_readClause_175 v2 σ6)
def mM_readClause_46  (k46 : Int32 → Int32 → Int32 → SM → Option (SM)) (v1 : Int32) (v2 : Int32) (v3 : Int32) (σ : SM) : Option (SM) :=
  if (8 : Int32) ≤ v3 then
  (ck (bnd v2 96) <|
  st1 (sI σ 7 (v2.toNatClampNeg) v1) fun σ3 =>
  st1 (sI σ3 0 17 ((gI σ3 0 17) + (1 : Int32))) fun σ5 =>
  if v1 = (0 : Int32) then
  (bd2 (mM_number (0 : Int64) (19 : Int64) σ5) fun r16 σ17 =>
  ck (bnd (v2 + (1 : Int32)) 96) <|
  st1 (sI σ17 7 ((v2 + (1 : Int32)).toNatClampNeg) r16) fun σ19 =>
  bd1 (mM_isWord (113301093 : Int64) σ19) fun r22 =>
  bd1 (mM_must r22 σ19) fun σ24 =>
  bd2 (mM_number (0 : Int64) (11 : Int64) σ24) fun r26 σ27 =>
  ck (bnd (v2 + (2 : Int32)) 96) <|
  st1 (sI σ27 7 ((v2 + (2 : Int32)).toNatClampNeg) r26) fun σ29 =>
  some σ29)
  else
  (if v1 = (3 : Int32) then
  (bd2 (mM_number (0 : Int64) (9 : Int64) σ5) fun r10 σ11 =>
  ck (bnd (v2 + (1 : Int32)) 96) <|
  st1 (sI σ11 7 ((v2 + (1 : Int32)).toNatClampNeg) r10) fun σ13 =>
  mM_readClause_153 v1 v2 σ13)
  else
  (mM_readClause_153 v1 v2 σ5)))
  else
  (ck (bnd (v2 + v3) 96) <|
  st1 (sI σ 7 ((v2 + v3).toNatClampNeg) (0 : Int32)) fun σ32 =>
  k46 v1 v2 (v3 + (1 : Int32)) σ32)
def mM_readClause_25  (v1 : Int32) (t0 : Int32) (σ : SM) : Option (SM) :=
  bd1 (mM_must t0 σ) fun σ2 =>
  if (gI σ2 0 16) = (0 : Int32) then
  (lq4 (mM_readClause_46) LF v1 ((8 : Int32) * (gI σ2 0 17)) (0 : Int32) σ2)
  else
  (some σ2)
def mM_readClause_24  (v1 : Int32) (σ : SM) : Option (SM) :=
  mM_readClause_25 v1 (0 : Int32) σ
def mM_readClause (σ : SM) : Option (SM) :=
  bd1 (mM_headAt  σ) fun r2 =>
  if r2 = (-1 : Int32) then
  (mM_readClause_24 r2 σ)
  else
  (if (12 : Int32) ≤ (gI σ 0 17) then
  (mM_readClause_24 r2 σ)
  else
  (mM_readClause_25 r2 (1 : Int32) σ))
def mM_order_42  (t0 : Int32) (σ : SM) : Option (Int32 × SM) :=
  bd2 (mM_told t0 σ) fun r2 σ3 =>
  some (r2, σ3)
def mM_order_23  (v1 : Int32) (σ : SM) : Option (Int32 × SM) :=
  st1 (sI σ 0 10 (0 : Int32)) fun σ1 =>
  bd1 (mM_isDay v1) fun r4 =>
  if r4 = (0 : Int32) then
  (mM_order_42 (-1 : Int32) σ1)
  else
  (mM_order_42 (-5 : Int32) σ1)
def mM_order_200  (k200 : Int32 → Int32 → SM → Option (Int32 × SM)) (v2 : Int32) (v3 : Int32) (σ : SM) : Option (Int32 × SM) :=
  if (gI σ 0 19) ≤ v3 then
  (st1 (sI σ 1 2 ((gI σ 1 2) + (1 : Int32))) fun σ2 =>
  bd2 (mM_told ((gI σ2 1 2) - (1 : Int32)) σ2) fun r5 σ6 =>
  some (r5, σ6))
  else
  (ck (bnd v3 400) <|
  ck (bnd ((v2 + (98 : Int32)) + ((2 : Int32) * v3)) 23016) <|
  st1 (sI σ 1 (((v2 + (98 : Int32)) + ((2 : Int32) * v3)).toNatClampNeg) (gI σ 8 (v3.toNatClampNeg))) fun σ9 =>
  ck (bnd v3 400) <|
  ck (bnd (((v2 + (98 : Int32)) + ((2 : Int32) * v3)) + (1 : Int32)) 23016) <|
  st1 (sI σ9 1 ((((v2 + (98 : Int32)) + ((2 : Int32) * v3)) + (1 : Int32)).toNatClampNeg) (gI σ9 9 (v3.toNatClampNeg))) fun σ13 =>
  k200 v2 (v3 + (1 : Int32)) σ13)
def mM_order_165  (k165 : Int32 → Int32 → SM → Option (Int32 × SM)) (v2 : Int32) (v3 : Int32) (σ : SM) : Option (Int32 × SM) :=
  if ((8 : Int32) * (gI σ 0 17)) ≤ v3 then
  (lq3 (mM_order_200) LF v2 (0 : Int32) σ)
  else
  (ck (bnd v3 96) <|
  ck (bnd ((v2 + (2 : Int32)) + v3) 23016) <|
  st1 (sI σ 1 (((v2 + (2 : Int32)) + v3).toNatClampNeg) (gI σ 7 (v3.toNatClampNeg))) fun σ4 =>
  k165 v2 (v3 + (1 : Int32)) σ4)
def mM_order_115  (v1 : Int32) (σ : SM) : Option (Int32 × SM) :=
  st1 (sI σ 0 10 (0 : Int32)) fun σ1 =>
  if (gI σ1 0 16) = (0 : Int32) then
  (bd1 (mM_textAt (gI σ1 1 2)) fun r5 =>
  ck (bnd r5 23016) <|
  st1 (sI σ1 1 (r5.toNatClampNeg) v1) fun σ7 =>
  ck (bnd (r5 + (1 : Int32)) 23016) <|
  st1 (sI σ7 1 ((r5 + (1 : Int32)).toNatClampNeg) (gI σ7 0 17)) fun σ10 =>
  lq3 (mM_order_165) LF r5 (0 : Int32) σ10)
  else
  (bd2 (mM_told (-6 : Int32) σ1) fun r13 σ14 =>
  some (r13, σ14))
def mM_order_96  (v1 : Int32) (σ : SM) : Option (Int32 × SM) :=
  if (gI σ 0 16) = (0 : Int32) then
  (if (gI σ 0 13) = (0 : Int32) then
  (mM_order_115 v1 σ)
  else
  (bd1 (mM_must (0 : Int32) σ) fun σ4 =>
  mM_order_115 v1 σ4))
  else
  (mM_order_115 v1 σ)
def mM_order_69  (k69 : Int32 → SM → Option (Int32 × SM)) (v1 : Int32) (σ : SM) : Option (Int32 × SM) :=
  if (gI σ 0 16) = (0 : Int32) then
  (bd1 (mM_isSign (59 : Int32) σ) fun r3 =>
  if r3 = (0 : Int32) then
  (mM_order_96 v1 σ)
  else
  (bd1 (mM_next  σ) fun σ6 =>
  bd1 (mM_readClause  σ6) fun σ8 =>
  k69 v1 σ8))
  else
  (mM_order_96 v1 σ)
def mM_order (p0 : Int32) (σ : SM) : Option (Int32 × SM) :=
  st1 (sI σ 0 0 (0 : Int32)) fun σ1 =>
  bd1 (mM_isDay p0) fun r4 =>
  if r4 = (0 : Int32) then
  (mM_order_23 p0 σ1)
  else
  (if (gI σ1 1 2) = (20 : Int32) then
  (mM_order_23 p0 σ1)
  else
  (bd1 (mM_begin  σ1) fun σ8 =>
  st1 (sI σ8 0 17 (0 : Int32)) fun σ9 =>
  st1 (sI σ9 0 19 (0 : Int32)) fun σ11 =>
  st1 (sI σ11 0 22 (0 : Int32)) fun σ13 =>
  bd1 (mM_readClause  σ13) fun σ16 =>
  lq2 (mM_order_69) LF p0 σ16))
def mM_force (p0 : Int32) (p1 : Int32) (p2 : Int32) (σ : SM) : Option (Int32 × SM) :=
  st1 (sI σ 0 0 (0 : Int32)) fun σ1 =>
  bd1 (mM_in (p0.toInt64) (0 : Int64) ((gI σ1 1 2).toInt64 - (1 : Int64))) fun r4 =>
  if r4 = (0 : Int32) then
  (some ((-1 : Int32), σ1))
  else
  (bd1 (mM_textAt p0) fun r7 =>
  ck (bnd (r7 + (1 : Int32)) 23016) <|
  bd1 (mM_in (p1.toInt64) (0 : Int64) ((gI σ1 1 ((r7 + (1 : Int32)).toNatClampNeg)).toInt64 - (1 : Int64))) fun r10 =>
  if r10 = (0 : Int32) then
  (some ((-1 : Int32), σ1))
  else
  (bd1 (mM_isDay p2) fun r13 =>
  if r13 = (0 : Int32) then
  (some ((-1 : Int32), σ1))
  else
  (bd1 (mM_findForce p2 σ1) fun σ16 =>
  ck (bnd p0 20) <|
  if (gI σ16 12 (p0.toNatClampNeg)) = (0 : Int32) then
  (some ((0 : Int32), σ16))
  else
  (ck (bnd (((12 : Int32) * p0) + p1) 240) <|
  if (gI σ16 13 ((((12 : Int32) * p0) + p1).toNatClampNeg)) = (0 : Int32) then
  (some ((1 : Int32), σ16))
  else
  (some ((0 : Int32), σ16))))))
def mM_ruleOf (p0 : Int32) (p1 : Int32) (σ : SM) : Option (Int32 × SM) :=
  bd2 (mM_find p0 (-1 : Int32) σ) fun r2 σ3 =>
  if r2 = (0 : Int32) then
  (some (p1, σ3))
  else
  (if (0 : Int64) ≤ (gL σ3 0 33) then
  (some ((gL σ3 0 33).toInt32, σ3))
  else
  (some ((0 : Int32), σ3)))
def mM_setPlace (p0 : Int32) (σ : SM) : Option (SM) :=
  bd1 (mM_setNothing  σ) fun σ2 =>
  st1 (sL σ2 14 3 (p0.toInt64)) fun σ3 =>
  bd1 (mM_placeAt p0) fun r6 =>
  ck (bnd r6 23016) <|
  st1 (sL σ3 14 4 ((gI σ3 1 (r6.toNatClampNeg)).toInt64)) fun σ8 =>
  ck (bnd p0 16) <|
  st1 (sL σ8 14 6 ((gI σ8 5 (p0.toNatClampNeg)).toInt64)) fun σ11 =>
  some σ11
def mM_rule_32  (v1 : Int32) (v2 : Int32) (v3 : Int32) (v4 : Int32) (σ : SM) : Option (Int32 × SM) :=
  bd1 (mM_isDay v2) fun r2 =>
  if r2 = (0 : Int32) then
  (some ((-1 : Int32), σ))
  else
  (bd1 (mM_isDay v3) fun r5 =>
  if r5 = (0 : Int32) then
  (some ((-1 : Int32), σ))
  else
  (bd1 (mM_knowBy v2 v3 σ) fun σ8 =>
  if v4 = (2 : Int32) then
  (bd1 (mM_setNothing  σ8) fun σ20 =>
  bd2 (mM_ruleOf (7 : Int32) (0 : Int32) σ20) fun r22 σ23 =>
  some (r22, σ23))
  else
  (bd1 (mM_setPlace v1 σ8) fun σ11 =>
  if v4 = (0 : Int32) then
  (bd2 (mM_ruleOf (5 : Int32) (1000 : Int32) σ11) fun r17 σ18 =>
  some (r17, σ18))
  else
  (bd2 (mM_ruleOf (6 : Int32) (200 : Int32) σ11) fun r14 σ15 =>
  some (r14, σ15)))))
def mM_rule (p0 : Int32) (p1 : Int32) (p2 : Int32) (p3 : Int32) (σ : SM) : Option (Int32 × SM) :=
  st1 (sI σ 0 0 (0 : Int32)) fun σ1 =>
  bd1 (mM_in (p3.toInt64) (0 : Int64) (2 : Int64)) fun r4 =>
  if r4 = (0 : Int32) then
  (some ((-1 : Int32), σ1))
  else
  (if (2 : Int32) ≤ p3 then
  (mM_rule_32 p0 p1 p2 p3 σ1)
  else
  (bd1 (mM_isPlace p0 σ1) fun r8 =>
  if r8 = (0 : Int32) then
  (some ((-1 : Int32), σ1))
  else
  (mM_rule_32 p0 p1 p2 p3 σ1)))
def mM_wish_22  (k22 : Int32 → Int32 → SM → Option (Int32 × SM)) (v1 : Int32) (v2 : Int32) (σ : SM) : Option (Int32 × SM) :=
  if (gI σ 0 34) ≤ v2 then
  (if (gI σ 0 34) = (7 : Int32) then
  (bd2 (mM_told (-5 : Int32) σ) fun r18 σ19 =>
  some (r18, σ19))
  else
  (ck (bnd (gI σ 0 34) 7) <|
  st1 (sI σ 16 ((gI σ 0 34).toNatClampNeg) v1) fun σ4 =>
  ck (bnd (gI σ4 0 34) 7) <|
  st1 (sI σ4 17 ((gI σ4 0 34).toNatClampNeg) (0 : Int32)) fun σ7 =>
  ck (bnd (gI σ7 0 34) 7) <|
  st1 (sI σ7 18 ((gI σ7 0 34).toNatClampNeg) (399 : Int32)) fun σ10 =>
  st1 (sI σ10 0 34 ((gI σ10 0 34) + (1 : Int32))) fun σ12 =>
  bd2 (mM_told (gI σ12 0 34) σ12) fun r15 σ16 =>
  some (r15, σ16)))
  else
  (ck (bnd v2 7) <|
  if (gI σ 16 (v2.toNatClampNeg)) = v1 then
  (bd2 (mM_told (-4 : Int32) σ) fun r23 σ24 =>
  some (r23, σ24))
  else
  (k22 v1 (v2 + (1 : Int32)) σ))
def mM_wish (p0 : Int32) (σ : SM) : Option (Int32 × SM) :=
  st1 (sI σ 0 0 (0 : Int32)) fun σ1 =>
  bd1 (mM_isPlace p0 σ1) fun r4 =>
  if r4 = (0 : Int32) then
  (bd2 (mM_told (-2 : Int32) σ1) fun r7 σ8 =>
  some (r7, σ8))
  else
  (lq3 (mM_wish_22) LF p0 (0 : Int32) σ1)
def mM_clear (σ : SM) : Option (Int32 × SM) :=
  st1 (sI σ 0 0 (0 : Int32)) fun σ1 =>
  st1 (sI σ1 0 34 (0 : Int32)) fun σ3 =>
  some ((gI σ1 0 34), σ3)
def mM_areThere_34 (σ : SM) (k4 : Int32 → Int32 → Option (Int32)) (v2 : Int32) (t0 : Int32) : Option (Int32) :=
  k4 t0 (v2 + (1 : Int32))
def mM_areThere_33 (σ : SM) (k4 : Int32 → Int32 → Option (Int32)) (v2 : Int32) : Option (Int32) :=
  mM_areThere_34 σ k4 v2 (0 : Int32)
def mM_areThere_4 (σ : SM) (k4 : Int32 → Int32 → Option (Int32)) (v1 : Int32) (v2 : Int32) : Option (Int32) :=
  if (gI σ 0 34) ≤ v2 then
  (ck (isZ v1) <|
  some v1)
  else
  (if v1 = (0 : Int32) then
  (mM_areThere_33 σ k4 v2)
  else
  (ck (bnd v2 7) <|
  bd1 (mM_isPlace (gI σ 16 (v2.toNatClampNeg)) σ) fun r6 =>
  if r6 = (0 : Int32) then
  (mM_areThere_33 σ k4 v2)
  else
  (mM_areThere_34 σ k4 v2 (1 : Int32))))
def mM_areThere (σ : SM) : Option (Int32) :=
  lq2 (mM_areThere_4 σ) LF (1 : Int32) (0 : Int32)
def mM_setRules_8  (k8 : Int32 → SM → Option (SM)) (v3 : Int32) (σ : SM) : Option (SM) :=
  if (gI σ 0 34) ≤ v3 then
  (some σ)
  else
  (ck (bnd v3 7) <|
  bd1 (mM_setPlace (gI σ 16 (v3.toNatClampNeg)) σ) fun σ4 =>
  bd2 (mM_ruleOf (5 : Int32) (1000 : Int32) σ4) fun r6 σ7 =>
  ck (bnd v3 7) <|
  st1 (sI σ7 19 (v3.toNatClampNeg) r6) fun σ9 =>
  bd2 (mM_ruleOf (6 : Int32) (200 : Int32) σ9) fun r12 σ13 =>
  ck (bnd v3 7) <|
  st1 (sI σ13 20 (v3.toNatClampNeg) r12) fun σ15 =>
  ck (bnd v3 7) <|
  st1 (sI σ15 21 (v3.toNatClampNeg) (0 : Int32)) fun σ18 =>
  k8 (v3 + (1 : Int32)) σ18)
def mM_setRules (p0 : Int32) (p1 : Int32) (σ : SM) : Option (SM) :=
  bd1 (mM_knowBy p0 p1 σ) fun σ2 =>
  lq2 (mM_setRules_8) LF (0 : Int32) σ2
def mM_ones_4  (k4 : Int32 → Int32 → Int32 → Option (Int32)) (v0 : Int32) (v1 : Int32) (v2 : Int32) : Option (Int32) :=
  if (8 : Int32) ≤ v2 then
  (some v1)
  else
  (k4 v0 (v1 + ((v0 >>> (v2 &&& 31)) &&& (1 : Int32))) (v2 + (1 : Int32)))
def mM_ones (p0 : Int32) : Option (Int32) :=
  lq3 (mM_ones_4) LF p0 (0 : Int32) (0 : Int32)
def mM_away_59 (σ : SM) (v4 : Int32) (t0 : Int32) : Option (Int32) :=
  if (0 : Int32) ≤ v4 then
  (some (t0 + v4))
  else
  (some (t0 + (-v4)))
def mM_away (p0 : Int32) (p1 : Int32) (σ : SM) : Option (Int32) :=
  bd1 (mM_placeAt p0) fun r2 =>
  ck (bnd (r2 + (1 : Int32)) 23016) <|
  bd1 (mM_placeAt p1) fun r5 =>
  ck (bnd (r5 + (1 : Int32)) 23016) <|
  bd1 (mM_placeAt p0) fun r8 =>
  ck (bnd (r8 + (2 : Int32)) 23016) <|
  bd1 (mM_placeAt p1) fun r11 =>
  ck (bnd (r11 + (2 : Int32)) 23016) <|
  if (0 : Int32) ≤ ((gI σ 1 ((r2 + (1 : Int32)).toNatClampNeg)) - (gI σ 1 ((r5 + (1 : Int32)).toNatClampNeg))) then
  (mM_away_59 σ ((gI σ 1 ((r8 + (2 : Int32)).toNatClampNeg)) - (gI σ 1 ((r11 + (2 : Int32)).toNatClampNeg))) ((gI σ 1 ((r2 + (1 : Int32)).toNatClampNeg)) - (gI σ 1 ((r5 + (1 : Int32)).toNatClampNeg))))
  else
  (mM_away_59 σ ((gI σ 1 ((r8 + (2 : Int32)).toNatClampNeg)) - (gI σ 1 ((r11 + (2 : Int32)).toNatClampNeg))) (-((gI σ 1 ((r2 + (1 : Int32)).toNatClampNeg)) - (gI σ 1 ((r5 + (1 : Int32)).toNatClampNeg)))))
def mM_mayLead (p0 : Int32) (p1 : Int32) (p2 : Int32) (p3 : Int32) (p4 : Int32) (σ : SM) : Option (Int32) :=
  if ((p2 >>> (p1 &&& 31)) &&& (1 : Int32)) = (0 : Int32) then
  (some (0 : Int32))
  else
  (ck (bnd p0 7) <|
  ck (bnd p1 7) <|
  bd1 (mM_away (gI σ 16 (p0.toNatClampNeg)) (gI σ 16 (p1.toNatClampNeg)) σ) fun r5 =>
  ck (bnd p0 7) <|
  if (gI σ 20 (p0.toNatClampNeg)) < r5 then
  (some (0 : Int32))
  else
  (ck (bnd p1 7) <|
  ck (bnd p0 7) <|
  ck (bnd (gI σ 16 (p0.toNatClampNeg)) 16) <|
  ck (bnd p1 7) <|
  if (gI σ 19 (p1.toNatClampNeg)) < ((gI σ 21 (p1.toNatClampNeg)) + (gI σ 5 ((gI σ 16 (p0.toNatClampNeg)).toNatClampNeg))) then
  (some (0 : Int32))
  else
  (if p4 = (-1 : Int32) then
  (some (1 : Int32))
  else
  (if p4 ≤ (p3 + r5) then
  (some (0 : Int32))
  else
  (some (1 : Int32))))))
def mM_leastBy_184  (k34 : Int32 → Int32 → Int32 → Int32 → Int32 → SM → Option (Int32 × SM)) (v1 : Int32) (v2 : Int32) (v3 : Int32) (v4 : Int32) (v5 : Int32) (σ : SM) : Option (Int32 × SM) :=
  if (v4 + (-1 : Int32)) < (0 : Int32) then
  (k34 v1 v2 v3 (v4 + (-1 : Int32)) v5 σ)
  else
  (ck (bnd (v4 + (-1 : Int32)) 7) <|
  ck (bnd (gI σ 22 ((v4 + (-1 : Int32)).toNatClampNeg)) 7) <|
  ck (bnd (v4 + (-1 : Int32)) 7) <|
  ck (bnd (gI σ 16 ((v4 + (-1 : Int32)).toNatClampNeg)) 16) <|
  ck (bnd (gI σ 22 ((v4 + (-1 : Int32)).toNatClampNeg)) 7) <|
  st1 (sI σ 21 ((gI σ 22 ((v4 + (-1 : Int32)).toNatClampNeg)).toNatClampNeg) ((gI σ 21 ((gI σ 22 ((v4 + (-1 : Int32)).toNatClampNeg)).toNatClampNeg)) - (gI σ 5 ((gI σ 16 ((v4 + (-1 : Int32)).toNatClampNeg)).toNatClampNeg)))) fun σ7 =>
  ck (bnd (v4 + (-1 : Int32)) 7) <|
  ck (bnd (gI σ 22 ((v4 + (-1 : Int32)).toNatClampNeg)) 7) <|
  bd1 (mM_away (gI σ7 16 ((v4 + (-1 : Int32)).toNatClampNeg)) (gI σ7 16 ((gI σ 22 ((v4 + (-1 : Int32)).toNatClampNeg)).toNatClampNeg)) σ7) fun r12 =>
  k34 v1 v2 (v3 - r12) (v4 + (-1 : Int32)) ((gI σ 22 ((v4 + (-1 : Int32)).toNatClampNeg)) + (1 : Int32)) σ7)
def mM_leastBy_114  (k34 : Int32 → Int32 → Int32 → Int32 → Int32 → SM → Option (Int32 × SM)) (v1 : Int32) (v2 : Int32) (v3 : Int32) (v4 : Int32) (v5 : Int32) (σ : SM) : Option (Int32 × SM) :=
  if (gI σ 0 34) ≤ v5 then
  (mM_leastBy_184 k34 v1 v2 v3 v4 v5 σ)
  else
  (ck (bnd v4 7) <|
  st1 (sI σ 22 (v4.toNatClampNeg) v5) fun σ3 =>
  ck (bnd v5 7) <|
  ck (bnd v4 7) <|
  ck (bnd (gI σ3 16 (v4.toNatClampNeg)) 16) <|
  ck (bnd v5 7) <|
  st1 (sI σ3 21 (v5.toNatClampNeg) ((gI σ3 21 (v5.toNatClampNeg)) + (gI σ3 5 ((gI σ3 16 (v4.toNatClampNeg)).toNatClampNeg)))) fun σ9 =>
  ck (bnd v4 7) <|
  ck (bnd v5 7) <|
  bd1 (mM_away (gI σ9 16 (v4.toNatClampNeg)) (gI σ9 16 (v5.toNatClampNeg)) σ9) fun r14 =>
  k34 v1 v2 (v3 + r14) (v4 + (1 : Int32)) (0 : Int32) σ9)
def mM_leastBy_85  (k34 : Int32 → Int32 → Int32 → Int32 → Int32 → SM → Option (Int32 × SM)) (k85 : Int32 → Int32 → Int32 → Int32 → Int32 → SM → Option (Int32 × SM)) (v1 : Int32) (v2 : Int32) (v3 : Int32) (v4 : Int32) (v5 : Int32) (σ : SM) : Option (Int32 × SM) :=
  if (gI σ 0 34) ≤ v5 then
  (mM_leastBy_114 k34 v1 v2 v3 v4 v5 σ)
  else
  (bd1 (mM_mayLead v4 v5 v1 v3 v2 σ) fun r3 =>
  if r3 = (0 : Int32) then
  (k85 v1 v2 v3 v4 (v5 + (1 : Int32)) σ)
  else
  (mM_leastBy_114 k34 v1 v2 v3 v4 v5 σ))
def mM_leastBy_53  (k34 : Int32 → Int32 → Int32 → Int32 → Int32 → SM → Option (Int32 × SM)) (k53 : Int32 → Int32 → Int32 → Int32 → Int32 → Int32 → SM → Option (Int32 × SM)) (v1 : Int32) (v2 : Int32) (v3 : Int32) (v4 : Int32) (v5 : Int32) (v6 : Int32) (σ : SM) : Option (Int32 × SM) :=
  if (gI σ 0 34) ≤ v6 then
  (mM_leastBy_184 k34 v1 v2 v3 v4 v5 σ)
  else
  (ck (bnd v6 7) <|
  ck (bnd v6 7) <|
  st1 (sI σ 23 (v6.toNatClampNeg) (gI σ 22 (v6.toNatClampNeg))) fun σ4 =>
  k53 v1 v2 v3 v4 v5 (v6 + (1 : Int32)) σ4)
def mM_leastBy_34  (k34 : Int32 → Int32 → Int32 → Int32 → Int32 → SM → Option (Int32 × SM)) (v1 : Int32) (v2 : Int32) (v3 : Int32) (v4 : Int32) (v5 : Int32) (σ : SM) : Option (Int32 × SM) :=
  if v4 < (0 : Int32) then
  (some (v2, σ))
  else
  (if v4 = (gI σ 0 34) then
  (lq7 (mM_leastBy_53 k34) LF v1 v3 v3 v4 v5 (0 : Int32) σ)
  else
  (lq6 (mM_leastBy_85 k34) LF v1 v2 v3 v4 v5 σ))
def mM_leastBy_13  (k13 : Int32 → Int32 → Int32 → Int32 → Int32 → Int32 → SM → Option (Int32 × SM)) (v1 : Int32) (v2 : Int32) (v3 : Int32) (v4 : Int32) (v5 : Int32) (v6 : Int32) (σ : SM) : Option (Int32 × SM) :=
  if (7 : Int32) ≤ v6 then
  (lq6 (mM_leastBy_34) LF v1 v2 v3 v4 v5 σ)
  else
  (ck (bnd v6 7) <|
  st1 (sI σ 21 (v6.toNatClampNeg) (0 : Int32)) fun σ3 =>
  k13 v1 v2 v3 v4 v5 (v6 + (1 : Int32)) σ3)
def mM_leastBy (p0 : Int32) (σ : SM) : Option (Int32 × SM) :=
  lq7 (mM_leastBy_13) LF p0 (-1 : Int32) (0 : Int32) (0 : Int32) (0 : Int32) (0 : Int32) σ
def mM_booths_153  (k45 : Int32 → Int32 → Int32 → Int32 → SM → Option (Int32 × SM)) (v3 : Int32) (v4 : Int32) (v5 : Int32) (v6 : Int32) (σ : SM) : Option (Int32 × SM) :=
  k45 v3 v4 v5 (v6 + (1 : Int32)) σ
def mM_booths_124  (k45 : Int32 → Int32 → Int32 → Int32 → SM → Option (Int32 × SM)) (k124 : Int32 → Int32 → Int32 → Int32 → Int32 → SM → Option (Int32 × SM)) (v3 : Int32) (v4 : Int32) (v5 : Int32) (v6 : Int32) (v8 : Int32) (σ : SM) : Option (Int32 × SM) :=
  if (gI σ 0 34) ≤ v8 then
  (mM_booths_153 k45 v3 v4 v5 v6 σ)
  else
  (ck (bnd v8 7) <|
  ck (bnd v8 7) <|
  st1 (sI σ 24 (v8.toNatClampNeg) (gI σ 23 (v8.toNatClampNeg))) fun σ4 =>
  k124 v3 v4 v5 v6 (v8 + (1 : Int32)) σ4)
def mM_booths_107  (k45 : Int32 → Int32 → Int32 → Int32 → SM → Option (Int32 × SM)) (v6 : Int32) (v7 : Int32) (σ : SM) : Option (Int32 × SM) :=
  bd1 (mM_ones v6) fun r2 =>
  lq6 (mM_booths_124 k45) LF v6 r2 v7 v6 (0 : Int32) σ
def mM_booths_71  (k45 : Int32 → Int32 → Int32 → Int32 → SM → Option (Int32 × SM)) (v3 : Int32) (v4 : Int32) (v5 : Int32) (v6 : Int32) (σ : SM) : Option (Int32 × SM) :=
  bd2 (mM_leastBy v6 σ) fun r2 σ3 =>
  if r2 = (-1 : Int32) then
  (mM_booths_153 k45 v3 v4 v5 v6 σ3)
  else
  (if v3 = (-1 : Int32) then
  (mM_booths_107 k45 v6 r2 σ3)
  else
  (bd1 (mM_ones v6) fun r7 =>
  if r7 < v4 then
  (mM_booths_107 k45 v6 r2 σ3)
  else
  (if v5 ≤ r2 then
  (mM_booths_153 k45 v3 v4 v5 v6 σ3)
  else
  (mM_booths_107 k45 v6 r2 σ3))))
def mM_booths_45  (k45 : Int32 → Int32 → Int32 → Int32 → SM → Option (Int32 × SM)) (v3 : Int32) (v4 : Int32) (v5 : Int32) (v6 : Int32) (σ : SM) : Option (Int32 × SM) :=
  if ((1 : Int32) <<< ((gI σ 0 34) &&& 31)) ≤ v6 then
  (if v3 = (-1 : Int32) then
  (some (v3, σ))
  else
  (st1 (sI σ 0 43 (1 : Int32)) fun σ3 =>
  st1 (sI σ3 0 44 (gI σ3 0 34)) fun σ5 =>
  st1 (sI σ5 0 45 v5) fun σ7 =>
  some (v3, σ7)))
  else
  (if v3 = (-1 : Int32) then
  (mM_booths_71 k45 v3 v4 v5 v6 σ)
  else
  (bd1 (mM_ones v6) fun r11 =>
  if v4 < r11 then
  (mM_booths_153 k45 v3 v4 v5 v6 σ)
  else
  (mM_booths_71 k45 v3 v4 v5 v6 σ)))
def mM_booths (p0 : Int32) (p1 : Int32) (σ : SM) : Option (Int32 × SM) :=
  st1 (sI σ 0 0 (0 : Int32)) fun σ1 =>
  bd1 (mM_isDay p0) fun r4 =>
  if r4 = (0 : Int32) then
  (some ((-1 : Int32), σ1))
  else
  (bd1 (mM_isDay p1) fun r7 =>
  if r7 = (0 : Int32) then
  (some ((-1 : Int32), σ1))
  else
  (bd1 (mM_areThere  σ1) fun r10 =>
  if r10 = (0 : Int32) then
  (some ((-1 : Int32), σ1))
  else
  (bd1 (mM_setRules p0 p1 σ1) fun σ13 =>
  lq5 (mM_booths_45) LF (-1 : Int32) (0 : Int32) (0 : Int32) (0 : Int32) σ13)))
def mM_led (p0 : Int32) (σ : SM) : Option (Int32 × SM) :=
  st1 (sI σ 0 0 (0 : Int32)) fun σ1 =>
  if (gI σ1 0 43) = (0 : Int32) then
  (some ((-1 : Int32), σ1))
  else
  (if p0 = (-1 : Int32) then
  (some ((gI σ1 0 45), σ1))
  else
  (bd1 (mM_in (p0.toInt64) (0 : Int64) ((gI σ1 0 44).toInt64 - (1 : Int64))) fun r6 =>
  if r6 = (0 : Int32) then
  (some ((-1 : Int32), σ1))
  else
  (ck (bnd p0 7) <|
  some ((gI σ1 24 (p0.toNatClampNeg)), σ1))))
def mM_judge (p0 : Int32) (p1 : Int32) (p2 : Int32) (σ : SM) : Option (Int32 × SM) :=
  st1 (sI σ 0 0 (0 : Int32)) fun σ1 =>
  bd1 (mM_in (p0.toInt64) (0 : Int64) (((1 : Int64) <<< ((gI σ1 0 34).toInt64 &&& 63)) - (1 : Int64))) fun r4 =>
  if r4 = (0 : Int32) then
  (some ((-1 : Int32), σ1))
  else
  (bd1 (mM_isDay p1) fun r7 =>
  if r7 = (0 : Int32) then
  (some ((-1 : Int32), σ1))
  else
  (bd1 (mM_isDay p2) fun r10 =>
  if r10 = (0 : Int32) then
  (some ((-1 : Int32), σ1))
  else
  (bd1 (mM_areThere  σ1) fun r13 =>
  if r13 = (0 : Int32) then
  (some ((-1 : Int32), σ1))
  else
  (bd1 (mM_setRules p1 p2 σ1) fun σ16 =>
  bd2 (mM_leastBy p0 σ16) fun r18 σ19 =>
  some (r18, σ19)))))
def mM_booth (p0 : Int32) (σ : SM) : Option (Int32 × SM) :=
  st1 (sI σ 0 0 (0 : Int32)) fun σ1 =>
  bd1 (mM_isPlace p0 σ1) fun r4 =>
  if r4 = (0 : Int32) then
  (bd2 (mM_told (-2 : Int32) σ1) fun r22 σ23 =>
  some (r22, σ23))
  else
  (if (gI σ1 1 3) = (20 : Int32) then
  (bd2 (mM_told (-5 : Int32) σ1) fun r19 σ20 =>
  some (r19, σ20))
  else
  (ck (bnd ((2348 : Int32) + (gI σ1 1 3)) 23016) <|
  st1 (sI σ1 1 (((2348 : Int32) + (gI σ1 1 3)).toNatClampNeg) p0) fun σ8 =>
  ck (bnd ((2368 : Int32) + ((4 : Int32) * (gI σ8 1 3))) 23016) <|
  st1 (sI σ8 1 (((2368 : Int32) + ((4 : Int32) * (gI σ8 1 3))).toNatClampNeg) (0 : Int32)) fun σ11 =>
  st1 (sI σ11 1 3 ((gI σ11 1 3) + (1 : Int32))) fun σ13 =>
  bd2 (mM_told ((gI σ13 1 3) - (1 : Int32)) σ13) fun r16 σ17 =>
  some (r16, σ17)))
def mM_isBooth (p0 : Int32) (σ : SM) : Option (Int32) :=
  bd1 (mM_in (p0.toInt64) (0 : Int64) ((gI σ 1 3).toInt64 - (1 : Int64))) fun r2 =>
  ck (isZ r2) <|
  some r2
def mM_box (p0 : Int32) (p1 : Int32) (σ : SM) : Option (Int32 × SM) :=
  st1 (sI σ 0 0 (0 : Int32)) fun σ1 =>
  bd1 (mM_in (p1.toInt64) (0 : Int64) (99999 : Int64)) fun r4 =>
  if r4 = (0 : Int32) then
  (bd2 (mM_told (-1 : Int32) σ1) fun r28 σ29 =>
  some (r28, σ29))
  else
  (bd1 (mM_isBooth p0 σ1) fun r7 =>
  if r7 = (0 : Int32) then
  (bd2 (mM_told (-2 : Int32) σ1) fun r25 σ26 =>
  some (r25, σ26))
  else
  (if (gI σ1 1 4) = (40 : Int32) then
  (bd2 (mM_told (-5 : Int32) σ1) fun r22 σ23 =>
  some (r22, σ23))
  else
  (ck (bnd ((2448 : Int32) + ((2 : Int32) * (gI σ1 1 4))) 23016) <|
  st1 (sI σ1 1 (((2448 : Int32) + ((2 : Int32) * (gI σ1 1 4))).toNatClampNeg) p0) fun σ11 =>
  ck (bnd (((2448 : Int32) + ((2 : Int32) * (gI σ11 1 4))) + (1 : Int32)) 23016) <|
  st1 (sI σ11 1 ((((2448 : Int32) + ((2 : Int32) * (gI σ11 1 4))) + (1 : Int32)).toNatClampNeg) p1) fun σ14 =>
  st1 (sI σ14 1 4 ((gI σ14 1 4) + (1 : Int32))) fun σ16 =>
  bd2 (mM_told ((gI σ16 1 4) - (1 : Int32)) σ16) fun r19 σ20 =>
  some (r19, σ20))))
def mM_isBox (p0 : Int32) (σ : SM) : Option (Int32) :=
  bd1 (mM_in (p0.toInt64) (0 : Int64) ((gI σ 1 4).toInt64 - (1 : Int64))) fun r2 =>
  ck (isZ r2) <|
  some r2
def mM_hand_45  (σ : SM) : Option (Int32 × SM) :=
  bd2 (mM_told (-1 : Int32) σ) fun r2 σ3 =>
  some (r2, σ3)
def mM_hand (p0 : Int32) (p1 : Int32) (p2 : Int32) (p3 : Int32) (p4 : Int32) (σ : SM) : Option (Int32 × SM) :=
  st1 (sI σ 0 0 (0 : Int32)) fun σ1 =>
  bd1 (mM_in (p1.toInt64) (0 : Int64) (19 : Int64)) fun r4 =>
  if r4 = (0 : Int32) then
  (mM_hand_45 σ1)
  else
  (bd1 (mM_isDay p2) fun r7 =>
  if r7 = (0 : Int32) then
  (mM_hand_45 σ1)
  else
  (bd1 (mM_in (p3.toInt64) (0 : Int64) (99999 : Int64)) fun r10 =>
  if r10 = (0 : Int32) then
  (mM_hand_45 σ1)
  else
  (bd1 (mM_isDay p4) fun r13 =>
  if r13 = (0 : Int32) then
  (mM_hand_45 σ1)
  else
  (bd1 (mM_isBox p0 σ1) fun r16 =>
  if r16 = (0 : Int32) then
  (bd2 (mM_told (-2 : Int32) σ1) fun r33 σ34 =>
  some (r33, σ34))
  else
  (if (gI σ1 1 5) = (200 : Int32) then
  (bd2 (mM_told (-5 : Int32) σ1) fun r30 σ31 =>
  some (r30, σ31))
  else
  (bd1 (mM_addFour ((2528 : Int32) + ((5 : Int32) * (gI σ1 1 5))) p0 p1 p2 p3 σ1) fun σ20 =>
  ck (bnd (((2528 : Int32) + ((5 : Int32) * (gI σ1 1 5))) + (4 : Int32)) 23016) <|
  st1 (sI σ20 1 ((((2528 : Int32) + ((5 : Int32) * (gI σ1 1 5))) + (4 : Int32)).toNatClampNeg) p4) fun σ22 =>
  st1 (sI σ22 1 5 ((gI σ22 1 5) + (1 : Int32))) fun σ24 =>
  bd2 (mM_told (gI σ24 1 5) σ24) fun r27 σ28 =>
  some (r27, σ28)))))))
def mM_held_132  (k38 : Int32 → Int32 → Int32 → Int32 → Int32 → Int32 → SM → Option (Int32 × SM)) (v1 : Int32) (v2 : Int32) (v3 : Int32) (v4 : Int32) (v5 : Int32) (v6 : Int32) (σ : SM) : Option (Int32 × SM) :=
  k38 v1 v2 v3 v4 v5 (v6 + (1 : Int32)) σ
def mM_held_38  (k38 : Int32 → Int32 → Int32 → Int32 → Int32 → Int32 → SM → Option (Int32 × SM)) (v1 : Int32) (v2 : Int32) (v3 : Int32) (v4 : Int32) (v5 : Int32) (v6 : Int32) (σ : SM) : Option (Int32 × SM) :=
  if (gI σ 1 5) ≤ v6 then
  (some (v4, σ))
  else
  (ck (bnd ((2528 : Int32) + ((5 : Int32) * v6)) 23016) <|
  if (gI σ 1 (((2528 : Int32) + ((5 : Int32) * v6)).toNatClampNeg)) = v1 then
  (ck (bnd (((2528 : Int32) + ((5 : Int32) * v6)) + (4 : Int32)) 23016) <|
  if v3 < (gI σ 1 ((((2528 : Int32) + ((5 : Int32) * v6)) + (4 : Int32)).toNatClampNeg)) then
  (mM_held_132 k38 v1 v2 v3 v4 v5 v6 σ)
  else
  (ck (bnd (((2528 : Int32) + ((5 : Int32) * v6)) + (2 : Int32)) 23016) <|
  if v2 < (gI σ 1 ((((2528 : Int32) + ((5 : Int32) * v6)) + (2 : Int32)).toNatClampNeg)) then
  (mM_held_132 k38 v1 v2 v3 v4 v5 v6 σ)
  else
  (ck (bnd (((2528 : Int32) + ((5 : Int32) * v6)) + (2 : Int32)) 23016) <|
  if (gI σ 1 ((((2528 : Int32) + ((5 : Int32) * v6)) + (2 : Int32)).toNatClampNeg)) < v5 then
  (mM_held_132 k38 v1 v2 v3 v4 v5 v6 σ)
  else
  (ck (bnd (((2528 : Int32) + ((5 : Int32) * v6)) + (2 : Int32)) 23016) <|
  ck (bnd (((2528 : Int32) + ((5 : Int32) * v6)) + (1 : Int32)) 23016) <|
  mM_held_132 k38 v1 v2 v3 (gI σ 1 ((((2528 : Int32) + ((5 : Int32) * v6)) + (1 : Int32)).toNatClampNeg)) (gI σ 1 ((((2528 : Int32) + ((5 : Int32) * v6)) + (2 : Int32)).toNatClampNeg)) v6 σ))))
  else
  (mM_held_132 k38 v1 v2 v3 v4 v5 v6 σ))
def mM_held (p0 : Int32) (p1 : Int32) (p2 : Int32) (σ : SM) : Option (Int32 × SM) :=
  st1 (sI σ 0 0 (0 : Int32)) fun σ1 =>
  bd1 (mM_isBox p0 σ1) fun r4 =>
  if r4 = (0 : Int32) then
  (some ((-1 : Int32), σ1))
  else
  (bd1 (mM_isDay p1) fun r7 =>
  if r7 = (0 : Int32) then
  (some ((-1 : Int32), σ1))
  else
  (bd1 (mM_isDay p2) fun r10 =>
  if r10 = (0 : Int32) then
  (some ((-1 : Int32), σ1))
  else
  (lq7 (mM_held_38) LF p0 p1 p2 (-1 : Int32) (-1 : Int32) (0 : Int32) σ1)))
def mM_brokenOf_125 (σ : SM) (k5 : Int32 → Int32 → Int32 → Int32 → Option (Int32)) (v1 : Int32) (v2 : Int32) (v4 : Int32) (t0 : Int32) : Option (Int32) :=
  k5 v1 v2 t0 (v4 + (1 : Int32))
def mM_brokenOf_124 (σ : SM) (k5 : Int32 → Int32 → Int32 → Int32 → Option (Int32)) (v1 : Int32) (v2 : Int32) (v3 : Int32) (v4 : Int32) : Option (Int32) :=
  mM_brokenOf_125 σ k5 v1 v2 v4 v3
def mM_brokenOf_119 (σ : SM) (k5 : Int32 → Int32 → Int32 → Int32 → Option (Int32)) (v1 : Int32) (v2 : Int32) (v4 : Int32) : Option (Int32) :=
  mM_brokenOf_125 σ k5 v1 v2 v4 v4
def mM_brokenOf_81 (σ : SM) (k5 : Int32 → Int32 → Int32 → Int32 → Option (Int32)) (v1 : Int32) (v2 : Int32) (v3 : Int32) (v4 : Int32) (v5 : Int32) (t0 : Int32) : Option (Int32) :=
  if t0 = (0 : Int32) then
  (mM_brokenOf_124 σ k5 v1 v2 v3 v4)
  else
  (if v3 = (-1 : Int32) then
  (mM_brokenOf_119 σ k5 v1 v2 v4)
  else
  (ck (bnd (v5 + (2 : Int32)) 23016) <|
  ck (bnd (((2528 : Int32) + ((5 : Int32) * v3)) + (2 : Int32)) 23016) <|
  if (gI σ 1 ((((2528 : Int32) + ((5 : Int32) * v3)) + (2 : Int32)).toNatClampNeg)) ≤ (gI σ 1 ((v5 + (2 : Int32)).toNatClampNeg)) then
  (mM_brokenOf_124 σ k5 v1 v2 v3 v4)
  else
  (mM_brokenOf_119 σ k5 v1 v2 v4)))
def mM_brokenOf_80 (σ : SM) (k5 : Int32 → Int32 → Int32 → Int32 → Option (Int32)) (v1 : Int32) (v2 : Int32) (v3 : Int32) (v4 : Int32) (v5 : Int32) : Option (Int32) :=
  mM_brokenOf_81 σ k5 v1 v2 v3 v4 v5 (0 : Int32)
def mM_brokenOf_5 (σ : SM) (k5 : Int32 → Int32 → Int32 → Int32 → Option (Int32)) (v1 : Int32) (v2 : Int32) (v3 : Int32) (v4 : Int32) : Option (Int32) :=
  if (gI σ 1 5) ≤ v4 then
  (some v3)
  else
  (ck (bnd ((2528 : Int32) + ((5 : Int32) * v4)) 23016) <|
  if (gI σ 1 (((2528 : Int32) + ((5 : Int32) * v4)).toNatClampNeg)) = v1 then
  (ck (bnd (((2528 : Int32) + ((5 : Int32) * v4)) + (4 : Int32)) 23016) <|
  if v2 < (gI σ 1 ((((2528 : Int32) + ((5 : Int32) * v4)) + (4 : Int32)).toNatClampNeg)) then
  (mM_brokenOf_80 σ k5 v1 v2 v3 v4 ((2528 : Int32) + ((5 : Int32) * v4)))
  else
  (ck (bnd (((2528 : Int32) + ((5 : Int32) * v4)) + (3 : Int32)) 23016) <|
  ck (bnd (((2448 : Int32) + ((2 : Int32) * v1)) + (1 : Int32)) 23016) <|
  if (gI σ 1 ((((2528 : Int32) + ((5 : Int32) * v4)) + (3 : Int32)).toNatClampNeg)) = (gI σ 1 ((((2448 : Int32) + ((2 : Int32) * v1)) + (1 : Int32)).toNatClampNeg)) then
  (mM_brokenOf_80 σ k5 v1 v2 v3 v4 ((2528 : Int32) + ((5 : Int32) * v4)))
  else
  (mM_brokenOf_81 σ k5 v1 v2 v3 v4 ((2528 : Int32) + ((5 : Int32) * v4)) (1 : Int32))))
  else
  (mM_brokenOf_80 σ k5 v1 v2 v3 v4 ((2528 : Int32) + ((5 : Int32) * v4))))
def mM_brokenOf (p0 : Int32) (p1 : Int32) (σ : SM) : Option (Int32) :=
  lq4 (mM_brokenOf_5 σ) LF p0 p1 (-1 : Int32) (0 : Int32)
def mM_aheadOf_162 (σ : SM) (k14 : Int32 → Int32 → Int32 → Int32 → Int32 → Option (Int32)) (v1 : Int32) (v2 : Int32) (v3 : Int32) (v5 : Int32) (t0 : Int32) : Option (Int32) :=
  k14 v1 v2 v3 t0 (v5 + (1 : Int32))
def mM_aheadOf_160 (σ : SM) (k14 : Int32 → Int32 → Int32 → Int32 → Int32 → Option (Int32)) (v1 : Int32) (v2 : Int32) (v3 : Int32) (v4 : Int32) (v5 : Int32) : Option (Int32) :=
  mM_aheadOf_162 σ k14 v1 v2 v3 v5 v4
def mM_aheadOf_155 (σ : SM) (k14 : Int32 → Int32 → Int32 → Int32 → Int32 → Option (Int32)) (v1 : Int32) (v2 : Int32) (v3 : Int32) (v5 : Int32) : Option (Int32) :=
  mM_aheadOf_162 σ k14 v1 v2 v3 v5 v5
def mM_aheadOf_115 (σ : SM) (k14 : Int32 → Int32 → Int32 → Int32 → Int32 → Option (Int32)) (v1 : Int32) (v2 : Int32) (v3 : Int32) (v4 : Int32) (v5 : Int32) (v6 : Int32) (t0 : Int32) : Option (Int32) :=
  if t0 = (0 : Int32) then
  (mM_aheadOf_160 σ k14 v1 v2 v3 v4 v5)
  else
  (if v4 = (-1 : Int32) then
  (mM_aheadOf_155 σ k14 v1 v2 v3 v5)
  else
  (ck (bnd (v6 + (2 : Int32)) 23016) <|
  ck (bnd (((2528 : Int32) + ((5 : Int32) * v4)) + (2 : Int32)) 23016) <|
  if (gI σ 1 ((v6 + (2 : Int32)).toNatClampNeg)) < (gI σ 1 ((((2528 : Int32) + ((5 : Int32) * v4)) + (2 : Int32)).toNatClampNeg)) then
  (mM_aheadOf_160 σ k14 v1 v2 v3 v4 v5)
  else
  (mM_aheadOf_155 σ k14 v1 v2 v3 v5)))
def mM_aheadOf_114 (σ : SM) (k14 : Int32 → Int32 → Int32 → Int32 → Int32 → Option (Int32)) (v1 : Int32) (v2 : Int32) (v3 : Int32) (v4 : Int32) (v5 : Int32) (v6 : Int32) : Option (Int32) :=
  mM_aheadOf_115 σ k14 v1 v2 v3 v4 v5 v6 (0 : Int32)
def mM_aheadOf_110 (σ : SM) (k14 : Int32 → Int32 → Int32 → Int32 → Int32 → Option (Int32)) (v1 : Int32) (v2 : Int32) (v3 : Int32) (v4 : Int32) (v5 : Int32) (v6 : Int32) : Option (Int32) :=
  mM_aheadOf_115 σ k14 v1 v2 v3 v4 v5 v6 (1 : Int32)
def mM_aheadOf_14 (σ : SM) (k14 : Int32 → Int32 → Int32 → Int32 → Int32 → Option (Int32)) (v1 : Int32) (v2 : Int32) (v3 : Int32) (v4 : Int32) (v5 : Int32) : Option (Int32) :=
  if (gI σ 1 5) ≤ v5 then
  (some v4)
  else
  (ck (bnd ((2528 : Int32) + ((5 : Int32) * v5)) 23016) <|
  ck (bnd v3 23016) <|
  if (gI σ 1 (((2528 : Int32) + ((5 : Int32) * v5)).toNatClampNeg)) = (gI σ 1 (v3.toNatClampNeg)) then
  (ck (bnd (((2528 : Int32) + ((5 : Int32) * v5)) + (4 : Int32)) 23016) <|
  if v2 < (gI σ 1 ((((2528 : Int32) + ((5 : Int32) * v5)) + (4 : Int32)).toNatClampNeg)) then
  (mM_aheadOf_114 σ k14 v1 v2 v3 v4 v5 ((2528 : Int32) + ((5 : Int32) * v5)))
  else
  (ck (bnd (((2528 : Int32) + ((5 : Int32) * v5)) + (2 : Int32)) 23016) <|
  ck (bnd (v3 + (2 : Int32)) 23016) <|
  if (gI σ 1 ((((2528 : Int32) + ((5 : Int32) * v5)) + (2 : Int32)).toNatClampNeg)) < (gI σ 1 ((v3 + (2 : Int32)).toNatClampNeg)) then
  (mM_aheadOf_110 σ k14 v1 v2 v3 v4 v5 ((2528 : Int32) + ((5 : Int32) * v5)))
  else
  (ck (bnd (((2528 : Int32) + ((5 : Int32) * v5)) + (2 : Int32)) 23016) <|
  ck (bnd (v3 + (2 : Int32)) 23016) <|
  if (gI σ 1 ((((2528 : Int32) + ((5 : Int32) * v5)) + (2 : Int32)).toNatClampNeg)) = (gI σ 1 ((v3 + (2 : Int32)).toNatClampNeg)) then
  (if v1 ≤ v5 then
  (mM_aheadOf_114 σ k14 v1 v2 v3 v4 v5 ((2528 : Int32) + ((5 : Int32) * v5)))
  else
  (mM_aheadOf_110 σ k14 v1 v2 v3 v4 v5 ((2528 : Int32) + ((5 : Int32) * v5))))
  else
  (mM_aheadOf_114 σ k14 v1 v2 v3 v4 v5 ((2528 : Int32) + ((5 : Int32) * v5))))))
  else
  (mM_aheadOf_114 σ k14 v1 v2 v3 v4 v5 ((2528 : Int32) + ((5 : Int32) * v5))))
def mM_aheadOf (p0 : Int32) (p1 : Int32) (σ : SM) : Option (Int32) :=
  lq5 (mM_aheadOf_14 σ) LF p0 p1 ((2528 : Int32) + ((5 : Int32) * p0)) (-1 : Int32) (0 : Int32)
def mM_broken (p0 : Int32) (p1 : Int32) (p2 : Int32) (σ : SM) : Option (Int32 × SM) :=
  st1 (sI σ 0 0 (0 : Int32)) fun σ1 =>
  bd1 (mM_isBox p0 σ1) fun r4 =>
  if r4 = (0 : Int32) then
  (some ((-1 : Int32), σ1))
  else
  (bd1 (mM_isDay p1) fun r7 =>
  if r7 = (0 : Int32) then
  (some ((-1 : Int32), σ1))
  else
  (bd1 (mM_in (p2.toInt64) (0 : Int64) (2 : Int64)) fun r10 =>
  if r10 = (0 : Int32) then
  (some ((-1 : Int32), σ1))
  else
  (bd1 (mM_brokenOf p0 p1 σ1) fun r13 =>
  if r13 = (-1 : Int32) then
  (some ((-1 : Int32), σ1))
  else
  (if p2 = (1 : Int32) then
  (bd1 (mM_aheadOf r13 p1 σ1) fun r20 =>
  if r20 = (-1 : Int32) then
  (some ((-1 : Int32), σ1))
  else
  (ck (bnd (((2528 : Int32) + ((5 : Int32) * r20)) + (1 : Int32)) 23016) <|
  some ((gI σ1 1 ((((2528 : Int32) + ((5 : Int32) * r20)) + (1 : Int32)).toNatClampNeg)), σ1)))
  else
  (if p2 = (0 : Int32) then
  (ck (bnd (((2528 : Int32) + ((5 : Int32) * r13)) + (1 : Int32)) 23016) <|
  some ((gI σ1 1 ((((2528 : Int32) + ((5 : Int32) * r13)) + (1 : Int32)).toNatClampNeg)), σ1))
  else
  (ck (bnd (((2528 : Int32) + ((5 : Int32) * r13)) + (2 : Int32)) 23016) <|
  some ((gI σ1 1 ((((2528 : Int32) + ((5 : Int32) * r13)) + (2 : Int32)).toNatClampNeg)), σ1)))))))
def mM_paper_37  (σ : SM) : Option (Int32 × SM) :=
  bd2 (mM_told (-1 : Int32) σ) fun r2 σ3 =>
  some (r2, σ3)
def mM_paper (p0 : Int32) (p1 : Int32) (p2 : Int32) (p3 : Int32) (σ : SM) : Option (Int32 × SM) :=
  st1 (sI σ 0 0 (0 : Int32)) fun σ1 =>
  bd1 (mM_in (p1.toInt64) (0 : Int64) (3 : Int64)) fun r4 =>
  if r4 = (0 : Int32) then
  (mM_paper_37 σ1)
  else
  (bd1 (mM_in (p2.toInt64) (0 : Int64) (100000 : Int64)) fun r7 =>
  if r7 = (0 : Int32) then
  (mM_paper_37 σ1)
  else
  (bd1 (mM_isDay p3) fun r10 =>
  if r10 = (0 : Int32) then
  (mM_paper_37 σ1)
  else
  (bd1 (mM_isBooth p0 σ1) fun r13 =>
  if r13 = (0 : Int32) then
  (bd2 (mM_told (-2 : Int32) σ1) fun r27 σ28 =>
  some (r27, σ28))
  else
  (if (gI σ1 1 7) = (120 : Int32) then
  (bd2 (mM_told (-5 : Int32) σ1) fun r24 σ25 =>
  some (r24, σ25))
  else
  (bd1 (mM_addFour ((3528 : Int32) + ((4 : Int32) * (gI σ1 1 7))) p0 p1 p2 p3 σ1) fun σ17 =>
  st1 (sI σ17 1 7 ((gI σ17 1 7) + (1 : Int32))) fun σ18 =>
  bd2 (mM_told (gI σ18 1 7) σ18) fun r21 σ22 =>
  some (r21, σ22))))))
def mM_count_50  (σ : SM) : Option (Int32 × SM) :=
  bd2 (mM_told (-1 : Int32) σ) fun r2 σ3 =>
  some (r2, σ3)
def mM_count (p0 : Int32) (p1 : Int32) (p2 : Int32) (p3 : Int32) (p4 : Int32) (σ : SM) : Option (Int32 × SM) :=
  st1 (sI σ 0 0 (0 : Int32)) fun σ1 =>
  bd1 (mM_in (p1.toInt64) (0 : Int64) (7 : Int64)) fun r4 =>
  if r4 = (0 : Int32) then
  (mM_count_50 σ1)
  else
  (bd1 (mM_in (p2.toInt64) (0 : Int64) (9 : Int64)) fun r7 =>
  if r7 = (0 : Int32) then
  (mM_count_50 σ1)
  else
  (bd1 (mM_in (p3.toInt64) (0 : Int64) (10000 : Int64)) fun r10 =>
  if r10 = (0 : Int32) then
  (mM_count_50 σ1)
  else
  (bd1 (mM_isDay p4) fun r13 =>
  if r13 = (0 : Int32) then
  (mM_count_50 σ1)
  else
  (bd1 (mM_isBox p0 σ1) fun r16 =>
  if r16 = (0 : Int32) then
  (bd2 (mM_told (-2 : Int32) σ1) fun r33 σ34 =>
  some (r33, σ34))
  else
  (if (gI σ1 1 6) = (200 : Int32) then
  (bd2 (mM_told (-5 : Int32) σ1) fun r30 σ31 =>
  some (r30, σ31))
  else
  (bd1 (mM_addFour ((4008 : Int32) + ((5 : Int32) * (gI σ1 1 6))) p0 p1 p2 p3 σ1) fun σ20 =>
  ck (bnd (((4008 : Int32) + ((5 : Int32) * (gI σ1 1 6))) + (4 : Int32)) 23016) <|
  st1 (sI σ20 1 ((((4008 : Int32) + ((5 : Int32) * (gI σ1 1 6))) + (4 : Int32)).toNatClampNeg) p4) fun σ22 =>
  st1 (sI σ22 1 6 ((gI σ22 1 6) + (1 : Int32))) fun σ24 =>
  bd2 (mM_told ((gI σ24 1 6) - (1 : Int32)) σ24) fun r27 σ28 =>
  some (r27, σ28)))))))
def mM_boothOf (p0 : Int32) (σ : SM) : Option (Int32) :=
  ck (bnd ((4008 : Int32) + ((5 : Int32) * p0)) 23016) <|
  ck (bnd ((2448 : Int32) + ((2 : Int32) * (gI σ 1 (((4008 : Int32) + ((5 : Int32) * p0)).toNatClampNeg)))) 23016) <|
  some (gI σ 1 (((2448 : Int32) + ((2 : Int32) * (gI σ 1 (((4008 : Int32) + ((5 : Int32) * p0)).toNatClampNeg)))).toNatClampNeg))
def mM_doesCount_123 (σ : SM) (k29 : Int32 → Int32 → Option (Int32)) (v2 : Int32) (v3 : Int32) : Option (Int32) :=
  k29 v2 (v3 + (1 : Int32))
def mM_doesCount_29 (σ : SM) (k29 : Int32 → Int32 → Option (Int32)) (v2 : Int32) (v3 : Int32) : Option (Int32) :=
  if (gI σ 1 6) ≤ v3 then
  (some (1 : Int32))
  else
  (ck (bnd ((4008 : Int32) + ((5 : Int32) * v3)) 23016) <|
  ck (bnd v2 23016) <|
  if (gI σ 1 (((4008 : Int32) + ((5 : Int32) * v3)).toNatClampNeg)) = (gI σ 1 (v2.toNatClampNeg)) then
  (ck (bnd (((4008 : Int32) + ((5 : Int32) * v3)) + (1 : Int32)) 23016) <|
  ck (bnd (v2 + (1 : Int32)) 23016) <|
  if (gI σ 1 ((((4008 : Int32) + ((5 : Int32) * v3)) + (1 : Int32)).toNatClampNeg)) = (gI σ 1 ((v2 + (1 : Int32)).toNatClampNeg)) then
  (ck (bnd (((4008 : Int32) + ((5 : Int32) * v3)) + (2 : Int32)) 23016) <|
  ck (bnd (v2 + (2 : Int32)) 23016) <|
  if (gI σ 1 ((((4008 : Int32) + ((5 : Int32) * v3)) + (2 : Int32)).toNatClampNeg)) = (gI σ 1 ((v2 + (2 : Int32)).toNatClampNeg)) then
  (ck (bnd (((4008 : Int32) + ((5 : Int32) * v3)) + (4 : Int32)) 23016) <|
  if (gI σ 0 6) < (gI σ 1 ((((4008 : Int32) + ((5 : Int32) * v3)) + (4 : Int32)).toNatClampNeg)) then
  (mM_doesCount_123 σ k29 v2 v3)
  else
  (some (0 : Int32)))
  else
  (mM_doesCount_123 σ k29 v2 v3))
  else
  (mM_doesCount_123 σ k29 v2 v3))
  else
  (mM_doesCount_123 σ k29 v2 v3))
def mM_doesCount (p0 : Int32) (σ : SM) : Option (Int32) :=
  ck (bnd (((4008 : Int32) + ((5 : Int32) * p0)) + (4 : Int32)) 23016) <|
  if (gI σ 1 ((((4008 : Int32) + ((5 : Int32) * p0)) + (4 : Int32)).toNatClampNeg)) ≤ (gI σ 0 6) then
  (lq2 (mM_doesCount_29 σ) LF ((4008 : Int32) + ((5 : Int32) * p0)) (p0 + (1 : Int32)))
  else
  (some (0 : Int32))
def mM_putOf_51 (σ : SM) (k4 : Int32 → Int32 → Int32 → Option (Int32)) (v1 : Int32) (v3 : Int32) (t0 : Int32) (t1 : Int32) : Option (Int32) :=
  k4 v1 (t1 + t0) (v3 + (1 : Int32))
def mM_putOf_50 (σ : SM) (k4 : Int32 → Int32 → Int32 → Option (Int32)) (v1 : Int32) (v3 : Int32) (t0 : Int32) : Option (Int32) :=
  mM_putOf_51 σ k4 v1 v3 (0 : Int32) t0
def mM_putOf_4 (σ : SM) (k4 : Int32 → Int32 → Int32 → Option (Int32)) (v1 : Int32) (v2 : Int32) (v3 : Int32) : Option (Int32) :=
  if (gI σ 1 6) ≤ v3 then
  (some v2)
  else
  (bd1 (mM_boothOf v3 σ) fun r3 =>
  if r3 = v1 then
  (bd1 (mM_doesCount v3 σ) fun r6 =>
  if r6 = (0 : Int32) then
  (mM_putOf_50 σ k4 v1 v3 v2)
  else
  (ck (bnd (((4008 : Int32) + ((5 : Int32) * v3)) + (3 : Int32)) 23016) <|
  mM_putOf_51 σ k4 v1 v3 (gI σ 1 ((((4008 : Int32) + ((5 : Int32) * v3)) + (3 : Int32)).toNatClampNeg)) v2))
  else
  (mM_putOf_50 σ k4 v1 v3 v2))
def mM_putOf (p0 : Int32) (σ : SM) : Option (Int32) :=
  lq3 (mM_putOf_4 σ) LF p0 (0 : Int32) (0 : Int32)
def mM_paperOf_80 (σ : SM) (k5 : Int32 → Int32 → Int32 → Int32 → Option (Int32)) (v1 : Int32) (v2 : Int32) (v4 : Int32) (t0 : Int32) : Option (Int32) :=
  k5 v1 v2 t0 (v4 + (1 : Int32))
def mM_paperOf_79 (σ : SM) (k5 : Int32 → Int32 → Int32 → Int32 → Option (Int32)) (v1 : Int32) (v2 : Int32) (v3 : Int32) (v4 : Int32) : Option (Int32) :=
  mM_paperOf_80 σ k5 v1 v2 v4 v3
def mM_paperOf_5 (σ : SM) (k5 : Int32 → Int32 → Int32 → Int32 → Option (Int32)) (v1 : Int32) (v2 : Int32) (v3 : Int32) (v4 : Int32) : Option (Int32) :=
  if (gI σ 1 7) ≤ v4 then
  (some v3)
  else
  (ck (bnd ((3528 : Int32) + ((4 : Int32) * v4)) 23016) <|
  if (gI σ 1 (((3528 : Int32) + ((4 : Int32) * v4)).toNatClampNeg)) = v1 then
  (ck (bnd (((3528 : Int32) + ((4 : Int32) * v4)) + (1 : Int32)) 23016) <|
  if (gI σ 1 ((((3528 : Int32) + ((4 : Int32) * v4)) + (1 : Int32)).toNatClampNeg)) = v2 then
  (ck (bnd (((3528 : Int32) + ((4 : Int32) * v4)) + (3 : Int32)) 23016) <|
  if (gI σ 0 6) < (gI σ 1 ((((3528 : Int32) + ((4 : Int32) * v4)) + (3 : Int32)).toNatClampNeg)) then
  (mM_paperOf_79 σ k5 v1 v2 v3 v4)
  else
  (ck (bnd (((3528 : Int32) + ((4 : Int32) * v4)) + (2 : Int32)) 23016) <|
  mM_paperOf_80 σ k5 v1 v2 v4 (gI σ 1 ((((3528 : Int32) + ((4 : Int32) * v4)) + (2 : Int32)).toNatClampNeg))))
  else
  (mM_paperOf_79 σ k5 v1 v2 v3 v4))
  else
  (mM_paperOf_79 σ k5 v1 v2 v3 v4))
def mM_paperOf (p0 : Int32) (p1 : Int32) (σ : SM) : Option (Int32) :=
  lq4 (mM_paperOf_5 σ) LF p0 p1 (0 : Int32) (0 : Int32)
def mM_setBooth_157  (k101 : Int32 → Int32 → SM → Option (SM)) (v1 : Int32) (v2 : Int32) (t0 : Int64) (t1 : Int32) (σ : SM) : Option (SM) :=
  ck (bnd t1 17) <|
  st1 (sL σ 14 (t1.toNatClampNeg) t0) fun σ2 =>
  k101 v1 (v2 + (1 : Int32)) σ2
def mM_setBooth_150  (k101 : Int32 → Int32 → SM → Option (SM)) (v1 : Int32) (v2 : Int32) (t0 : Int32) (σ : SM) : Option (SM) :=
  mM_setBooth_157 k101 v1 v2 (gL σ 14 16) t0 σ
def mM_setBooth_101  (k101 : Int32 → Int32 → SM → Option (SM)) (v1 : Int32) (v2 : Int32) (σ : SM) : Option (SM) :=
  if (gI σ 1 4) ≤ v2 then
  (some σ)
  else
  (ck (bnd ((2448 : Int32) + ((2 : Int32) * v2)) 23016) <|
  if (gI σ 1 (((2448 : Int32) + ((2 : Int32) * v2)).toNatClampNeg)) = v1 then
  (bd1 (mM_brokenOf v2 (gI σ 0 6) σ) fun r5 =>
  if r5 = (-1 : Int32) then
  (mM_setBooth_150 k101 v1 v2 (16 : Int32) σ)
  else
  (mM_setBooth_157 k101 v1 v2 (1 : Int64) (16 : Int32) σ))
  else
  (mM_setBooth_150 k101 v1 v2 (16 : Int32) σ))
def mM_setBooth (p0 : Int32) (σ : SM) : Option (SM) :=
  ck (bnd ((2348 : Int32) + p0) 23016) <|
  bd1 (mM_setPlace (gI σ 1 (((2348 : Int32) + p0).toNatClampNeg)) σ) fun σ3 =>
  bd1 (mM_paperOf p0 (0 : Int32) σ3) fun r5 =>
  st1 (sL σ3 14 7 (r5.toInt64)) fun σ6 =>
  bd1 (mM_paperOf p0 (1 : Int32) σ6) fun r9 =>
  st1 (sL σ6 14 8 (r9.toInt64)) fun σ10 =>
  bd1 (mM_putOf p0 σ10) fun r13 =>
  st1 (sL σ10 14 9 (r13.toInt64)) fun σ14 =>
  bd1 (mM_paperOf p0 (2 : Int32) σ14) fun r17 =>
  st1 (sL σ14 14 10 (r17.toInt64)) fun σ18 =>
  st1 (sL σ18 14 11 (((gL σ18 14 8) - (gL σ18 14 9)) - (gL σ18 14 10))) fun σ20 =>
  lq3 (mM_setBooth_101) LF p0 (0 : Int32) σ20
def mM_isAgain (p0 : Int32) (σ : SM) : Option (Int32 × SM) :=
  bd1 (mM_setBooth p0 σ) fun σ2 =>
  bd2 (mM_find (4 : Int32) (-1 : Int32) σ2) fun r4 σ5 =>
  ck (isZ r4) <|
  some (r4, σ5)
def mM_findValid_130  (k54 : Int32 → Int32 → SM → Option (SM)) (v1 : Int32) (v2 : Int32) (σ : SM) : Option (SM) :=
  k54 v1 (v2 + (1 : Int32)) σ
def mM_findValid_54  (k54 : Int32 → Int32 → SM → Option (SM)) (v1 : Int32) (v2 : Int32) (σ : SM) : Option (SM) :=
  if (gI σ 1 6) ≤ v2 then
  (some σ)
  else
  (bd1 (mM_boothOf v2 σ) fun r3 =>
  if r3 = v1 then
  (bd1 (mM_doesCount v2 σ) fun r6 =>
  if r6 = (0 : Int32) then
  (mM_findValid_130 k54 v1 v2 σ)
  else
  (ck (bnd (((4008 : Int32) + ((5 : Int32) * v2)) + (2 : Int32)) 23016) <|
  ck (bnd (gI σ 1 ((((4008 : Int32) + ((5 : Int32) * v2)) + (2 : Int32)).toNatClampNeg)) 10) <|
  if (gI σ 25 ((gI σ 1 ((((4008 : Int32) + ((5 : Int32) * v2)) + (2 : Int32)).toNatClampNeg)).toNatClampNeg)) = (0 : Int32) then
  (ck (bnd (((4008 : Int32) + ((5 : Int32) * v2)) + (1 : Int32)) 23016) <|
  ck (bnd (gI σ 1 ((((4008 : Int32) + ((5 : Int32) * v2)) + (1 : Int32)).toNatClampNeg)) 8) <|
  ck (bnd (((4008 : Int32) + ((5 : Int32) * v2)) + (3 : Int32)) 23016) <|
  ck (bnd (gI σ 1 ((((4008 : Int32) + ((5 : Int32) * v2)) + (1 : Int32)).toNatClampNeg)) 8) <|
  st1 (sI σ 26 ((gI σ 1 ((((4008 : Int32) + ((5 : Int32) * v2)) + (1 : Int32)).toNatClampNeg)).toNatClampNeg) ((gI σ 26 ((gI σ 1 ((((4008 : Int32) + ((5 : Int32) * v2)) + (1 : Int32)).toNatClampNeg)).toNatClampNeg)) + (gI σ 1 ((((4008 : Int32) + ((5 : Int32) * v2)) + (3 : Int32)).toNatClampNeg)))) fun σ15 =>
  mM_findValid_130 k54 v1 v2 σ15)
  else
  (mM_findValid_130 k54 v1 v2 σ)))
  else
  (mM_findValid_130 k54 v1 v2 σ))
def mM_findValid_33  (k33 : Int32 → Int32 → SM → Option (SM)) (v1 : Int32) (v2 : Int32) (σ : SM) : Option (SM) :=
  if (8 : Int32) ≤ v2 then
  (lq3 (mM_findValid_54) LF v1 (0 : Int32) σ)
  else
  (ck (bnd v2 8) <|
  st1 (sI σ 26 (v2.toNatClampNeg) (0 : Int32)) fun σ3 =>
  k33 v1 (v2 + (1 : Int32)) σ3)
def mM_findValid_7  (k7 : Int32 → Int32 → SM → Option (SM)) (v1 : Int32) (v2 : Int32) (σ : SM) : Option (SM) :=
  if (10 : Int32) ≤ v2 then
  (lq3 (mM_findValid_33) LF v1 (0 : Int32) σ)
  else
  (bd2 (mM_find (3 : Int32) v2 σ) fun r3 σ4 =>
  ck (bnd v2 10) <|
  ck (isZ r3) <|
  st1 (sI σ4 25 (v2.toNatClampNeg) r3) fun σ7 =>
  k7 v1 (v2 + (1 : Int32)) σ7)
def mM_findValid (p0 : Int32) (σ : SM) : Option (SM) :=
  bd1 (mM_setBooth p0 σ) fun σ2 =>
  lq3 (mM_findValid_7) LF p0 (0 : Int32) σ2
def mM_tells_183  (k183 : Int32 → Int32 → SM → Option (Int32 × SM)) (v7 : Int32) (v8 : Int32) (σ : SM) : Option (Int32 × SM) :=
  if (8 : Int32) ≤ v8 then
  (some (v7, σ))
  else
  (ck (bnd v8 8) <|
  k183 (v7 + (gI σ 26 (v8.toNatClampNeg))) (v8 + (1 : Int32)) σ)
def mM_tells (p0 : Int32) (p1 : Int32) (p2 : Int32) (p3 : Int32) (σ : SM) : Option (Int32 × SM) :=
  st1 (sI σ 0 0 (0 : Int32)) fun σ1 =>
  bd1 (mM_isBooth p0 σ1) fun r4 =>
  if r4 = (0 : Int32) then
  (some ((-2000000000 : Int32), σ1))
  else
  (bd1 (mM_isDay p1) fun r7 =>
  if r7 = (0 : Int32) then
  (some ((-2000000000 : Int32), σ1))
  else
  (bd1 (mM_isDay p2) fun r10 =>
  if r10 = (0 : Int32) then
  (some ((-2000000000 : Int32), σ1))
  else
  (bd1 (mM_in (p3.toInt64) (0 : Int64) (8 : Int64)) fun r13 =>
  if r13 = (0 : Int32) then
  (some ((-2000000000 : Int32), σ1))
  else
  (bd1 (mM_knowBy p1 p2 σ1) fun σ16 =>
  bd1 (mM_putOf p0 σ16) fun r18 =>
  bd1 (mM_paperOf p0 (1 : Int32) σ16) fun r20 =>
  bd1 (mM_paperOf p0 (2 : Int32) σ16) fun r22 =>
  if (4 : Int32) ≤ p3 then
  (if (7 : Int32) ≤ p3 then
  (if p3 = (7 : Int32) then
  (bd2 (mM_isAgain p0 σ16) fun r29 σ30 =>
  if r29 = (0 : Int32) then
  (some ((0 : Int32), σ30))
  else
  (some ((1 : Int32), σ30)))
  else
  (bd1 (mM_findValid p0 σ16) fun σ27 =>
  lq3 (mM_tells_183) LF (0 : Int32) (0 : Int32) σ27))
  else
  (if p3 = (4 : Int32) then
  (some (r18, σ16))
  else
  (if p3 = (5 : Int32) then
  (some (((r20 - r18) - r22), σ16))
  else
  (if ((r20 - r18) - r22) = (0 : Int32) then
  (bd1 (mM_paperOf p0 (0 : Int32) σ16) fun r36 =>
  bd1 (mM_paperOf p0 (1 : Int32) σ16) fun r38 =>
  bd1 (mM_paperOf p0 (3 : Int32) σ16) fun r40 =>
  if r36 = (r38 + r40) then
  (some ((1 : Int32), σ16))
  else
  (some ((0 : Int32), σ16)))
  else
  (some ((0 : Int32), σ16))))))
  else
  (bd1 (mM_paperOf p0 p3 σ16) fun r43 =>
  some (r43, σ16))))))
def mM_keep_29  (σ : SM) : Option (Int32 × SM) :=
  bd2 (mM_told (-1 : Int32) σ) fun r2 σ3 =>
  some (r2, σ3)
def mM_keep (p0 : Int32) (p1 : Int32) (σ : SM) : Option (Int32 × SM) :=
  st1 (sI σ 0 0 (0 : Int32)) fun σ1 =>
  bd1 (mM_in (p0.toInt64) (0 : Int64) (5 : Int64)) fun r4 =>
  if r4 = (0 : Int32) then
  (mM_keep_29 σ1)
  else
  (bd1 (mM_in (p1.toInt64) (0 : Int64) (7 : Int64)) fun r7 =>
  if r7 = (0 : Int32) then
  (mM_keep_29 σ1)
  else
  (ck (bnd (((5008 : Int32) + ((8 : Int32) * p0)) + p1) 23016) <|
  if (gI σ1 1 ((((5008 : Int32) + ((8 : Int32) * p0)) + p1).toNatClampNeg)) = (1 : Int32) then
  (bd2 (mM_told (-4 : Int32) σ1) fun r18 σ19 =>
  some (r18, σ19))
  else
  (ck (bnd (((5008 : Int32) + ((8 : Int32) * p0)) + p1) 23016) <|
  st1 (sI σ1 1 ((((5008 : Int32) + ((8 : Int32) * p0)) + p1).toNatClampNeg) (1 : Int32)) fun σ12 =>
  bd2 (mM_told (0 : Int32) σ12) fun r15 σ16 =>
  some (r15, σ16))))
def mM_seatOf (p0 : Int32) (σ : SM) : Option (Int32) :=
  ck (bnd ((2348 : Int32) + p0) 23016) <|
  bd1 (mM_placeAt (gI σ 1 (((2348 : Int32) + p0).toNatClampNeg))) fun r3 =>
  ck (bnd r3 23016) <|
  some (gI σ 1 (r3.toNatClampNeg))
def mM_addSeat_81  (k23 : Int32 → Int32 → SM → Option (SM)) (v1 : Int32) (v2 : Int32) (σ : SM) : Option (SM) :=
  k23 v1 (v2 + (1 : Int32)) σ
def mM_addSeat_54  (k23 : Int32 → Int32 → SM → Option (SM)) (k54 : Int32 → Int32 → Int32 → SM → Option (SM)) (v1 : Int32) (v2 : Int32) (v3 : Int32) (σ : SM) : Option (SM) :=
  if (8 : Int32) ≤ v3 then
  (mM_addSeat_81 k23 v1 v2 σ)
  else
  (ck (bnd v3 8) <|
  ck (bnd v3 8) <|
  ck (bnd v3 8) <|
  st1 (sI σ 27 (v3.toNatClampNeg) ((gI σ 27 (v3.toNatClampNeg)) + (gI σ 26 (v3.toNatClampNeg)))) fun σ5 =>
  k54 v1 v2 (v3 + (1 : Int32)) σ5)
def mM_addSeat_47  (k23 : Int32 → Int32 → SM → Option (SM)) (v1 : Int32) (v2 : Int32) (σ : SM) : Option (SM) :=
  bd1 (mM_findValid v2 σ) fun σ2 =>
  lq4 (mM_addSeat_54 k23) LF v1 v2 (0 : Int32) σ2
def mM_addSeat_23  (k23 : Int32 → Int32 → SM → Option (SM)) (v1 : Int32) (v2 : Int32) (σ : SM) : Option (SM) :=
  if (gI σ 1 3) ≤ v2 then
  (some σ)
  else
  (if v1 = (-1 : Int32) then
  (mM_addSeat_47 k23 v1 v2 σ)
  else
  (bd1 (mM_seatOf v2 σ) fun r4 =>
  if r4 = v1 then
  (mM_addSeat_47 k23 v1 v2 σ)
  else
  (mM_addSeat_81 k23 v1 v2 σ)))
def mM_addSeat_2  (k2 : Int32 → Int32 → SM → Option (SM)) (v1 : Int32) (v2 : Int32) (σ : SM) : Option (SM) :=
  if (8 : Int32) ≤ v2 then
  (lq3 (mM_addSeat_23) LF v1 (0 : Int32) σ)
  else
  (ck (bnd v2 8) <|
  st1 (sI σ 27 (v2.toNatClampNeg) (0 : Int32)) fun σ3 =>
  k2 v1 (v2 + (1 : Int32)) σ3)
def mM_addSeat (p0 : Int32) (σ : SM) : Option (SM) :=
  lq3 (mM_addSeat_2) LF p0 (0 : Int32) σ
def mM_findWinner_162  (v3 : Int32) (v4 : Int32) (t0 : Int32) (σ : SM) : Option (SM) :=
  st1 (sI σ 0 50 t0) fun σ1 =>
  if (gI σ1 0 50) = (-1 : Int32) then
  (st1 (sI σ1 0 51 (0 : Int32)) fun σ6 =>
  some σ6)
  else
  (st1 (sI σ1 0 51 (v3 - v4)) fun σ4 =>
  some σ4)
def mM_findWinner_141  (k58 : Int32 → Int32 → Int32 → Int32 → Int32 → SM → Option (SM)) (v1 : Int32) (v2 : Int32) (v3 : Int32) (v4 : Int32) (v5 : Int32) (σ : SM) : Option (SM) :=
  k58 v1 v2 v3 v4 (v5 + (1 : Int32)) σ
def mM_findWinner_89  (k58 : Int32 → Int32 → Int32 → Int32 → Int32 → SM → Option (SM)) (v1 : Int32) (v2 : Int32) (v3 : Int32) (v4 : Int32) (v5 : Int32) (σ : SM) : Option (SM) :=
  ck (bnd v5 8) <|
  if (gI σ 27 (v5.toNatClampNeg)) ≤ v3 then
  (ck (bnd v5 8) <|
  if (gI σ 27 (v5.toNatClampNeg)) ≤ v4 then
  (mM_findWinner_141 k58 v1 v2 v3 v4 v5 σ)
  else
  (ck (bnd v5 8) <|
  mM_findWinner_141 k58 v1 v2 v3 (gI σ 27 (v5.toNatClampNeg)) v5 σ))
  else
  (ck (bnd v5 8) <|
  st1 (sI σ 0 50 v5) fun σ7 =>
  mM_findWinner_141 k58 v1 v2 (gI σ 27 (v5.toNatClampNeg)) v3 v5 σ7)
def mM_findWinner_58  (k58 : Int32 → Int32 → Int32 → Int32 → Int32 → SM → Option (SM)) (v1 : Int32) (v2 : Int32) (v3 : Int32) (v4 : Int32) (v5 : Int32) (σ : SM) : Option (SM) :=
  if (8 : Int32) ≤ v5 then
  (if v3 = v4 then
  (mM_findWinner_162 v3 v4 (-1 : Int32) σ)
  else
  (mM_findWinner_162 v3 v4 (gI σ 0 50) σ))
  else
  (if v2 = (0 : Int32) then
  (mM_findWinner_89 k58 v1 v2 v3 v4 v5 σ)
  else
  (ck (bnd (((5008 : Int32) + ((8 : Int32) * v1)) + v5) 23016) <|
  if (gI σ 1 ((((5008 : Int32) + ((8 : Int32) * v1)) + v5).toNatClampNeg)) = (1 : Int32) then
  (mM_findWinner_89 k58 v1 v2 v3 v4 v5 σ)
  else
  (mM_findWinner_141 k58 v1 v2 v3 v4 v5 σ)))
def mM_findWinner_38  (k4 : Int32 → Int32 → Int32 → SM → Option (SM)) (v1 : Int32) (v3 : Int32) (t0 : Int32) (σ : SM) : Option (SM) :=
  k4 v1 t0 (v3 + (1 : Int32)) σ
def mM_findWinner_33  (k4 : Int32 → Int32 → Int32 → SM → Option (SM)) (v1 : Int32) (v3 : Int32) (σ : SM) : Option (SM) :=
  mM_findWinner_38 k4 v1 v3 (1 : Int32) σ
def mM_findWinner_4  (k4 : Int32 → Int32 → Int32 → SM → Option (SM)) (v1 : Int32) (v2 : Int32) (v3 : Int32) (σ : SM) : Option (SM) :=
  if (8 : Int32) ≤ v3 then
  (st1 (sI σ 0 50 (-1 : Int32)) fun σ2 =>
  lq6 (mM_findWinner_58) LF v1 v2 (0 : Int32) (0 : Int32) (0 : Int32) σ2)
  else
  (if v2 = (0 : Int32) then
  (ck (bnd (((5008 : Int32) + ((8 : Int32) * v1)) + v3) 23016) <|
  if (gI σ 1 ((((5008 : Int32) + ((8 : Int32) * v1)) + v3).toNatClampNeg)) = (1 : Int32) then
  (mM_findWinner_33 k4 v1 v3 σ)
  else
  (mM_findWinner_38 k4 v1 v3 (0 : Int32) σ))
  else
  (mM_findWinner_33 k4 v1 v3 σ))
def mM_findWinner (p0 : Int32) (σ : SM) : Option (SM) :=
  lq4 (mM_findWinner_4) LF p0 (0 : Int32) (0 : Int32) σ
def mM_hangs_86  (k10 : Int32 → Int32 → Int32 → Int32 → Int32 → SM → Option (Int32 × SM)) (v1 : Int32) (v2 : Int32) (v3 : Int32) (v4 : Int32) (v5 : Int32) (σ : SM) : Option (Int32 × SM) :=
  k10 v1 v2 v3 v4 (v5 + (1 : Int32)) σ
def mM_hangs_77  (k10 : Int32 → Int32 → Int32 → Int32 → Int32 → SM → Option (Int32 × SM)) (v1 : Int32) (v2 : Int32) (v4 : Int32) (v5 : Int32) (v6 : Int32) (t0 : Int32) (t1 : Int32) (σ : SM) : Option (Int32 × SM) :=
  mM_hangs_86 k10 v1 (v2 ||| ((1 : Int32) <<< (v6 &&& 31))) (t1 + t0) v4 v5 σ
def mM_hangs_10  (k10 : Int32 → Int32 → Int32 → Int32 → Int32 → SM → Option (Int32 × SM)) (v1 : Int32) (v2 : Int32) (v3 : Int32) (v4 : Int32) (v5 : Int32) (σ : SM) : Option (Int32 × SM) :=
  if (gI σ 1 3) ≤ v5 then
  (if v4 = (0 : Int32) then
  (some ((0 : Int32), σ))
  else
  (if v3 < (gI σ 0 51) then
  (some ((0 : Int32), σ))
  else
  (some ((1 : Int32), σ))))
  else
  (ck (bnd ((2348 : Int32) + v5) 23016) <|
  bd1 (mM_seatOf v5 σ) fun r6 =>
  if r6 = v1 then
  (bd2 (mM_isAgain v5 σ) fun r9 σ10 =>
  if r9 = (0 : Int32) then
  (mM_hangs_86 k10 v1 v2 v3 v4 v5 σ10)
  else
  (if ((v2 >>> ((gI σ 1 (((2348 : Int32) + v5).toNatClampNeg)) &&& 31)) &&& (1 : Int32)) = (0 : Int32) then
  (ck (bnd (gI σ 1 (((2348 : Int32) + v5).toNatClampNeg)) 16) <|
  mM_hangs_77 k10 v1 v2 (1 : Int32) v5 (gI σ 1 (((2348 : Int32) + v5).toNatClampNeg)) (gI σ10 5 ((gI σ 1 (((2348 : Int32) + v5).toNatClampNeg)).toNatClampNeg)) v3 σ10)
  else
  (mM_hangs_77 k10 v1 v2 (1 : Int32) v5 (gI σ 1 (((2348 : Int32) + v5).toNatClampNeg)) (0 : Int32) v3 σ10)))
  else
  (mM_hangs_86 k10 v1 v2 v3 v4 v5 σ))
def mM_hangs (p0 : Int32) (σ : SM) : Option (Int32 × SM) :=
  lq6 (mM_hangs_10) LF p0 (0 : Int32) (0 : Int32) (0 : Int32) (0 : Int32) σ
def mM_seat (p0 : Int32) (p1 : Int32) (p2 : Int32) (p3 : Int32) (σ : SM) : Option (Int32 × SM) :=
  st1 (sI σ 0 0 (0 : Int32)) fun σ1 =>
  bd1 (mM_in (p0.toInt64) (0 : Int64) (5 : Int64)) fun r4 =>
  if r4 = (0 : Int32) then
  (some ((-2000000000 : Int32), σ1))
  else
  (bd1 (mM_isDay p1) fun r7 =>
  if r7 = (0 : Int32) then
  (some ((-2000000000 : Int32), σ1))
  else
  (bd1 (mM_isDay p2) fun r10 =>
  if r10 = (0 : Int32) then
  (some ((-2000000000 : Int32), σ1))
  else
  (bd1 (mM_in (p3.toInt64) (0 : Int64) (10 : Int64)) fun r13 =>
  if r13 = (0 : Int32) then
  (some ((-2000000000 : Int32), σ1))
  else
  (bd1 (mM_knowBy p1 p2 σ1) fun σ16 =>
  bd1 (mM_addSeat p0 σ16) fun σ18 =>
  if (8 : Int32) ≤ p3 then
  (bd1 (mM_findWinner p0 σ18) fun σ21 =>
  if p3 = (8 : Int32) then
  (some ((gI σ21 0 50), σ21))
  else
  (if p3 = (9 : Int32) then
  (some ((gI σ21 0 51), σ21))
  else
  (bd2 (mM_hangs p0 σ21) fun r25 σ26 =>
  if r25 = (0 : Int32) then
  (some ((0 : Int32), σ26))
  else
  (some ((1 : Int32), σ26)))))
  else
  (ck (bnd p3 8) <|
  some ((gI σ18 27 (p3.toNatClampNeg)), σ18))))))
def mM_joinBooths_202  (k152 : Int32 → Int32 → Int32 → SM → Option (Int32 × SM)) (v3 : Int32) (v6 : Int32) (v7 : Int32) (t0 : Int32) (t1 : Int32) (σ : SM) : Option (Int32 × SM) :=
  ck (bnd t1 20) <|
  st1 (sI σ 28 (t1.toNatClampNeg) t0) fun σ2 =>
  k152 v3 v6 (v7 + (1 : Int32)) σ2
def mM_joinBooths_152  (k152 : Int32 → Int32 → Int32 → SM → Option (Int32 × SM)) (v3 : Int32) (v6 : Int32) (v7 : Int32) (σ : SM) : Option (Int32 × SM) :=
  if (gI σ 1 3) ≤ v7 then
  (some (v3, σ))
  else
  (if v6 = (0 : Int32) then
  (some (v3, σ))
  else
  (if v3 ≤ (0 : Int32) then
  (some (v3, σ))
  else
  (ck (bnd v7 20) <|
  if (gI σ 28 (v7.toNatClampNeg)) = v3 then
  (mM_joinBooths_202 k152 v3 v6 v7 (v3 - (1 : Int32)) v7 σ)
  else
  (ck (bnd v7 20) <|
  mM_joinBooths_202 k152 v3 v6 v7 (gI σ 28 (v7.toNatClampNeg)) v7 σ))))
def mM_joinBooths_143  (k14 : Int32 → Int32 → Int32 → Int32 → Int32 → Int32 → Int32 → SM → Option (Int32 × SM)) (v1 : Int32) (v2 : Int32) (v3 : Int32) (v4 : Int32) (v5 : Int32) (v6 : Int32) (v7 : Int32) (σ : SM) : Option (Int32 × SM) :=
  k14 v1 v2 v3 v4 v5 v6 (v7 + (1 : Int32)) σ
def mM_joinBooths_127  (k14 : Int32 → Int32 → Int32 → Int32 → Int32 → Int32 → Int32 → SM → Option (Int32 × SM)) (v1 : Int32) (v2 : Int32) (v3 : Int32) (v4 : Int32) (v5 : Int32) (v7 : Int32) (t0 : Int32) (σ : SM) : Option (Int32 × SM) :=
  if t0 = (0 : Int32) then
  (mM_joinBooths_143 k14 v1 v2 (v3 + (1 : Int32)) (0 : Int32) (0 : Int32) t0 v7 σ)
  else
  (mM_joinBooths_143 k14 v1 v2 v3 v4 v5 t0 v7 σ)
def mM_joinBooths_122  (k14 : Int32 → Int32 → Int32 → Int32 → Int32 → Int32 → Int32 → SM → Option (Int32 × SM)) (v1 : Int32) (v2 : Int32) (v3 : Int32) (v4 : Int32) (v5 : Int32) (v7 : Int32) (σ : SM) : Option (Int32 × SM) :=
  mM_joinBooths_127 k14 v1 v2 v3 v4 v5 v7 (1 : Int32) σ
def mM_joinBooths_98  (k71 : Int32 → Int32 → Int32 → Int32 → Int32 → Int32 → Int32 → SM → Option (Int32 × SM)) (v1 : Int32) (v2 : Int32) (v3 : Int32) (v4 : Int32) (v7 : Int32) (v8 : Int32) (t0 : Int32) (t1 : Int32) (σ : SM) : Option (Int32 × SM) :=
  k71 v1 v2 v3 v4 (t1 ||| t0) v7 (v8 + (1 : Int32)) σ
def mM_joinBooths_71  (k14 : Int32 → Int32 → Int32 → Int32 → Int32 → Int32 → Int32 → SM → Option (Int32 × SM)) (k71 : Int32 → Int32 → Int32 → Int32 → Int32 → Int32 → Int32 → SM → Option (Int32 × SM)) (v1 : Int32) (v2 : Int32) (v3 : Int32) (v4 : Int32) (v5 : Int32) (v7 : Int32) (v8 : Int32) (σ : SM) : Option (Int32 × SM) :=
  if (8 : Int32) ≤ v8 then
  (if v4 < v2 then
  (mM_joinBooths_122 k14 v1 v2 v3 v4 v5 v7 σ)
  else
  (bd1 (mM_ones v5) fun r4 =>
  if (2 : Int32) ≤ r4 then
  (mM_joinBooths_127 k14 v1 v2 v3 v4 v5 v7 (0 : Int32) σ)
  else
  (mM_joinBooths_122 k14 v1 v2 v3 v4 v5 v7 σ)))
  else
  (ck (bnd v8 8) <|
  if (gI σ 26 (v8.toNatClampNeg)) ≤ (0 : Int32) then
  (mM_joinBooths_98 k71 v1 v2 v3 v4 v7 v8 (0 : Int32) v5 σ)
  else
  (mM_joinBooths_98 k71 v1 v2 v3 v4 v7 v8 ((1 : Int32) <<< (v8 &&& 31)) v5 σ))
def mM_joinBooths_14  (k14 : Int32 → Int32 → Int32 → Int32 → Int32 → Int32 → Int32 → SM → Option (Int32 × SM)) (v1 : Int32) (v2 : Int32) (v3 : Int32) (v4 : Int32) (v5 : Int32) (v6 : Int32) (v7 : Int32) (σ : SM) : Option (Int32 × SM) :=
  if (gI σ 1 3) ≤ v7 then
  (lq4 (mM_joinBooths_152) LF v3 v6 (0 : Int32) σ)
  else
  (ck (bnd v7 20) <|
  st1 (sI σ 28 (v7.toNatClampNeg) (-1 : Int32)) fun σ3 =>
  bd1 (mM_seatOf v7 σ3) fun r6 =>
  if r6 = v1 then
  (ck (bnd v7 20) <|
  st1 (sI σ3 28 (v7.toNatClampNeg) v3) fun σ9 =>
  bd1 (mM_putOf v7 σ9) fun r12 =>
  bd1 (mM_findValid v7 σ9) fun σ14 =>
  lq8 (mM_joinBooths_71 k14) LF v1 v2 v3 (v4 + r12) v5 v7 (0 : Int32) σ14)
  else
  (mM_joinBooths_143 k14 v1 v2 v3 v4 v5 v6 v7 σ3))
def mM_joinBooths (p0 : Int32) (p1 : Int32) (σ : SM) : Option (Int32 × SM) :=
  lq8 (mM_joinBooths_14) LF p0 p1 (0 : Int32) (0 : Int32) (0 : Int32) (0 : Int32) (0 : Int32) σ
def mM_hidden_137  (k90 : Int32 → Int32 → Int32 → Int32 → Int32 → Int32 → SM → Option (Int32 × SM)) (v1 : Int32) (v2 : Int32) (v5 : Int32) (v6 : Int32) (v7 : Int32) (v8 : Int32) (σ : SM) : Option (Int32 × SM) :=
  k90 v1 v2 v5 v6 v7 (v8 + (1 : Int32)) σ
def mM_hidden_90  (k90 : Int32 → Int32 → Int32 → Int32 → Int32 → Int32 → SM → Option (Int32 × SM)) (v1 : Int32) (v2 : Int32) (v5 : Int32) (v6 : Int32) (v7 : Int32) (v8 : Int32) (σ : SM) : Option (Int32 × SM) :=
  if (gI σ 1 3) ≤ v8 then
  (if v5 = (0 : Int32) then
  (some (v6, σ))
  else
  (some (v7, σ)))
  else
  (ck (bnd v8 20) <|
  ck (bnd v1 20) <|
  if (gI σ 28 (v8.toNatClampNeg)) = (gI σ 28 (v1.toNatClampNeg)) then
  (bd1 (mM_findValid v8 σ) fun σ7 =>
  ck (bnd v2 8) <|
  mM_hidden_137 k90 v1 v2 v5 (v6 + (gI σ7 26 (v2.toNatClampNeg))) (v7 + (1 : Int32)) v8 σ7)
  else
  (mM_hidden_137 k90 v1 v2 v5 v6 v7 v8 σ))
def mM_hidden (p0 : Int32) (p1 : Int32) (p2 : Int32) (p3 : Int32) (p4 : Int32) (σ : SM) : Option (Int32 × SM) :=
  st1 (sI σ 0 0 (0 : Int32)) fun σ1 =>
  bd1 (mM_isBooth p0 σ1) fun r4 =>
  if r4 = (0 : Int32) then
  (some ((-1 : Int32), σ1))
  else
  (bd1 (mM_in (p1.toInt64) (0 : Int64) (7 : Int64)) fun r7 =>
  if r7 = (0 : Int32) then
  (some ((-1 : Int32), σ1))
  else
  (bd1 (mM_isDay p2) fun r10 =>
  if r10 = (0 : Int32) then
  (some ((-1 : Int32), σ1))
  else
  (bd1 (mM_isDay p3) fun r13 =>
  if r13 = (0 : Int32) then
  (some ((-1 : Int32), σ1))
  else
  (bd1 (mM_in (p4.toInt64) (0 : Int64) (1 : Int64)) fun r16 =>
  if r16 = (0 : Int32) then
  (some ((-1 : Int32), σ1))
  else
  (bd1 (mM_knowBy p2 p3 σ1) fun σ19 =>
  bd1 (mM_setNothing  σ19) fun σ21 =>
  bd1 (mM_seatOf p0 σ21) fun r23 =>
  bd2 (mM_ruleOf (7 : Int32) (0 : Int32) σ21) fun r25 σ26 =>
  bd2 (mM_joinBooths r23 r25 σ26) fun r28 σ29 =>
  lq7 (mM_hidden_90) LF p0 p1 p4 (0 : Int32) (0 : Int32) (0 : Int32) σ29)))))
def mM_shares_211  (k159 : Int32 → Int32 → Int64 → Int32 → Int64 → Int32 → Int32 → SM → Option (Int32 × SM)) (v1 : Int32) (v2 : Int32) (v5 : Int64) (v7 : Int32) (v8 : Int64) (v11 : Int32) (t0 : Int32) (t1 : Int32) (σ : SM) : Option (Int32 × SM) :=
  k159 v1 v2 v5 v7 v8 (t1 + t0) (v11 + (1 : Int32)) σ
def mM_shares_206  (k159 : Int32 → Int32 → Int64 → Int32 → Int64 → Int32 → Int32 → SM → Option (Int32 × SM)) (v1 : Int32) (v2 : Int32) (v5 : Int64) (v7 : Int32) (v8 : Int64) (v11 : Int32) (t0 : Int32) (σ : SM) : Option (Int32 × SM) :=
  mM_shares_211 k159 v1 v2 v5 v7 v8 v11 (1 : Int32) t0 σ
def mM_shares_210  (k159 : Int32 → Int32 → Int64 → Int32 → Int64 → Int32 → Int32 → SM → Option (Int32 × SM)) (v1 : Int32) (v2 : Int32) (v5 : Int64) (v7 : Int32) (v8 : Int64) (v11 : Int32) (t0 : Int32) (σ : SM) : Option (Int32 × SM) :=
  mM_shares_211 k159 v1 v2 v5 v7 v8 v11 (0 : Int32) t0 σ
def mM_shares_159  (k159 : Int32 → Int32 → Int64 → Int32 → Int64 → Int32 → Int32 → SM → Option (Int32 × SM)) (v1 : Int32) (v2 : Int32) (v5 : Int64) (v7 : Int32) (v8 : Int64) (v10 : Int32) (v11 : Int32) (σ : SM) : Option (Int32 × SM) :=
  if (8 : Int32) ≤ v11 then
  (ck (bnd v2 8) <|
  nzL v5 <|
  if v7 ≤ v10 then
  (some ((((v1.toInt64 * (gI σ 27 (v2.toNatClampNeg)).toInt64) / v5).toInt32 + (0 : Int32)), σ))
  else
  (some ((((v1.toInt64 * (gI σ 27 (v2.toNatClampNeg)).toInt64) / v5).toInt32 + (1 : Int32)), σ)))
  else
  (ck (bnd v11 8) <|
  nzL v5 <|
  if v8 < ((v1.toInt64 * (gI σ 27 (v11.toNatClampNeg)).toInt64) - (v1.toInt64 * (gI σ 27 (v11.toNatClampNeg)).toInt64) / v5 * v5) then
  (mM_shares_206 k159 v1 v2 v5 v7 v8 v11 v10 σ)
  else
  (if ((v1.toInt64 * (gI σ 27 (v11.toNatClampNeg)).toInt64) - (v1.toInt64 * (gI σ 27 (v11.toNatClampNeg)).toInt64) / v5 * v5) = v8 then
  (if v2 ≤ v11 then
  (mM_shares_210 k159 v1 v2 v5 v7 v8 v11 v10 σ)
  else
  (mM_shares_206 k159 v1 v2 v5 v7 v8 v11 v10 σ))
  else
  (mM_shares_210 k159 v1 v2 v5 v7 v8 v11 v10 σ)))
def mM_shares_105  (k105 : Int32 → Int32 → Int64 → Int32 → Int32 → SM → Option (Int32 × SM)) (v1 : Int32) (v2 : Int32) (v5 : Int64) (v7 : Int32) (v8 : Int32) (σ : SM) : Option (Int32 × SM) :=
  if (8 : Int32) ≤ v8 then
  (ck (bnd v2 8) <|
  nzL v5 <|
  lq8 (mM_shares_159) LF v1 v2 v5 v7 ((v1.toInt64 * (gI σ 27 (v2.toNatClampNeg)).toInt64) - (v1.toInt64 * (gI σ 27 (v2.toNatClampNeg)).toInt64) / v5 * v5) (0 : Int32) (0 : Int32) σ)
  else
  (ck (bnd v8 8) <|
  nzL v5 <|
  k105 v1 v2 v5 (v7 - ((v1.toInt64 * (gI σ 27 (v8.toNatClampNeg)).toInt64) / v5).toInt32) (v8 + (1 : Int32)) σ)
def mM_shares_64  (k64 : Int32 → Int32 → Int64 → Int32 → SM → Option (Int32 × SM)) (v1 : Int32) (v2 : Int32) (v5 : Int64) (v7 : Int32) (σ : SM) : Option (Int32 × SM) :=
  if (8 : Int32) ≤ v7 then
  (if v5 = (0 : Int64) then
  (some ((-1 : Int32), σ))
  else
  (lq6 (mM_shares_105) LF v1 v2 v5 v1 (0 : Int32) σ))
  else
  (ck (bnd v7 8) <|
  k64 v1 v2 (v5 + (gI σ 27 (v7.toNatClampNeg)).toInt64) (v7 + (1 : Int32)) σ)
def mM_shares (p0 : Int32) (p1 : Int32) (p2 : Int32) (p3 : Int32) (σ : SM) : Option (Int32 × SM) :=
  st1 (sI σ 0 0 (0 : Int32)) fun σ1 =>
  bd1 (mM_in (p0.toInt64) (1 : Int64) (20 : Int64)) fun r4 =>
  if r4 = (0 : Int32) then
  (some ((-1 : Int32), σ1))
  else
  (bd1 (mM_in (p1.toInt64) (0 : Int64) (7 : Int64)) fun r7 =>
  if r7 = (0 : Int32) then
  (some ((-1 : Int32), σ1))
  else
  (bd1 (mM_isDay p2) fun r10 =>
  if r10 = (0 : Int32) then
  (some ((-1 : Int32), σ1))
  else
  (bd1 (mM_isDay p3) fun r13 =>
  if r13 = (0 : Int32) then
  (some ((-1 : Int32), σ1))
  else
  (bd1 (mM_knowBy p2 p3 σ1) fun σ16 =>
  bd1 (mM_addSeat (-1 : Int32) σ16) fun σ18 =>
  lq5 (mM_shares_64) LF p0 p1 (0 : Int64) (0 : Int32) σ18))))
def mM_terms_29  (σ : SM) : Option (Int32 × SM) :=
  bd2 (mM_told (-1 : Int32) σ) fun r2 σ3 =>
  some (r2, σ3)
def mM_terms (p0 : Int32) (p1 : Int32) (σ : SM) : Option (Int32 × SM) :=
  st1 (sI σ 0 0 (0 : Int32)) fun σ1 =>
  bd1 (mM_in (p0.toInt64) (1 : Int64) (50 : Int64)) fun r4 =>
  if r4 = (0 : Int32) then
  (mM_terms_29 σ1)
  else
  (bd1 (mM_in (p1.toInt64) (0 : Int64) (9 : Int64)) fun r7 =>
  if r7 = (0 : Int32) then
  (mM_terms_29 σ1)
  else
  (st1 (sI σ1 1 9 p0) fun σ9 =>
  st1 (sI σ9 1 10 p1) fun σ11 =>
  bd2 (mM_told (0 : Int32) σ11) fun r14 σ15 =>
  some (r14, σ15)))
def mM_span_23  (σ : SM) : Option (Int32 × SM) :=
  bd2 (mM_told (-1 : Int32) σ) fun r2 σ3 =>
  some (r2, σ3)
def mM_span (p0 : Int32) (p1 : Int32) (p2 : Int32) (σ : SM) : Option (Int32 × SM) :=
  st1 (sI σ 0 0 (0 : Int32)) fun σ1 =>
  bd1 (mM_isDay p2) fun r4 =>
  if r4 = (0 : Int32) then
  (mM_span_23 σ1)
  else
  (bd1 (mM_in (p1.toInt64) (0 : Int64) (p2.toInt64)) fun r7 =>
  if r7 = (0 : Int32) then
  (mM_span_23 σ1)
  else
  (bd1 (mM_in (p0.toInt64) (0 : Int64) ((gI σ1 0 34).toInt64 - (1 : Int64))) fun r10 =>
  if r10 = (0 : Int32) then
  (bd2 (mM_told (-2 : Int32) σ1) fun r22 σ23 =>
  some (r22, σ23))
  else
  (ck (bnd p0 7) <|
  st1 (sI σ1 17 (p0.toNatClampNeg) p1) fun σ13 =>
  ck (bnd p0 7) <|
  st1 (sI σ13 18 (p0.toNatClampNeg) p2) fun σ16 =>
  bd2 (mM_told (0 : Int32) σ16) fun r19 σ20 =>
  some (r19, σ20))))
def mM_isGone_31 (σ : SM) (k5 : Int32 → Int32 → Int32 → Int32 → Option (Int32)) (v1 : Int32) (v2 : Int32) (v4 : Int32) (t0 : Int32) : Option (Int32) :=
  k5 v1 v2 t0 (v4 + (1 : Int32))
def mM_isGone_26 (σ : SM) (k5 : Int32 → Int32 → Int32 → Int32 → Option (Int32)) (v1 : Int32) (v2 : Int32) (v4 : Int32) : Option (Int32) :=
  mM_isGone_31 σ k5 v1 v2 v4 (1 : Int32)
def mM_isGone_5 (σ : SM) (k5 : Int32 → Int32 → Int32 → Int32 → Option (Int32)) (v1 : Int32) (v2 : Int32) (v3 : Int32) (v4 : Int32) : Option (Int32) :=
  if v1 ≤ v4 then
  (ck (isZ v3) <|
  some v3)
  else
  (if v3 = (0 : Int32) then
  (ck (bnd v4 7) <|
  if (gI σ 31 (v4.toNatClampNeg)) = v2 then
  (mM_isGone_26 σ k5 v1 v2 v4)
  else
  (mM_isGone_31 σ k5 v1 v2 v4 (0 : Int32)))
  else
  (mM_isGone_26 σ k5 v1 v2 v4))
def mM_isGone (p0 : Int32) (p1 : Int32) (σ : SM) : Option (Int32) :=
  lq4 (mM_isGone_5 σ) LF p0 p1 (0 : Int32) (0 : Int32)
def mM_daysOf (p0 : Int32) (p1 : Int32) (σ : SM) : Option (Int32) :=
  bd1 (mM_away p0 p1 σ) fun r2 =>
  nzI (gI σ 1 9) <|
  bd1 (mM_placeAt p0) fun r5 =>
  ck (bnd r5 23016) <|
  bd1 (mM_placeAt p1) fun r8 =>
  ck (bnd r8 23016) <|
  if (gI σ 1 (r5.toNatClampNeg)) = (gI σ 1 (r8.toNatClampNeg)) then
  (some ((((r2 + (gI σ 1 9)) - (1 : Int32)) / (gI σ 1 9)) + (0 : Int32)))
  else
  (some ((((r2 + (gI σ 1 9)) - (1 : Int32)) / (gI σ 1 9)) + (gI σ 1 10)))
def mM_pollOf_37 (σ : SM) (v1 : Int32) (t0 : Int32) : Option (Int32) :=
  ck (bnd v1 7) <|
  if t0 ≤ (gI σ 18 (v1.toNatClampNeg)) then
  (some t0)
  else
  (some (-1 : Int32))
def mM_pollOf (p0 : Int32) (p1 : Int32) (p2 : Int32) (σ : SM) : Option (Int32) :=
  ck (bnd p0 7) <|
  bd1 (mM_daysOf p1 (gI σ 16 (p0.toNatClampNeg)) σ) fun r3 =>
  ck (bnd p0 7) <|
  if (gI σ 17 (p0.toNatClampNeg)) ≤ (p2 + r3) then
  (mM_pollOf_37 σ p0 (p2 + r3))
  else
  (ck (bnd p0 7) <|
  mM_pollOf_37 σ p0 (gI σ 17 (p0.toNatClampNeg)))
def mM_keepWay_86  (v1 : Int32) (v2 : Int32) (σ : SM) : Option (SM) :=
  if v2 = (0 : Int32) then
  (st1 (sI σ 0 54 (gI σ 0 54)) fun σ2 =>
  some σ2)
  else
  (st1 (sI σ 0 54 v1) fun σ4 =>
  some σ4)
def mM_keepWay_47  (k47 : Int32 → Int32 → Int32 → SM → Option (SM)) (v1 : Int32) (v2 : Int32) (v3 : Int32) (σ : SM) : Option (SM) :=
  if v1 ≤ v3 then
  (mM_keepWay_86 v1 v2 σ)
  else
  (if v2 = (0 : Int32) then
  (mM_keepWay_86 v1 v2 σ)
  else
  (ck (bnd v3 7) <|
  ck (bnd v3 7) <|
  st1 (sI σ 29 (v3.toNatClampNeg) (gI σ 31 (v3.toNatClampNeg))) fun σ5 =>
  ck (bnd v3 7) <|
  ck (bnd v3 7) <|
  st1 (sI σ5 30 (v3.toNatClampNeg) (gI σ5 32 (v3.toNatClampNeg))) fun σ9 =>
  k47 v1 v2 (v3 + (1 : Int32)) σ9))
def mM_keepWay_44  (v1 : Int32) (t0 : Int32) (σ : SM) : Option (SM) :=
  lq4 (mM_keepWay_47) LF v1 t0 (0 : Int32) σ
def mM_keepWay_39  (v1 : Int32) (σ : SM) : Option (SM) :=
  mM_keepWay_44 v1 (1 : Int32) σ
def mM_keepWay_43  (v1 : Int32) (σ : SM) : Option (SM) :=
  mM_keepWay_44 v1 (0 : Int32) σ
def mM_keepWay (p0 : Int32) (σ : SM) : Option (SM) :=
  if (gI σ 0 54) < p0 then
  (mM_keepWay_39 p0 σ)
  else
  (if p0 = (gI σ 0 54) then
  (if p0 ≤ (0 : Int32) then
  (mM_keepWay_43 p0 σ)
  else
  (ck (bnd (p0 - (1 : Int32)) 7) <|
  ck (bnd (p0 - (1 : Int32)) 7) <|
  if (gI σ 30 ((p0 - (1 : Int32)).toNatClampNeg)) ≤ (gI σ 32 ((p0 - (1 : Int32)).toNatClampNeg)) then
  (mM_keepWay_43 p0 σ)
  else
  (mM_keepWay_39 p0 σ)))
  else
  (mM_keepWay_43 p0 σ))
def mM_way_198  (k44 : Int32 → Int32 → Int32 → Int32 → SM → Option (Int32 × SM)) (v1 : Int32) (v2 : Int32) (v3 : Int32) (v4 : Int32) (σ : SM) : Option (Int32 × SM) :=
  k44 v1 v2 v3 v4 σ
def mM_way_196  (k44 : Int32 → Int32 → Int32 → Int32 → SM → Option (Int32 × SM)) (v1 : Int32) (v2 : Int32) (v3 : Int32) (t0 : Int32) (σ : SM) : Option (Int32 × SM) :=
  mM_way_198 k44 v1 v2 v3 t0 σ
def mM_way_130  (k44 : Int32 → Int32 → Int32 → Int32 → SM → Option (Int32 × SM)) (v1 : Int32) (v2 : Int32) (v3 : Int32) (v4 : Int32) (v5 : Int32) (v6 : Int32) (σ : SM) : Option (Int32 × SM) :=
  if (gI σ 0 34) ≤ v4 then
  (if (v3 + (-1 : Int32)) < (0 : Int32) then
  (mM_way_196 k44 v1 v2 (v3 + (-1 : Int32)) (0 : Int32) σ)
  else
  (ck (bnd (v3 + (-1 : Int32)) 7) <|
  mM_way_196 k44 v1 v2 (v3 + (-1 : Int32)) ((gI σ 31 ((v3 + (-1 : Int32)).toNatClampNeg)) + (1 : Int32)) σ))
  else
  (ck (bnd v3 7) <|
  st1 (sI σ 31 (v3.toNatClampNeg) v4) fun σ5 =>
  bd1 (mM_pollOf v4 v5 v6 σ5) fun r8 =>
  ck (bnd v3 7) <|
  st1 (sI σ5 32 (v3.toNatClampNeg) r8) fun σ10 =>
  bd1 (mM_keepWay (v3 + (1 : Int32)) σ10) fun σ13 =>
  mM_way_198 k44 v1 v2 (v3 + (1 : Int32)) (0 : Int32) σ13)
def mM_way_124  (k91 : Int32 → Int32 → Int32 → Int32 → Int32 → Int32 → SM → Option (Int32 × SM)) (v1 : Int32) (v2 : Int32) (v3 : Int32) (v4 : Int32) (v5 : Int32) (v6 : Int32) (σ : SM) : Option (Int32 × SM) :=
  k91 v1 v2 v3 (v4 + (1 : Int32)) v5 v6 σ
def mM_way_91  (k44 : Int32 → Int32 → Int32 → Int32 → SM → Option (Int32 × SM)) (k91 : Int32 → Int32 → Int32 → Int32 → Int32 → Int32 → SM → Option (Int32 × SM)) (v1 : Int32) (v2 : Int32) (v3 : Int32) (v4 : Int32) (v5 : Int32) (v6 : Int32) (σ : SM) : Option (Int32 × SM) :=
  if (gI σ 0 34) ≤ v4 then
  (mM_way_130 k44 v1 v2 v3 v4 v5 v6 σ)
  else
  (bd1 (mM_isGone v3 v4 σ) fun r3 =>
  if r3 = (0 : Int32) then
  (bd1 (mM_pollOf v4 v5 v6 σ) fun r6 =>
  if r6 = (-1 : Int32) then
  (mM_way_124 k91 v1 v2 v3 v4 v5 v6 σ)
  else
  (mM_way_130 k44 v1 v2 v3 v4 v5 v6 σ))
  else
  (mM_way_124 k91 v1 v2 v3 v4 v5 v6 σ))
def mM_way_89  (k44 : Int32 → Int32 → Int32 → Int32 → SM → Option (Int32 × SM)) (v1 : Int32) (v2 : Int32) (v3 : Int32) (v4 : Int32) (v5 : Int32) (t0 : Int32) (σ : SM) : Option (Int32 × SM) :=
  lq7 (mM_way_91 k44) LF v1 v2 v3 v4 v5 t0 σ
def mM_way_69  (k44 : Int32 → Int32 → Int32 → Int32 → SM → Option (Int32 × SM)) (v1 : Int32) (v2 : Int32) (v3 : Int32) (v4 : Int32) (t0 : Int32) (σ : SM) : Option (Int32 × SM) :=
  if v3 = (0 : Int32) then
  (mM_way_89 k44 v1 v2 v3 v4 t0 v2 σ)
  else
  (ck (bnd (v3 - (1 : Int32)) 7) <|
  mM_way_89 k44 v1 v2 v3 v4 t0 ((gI σ 32 ((v3 - (1 : Int32)).toNatClampNeg)) + (1 : Int32)) σ)
def mM_way_44  (k44 : Int32 → Int32 → Int32 → Int32 → SM → Option (Int32 × SM)) (v1 : Int32) (v2 : Int32) (v3 : Int32) (v4 : Int32) (σ : SM) : Option (Int32 × SM) :=
  if v3 < (0 : Int32) then
  (some ((gI σ 0 54), σ))
  else
  (if v3 = (0 : Int32) then
  (mM_way_69 k44 v1 v2 v3 v4 v1 σ)
  else
  (ck (bnd (v3 - (1 : Int32)) 7) <|
  ck (bnd (gI σ 31 ((v3 - (1 : Int32)).toNatClampNeg)) 7) <|
  mM_way_69 k44 v1 v2 v3 v4 (gI σ 16 ((gI σ 31 ((v3 - (1 : Int32)).toNatClampNeg)).toNatClampNeg)) σ))
def mM_way (p0 : Int32) (p1 : Int32) (σ : SM) : Option (Int32 × SM) :=
  st1 (sI σ 0 0 (0 : Int32)) fun σ1 =>
  bd1 (mM_isPlace p0 σ1) fun r4 =>
  if r4 = (0 : Int32) then
  (some ((-1 : Int32), σ1))
  else
  (bd1 (mM_isDay p1) fun r7 =>
  if r7 = (0 : Int32) then
  (some ((-1 : Int32), σ1))
  else
  (bd1 (mM_areThere  σ1) fun r10 =>
  if r10 = (0 : Int32) then
  (some ((-1 : Int32), σ1))
  else
  (st1 (sI σ1 0 53 (1 : Int32)) fun σ12 =>
  st1 (sI σ12 0 54 (0 : Int32)) fun σ14 =>
  lq5 (mM_way_44) LF p0 p1 (0 : Int32) (0 : Int32) σ14)))
def mM_leg (p0 : Int32) (p1 : Int32) (σ : SM) : Option (Int32 × SM) :=
  st1 (sI σ 0 0 (0 : Int32)) fun σ1 =>
  if (gI σ1 0 53) = (0 : Int32) then
  (some ((-1 : Int32), σ1))
  else
  (bd1 (mM_in (p0.toInt64) (0 : Int64) ((gI σ1 0 54).toInt64 - (1 : Int64))) fun r5 =>
  if r5 = (0 : Int32) then
  (some ((-1 : Int32), σ1))
  else
  (if p1 = (0 : Int32) then
  (ck (bnd p0 7) <|
  some ((gI σ1 29 (p0.toNatClampNeg)), σ1))
  else
  (if p1 = (1 : Int32) then
  (ck (bnd p0 7) <|
  some ((gI σ1 30 (p0.toNatClampNeg)), σ1))
  else
  (some ((-1 : Int32), σ1)))))
def mM_choose_18  (k18 : Int32 → Int32 → Int64 → Int32 → Option (Int64)) (v0 : Int32) (v1 : Int32) (v2 : Int64) (v4 : Int32) : Option (Int64) :=
  if v1 ≤ v4 then
  (some v2)
  else
  (if v2 ≤ (0 : Int64) then
  (some v2)
  else
  (nzL ((v4 + (1 : Int32)).toInt64) <|
  k18 v0 v1 ((v2 * (v0 - v4).toInt64) / (v4 + (1 : Int32)).toInt64) (v4 + (1 : Int32))))
def mM_choose_14  (v0 : Int32) (v1 : Int32) (t0 : Int64) : Option (Int64) :=
  lq4 (mM_choose_18) LF v0 v1 t0 (0 : Int32)
def mM_choose_9  (v0 : Int32) (v1 : Int32) : Option (Int64) :=
  mM_choose_14 v0 v1 (0 : Int64)
def mM_choose (p0 : Int32) (p1 : Int32) : Option (Int64) :=
  if p1 < (0 : Int32) then
  (mM_choose_9 p0 p1)
  else
  (if p1 ≤ p0 then
  (mM_choose_14 p0 p1 (1 : Int64))
  else
  (mM_choose_9 p0 p1))
def mM_mayBe_65  (k9 : Int32 → Int32 → Int32 → Int32 → Int64 → Int64 → Int32 → Option (Int32)) (v0 : Int32) (v1 : Int32) (v2 : Int32) (v3 : Int32) (v4 : Int64) (v8 : Int32) (t0 : Int64) (t1 : Int64) : Option (Int32) :=
  k9 v0 v1 v2 v3 v4 (t1 + t0) (v8 + (1 : Int32))
def mM_mayBe_48  (k9 : Int32 → Int32 → Int32 → Int32 → Int64 → Int64 → Int32 → Option (Int32)) (v0 : Int32) (v1 : Int32) (v2 : Int32) (v3 : Int32) (v6 : Int64) (v8 : Int32) (v9 : Int64) (t0 : Int64) (t1 : Int64) : Option (Int32) :=
  if v8 < v2 then
  (mM_mayBe_65 k9 v0 v1 v2 v3 (t1 + t0) v8 (0 : Int64) v6)
  else
  (mM_mayBe_65 k9 v0 v1 v2 v3 (t1 + t0) v8 v9 v6)
def mM_mayBe_9  (k9 : Int32 → Int32 → Int32 → Int32 → Int64 → Int64 → Int32 → Option (Int32)) (v0 : Int32) (v1 : Int32) (v2 : Int32) (v3 : Int32) (v4 : Int64) (v6 : Int64) (v8 : Int32) : Option (Int32) :=
  if v1 < v8 then
  (bd1 (mM_choose v0 v1) fun r3 =>
  if ((20 : Int64) * v4) < r3 then
  (some (0 : Int32))
  else
  (if ((20 : Int64) * v6) < r3 then
  (some (0 : Int32))
  else
  (some (1 : Int32))))
  else
  (bd1 (mM_choose v3 v8) fun r7 =>
  bd1 (mM_choose (v0 - v3) (v1 - v8)) fun r9 =>
  if v2 < v8 then
  (mM_mayBe_48 k9 v0 v1 v2 v3 v6 v8 (r7 * r9) (0 : Int64) v4)
  else
  (mM_mayBe_48 k9 v0 v1 v2 v3 v6 v8 (r7 * r9) (r7 * r9) v4))
def mM_mayBe (p0 : Int32) (p1 : Int32) (p2 : Int32) (p3 : Int32) : Option (Int32) :=
  lq7 (mM_mayBe_9) LF p0 p1 p2 p3 (0 : Int64) (0 : Int64) (0 : Int32)
def mM_doors_103  (k67 : Int32 → Int32 → Int32 → Int32 → Int32 → Int32 → Int32 → SM → Option (Int32 × SM)) (v1 : Int32) (v2 : Int32) (v3 : Int32) (v4 : Int32) (v5 : Int32) (v6 : Int32) (v7 : Int32) (σ : SM) : Option (Int32 × SM) :=
  k67 v1 v2 v3 v4 v5 v6 (v7 + (1 : Int32)) σ
def mM_doors_97  (k67 : Int32 → Int32 → Int32 → Int32 → Int32 → Int32 → Int32 → SM → Option (Int32 × SM)) (v1 : Int32) (v2 : Int32) (v3 : Int32) (v4 : Int32) (v7 : Int32) (t0 : Int32) (σ : SM) : Option (Int32 × SM) :=
  mM_doors_103 k67 v1 v2 v3 v4 t0 v7 v7 σ
def mM_doors_67  (k67 : Int32 → Int32 → Int32 → Int32 → Int32 → Int32 → Int32 → SM → Option (Int32 × SM)) (v1 : Int32) (v2 : Int32) (v3 : Int32) (v4 : Int32) (v5 : Int32) (v6 : Int32) (v7 : Int32) (σ : SM) : Option (Int32 × SM) :=
  if v1 < v7 then
  (if v4 = (0 : Int32) then
  (some (v5, σ))
  else
  (some (v6, σ)))
  else
  (bd1 (mM_mayBe v1 v2 v3 v7) fun r4 =>
  if r4 = (0 : Int32) then
  (mM_doors_103 k67 v1 v2 v3 v4 v5 v6 v7 σ)
  else
  (if v5 = (-1 : Int32) then
  (mM_doors_97 k67 v1 v2 v3 v4 v7 v7 σ)
  else
  (mM_doors_97 k67 v1 v2 v3 v4 v7 v5 σ)))
def mM_doors (p0 : Int32) (p1 : Int32) (p2 : Int32) (p3 : Int32) (σ : SM) : Option (Int32 × SM) :=
  st1 (sI σ 0 0 (0 : Int32)) fun σ1 =>
  bd1 (mM_in (p0.toInt64) (1 : Int64) (60 : Int64)) fun r4 =>
  if r4 = (0 : Int32) then
  (some ((-1 : Int32), σ1))
  else
  (bd1 (mM_in (p1.toInt64) (1 : Int64) (12 : Int64)) fun r7 =>
  if r7 = (0 : Int32) then
  (some ((-1 : Int32), σ1))
  else
  (if p0 < p1 then
  (some ((-1 : Int32), σ1))
  else
  (bd1 (mM_in (p2.toInt64) (0 : Int64) (p1.toInt64)) fun r11 =>
  if r11 = (0 : Int32) then
  (some ((-1 : Int32), σ1))
  else
  (bd1 (mM_in (p3.toInt64) (0 : Int64) (1 : Int64)) fun r14 =>
  if r14 = (0 : Int32) then
  (some ((-1 : Int32), σ1))
  else
  (lq8 (mM_doors_67) LF p0 p1 p2 p3 (-1 : Int32) (-1 : Int32) (0 : Int32) σ1)))))
def mM_addBooth_101  (k17 : Int32 → Int32 → SM → Option (SM)) (v1 : Int32) (v2 : Int32) (σ : SM) : Option (SM) :=
  k17 v1 (v2 + (1 : Int32)) σ
def mM_addBooth_17  (k17 : Int32 → Int32 → SM → Option (SM)) (v1 : Int32) (v2 : Int32) (σ : SM) : Option (SM) :=
  if (gI σ 1 6) ≤ v2 then
  (some σ)
  else
  (bd1 (mM_boothOf v2 σ) fun r3 =>
  if r3 = v1 then
  (st1 (sI σ 0 59 ((gI σ 0 59) + (1 : Int32))) fun σ5 =>
  ck (bnd (((4008 : Int32) + ((5 : Int32) * v2)) + (3 : Int32)) 23016) <|
  st1 (sL σ5 0 60 ((gL σ5 0 60) + (gI σ5 1 ((((4008 : Int32) + ((5 : Int32) * v2)) + (3 : Int32)).toNatClampNeg)).toInt64)) fun σ8 =>
  ck (bnd (((4008 : Int32) + ((5 : Int32) * v2)) + (3 : Int32)) 23016) <|
  st1 (sL σ8 0 61 ((gL σ8 0 61) + ((gI σ8 1 ((((4008 : Int32) + ((5 : Int32) * v2)) + (3 : Int32)).toNatClampNeg)).toInt64 * (gI σ8 0 59).toInt64))) fun σ11 =>
  mM_addBooth_101 k17 v1 v2 σ11)
  else
  (mM_addBooth_101 k17 v1 v2 σ))
def mM_addBooth (p0 : Int32) (σ : SM) : Option (SM) :=
  st1 (sI σ 0 59 (0 : Int32)) fun σ1 =>
  st1 (sL σ1 0 60 (0 : Int64)) fun σ3 =>
  st1 (sL σ3 0 61 (0 : Int64)) fun σ5 =>
  lq3 (mM_addBooth_17) LF p0 (0 : Int32) σ5
def mM_seal (p0 : Int32) (σ : SM) : Option (Int32 × SM) :=
  st1 (sI σ 0 0 (0 : Int32)) fun σ1 =>
  bd1 (mM_isBooth p0 σ1) fun r4 =>
  if r4 = (0 : Int32) then
  (bd2 (mM_told (-2 : Int32) σ1) fun r14 σ15 =>
  some (r14, σ15))
  else
  (bd1 (mM_addBooth p0 σ1) fun σ7 =>
  bd1 (mM_addFour ((2368 : Int32) + ((4 : Int32) * p0)) (1 : Int32) (gI σ7 0 59) ((gL σ7 0 60).toInt32) ((gL σ7 0 61).toInt32) σ7) fun σ9 =>
  bd2 (mM_told (gI σ9 0 59) σ9) fun r11 σ12 =>
  some (r11, σ12))
def mM_alter (p0 : Int32) (p1 : Int32) (σ : SM) : Option (Int32 × SM) :=
  st1 (sI σ 0 0 (0 : Int32)) fun σ1 =>
  bd1 (mM_in (p1.toInt64) (1 : Int64) (255 : Int64)) fun r4 =>
  if r4 = (0 : Int32) then
  (bd2 (mM_told (-1 : Int32) σ1) fun r21 σ22 =>
  some (r21, σ22))
  else
  (bd1 (mM_in (p0.toInt64) (0 : Int64) ((gI σ1 1 6).toInt64 - (1 : Int64))) fun r7 =>
  if r7 = (0 : Int32) then
  (bd2 (mM_told (-2 : Int32) σ1) fun r18 σ19 =>
  some (r18, σ19))
  else
  (ck (bnd (((4008 : Int32) + ((5 : Int32) * p0)) + (3 : Int32)) 23016) <|
  ck (bnd (((4008 : Int32) + ((5 : Int32) * p0)) + (3 : Int32)) 23016) <|
  st1 (sI σ1 1 ((((4008 : Int32) + ((5 : Int32) * p0)) + (3 : Int32)).toNatClampNeg) ((gI σ1 1 ((((4008 : Int32) + ((5 : Int32) * p0)) + (3 : Int32)).toNatClampNeg)) ^^^ p1)) fun σ11 =>
  ck (bnd (((4008 : Int32) + ((5 : Int32) * p0)) + (3 : Int32)) 23016) <|
  bd2 (mM_told (gI σ11 1 ((((4008 : Int32) + ((5 : Int32) * p0)) + (3 : Int32)).toNatClampNeg)) σ11) fun r15 σ16 =>
  some (r15, σ16)))
def mM_found_158  (k119 : Int32 → Int64 → Int64 → Int32 → Int32 → SM → Option (Int32 × SM)) (v1 : Int32) (v3 : Int64) (v5 : Int64) (v7 : Int32) (v8 : Int32) (σ : SM) : Option (Int32 × SM) :=
  k119 v1 v3 v5 v7 (v8 + (1 : Int32)) σ
def mM_found_119  (k119 : Int32 → Int64 → Int64 → Int32 → Int32 → SM → Option (Int32 × SM)) (v1 : Int32) (v3 : Int64) (v5 : Int64) (v7 : Int32) (v8 : Int32) (σ : SM) : Option (Int32 × SM) :=
  if (gI σ 1 6) ≤ v8 then
  (some ((-2 : Int32), σ))
  else
  (bd1 (mM_boothOf v8 σ) fun r3 =>
  if r3 = v1 then
  (if (v3 * (v7 + (1 : Int32)).toInt64) = v5 then
  (some (v8, σ))
  else
  (mM_found_158 k119 v1 v3 v5 (v7 + (1 : Int32)) v8 σ))
  else
  (mM_found_158 k119 v1 v3 v5 v7 v8 σ))
def mM_found (p0 : Int32) (σ : SM) : Option (Int32 × SM) :=
  st1 (sI σ 0 0 (0 : Int32)) fun σ1 =>
  bd1 (mM_isBooth p0 σ1) fun r4 =>
  if r4 = (0 : Int32) then
  (some ((-3 : Int32), σ1))
  else
  (ck (bnd ((2368 : Int32) + ((4 : Int32) * p0)) 23016) <|
  if (gI σ1 1 (((2368 : Int32) + ((4 : Int32) * p0)).toNatClampNeg)) = (0 : Int32) then
  (some ((-3 : Int32), σ1))
  else
  (bd1 (mM_addBooth p0 σ1) fun σ9 =>
  ck (bnd (((2368 : Int32) + ((4 : Int32) * p0)) + (1 : Int32)) 23016) <|
  if (gI σ9 0 59) = (gI σ9 1 ((((2368 : Int32) + ((4 : Int32) * p0)) + (1 : Int32)).toNatClampNeg)) then
  (ck (bnd (((2368 : Int32) + ((4 : Int32) * p0)) + (2 : Int32)) 23016) <|
  ck (bnd (((2368 : Int32) + ((4 : Int32) * p0)) + (3 : Int32)) 23016) <|
  if ((gL σ9 0 60) - (gI σ9 1 ((((2368 : Int32) + ((4 : Int32) * p0)) + (2 : Int32)).toNatClampNeg)).toInt64) = (0 : Int64) then
  (if ((gL σ9 0 61) - (gI σ9 1 ((((2368 : Int32) + ((4 : Int32) * p0)) + (3 : Int32)).toNatClampNeg)).toInt64) = (0 : Int64) then
  (some ((-1 : Int32), σ9))
  else
  (some ((-2 : Int32), σ9)))
  else
  (lq6 (mM_found_119) LF p0 ((gL σ9 0 60) - (gI σ9 1 ((((2368 : Int32) + ((4 : Int32) * p0)) + (2 : Int32)).toNatClampNeg)).toInt64) ((gL σ9 0 61) - (gI σ9 1 ((((2368 : Int32) + ((4 : Int32) * p0)) + (3 : Int32)).toNatClampNeg)).toInt64) (0 : Int32) (0 : Int32) σ9))
  else
  (some ((-2 : Int32), σ9))))
def mM_all (p0 : Int32) (σ : SM) : Option (Int32 × SM) :=
  st1 (sI σ 0 0 (0 : Int32)) fun σ1 =>
  (if p0 = (0 : Int32) then
  (some ((gI σ1 1 0), σ1))
  else if p0 = (1 : Int32) then
  (some ((gI σ1 1 1), σ1))
  else if p0 = (2 : Int32) then
  (some ((gI σ1 1 2), σ1))
  else if p0 = (3 : Int32) then
  (some ((gI σ1 1 3), σ1))
  else if p0 = (4 : Int32) then
  (some ((gI σ1 1 4), σ1))
  else if p0 = (5 : Int32) then
  (some ((gI σ1 1 5), σ1))
  else if p0 = (6 : Int32) then
  (some ((gI σ1 1 6), σ1))
  else if p0 = (7 : Int32) then
  (some ((gI σ1 0 34), σ1))
  else if p0 = (8 : Int32) then
  (some ((gI σ1 0 10), σ1))
  else (some ((-1 : Int32), σ1)))
def mM_status (σ : SM) : Option (Int32 × SM) :=
  st1 (sI σ 0 0 (0 : Int32)) fun σ1 =>
  some ((gI σ1 0 1), σ1)
