set_option maxRecDepth 100000
theorem ckb_10 : (Int8.ofInt 10).toInt32 = (10 : Int32) := by decide
theorem ckb_11 : (Int8.ofInt 11).toInt32 = (11 : Int32) := by decide
theorem ckb_12 : (Int8.ofInt 12).toInt32 = (12 : Int32) := by decide
theorem ckb_120 : (Int8.ofInt 120).toInt32 = (120 : Int32) := by decide
theorem ckb_122 : (Int8.ofInt 122).toInt32 = (122 : Int32) := by decide
theorem ckb_16 : (Int8.ofInt 16).toInt32 = (16 : Int32) := by decide
theorem ckb_17 : (Int8.ofInt 17).toInt32 = (17 : Int32) := by decide
theorem ckb_19 : (Int8.ofInt 19).toInt32 = (19 : Int32) := by decide
theorem ckb_20 : (Int8.ofInt 20).toInt32 = (20 : Int32) := by decide
theorem ckb_24 : (Int8.ofInt 24).toInt32 = (24 : Int32) := by decide
theorem ckb_32 : (Int8.ofInt 32).toInt32 = (32 : Int32) := by decide
theorem ckb_40 : (Int8.ofInt 40).toInt32 = (40 : Int32) := by decide
theorem ckb_42 : (Int8.ofInt 42).toInt32 = (42 : Int32) := by decide
theorem ckb_43 : (Int8.ofInt 43).toInt32 = (43 : Int32) := by decide
theorem ckb_45 : (Int8.ofInt 45).toInt32 = (45 : Int32) := by decide
theorem ckb_47 : (Int8.ofInt 47).toInt32 = (47 : Int32) := by decide
theorem ckb_48 : (Int8.ofInt 48).toInt32 = (48 : Int32) := by decide
theorem ckb_50 : (Int8.ofInt 50).toInt32 = (50 : Int32) := by decide
theorem ckb_57 : (Int8.ofInt 57).toInt32 = (57 : Int32) := by decide
theorem ckb_6 : (Int8.ofInt 6).toInt32 = (6 : Int32) := by decide
theorem ckb_60 : (Int8.ofInt 60).toInt32 = (60 : Int32) := by decide
theorem ckb_62 : (Int8.ofInt 62).toInt32 = (62 : Int32) := by decide
theorem ckb_63 : (Int8.ofInt 63).toInt32 = (63 : Int32) := by decide
theorem ckb_7 : (Int8.ofInt 7).toInt32 = (7 : Int32) := by decide
theorem ckb_8 : (Int8.ofInt 8).toInt32 = (8 : Int32) := by decide
theorem ckb_80 : (Int8.ofInt 80).toInt32 = (80 : Int32) := by decide
theorem ckb_9 : (Int8.ofInt 9).toInt32 = (9 : Int32) := by decide
theorem ckb_96 : (Int8.ofInt 96).toInt32 = (96 : Int32) := by decide
theorem ckb_97 : (Int8.ofInt 97).toInt32 = (97 : Int32) := by decide
theorem ckb_99 : (Int8.ofInt 99).toInt32 = (99 : Int32) := by decide
theorem ckb_m2 : (Int8.ofInt (-2)).toInt32 = (-2 : Int32) := by decide
theorem ckb_m3 : (Int8.ofInt (-3)).toInt32 = (-3 : Int32) := by decide
theorem ckb_m4 : (Int8.ofInt (-4)).toInt32 = (-4 : Int32) := by decide
theorem ckb_m5 : (Int8.ofInt (-5)).toInt32 = (-5 : Int32) := by decide
theorem ckb_m6 : (Int8.ofInt (-6)).toInt32 = (-6 : Int32) := by decide
theorem ckc_0 : Int32.ofInt 0 = (0 : Int32) := by decide
theorem ckc_1 : Int32.ofInt 1 = (1 : Int32) := by decide
theorem ckc_2 : Int32.ofInt 2 = (2 : Int32) := by decide
theorem ckc_3 : Int32.ofInt 3 = (3 : Int32) := by decide
theorem ckc_4 : Int32.ofInt 4 = (4 : Int32) := by decide
theorem ckc_5 : Int32.ofInt 5 = (5 : Int32) := by decide
theorem ckc_7 : Int32.ofInt 7 = (7 : Int32) := by decide
theorem ckc_m1 : Int32.ofInt (-1) = (-1 : Int32) := by decide
theorem ckc_m8 : Int32.ofInt (-8) = (-8 : Int32) := by decide
theorem ckl_0 : Int64.ofNat ((0 : Fin 2) : Nat) = (0 : Int64) := by decide
theorem ckl_1 : Int64.ofNat ((1 : Fin 2) : Nat) = (1 : Int64) := by decide
theorem cks_1000 : (Int16.ofInt 1000).toInt32 = (1000 : Int32) := by decide
theorem cks_10000 : (Int16.ofInt 10000).toInt32 = (10000 : Int32) := by decide
theorem cks_160 : (Int16.ofInt 160).toInt32 = (160 : Int32) := by decide
theorem cks_200 : (Int16.ofInt 200).toInt32 = (200 : Int32) := by decide
theorem cks_23016 : (Int16.ofInt 23016).toInt32 = (23016 : Int32) := by decide
theorem cks_240 : (Int16.ofInt 240).toInt32 = (240 : Int32) := by decide
theorem cks_255 : (Int16.ofInt 255).toInt32 = (255 : Int32) := by decide
theorem cks_399 : (Int16.ofInt 399).toInt32 = (399 : Int32) := by decide
theorem cks_400 : (Int16.ofInt 400).toInt32 = (400 : Int32) := by decide
theorem clX0 : CL 0 RX0 TX0 39 := ⟨rfl, in_X0, tyX0_ok, nmX0⟩
theorem clX1 : CL 1 RX1 TX1 27 := ⟨rfl, in_X1, tyX1_ok, nmX1⟩
theorem clJ2 : CL 2 RJ2 TJ2 3 := ⟨rfl, in_J2, tyJ2_ok, nmJ2⟩
theorem clX2 : CL 3 RX2 TX2 5 := ⟨rfl, in_X2, tyX2_ok, nmX2⟩
theorem clX3 : CL 4 RX3 TX3 3 := ⟨rfl, in_X3, tyX3_ok, nmX3⟩
theorem clX4 : CL 5 RX4 TX4 6 := ⟨rfl, in_X4, tyX4_ok, nmX4⟩
theorem clX5 : CL 6 RX5 TX5 7 := ⟨rfl, in_X5, tyX5_ok, nmX5⟩
theorem clX6 : CL 7 RX6 TX6 10 := ⟨rfl, in_X6, tyX6_ok, nmX6⟩
theorem clX8 : CL 9 RX8 TX8 5 := ⟨rfl, in_X8, tyX8_ok, nmX8⟩
theorem clX9 : CL 10 RX9 TX9 5 := ⟨rfl, in_X9, tyX9_ok, nmX9⟩
theorem clX10 : CL 11 RX10 TX10 5 := ⟨rfl, in_X10, tyX10_ok, nmX10⟩
theorem clX11 : CL 12 RX11 TX11 5 := ⟨rfl, in_X11, tyX11_ok, nmX11⟩
theorem clJ10 : CL 13 RJ10 TJ10 6 := ⟨rfl, in_J10, tyJ10_ok, nmJ10⟩
theorem clX12 : CL 14 RX12 TX12 5 := ⟨rfl, in_X12, tyX12_ok, nmX12⟩
theorem clX13 : CL 15 RX13 TX13 7 := ⟨rfl, in_X13, tyX13_ok, nmX13⟩
theorem clX14 : CL 16 RX14 TX14 7 := ⟨rfl, in_X14, tyX14_ok, nmX14⟩
theorem clX15 : CL 17 RX15 TX15 5 := ⟨rfl, in_X15, tyX15_ok, nmX15⟩
theorem clX17 : CL 18 RX17 TX17 1 := ⟨rfl, in_X17, tyX17_ok, nmX17⟩
theorem clX18 : CL 19 RX18 TX18 1 := ⟨rfl, in_X18, tyX18_ok, nmX18⟩
theorem clX19 : CL 20 RX19 TX19 3 := ⟨rfl, in_X19, tyX19_ok, nmX19⟩
theorem clX21 : CL 21 RX21 TX21 1 := ⟨rfl, in_X21, tyX21_ok, nmX21⟩
theorem clX22 : CL 22 RX22 TX22 3 := ⟨rfl, in_X22, tyX22_ok, nmX22⟩
theorem clX23 : CL 23 RX23 TX23 1 := ⟨rfl, in_X23, tyX23_ok, nmX23⟩
theorem clX24 : CL 24 RX24 TX24 2 := ⟨rfl, in_X24, tyX24_ok, nmX24⟩
theorem clX25 : CL 25 RX25 TX25 3 := ⟨rfl, in_X25, tyX25_ok, nmX25⟩
theorem clJ11 : CL 26 RJ11 TJ11 2 := ⟨rfl, in_J11, tyJ11_ok, nmJ11⟩
theorem ac_1 : Cond.arrayClass (aty 1) ∈ lw_all := q339
theorem ac_2 : Cond.arrayClass (aty 2) ∈ lw_all := q340
theorem ac_3 : Cond.arrayClass (aty 3) ∈ lw_all := q341
theorem ac_4 : Cond.arrayClass (aty 4) ∈ lw_all := q366
theorem castO : ∀ q ∈ clsL, Cond.castable q.1 "java/lang/Object" ∈ lw_nest := by
  intro q hq
  unfold clsL at hq
  simp only [List.mem_cons, List.not_mem_nil, or_false] at hq
  rcases hq with rfl | rfl | rfl | rfl | rfl | rfl | rfl | rfl | rfl | rfl | rfl | rfl | rfl | rfl | rfl | rfl | rfl | rfl | rfl | rfl | rfl | rfl | rfl | rfl | rfl | rfl | rfl
  · exact List.mem_filter.mpr ⟨q2537, rfl⟩
  · exact List.mem_filter.mpr ⟨q2536, rfl⟩
  · exact List.mem_filter.mpr ⟨q2538, rfl⟩
  · exact List.mem_filter.mpr ⟨q2539, rfl⟩
  · exact List.mem_filter.mpr ⟨q2540, rfl⟩
  · exact List.mem_filter.mpr ⟨q2541, rfl⟩
  · exact List.mem_filter.mpr ⟨q2542, rfl⟩
  · exact List.mem_filter.mpr ⟨q2543, rfl⟩
  · exact List.mem_filter.mpr ⟨q2544, rfl⟩
  · exact List.mem_filter.mpr ⟨q2545, rfl⟩
  · exact List.mem_filter.mpr ⟨q2546, rfl⟩
  · exact List.mem_filter.mpr ⟨q2547, rfl⟩
  · exact List.mem_filter.mpr ⟨q2548, rfl⟩
  · exact List.mem_filter.mpr ⟨q2549, rfl⟩
  · exact List.mem_filter.mpr ⟨q2550, rfl⟩
  · exact List.mem_filter.mpr ⟨q2551, rfl⟩
  · exact List.mem_filter.mpr ⟨q2552, rfl⟩
  · exact List.mem_filter.mpr ⟨q2553, rfl⟩
  · exact List.mem_filter.mpr ⟨q2554, rfl⟩
  · exact List.mem_filter.mpr ⟨q2555, rfl⟩
  · exact List.mem_filter.mpr ⟨q2556, rfl⟩
  · exact List.mem_filter.mpr ⟨q2557, rfl⟩
  · exact List.mem_filter.mpr ⟨q2558, rfl⟩
  · exact List.mem_filter.mpr ⟨q2559, rfl⟩
  · exact List.mem_filter.mpr ⟨q2560, rfl⟩
  · exact List.mem_filter.mpr ⟨q2561, rfl⟩
  · exact List.mem_filter.mpr ⟨q2563, rfl⟩
theorem cc_X0_173 : ∀ c ∈ [9, 10, 11, 12], CC2 RX0 173 c := fun c hc => by
  simp only [List.mem_cons, List.not_mem_nil, or_false] at hc
  rcases hc with rfl | rfl | rfl | rfl
  · exact Or.inr ⟨_, _, _, rfl, q794⟩
  · exact Or.inl (CC.mk rfl q794 q2531)
  · exact Or.inl (CC.mk rfl q794 q2529)
  · exact Or.inl (CC.mk rfl q794 q2530)
theorem cc_X0_279 : ∀ c ∈ [14], CC2 RX0 279 c := fun c hc => by
  simp only [List.mem_cons, List.not_mem_nil, or_false] at hc
  rcases hc with rfl
  · exact Or.inr ⟨_, _, _, rfl, q988⟩
theorem cc_X0_306 : ∀ c ∈ [25], CC2 RX0 306 c := fun c hc => by
  simp only [List.mem_cons, List.not_mem_nil, or_false] at hc
  rcases hc with rfl
  · exact Or.inr ⟨_, _, _, rfl, q1379⟩
theorem cc_X0_326 : ∀ c ∈ [17], CC2 RX0 326 c := fun c hc => by
  simp only [List.mem_cons, List.not_mem_nil, or_false] at hc
  rcases hc with rfl
  · exact Or.inr ⟨_, _, _, rfl, q1450⟩
theorem cc_X24_2 : ∀ c ∈ [21, 22, 23, 24], CC2 RX24 2 c := fun c hc => by
  simp only [List.mem_cons, List.not_mem_nil, or_false] at hc
  rcases hc with rfl | rfl | rfl | rfl
  · exact Or.inl (CC.mk rfl q1488 q2533)
  · exact Or.inl (CC.mk rfl q1488 q2532)
  · exact Or.inl (CC.mk rfl q1488 q2534)
  · exact Or.inl (CC.mk rfl q1488 q2535)
theorem cc_X2_50 : ∀ c ∈ [25], CC2 RX2 50 c := fun c hc => by
  simp only [List.mem_cons, List.not_mem_nil, or_false] at hc
  rcases hc with rfl
  · exact Or.inr ⟨_, _, _, rfl, q1413⟩
theorem cc_X2_65 : ∀ c ∈ [17], CC2 RX2 65 c := fun c hc => by
  simp only [List.mem_cons, List.not_mem_nil, or_false] at hc
  rcases hc with rfl
  · exact Or.inr ⟨_, _, _, rfl, q1418⟩
theorem cc_X5_65 : ∀ c ∈ [9, 10, 11, 12], CC2 RX5 65 c := fun c hc => by
  simp only [List.mem_cons, List.not_mem_nil, or_false] at hc
  rcases hc with rfl | rfl | rfl | rfl
  · exact Or.inr ⟨_, _, _, rfl, q1434⟩
  · exact Or.inl (CC.mk rfl q1434 q2531)
  · exact Or.inl (CC.mk rfl q1434 q2529)
  · exact Or.inl (CC.mk rfl q1434 q2530)
theorem cc_X6_82 : ∀ c ∈ [14], CC2 RX6 82 c := fun c hc => by
  simp only [List.mem_cons, List.not_mem_nil, or_false] at hc
  rcases hc with rfl
  · exact Or.inr ⟨_, _, _, rfl, q1639⟩
theorem fa_J11_15 : ∀ c ∈ [26], FA RJ11 15 c 1 (.byte) := fun c hc => by
  simp only [List.mem_cons, List.not_mem_nil, or_false] at hc
  rcases hc with rfl
  · exact Or.inl (FL.mk (k := 1) clJ11 (by decide) rfl q2574 rfl)
theorem fa_J11_9 : ∀ c ∈ [26], FA RJ11 9 c 0 (.array .byte) := fun c hc => by
  simp only [List.mem_cons, List.not_mem_nil, or_false] at hc
  rcases hc with rfl
  · exact Or.inl (FL.mk (k := 0) clJ11 (by decide) rfl q2573 rfl)
theorem fa_J1_7 : ∀ c ∈ [2], FA RJ1 7 c 0 (.int) := fun c hc => by
  simp only [List.mem_cons, List.not_mem_nil, or_false] at hc
  rcases hc with rfl
  · exact Or.inl (FL.mk (k := 0) clJ2 (by decide) rfl q208 rfl)
theorem fa_J2_48 : ∀ c ∈ [2], FA RJ2 48 c 2 (.int) := fun c hc => by
  simp only [List.mem_cons, List.not_mem_nil, or_false] at hc
  rcases hc with rfl
  · exact Or.inl (FL.mk (k := 2) clJ2 (by decide) rfl q207 rfl)
theorem fa_J2_63 : ∀ c ∈ [2], FA RJ2 63 c 0 (.int) := fun c hc => by
  simp only [List.mem_cons, List.not_mem_nil, or_false] at hc
  rcases hc with rfl
  · exact Or.inl (FL.mkS (k := 0) clJ2 (by decide) rfl q209 q210)
theorem fa_J2_9 : ∀ c ∈ [2], FA RJ2 9 c 1 (.array (.object "java/lang/Object")) := fun c hc => by
  simp only [List.mem_cons, List.not_mem_nil, or_false] at hc
  rcases hc with rfl
  · exact Or.inl (FL.mk (k := 1) clJ2 (by decide) rfl q206 rfl)
theorem fa_J3_17 : ∀ c ∈ [5, 16], FA RJ3 17 c 1 (.array (.object "java/lang/StackTraceElement")) := fun c hc => by
  simp only [List.mem_cons, List.not_mem_nil, or_false] at hc
  rcases hc with rfl | rfl
  · exact Or.inl (FL.mk (k := 1) clX4 (by decide) rfl q424 rfl)
  · exact Or.inl (FL.mk (k := 1) clX14 (by decide) rfl q424 rfl)
theorem fa_J3_24 : ∀ c ∈ [5, 16], FA RJ3 24 c 2 (.object "java/util/List") := fun c hc => by
  simp only [List.mem_cons, List.not_mem_nil, or_false] at hc
  rcases hc with rfl | rfl
  · exact Or.inl (FL.mk (k := 2) clX4 (by decide) rfl q425 rfl)
  · exact Or.inl (FL.mk (k := 2) clX14 (by decide) rfl q425 rfl)
theorem fa_J3_31 : ∀ c ∈ [5, 16], FA RJ3 31 c 3 (.object "java/lang/String") := fun c hc => by
  simp only [List.mem_cons, List.not_mem_nil, or_false] at hc
  rcases hc with rfl | rfl
  · exact Or.inl (FL.mk (k := 3) clX4 (by decide) rfl q422 rfl)
  · exact Or.inl (FL.mk (k := 3) clX14 (by decide) rfl q422 rfl)
theorem fa_J3_7 : ∀ c ∈ [5, 16], FA RJ3 7 c 0 (.object "java/lang/Throwable") := fun c hc => by
  simp only [List.mem_cons, List.not_mem_nil, or_false] at hc
  rcases hc with rfl | rfl
  · exact Or.inl (FL.mk (k := 0) clX4 (by decide) rfl q423 rfl)
  · exact Or.inl (FL.mk (k := 0) clX14 (by decide) rfl q423 rfl)
theorem fa_X0_10 : ∀ c ∈ [0], FA RX0 10 c 2 (.object "FirstPolls$Told") := fun c hc => by
  simp only [List.mem_cons, List.not_mem_nil, or_false] at hc
  rcases hc with rfl
  · exact Or.inl (FL.mk (k := 2) clX0 (by decide) rfl q529 rfl)
theorem fa_X0_102 : ∀ c ∈ [0], FA RX0 102 c 30 (.array .int) := fun c hc => by
  simp only [List.mem_cons, List.not_mem_nil, or_false] at hc
  rcases hc with rfl
  · exact Or.inl (FL.mk (k := 30) clX0 (by decide) rfl q563 rfl)
theorem fa_X0_105 : ∀ c ∈ [0], FA RX0 105 c 31 (.array .int) := fun c hc => by
  simp only [List.mem_cons, List.not_mem_nil, or_false] at hc
  rcases hc with rfl
  · exact Or.inl (FL.mk (k := 31) clX0 (by decide) rfl q564 rfl)
theorem fa_X0_108 : ∀ c ∈ [0], FA RX0 108 c 32 (.array .int) := fun c hc => by
  simp only [List.mem_cons, List.not_mem_nil, or_false] at hc
  rcases hc with rfl
  · exact Or.inl (FL.mk (k := 32) clX0 (by decide) rfl q565 rfl)
theorem fa_X0_111 : ∀ c ∈ [0], FA RX0 111 c 33 (.array .int) := fun c hc => by
  simp only [List.mem_cons, List.not_mem_nil, or_false] at hc
  rcases hc with rfl
  · exact Or.inl (FL.mk (k := 33) clX0 (by decide) rfl q566 rfl)
theorem fa_X0_114 : ∀ c ∈ [0], FA RX0 114 c 34 (.int) := fun c hc => by
  simp only [List.mem_cons, List.not_mem_nil, or_false] at hc
  rcases hc with rfl
  · exact Or.inl (FL.mk (k := 34) clX0 (by decide) rfl q567 rfl)
theorem fa_X0_117 : ∀ c ∈ [0], FA RX0 117 c 0 (.int) := fun c hc => by
  simp only [List.mem_cons, List.not_mem_nil, or_false] at hc
  rcases hc with rfl
  · exact Or.inl (FL.mk (k := 0) clX0 (by decide) rfl q524 rfl)
theorem fa_X0_120 : ∀ c ∈ [0], FA RX0 120 c 1 (.int) := fun c hc => by
  simp only [List.mem_cons, List.not_mem_nil, or_false] at hc
  rcases hc with rfl
  · exact Or.inl (FL.mk (k := 1) clX0 (by decide) rfl q528 rfl)
theorem fa_X0_141 : ∀ c ∈ [1], FA RX0 141 c 22 (.int) := fun c hc => by
  simp only [List.mem_cons, List.not_mem_nil, or_false] at hc
  rcases hc with rfl
  · exact Or.inr (FN.mk (k := 22) clX1 (by decide) rfl q273 rfl)
theorem fa_X0_144 : ∀ c ∈ [1], FA RX0 144 c 1 (.object "java/util/ArrayList") := fun c hc => by
  simp only [List.mem_cons, List.not_mem_nil, or_false] at hc
  rcases hc with rfl
  · exact Or.inr (FN.mk (k := 1) clX1 (by decide) rfl q223 rfl)
theorem fa_X0_154 : ∀ c ∈ [1], FA RX0 154 c 23 (.int) := fun c hc => by
  simp only [List.mem_cons, List.not_mem_nil, or_false] at hc
  rcases hc with rfl
  · exact Or.inr (FN.mk (k := 23) clX1 (by decide) rfl q276 rfl)
theorem fa_X0_157 : ∀ c ∈ [1], FA RX0 157 c 24 (.int) := fun c hc => by
  simp only [List.mem_cons, List.not_mem_nil, or_false] at hc
  rcases hc with rfl
  · exact Or.inr (FN.mk (k := 24) clX1 (by decide) rfl q279 rfl)
theorem fa_X0_16 : ∀ c ∈ [0], FA RX0 16 c 3 (.array (.object "FirstPolls$Told")) := fun c hc => by
  simp only [List.mem_cons, List.not_mem_nil, or_false] at hc
  rcases hc with rfl
  · exact Or.inl (FL.mk (k := 3) clX0 (by decide) rfl q533 rfl)
theorem fa_X0_160 : ∀ c ∈ [1], FA RX0 160 c 6 (.array .int) := fun c hc => by
  simp only [List.mem_cons, List.not_mem_nil, or_false] at hc
  rcases hc with rfl
  · exact Or.inr (FN.mk (k := 6) clX1 (by decide) rfl q236 rfl)
theorem fa_X0_163 : ∀ c ∈ [1], FA RX0 163 c 7 (.array .int) := fun c hc => by
  simp only [List.mem_cons, List.not_mem_nil, or_false] at hc
  rcases hc with rfl
  · exact Or.inr (FN.mk (k := 7) clX1 (by decide) rfl q238 rfl)
theorem fa_X0_166 : ∀ c ∈ [1], FA RX0 166 c 8 (.array .int) := fun c hc => by
  simp only [List.mem_cons, List.not_mem_nil, or_false] at hc
  rcases hc with rfl
  · exact Or.inr (FN.mk (k := 8) clX1 (by decide) rfl q240 rfl)
theorem fa_X0_191 : ∀ c ∈ [1], FA RX0 191 c 9 (.array .int) := fun c hc => by
  simp only [List.mem_cons, List.not_mem_nil, or_false] at hc
  rcases hc with rfl
  · exact Or.inr (FN.mk (k := 9) clX1 (by decide) rfl q243 rfl)
theorem fa_X0_194 : ∀ c ∈ [1], FA RX0 194 c 11 (.array .int) := fun c hc => by
  simp only [List.mem_cons, List.not_mem_nil, or_false] at hc
  rcases hc with rfl
  · exact Or.inr (FN.mk (k := 11) clX1 (by decide) rfl q248 rfl)
theorem fa_X0_20 : ∀ c ∈ [0], FA RX0 20 c 4 (.array .byte) := fun c hc => by
  simp only [List.mem_cons, List.not_mem_nil, or_false] at hc
  rcases hc with rfl
  · exact Or.inl (FL.mk (k := 4) clX0 (by decide) rfl q534 rfl)
theorem fa_X0_213 : ∀ c ∈ [0], FA RX0 213 c 5 (.int) := fun c hc => by
  simp only [List.mem_cons, List.not_mem_nil, or_false] at hc
  rcases hc with rfl
  · exact Or.inl (FL.mk (k := 5) clX0 (by decide) rfl q535 rfl)
theorem fa_X0_229 : ∀ c ∈ [1], FA RX0 229 c 10 (.array .int) := fun c hc => by
  simp only [List.mem_cons, List.not_mem_nil, or_false] at hc
  rcases hc with rfl
  · exact Or.inr (FN.mk (k := 10) clX1 (by decide) rfl q246 rfl)
theorem fa_X0_236 : ∀ c ∈ [9, 10, 11, 12], FA RX0 236 c 0 (.int) := fun c hc => by
  simp only [List.mem_cons, List.not_mem_nil, or_false] at hc
  rcases hc with rfl | rfl | rfl | rfl
  · exact Or.inl (FL.mk (k := 0) clX8 (by decide) rfl q801 rfl)
  · exact Or.inl (FL.mk (k := 0) clX9 (by decide) rfl q801 rfl)
  · exact Or.inl (FL.mk (k := 0) clX10 (by decide) rfl q801 rfl)
  · exact Or.inl (FL.mk (k := 0) clX11 (by decide) rfl q801 rfl)
theorem fa_X0_239 : ∀ c ∈ [1], FA RX0 239 c 12 (.array .int) := fun c hc => by
  simp only [List.mem_cons, List.not_mem_nil, or_false] at hc
  rcases hc with rfl
  · exact Or.inr (FN.mk (k := 12) clX1 (by decide) rfl q250 rfl)
theorem fa_X0_24 : ∀ c ∈ [0], FA RX0 24 c 6 (.int) := fun c hc => by
  simp only [List.mem_cons, List.not_mem_nil, or_false] at hc
  rcases hc with rfl
  · exact Or.inl (FL.mk (k := 6) clX0 (by decide) rfl q536 rfl)
theorem fa_X0_242 : ∀ c ∈ [1], FA RX0 242 c 13 (.array .int) := fun c hc => by
  simp only [List.mem_cons, List.not_mem_nil, or_false] at hc
  rcases hc with rfl
  · exact Or.inr (FN.mk (k := 13) clX1 (by decide) rfl q252 rfl)
theorem fa_X0_245 : ∀ c ∈ [9, 10, 11, 12], FA RX0 245 c 1 (.int) := fun c hc => by
  simp only [List.mem_cons, List.not_mem_nil, or_false] at hc
  rcases hc with rfl | rfl | rfl | rfl
  · exact Or.inl (FL.mk (k := 1) clX8 (by decide) rfl q804 rfl)
  · exact Or.inl (FL.mk (k := 1) clX9 (by decide) rfl q804 rfl)
  · exact Or.inl (FL.mk (k := 1) clX10 (by decide) rfl q804 rfl)
  · exact Or.inl (FL.mk (k := 1) clX11 (by decide) rfl q804 rfl)
theorem fa_X0_248 : ∀ c ∈ [9, 10, 11, 12], FA RX0 248 c 2 (.int) := fun c hc => by
  simp only [List.mem_cons, List.not_mem_nil, or_false] at hc
  rcases hc with rfl | rfl | rfl | rfl
  · exact Or.inl (FL.mk (k := 2) clX8 (by decide) rfl q807 rfl)
  · exact Or.inl (FL.mk (k := 2) clX9 (by decide) rfl q807 rfl)
  · exact Or.inl (FL.mk (k := 2) clX10 (by decide) rfl q807 rfl)
  · exact Or.inl (FL.mk (k := 2) clX11 (by decide) rfl q807 rfl)
theorem fa_X0_254 : ∀ c ∈ [9, 10, 11, 12], FA RX0 254 c 3 (.int) := fun c hc => by
  simp only [List.mem_cons, List.not_mem_nil, or_false] at hc
  rcases hc with rfl | rfl | rfl | rfl
  · exact Or.inl (FL.mk (k := 3) clX8 (by decide) rfl q809 rfl)
  · exact Or.inl (FL.mk (k := 3) clX9 (by decide) rfl q809 rfl)
  · exact Or.inl (FL.mk (k := 3) clX10 (by decide) rfl q809 rfl)
  · exact Or.inl (FL.mk (k := 3) clX11 (by decide) rfl q809 rfl)
theorem fa_X0_260 : ∀ c ∈ [9, 10, 11, 12], FA RX0 260 c 4 (.int) := fun c hc => by
  simp only [List.mem_cons, List.not_mem_nil, or_false] at hc
  rcases hc with rfl | rfl | rfl | rfl
  · exact Or.inl (FL.mk (k := 4) clX8 (by decide) rfl q812 rfl)
  · exact Or.inl (FL.mk (k := 4) clX9 (by decide) rfl q812 rfl)
  · exact Or.inl (FL.mk (k := 4) clX10 (by decide) rfl q812 rfl)
  · exact Or.inl (FL.mk (k := 4) clX11 (by decide) rfl q812 rfl)
theorem fa_X0_276 : ∀ c ∈ [1], FA RX0 276 c 2 (.object "java/util/ArrayList") := fun c hc => by
  simp only [List.mem_cons, List.not_mem_nil, or_false] at hc
  rcases hc with rfl
  · exact Or.inr (FN.mk (k := 2) clX1 (by decide) rfl q225 rfl)
theorem fa_X0_282 : ∀ c ∈ [14], FA RX0 282 c 0 (.int) := fun c hc => by
  simp only [List.mem_cons, List.not_mem_nil, or_false] at hc
  rcases hc with rfl
  · exact Or.inr (FN.mk (k := 0) clX12 (by decide) rfl q996 rfl)
theorem fa_X0_285 : ∀ c ∈ [14], FA RX0 285 c 1 (.int) := fun c hc => by
  simp only [List.mem_cons, List.not_mem_nil, or_false] at hc
  rcases hc with rfl
  · exact Or.inr (FN.mk (k := 1) clX12 (by decide) rfl q999 rfl)
theorem fa_X0_292 : ∀ c ∈ [1], FA RX0 292 c 0 (.object "java/util/ArrayList") := fun c hc => by
  simp only [List.mem_cons, List.not_mem_nil, or_false] at hc
  rcases hc with rfl
  · exact Or.inr (FN.mk (k := 0) clX1 (by decide) rfl q220 rfl)
theorem fa_X0_305 : ∀ c ∈ [16], FA RX0 305 c 6 (.int) := fun c hc => by
  simp only [List.mem_cons, List.not_mem_nil, or_false] at hc
  rcases hc with rfl
  · exact Or.inr (FN.mk (k := 6) clX14 (by decide) rfl q1098 rfl)
theorem fa_X0_308 : ∀ c ∈ [15], FA RX0 308 c 2 (.object "java/util/ArrayList") := fun c hc => by
  simp only [List.mem_cons, List.not_mem_nil, or_false] at hc
  rcases hc with rfl
  · exact Or.inr (FN.mk (k := 2) clX13 (by decide) rfl q1047 rfl)
theorem fa_X0_314 : ∀ c ∈ [25], FA RX0 314 c 2 (.object "java/util/ArrayList") := fun c hc => by
  simp only [List.mem_cons, List.not_mem_nil, or_false] at hc
  rcases hc with rfl
  · exact Or.inr (FN.mk (k := 2) clX25 (by decide) rfl q1391 rfl)
theorem fa_X0_320 : ∀ c ∈ [3], FA RX0 320 c 0 (.array .boolean) := fun c hc => by
  simp only [List.mem_cons, List.not_mem_nil, or_false] at hc
  rcases hc with rfl
  · exact Or.inr (FN.mk (k := 0) clX2 (by decide) rfl q350 rfl)
theorem fa_X0_328 : ∀ c ∈ [17], FA RX0 328 c 0 (.int) := fun c hc => by
  simp only [List.mem_cons, List.not_mem_nil, or_false] at hc
  rcases hc with rfl
  · exact Or.inr (FN.mk (k := 0) clX15 (by decide) rfl q1175 rfl)
theorem fa_X0_33 : ∀ c ∈ [0], FA RX0 33 c 7 (.object "FirstPolls$Force") := fun c hc => by
  simp only [List.mem_cons, List.not_mem_nil, or_false] at hc
  rcases hc with rfl
  · exact Or.inl (FL.mk (k := 7) clX0 (by decide) rfl q537 rfl)
theorem fa_X0_330 : ∀ c ∈ [17], FA RX0 330 c 1 (.int) := fun c hc => by
  simp only [List.mem_cons, List.not_mem_nil, or_false] at hc
  rcases hc with rfl
  · exact Or.inr (FN.mk (k := 1) clX15 (by decide) rfl q1178 rfl)
theorem fa_X0_338 : ∀ c ∈ [4], FA RX0 338 c 1 (.array .long) := fun c hc => by
  simp only [List.mem_cons, List.not_mem_nil, or_false] at hc
  rcases hc with rfl
  · exact Or.inr (FN.mk (k := 1) clX3 (by decide) rfl q440 rfl)
theorem fa_X0_344 : ∀ c ∈ [6], FA RX0 344 c 2 (.array .int) := fun c hc => by
  simp only [List.mem_cons, List.not_mem_nil, or_false] at hc
  rcases hc with rfl
  · exact Or.inr (FN.mk (k := 2) clX5 (by decide) rfl q463 rfl)
theorem fa_X0_350 : ∀ c ∈ [6], FA RX0 350 c 0 (.array .boolean) := fun c hc => by
  simp only [List.mem_cons, List.not_mem_nil, or_false] at hc
  rcases hc with rfl
  · exact Or.inr (FN.mk (k := 0) clX5 (by decide) rfl q459 rfl)
theorem fa_X0_351 : ∀ c ∈ [6], FA RX0 351 c 1 (.array .int) := fun c hc => by
  simp only [List.mem_cons, List.not_mem_nil, or_false] at hc
  rcases hc with rfl
  · exact Or.inr (FN.mk (k := 1) clX5 (by decide) rfl q461 rfl)
theorem fa_X0_379 : ∀ c ∈ [0], FA RX0 379 c 19 (.int) := fun c hc => by
  simp only [List.mem_cons, List.not_mem_nil, or_false] at hc
  rcases hc with rfl
  · exact Or.inl (FL.mk (k := 19) clX0 (by decide) rfl q552 rfl)
theorem fa_X0_382 : ∀ c ∈ [0], FA RX0 382 c 22 (.int) := fun c hc => by
  simp only [List.mem_cons, List.not_mem_nil, or_false] at hc
  rcases hc with rfl
  · exact Or.inl (FL.mk (k := 22) clX0 (by decide) rfl q555 rfl)
theorem fa_X0_40 : ∀ c ∈ [0], FA RX0 40 c 8 (.object "FirstPolls$Setting") := fun c hc => by
  simp only [List.mem_cons, List.not_mem_nil, or_false] at hc
  rcases hc with rfl
  · exact Or.inl (FL.mk (k := 8) clX0 (by decide) rfl q538 rfl)
theorem fa_X0_406 : ∀ c ∈ [0], FA RX0 406 c 21 (.int) := fun c hc => by
  simp only [List.mem_cons, List.not_mem_nil, or_false] at hc
  rcases hc with rfl
  · exact Or.inl (FL.mk (k := 21) clX0 (by decide) rfl q554 rfl)
theorem fa_X0_409 : ∀ c ∈ [1], FA RX0 409 c 14 (.array .int) := fun c hc => by
  simp only [List.mem_cons, List.not_mem_nil, or_false] at hc
  rcases hc with rfl
  · exact Or.inr (FN.mk (k := 14) clX1 (by decide) rfl q255 rfl)
theorem fa_X0_412 : ∀ c ∈ [1], FA RX0 412 c 18 (.array .int) := fun c hc => by
  simp only [List.mem_cons, List.not_mem_nil, or_false] at hc
  rcases hc with rfl
  · exact Or.inr (FN.mk (k := 18) clX1 (by decide) rfl q265 rfl)
theorem fa_X0_419 : ∀ c ∈ [1], FA RX0 419 c 15 (.array .int) := fun c hc => by
  simp only [List.mem_cons, List.not_mem_nil, or_false] at hc
  rcases hc with rfl
  · exact Or.inr (FN.mk (k := 15) clX1 (by decide) rfl q258 rfl)
theorem fa_X0_422 : ∀ c ∈ [1], FA RX0 422 c 16 (.array .int) := fun c hc => by
  simp only [List.mem_cons, List.not_mem_nil, or_false] at hc
  rcases hc with rfl
  · exact Or.inr (FN.mk (k := 16) clX1 (by decide) rfl q260 rfl)
theorem fa_X0_428 : ∀ c ∈ [1], FA RX0 428 c 3 (.object "java/util/ArrayList") := fun c hc => by
  simp only [List.mem_cons, List.not_mem_nil, or_false] at hc
  rcases hc with rfl
  · exact Or.inr (FN.mk (k := 3) clX1 (by decide) rfl q227 rfl)
theorem fa_X0_431 : ∀ c ∈ [14], FA RX0 431 c 2 (.int) := fun c hc => by
  simp only [List.mem_cons, List.not_mem_nil, or_false] at hc
  rcases hc with rfl
  · exact Or.inr (FN.mk (k := 2) clX12 (by decide) rfl q1002 rfl)
theorem fa_X0_434 : ∀ c ∈ [14], FA RX0 434 c 4 (.int) := fun c hc => by
  simp only [List.mem_cons, List.not_mem_nil, or_false] at hc
  rcases hc with rfl
  · exact Or.inr (FN.mk (k := 4) clX12 (by decide) rfl q1007 rfl)
theorem fa_X0_441 : ∀ c ∈ [14], FA RX0 441 c 3 (.int) := fun c hc => by
  simp only [List.mem_cons, List.not_mem_nil, or_false] at hc
  rcases hc with rfl
  · exact Or.inr (FN.mk (k := 3) clX12 (by decide) rfl q1005 rfl)
theorem fa_X0_448 : ∀ c ∈ [1], FA RX0 448 c 4 (.object "java/util/ArrayList") := fun c hc => by
  simp only [List.mem_cons, List.not_mem_nil, or_false] at hc
  rcases hc with rfl
  · exact Or.inr (FN.mk (k := 4) clX1 (by decide) rfl q230 rfl)
theorem fa_X0_451 : ∀ c ∈ [1], FA RX0 451 c 5 (.object "java/util/ArrayList") := fun c hc => by
  simp only [List.mem_cons, List.not_mem_nil, or_false] at hc
  rcases hc with rfl
  · exact Or.inr (FN.mk (k := 5) clX1 (by decide) rfl q233 rfl)
theorem fa_X0_454 : ∀ c ∈ [1], FA RX0 454 c 17 (.array .int) := fun c hc => by
  simp only [List.mem_cons, List.not_mem_nil, or_false] at hc
  rcases hc with rfl
  · exact Or.inr (FN.mk (k := 17) clX1 (by decide) rfl q263 rfl)
theorem fa_X0_459 : ∀ c ∈ [7], FA RX0 459 c 0 (.array .int) := fun c hc => by
  simp only [List.mem_cons, List.not_mem_nil, or_false] at hc
  rcases hc with rfl
  · exact Or.inr (FN.mk (k := 0) clX6 (by decide) rfl q490 rfl)
theorem fa_X0_461 : ∀ c ∈ [7], FA RX0 461 c 1 (.array .int) := fun c hc => by
  simp only [List.mem_cons, List.not_mem_nil, or_false] at hc
  rcases hc with rfl
  · exact Or.inr (FN.mk (k := 1) clX6 (by decide) rfl q492 rfl)
theorem fa_X0_467 : ∀ c ∈ [7], FA RX0 467 c 3 (.array .boolean) := fun c hc => by
  simp only [List.mem_cons, List.not_mem_nil, or_false] at hc
  rcases hc with rfl
  · exact Or.inr (FN.mk (k := 3) clX6 (by decide) rfl q496 rfl)
theorem fa_X0_47 : ∀ c ∈ [0], FA RX0 47 c 9 (.object "FirstPolls$Rolls") := fun c hc => by
  simp only [List.mem_cons, List.not_mem_nil, or_false] at hc
  rcases hc with rfl
  · exact Or.inl (FL.mk (k := 9) clX0 (by decide) rfl q541 rfl)
theorem fa_X0_473 : ∀ c ∈ [1], FA RX0 473 c 21 (.array .boolean) := fun c hc => by
  simp only [List.mem_cons, List.not_mem_nil, or_false] at hc
  rcases hc with rfl
  · exact Or.inr (FN.mk (k := 21) clX1 (by decide) rfl q271 rfl)
theorem fa_X0_479 : ∀ c ∈ [7], FA RX0 479 c 2 (.array .int) := fun c hc => by
  simp only [List.mem_cons, List.not_mem_nil, or_false] at hc
  rcases hc with rfl
  · exact Or.inr (FN.mk (k := 2) clX6 (by decide) rfl q494 rfl)
theorem fa_X0_482 : ∀ c ∈ [0], FA RX0 482 c 25 (.int) := fun c hc => by
  simp only [List.mem_cons, List.not_mem_nil, or_false] at hc
  rcases hc with rfl
  · exact Or.inl (FL.mk (k := 25) clX0 (by decide) rfl q558 rfl)
theorem fa_X0_487 : ∀ c ∈ [0], FA RX0 487 c 26 (.int) := fun c hc => by
  simp only [List.mem_cons, List.not_mem_nil, or_false] at hc
  rcases hc with rfl
  · exact Or.inl (FL.mk (k := 26) clX0 (by decide) rfl q559 rfl)
theorem fa_X0_504 : ∀ c ∈ [1], FA RX0 504 c 25 (.int) := fun c hc => by
  simp only [List.mem_cons, List.not_mem_nil, or_false] at hc
  rcases hc with rfl
  · exact Or.inr (FN.mk (k := 25) clX1 (by decide) rfl q281 rfl)
theorem fa_X0_507 : ∀ c ∈ [1], FA RX0 507 c 26 (.int) := fun c hc => by
  simp only [List.mem_cons, List.not_mem_nil, or_false] at hc
  rcases hc with rfl
  · exact Or.inr (FN.mk (k := 26) clX1 (by decide) rfl q283 rfl)
theorem fa_X0_51 : ∀ c ∈ [0], FA RX0 51 c 10 (.array .int) := fun c hc => by
  simp only [List.mem_cons, List.not_mem_nil, or_false] at hc
  rcases hc with rfl
  · exact Or.inl (FL.mk (k := 10) clX0 (by decide) rfl q543 rfl)
theorem fa_X0_510 : ∀ c ∈ [0], FA RX0 510 c 35 (.int) := fun c hc => by
  simp only [List.mem_cons, List.not_mem_nil, or_false] at hc
  rcases hc with rfl
  · exact Or.inl (FL.mk (k := 35) clX0 (by decide) rfl q568 rfl)
theorem fa_X0_532 : ∀ c ∈ [0], FA RX0 532 c 36 (.long) := fun c hc => by
  simp only [List.mem_cons, List.not_mem_nil, or_false] at hc
  rcases hc with rfl
  · exact Or.inl (FL.mk (k := 36) clX0 (by decide) rfl q569 rfl)
theorem fa_X0_536 : ∀ c ∈ [0], FA RX0 536 c 37 (.long) := fun c hc => by
  simp only [List.mem_cons, List.not_mem_nil, or_false] at hc
  rcases hc with rfl
  · exact Or.inl (FL.mk (k := 37) clX0 (by decide) rfl q570 rfl)
theorem fa_X0_539 : ∀ c ∈ [0], FA RX0 539 c 38 (.int) := fun c hc => by
  simp only [List.mem_cons, List.not_mem_nil, or_false] at hc
  rcases hc with rfl
  · exact Or.inl (FL.mk (k := 38) clX0 (by decide) rfl q571 rfl)
theorem fa_X0_547 : ∀ c ∈ [1], FA RX0 547 c 19 (.array .long) := fun c hc => by
  simp only [List.mem_cons, List.not_mem_nil, or_false] at hc
  rcases hc with rfl
  · exact Or.inr (FN.mk (k := 19) clX1 (by decide) rfl q267 rfl)
theorem fa_X0_549 : ∀ c ∈ [1], FA RX0 549 c 20 (.array .long) := fun c hc => by
  simp only [List.mem_cons, List.not_mem_nil, or_false] at hc
  rcases hc with rfl
  · exact Or.inr (FN.mk (k := 20) clX1 (by decide) rfl q269 rfl)
theorem fa_X0_55 : ∀ c ∈ [0], FA RX0 55 c 11 (.array .int) := fun c hc => by
  simp only [List.mem_cons, List.not_mem_nil, or_false] at hc
  rcases hc with rfl
  · exact Or.inl (FL.mk (k := 11) clX0 (by decide) rfl q544 rfl)
theorem fa_X0_58 : ∀ c ∈ [0], FA RX0 58 c 12 (.array .int) := fun c hc => by
  simp only [List.mem_cons, List.not_mem_nil, or_false] at hc
  rcases hc with rfl
  · exact Or.inl (FL.mk (k := 12) clX0 (by decide) rfl q545 rfl)
theorem fa_X0_61 : ∀ c ∈ [0], FA RX0 61 c 13 (.array .int) := fun c hc => by
  simp only [List.mem_cons, List.not_mem_nil, or_false] at hc
  rcases hc with rfl
  · exact Or.inl (FL.mk (k := 13) clX0 (by decide) rfl q546 rfl)
theorem fa_X0_64 : ∀ c ∈ [0], FA RX0 64 c 14 (.array .int) := fun c hc => by
  simp only [List.mem_cons, List.not_mem_nil, or_false] at hc
  rcases hc with rfl
  · exact Or.inl (FL.mk (k := 14) clX0 (by decide) rfl q547 rfl)
theorem fa_X0_67 : ∀ c ∈ [0], FA RX0 67 c 15 (.array .int) := fun c hc => by
  simp only [List.mem_cons, List.not_mem_nil, or_false] at hc
  rcases hc with rfl
  · exact Or.inl (FL.mk (k := 15) clX0 (by decide) rfl q548 rfl)
theorem fa_X0_70 : ∀ c ∈ [0], FA RX0 70 c 16 (.array .int) := fun c hc => by
  simp only [List.mem_cons, List.not_mem_nil, or_false] at hc
  rcases hc with rfl
  · exact Or.inl (FL.mk (k := 16) clX0 (by decide) rfl q549 rfl)
theorem fa_X0_73 : ∀ c ∈ [0], FA RX0 73 c 17 (.array .int) := fun c hc => by
  simp only [List.mem_cons, List.not_mem_nil, or_false] at hc
  rcases hc with rfl
  · exact Or.inl (FL.mk (k := 17) clX0 (by decide) rfl q550 rfl)
theorem fa_X0_76 : ∀ c ∈ [0], FA RX0 76 c 18 (.array .int) := fun c hc => by
  simp only [List.mem_cons, List.not_mem_nil, or_false] at hc
  rcases hc with rfl
  · exact Or.inl (FL.mk (k := 18) clX0 (by decide) rfl q551 rfl)
theorem fa_X0_79 : ∀ c ∈ [0], FA RX0 79 c 20 (.int) := fun c hc => by
  simp only [List.mem_cons, List.not_mem_nil, or_false] at hc
  rcases hc with rfl
  · exact Or.inl (FL.mk (k := 20) clX0 (by decide) rfl q553 rfl)
theorem fa_X0_85 : ∀ c ∈ [0], FA RX0 85 c 23 (.object "FirstPolls$Desk") := fun c hc => by
  simp only [List.mem_cons, List.not_mem_nil, or_false] at hc
  rcases hc with rfl
  · exact Or.inl (FL.mk (k := 23) clX0 (by decide) rfl q556 rfl)
theorem fa_X0_89 : ∀ c ∈ [0], FA RX0 89 c 24 (.array .int) := fun c hc => by
  simp only [List.mem_cons, List.not_mem_nil, or_false] at hc
  rcases hc with rfl
  · exact Or.inl (FL.mk (k := 24) clX0 (by decide) rfl q557 rfl)
theorem fa_X0_92 : ∀ c ∈ [0], FA RX0 92 c 27 (.array .int) := fun c hc => by
  simp only [List.mem_cons, List.not_mem_nil, or_false] at hc
  rcases hc with rfl
  · exact Or.inl (FL.mk (k := 27) clX0 (by decide) rfl q560 rfl)
theorem fa_X0_95 : ∀ c ∈ [0], FA RX0 95 c 28 (.array .int) := fun c hc => by
  simp only [List.mem_cons, List.not_mem_nil, or_false] at hc
  rcases hc with rfl
  · exact Or.inl (FL.mk (k := 28) clX0 (by decide) rfl q561 rfl)
theorem fa_X0_98 : ∀ c ∈ [0], FA RX0 98 c 29 (.array .long) := fun c hc => by
  simp only [List.mem_cons, List.not_mem_nil, or_false] at hc
  rcases hc with rfl
  · exact Or.inl (FL.mk (k := 29) clX0 (by decide) rfl q562 rfl)
theorem fa_X12_13 : ∀ c ∈ [14], FA RX12 13 c 1 (.int) := fun c hc => by
  simp only [List.mem_cons, List.not_mem_nil, or_false] at hc
  rcases hc with rfl
  · exact Or.inl (FL.mk (k := 1) clX12 (by decide) rfl q997 rfl)
theorem fa_X12_16 : ∀ c ∈ [14], FA RX12 16 c 2 (.int) := fun c hc => by
  simp only [List.mem_cons, List.not_mem_nil, or_false] at hc
  rcases hc with rfl
  · exact Or.inl (FL.mk (k := 2) clX12 (by decide) rfl q1000 rfl)
theorem fa_X12_19 : ∀ c ∈ [14], FA RX12 19 c 3 (.int) := fun c hc => by
  simp only [List.mem_cons, List.not_mem_nil, or_false] at hc
  rcases hc with rfl
  · exact Or.inl (FL.mk (k := 3) clX12 (by decide) rfl q1003 rfl)
theorem fa_X12_22 : ∀ c ∈ [14], FA RX12 22 c 4 (.int) := fun c hc => by
  simp only [List.mem_cons, List.not_mem_nil, or_false] at hc
  rcases hc with rfl
  · exact Or.inl (FL.mk (k := 4) clX12 (by decide) rfl q1006 rfl)
theorem fa_X12_7 : ∀ c ∈ [14], FA RX12 7 c 0 (.int) := fun c hc => by
  simp only [List.mem_cons, List.not_mem_nil, or_false] at hc
  rcases hc with rfl
  · exact Or.inl (FL.mk (k := 0) clX12 (by decide) rfl q994 rfl)
theorem fa_X13_120 : ∀ c ∈ [17], FA RX13 120 c 3 (.object "FirstPolls$Sum") := fun c hc => by
  simp only [List.mem_cons, List.not_mem_nil, or_false] at hc
  rcases hc with rfl
  · exact Or.inr (FN.mk (k := 3) clX15 (by decide) rfl q1182 rfl)
theorem fa_X13_133 : ∀ c ∈ [24], FA RX13 133 c 1 (.object "java/util/ArrayList") := fun c hc => by
  simp only [List.mem_cons, List.not_mem_nil, or_false] at hc
  rcases hc with rfl
  · exact Or.inr (FN.mk (k := 1) clX24 (by decide) rfl q1371 rfl)
theorem fa_X13_14 : ∀ c ∈ [15], FA RX13 14 c 2 (.object "java/util/ArrayList") := fun c hc => by
  simp only [List.mem_cons, List.not_mem_nil, or_false] at hc
  rcases hc with rfl
  · exact Or.inl (FL.mk (k := 2) clX13 (by decide) rfl q1046 rfl)
theorem fa_X13_141 : ∀ c ∈ [15], FA RX13 141 c 6 (.int) := fun c hc => by
  simp only [List.mem_cons, List.not_mem_nil, or_false] at hc
  rcases hc with rfl
  · exact Or.inl (FL.mk (k := 6) clX13 (by decide) rfl q1051 rfl)
theorem fa_X13_20 : ∀ c ∈ [15], FA RX13 20 c 0 (.array .byte) := fun c hc => by
  simp only [List.mem_cons, List.not_mem_nil, or_false] at hc
  rcases hc with rfl
  · exact Or.inl (FL.mk (k := 0) clX13 (by decide) rfl q1044 rfl)
theorem fa_X13_208 : ∀ c ∈ [15], FA RX13 208 c 5 (.int) := fun c hc => by
  simp only [List.mem_cons, List.not_mem_nil, or_false] at hc
  rcases hc with rfl
  · exact Or.inl (FL.mk (k := 5) clX13 (by decide) rfl q1050 rfl)
theorem fa_X13_24 : ∀ c ∈ [15], FA RX13 24 c 1 (.int) := fun c hc => by
  simp only [List.mem_cons, List.not_mem_nil, or_false] at hc
  rcases hc with rfl
  · exact Or.inl (FL.mk (k := 1) clX13 (by decide) rfl q1045 rfl)
theorem fa_X13_28 : ∀ c ∈ [15], FA RX13 28 c 4 (.int) := fun c hc => by
  simp only [List.mem_cons, List.not_mem_nil, or_false] at hc
  rcases hc with rfl
  · exact Or.inl (FL.mk (k := 4) clX13 (by decide) rfl q1049 rfl)
theorem fa_X13_31 : ∀ c ∈ [15], FA RX13 31 c 3 (.int) := fun c hc => by
  simp only [List.mem_cons, List.not_mem_nil, or_false] at hc
  rcases hc with rfl
  · exact Or.inl (FL.mk (k := 3) clX13 (by decide) rfl q1048 rfl)
theorem fa_X13_98 : ∀ c ∈ [17], FA RX13 98 c 4 (.object "FirstPolls$Test") := fun c hc => by
  simp only [List.mem_cons, List.not_mem_nil, or_false] at hc
  rcases hc with rfl
  · exact Or.inr (FN.mk (k := 4) clX15 (by decide) rfl q1184 rfl)
theorem fa_X14_7 : ∀ c ∈ [16], FA RX14 7 c 6 (.int) := fun c hc => by
  simp only [List.mem_cons, List.not_mem_nil, or_false] at hc
  rcases hc with rfl
  · exact Or.inl (FL.mk (k := 6) clX14 (by decide) rfl q1097 rfl)
theorem fa_X15_15 : ∀ c ∈ [17], FA RX15 15 c 1 (.int) := fun c hc => by
  simp only [List.mem_cons, List.not_mem_nil, or_false] at hc
  rcases hc with rfl
  · exact Or.inl (FL.mk (k := 1) clX15 (by decide) rfl q1176 rfl)
theorem fa_X15_18 : ∀ c ∈ [17], FA RX15 18 c 2 (.int) := fun c hc => by
  simp only [List.mem_cons, List.not_mem_nil, or_false] at hc
  rcases hc with rfl
  · exact Or.inl (FL.mk (k := 2) clX15 (by decide) rfl q1179 rfl)
theorem fa_X15_21 : ∀ c ∈ [17], FA RX15 21 c 4 (.object "FirstPolls$Test") := fun c hc => by
  simp only [List.mem_cons, List.not_mem_nil, or_false] at hc
  rcases hc with rfl
  · exact Or.inl (FL.mk (k := 4) clX15 (by decide) rfl q1183 rfl)
theorem fa_X15_33 : ∀ c ∈ [17], FA RX15 33 c 3 (.object "FirstPolls$Sum") := fun c hc => by
  simp only [List.mem_cons, List.not_mem_nil, or_false] at hc
  rcases hc with rfl
  · exact Or.inl (FL.mk (k := 3) clX15 (by decide) rfl q1181 rfl)
theorem fa_X15_9 : ∀ c ∈ [17], FA RX15 9 c 0 (.int) := fun c hc => by
  simp only [List.mem_cons, List.not_mem_nil, or_false] at hc
  rcases hc with rfl
  · exact Or.inl (FL.mk (k := 0) clX15 (by decide) rfl q1173 rfl)
theorem fa_X17_7 : ∀ c ∈ [18], FA RX17 7 c 0 (.int) := fun c hc => by
  simp only [List.mem_cons, List.not_mem_nil, or_false] at hc
  rcases hc with rfl
  · exact Or.inl (FL.mk (k := 0) clX17 (by decide) rfl q1240 rfl)
theorem fa_X18_13 : ∀ c ∈ [4], FA RX18 13 c 1 (.array .long) := fun c hc => by
  simp only [List.mem_cons, List.not_mem_nil, or_false] at hc
  rcases hc with rfl
  · exact Or.inr (FN.mk (k := 1) clX3 (by decide) rfl q437 rfl)
theorem fa_X18_7 : ∀ c ∈ [19], FA RX18 7 c 0 (.int) := fun c hc => by
  simp only [List.mem_cons, List.not_mem_nil, or_false] at hc
  rcases hc with rfl
  · exact Or.inl (FL.mk (k := 0) clX18 (by decide) rfl q1265 rfl)
theorem fa_X19_15 : ∀ c ∈ [20], FA RX19 15 c 1 (.object "FirstPolls$Sum") := fun c hc => by
  simp only [List.mem_cons, List.not_mem_nil, or_false] at hc
  rcases hc with rfl
  · exact Or.inl (FL.mk (k := 1) clX19 (by decide) rfl q1278 rfl)
theorem fa_X19_19 : ∀ c ∈ [20], FA RX19 19 c 2 (.object "FirstPolls$Sum") := fun c hc => by
  simp only [List.mem_cons, List.not_mem_nil, or_false] at hc
  rcases hc with rfl
  · exact Or.inl (FL.mk (k := 2) clX19 (by decide) rfl q1279 rfl)
theorem fa_X19_26 : ∀ c ∈ [4], FA RX19 26 c 0 (.object "FirstPolls$Broken") := fun c hc => by
  simp only [List.mem_cons, List.not_mem_nil, or_false] at hc
  rcases hc with rfl
  · exact Or.inr (FN.mk (k := 0) clX3 (by decide) rfl q435 rfl)
theorem fa_X19_9 : ∀ c ∈ [20], FA RX19 9 c 0 (.char) := fun c hc => by
  simp only [List.mem_cons, List.not_mem_nil, or_false] at hc
  rcases hc with rfl
  · exact Or.inl (FL.mk (k := 0) clX19 (by decide) rfl q1277 rfl)
theorem fa_X1_111 : ∀ c ∈ [1], FA RX1 111 c 22 (.int) := fun c hc => by
  simp only [List.mem_cons, List.not_mem_nil, or_false] at hc
  rcases hc with rfl
  · exact Or.inl (FL.mk (k := 22) clX1 (by decide) rfl q272 rfl)
theorem fa_X1_114 : ∀ c ∈ [1], FA RX1 114 c 23 (.int) := fun c hc => by
  simp only [List.mem_cons, List.not_mem_nil, or_false] at hc
  rcases hc with rfl
  · exact Or.inl (FL.mk (k := 23) clX1 (by decide) rfl q275 rfl)
theorem fa_X1_117 : ∀ c ∈ [1], FA RX1 117 c 24 (.int) := fun c hc => by
  simp only [List.mem_cons, List.not_mem_nil, or_false] at hc
  rcases hc with rfl
  · exact Or.inl (FL.mk (k := 24) clX1 (by decide) rfl q278 rfl)
theorem fa_X1_120 : ∀ c ∈ [1], FA RX1 120 c 26 (.int) := fun c hc => by
  simp only [List.mem_cons, List.not_mem_nil, or_false] at hc
  rcases hc with rfl
  · exact Or.inl (FL.mk (k := 26) clX1 (by decide) rfl q282 rfl)
theorem fa_X1_14 : ∀ c ∈ [1], FA RX1 14 c 0 (.object "java/util/ArrayList") := fun c hc => by
  simp only [List.mem_cons, List.not_mem_nil, or_false] at hc
  rcases hc with rfl
  · exact Or.inl (FL.mk (k := 0) clX1 (by decide) rfl q218 rfl)
theorem fa_X1_20 : ∀ c ∈ [1], FA RX1 20 c 1 (.object "java/util/ArrayList") := fun c hc => by
  simp only [List.mem_cons, List.not_mem_nil, or_false] at hc
  rcases hc with rfl
  · exact Or.inl (FL.mk (k := 1) clX1 (by decide) rfl q221 rfl)
theorem fa_X1_23 : ∀ c ∈ [1], FA RX1 23 c 2 (.object "java/util/ArrayList") := fun c hc => by
  simp only [List.mem_cons, List.not_mem_nil, or_false] at hc
  rcases hc with rfl
  · exact Or.inl (FL.mk (k := 2) clX1 (by decide) rfl q224 rfl)
theorem fa_X1_26 : ∀ c ∈ [1], FA RX1 26 c 3 (.object "java/util/ArrayList") := fun c hc => by
  simp only [List.mem_cons, List.not_mem_nil, or_false] at hc
  rcases hc with rfl
  · exact Or.inl (FL.mk (k := 3) clX1 (by decide) rfl q226 rfl)
theorem fa_X1_29 : ∀ c ∈ [1], FA RX1 29 c 4 (.object "java/util/ArrayList") := fun c hc => by
  simp only [List.mem_cons, List.not_mem_nil, or_false] at hc
  rcases hc with rfl
  · exact Or.inl (FL.mk (k := 4) clX1 (by decide) rfl q228 rfl)
theorem fa_X1_32 : ∀ c ∈ [1], FA RX1 32 c 5 (.object "java/util/ArrayList") := fun c hc => by
  simp only [List.mem_cons, List.not_mem_nil, or_false] at hc
  rcases hc with rfl
  · exact Or.inl (FL.mk (k := 5) clX1 (by decide) rfl q231 rfl)
theorem fa_X1_35 : ∀ c ∈ [1], FA RX1 35 c 6 (.array .int) := fun c hc => by
  simp only [List.mem_cons, List.not_mem_nil, or_false] at hc
  rcases hc with rfl
  · exact Or.inl (FL.mk (k := 6) clX1 (by decide) rfl q234 rfl)
theorem fa_X1_39 : ∀ c ∈ [1], FA RX1 39 c 7 (.array .int) := fun c hc => by
  simp only [List.mem_cons, List.not_mem_nil, or_false] at hc
  rcases hc with rfl
  · exact Or.inl (FL.mk (k := 7) clX1 (by decide) rfl q237 rfl)
theorem fa_X1_42 : ∀ c ∈ [1], FA RX1 42 c 8 (.array .int) := fun c hc => by
  simp only [List.mem_cons, List.not_mem_nil, or_false] at hc
  rcases hc with rfl
  · exact Or.inl (FL.mk (k := 8) clX1 (by decide) rfl q239 rfl)
theorem fa_X1_45 : ∀ c ∈ [1], FA RX1 45 c 9 (.array .int) := fun c hc => by
  simp only [List.mem_cons, List.not_mem_nil, or_false] at hc
  rcases hc with rfl
  · exact Or.inl (FL.mk (k := 9) clX1 (by decide) rfl q241 rfl)
theorem fa_X1_48 : ∀ c ∈ [1], FA RX1 48 c 10 (.array .int) := fun c hc => by
  simp only [List.mem_cons, List.not_mem_nil, or_false] at hc
  rcases hc with rfl
  · exact Or.inl (FL.mk (k := 10) clX1 (by decide) rfl q244 rfl)
theorem fa_X1_51 : ∀ c ∈ [1], FA RX1 51 c 11 (.array .int) := fun c hc => by
  simp only [List.mem_cons, List.not_mem_nil, or_false] at hc
  rcases hc with rfl
  · exact Or.inl (FL.mk (k := 11) clX1 (by decide) rfl q247 rfl)
theorem fa_X1_54 : ∀ c ∈ [1], FA RX1 54 c 12 (.array .int) := fun c hc => by
  simp only [List.mem_cons, List.not_mem_nil, or_false] at hc
  rcases hc with rfl
  · exact Or.inl (FL.mk (k := 12) clX1 (by decide) rfl q249 rfl)
theorem fa_X1_57 : ∀ c ∈ [1], FA RX1 57 c 13 (.array .int) := fun c hc => by
  simp only [List.mem_cons, List.not_mem_nil, or_false] at hc
  rcases hc with rfl
  · exact Or.inl (FL.mk (k := 13) clX1 (by decide) rfl q251 rfl)
theorem fa_X1_60 : ∀ c ∈ [1], FA RX1 60 c 14 (.array .int) := fun c hc => by
  simp only [List.mem_cons, List.not_mem_nil, or_false] at hc
  rcases hc with rfl
  · exact Or.inl (FL.mk (k := 14) clX1 (by decide) rfl q253 rfl)
theorem fa_X1_63 : ∀ c ∈ [1], FA RX1 63 c 15 (.array .int) := fun c hc => by
  simp only [List.mem_cons, List.not_mem_nil, or_false] at hc
  rcases hc with rfl
  · exact Or.inl (FL.mk (k := 15) clX1 (by decide) rfl q256 rfl)
theorem fa_X1_66 : ∀ c ∈ [1], FA RX1 66 c 16 (.array .int) := fun c hc => by
  simp only [List.mem_cons, List.not_mem_nil, or_false] at hc
  rcases hc with rfl
  · exact Or.inl (FL.mk (k := 16) clX1 (by decide) rfl q259 rfl)
theorem fa_X1_69 : ∀ c ∈ [1], FA RX1 69 c 17 (.array .int) := fun c hc => by
  simp only [List.mem_cons, List.not_mem_nil, or_false] at hc
  rcases hc with rfl
  · exact Or.inl (FL.mk (k := 17) clX1 (by decide) rfl q261 rfl)
theorem fa_X1_72 : ∀ c ∈ [1], FA RX1 72 c 18 (.array .int) := fun c hc => by
  simp only [List.mem_cons, List.not_mem_nil, or_false] at hc
  rcases hc with rfl
  · exact Or.inl (FL.mk (k := 18) clX1 (by decide) rfl q264 rfl)
theorem fa_X1_75 : ∀ c ∈ [1], FA RX1 75 c 19 (.array .long) := fun c hc => by
  simp only [List.mem_cons, List.not_mem_nil, or_false] at hc
  rcases hc with rfl
  · exact Or.inl (FL.mk (k := 19) clX1 (by decide) rfl q266 rfl)
theorem fa_X1_79 : ∀ c ∈ [1], FA RX1 79 c 20 (.array .long) := fun c hc => by
  simp only [List.mem_cons, List.not_mem_nil, or_false] at hc
  rcases hc with rfl
  · exact Or.inl (FL.mk (k := 20) clX1 (by decide) rfl q268 rfl)
theorem fa_X1_82 : ∀ c ∈ [1], FA RX1 82 c 21 (.array .boolean) := fun c hc => by
  simp only [List.mem_cons, List.not_mem_nil, or_false] at hc
  rcases hc with rfl
  · exact Or.inl (FL.mk (k := 21) clX1 (by decide) rfl q270 rfl)
theorem fa_X1_86 : ∀ c ∈ [1], FA RX1 86 c 25 (.int) := fun c hc => by
  simp only [List.mem_cons, List.not_mem_nil, or_false] at hc
  rcases hc with rfl
  · exact Or.inl (FL.mk (k := 25) clX1 (by decide) rfl q280 rfl)
theorem fa_X21_13 : ∀ c ∈ [4], FA RX21 13 c 2 (.array .boolean) := fun c hc => by
  simp only [List.mem_cons, List.not_mem_nil, or_false] at hc
  rcases hc with rfl
  · exact Or.inr (FN.mk (k := 2) clX3 (by decide) rfl q442 rfl)
theorem fa_X21_7 : ∀ c ∈ [21], FA RX21 7 c 0 (.int) := fun c hc => by
  simp only [List.mem_cons, List.not_mem_nil, or_false] at hc
  rcases hc with rfl
  · exact Or.inl (FL.mk (k := 0) clX21 (by decide) rfl q1327 rfl)
theorem fa_X22_13 : ∀ c ∈ [22], FA RX22 13 c 1 (.object "FirstPolls$Sum") := fun c hc => by
  simp only [List.mem_cons, List.not_mem_nil, or_false] at hc
  rcases hc with rfl
  · exact Or.inl (FL.mk (k := 1) clX22 (by decide) rfl q1341 rfl)
theorem fa_X22_17 : ∀ c ∈ [22], FA RX22 17 c 2 (.object "FirstPolls$Sum") := fun c hc => by
  simp only [List.mem_cons, List.not_mem_nil, or_false] at hc
  rcases hc with rfl
  · exact Or.inl (FL.mk (k := 2) clX22 (by decide) rfl q1342 rfl)
theorem fa_X22_7 : ∀ c ∈ [22], FA RX22 7 c 0 (.char) := fun c hc => by
  simp only [List.mem_cons, List.not_mem_nil, or_false] at hc
  rcases hc with rfl
  · exact Or.inl (FL.mk (k := 0) clX22 (by decide) rfl q1340 rfl)
theorem fa_X23_7 : ∀ c ∈ [23], FA RX23 7 c 0 (.object "FirstPolls$Test") := fun c hc => by
  simp only [List.mem_cons, List.not_mem_nil, or_false] at hc
  rcases hc with rfl
  · exact Or.inl (FL.mk (k := 0) clX23 (by decide) rfl q1356 rfl)
theorem fa_X24_12 : ∀ c ∈ [24], FA RX24 12 c 1 (.object "java/util/ArrayList") := fun c hc => by
  simp only [List.mem_cons, List.not_mem_nil, or_false] at hc
  rcases hc with rfl
  · exact Or.inl (FL.mk (k := 1) clX24 (by decide) rfl q1370 rfl)
theorem fa_X24_18 : ∀ c ∈ [24], FA RX24 18 c 0 (.boolean) := fun c hc => by
  simp only [List.mem_cons, List.not_mem_nil, or_false] at hc
  rcases hc with rfl
  · exact Or.inl (FL.mk (k := 0) clX24 (by decide) rfl q1369 rfl)
theorem fa_X25_13 : ∀ c ∈ [25], FA RX25 13 c 1 (.int) := fun c hc => by
  simp only [List.mem_cons, List.not_mem_nil, or_false] at hc
  rcases hc with rfl
  · exact Or.inl (FL.mk (k := 1) clX25 (by decide) rfl q1387 rfl)
theorem fa_X25_16 : ∀ c ∈ [25], FA RX25 16 c 2 (.object "java/util/ArrayList") := fun c hc => by
  simp only [List.mem_cons, List.not_mem_nil, or_false] at hc
  rcases hc with rfl
  · exact Or.inl (FL.mk (k := 2) clX25 (by decide) rfl q1389 rfl)
theorem fa_X25_7 : ∀ c ∈ [25], FA RX25 7 c 0 (.int) := fun c hc => by
  simp only [List.mem_cons, List.not_mem_nil, or_false] at hc
  rcases hc with rfl
  · exact Or.inl (FL.mk (k := 0) clX25 (by decide) rfl q1385 rfl)
theorem fa_X2_15 : ∀ c ∈ [3], FA RX2 15 c 0 (.array .boolean) := fun c hc => by
  simp only [List.mem_cons, List.not_mem_nil, or_false] at hc
  rcases hc with rfl
  · exact Or.inl (FL.mk (k := 0) clX2 (by decide) rfl q349 rfl)
theorem fa_X2_19 : ∀ c ∈ [3], FA RX2 19 c 1 (.array .boolean) := fun c hc => by
  simp only [List.mem_cons, List.not_mem_nil, or_false] at hc
  rcases hc with rfl
  · exact Or.inl (FL.mk (k := 1) clX2 (by decide) rfl q351 rfl)
theorem fa_X2_22 : ∀ c ∈ [3], FA RX2 22 c 2 (.int) := fun c hc => by
  simp only [List.mem_cons, List.not_mem_nil, or_false] at hc
  rcases hc with rfl
  · exact Or.inl (FL.mk (k := 2) clX2 (by decide) rfl q352 rfl)
theorem fa_X2_26 : ∀ c ∈ [3], FA RX2 26 c 3 (.int) := fun c hc => by
  simp only [List.mem_cons, List.not_mem_nil, or_false] at hc
  rcases hc with rfl
  · exact Or.inl (FL.mk (k := 3) clX2 (by decide) rfl q353 rfl)
theorem fa_X2_29 : ∀ c ∈ [0], FA RX2 29 c 1 (.int) := fun c hc => by
  simp only [List.mem_cons, List.not_mem_nil, or_false] at hc
  rcases hc with rfl
  · exact Or.inr (FN.mk (k := 1) clX0 (by decide) rfl q525 rfl)
theorem fa_X2_3 : ∀ c ∈ [3], FA RX2 3 c 4 (.object "FirstPolls") := fun c hc => by
  simp only [List.mem_cons, List.not_mem_nil, or_false] at hc
  rcases hc with rfl
  · exact Or.inl (FL.mk (k := 4) clX2 (by decide) rfl q354 rfl)
theorem fa_X2_30 : ∀ c ∈ [0], FA RX2 30 c 2 (.object "FirstPolls$Told") := fun c hc => by
  simp only [List.mem_cons, List.not_mem_nil, or_false] at hc
  rcases hc with rfl
  · exact Or.inr (FN.mk (k := 2) clX0 (by decide) rfl q531 rfl)
theorem fa_X2_34 : ∀ c ∈ [1], FA RX2 34 c 0 (.object "java/util/ArrayList") := fun c hc => by
  simp only [List.mem_cons, List.not_mem_nil, or_false] at hc
  rcases hc with rfl
  · exact Or.inr (FN.mk (k := 0) clX1 (by decide) rfl q219 rfl)
theorem fa_X2_52 : ∀ c ∈ [25], FA RX2 52 c 1 (.int) := fun c hc => by
  simp only [List.mem_cons, List.not_mem_nil, or_false] at hc
  rcases hc with rfl
  · exact Or.inr (FN.mk (k := 1) clX25 (by decide) rfl q1388 rfl)
theorem fa_X2_59 : ∀ c ∈ [25], FA RX2 59 c 2 (.object "java/util/ArrayList") := fun c hc => by
  simp only [List.mem_cons, List.not_mem_nil, or_false] at hc
  rcases hc with rfl
  · exact Or.inr (FN.mk (k := 2) clX25 (by decide) rfl q1390 rfl)
theorem fa_X2_62 : ∀ c ∈ [25], FA RX2 62 c 0 (.int) := fun c hc => by
  simp only [List.mem_cons, List.not_mem_nil, or_false] at hc
  rcases hc with rfl
  · exact Or.inr (FN.mk (k := 0) clX25 (by decide) rfl q1386 rfl)
theorem fa_X2_67 : ∀ c ∈ [17], FA RX2 67 c 0 (.int) := fun c hc => by
  simp only [List.mem_cons, List.not_mem_nil, or_false] at hc
  rcases hc with rfl
  · exact Or.inr (FN.mk (k := 0) clX15 (by decide) rfl q1174 rfl)
theorem fa_X2_70 : ∀ c ∈ [17], FA RX2 70 c 1 (.int) := fun c hc => by
  simp only [List.mem_cons, List.not_mem_nil, or_false] at hc
  rcases hc with rfl
  · exact Or.inr (FN.mk (k := 1) clX15 (by decide) rfl q1177 rfl)
theorem fa_X2_73 : ∀ c ∈ [17], FA RX2 73 c 2 (.int) := fun c hc => by
  simp only [List.mem_cons, List.not_mem_nil, or_false] at hc
  rcases hc with rfl
  · exact Or.inr (FN.mk (k := 2) clX15 (by decide) rfl q1180 rfl)
theorem fa_X3_10 : ∀ c ∈ [4], FA RX3 10 c 0 (.object "FirstPolls$Broken") := fun c hc => by
  simp only [List.mem_cons, List.not_mem_nil, or_false] at hc
  rcases hc with rfl
  · exact Or.inl (FL.mk (k := 0) clX3 (by decide) rfl q434 rfl)
theorem fa_X3_16 : ∀ c ∈ [4], FA RX3 16 c 1 (.array .long) := fun c hc => by
  simp only [List.mem_cons, List.not_mem_nil, or_false] at hc
  rcases hc with rfl
  · exact Or.inl (FL.mk (k := 1) clX3 (by decide) rfl q436 rfl)
theorem fa_X3_20 : ∀ c ∈ [4], FA RX3 20 c 2 (.array .boolean) := fun c hc => by
  simp only [List.mem_cons, List.not_mem_nil, or_false] at hc
  rcases hc with rfl
  · exact Or.inl (FL.mk (k := 2) clX3 (by decide) rfl q441 rfl)
theorem fa_X5_15 : ∀ c ∈ [6], FA RX5 15 c 0 (.array .boolean) := fun c hc => by
  simp only [List.mem_cons, List.not_mem_nil, or_false] at hc
  rcases hc with rfl
  · exact Or.inl (FL.mk (k := 0) clX5 (by decide) rfl q458 rfl)
theorem fa_X5_19 : ∀ c ∈ [6], FA RX5 19 c 1 (.array .int) := fun c hc => by
  simp only [List.mem_cons, List.not_mem_nil, or_false] at hc
  rcases hc with rfl
  · exact Or.inl (FL.mk (k := 1) clX5 (by decide) rfl q460 rfl)
theorem fa_X5_23 : ∀ c ∈ [6], FA RX5 23 c 2 (.array .int) := fun c hc => by
  simp only [List.mem_cons, List.not_mem_nil, or_false] at hc
  rcases hc with rfl
  · exact Or.inl (FL.mk (k := 2) clX5 (by decide) rfl q462 rfl)
theorem fa_X5_26 : ∀ c ∈ [6], FA RX5 26 c 3 (.int) := fun c hc => by
  simp only [List.mem_cons, List.not_mem_nil, or_false] at hc
  rcases hc with rfl
  · exact Or.inl (FL.mk (k := 3) clX5 (by decide) rfl q464 rfl)
theorem fa_X5_3 : ∀ c ∈ [6], FA RX5 3 c 6 (.object "FirstPolls") := fun c hc => by
  simp only [List.mem_cons, List.not_mem_nil, or_false] at hc
  rcases hc with rfl
  · exact Or.inl (FL.mk (k := 6) clX5 (by decide) rfl q467 rfl)
theorem fa_X5_30 : ∀ c ∈ [6], FA RX5 30 c 4 (.int) := fun c hc => by
  simp only [List.mem_cons, List.not_mem_nil, or_false] at hc
  rcases hc with rfl
  · exact Or.inl (FL.mk (k := 4) clX5 (by decide) rfl q465 rfl)
theorem fa_X5_33 : ∀ c ∈ [6], FA RX5 33 c 5 (.int) := fun c hc => by
  simp only [List.mem_cons, List.not_mem_nil, or_false] at hc
  rcases hc with rfl
  · exact Or.inl (FL.mk (k := 5) clX5 (by decide) rfl q466 rfl)
theorem fa_X5_36 : ∀ c ∈ [0], FA RX5 36 c 1 (.int) := fun c hc => by
  simp only [List.mem_cons, List.not_mem_nil, or_false] at hc
  rcases hc with rfl
  · exact Or.inr (FN.mk (k := 1) clX0 (by decide) rfl q526 rfl)
theorem fa_X5_37 : ∀ c ∈ [0], FA RX5 37 c 2 (.object "FirstPolls$Told") := fun c hc => by
  simp only [List.mem_cons, List.not_mem_nil, or_false] at hc
  rcases hc with rfl
  · exact Or.inr (FN.mk (k := 2) clX0 (by decide) rfl q532 rfl)
theorem fa_X5_41 : ∀ c ∈ [1], FA RX5 41 c 1 (.object "java/util/ArrayList") := fun c hc => by
  simp only [List.mem_cons, List.not_mem_nil, or_false] at hc
  rcases hc with rfl
  · exact Or.inr (FN.mk (k := 1) clX1 (by decide) rfl q222 rfl)
theorem fa_X5_67 : ∀ c ∈ [9, 10, 11, 12], FA RX5 67 c 4 (.int) := fun c hc => by
  simp only [List.mem_cons, List.not_mem_nil, or_false] at hc
  rcases hc with rfl | rfl | rfl | rfl
  · exact Or.inl (FL.mk (k := 4) clX8 (by decide) rfl q811 rfl)
  · exact Or.inl (FL.mk (k := 4) clX9 (by decide) rfl q811 rfl)
  · exact Or.inl (FL.mk (k := 4) clX10 (by decide) rfl q811 rfl)
  · exact Or.inl (FL.mk (k := 4) clX11 (by decide) rfl q811 rfl)
theorem fa_X5_68 : ∀ c ∈ [1], FA RX5 68 c 9 (.array .int) := fun c hc => by
  simp only [List.mem_cons, List.not_mem_nil, or_false] at hc
  rcases hc with rfl
  · exact Or.inr (FN.mk (k := 9) clX1 (by decide) rfl q242 rfl)
theorem fa_X5_71 : ∀ c ∈ [1], FA RX5 71 c 10 (.array .int) := fun c hc => by
  simp only [List.mem_cons, List.not_mem_nil, or_false] at hc
  rcases hc with rfl
  · exact Or.inr (FN.mk (k := 10) clX1 (by decide) rfl q245 rfl)
theorem fa_X5_78 : ∀ c ∈ [0], FA RX5 78 c 8 (.object "FirstPolls$Setting") := fun c hc => by
  simp only [List.mem_cons, List.not_mem_nil, or_false] at hc
  rcases hc with rfl
  · exact Or.inr (FN.mk (k := 8) clX0 (by decide) rfl q539 rfl)
theorem fa_X5_82 : ∀ c ∈ [4], FA RX5 82 c 1 (.array .long) := fun c hc => by
  simp only [List.mem_cons, List.not_mem_nil, or_false] at hc
  rcases hc with rfl
  · exact Or.inr (FN.mk (k := 1) clX3 (by decide) rfl q438 rfl)
theorem fa_X5_88 : ∀ c ∈ [9, 10, 11, 12], FA RX5 88 c 2 (.int) := fun c hc => by
  simp only [List.mem_cons, List.not_mem_nil, or_false] at hc
  rcases hc with rfl | rfl | rfl | rfl
  · exact Or.inl (FL.mk (k := 2) clX8 (by decide) rfl q806 rfl)
  · exact Or.inl (FL.mk (k := 2) clX9 (by decide) rfl q806 rfl)
  · exact Or.inl (FL.mk (k := 2) clX10 (by decide) rfl q806 rfl)
  · exact Or.inl (FL.mk (k := 2) clX11 (by decide) rfl q806 rfl)
theorem fa_X5_91 : ∀ c ∈ [9, 10, 11, 12], FA RX5 91 c 1 (.int) := fun c hc => by
  simp only [List.mem_cons, List.not_mem_nil, or_false] at hc
  rcases hc with rfl | rfl | rfl | rfl
  · exact Or.inl (FL.mk (k := 1) clX8 (by decide) rfl q803 rfl)
  · exact Or.inl (FL.mk (k := 1) clX9 (by decide) rfl q803 rfl)
  · exact Or.inl (FL.mk (k := 1) clX10 (by decide) rfl q803 rfl)
  · exact Or.inl (FL.mk (k := 1) clX11 (by decide) rfl q803 rfl)
theorem fa_X5_94 : ∀ c ∈ [1], FA RX5 94 c 6 (.array .int) := fun c hc => by
  simp only [List.mem_cons, List.not_mem_nil, or_false] at hc
  rcases hc with rfl
  · exact Or.inr (FN.mk (k := 6) clX1 (by decide) rfl q235 rfl)
theorem fa_X5_97 : ∀ c ∈ [4], FA RX5 97 c 2 (.array .boolean) := fun c hc => by
  simp only [List.mem_cons, List.not_mem_nil, or_false] at hc
  rcases hc with rfl
  · exact Or.inr (FN.mk (k := 2) clX3 (by decide) rfl q443 rfl)
theorem fa_X6_103 : ∀ c ∈ [1], FA RX6 103 c 15 (.array .int) := fun c hc => by
  simp only [List.mem_cons, List.not_mem_nil, or_false] at hc
  rcases hc with rfl
  · exact Or.inr (FN.mk (k := 15) clX1 (by decide) rfl q257 rfl)
theorem fa_X6_106 : ∀ c ∈ [1], FA RX6 106 c 5 (.object "java/util/ArrayList") := fun c hc => by
  simp only [List.mem_cons, List.not_mem_nil, or_false] at hc
  rcases hc with rfl
  · exact Or.inr (FN.mk (k := 5) clX1 (by decide) rfl q232 rfl)
theorem fa_X6_113 : ∀ c ∈ [1], FA RX6 113 c 17 (.array .int) := fun c hc => by
  simp only [List.mem_cons, List.not_mem_nil, or_false] at hc
  rcases hc with rfl
  · exact Or.inr (FN.mk (k := 17) clX1 (by decide) rfl q262 rfl)
theorem fa_X6_119 : ∀ c ∈ [1], FA RX6 119 c 14 (.array .int) := fun c hc => by
  simp only [List.mem_cons, List.not_mem_nil, or_false] at hc
  rcases hc with rfl
  · exact Or.inr (FN.mk (k := 14) clX1 (by decide) rfl q254 rfl)
theorem fa_X6_125 : ∀ c ∈ [0], FA RX6 125 c 8 (.object "FirstPolls$Setting") := fun c hc => by
  simp only [List.mem_cons, List.not_mem_nil, or_false] at hc
  rcases hc with rfl
  · exact Or.inr (FN.mk (k := 8) clX0 (by decide) rfl q540 rfl)
theorem fa_X6_129 : ∀ c ∈ [4], FA RX6 129 c 1 (.array .long) := fun c hc => by
  simp only [List.mem_cons, List.not_mem_nil, or_false] at hc
  rcases hc with rfl
  · exact Or.inr (FN.mk (k := 1) clX3 (by decide) rfl q439 rfl)
theorem fa_X6_139 : ∀ c ∈ [4], FA RX6 139 c 2 (.array .boolean) := fun c hc => by
  simp only [List.mem_cons, List.not_mem_nil, or_false] at hc
  rcases hc with rfl
  · exact Or.inr (FN.mk (k := 2) clX3 (by decide) rfl q444 rfl)
theorem fa_X6_15 : ∀ c ∈ [7], FA RX6 15 c 0 (.array .int) := fun c hc => by
  simp only [List.mem_cons, List.not_mem_nil, or_false] at hc
  rcases hc with rfl
  · exact Or.inl (FL.mk (k := 0) clX6 (by decide) rfl q489 rfl)
theorem fa_X6_19 : ∀ c ∈ [7], FA RX6 19 c 1 (.array .int) := fun c hc => by
  simp only [List.mem_cons, List.not_mem_nil, or_false] at hc
  rcases hc with rfl
  · exact Or.inl (FL.mk (k := 1) clX6 (by decide) rfl q491 rfl)
theorem fa_X6_22 : ∀ c ∈ [7], FA RX6 22 c 2 (.array .int) := fun c hc => by
  simp only [List.mem_cons, List.not_mem_nil, or_false] at hc
  rcases hc with rfl
  · exact Or.inl (FL.mk (k := 2) clX6 (by decide) rfl q493 rfl)
theorem fa_X6_25 : ∀ c ∈ [7], FA RX6 25 c 3 (.array .boolean) := fun c hc => by
  simp only [List.mem_cons, List.not_mem_nil, or_false] at hc
  rcases hc with rfl
  · exact Or.inl (FL.mk (k := 3) clX6 (by decide) rfl q495 rfl)
theorem fa_X6_29 : ∀ c ∈ [7], FA RX6 29 c 4 (.array .boolean) := fun c hc => by
  simp only [List.mem_cons, List.not_mem_nil, or_false] at hc
  rcases hc with rfl
  · exact Or.inl (FL.mk (k := 4) clX6 (by decide) rfl q497 rfl)
theorem fa_X6_3 : ∀ c ∈ [7], FA RX6 3 c 9 (.object "FirstPolls") := fun c hc => by
  simp only [List.mem_cons, List.not_mem_nil, or_false] at hc
  rcases hc with rfl
  · exact Or.inl (FL.mk (k := 9) clX6 (by decide) rfl q502 rfl)
theorem fa_X6_32 : ∀ c ∈ [7], FA RX6 32 c 5 (.array .boolean) := fun c hc => by
  simp only [List.mem_cons, List.not_mem_nil, or_false] at hc
  rcases hc with rfl
  · exact Or.inl (FL.mk (k := 5) clX6 (by decide) rfl q498 rfl)
theorem fa_X6_35 : ∀ c ∈ [7], FA RX6 35 c 6 (.int) := fun c hc => by
  simp only [List.mem_cons, List.not_mem_nil, or_false] at hc
  rcases hc with rfl
  · exact Or.inl (FL.mk (k := 6) clX6 (by decide) rfl q499 rfl)
theorem fa_X6_39 : ∀ c ∈ [7], FA RX6 39 c 7 (.int) := fun c hc => by
  simp only [List.mem_cons, List.not_mem_nil, or_false] at hc
  rcases hc with rfl
  · exact Or.inl (FL.mk (k := 7) clX6 (by decide) rfl q500 rfl)
theorem fa_X6_42 : ∀ c ∈ [7], FA RX6 42 c 8 (.int) := fun c hc => by
  simp only [List.mem_cons, List.not_mem_nil, or_false] at hc
  rcases hc with rfl
  · exact Or.inl (FL.mk (k := 8) clX6 (by decide) rfl q501 rfl)
theorem fa_X6_45 : ∀ c ∈ [0], FA RX6 45 c 9 (.object "FirstPolls$Rolls") := fun c hc => by
  simp only [List.mem_cons, List.not_mem_nil, or_false] at hc
  rcases hc with rfl
  · exact Or.inr (FN.mk (k := 9) clX0 (by decide) rfl q542 rfl)
theorem fa_X6_55 : ∀ c ∈ [0], FA RX6 55 c 1 (.int) := fun c hc => by
  simp only [List.mem_cons, List.not_mem_nil, or_false] at hc
  rcases hc with rfl
  · exact Or.inr (FN.mk (k := 1) clX0 (by decide) rfl q527 rfl)
theorem fa_X6_56 : ∀ c ∈ [0], FA RX6 56 c 2 (.object "FirstPolls$Told") := fun c hc => by
  simp only [List.mem_cons, List.not_mem_nil, or_false] at hc
  rcases hc with rfl
  · exact Or.inr (FN.mk (k := 2) clX0 (by decide) rfl q530 rfl)
theorem fa_X6_60 : ∀ c ∈ [1], FA RX6 60 c 23 (.int) := fun c hc => by
  simp only [List.mem_cons, List.not_mem_nil, or_false] at hc
  rcases hc with rfl
  · exact Or.inr (FN.mk (k := 23) clX1 (by decide) rfl q274 rfl)
theorem fa_X6_69 : ∀ c ∈ [1], FA RX6 69 c 4 (.object "java/util/ArrayList") := fun c hc => by
  simp only [List.mem_cons, List.not_mem_nil, or_false] at hc
  rcases hc with rfl
  · exact Or.inr (FN.mk (k := 4) clX1 (by decide) rfl q229 rfl)
theorem fa_X6_84 : ∀ c ∈ [14], FA RX6 84 c 3 (.int) := fun c hc => by
  simp only [List.mem_cons, List.not_mem_nil, or_false] at hc
  rcases hc with rfl
  · exact Or.inr (FN.mk (k := 3) clX12 (by decide) rfl q1004 rfl)
theorem fa_X6_87 : ∀ c ∈ [14], FA RX6 87 c 0 (.int) := fun c hc => by
  simp only [List.mem_cons, List.not_mem_nil, or_false] at hc
  rcases hc with rfl
  · exact Or.inr (FN.mk (k := 0) clX12 (by decide) rfl q995 rfl)
theorem fa_X6_90 : ∀ c ∈ [14], FA RX6 90 c 1 (.int) := fun c hc => by
  simp only [List.mem_cons, List.not_mem_nil, or_false] at hc
  rcases hc with rfl
  · exact Or.inr (FN.mk (k := 1) clX12 (by decide) rfl q998 rfl)
theorem fa_X6_93 : ∀ c ∈ [14], FA RX6 93 c 2 (.int) := fun c hc => by
  simp only [List.mem_cons, List.not_mem_nil, or_false] at hc
  rcases hc with rfl
  · exact Or.inr (FN.mk (k := 2) clX12 (by decide) rfl q1001 rfl)
theorem fa_X6_96 : ∀ c ∈ [1], FA RX6 96 c 24 (.int) := fun c hc => by
  simp only [List.mem_cons, List.not_mem_nil, or_false] at hc
  rcases hc with rfl
  · exact Or.inr (FN.mk (k := 24) clX1 (by decide) rfl q277 rfl)
theorem fa_X7_101 : ∀ c ∈ [8], FA RX7 101 c 55 (.array .int) := fun c hc => by
  simp only [List.mem_cons, List.not_mem_nil, or_false] at hc
  rcases hc with rfl
  · exact Or.inl (FL.mk (k := 55) clX7 (by decide) rfl q1825 rfl)
theorem fa_X7_104 : ∀ c ∈ [8], FA RX7 104 c 56 (.array .int) := fun c hc => by
  simp only [List.mem_cons, List.not_mem_nil, or_false] at hc
  rcases hc with rfl
  · exact Or.inl (FL.mk (k := 56) clX7 (by decide) rfl q1826 rfl)
theorem fa_X7_107 : ∀ c ∈ [8], FA RX7 107 c 57 (.array .int) := fun c hc => by
  simp only [List.mem_cons, List.not_mem_nil, or_false] at hc
  rcases hc with rfl
  · exact Or.inl (FL.mk (k := 57) clX7 (by decide) rfl q1827 rfl)
theorem fa_X7_110 : ∀ c ∈ [8], FA RX7 110 c 58 (.array .int) := fun c hc => by
  simp only [List.mem_cons, List.not_mem_nil, or_false] at hc
  rcases hc with rfl
  · exact Or.inl (FL.mk (k := 58) clX7 (by decide) rfl q1828 rfl)
theorem fa_X7_14 : ∀ c ∈ [8], FA RX7 14 c 3 (.array .int) := fun c hc => by
  simp only [List.mem_cons, List.not_mem_nil, or_false] at hc
  rcases hc with rfl
  · exact Or.inl (FL.mk (k := 3) clX7 (by decide) rfl q1773 rfl)
theorem fa_X7_17 : ∀ c ∈ [8], FA RX7 17 c 4 (.array .boolean) := fun c hc => by
  simp only [List.mem_cons, List.not_mem_nil, or_false] at hc
  rcases hc with rfl
  · exact Or.inl (FL.mk (k := 4) clX7 (by decide) rfl q1774 rfl)
theorem fa_X7_21 : ∀ c ∈ [8], FA RX7 21 c 7 (.array .boolean) := fun c hc => by
  simp only [List.mem_cons, List.not_mem_nil, or_false] at hc
  rcases hc with rfl
  · exact Or.inl (FL.mk (k := 7) clX7 (by decide) rfl q1777 rfl)
theorem fa_X7_24 : ∀ c ∈ [8], FA RX7 24 c 8 (.array .int) := fun c hc => by
  simp only [List.mem_cons, List.not_mem_nil, or_false] at hc
  rcases hc with rfl
  · exact Or.inl (FL.mk (k := 8) clX7 (by decide) rfl q1778 rfl)
theorem fa_X7_27 : ∀ c ∈ [8], FA RX7 27 c 9 (.array .int) := fun c hc => by
  simp only [List.mem_cons, List.not_mem_nil, or_false] at hc
  rcases hc with rfl
  · exact Or.inl (FL.mk (k := 9) clX7 (by decide) rfl q1779 rfl)
theorem fa_X7_30 : ∀ c ∈ [8], FA RX7 30 c 15 (.int) := fun c hc => by
  simp only [List.mem_cons, List.not_mem_nil, or_false] at hc
  rcases hc with rfl
  · exact Or.inl (FL.mk (k := 15) clX7 (by decide) rfl q1785 rfl)
theorem fa_X7_34 : ∀ c ∈ [8], FA RX7 34 c 18 (.array .int) := fun c hc => by
  simp only [List.mem_cons, List.not_mem_nil, or_false] at hc
  rcases hc with rfl
  · exact Or.inl (FL.mk (k := 18) clX7 (by decide) rfl q1788 rfl)
theorem fa_X7_37 : ∀ c ∈ [8], FA RX7 37 c 20 (.array .int) := fun c hc => by
  simp only [List.mem_cons, List.not_mem_nil, or_false] at hc
  rcases hc with rfl
  · exact Or.inl (FL.mk (k := 20) clX7 (by decide) rfl q1790 rfl)
theorem fa_X7_40 : ∀ c ∈ [8], FA RX7 40 c 21 (.array .int) := fun c hc => by
  simp only [List.mem_cons, List.not_mem_nil, or_false] at hc
  rcases hc with rfl
  · exact Or.inl (FL.mk (k := 21) clX7 (by decide) rfl q1791 rfl)
theorem fa_X7_43 : ∀ c ∈ [8], FA RX7 43 c 23 (.array .int) := fun c hc => by
  simp only [List.mem_cons, List.not_mem_nil, or_false] at hc
  rcases hc with rfl
  · exact Or.inl (FL.mk (k := 23) clX7 (by decide) rfl q1793 rfl)
theorem fa_X7_46 : ∀ c ∈ [8], FA RX7 46 c 24 (.array .int) := fun c hc => by
  simp only [List.mem_cons, List.not_mem_nil, or_false] at hc
  rcases hc with rfl
  · exact Or.inl (FL.mk (k := 24) clX7 (by decide) rfl q1794 rfl)
theorem fa_X7_49 : ∀ c ∈ [8], FA RX7 49 c 27 (.array .boolean) := fun c hc => by
  simp only [List.mem_cons, List.not_mem_nil, or_false] at hc
  rcases hc with rfl
  · exact Or.inl (FL.mk (k := 27) clX7 (by decide) rfl q1797 rfl)
theorem fa_X7_52 : ∀ c ∈ [8], FA RX7 52 c 28 (.array .boolean) := fun c hc => by
  simp only [List.mem_cons, List.not_mem_nil, or_false] at hc
  rcases hc with rfl
  · exact Or.inl (FL.mk (k := 28) clX7 (by decide) rfl q1798 rfl)
theorem fa_X7_55 : ∀ c ∈ [8], FA RX7 55 c 29 (.array .long) := fun c hc => by
  simp only [List.mem_cons, List.not_mem_nil, or_false] at hc
  rcases hc with rfl
  · exact Or.inl (FL.mk (k := 29) clX7 (by decide) rfl q1799 rfl)
theorem fa_X7_59 : ∀ c ∈ [8], FA RX7 59 c 30 (.array .long) := fun c hc => by
  simp only [List.mem_cons, List.not_mem_nil, or_false] at hc
  rcases hc with rfl
  · exact Or.inl (FL.mk (k := 30) clX7 (by decide) rfl q1800 rfl)
theorem fa_X7_62 : ∀ c ∈ [8], FA RX7 62 c 35 (.array .int) := fun c hc => by
  simp only [List.mem_cons, List.not_mem_nil, or_false] at hc
  rcases hc with rfl
  · exact Or.inl (FL.mk (k := 35) clX7 (by decide) rfl q1805 rfl)
theorem fa_X7_65 : ∀ c ∈ [8], FA RX7 65 c 36 (.array .int) := fun c hc => by
  simp only [List.mem_cons, List.not_mem_nil, or_false] at hc
  rcases hc with rfl
  · exact Or.inl (FL.mk (k := 36) clX7 (by decide) rfl q1806 rfl)
theorem fa_X7_68 : ∀ c ∈ [8], FA RX7 68 c 37 (.array .int) := fun c hc => by
  simp only [List.mem_cons, List.not_mem_nil, or_false] at hc
  rcases hc with rfl
  · exact Or.inl (FL.mk (k := 37) clX7 (by decide) rfl q1807 rfl)
theorem fa_X7_7 : ∀ c ∈ [8], FA RX7 7 c 2 (.array .int) := fun c hc => by
  simp only [List.mem_cons, List.not_mem_nil, or_false] at hc
  rcases hc with rfl
  · exact Or.inl (FL.mk (k := 2) clX7 (by decide) rfl q1772 rfl)
theorem fa_X7_71 : ∀ c ∈ [8], FA RX7 71 c 38 (.array .int) := fun c hc => by
  simp only [List.mem_cons, List.not_mem_nil, or_false] at hc
  rcases hc with rfl
  · exact Or.inl (FL.mk (k := 38) clX7 (by decide) rfl q1808 rfl)
theorem fa_X7_74 : ∀ c ∈ [8], FA RX7 74 c 39 (.array .int) := fun c hc => by
  simp only [List.mem_cons, List.not_mem_nil, or_false] at hc
  rcases hc with rfl
  · exact Or.inl (FL.mk (k := 39) clX7 (by decide) rfl q1809 rfl)
theorem fa_X7_77 : ∀ c ∈ [8], FA RX7 77 c 40 (.array .int) := fun c hc => by
  simp only [List.mem_cons, List.not_mem_nil, or_false] at hc
  rcases hc with rfl
  · exact Or.inl (FL.mk (k := 40) clX7 (by decide) rfl q1810 rfl)
theorem fa_X7_80 : ∀ c ∈ [8], FA RX7 80 c 41 (.array .int) := fun c hc => by
  simp only [List.mem_cons, List.not_mem_nil, or_false] at hc
  rcases hc with rfl
  · exact Or.inl (FL.mk (k := 41) clX7 (by decide) rfl q1811 rfl)
theorem fa_X7_83 : ∀ c ∈ [8], FA RX7 83 c 42 (.array .int) := fun c hc => by
  simp only [List.mem_cons, List.not_mem_nil, or_false] at hc
  rcases hc with rfl
  · exact Or.inl (FL.mk (k := 42) clX7 (by decide) rfl q1812 rfl)
theorem fa_X7_86 : ∀ c ∈ [8], FA RX7 86 c 46 (.array .int) := fun c hc => by
  simp only [List.mem_cons, List.not_mem_nil, or_false] at hc
  rcases hc with rfl
  · exact Or.inl (FL.mk (k := 46) clX7 (by decide) rfl q1816 rfl)
theorem fa_X7_89 : ∀ c ∈ [8], FA RX7 89 c 47 (.array .boolean) := fun c hc => by
  simp only [List.mem_cons, List.not_mem_nil, or_false] at hc
  rcases hc with rfl
  · exact Or.inl (FL.mk (k := 47) clX7 (by decide) rfl q1817 rfl)
theorem fa_X7_92 : ∀ c ∈ [8], FA RX7 92 c 48 (.array .int) := fun c hc => by
  simp only [List.mem_cons, List.not_mem_nil, or_false] at hc
  rcases hc with rfl
  · exact Or.inl (FL.mk (k := 48) clX7 (by decide) rfl q1818 rfl)
theorem fa_X7_95 : ∀ c ∈ [8], FA RX7 95 c 49 (.array .int) := fun c hc => by
  simp only [List.mem_cons, List.not_mem_nil, or_false] at hc
  rcases hc with rfl
  · exact Or.inl (FL.mk (k := 49) clX7 (by decide) rfl q1819 rfl)
theorem fa_X7_98 : ∀ c ∈ [8], FA RX7 98 c 52 (.array .int) := fun c hc => by
  simp only [List.mem_cons, List.not_mem_nil, or_false] at hc
  rcases hc with rfl
  · exact Or.inl (FL.mk (k := 52) clX7 (by decide) rfl q1822 rfl)
theorem fa_X8_13 : ∀ c ∈ [9, 10, 11, 12], FA RX8 13 c 1 (.int) := fun c hc => by
  simp only [List.mem_cons, List.not_mem_nil, or_false] at hc
  rcases hc with rfl | rfl | rfl | rfl
  · exact Or.inl (FL.mk (k := 1) clX8 (by decide) rfl q802 rfl)
  · exact Or.inl (FL.mk (k := 1) clX9 (by decide) rfl q802 rfl)
  · exact Or.inl (FL.mk (k := 1) clX10 (by decide) rfl q802 rfl)
  · exact Or.inl (FL.mk (k := 1) clX11 (by decide) rfl q802 rfl)
theorem fa_X8_16 : ∀ c ∈ [9, 10, 11, 12], FA RX8 16 c 2 (.int) := fun c hc => by
  simp only [List.mem_cons, List.not_mem_nil, or_false] at hc
  rcases hc with rfl | rfl | rfl | rfl
  · exact Or.inl (FL.mk (k := 2) clX8 (by decide) rfl q805 rfl)
  · exact Or.inl (FL.mk (k := 2) clX9 (by decide) rfl q805 rfl)
  · exact Or.inl (FL.mk (k := 2) clX10 (by decide) rfl q805 rfl)
  · exact Or.inl (FL.mk (k := 2) clX11 (by decide) rfl q805 rfl)
theorem fa_X8_19 : ∀ c ∈ [9, 10, 11, 12], FA RX8 19 c 3 (.int) := fun c hc => by
  simp only [List.mem_cons, List.not_mem_nil, or_false] at hc
  rcases hc with rfl | rfl | rfl | rfl
  · exact Or.inl (FL.mk (k := 3) clX8 (by decide) rfl q808 rfl)
  · exact Or.inl (FL.mk (k := 3) clX9 (by decide) rfl q808 rfl)
  · exact Or.inl (FL.mk (k := 3) clX10 (by decide) rfl q808 rfl)
  · exact Or.inl (FL.mk (k := 3) clX11 (by decide) rfl q808 rfl)
theorem fa_X8_22 : ∀ c ∈ [9, 10, 11, 12], FA RX8 22 c 4 (.int) := fun c hc => by
  simp only [List.mem_cons, List.not_mem_nil, or_false] at hc
  rcases hc with rfl | rfl | rfl | rfl
  · exact Or.inl (FL.mk (k := 4) clX8 (by decide) rfl q810 rfl)
  · exact Or.inl (FL.mk (k := 4) clX9 (by decide) rfl q810 rfl)
  · exact Or.inl (FL.mk (k := 4) clX10 (by decide) rfl q810 rfl)
  · exact Or.inl (FL.mk (k := 4) clX11 (by decide) rfl q810 rfl)
theorem fa_X8_7 : ∀ c ∈ [9, 10, 11, 12], FA RX8 7 c 0 (.int) := fun c hc => by
  simp only [List.mem_cons, List.not_mem_nil, or_false] at hc
  rcases hc with rfl | rfl | rfl | rfl
  · exact Or.inl (FL.mk (k := 0) clX8 (by decide) rfl q800 rfl)
  · exact Or.inl (FL.mk (k := 0) clX9 (by decide) rfl q800 rfl)
  · exact Or.inl (FL.mk (k := 0) clX10 (by decide) rfl q800 rfl)
  · exact Or.inl (FL.mk (k := 0) clX11 (by decide) rfl q800 rfl)
theorem ff_J11_15 : ∀ c ∈ [26], FLf RJ11 15 c 1 (.byte) := fun c hc => by
  simp only [List.mem_cons, List.not_mem_nil, or_false] at hc
  rcases hc with rfl
  · exact ⟨FL.mk (k := 1) clJ11 (by decide) rfl q2574 rfl, RJ11, TJ11, 2, rfl, rfl, rfl⟩
theorem ff_J11_9 : ∀ c ∈ [26], FLf RJ11 9 c 0 (.array .byte) := fun c hc => by
  simp only [List.mem_cons, List.not_mem_nil, or_false] at hc
  rcases hc with rfl
  · exact ⟨FL.mk (k := 0) clJ11 (by decide) rfl q2573 rfl, RJ11, TJ11, 2, rfl, rfl, rfl⟩
theorem ff_X0_10 : ∀ c ∈ [0], FLf RX0 10 c 2 (.object "FirstPolls$Told") := fun c hc => by
  simp only [List.mem_cons, List.not_mem_nil, or_false] at hc
  rcases hc with rfl
  · exact ⟨FL.mk (k := 2) clX0 (by decide) rfl q529 rfl, RX0, TX0, 39, rfl, rfl, rfl⟩
theorem ff_X0_102 : ∀ c ∈ [0], FLf RX0 102 c 30 (.array .int) := fun c hc => by
  simp only [List.mem_cons, List.not_mem_nil, or_false] at hc
  rcases hc with rfl
  · exact ⟨FL.mk (k := 30) clX0 (by decide) rfl q563 rfl, RX0, TX0, 39, rfl, rfl, rfl⟩
theorem ff_X0_105 : ∀ c ∈ [0], FLf RX0 105 c 31 (.array .int) := fun c hc => by
  simp only [List.mem_cons, List.not_mem_nil, or_false] at hc
  rcases hc with rfl
  · exact ⟨FL.mk (k := 31) clX0 (by decide) rfl q564 rfl, RX0, TX0, 39, rfl, rfl, rfl⟩
theorem ff_X0_108 : ∀ c ∈ [0], FLf RX0 108 c 32 (.array .int) := fun c hc => by
  simp only [List.mem_cons, List.not_mem_nil, or_false] at hc
  rcases hc with rfl
  · exact ⟨FL.mk (k := 32) clX0 (by decide) rfl q565 rfl, RX0, TX0, 39, rfl, rfl, rfl⟩
theorem ff_X0_111 : ∀ c ∈ [0], FLf RX0 111 c 33 (.array .int) := fun c hc => by
  simp only [List.mem_cons, List.not_mem_nil, or_false] at hc
  rcases hc with rfl
  · exact ⟨FL.mk (k := 33) clX0 (by decide) rfl q566 rfl, RX0, TX0, 39, rfl, rfl, rfl⟩
theorem ff_X0_16 : ∀ c ∈ [0], FLf RX0 16 c 3 (.array (.object "FirstPolls$Told")) := fun c hc => by
  simp only [List.mem_cons, List.not_mem_nil, or_false] at hc
  rcases hc with rfl
  · exact ⟨FL.mk (k := 3) clX0 (by decide) rfl q533 rfl, RX0, TX0, 39, rfl, rfl, rfl⟩
theorem ff_X0_20 : ∀ c ∈ [0], FLf RX0 20 c 4 (.array .byte) := fun c hc => by
  simp only [List.mem_cons, List.not_mem_nil, or_false] at hc
  rcases hc with rfl
  · exact ⟨FL.mk (k := 4) clX0 (by decide) rfl q534 rfl, RX0, TX0, 39, rfl, rfl, rfl⟩
theorem ff_X0_33 : ∀ c ∈ [0], FLf RX0 33 c 7 (.object "FirstPolls$Force") := fun c hc => by
  simp only [List.mem_cons, List.not_mem_nil, or_false] at hc
  rcases hc with rfl
  · exact ⟨FL.mk (k := 7) clX0 (by decide) rfl q537 rfl, RX0, TX0, 39, rfl, rfl, rfl⟩
theorem ff_X0_40 : ∀ c ∈ [0], FLf RX0 40 c 8 (.object "FirstPolls$Setting") := fun c hc => by
  simp only [List.mem_cons, List.not_mem_nil, or_false] at hc
  rcases hc with rfl
  · exact ⟨FL.mk (k := 8) clX0 (by decide) rfl q538 rfl, RX0, TX0, 39, rfl, rfl, rfl⟩
theorem ff_X0_47 : ∀ c ∈ [0], FLf RX0 47 c 9 (.object "FirstPolls$Rolls") := fun c hc => by
  simp only [List.mem_cons, List.not_mem_nil, or_false] at hc
  rcases hc with rfl
  · exact ⟨FL.mk (k := 9) clX0 (by decide) rfl q541 rfl, RX0, TX0, 39, rfl, rfl, rfl⟩
theorem ff_X0_51 : ∀ c ∈ [0], FLf RX0 51 c 10 (.array .int) := fun c hc => by
  simp only [List.mem_cons, List.not_mem_nil, or_false] at hc
  rcases hc with rfl
  · exact ⟨FL.mk (k := 10) clX0 (by decide) rfl q543 rfl, RX0, TX0, 39, rfl, rfl, rfl⟩
theorem ff_X0_55 : ∀ c ∈ [0], FLf RX0 55 c 11 (.array .int) := fun c hc => by
  simp only [List.mem_cons, List.not_mem_nil, or_false] at hc
  rcases hc with rfl
  · exact ⟨FL.mk (k := 11) clX0 (by decide) rfl q544 rfl, RX0, TX0, 39, rfl, rfl, rfl⟩
theorem ff_X0_58 : ∀ c ∈ [0], FLf RX0 58 c 12 (.array .int) := fun c hc => by
  simp only [List.mem_cons, List.not_mem_nil, or_false] at hc
  rcases hc with rfl
  · exact ⟨FL.mk (k := 12) clX0 (by decide) rfl q545 rfl, RX0, TX0, 39, rfl, rfl, rfl⟩
theorem ff_X0_61 : ∀ c ∈ [0], FLf RX0 61 c 13 (.array .int) := fun c hc => by
  simp only [List.mem_cons, List.not_mem_nil, or_false] at hc
  rcases hc with rfl
  · exact ⟨FL.mk (k := 13) clX0 (by decide) rfl q546 rfl, RX0, TX0, 39, rfl, rfl, rfl⟩
theorem ff_X0_64 : ∀ c ∈ [0], FLf RX0 64 c 14 (.array .int) := fun c hc => by
  simp only [List.mem_cons, List.not_mem_nil, or_false] at hc
  rcases hc with rfl
  · exact ⟨FL.mk (k := 14) clX0 (by decide) rfl q547 rfl, RX0, TX0, 39, rfl, rfl, rfl⟩
theorem ff_X0_67 : ∀ c ∈ [0], FLf RX0 67 c 15 (.array .int) := fun c hc => by
  simp only [List.mem_cons, List.not_mem_nil, or_false] at hc
  rcases hc with rfl
  · exact ⟨FL.mk (k := 15) clX0 (by decide) rfl q548 rfl, RX0, TX0, 39, rfl, rfl, rfl⟩
theorem ff_X0_70 : ∀ c ∈ [0], FLf RX0 70 c 16 (.array .int) := fun c hc => by
  simp only [List.mem_cons, List.not_mem_nil, or_false] at hc
  rcases hc with rfl
  · exact ⟨FL.mk (k := 16) clX0 (by decide) rfl q549 rfl, RX0, TX0, 39, rfl, rfl, rfl⟩
theorem ff_X0_73 : ∀ c ∈ [0], FLf RX0 73 c 17 (.array .int) := fun c hc => by
  simp only [List.mem_cons, List.not_mem_nil, or_false] at hc
  rcases hc with rfl
  · exact ⟨FL.mk (k := 17) clX0 (by decide) rfl q550 rfl, RX0, TX0, 39, rfl, rfl, rfl⟩
theorem ff_X0_76 : ∀ c ∈ [0], FLf RX0 76 c 18 (.array .int) := fun c hc => by
  simp only [List.mem_cons, List.not_mem_nil, or_false] at hc
  rcases hc with rfl
  · exact ⟨FL.mk (k := 18) clX0 (by decide) rfl q551 rfl, RX0, TX0, 39, rfl, rfl, rfl⟩
theorem ff_X0_85 : ∀ c ∈ [0], FLf RX0 85 c 23 (.object "FirstPolls$Desk") := fun c hc => by
  simp only [List.mem_cons, List.not_mem_nil, or_false] at hc
  rcases hc with rfl
  · exact ⟨FL.mk (k := 23) clX0 (by decide) rfl q556 rfl, RX0, TX0, 39, rfl, rfl, rfl⟩
theorem ff_X0_89 : ∀ c ∈ [0], FLf RX0 89 c 24 (.array .int) := fun c hc => by
  simp only [List.mem_cons, List.not_mem_nil, or_false] at hc
  rcases hc with rfl
  · exact ⟨FL.mk (k := 24) clX0 (by decide) rfl q557 rfl, RX0, TX0, 39, rfl, rfl, rfl⟩
theorem ff_X0_92 : ∀ c ∈ [0], FLf RX0 92 c 27 (.array .int) := fun c hc => by
  simp only [List.mem_cons, List.not_mem_nil, or_false] at hc
  rcases hc with rfl
  · exact ⟨FL.mk (k := 27) clX0 (by decide) rfl q560 rfl, RX0, TX0, 39, rfl, rfl, rfl⟩
theorem ff_X0_95 : ∀ c ∈ [0], FLf RX0 95 c 28 (.array .int) := fun c hc => by
  simp only [List.mem_cons, List.not_mem_nil, or_false] at hc
  rcases hc with rfl
  · exact ⟨FL.mk (k := 28) clX0 (by decide) rfl q561 rfl, RX0, TX0, 39, rfl, rfl, rfl⟩
theorem ff_X0_98 : ∀ c ∈ [0], FLf RX0 98 c 29 (.array .long) := fun c hc => by
  simp only [List.mem_cons, List.not_mem_nil, or_false] at hc
  rcases hc with rfl
  · exact ⟨FL.mk (k := 29) clX0 (by decide) rfl q562 rfl, RX0, TX0, 39, rfl, rfl, rfl⟩
theorem ff_X12_13 : ∀ c ∈ [14], FLf RX12 13 c 1 (.int) := fun c hc => by
  simp only [List.mem_cons, List.not_mem_nil, or_false] at hc
  rcases hc with rfl
  · exact ⟨FL.mk (k := 1) clX12 (by decide) rfl q997 rfl, RX12, TX12, 5, rfl, rfl, rfl⟩
theorem ff_X12_16 : ∀ c ∈ [14], FLf RX12 16 c 2 (.int) := fun c hc => by
  simp only [List.mem_cons, List.not_mem_nil, or_false] at hc
  rcases hc with rfl
  · exact ⟨FL.mk (k := 2) clX12 (by decide) rfl q1000 rfl, RX12, TX12, 5, rfl, rfl, rfl⟩
theorem ff_X12_19 : ∀ c ∈ [14], FLf RX12 19 c 3 (.int) := fun c hc => by
  simp only [List.mem_cons, List.not_mem_nil, or_false] at hc
  rcases hc with rfl
  · exact ⟨FL.mk (k := 3) clX12 (by decide) rfl q1003 rfl, RX12, TX12, 5, rfl, rfl, rfl⟩
theorem ff_X12_22 : ∀ c ∈ [14], FLf RX12 22 c 4 (.int) := fun c hc => by
  simp only [List.mem_cons, List.not_mem_nil, or_false] at hc
  rcases hc with rfl
  · exact ⟨FL.mk (k := 4) clX12 (by decide) rfl q1006 rfl, RX12, TX12, 5, rfl, rfl, rfl⟩
theorem ff_X12_7 : ∀ c ∈ [14], FLf RX12 7 c 0 (.int) := fun c hc => by
  simp only [List.mem_cons, List.not_mem_nil, or_false] at hc
  rcases hc with rfl
  · exact ⟨FL.mk (k := 0) clX12 (by decide) rfl q994 rfl, RX12, TX12, 5, rfl, rfl, rfl⟩
theorem ff_X13_14 : ∀ c ∈ [15], FLf RX13 14 c 2 (.object "java/util/ArrayList") := fun c hc => by
  simp only [List.mem_cons, List.not_mem_nil, or_false] at hc
  rcases hc with rfl
  · exact ⟨FL.mk (k := 2) clX13 (by decide) rfl q1046 rfl, RX13, TX13, 7, rfl, rfl, rfl⟩
theorem ff_X13_20 : ∀ c ∈ [15], FLf RX13 20 c 0 (.array .byte) := fun c hc => by
  simp only [List.mem_cons, List.not_mem_nil, or_false] at hc
  rcases hc with rfl
  · exact ⟨FL.mk (k := 0) clX13 (by decide) rfl q1044 rfl, RX13, TX13, 7, rfl, rfl, rfl⟩
theorem ff_X13_24 : ∀ c ∈ [15], FLf RX13 24 c 1 (.int) := fun c hc => by
  simp only [List.mem_cons, List.not_mem_nil, or_false] at hc
  rcases hc with rfl
  · exact ⟨FL.mk (k := 1) clX13 (by decide) rfl q1045 rfl, RX13, TX13, 7, rfl, rfl, rfl⟩
theorem ff_X14_7 : ∀ c ∈ [16], FLf RX14 7 c 6 (.int) := fun c hc => by
  simp only [List.mem_cons, List.not_mem_nil, or_false] at hc
  rcases hc with rfl
  · exact ⟨FL.mk (k := 6) clX14 (by decide) rfl q1097 rfl, RX14, TX14, 7, rfl, rfl, rfl⟩
theorem ff_X15_15 : ∀ c ∈ [17], FLf RX15 15 c 1 (.int) := fun c hc => by
  simp only [List.mem_cons, List.not_mem_nil, or_false] at hc
  rcases hc with rfl
  · exact ⟨FL.mk (k := 1) clX15 (by decide) rfl q1176 rfl, RX15, TX15, 5, rfl, rfl, rfl⟩
theorem ff_X15_18 : ∀ c ∈ [17], FLf RX15 18 c 2 (.int) := fun c hc => by
  simp only [List.mem_cons, List.not_mem_nil, or_false] at hc
  rcases hc with rfl
  · exact ⟨FL.mk (k := 2) clX15 (by decide) rfl q1179 rfl, RX15, TX15, 5, rfl, rfl, rfl⟩
theorem ff_X15_9 : ∀ c ∈ [17], FLf RX15 9 c 0 (.int) := fun c hc => by
  simp only [List.mem_cons, List.not_mem_nil, or_false] at hc
  rcases hc with rfl
  · exact ⟨FL.mk (k := 0) clX15 (by decide) rfl q1173 rfl, RX15, TX15, 5, rfl, rfl, rfl⟩
theorem ff_X17_7 : ∀ c ∈ [18], FLf RX17 7 c 0 (.int) := fun c hc => by
  simp only [List.mem_cons, List.not_mem_nil, or_false] at hc
  rcases hc with rfl
  · exact ⟨FL.mk (k := 0) clX17 (by decide) rfl q1240 rfl, RX17, TX17, 1, rfl, rfl, rfl⟩
theorem ff_X18_7 : ∀ c ∈ [19], FLf RX18 7 c 0 (.int) := fun c hc => by
  simp only [List.mem_cons, List.not_mem_nil, or_false] at hc
  rcases hc with rfl
  · exact ⟨FL.mk (k := 0) clX18 (by decide) rfl q1265 rfl, RX18, TX18, 1, rfl, rfl, rfl⟩
theorem ff_X19_15 : ∀ c ∈ [20], FLf RX19 15 c 1 (.object "FirstPolls$Sum") := fun c hc => by
  simp only [List.mem_cons, List.not_mem_nil, or_false] at hc
  rcases hc with rfl
  · exact ⟨FL.mk (k := 1) clX19 (by decide) rfl q1278 rfl, RX19, TX19, 3, rfl, rfl, rfl⟩
theorem ff_X19_19 : ∀ c ∈ [20], FLf RX19 19 c 2 (.object "FirstPolls$Sum") := fun c hc => by
  simp only [List.mem_cons, List.not_mem_nil, or_false] at hc
  rcases hc with rfl
  · exact ⟨FL.mk (k := 2) clX19 (by decide) rfl q1279 rfl, RX19, TX19, 3, rfl, rfl, rfl⟩
theorem ff_X19_9 : ∀ c ∈ [20], FLf RX19 9 c 0 (.char) := fun c hc => by
  simp only [List.mem_cons, List.not_mem_nil, or_false] at hc
  rcases hc with rfl
  · exact ⟨FL.mk (k := 0) clX19 (by decide) rfl q1277 rfl, RX19, TX19, 3, rfl, rfl, rfl⟩
theorem ff_X1_14 : ∀ c ∈ [1], FLf RX1 14 c 0 (.object "java/util/ArrayList") := fun c hc => by
  simp only [List.mem_cons, List.not_mem_nil, or_false] at hc
  rcases hc with rfl
  · exact ⟨FL.mk (k := 0) clX1 (by decide) rfl q218 rfl, RX1, TX1, 27, rfl, rfl, rfl⟩
theorem ff_X1_20 : ∀ c ∈ [1], FLf RX1 20 c 1 (.object "java/util/ArrayList") := fun c hc => by
  simp only [List.mem_cons, List.not_mem_nil, or_false] at hc
  rcases hc with rfl
  · exact ⟨FL.mk (k := 1) clX1 (by decide) rfl q221 rfl, RX1, TX1, 27, rfl, rfl, rfl⟩
theorem ff_X1_23 : ∀ c ∈ [1], FLf RX1 23 c 2 (.object "java/util/ArrayList") := fun c hc => by
  simp only [List.mem_cons, List.not_mem_nil, or_false] at hc
  rcases hc with rfl
  · exact ⟨FL.mk (k := 2) clX1 (by decide) rfl q224 rfl, RX1, TX1, 27, rfl, rfl, rfl⟩
theorem ff_X1_26 : ∀ c ∈ [1], FLf RX1 26 c 3 (.object "java/util/ArrayList") := fun c hc => by
  simp only [List.mem_cons, List.not_mem_nil, or_false] at hc
  rcases hc with rfl
  · exact ⟨FL.mk (k := 3) clX1 (by decide) rfl q226 rfl, RX1, TX1, 27, rfl, rfl, rfl⟩
theorem ff_X1_29 : ∀ c ∈ [1], FLf RX1 29 c 4 (.object "java/util/ArrayList") := fun c hc => by
  simp only [List.mem_cons, List.not_mem_nil, or_false] at hc
  rcases hc with rfl
  · exact ⟨FL.mk (k := 4) clX1 (by decide) rfl q228 rfl, RX1, TX1, 27, rfl, rfl, rfl⟩
theorem ff_X1_32 : ∀ c ∈ [1], FLf RX1 32 c 5 (.object "java/util/ArrayList") := fun c hc => by
  simp only [List.mem_cons, List.not_mem_nil, or_false] at hc
  rcases hc with rfl
  · exact ⟨FL.mk (k := 5) clX1 (by decide) rfl q231 rfl, RX1, TX1, 27, rfl, rfl, rfl⟩
theorem ff_X1_35 : ∀ c ∈ [1], FLf RX1 35 c 6 (.array .int) := fun c hc => by
  simp only [List.mem_cons, List.not_mem_nil, or_false] at hc
  rcases hc with rfl
  · exact ⟨FL.mk (k := 6) clX1 (by decide) rfl q234 rfl, RX1, TX1, 27, rfl, rfl, rfl⟩
theorem ff_X1_39 : ∀ c ∈ [1], FLf RX1 39 c 7 (.array .int) := fun c hc => by
  simp only [List.mem_cons, List.not_mem_nil, or_false] at hc
  rcases hc with rfl
  · exact ⟨FL.mk (k := 7) clX1 (by decide) rfl q237 rfl, RX1, TX1, 27, rfl, rfl, rfl⟩
theorem ff_X1_42 : ∀ c ∈ [1], FLf RX1 42 c 8 (.array .int) := fun c hc => by
  simp only [List.mem_cons, List.not_mem_nil, or_false] at hc
  rcases hc with rfl
  · exact ⟨FL.mk (k := 8) clX1 (by decide) rfl q239 rfl, RX1, TX1, 27, rfl, rfl, rfl⟩
theorem ff_X1_45 : ∀ c ∈ [1], FLf RX1 45 c 9 (.array .int) := fun c hc => by
  simp only [List.mem_cons, List.not_mem_nil, or_false] at hc
  rcases hc with rfl
  · exact ⟨FL.mk (k := 9) clX1 (by decide) rfl q241 rfl, RX1, TX1, 27, rfl, rfl, rfl⟩
theorem ff_X1_48 : ∀ c ∈ [1], FLf RX1 48 c 10 (.array .int) := fun c hc => by
  simp only [List.mem_cons, List.not_mem_nil, or_false] at hc
  rcases hc with rfl
  · exact ⟨FL.mk (k := 10) clX1 (by decide) rfl q244 rfl, RX1, TX1, 27, rfl, rfl, rfl⟩
theorem ff_X1_51 : ∀ c ∈ [1], FLf RX1 51 c 11 (.array .int) := fun c hc => by
  simp only [List.mem_cons, List.not_mem_nil, or_false] at hc
  rcases hc with rfl
  · exact ⟨FL.mk (k := 11) clX1 (by decide) rfl q247 rfl, RX1, TX1, 27, rfl, rfl, rfl⟩
theorem ff_X1_54 : ∀ c ∈ [1], FLf RX1 54 c 12 (.array .int) := fun c hc => by
  simp only [List.mem_cons, List.not_mem_nil, or_false] at hc
  rcases hc with rfl
  · exact ⟨FL.mk (k := 12) clX1 (by decide) rfl q249 rfl, RX1, TX1, 27, rfl, rfl, rfl⟩
theorem ff_X1_57 : ∀ c ∈ [1], FLf RX1 57 c 13 (.array .int) := fun c hc => by
  simp only [List.mem_cons, List.not_mem_nil, or_false] at hc
  rcases hc with rfl
  · exact ⟨FL.mk (k := 13) clX1 (by decide) rfl q251 rfl, RX1, TX1, 27, rfl, rfl, rfl⟩
theorem ff_X1_60 : ∀ c ∈ [1], FLf RX1 60 c 14 (.array .int) := fun c hc => by
  simp only [List.mem_cons, List.not_mem_nil, or_false] at hc
  rcases hc with rfl
  · exact ⟨FL.mk (k := 14) clX1 (by decide) rfl q253 rfl, RX1, TX1, 27, rfl, rfl, rfl⟩
theorem ff_X1_63 : ∀ c ∈ [1], FLf RX1 63 c 15 (.array .int) := fun c hc => by
  simp only [List.mem_cons, List.not_mem_nil, or_false] at hc
  rcases hc with rfl
  · exact ⟨FL.mk (k := 15) clX1 (by decide) rfl q256 rfl, RX1, TX1, 27, rfl, rfl, rfl⟩
theorem ff_X1_66 : ∀ c ∈ [1], FLf RX1 66 c 16 (.array .int) := fun c hc => by
  simp only [List.mem_cons, List.not_mem_nil, or_false] at hc
  rcases hc with rfl
  · exact ⟨FL.mk (k := 16) clX1 (by decide) rfl q259 rfl, RX1, TX1, 27, rfl, rfl, rfl⟩
theorem ff_X1_69 : ∀ c ∈ [1], FLf RX1 69 c 17 (.array .int) := fun c hc => by
  simp only [List.mem_cons, List.not_mem_nil, or_false] at hc
  rcases hc with rfl
  · exact ⟨FL.mk (k := 17) clX1 (by decide) rfl q261 rfl, RX1, TX1, 27, rfl, rfl, rfl⟩
theorem ff_X1_72 : ∀ c ∈ [1], FLf RX1 72 c 18 (.array .int) := fun c hc => by
  simp only [List.mem_cons, List.not_mem_nil, or_false] at hc
  rcases hc with rfl
  · exact ⟨FL.mk (k := 18) clX1 (by decide) rfl q264 rfl, RX1, TX1, 27, rfl, rfl, rfl⟩
theorem ff_X1_75 : ∀ c ∈ [1], FLf RX1 75 c 19 (.array .long) := fun c hc => by
  simp only [List.mem_cons, List.not_mem_nil, or_false] at hc
  rcases hc with rfl
  · exact ⟨FL.mk (k := 19) clX1 (by decide) rfl q266 rfl, RX1, TX1, 27, rfl, rfl, rfl⟩
theorem ff_X1_79 : ∀ c ∈ [1], FLf RX1 79 c 20 (.array .long) := fun c hc => by
  simp only [List.mem_cons, List.not_mem_nil, or_false] at hc
  rcases hc with rfl
  · exact ⟨FL.mk (k := 20) clX1 (by decide) rfl q268 rfl, RX1, TX1, 27, rfl, rfl, rfl⟩
theorem ff_X1_82 : ∀ c ∈ [1], FLf RX1 82 c 21 (.array .boolean) := fun c hc => by
  simp only [List.mem_cons, List.not_mem_nil, or_false] at hc
  rcases hc with rfl
  · exact ⟨FL.mk (k := 21) clX1 (by decide) rfl q270 rfl, RX1, TX1, 27, rfl, rfl, rfl⟩
theorem ff_X21_7 : ∀ c ∈ [21], FLf RX21 7 c 0 (.int) := fun c hc => by
  simp only [List.mem_cons, List.not_mem_nil, or_false] at hc
  rcases hc with rfl
  · exact ⟨FL.mk (k := 0) clX21 (by decide) rfl q1327 rfl, RX21, TX21, 1, rfl, rfl, rfl⟩
theorem ff_X22_13 : ∀ c ∈ [22], FLf RX22 13 c 1 (.object "FirstPolls$Sum") := fun c hc => by
  simp only [List.mem_cons, List.not_mem_nil, or_false] at hc
  rcases hc with rfl
  · exact ⟨FL.mk (k := 1) clX22 (by decide) rfl q1341 rfl, RX22, TX22, 3, rfl, rfl, rfl⟩
theorem ff_X22_17 : ∀ c ∈ [22], FLf RX22 17 c 2 (.object "FirstPolls$Sum") := fun c hc => by
  simp only [List.mem_cons, List.not_mem_nil, or_false] at hc
  rcases hc with rfl
  · exact ⟨FL.mk (k := 2) clX22 (by decide) rfl q1342 rfl, RX22, TX22, 3, rfl, rfl, rfl⟩
theorem ff_X22_7 : ∀ c ∈ [22], FLf RX22 7 c 0 (.char) := fun c hc => by
  simp only [List.mem_cons, List.not_mem_nil, or_false] at hc
  rcases hc with rfl
  · exact ⟨FL.mk (k := 0) clX22 (by decide) rfl q1340 rfl, RX22, TX22, 3, rfl, rfl, rfl⟩
theorem ff_X23_7 : ∀ c ∈ [23], FLf RX23 7 c 0 (.object "FirstPolls$Test") := fun c hc => by
  simp only [List.mem_cons, List.not_mem_nil, or_false] at hc
  rcases hc with rfl
  · exact ⟨FL.mk (k := 0) clX23 (by decide) rfl q1356 rfl, RX23, TX23, 1, rfl, rfl, rfl⟩
theorem ff_X24_12 : ∀ c ∈ [24], FLf RX24 12 c 1 (.object "java/util/ArrayList") := fun c hc => by
  simp only [List.mem_cons, List.not_mem_nil, or_false] at hc
  rcases hc with rfl
  · exact ⟨FL.mk (k := 1) clX24 (by decide) rfl q1370 rfl, RX24, TX24, 2, rfl, rfl, rfl⟩
theorem ff_X24_18 : ∀ c ∈ [24], FLf RX24 18 c 0 (.boolean) := fun c hc => by
  simp only [List.mem_cons, List.not_mem_nil, or_false] at hc
  rcases hc with rfl
  · exact ⟨FL.mk (k := 0) clX24 (by decide) rfl q1369 rfl, RX24, TX24, 2, rfl, rfl, rfl⟩
theorem ff_X25_13 : ∀ c ∈ [25], FLf RX25 13 c 1 (.int) := fun c hc => by
  simp only [List.mem_cons, List.not_mem_nil, or_false] at hc
  rcases hc with rfl
  · exact ⟨FL.mk (k := 1) clX25 (by decide) rfl q1387 rfl, RX25, TX25, 3, rfl, rfl, rfl⟩
theorem ff_X25_16 : ∀ c ∈ [25], FLf RX25 16 c 2 (.object "java/util/ArrayList") := fun c hc => by
  simp only [List.mem_cons, List.not_mem_nil, or_false] at hc
  rcases hc with rfl
  · exact ⟨FL.mk (k := 2) clX25 (by decide) rfl q1389 rfl, RX25, TX25, 3, rfl, rfl, rfl⟩
theorem ff_X25_7 : ∀ c ∈ [25], FLf RX25 7 c 0 (.int) := fun c hc => by
  simp only [List.mem_cons, List.not_mem_nil, or_false] at hc
  rcases hc with rfl
  · exact ⟨FL.mk (k := 0) clX25 (by decide) rfl q1385 rfl, RX25, TX25, 3, rfl, rfl, rfl⟩
theorem ff_X2_15 : ∀ c ∈ [3], FLf RX2 15 c 0 (.array .boolean) := fun c hc => by
  simp only [List.mem_cons, List.not_mem_nil, or_false] at hc
  rcases hc with rfl
  · exact ⟨FL.mk (k := 0) clX2 (by decide) rfl q349 rfl, RX2, TX2, 5, rfl, rfl, rfl⟩
theorem ff_X2_19 : ∀ c ∈ [3], FLf RX2 19 c 1 (.array .boolean) := fun c hc => by
  simp only [List.mem_cons, List.not_mem_nil, or_false] at hc
  rcases hc with rfl
  · exact ⟨FL.mk (k := 1) clX2 (by decide) rfl q351 rfl, RX2, TX2, 5, rfl, rfl, rfl⟩
theorem ff_X2_3 : ∀ c ∈ [3], FLf RX2 3 c 4 (.object "FirstPolls") := fun c hc => by
  simp only [List.mem_cons, List.not_mem_nil, or_false] at hc
  rcases hc with rfl
  · exact ⟨FL.mk (k := 4) clX2 (by decide) rfl q354 rfl, RX2, TX2, 5, rfl, rfl, rfl⟩
theorem ff_X3_10 : ∀ c ∈ [4], FLf RX3 10 c 0 (.object "FirstPolls$Broken") := fun c hc => by
  simp only [List.mem_cons, List.not_mem_nil, or_false] at hc
  rcases hc with rfl
  · exact ⟨FL.mk (k := 0) clX3 (by decide) rfl q434 rfl, RX3, TX3, 3, rfl, rfl, rfl⟩
theorem ff_X3_16 : ∀ c ∈ [4], FLf RX3 16 c 1 (.array .long) := fun c hc => by
  simp only [List.mem_cons, List.not_mem_nil, or_false] at hc
  rcases hc with rfl
  · exact ⟨FL.mk (k := 1) clX3 (by decide) rfl q436 rfl, RX3, TX3, 3, rfl, rfl, rfl⟩
theorem ff_X3_20 : ∀ c ∈ [4], FLf RX3 20 c 2 (.array .boolean) := fun c hc => by
  simp only [List.mem_cons, List.not_mem_nil, or_false] at hc
  rcases hc with rfl
  · exact ⟨FL.mk (k := 2) clX3 (by decide) rfl q441 rfl, RX3, TX3, 3, rfl, rfl, rfl⟩
theorem ff_X5_15 : ∀ c ∈ [6], FLf RX5 15 c 0 (.array .boolean) := fun c hc => by
  simp only [List.mem_cons, List.not_mem_nil, or_false] at hc
  rcases hc with rfl
  · exact ⟨FL.mk (k := 0) clX5 (by decide) rfl q458 rfl, RX5, TX5, 7, rfl, rfl, rfl⟩
theorem ff_X5_19 : ∀ c ∈ [6], FLf RX5 19 c 1 (.array .int) := fun c hc => by
  simp only [List.mem_cons, List.not_mem_nil, or_false] at hc
  rcases hc with rfl
  · exact ⟨FL.mk (k := 1) clX5 (by decide) rfl q460 rfl, RX5, TX5, 7, rfl, rfl, rfl⟩
theorem ff_X5_23 : ∀ c ∈ [6], FLf RX5 23 c 2 (.array .int) := fun c hc => by
  simp only [List.mem_cons, List.not_mem_nil, or_false] at hc
  rcases hc with rfl
  · exact ⟨FL.mk (k := 2) clX5 (by decide) rfl q462 rfl, RX5, TX5, 7, rfl, rfl, rfl⟩
theorem ff_X5_3 : ∀ c ∈ [6], FLf RX5 3 c 6 (.object "FirstPolls") := fun c hc => by
  simp only [List.mem_cons, List.not_mem_nil, or_false] at hc
  rcases hc with rfl
  · exact ⟨FL.mk (k := 6) clX5 (by decide) rfl q467 rfl, RX5, TX5, 7, rfl, rfl, rfl⟩
theorem ff_X6_15 : ∀ c ∈ [7], FLf RX6 15 c 0 (.array .int) := fun c hc => by
  simp only [List.mem_cons, List.not_mem_nil, or_false] at hc
  rcases hc with rfl
  · exact ⟨FL.mk (k := 0) clX6 (by decide) rfl q489 rfl, RX6, TX6, 10, rfl, rfl, rfl⟩
theorem ff_X6_19 : ∀ c ∈ [7], FLf RX6 19 c 1 (.array .int) := fun c hc => by
  simp only [List.mem_cons, List.not_mem_nil, or_false] at hc
  rcases hc with rfl
  · exact ⟨FL.mk (k := 1) clX6 (by decide) rfl q491 rfl, RX6, TX6, 10, rfl, rfl, rfl⟩
theorem ff_X6_22 : ∀ c ∈ [7], FLf RX6 22 c 2 (.array .int) := fun c hc => by
  simp only [List.mem_cons, List.not_mem_nil, or_false] at hc
  rcases hc with rfl
  · exact ⟨FL.mk (k := 2) clX6 (by decide) rfl q493 rfl, RX6, TX6, 10, rfl, rfl, rfl⟩
theorem ff_X6_25 : ∀ c ∈ [7], FLf RX6 25 c 3 (.array .boolean) := fun c hc => by
  simp only [List.mem_cons, List.not_mem_nil, or_false] at hc
  rcases hc with rfl
  · exact ⟨FL.mk (k := 3) clX6 (by decide) rfl q495 rfl, RX6, TX6, 10, rfl, rfl, rfl⟩
theorem ff_X6_29 : ∀ c ∈ [7], FLf RX6 29 c 4 (.array .boolean) := fun c hc => by
  simp only [List.mem_cons, List.not_mem_nil, or_false] at hc
  rcases hc with rfl
  · exact ⟨FL.mk (k := 4) clX6 (by decide) rfl q497 rfl, RX6, TX6, 10, rfl, rfl, rfl⟩
theorem ff_X6_3 : ∀ c ∈ [7], FLf RX6 3 c 9 (.object "FirstPolls") := fun c hc => by
  simp only [List.mem_cons, List.not_mem_nil, or_false] at hc
  rcases hc with rfl
  · exact ⟨FL.mk (k := 9) clX6 (by decide) rfl q502 rfl, RX6, TX6, 10, rfl, rfl, rfl⟩
theorem ff_X6_32 : ∀ c ∈ [7], FLf RX6 32 c 5 (.array .boolean) := fun c hc => by
  simp only [List.mem_cons, List.not_mem_nil, or_false] at hc
  rcases hc with rfl
  · exact ⟨FL.mk (k := 5) clX6 (by decide) rfl q498 rfl, RX6, TX6, 10, rfl, rfl, rfl⟩
theorem ff_X7_101 : ∀ c ∈ [8], FLf RX7 101 c 55 (.array .int) := fun c hc => by
  simp only [List.mem_cons, List.not_mem_nil, or_false] at hc
  rcases hc with rfl
  · exact ⟨FL.mk (k := 55) clX7 (by decide) rfl q1825 rfl, RX7, TX7, 62, rfl, rfl, rfl⟩
theorem ff_X7_104 : ∀ c ∈ [8], FLf RX7 104 c 56 (.array .int) := fun c hc => by
  simp only [List.mem_cons, List.not_mem_nil, or_false] at hc
  rcases hc with rfl
  · exact ⟨FL.mk (k := 56) clX7 (by decide) rfl q1826 rfl, RX7, TX7, 62, rfl, rfl, rfl⟩
theorem ff_X7_107 : ∀ c ∈ [8], FLf RX7 107 c 57 (.array .int) := fun c hc => by
  simp only [List.mem_cons, List.not_mem_nil, or_false] at hc
  rcases hc with rfl
  · exact ⟨FL.mk (k := 57) clX7 (by decide) rfl q1827 rfl, RX7, TX7, 62, rfl, rfl, rfl⟩
theorem ff_X7_110 : ∀ c ∈ [8], FLf RX7 110 c 58 (.array .int) := fun c hc => by
  simp only [List.mem_cons, List.not_mem_nil, or_false] at hc
  rcases hc with rfl
  · exact ⟨FL.mk (k := 58) clX7 (by decide) rfl q1828 rfl, RX7, TX7, 62, rfl, rfl, rfl⟩
theorem ff_X7_14 : ∀ c ∈ [8], FLf RX7 14 c 3 (.array .int) := fun c hc => by
  simp only [List.mem_cons, List.not_mem_nil, or_false] at hc
  rcases hc with rfl
  · exact ⟨FL.mk (k := 3) clX7 (by decide) rfl q1773 rfl, RX7, TX7, 62, rfl, rfl, rfl⟩
theorem ff_X7_17 : ∀ c ∈ [8], FLf RX7 17 c 4 (.array .boolean) := fun c hc => by
  simp only [List.mem_cons, List.not_mem_nil, or_false] at hc
  rcases hc with rfl
  · exact ⟨FL.mk (k := 4) clX7 (by decide) rfl q1774 rfl, RX7, TX7, 62, rfl, rfl, rfl⟩
theorem ff_X7_21 : ∀ c ∈ [8], FLf RX7 21 c 7 (.array .boolean) := fun c hc => by
  simp only [List.mem_cons, List.not_mem_nil, or_false] at hc
  rcases hc with rfl
  · exact ⟨FL.mk (k := 7) clX7 (by decide) rfl q1777 rfl, RX7, TX7, 62, rfl, rfl, rfl⟩
theorem ff_X7_24 : ∀ c ∈ [8], FLf RX7 24 c 8 (.array .int) := fun c hc => by
  simp only [List.mem_cons, List.not_mem_nil, or_false] at hc
  rcases hc with rfl
  · exact ⟨FL.mk (k := 8) clX7 (by decide) rfl q1778 rfl, RX7, TX7, 62, rfl, rfl, rfl⟩
theorem ff_X7_27 : ∀ c ∈ [8], FLf RX7 27 c 9 (.array .int) := fun c hc => by
  simp only [List.mem_cons, List.not_mem_nil, or_false] at hc
  rcases hc with rfl
  · exact ⟨FL.mk (k := 9) clX7 (by decide) rfl q1779 rfl, RX7, TX7, 62, rfl, rfl, rfl⟩
theorem ff_X7_34 : ∀ c ∈ [8], FLf RX7 34 c 18 (.array .int) := fun c hc => by
  simp only [List.mem_cons, List.not_mem_nil, or_false] at hc
  rcases hc with rfl
  · exact ⟨FL.mk (k := 18) clX7 (by decide) rfl q1788 rfl, RX7, TX7, 62, rfl, rfl, rfl⟩
theorem ff_X7_37 : ∀ c ∈ [8], FLf RX7 37 c 20 (.array .int) := fun c hc => by
  simp only [List.mem_cons, List.not_mem_nil, or_false] at hc
  rcases hc with rfl
  · exact ⟨FL.mk (k := 20) clX7 (by decide) rfl q1790 rfl, RX7, TX7, 62, rfl, rfl, rfl⟩
theorem ff_X7_40 : ∀ c ∈ [8], FLf RX7 40 c 21 (.array .int) := fun c hc => by
  simp only [List.mem_cons, List.not_mem_nil, or_false] at hc
  rcases hc with rfl
  · exact ⟨FL.mk (k := 21) clX7 (by decide) rfl q1791 rfl, RX7, TX7, 62, rfl, rfl, rfl⟩
theorem ff_X7_43 : ∀ c ∈ [8], FLf RX7 43 c 23 (.array .int) := fun c hc => by
  simp only [List.mem_cons, List.not_mem_nil, or_false] at hc
  rcases hc with rfl
  · exact ⟨FL.mk (k := 23) clX7 (by decide) rfl q1793 rfl, RX7, TX7, 62, rfl, rfl, rfl⟩
theorem ff_X7_46 : ∀ c ∈ [8], FLf RX7 46 c 24 (.array .int) := fun c hc => by
  simp only [List.mem_cons, List.not_mem_nil, or_false] at hc
  rcases hc with rfl
  · exact ⟨FL.mk (k := 24) clX7 (by decide) rfl q1794 rfl, RX7, TX7, 62, rfl, rfl, rfl⟩
theorem ff_X7_49 : ∀ c ∈ [8], FLf RX7 49 c 27 (.array .boolean) := fun c hc => by
  simp only [List.mem_cons, List.not_mem_nil, or_false] at hc
  rcases hc with rfl
  · exact ⟨FL.mk (k := 27) clX7 (by decide) rfl q1797 rfl, RX7, TX7, 62, rfl, rfl, rfl⟩
theorem ff_X7_52 : ∀ c ∈ [8], FLf RX7 52 c 28 (.array .boolean) := fun c hc => by
  simp only [List.mem_cons, List.not_mem_nil, or_false] at hc
  rcases hc with rfl
  · exact ⟨FL.mk (k := 28) clX7 (by decide) rfl q1798 rfl, RX7, TX7, 62, rfl, rfl, rfl⟩
theorem ff_X7_55 : ∀ c ∈ [8], FLf RX7 55 c 29 (.array .long) := fun c hc => by
  simp only [List.mem_cons, List.not_mem_nil, or_false] at hc
  rcases hc with rfl
  · exact ⟨FL.mk (k := 29) clX7 (by decide) rfl q1799 rfl, RX7, TX7, 62, rfl, rfl, rfl⟩
theorem ff_X7_59 : ∀ c ∈ [8], FLf RX7 59 c 30 (.array .long) := fun c hc => by
  simp only [List.mem_cons, List.not_mem_nil, or_false] at hc
  rcases hc with rfl
  · exact ⟨FL.mk (k := 30) clX7 (by decide) rfl q1800 rfl, RX7, TX7, 62, rfl, rfl, rfl⟩
theorem ff_X7_62 : ∀ c ∈ [8], FLf RX7 62 c 35 (.array .int) := fun c hc => by
  simp only [List.mem_cons, List.not_mem_nil, or_false] at hc
  rcases hc with rfl
  · exact ⟨FL.mk (k := 35) clX7 (by decide) rfl q1805 rfl, RX7, TX7, 62, rfl, rfl, rfl⟩
theorem ff_X7_65 : ∀ c ∈ [8], FLf RX7 65 c 36 (.array .int) := fun c hc => by
  simp only [List.mem_cons, List.not_mem_nil, or_false] at hc
  rcases hc with rfl
  · exact ⟨FL.mk (k := 36) clX7 (by decide) rfl q1806 rfl, RX7, TX7, 62, rfl, rfl, rfl⟩
theorem ff_X7_68 : ∀ c ∈ [8], FLf RX7 68 c 37 (.array .int) := fun c hc => by
  simp only [List.mem_cons, List.not_mem_nil, or_false] at hc
  rcases hc with rfl
  · exact ⟨FL.mk (k := 37) clX7 (by decide) rfl q1807 rfl, RX7, TX7, 62, rfl, rfl, rfl⟩
theorem ff_X7_7 : ∀ c ∈ [8], FLf RX7 7 c 2 (.array .int) := fun c hc => by
  simp only [List.mem_cons, List.not_mem_nil, or_false] at hc
  rcases hc with rfl
  · exact ⟨FL.mk (k := 2) clX7 (by decide) rfl q1772 rfl, RX7, TX7, 62, rfl, rfl, rfl⟩
theorem ff_X7_71 : ∀ c ∈ [8], FLf RX7 71 c 38 (.array .int) := fun c hc => by
  simp only [List.mem_cons, List.not_mem_nil, or_false] at hc
  rcases hc with rfl
  · exact ⟨FL.mk (k := 38) clX7 (by decide) rfl q1808 rfl, RX7, TX7, 62, rfl, rfl, rfl⟩
theorem ff_X7_74 : ∀ c ∈ [8], FLf RX7 74 c 39 (.array .int) := fun c hc => by
  simp only [List.mem_cons, List.not_mem_nil, or_false] at hc
  rcases hc with rfl
  · exact ⟨FL.mk (k := 39) clX7 (by decide) rfl q1809 rfl, RX7, TX7, 62, rfl, rfl, rfl⟩
theorem ff_X7_77 : ∀ c ∈ [8], FLf RX7 77 c 40 (.array .int) := fun c hc => by
  simp only [List.mem_cons, List.not_mem_nil, or_false] at hc
  rcases hc with rfl
  · exact ⟨FL.mk (k := 40) clX7 (by decide) rfl q1810 rfl, RX7, TX7, 62, rfl, rfl, rfl⟩
theorem ff_X7_80 : ∀ c ∈ [8], FLf RX7 80 c 41 (.array .int) := fun c hc => by
  simp only [List.mem_cons, List.not_mem_nil, or_false] at hc
  rcases hc with rfl
  · exact ⟨FL.mk (k := 41) clX7 (by decide) rfl q1811 rfl, RX7, TX7, 62, rfl, rfl, rfl⟩
theorem ff_X7_83 : ∀ c ∈ [8], FLf RX7 83 c 42 (.array .int) := fun c hc => by
  simp only [List.mem_cons, List.not_mem_nil, or_false] at hc
  rcases hc with rfl
  · exact ⟨FL.mk (k := 42) clX7 (by decide) rfl q1812 rfl, RX7, TX7, 62, rfl, rfl, rfl⟩
theorem ff_X7_86 : ∀ c ∈ [8], FLf RX7 86 c 46 (.array .int) := fun c hc => by
  simp only [List.mem_cons, List.not_mem_nil, or_false] at hc
  rcases hc with rfl
  · exact ⟨FL.mk (k := 46) clX7 (by decide) rfl q1816 rfl, RX7, TX7, 62, rfl, rfl, rfl⟩
theorem ff_X7_89 : ∀ c ∈ [8], FLf RX7 89 c 47 (.array .boolean) := fun c hc => by
  simp only [List.mem_cons, List.not_mem_nil, or_false] at hc
  rcases hc with rfl
  · exact ⟨FL.mk (k := 47) clX7 (by decide) rfl q1817 rfl, RX7, TX7, 62, rfl, rfl, rfl⟩
theorem ff_X7_92 : ∀ c ∈ [8], FLf RX7 92 c 48 (.array .int) := fun c hc => by
  simp only [List.mem_cons, List.not_mem_nil, or_false] at hc
  rcases hc with rfl
  · exact ⟨FL.mk (k := 48) clX7 (by decide) rfl q1818 rfl, RX7, TX7, 62, rfl, rfl, rfl⟩
theorem ff_X7_95 : ∀ c ∈ [8], FLf RX7 95 c 49 (.array .int) := fun c hc => by
  simp only [List.mem_cons, List.not_mem_nil, or_false] at hc
  rcases hc with rfl
  · exact ⟨FL.mk (k := 49) clX7 (by decide) rfl q1819 rfl, RX7, TX7, 62, rfl, rfl, rfl⟩
theorem ff_X7_98 : ∀ c ∈ [8], FLf RX7 98 c 52 (.array .int) := fun c hc => by
  simp only [List.mem_cons, List.not_mem_nil, or_false] at hc
  rcases hc with rfl
  · exact ⟨FL.mk (k := 52) clX7 (by decide) rfl q1822 rfl, RX7, TX7, 62, rfl, rfl, rfl⟩
theorem ff_X8_13 : ∀ c ∈ [9, 10, 11, 12], FLf RX8 13 c 1 (.int) := fun c hc => by
  simp only [List.mem_cons, List.not_mem_nil, or_false] at hc
  rcases hc with rfl | rfl | rfl | rfl
  · exact ⟨FL.mk (k := 1) clX8 (by decide) rfl q802 rfl, RX8, TX8, 5, rfl, rfl, rfl⟩
  · exact ⟨FL.mk (k := 1) clX9 (by decide) rfl q802 rfl, RX9, TX9, 5, rfl, rfl, rfl⟩
  · exact ⟨FL.mk (k := 1) clX10 (by decide) rfl q802 rfl, RX10, TX10, 5, rfl, rfl, rfl⟩
  · exact ⟨FL.mk (k := 1) clX11 (by decide) rfl q802 rfl, RX11, TX11, 5, rfl, rfl, rfl⟩
theorem ff_X8_16 : ∀ c ∈ [9, 10, 11, 12], FLf RX8 16 c 2 (.int) := fun c hc => by
  simp only [List.mem_cons, List.not_mem_nil, or_false] at hc
  rcases hc with rfl | rfl | rfl | rfl
  · exact ⟨FL.mk (k := 2) clX8 (by decide) rfl q805 rfl, RX8, TX8, 5, rfl, rfl, rfl⟩
  · exact ⟨FL.mk (k := 2) clX9 (by decide) rfl q805 rfl, RX9, TX9, 5, rfl, rfl, rfl⟩
  · exact ⟨FL.mk (k := 2) clX10 (by decide) rfl q805 rfl, RX10, TX10, 5, rfl, rfl, rfl⟩
  · exact ⟨FL.mk (k := 2) clX11 (by decide) rfl q805 rfl, RX11, TX11, 5, rfl, rfl, rfl⟩
theorem ff_X8_19 : ∀ c ∈ [9, 10, 11, 12], FLf RX8 19 c 3 (.int) := fun c hc => by
  simp only [List.mem_cons, List.not_mem_nil, or_false] at hc
  rcases hc with rfl | rfl | rfl | rfl
  · exact ⟨FL.mk (k := 3) clX8 (by decide) rfl q808 rfl, RX8, TX8, 5, rfl, rfl, rfl⟩
  · exact ⟨FL.mk (k := 3) clX9 (by decide) rfl q808 rfl, RX9, TX9, 5, rfl, rfl, rfl⟩
  · exact ⟨FL.mk (k := 3) clX10 (by decide) rfl q808 rfl, RX10, TX10, 5, rfl, rfl, rfl⟩
  · exact ⟨FL.mk (k := 3) clX11 (by decide) rfl q808 rfl, RX11, TX11, 5, rfl, rfl, rfl⟩
theorem ff_X8_22 : ∀ c ∈ [9, 10, 11, 12], FLf RX8 22 c 4 (.int) := fun c hc => by
  simp only [List.mem_cons, List.not_mem_nil, or_false] at hc
  rcases hc with rfl | rfl | rfl | rfl
  · exact ⟨FL.mk (k := 4) clX8 (by decide) rfl q810 rfl, RX8, TX8, 5, rfl, rfl, rfl⟩
  · exact ⟨FL.mk (k := 4) clX9 (by decide) rfl q810 rfl, RX9, TX9, 5, rfl, rfl, rfl⟩
  · exact ⟨FL.mk (k := 4) clX10 (by decide) rfl q810 rfl, RX10, TX10, 5, rfl, rfl, rfl⟩
  · exact ⟨FL.mk (k := 4) clX11 (by decide) rfl q810 rfl, RX11, TX11, 5, rfl, rfl, rfl⟩
theorem ff_X8_7 : ∀ c ∈ [9, 10, 11, 12], FLf RX8 7 c 0 (.int) := fun c hc => by
  simp only [List.mem_cons, List.not_mem_nil, or_false] at hc
  rcases hc with rfl | rfl | rfl | rfl
  · exact ⟨FL.mk (k := 0) clX8 (by decide) rfl q800 rfl, RX8, TX8, 5, rfl, rfl, rfl⟩
  · exact ⟨FL.mk (k := 0) clX9 (by decide) rfl q800 rfl, RX9, TX9, 5, rfl, rfl, rfl⟩
  · exact ⟨FL.mk (k := 0) clX10 (by decide) rfl q800 rfl, RX10, TX10, 5, rfl, rfl, rfl⟩
  · exact ⟨FL.mk (k := 0) clX11 (by decide) rfl q800 rfl, RX11, TX11, 5, rfl, rfl, rfl⟩
theorem fs_J11_15 : FL RJ11 15 26 1 (.byte) := FL.mk (k := 1) clJ11 (by decide) rfl q2574 rfl
theorem fs_J11_9 : FL RJ11 9 26 0 (.array .byte) := FL.mk (k := 0) clJ11 (by decide) rfl q2573 rfl
theorem fw_J1_7 : ∀ c ∈ [2], FW RJ1 7 c 0 (.int) := fun c hc => by
  simp only [List.mem_cons, List.not_mem_nil, or_false] at hc
  rcases hc with rfl
  · exact Or.inl ⟨FL.mk (k := 0) clJ2 (by decide) rfl q208 rfl, RJ2, TJ2, 3, rfl, rfl⟩
theorem fw_J2_48 : ∀ c ∈ [2], FW RJ2 48 c 2 (.int) := fun c hc => by
  simp only [List.mem_cons, List.not_mem_nil, or_false] at hc
  rcases hc with rfl
  · exact Or.inl ⟨FL.mk (k := 2) clJ2 (by decide) rfl q207 rfl, RJ2, TJ2, 3, rfl, rfl⟩
theorem fw_J2_63 : ∀ c ∈ [2], FW RJ2 63 c 0 (.int) := fun c hc => by
  simp only [List.mem_cons, List.not_mem_nil, or_false] at hc
  rcases hc with rfl
  · exact Or.inl ⟨FL.mkS (k := 0) clJ2 (by decide) rfl q209 q210, RJ2, TJ2, 3, rfl, rfl⟩
theorem fw_J2_9 : ∀ c ∈ [2], FW RJ2 9 c 1 (.array (.object "java/lang/Object")) := fun c hc => by
  simp only [List.mem_cons, List.not_mem_nil, or_false] at hc
  rcases hc with rfl
  · exact Or.inl ⟨FL.mk (k := 1) clJ2 (by decide) rfl q206 rfl, RJ2, TJ2, 3, rfl, rfl⟩
theorem fw_J3_17 : ∀ c ∈ [5, 16], FW RJ3 17 c 1 (.array (.object "java/lang/StackTraceElement")) := fun c hc => by
  simp only [List.mem_cons, List.not_mem_nil, or_false] at hc
  rcases hc with rfl | rfl
  · exact Or.inl ⟨FL.mk (k := 1) clX4 (by decide) rfl q424 rfl, RX4, TX4, 6, rfl, rfl⟩
  · exact Or.inl ⟨FL.mk (k := 1) clX14 (by decide) rfl q424 rfl, RX14, TX14, 7, rfl, rfl⟩
theorem fw_J3_24 : ∀ c ∈ [5, 16], FW RJ3 24 c 2 (.object "java/util/List") := fun c hc => by
  simp only [List.mem_cons, List.not_mem_nil, or_false] at hc
  rcases hc with rfl | rfl
  · exact Or.inl ⟨FL.mk (k := 2) clX4 (by decide) rfl q425 rfl, RX4, TX4, 6, rfl, rfl⟩
  · exact Or.inl ⟨FL.mk (k := 2) clX14 (by decide) rfl q425 rfl, RX14, TX14, 7, rfl, rfl⟩
theorem fw_J3_31 : ∀ c ∈ [5, 16], FW RJ3 31 c 3 (.object "java/lang/String") := fun c hc => by
  simp only [List.mem_cons, List.not_mem_nil, or_false] at hc
  rcases hc with rfl | rfl
  · exact Or.inl ⟨FL.mk (k := 3) clX4 (by decide) rfl q422 rfl, RX4, TX4, 6, rfl, rfl⟩
  · exact Or.inl ⟨FL.mk (k := 3) clX14 (by decide) rfl q422 rfl, RX14, TX14, 7, rfl, rfl⟩
theorem fw_J3_7 : ∀ c ∈ [5, 16], FW RJ3 7 c 0 (.object "java/lang/Throwable") := fun c hc => by
  simp only [List.mem_cons, List.not_mem_nil, or_false] at hc
  rcases hc with rfl | rfl
  · exact Or.inl ⟨FL.mk (k := 0) clX4 (by decide) rfl q423 rfl, RX4, TX4, 6, rfl, rfl⟩
  · exact Or.inl ⟨FL.mk (k := 0) clX14 (by decide) rfl q423 rfl, RX14, TX14, 7, rfl, rfl⟩
theorem fw_X0_114 : ∀ c ∈ [0], FW RX0 114 c 34 (.int) := fun c hc => by
  simp only [List.mem_cons, List.not_mem_nil, or_false] at hc
  rcases hc with rfl
  · exact Or.inl ⟨FL.mk (k := 34) clX0 (by decide) rfl q567 rfl, RX0, TX0, 39, rfl, rfl⟩
theorem fw_X0_117 : ∀ c ∈ [0], FW RX0 117 c 0 (.int) := fun c hc => by
  simp only [List.mem_cons, List.not_mem_nil, or_false] at hc
  rcases hc with rfl
  · exact Or.inl ⟨FL.mk (k := 0) clX0 (by decide) rfl q524 rfl, RX0, TX0, 39, rfl, rfl⟩
theorem fw_X0_120 : ∀ c ∈ [0], FW RX0 120 c 1 (.int) := fun c hc => by
  simp only [List.mem_cons, List.not_mem_nil, or_false] at hc
  rcases hc with rfl
  · exact Or.inl ⟨FL.mk (k := 1) clX0 (by decide) rfl q528 rfl, RX0, TX0, 39, rfl, rfl⟩
theorem fw_X0_141 : ∀ c ∈ [1], FW RX0 141 c 22 (.int) := fun c hc => by
  simp only [List.mem_cons, List.not_mem_nil, or_false] at hc
  rcases hc with rfl
  · exact Or.inr ⟨FN.mk (k := 22) clX1 (by decide) rfl q273 rfl, RX1, TX1, 27, rfl, rfl⟩
theorem fw_X0_154 : ∀ c ∈ [1], FW RX0 154 c 23 (.int) := fun c hc => by
  simp only [List.mem_cons, List.not_mem_nil, or_false] at hc
  rcases hc with rfl
  · exact Or.inr ⟨FN.mk (k := 23) clX1 (by decide) rfl q276 rfl, RX1, TX1, 27, rfl, rfl⟩
theorem fw_X0_157 : ∀ c ∈ [1], FW RX0 157 c 24 (.int) := fun c hc => by
  simp only [List.mem_cons, List.not_mem_nil, or_false] at hc
  rcases hc with rfl
  · exact Or.inr ⟨FN.mk (k := 24) clX1 (by decide) rfl q279 rfl, RX1, TX1, 27, rfl, rfl⟩
theorem fw_X0_213 : ∀ c ∈ [0], FW RX0 213 c 5 (.int) := fun c hc => by
  simp only [List.mem_cons, List.not_mem_nil, or_false] at hc
  rcases hc with rfl
  · exact Or.inl ⟨FL.mk (k := 5) clX0 (by decide) rfl q535 rfl, RX0, TX0, 39, rfl, rfl⟩
theorem fw_X0_24 : ∀ c ∈ [0], FW RX0 24 c 6 (.int) := fun c hc => by
  simp only [List.mem_cons, List.not_mem_nil, or_false] at hc
  rcases hc with rfl
  · exact Or.inl ⟨FL.mk (k := 6) clX0 (by decide) rfl q536 rfl, RX0, TX0, 39, rfl, rfl⟩
theorem fw_X0_379 : ∀ c ∈ [0], FW RX0 379 c 19 (.int) := fun c hc => by
  simp only [List.mem_cons, List.not_mem_nil, or_false] at hc
  rcases hc with rfl
  · exact Or.inl ⟨FL.mk (k := 19) clX0 (by decide) rfl q552 rfl, RX0, TX0, 39, rfl, rfl⟩
theorem fw_X0_382 : ∀ c ∈ [0], FW RX0 382 c 22 (.int) := fun c hc => by
  simp only [List.mem_cons, List.not_mem_nil, or_false] at hc
  rcases hc with rfl
  · exact Or.inl ⟨FL.mk (k := 22) clX0 (by decide) rfl q555 rfl, RX0, TX0, 39, rfl, rfl⟩
theorem fw_X0_406 : ∀ c ∈ [0], FW RX0 406 c 21 (.int) := fun c hc => by
  simp only [List.mem_cons, List.not_mem_nil, or_false] at hc
  rcases hc with rfl
  · exact Or.inl ⟨FL.mk (k := 21) clX0 (by decide) rfl q554 rfl, RX0, TX0, 39, rfl, rfl⟩
theorem fw_X0_482 : ∀ c ∈ [0], FW RX0 482 c 25 (.int) := fun c hc => by
  simp only [List.mem_cons, List.not_mem_nil, or_false] at hc
  rcases hc with rfl
  · exact Or.inl ⟨FL.mk (k := 25) clX0 (by decide) rfl q558 rfl, RX0, TX0, 39, rfl, rfl⟩
theorem fw_X0_487 : ∀ c ∈ [0], FW RX0 487 c 26 (.int) := fun c hc => by
  simp only [List.mem_cons, List.not_mem_nil, or_false] at hc
  rcases hc with rfl
  · exact Or.inl ⟨FL.mk (k := 26) clX0 (by decide) rfl q559 rfl, RX0, TX0, 39, rfl, rfl⟩
theorem fw_X0_504 : ∀ c ∈ [1], FW RX0 504 c 25 (.int) := fun c hc => by
  simp only [List.mem_cons, List.not_mem_nil, or_false] at hc
  rcases hc with rfl
  · exact Or.inr ⟨FN.mk (k := 25) clX1 (by decide) rfl q281 rfl, RX1, TX1, 27, rfl, rfl⟩
theorem fw_X0_507 : ∀ c ∈ [1], FW RX0 507 c 26 (.int) := fun c hc => by
  simp only [List.mem_cons, List.not_mem_nil, or_false] at hc
  rcases hc with rfl
  · exact Or.inr ⟨FN.mk (k := 26) clX1 (by decide) rfl q283 rfl, RX1, TX1, 27, rfl, rfl⟩
theorem fw_X0_510 : ∀ c ∈ [0], FW RX0 510 c 35 (.int) := fun c hc => by
  simp only [List.mem_cons, List.not_mem_nil, or_false] at hc
  rcases hc with rfl
  · exact Or.inl ⟨FL.mk (k := 35) clX0 (by decide) rfl q568 rfl, RX0, TX0, 39, rfl, rfl⟩
theorem fw_X0_532 : ∀ c ∈ [0], FW RX0 532 c 36 (.long) := fun c hc => by
  simp only [List.mem_cons, List.not_mem_nil, or_false] at hc
  rcases hc with rfl
  · exact Or.inl ⟨FL.mk (k := 36) clX0 (by decide) rfl q569 rfl, RX0, TX0, 39, rfl, rfl⟩
theorem fw_X0_536 : ∀ c ∈ [0], FW RX0 536 c 37 (.long) := fun c hc => by
  simp only [List.mem_cons, List.not_mem_nil, or_false] at hc
  rcases hc with rfl
  · exact Or.inl ⟨FL.mk (k := 37) clX0 (by decide) rfl q570 rfl, RX0, TX0, 39, rfl, rfl⟩
theorem fw_X0_539 : ∀ c ∈ [0], FW RX0 539 c 38 (.int) := fun c hc => by
  simp only [List.mem_cons, List.not_mem_nil, or_false] at hc
  rcases hc with rfl
  · exact Or.inl ⟨FL.mk (k := 38) clX0 (by decide) rfl q571 rfl, RX0, TX0, 39, rfl, rfl⟩
theorem fw_X0_79 : ∀ c ∈ [0], FW RX0 79 c 20 (.int) := fun c hc => by
  simp only [List.mem_cons, List.not_mem_nil, or_false] at hc
  rcases hc with rfl
  · exact Or.inl ⟨FL.mk (k := 20) clX0 (by decide) rfl q553 rfl, RX0, TX0, 39, rfl, rfl⟩
theorem fw_X13_120 : ∀ c ∈ [17], FW RX13 120 c 3 (.object "FirstPolls$Sum") := fun c hc => by
  simp only [List.mem_cons, List.not_mem_nil, or_false] at hc
  rcases hc with rfl
  · exact Or.inr ⟨FN.mk (k := 3) clX15 (by decide) rfl q1182 rfl, RX15, TX15, 5, rfl, rfl⟩
theorem fw_X13_141 : ∀ c ∈ [15], FW RX13 141 c 6 (.int) := fun c hc => by
  simp only [List.mem_cons, List.not_mem_nil, or_false] at hc
  rcases hc with rfl
  · exact Or.inl ⟨FL.mk (k := 6) clX13 (by decide) rfl q1051 rfl, RX13, TX13, 7, rfl, rfl⟩
theorem fw_X13_208 : ∀ c ∈ [15], FW RX13 208 c 5 (.int) := fun c hc => by
  simp only [List.mem_cons, List.not_mem_nil, or_false] at hc
  rcases hc with rfl
  · exact Or.inl ⟨FL.mk (k := 5) clX13 (by decide) rfl q1050 rfl, RX13, TX13, 7, rfl, rfl⟩
theorem fw_X13_28 : ∀ c ∈ [15], FW RX13 28 c 4 (.int) := fun c hc => by
  simp only [List.mem_cons, List.not_mem_nil, or_false] at hc
  rcases hc with rfl
  · exact Or.inl ⟨FL.mk (k := 4) clX13 (by decide) rfl q1049 rfl, RX13, TX13, 7, rfl, rfl⟩
theorem fw_X13_31 : ∀ c ∈ [15], FW RX13 31 c 3 (.int) := fun c hc => by
  simp only [List.mem_cons, List.not_mem_nil, or_false] at hc
  rcases hc with rfl
  · exact Or.inl ⟨FL.mk (k := 3) clX13 (by decide) rfl q1048 rfl, RX13, TX13, 7, rfl, rfl⟩
theorem fw_X13_98 : ∀ c ∈ [17], FW RX13 98 c 4 (.object "FirstPolls$Test") := fun c hc => by
  simp only [List.mem_cons, List.not_mem_nil, or_false] at hc
  rcases hc with rfl
  · exact Or.inr ⟨FN.mk (k := 4) clX15 (by decide) rfl q1184 rfl, RX15, TX15, 5, rfl, rfl⟩
theorem fw_X15_21 : ∀ c ∈ [17], FW RX15 21 c 4 (.object "FirstPolls$Test") := fun c hc => by
  simp only [List.mem_cons, List.not_mem_nil, or_false] at hc
  rcases hc with rfl
  · exact Or.inl ⟨FL.mk (k := 4) clX15 (by decide) rfl q1183 rfl, RX15, TX15, 5, rfl, rfl⟩
theorem fw_X15_33 : ∀ c ∈ [17], FW RX15 33 c 3 (.object "FirstPolls$Sum") := fun c hc => by
  simp only [List.mem_cons, List.not_mem_nil, or_false] at hc
  rcases hc with rfl
  · exact Or.inl ⟨FL.mk (k := 3) clX15 (by decide) rfl q1181 rfl, RX15, TX15, 5, rfl, rfl⟩
theorem fw_X1_111 : ∀ c ∈ [1], FW RX1 111 c 22 (.int) := fun c hc => by
  simp only [List.mem_cons, List.not_mem_nil, or_false] at hc
  rcases hc with rfl
  · exact Or.inl ⟨FL.mk (k := 22) clX1 (by decide) rfl q272 rfl, RX1, TX1, 27, rfl, rfl⟩
theorem fw_X1_114 : ∀ c ∈ [1], FW RX1 114 c 23 (.int) := fun c hc => by
  simp only [List.mem_cons, List.not_mem_nil, or_false] at hc
  rcases hc with rfl
  · exact Or.inl ⟨FL.mk (k := 23) clX1 (by decide) rfl q275 rfl, RX1, TX1, 27, rfl, rfl⟩
theorem fw_X1_117 : ∀ c ∈ [1], FW RX1 117 c 24 (.int) := fun c hc => by
  simp only [List.mem_cons, List.not_mem_nil, or_false] at hc
  rcases hc with rfl
  · exact Or.inl ⟨FL.mk (k := 24) clX1 (by decide) rfl q278 rfl, RX1, TX1, 27, rfl, rfl⟩
theorem fw_X1_120 : ∀ c ∈ [1], FW RX1 120 c 26 (.int) := fun c hc => by
  simp only [List.mem_cons, List.not_mem_nil, or_false] at hc
  rcases hc with rfl
  · exact Or.inl ⟨FL.mk (k := 26) clX1 (by decide) rfl q282 rfl, RX1, TX1, 27, rfl, rfl⟩
theorem fw_X1_86 : ∀ c ∈ [1], FW RX1 86 c 25 (.int) := fun c hc => by
  simp only [List.mem_cons, List.not_mem_nil, or_false] at hc
  rcases hc with rfl
  · exact Or.inl ⟨FL.mk (k := 25) clX1 (by decide) rfl q280 rfl, RX1, TX1, 27, rfl, rfl⟩
theorem fw_X2_22 : ∀ c ∈ [3], FW RX2 22 c 2 (.int) := fun c hc => by
  simp only [List.mem_cons, List.not_mem_nil, or_false] at hc
  rcases hc with rfl
  · exact Or.inl ⟨FL.mk (k := 2) clX2 (by decide) rfl q352 rfl, RX2, TX2, 5, rfl, rfl⟩
theorem fw_X2_26 : ∀ c ∈ [3], FW RX2 26 c 3 (.int) := fun c hc => by
  simp only [List.mem_cons, List.not_mem_nil, or_false] at hc
  rcases hc with rfl
  · exact Or.inl ⟨FL.mk (k := 3) clX2 (by decide) rfl q353 rfl, RX2, TX2, 5, rfl, rfl⟩
theorem fw_X2_29 : ∀ c ∈ [0], FW RX2 29 c 1 (.int) := fun c hc => by
  simp only [List.mem_cons, List.not_mem_nil, or_false] at hc
  rcases hc with rfl
  · exact Or.inr ⟨FN.mk (k := 1) clX0 (by decide) rfl q525 rfl, RX0, TX0, 39, rfl, rfl⟩
theorem fw_X5_26 : ∀ c ∈ [6], FW RX5 26 c 3 (.int) := fun c hc => by
  simp only [List.mem_cons, List.not_mem_nil, or_false] at hc
  rcases hc with rfl
  · exact Or.inl ⟨FL.mk (k := 3) clX5 (by decide) rfl q464 rfl, RX5, TX5, 7, rfl, rfl⟩
theorem fw_X5_30 : ∀ c ∈ [6], FW RX5 30 c 4 (.int) := fun c hc => by
  simp only [List.mem_cons, List.not_mem_nil, or_false] at hc
  rcases hc with rfl
  · exact Or.inl ⟨FL.mk (k := 4) clX5 (by decide) rfl q465 rfl, RX5, TX5, 7, rfl, rfl⟩
theorem fw_X5_33 : ∀ c ∈ [6], FW RX5 33 c 5 (.int) := fun c hc => by
  simp only [List.mem_cons, List.not_mem_nil, or_false] at hc
  rcases hc with rfl
  · exact Or.inl ⟨FL.mk (k := 5) clX5 (by decide) rfl q466 rfl, RX5, TX5, 7, rfl, rfl⟩
theorem fw_X5_36 : ∀ c ∈ [0], FW RX5 36 c 1 (.int) := fun c hc => by
  simp only [List.mem_cons, List.not_mem_nil, or_false] at hc
  rcases hc with rfl
  · exact Or.inr ⟨FN.mk (k := 1) clX0 (by decide) rfl q526 rfl, RX0, TX0, 39, rfl, rfl⟩
theorem fw_X6_35 : ∀ c ∈ [7], FW RX6 35 c 6 (.int) := fun c hc => by
  simp only [List.mem_cons, List.not_mem_nil, or_false] at hc
  rcases hc with rfl
  · exact Or.inl ⟨FL.mk (k := 6) clX6 (by decide) rfl q499 rfl, RX6, TX6, 10, rfl, rfl⟩
theorem fw_X6_39 : ∀ c ∈ [7], FW RX6 39 c 7 (.int) := fun c hc => by
  simp only [List.mem_cons, List.not_mem_nil, or_false] at hc
  rcases hc with rfl
  · exact Or.inl ⟨FL.mk (k := 7) clX6 (by decide) rfl q500 rfl, RX6, TX6, 10, rfl, rfl⟩
theorem fw_X6_42 : ∀ c ∈ [7], FW RX6 42 c 8 (.int) := fun c hc => by
  simp only [List.mem_cons, List.not_mem_nil, or_false] at hc
  rcases hc with rfl
  · exact Or.inl ⟨FL.mk (k := 8) clX6 (by decide) rfl q501 rfl, RX6, TX6, 10, rfl, rfl⟩
theorem fw_X6_55 : ∀ c ∈ [0], FW RX6 55 c 1 (.int) := fun c hc => by
  simp only [List.mem_cons, List.not_mem_nil, or_false] at hc
  rcases hc with rfl
  · exact Or.inr ⟨FN.mk (k := 1) clX0 (by decide) rfl q527 rfl, RX0, TX0, 39, rfl, rfl⟩
theorem fw_X6_60 : ∀ c ∈ [1], FW RX6 60 c 23 (.int) := fun c hc => by
  simp only [List.mem_cons, List.not_mem_nil, or_false] at hc
  rcases hc with rfl
  · exact Or.inr ⟨FN.mk (k := 23) clX1 (by decide) rfl q274 rfl, RX1, TX1, 27, rfl, rfl⟩
theorem fw_X6_96 : ∀ c ∈ [1], FW RX6 96 c 24 (.int) := fun c hc => by
  simp only [List.mem_cons, List.not_mem_nil, or_false] at hc
  rcases hc with rfl
  · exact Or.inr ⟨FN.mk (k := 24) clX1 (by decide) rfl q277 rfl, RX1, TX1, 27, rfl, rfl⟩
theorem fw_X7_30 : ∀ c ∈ [8], FW RX7 30 c 15 (.int) := fun c hc => by
  simp only [List.mem_cons, List.not_mem_nil, or_false] at hc
  rcases hc with rfl
  · exact Or.inl ⟨FL.mk (k := 15) clX7 (by decide) rfl q1785 rfl, RX7, TX7, 62, rfl, rfl⟩
theorem ic_J1_1 : IC RJ1 1 yJ0_init cJ0_init 1 0 := ⟨rfl, q198, q199, q134, q200, by decide, by decide, by decide, by decide +kernel⟩
theorem ic_J2_1 : IC RJ2 1 yJ1_init cJ1_init 1 0 := ⟨rfl, q195, q196, q135, q197, by decide, by decide, by decide, by decide +kernel⟩
theorem ic_J4_16 : IC RJ4 16 yJ3_init_2 cJ3_init_2 5 4 := ⟨rfl, q418, q419, q139, q420, by decide, by decide, by decide, by decide +kernel⟩
theorem ic_X0_175 : IC RX0 175 yX8_init cX8_init 6 5 := ⟨rfl, q796, q797, q145, q798, by decide, by decide, by decide, by decide +kernel⟩
theorem ic_X0_184 : IC RX0 184 yX9_init cX9_init 6 5 := ⟨rfl, q838, q839, q150, q840, by decide, by decide, by decide, by decide +kernel⟩
theorem ic_X0_187 : IC RX0 187 yX10_init cX10_init 6 5 := ⟨rfl, q850, q851, q151, q852, by decide, by decide, by decide, by decide +kernel⟩
theorem ic_X0_190 : IC RX0 190 yX11_init cX11_init 6 5 := ⟨rfl, q862, q863, q152, q864, by decide, by decide, by decide, by decide +kernel⟩
theorem ic_X0_281 : IC RX0 281 yX12_init cX12_init 6 5 := ⟨rfl, q990, q991, q159, q992, by decide, by decide, by decide, by decide +kernel⟩
theorem ic_X0_297 : IC RX0 297 yX13_init cX13_init 3 2 := ⟨rfl, q1038, q1039, q160, q1040, by decide, by decide, by decide, by decide +kernel⟩
theorem ic_X0_311 : IC RX0 311 yX25_init cX25_init 4 3 := ⟨rfl, q1381, q1382, q174, q1383, by decide, by decide, by decide, by decide +kernel⟩
theorem ic_X10_3 : IC RX10 3 yX8_init cX8_init 6 5 := ⟨rfl, q853, q797, q145, q798, by decide, by decide, by decide, by decide +kernel⟩
theorem ic_X11_3 : IC RX11 3 yX10_init cX10_init 6 5 := ⟨rfl, q865, q851, q151, q852, by decide, by decide, by decide, by decide +kernel⟩
theorem ic_X13_11 : IC RX13 11 yJ2_init cJ2_init 2 1 := ⟨rfl, q1043, q193, q136, q194, by decide, by decide, by decide, by decide +kernel⟩
theorem ic_X13_130 : IC RX13 130 yX24_init cX24_init 2 1 := ⟨rfl, q1363, q1364, q173, q1365, by decide, by decide, by decide, by decide +kernel⟩
theorem ic_X13_151 : IC RX13 151 yX23_init cX23_init 2 1 := ⟨rfl, q1352, q1353, q172, q1354, by decide, by decide, by decide, by decide +kernel⟩
theorem ic_X13_179 : IC RX13 179 yX21_init cX21_init 2 1 := ⟨rfl, q1320, q1321, q170, q1322, by decide, by decide, by decide, by decide +kernel⟩
theorem ic_X13_188 : IC RX13 188 yX22_init cX22_init 4 3 := ⟨rfl, q1336, q1337, q171, q1338, by decide, by decide, by decide, by decide +kernel⟩
theorem ic_X13_200 : IC RX13 200 yX19_init cX19_init 4 3 := ⟨rfl, q1273, q1274, q168, q1275, by decide, by decide, by decide, by decide +kernel⟩
theorem ic_X13_240 : IC RX13 240 yX17_init cX17_init 2 1 := ⟨rfl, q1233, q1234, q166, q1235, by decide, by decide, by decide, by decide +kernel⟩
theorem ic_X13_246 : IC RX13 246 yX18_init cX18_init 2 1 := ⟨rfl, q1261, q1262, q167, q1263, by decide, by decide, by decide, by decide +kernel⟩
theorem ic_X13_60 : IC RX13 60 yX14_init cX14_init 2 1 := ⟨rfl, q1093, q1094, q161, q1095, by decide, by decide, by decide, by decide +kernel⟩
theorem ic_X13_81 : IC RX13 81 yX15_init cX15_init 4 3 := ⟨rfl, q1169, q1170, q164, q1171, by decide, by decide, by decide, by decide +kernel⟩
theorem ic_X14_1 : IC RX14 1 yJ4_init cJ4_init 5 4 := ⟨rfl, q1096, q416, q140, q417, by decide, by decide, by decide, by decide +kernel⟩
theorem ic_X1_11 : IC RX1 11 yJ2_init cJ2_init 2 1 := ⟨rfl, q192, q193, q136, q194, by decide, by decide, by decide, by decide +kernel⟩
theorem ic_X24_9 : IC RX24 9 yJ2_init cJ2_init 2 1 := ⟨rfl, q1368, q193, q136, q194, by decide, by decide, by decide, by decide +kernel⟩
theorem ic_X3_9 : IC RX3 9 yX4_init cX4_init 1 0 := ⟨rfl, q412, q413, q141, q414, by decide, by decide, by decide, by decide +kernel⟩
theorem ic_X4_1 : IC RX4 1 yJ4_init cJ4_init 5 4 := ⟨rfl, q415, q416, q140, q417, by decide, by decide, by decide, by decide +kernel⟩
theorem ic_X9_3 : IC RX9 3 yX8_init cX8_init 6 5 := ⟨rfl, q841, q797, q145, q798, by decide, by decide, by decide, by decide +kernel⟩
theorem ni_X0_30 : NI RX0 30 yX2_init cX2_init 2 1 := ⟨rfl, ⟨_, q345⟩, q346, q137, q347, by decide, by decide, by decide, by decide +kernel⟩
theorem ni_X0_39 : NI RX0 39 yX3_init cX3_init 1 0 := ⟨rfl, ⟨_, q369⟩, q370, q138, q371, by decide, by decide, by decide, by decide +kernel⟩
theorem ni_X0_46 : NI RX0 46 yX5_init cX5_init 2 1 := ⟨rfl, ⟨_, q454⟩, q455, q142, q456, by decide, by decide, by decide, by decide +kernel⟩
theorem ni_X0_84 : NI RX0 84 yX6_init cX6_init 2 1 := ⟨rfl, ⟨_, q485⟩, q486, q143, q487, by decide, by decide, by decide, by decide +kernel⟩
theorem ni_X0_9 : NI RX0 9 yX1_init cX1_init 1 0 := ⟨rfl, ⟨_, q186⟩, q187, q133, q188, by decide, by decide, by decide, by decide +kernel⟩
theorem ni_X17_1 : NI RX17 1 yX16_init cX16_init 1 0 := ⟨rfl, ⟨_, q1236⟩, q1237, q165, q1238, by decide, by decide, by decide, by decide +kernel⟩
theorem ni_X18_1 : NI RX18 1 yX16_init cX16_init 1 0 := ⟨rfl, ⟨_, q1264⟩, q1237, q165, q1238, by decide, by decide, by decide, by decide +kernel⟩
theorem ni_X19_3 : NI RX19 3 yX16_init cX16_init 1 0 := ⟨rfl, ⟨_, q1276⟩, q1237, q165, q1238, by decide, by decide, by decide, by decide +kernel⟩
theorem ni_X21_1 : NI RX21 1 yX20_init cX20_init 1 0 := ⟨rfl, ⟨_, q1323⟩, q1324, q169, q1325, by decide, by decide, by decide, by decide +kernel⟩
theorem ni_X22_1 : NI RX22 1 yX20_init cX20_init 1 0 := ⟨rfl, ⟨_, q1339⟩, q1324, q169, q1325, by decide, by decide, by decide, by decide +kernel⟩
theorem ni_X23_1 : NI RX23 1 yX20_init cX20_init 1 0 := ⟨rfl, ⟨_, q1355⟩, q1324, q169, q1325, by decide, by decide, by decide, by decide +kernel⟩
theorem ni_X24_1 : NI RX24 1 yX20_init cX20_init 1 0 := ⟨rfl, ⟨_, q1366⟩, q1324, q169, q1325, by decide, by decide, by decide, by decide +kernel⟩
theorem nv_X5_103 : NV RX5 103 0 yX0_hasMoved cX0_hasMoved 4 (some (.boolean)) 3 := ⟨⟨TX0, 39, rfl⟩, ⟨_, q1444⟩, q971, qs12, q132, q972, by decide, by decide, by decide, by decide +kernel⟩
theorem nv_X5_106 : NV RX5 106 0 yX0_last cX0_last 11 (some (.long)) 3 := ⟨⟨TX0, 39, rfl⟩, ⟨_, q1445⟩, q1447, qs37, q132, q1448, by decide, by decide, by decide, by decide +kernel⟩
theorem nv_X5_53 : NV RX5 53 0 yX0_placeOf cX0_placeOf 4 (some (.int)) 3 := ⟨⟨TX0, 39, rfl⟩, ⟨_, q1428⟩, q967, qs11, q132, q968, by decide, by decide, by decide, by decide +kernel⟩
theorem nv_X5_74 : NV RX5 74 0 yX0_asks cX0_asks 2 none 1 := ⟨⟨TX0, 39, rfl⟩, ⟨_, q1435⟩, q1437, qs36, q132, q1438, by decide, by decide, by decide, by decide +kernel⟩
theorem nv_X6_122 : NV RX6 122 0 yX0_asksPlace cX0_asksPlace 3 none 2 := ⟨⟨TX0, 39, rfl⟩, ⟨_, q1649⟩, q1528, qs41, q132, q1529, by decide, by decide, by decide, by decide +kernel⟩
theorem nv_X6_142 : NV RX6 142 0 yX0_last cX0_last 11 (some (.long)) 3 := ⟨⟨TX0, 39, rfl⟩, ⟨_, q1654⟩, q1447, qs37, q132, q1448, by decide, by decide, by decide, by decide +kernel⟩
theorem nv_X6_99 : NV RX6 99 0 yX0_breaks cX0_breaks 6 (some (.int)) 2 := ⟨⟨TX0, 39, rfl⟩, ⟨_, q1640⟩, q1612, qs49, q132, q1613, by decide, by decide, by decide, by decide +kernel⟩
theorem ok_J2 : ∀ j, j < 3 → okT (tyL 2 j) = true := by decide
theorem ok_X1 : ∀ j, j < 27 → okT (tyL 1 j) = true := by decide
theorem ok_X10 : ∀ j, j < 5 → okT (tyL 11 j) = true := by decide
theorem ok_X11 : ∀ j, j < 5 → okT (tyL 12 j) = true := by decide
theorem ok_X12 : ∀ j, j < 5 → okT (tyL 14 j) = true := by decide
theorem ok_X13 : ∀ j, j < 7 → okT (tyL 15 j) = true := by decide
theorem ok_X14 : ∀ j, j < 7 → okT (tyL 16 j) = true := by decide
theorem ok_X15 : ∀ j, j < 5 → okT (tyL 17 j) = true := by decide
theorem ok_X17 : ∀ j, j < 1 → okT (tyL 18 j) = true := by decide
theorem ok_X18 : ∀ j, j < 1 → okT (tyL 19 j) = true := by decide
theorem ok_X19 : ∀ j, j < 3 → okT (tyL 20 j) = true := by decide
theorem ok_X2 : ∀ j, j < 5 → okT (tyL 3 j) = true := by decide
theorem ok_X21 : ∀ j, j < 1 → okT (tyL 21 j) = true := by decide
theorem ok_X22 : ∀ j, j < 3 → okT (tyL 22 j) = true := by decide
theorem ok_X23 : ∀ j, j < 1 → okT (tyL 23 j) = true := by decide
theorem ok_X24 : ∀ j, j < 2 → okT (tyL 24 j) = true := by decide
theorem ok_X25 : ∀ j, j < 3 → okT (tyL 25 j) = true := by decide
theorem ok_X3 : ∀ j, j < 3 → okT (tyL 4 j) = true := by decide
theorem ok_X4 : ∀ j, j < 6 → okT (tyL 5 j) = true := by decide
theorem ok_X5 : ∀ j, j < 7 → okT (tyL 6 j) = true := by decide
theorem ok_X6 : ∀ j, j < 10 → okT (tyL 7 j) = true := by decide
theorem ok_X8 : ∀ j, j < 5 → okT (tyL 9 j) = true := by decide
theorem ok_X9 : ∀ j, j < 5 → okT (tyL 10 j) = true := by decide
theorem sc_J11_1059 : SC RJ11 1059 yJ13_checkIndex cJ13_checkIndex 3 (some (.int)) 3 := ⟨q1138, q935, q158, q936, by decide, by decide, by decide, by decide +kernel⟩
theorem sc_J11_495 : SC RJ11 495 yJ14_charAt cJ14_charAt 2 (some (.char)) 2 := ⟨q1130, q1131, q162, q1132, by decide, by decide, by decide, by decide +kernel⟩
theorem sc_J12_105 : SC RJ12 105 yJ13_checkIndex cJ13_checkIndex 3 (some (.int)) 3 := ⟨q934, q935, q158, q936, by decide, by decide, by decide, by decide +kernel⟩
theorem sc_J14_9 : SC RJ14 9 yJ11_checkIndex cJ11_checkIndex 2 none 2 := ⟨q1133, q1134, q156, q1135, by decide, by decide, by decide, by decide +kernel⟩
theorem sc_J2_118 : SC RJ2 118 yJ12_checkIndex cJ12_checkIndex 2 (some (.int)) 2 := ⟨q931, q932, q157, q933, by decide, by decide, by decide, by decide +kernel⟩
theorem sc_J2_66 : SC RJ2 66 yJ7_copyOf cJ7_copyOf 2 (some (.array (.object "java/lang/Object"))) 2 := ⟨q687, q688, q148, q689, by decide, by decide, by decide, by decide +kernel⟩
theorem sc_J2_73 : SC RJ2 73 yJ5_newLength cJ5_newLength 4 (some (.int)) 3 := ⟨q737, q738, q146, q739, by decide, by decide, by decide, by decide +kernel⟩
theorem sc_J7_300 : SC RJ7 300 yJ7_copyOf_2 cJ7_copyOf_2 4 (some (.array (.object "java/lang/Object"))) 3 := ⟨q720, q721, q148, q722, by decide, by decide, by decide, by decide +kernel⟩
theorem sc_X0_127 : SC RX0 127 yX0_in cX0_in 3 (some (.boolean)) 3 := ⟨q655, q656, q132, q657, by decide, by decide, by decide, by decide +kernel⟩
theorem sc_X0_169 : SC RX0 169 yX0_areLetters cX0_areLetters 2 (some (.boolean)) 1 := ⟨q776, q777, q132, q778, by decide, by decide, by decide, by decide +kernel⟩
theorem sc_X0_197 : SC RX0 197 yX0_isOne cX0_isOne 4 (some (.boolean)) 4 := ⟨q773, q774, q132, q775, by decide, by decide, by decide, by decide +kernel⟩
theorem sc_X0_201 : SC RX0 201 yX0_isDay cX0_isDay 1 (some (.boolean)) 1 := ⟨q779, q780, q132, q781, by decide, by decide, by decide, by decide +kernel⟩
theorem sc_X0_368 : SC RX0 368 yX0_atLeast cX0_atLeast 3 (some (.int)) 2 := ⟨q1516, q1517, q132, q1518, by decide, by decide, by decide, by decide +kernel⟩
theorem sc_X0_398 : SC RX0 398 yJ16_bitCount cJ16_bitCount 1 (some (.int)) 1 := ⟨q1550, q1551, q175, q1552, by decide, by decide, by decide, by decide +kernel⟩
theorem sc_X0_520 : SC RX0 520 yX0_chosen cX0_chosen 5 (some (.long)) 2 := ⟨q1731, q1732, q132, q1733, by decide, by decide, by decide, by decide +kernel⟩
theorem sc_X0_529 : SC RX0 529 yX0_mayBe cX0_mayBe 11 (some (.boolean)) 4 := ⟨q1728, q1729, q132, q1730, by decide, by decide, by decide, by decide +kernel⟩
theorem sc_X1_103 : SC RX1 103 yX1_over cX1_over 2 none 2 := ⟨q666, q667, q133, q668, by decide, by decide, by decide, by decide +kernel⟩
theorem sc_X1_107 : SC RX1 107 yX1_rows cX1_rows 2 none 2 := ⟨q749, q750, q133, q751, by decide, by decide, by decide, by decide +kernel⟩
theorem st_102 : (102, RX13, 102, "on") ∈ strT := by decide
theorem st_104 : (104, RX13, 104, "off") ∈ strT := by decide
theorem st_106 : (106, RX13, 106, "again") ∈ strT := by decide
theorem st_108 : (108, RX13, 108, "void") ∈ strT := by decide
theorem st_110 : (110, RX13, 110, "most") ∈ strT := by decide
theorem st_112 : (112, RX13, 112, "far") ∈ strT := by decide
theorem st_114 : (114, RX13, 114, "few") ∈ strT := by decide
theorem st_126 : (126, RX13, 126, "or") ∈ strT := by decide
theorem st_139 : (139, RX13, 139, "and") ∈ strT := by decide
theorem st_144 : (144, RX13, 144, "not") ∈ strT := by decide
theorem st_154 : (154, RX13, 154, "wife") ∈ strT := by decide
theorem st_156 : (156, RX13, 156, "late") ∈ strT := by decide
theorem st_158 : (158, RX13, 158, "walker") ∈ strT := by decide
theorem st_160 : (160, RX13, 160, "moved") ∈ strT := by decide
theorem st_162 : (162, RX13, 162, "broken") ∈ strT := by decide
theorem st_164 : (164, RX13, 164, "(") ∈ strT := by decide
theorem st_169 : (169, RX13, 169, ")") ∈ strT := by decide
theorem st_180 : (180, RX13, 180, "<") ∈ strT := by decide
theorem st_182 : (182, RX13, 182, ">") ∈ strT := by decide
theorem st_184 : (184, RX13, 184, "=") ∈ strT := by decide
theorem st_194 : (194, RX13, 194, "+") ∈ strT := by decide
theorem st_196 : (196, RX13, 196, "-") ∈ strT := by decide
theorem st_204 : (204, RX13, 204, "*") ∈ strT := by decide
theorem st_206 : (206, RX13, 206, "/") ∈ strT := by decide
theorem st_211 : (211, RX13, 211, "age") ∈ strT := by decide
theorem st_213 : (213, RX13, 213, "house") ∈ strT := by decide
theorem st_215 : (215, RX13, 215, "place") ∈ strT := by decide
theorem st_217 : (217, RX13, 217, "seat") ∈ strT := by decide
theorem st_219 : (219, RX13, 219, "day") ∈ strT := by decide
theorem st_221 : (221, RX13, 221, "names") ∈ strT := by decide
theorem st_223 : (223, RX13, 223, "papers") ∈ strT := by decide
theorem st_225 : (225, RX13, 225, "given") ∈ strT := by decide
theorem st_227 : (227, RX13, 227, "put") ∈ strT := by decide
theorem st_229 : (229, RX13, 229, "spoilt") ∈ strT := by decide
theorem st_231 : (231, RX13, 231, "lost") ∈ strT := by decide
theorem st_233 : (233, RX13, 233, "[") ∈ strT := by decide
theorem st_235 : (235, RX13, 235, "]") ∈ strT := by decide
theorem st_64 : (64, RX13, 64, ";") ∈ strT := by decide
theorem st_68 : (68, RX13, 68, "strike") ∈ strT := by decide
theorem st_74 : (74, RX13, 74, "clause") ∈ strT := by decide
theorem st_92 : (92, RX13, 92, "if") ∈ strT := by decide
theorem su_X11_9 : SU RX11 9 12 yX10_kind cX10_kind 1 (some (.int)) 0 := ⟨⟨_, _, _, rfl⟩, q955, q2528, q871, q950, q151, q951, by decide, by decide, by decide +kernel⟩
theorem su_X9_9 : SU RX9 9 10 yX8_kind cX8_kind 1 (some (.int)) 0 := ⟨⟨_, _, _, rfl⟩, q959, q948, q847, q946, q145, q960, by decide, by decide, by decide +kernel⟩
theorem uc_X0_251_10 : UCx RX0 251 10 ⟨"FirstPolls$Name", "kind", "()I"⟩ yX9_kind 0 := ⟨⟨_, _, _, rfl, q956⟩, q945, q948, q957, by decide, by decide, by decide +kernel, Or.inr ⟨q946, _, _, _, q960⟩⟩
theorem uc_X0_251_11 : UCx RX0 251 11 ⟨"FirstPolls$Name", "kind", "()I"⟩ yX10_kind 0 := ⟨⟨_, _, _, rfl, q949⟩, q945, q948, q950, by decide, by decide, by decide +kernel, Or.inr ⟨q946, _, _, _, q960⟩⟩
theorem uc_X0_251_12 : UCx RX0 251 12 ⟨"FirstPolls$Name", "kind", "()I"⟩ yX11_kind 0 := ⟨⟨_, _, _, rfl, q952⟩, q945, q948, q953, by decide, by decide, by decide +kernel, Or.inr ⟨q946, _, _, _, q960⟩⟩
theorem uc_X0_251_9 : UCx RX0 251 9 ⟨"FirstPolls$Name", "kind", "()I"⟩ yX8_kind 0 := ⟨⟨_, _, _, rfl, q947⟩, q945, q948, q946, by decide, by decide, by decide +kernel, Or.inr ⟨q946, _, _, _, q960⟩⟩
theorem uc_X15_25_21 : UCx RX15 25 21 ⟨"FirstPolls$Test", "is", "(LFirstPolls$Setting;)Z"⟩ yX21_is 1 := ⟨⟨_, _, _, rfl, q1477⟩, q1456, q1458, q1478, by decide, by decide, by decide +kernel, Or.inl (List.mem_filter.mpr ⟨q1457, rfl⟩)⟩
theorem uc_X15_25_22 : UCx RX15 25 22 ⟨"FirstPolls$Test", "is", "(LFirstPolls$Setting;)Z"⟩ yX22_is 1 := ⟨⟨_, _, _, rfl, q1459⟩, q1456, q1458, q1460, by decide, by decide, by decide +kernel, Or.inl (List.mem_filter.mpr ⟨q1457, rfl⟩)⟩
theorem uc_X15_25_23 : UCx RX15 25 23 ⟨"FirstPolls$Test", "is", "(LFirstPolls$Setting;)Z"⟩ yX23_is 1 := ⟨⟨_, _, _, rfl, q1480⟩, q1456, q1458, q1481, by decide, by decide, by decide +kernel, Or.inl (List.mem_filter.mpr ⟨q1457, rfl⟩)⟩
theorem uc_X15_25_24 : UCx RX15 25 24 ⟨"FirstPolls$Test", "is", "(LFirstPolls$Setting;)Z"⟩ yX24_is 1 := ⟨⟨_, _, _, rfl, q1490⟩, q1456, q1458, q1484, by decide, by decide, by decide +kernel, Or.inl (List.mem_filter.mpr ⟨q1457, rfl⟩)⟩
theorem uc_X15_37_18 : UCx RX15 37 18 ⟨"FirstPolls$Sum", "of", "(LFirstPolls$Setting;)J"⟩ yX17_of 1 := ⟨⟨_, _, _, rfl, q1465⟩, q1492, q1464, q1466, by decide, by decide, by decide +kernel, Or.inl (List.mem_filter.mpr ⟨q1463, rfl⟩)⟩
theorem uc_X15_37_19 : UCx RX15 37 19 ⟨"FirstPolls$Sum", "of", "(LFirstPolls$Setting;)J"⟩ yX18_of 1 := ⟨⟨_, _, _, rfl, q1476⟩, q1492, q1464, q1472, by decide, by decide, by decide +kernel, Or.inl (List.mem_filter.mpr ⟨q1463, rfl⟩)⟩
theorem uc_X15_37_20 : UCx RX15 37 20 ⟨"FirstPolls$Sum", "of", "(LFirstPolls$Setting;)J"⟩ yX19_of 1 := ⟨⟨_, _, _, rfl, q1468⟩, q1492, q1464, q1469, by decide, by decide, by decide +kernel, Or.inl (List.mem_filter.mpr ⟨q1463, rfl⟩)⟩
theorem uc_X19_22_18 : UCx RX19 22 18 ⟨"FirstPolls$Sum", "of", "(LFirstPolls$Setting;)J"⟩ yX17_of 1 := ⟨⟨_, _, _, rfl, q1465⟩, q1471, q1464, q1466, by decide, by decide, by decide +kernel, Or.inl (List.mem_filter.mpr ⟨q1463, rfl⟩)⟩
theorem uc_X19_22_19 : UCx RX19 22 19 ⟨"FirstPolls$Sum", "of", "(LFirstPolls$Setting;)J"⟩ yX18_of 1 := ⟨⟨_, _, _, rfl, q1476⟩, q1471, q1464, q1472, by decide, by decide, by decide +kernel, Or.inl (List.mem_filter.mpr ⟨q1463, rfl⟩)⟩
theorem uc_X19_22_20 : UCx RX19 22 20 ⟨"FirstPolls$Sum", "of", "(LFirstPolls$Setting;)J"⟩ yX19_of 1 := ⟨⟨_, _, _, rfl, q1468⟩, q1471, q1464, q1469, by decide, by decide, by decide +kernel, Or.inl (List.mem_filter.mpr ⟨q1463, rfl⟩)⟩
theorem uc_X22_20_18 : UCx RX22 20 18 ⟨"FirstPolls$Sum", "of", "(LFirstPolls$Setting;)J"⟩ yX17_of 1 := ⟨⟨_, _, _, rfl, q1465⟩, q1462, q1464, q1466, by decide, by decide, by decide +kernel, Or.inl (List.mem_filter.mpr ⟨q1463, rfl⟩)⟩
theorem uc_X22_20_19 : UCx RX22 20 19 ⟨"FirstPolls$Sum", "of", "(LFirstPolls$Setting;)J"⟩ yX18_of 1 := ⟨⟨_, _, _, rfl, q1476⟩, q1462, q1464, q1472, by decide, by decide, by decide +kernel, Or.inl (List.mem_filter.mpr ⟨q1463, rfl⟩)⟩
theorem uc_X22_20_20 : UCx RX22 20 20 ⟨"FirstPolls$Sum", "of", "(LFirstPolls$Setting;)J"⟩ yX19_of 1 := ⟨⟨_, _, _, rfl, q1468⟩, q1462, q1464, q1469, by decide, by decide, by decide +kernel, Or.inl (List.mem_filter.mpr ⟨q1463, rfl⟩)⟩
theorem uc_X23_13_21 : UCx RX23 13 21 ⟨"FirstPolls$Test", "is", "(LFirstPolls$Setting;)Z"⟩ yX21_is 1 := ⟨⟨_, _, _, rfl, q1477⟩, q1483, q1458, q1478, by decide, by decide, by decide +kernel, Or.inl (List.mem_filter.mpr ⟨q1457, rfl⟩)⟩
theorem uc_X23_13_22 : UCx RX23 13 22 ⟨"FirstPolls$Test", "is", "(LFirstPolls$Setting;)Z"⟩ yX22_is 1 := ⟨⟨_, _, _, rfl, q1459⟩, q1483, q1458, q1460, by decide, by decide, by decide +kernel, Or.inl (List.mem_filter.mpr ⟨q1457, rfl⟩)⟩
theorem uc_X23_13_23 : UCx RX23 13 23 ⟨"FirstPolls$Test", "is", "(LFirstPolls$Setting;)Z"⟩ yX23_is 1 := ⟨⟨_, _, _, rfl, q1480⟩, q1483, q1458, q1481, by decide, by decide, by decide +kernel, Or.inl (List.mem_filter.mpr ⟨q1457, rfl⟩)⟩
theorem uc_X23_13_24 : UCx RX23 13 24 ⟨"FirstPolls$Test", "is", "(LFirstPolls$Setting;)Z"⟩ yX24_is 1 := ⟨⟨_, _, _, rfl, q1490⟩, q1483, q1458, q1484, by decide, by decide, by decide +kernel, Or.inl (List.mem_filter.mpr ⟨q1457, rfl⟩)⟩
theorem uc_X24_30_21 : UCx RX24 30 21 ⟨"FirstPolls$Test", "is", "(LFirstPolls$Setting;)Z"⟩ yX21_is 1 := ⟨⟨_, _, _, rfl, q1477⟩, q1489, q1458, q1478, by decide, by decide, by decide +kernel, Or.inl (List.mem_filter.mpr ⟨q1457, rfl⟩)⟩
theorem uc_X24_30_22 : UCx RX24 30 22 ⟨"FirstPolls$Test", "is", "(LFirstPolls$Setting;)Z"⟩ yX22_is 1 := ⟨⟨_, _, _, rfl, q1459⟩, q1489, q1458, q1460, by decide, by decide, by decide +kernel, Or.inl (List.mem_filter.mpr ⟨q1457, rfl⟩)⟩
theorem uc_X24_30_23 : UCx RX24 30 23 ⟨"FirstPolls$Test", "is", "(LFirstPolls$Setting;)Z"⟩ yX23_is 1 := ⟨⟨_, _, _, rfl, q1480⟩, q1489, q1458, q1481, by decide, by decide, by decide +kernel, Or.inl (List.mem_filter.mpr ⟨q1457, rfl⟩)⟩
theorem uc_X24_30_24 : UCx RX24 30 24 ⟨"FirstPolls$Test", "is", "(LFirstPolls$Setting;)Z"⟩ yX24_is 1 := ⟨⟨_, _, _, rfl, q1490⟩, q1489, q1458, q1484, by decide, by decide, by decide +kernel, Or.inl (List.mem_filter.mpr ⟨q1457, rfl⟩)⟩
theorem uc_X5_100_10 : UCx RX5 100 10 ⟨"FirstPolls$Name", "kind", "()I"⟩ yX9_kind 0 := ⟨⟨_, _, _, rfl, q956⟩, q1443, q948, q957, by decide, by decide, by decide +kernel, Or.inr ⟨q946, _, _, _, q960⟩⟩
theorem uc_X5_100_11 : UCx RX5 100 11 ⟨"FirstPolls$Name", "kind", "()I"⟩ yX10_kind 0 := ⟨⟨_, _, _, rfl, q949⟩, q1443, q948, q950, by decide, by decide, by decide +kernel, Or.inr ⟨q946, _, _, _, q960⟩⟩
theorem uc_X5_100_12 : UCx RX5 100 12 ⟨"FirstPolls$Name", "kind", "()I"⟩ yX11_kind 0 := ⟨⟨_, _, _, rfl, q952⟩, q1443, q948, q953, by decide, by decide, by decide +kernel, Or.inr ⟨q946, _, _, _, q960⟩⟩
theorem uc_X5_100_9 : UCx RX5 100 9 ⟨"FirstPolls$Name", "kind", "()I"⟩ yX8_kind 0 := ⟨⟨_, _, _, rfl, q947⟩, q1443, q948, q946, by decide, by decide, by decide +kernel, Or.inr ⟨q946, _, _, _, q960⟩⟩
theorem vc_J11_335 : VCm RJ11 335 26 yJ11_coder cJ11_coder 1 (some (.byte)) 0 := ⟨⟨TJ11, 2, rfl⟩, q1116, q1117, q1118, q156, q1119, by decide, by decide, by decide, by decide +kernel⟩
theorem vc_J11_492 : VCm RJ11 492 26 yJ11_isLatin1 cJ11_isLatin1 1 (some (.boolean)) 0 := ⟨⟨TJ11, 2, rfl⟩, q1126, q1127, q1128, q156, q1129, by decide, by decide, by decide, by decide +kernel⟩
theorem vc_J2_123 : VCm RJ2 123 2 yJ2_elementData cJ2_elementData 2 (some (.object "java/lang/Object")) 1 := ⟨⟨TJ2, 3, rfl⟩, q937, q938, q939, q136, q940, by decide, by decide, by decide, by decide +kernel⟩
theorem vc_J2_129 : VCm RJ2 129 2 yJ2_grow_2 cJ2_grow_2 1 (some (.array (.object "java/lang/Object"))) 0 := ⟨⟨TJ2, 3, rfl⟩, q832, q834, qs8, q136, q835, by decide, by decide, by decide, by decide +kernel⟩
theorem vc_J2_131 : VCm RJ2 131 2 yJ2_add_2 cJ2_add_2 4 none 3 := ⟨⟨TJ2, 3, rfl⟩, q828, q830, qs7, q136, q831, by decide, by decide, by decide, by decide +kernel⟩
theorem vc_J2_69 : VCm RJ2 69 2 yJ2_grow cJ2_grow 4 (some (.array (.object "java/lang/Object"))) 1 := ⟨⟨TJ2, 3, rfl⟩, q731, q733, qs2, q136, q734, by decide, by decide, by decide, by decide +kernel⟩
theorem vc_X0_123 : VCm RX0 123 0 yX0_done cX0_done 2 (some (.int)) 1 := ⟨⟨TX0, 39, rfl⟩, q753, q755, qs3, q132, q756, by decide, by decide, by decide, by decide +kernel⟩
theorem vc_X0_131 : VCm RX0 131 0 yX0_refuse cX0_refuse 2 (some (.int)) 1 := ⟨⟨TX0, 39, rfl⟩, q658, q660, qs1, q132, q661, by decide, by decide, by decide, by decide +kernel⟩
theorem vc_X0_134 : VCm RX0 134 1 yX1_takes cX1_takes 2 none 1 := ⟨⟨TX1, 27, rfl⟩, q662, q663, q664, q133, q665, by decide, by decide, by decide, by decide +kernel⟩
theorem vc_X0_138 : VCm RX0 138 0 yX0_told cX0_told 2 (some (.int)) 1 := ⟨⟨TX0, 39, rfl⟩, q761, q763, qs4, q132, q764, by decide, by decide, by decide, by decide +kernel⟩
theorem vc_X0_148 : VCm RX0 148 2 yJ2_size cJ2_size 1 (some (.int)) 0 := ⟨⟨TJ2, 3, rfl⟩, q786, q787, q788, q136, q789, by decide, by decide, by decide, by decide +kernel⟩
theorem vc_X0_178 : VCm RX0 178 2 yJ2_add cJ2_add 2 (some (.boolean)) 1 := ⟨⟨TJ2, 3, rfl⟩, q824, q825, q826, q136, q827, by decide, by decide, by decide, by decide +kernel⟩
theorem vc_X0_204 : VCm RX0 204 0 yX0_isPlace cX0_isPlace 2 (some (.boolean)) 1 := ⟨⟨TX0, 39, rfl⟩, q782, q784, qs5, q132, q785, by decide, by decide, by decide, by decide +kernel⟩
theorem vc_X0_207 : VCm RX0 207 0 yX0_adds cX0_adds 8 (some (.int)) 6 := ⟨⟨TX0, 39, rfl⟩, q790, q792, qs6, q132, q793, by decide, by decide, by decide, by decide +kernel⟩
theorem vc_X0_226 : VCm RX0 226 0 yX0_isName cX0_isName 2 (some (.boolean)) 1 := ⟨⟨TX0, 39, rfl⟩, q919, q921, qs10, q132, q922, by decide, by decide, by decide, by decide +kernel⟩
theorem vc_X0_232 : VCm RX0 232 2 yJ2_get cJ2_get 2 (some (.object "java/lang/Object")) 1 := ⟨⟨TJ2, 3, rfl⟩, q927, q928, q929, q136, q930, by decide, by decide, by decide, by decide +kernel⟩
theorem vc_X0_257 : VCm RX0 257 0 yX0_hasMoved cX0_hasMoved 4 (some (.boolean)) 3 := ⟨⟨TX0, 39, rfl⟩, q969, q971, qs12, q132, q972, by decide, by decide, by decide, by decide +kernel⟩
theorem vc_X0_263 : VCm RX0 263 0 yX0_placeOf cX0_placeOf 4 (some (.int)) 3 := ⟨⟨TX0, 39, rfl⟩, q965, q967, qs11, q132, q968, by decide, by decide, by decide, by decide +kernel⟩
theorem vc_X0_267 : VCm RX0 267 0 yX0_likeOf cX0_likeOf 7 (some (.int)) 2 := ⟨⟨TX0, 39, rfl⟩, q977, q979, qs13, q132, q980, by decide, by decide, by decide, by decide +kernel⟩
theorem vc_X0_288 : VCm RX0 288 0 yX0_four cX0_four 3 none 1 := ⟨⟨TX0, 39, rfl⟩, q1023, q1025, qs14, q132, q1026, by decide, by decide, by decide, by decide +kernel⟩
theorem vc_X0_317 : VCm RX0 317 3 yX2_looks cX2_looks 3 none 1 := ⟨⟨TX2, 5, rfl⟩, q1407, q1408, q1409, q137, q1410, by decide, by decide, by decide, by decide +kernel⟩
theorem vc_X0_335 : VCm RX0 335 4 yX3_empties cX3_empties 2 none 0 := ⟨⟨TX3, 3, rfl⟩, q1439, q1440, q1441, q138, q1442, by decide, by decide, by decide, by decide +kernel⟩
theorem vc_X0_341 : VCm RX0 341 0 yX0_asks cX0_asks 2 none 1 := ⟨⟨TX0, 39, rfl⟩, q1514, q1437, qs36, q132, q1438, by decide, by decide, by decide, by decide +kernel⟩
theorem vc_X0_347 : VCm RX0 347 6 yX5_looks cX5_looks 4 none 2 := ⟨⟨TX5, 7, rfl⟩, q1423, q1424, q1425, q142, q1426, by decide, by decide, by decide, by decide +kernel⟩
theorem vc_X0_353 : VCm RX0 353 0 yX0_areBarred cX0_areBarred 4 (some (.boolean)) 2 := ⟨⟨TX0, 39, rfl⟩, q1502, q1504, qs38, q132, q1505, by decide, by decide, by decide, by decide +kernel⟩
theorem vc_X0_361 : VCm RX0 361 0 yX0_asksPlace cX0_asksPlace 3 none 2 := ⟨⟨TX0, 39, rfl⟩, q1526, q1528, qs41, q132, q1529, by decide, by decide, by decide, by decide +kernel⟩
theorem vc_X0_364 : VCm RX0 364 0 yX0_last cX0_last 11 (some (.long)) 3 := ⟨⟨TX0, 39, rfl⟩, q1515, q1447, qs37, q132, q1448, by decide, by decide, by decide, by decide +kernel⟩
theorem vc_X0_372 : VCm RX0 372 0 yX0_fewOn cX0_fewOn 2 (some (.int)) 1 := ⟨⟨TX0, 39, rfl⟩, q1510, q1512, qs39, q132, q1513, by decide, by decide, by decide, by decide +kernel⟩
theorem vc_X0_375 : VCm RX0 375 0 yX0_ruleOf cX0_ruleOf 5 (some (.int)) 4 := ⟨⟨TX0, 39, rfl⟩, q1522, q1524, qs40, q132, q1525, by decide, by decide, by decide, by decide +kernel⟩
theorem vc_X0_385 : VCm RX0 385 1 yX1_far cX1_far 3 (some (.int)) 2 := ⟨⟨TX1, 27, rfl⟩, q1564, q1565, q1566, q133, q1567, by decide, by decide, by decide, by decide +kernel⟩
theorem vc_X0_387 : VCm RX0 387 0 yX0_leads cX0_leads 7 none 3 := ⟨⟨TX0, 39, rfl⟩, q1560, q1562, qs45, q132, q1563, by decide, by decide, by decide, by decide +kernel⟩
theorem vc_X0_391 : VCm RX0 391 0 yX0_areThere cX0_areThere 2 (some (.boolean)) 0 := ⟨⟨TX0, 39, rfl⟩, q1542, q1544, qs42, q132, q1545, by decide, by decide, by decide, by decide +kernel⟩
theorem vc_X0_395 : VCm RX0 395 0 yX0_lays cX0_lays 4 none 2 := ⟨⟨TX0, 39, rfl⟩, q1546, q1548, qs43, q132, q1549, by decide, by decide, by decide, by decide +kernel⟩
theorem vc_X0_403 : VCm RX0 403 0 yX0_sumOf cX0_sumOf 3 (some (.int)) 1 := ⟨⟨TX0, 39, rfl⟩, q1556, q1558, qs44, q132, q1559, by decide, by decide, by decide, by decide +kernel⟩
theorem vc_X0_416 : VCm RX0 416 0 yX0_isBooth cX0_isBooth 2 (some (.boolean)) 1 := ⟨⟨TX0, 39, rfl⟩, q1586, q1588, qs46, q132, q1589, by decide, by decide, by decide, by decide +kernel⟩
theorem vc_X0_425 : VCm RX0 425 0 yX0_isBox cX0_isBox 2 (some (.boolean)) 1 := ⟨⟨TX0, 39, rfl⟩, q1594, q1596, qs47, q132, q1597, by decide, by decide, by decide, by decide +kernel⟩
theorem vc_X0_437 : VCm RX0 437 0 yX0_handed cX0_handed 9 (some (.object "FirstPolls$Note")) 4 := ⟨⟨TX0, 39, rfl⟩, q1602, q1604, qs48, q132, q1605, by decide, by decide, by decide, by decide +kernel⟩
theorem vc_X0_444 : VCm RX0 444 0 yX0_breaks cX0_breaks 6 (some (.int)) 2 := ⟨⟨TX0, 39, rfl⟩, q1610, q1612, qs49, q132, q1613, by decide, by decide, by decide, by decide +kernel⟩
theorem vc_X0_458 : VCm RX0 458 7 yX6_looks cX6_looks 6 none 2 := ⟨⟨TX6, 10, rfl⟩, q1628, q1629, q1630, q143, q1631, by decide, by decide, by decide, by decide +kernel⟩
theorem vc_X0_464 : VCm RX0 464 7 yX6_lost cX6_lost 2 (some (.int)) 1 := ⟨⟨TX6, 10, rfl⟩, q1656, q1651, q1652, q143, q1653, by decide, by decide, by decide, by decide +kernel⟩
theorem vc_X0_470 : VCm RX0 470 7 yX6_validOf cX6_validOf 4 (some (.int)) 1 := ⟨⟨TX6, 10, rfl⟩, q1657, q1658, q1659, q143, q1660, by decide, by decide, by decide, by decide +kernel⟩
theorem vc_X0_476 : VCm RX0 476 0 yX0_seatOf cX0_seatOf 2 (some (.int)) 1 := ⟨⟨TX0, 39, rfl⟩, q1673, q1675, qs54, q132, q1676, by decide, by decide, by decide, by decide +kernel⟩
theorem vc_X0_490 : VCm RX0 490 0 yX0_reckons cX0_reckons 6 none 1 := ⟨⟨TX0, 39, rfl⟩, q1669, q1671, qs53, q132, q1672, by decide, by decide, by decide, by decide +kernel⟩
theorem vc_X0_493 : VCm RX0 493 0 yX0_doesHang cX0_doesHang 7 (some (.boolean)) 1 := ⟨⟨TX0, 39, rfl⟩, q1678, q1680, qs55, q132, q1681, by decide, by decide, by decide, by decide +kernel⟩
theorem vc_X0_496 : VCm RX0 496 0 yX0_mayTell cX0_mayTell 5 (some (.boolean)) 2 := ⟨⟨TX0, 39, rfl⟩, q1690, q1692, qs57, q132, q1693, by decide, by decide, by decide, by decide +kernel⟩
theorem vc_X0_499 : VCm RX0 499 0 yX0_hides cX0_hides 8 none 2 := ⟨⟨TX0, 39, rfl⟩, q1686, q1688, qs56, q132, q1689, by decide, by decide, by decide, by decide +kernel⟩
theorem vc_X0_513 : VCm RX0 513 0 yX0_daysOf cX0_daysOf 3 (some (.int)) 2 := ⟨⟨TX0, 39, rfl⟩, q1715, q1717, qs59, q132, q1718, by decide, by decide, by decide, by decide +kernel⟩
theorem vc_X0_516 : VCm RX0 516 0 yX0_goes cX0_goes 7 none 4 := ⟨⟨TX0, 39, rfl⟩, q1711, q1713, qs58, q132, q1714, by decide, by decide, by decide, by decide +kernel⟩
theorem vc_X0_542 : VCm RX0 542 0 yX0_isOf cX0_isOf 3 (some (.boolean)) 2 := ⟨⟨TX0, 39, rfl⟩, q1743, q1745, qs61, q132, q1746, by decide, by decide, by decide, by decide +kernel⟩
theorem vc_X0_545 : VCm RX0 545 0 yX0_adds_2 cX0_adds_2 3 none 1 := ⟨⟨TX0, 39, rfl⟩, q1739, q1741, qs60, q132, q1742, by decide, by decide, by decide, by decide +kernel⟩
theorem vc_X13_171 : VCm RX13 171 15 yX13_flag cX13_flag 1 (some (.int)) 0 := ⟨⟨TX13, 7, rfl⟩, q1309, q1311, qs33, q160, q1312, by decide, by decide, by decide, by decide +kernel⟩
theorem vc_X13_241 : VCm RX13 241 15 yX13_value cX13_value 1 (some (.int)) 0 := ⟨⟨TX13, 7, rfl⟩, q1244, q1246, qs28, q160, q1247, by decide, by decide, by decide, by decide +kernel⟩
theorem vc_X13_34 : VCm RX13 34 15 yX13_isIn cX13_isIn 4 (some (.boolean)) 3 := ⟨⟨TX13, 7, rfl⟩, q1075, q1077, qs16, q160, q1078, by decide, by decide, by decide, by decide +kernel⟩
theorem vc_X13_38 : VCm RX13 38 26 yJ11_length cJ11_length 1 (some (.int)) 0 := ⟨⟨TJ11, 2, rfl⟩, q1112, q1113, q1114, q156, q1115, by decide, by decide, by decide, by decide +kernel⟩
theorem vc_X13_44 : VCm RX13 44 26 yJ11_charAt cJ11_charAt 2 (some (.char)) 1 := ⟨⟨TJ11, 2, rfl⟩, q1122, q1123, q1124, q156, q1125, by decide, by decide, by decide, by decide +kernel⟩
theorem vc_X13_48 : VCm RX13 48 15 yX13_is cX13_is 3 (some (.boolean)) 1 := ⟨⟨TX13, 7, rfl⟩, q1108, q1110, qs19, q160, q1111, by decide, by decide, by decide, by decide +kernel⟩
theorem vc_X13_52 : VCm RX13 52 15 yX13_next cX13_next 1 none 0 := ⟨⟨TX13, 7, rfl⟩, q1071, q1073, qs15, q160, q1074, by decide, by decide, by decide, by decide +kernel⟩
theorem vc_X13_55 : VCm RX13 55 15 yX13_takes cX13_takes 3 (some (.boolean)) 1 := ⟨⟨TX13, 7, rfl⟩, q1104, q1106, qs18, q160, q1107, by decide, by decide, by decide, by decide +kernel⟩
theorem vc_X13_66 : VCm RX13 66 2 yJ2_size cJ2_size 1 (some (.int)) 0 := ⟨⟨TJ2, 3, rfl⟩, q1083, q787, q788, q136, q789, by decide, by decide, by decide, by decide +kernel⟩
theorem vc_X13_84 : VCm RX13 84 2 yJ2_add cJ2_add 2 (some (.boolean)) 1 := ⟨⟨TJ2, 3, rfl⟩, q1196, q825, q826, q136, q827, by decide, by decide, by decide, by decide +kernel⟩
theorem vc_X1_90 : VCm RX1 90 2 yJ2_clear cJ2_clear 4 none 0 := ⟨⟨TJ2, 3, rfl⟩, q669, q670, q671, q136, q672, by decide, by decide, by decide, by decide +kernel⟩
theorem vc_X1_93 : VCm RX1 93 2 yJ2_addAll cJ2_addAll 6 (some (.boolean)) 1 := ⟨⟨TJ2, 3, rfl⟩, q673, q674, q675, q136, q676, by decide, by decide, by decide, by decide +kernel⟩
theorem vc_X24_22 : VCm RX24 22 2 yJ2_size cJ2_size 1 (some (.int)) 0 := ⟨⟨TJ2, 3, rfl⟩, q1486, q787, q788, q136, q789, by decide, by decide, by decide, by decide +kernel⟩
theorem vc_X24_26 : VCm RX24 26 2 yJ2_get cJ2_get 2 (some (.object "java/lang/Object")) 1 := ⟨⟨TJ2, 3, rfl⟩, q1487, q928, q929, q136, q930, by decide, by decide, by decide, by decide +kernel⟩
theorem vc_X2_40 : VCm RX2 40 2 yJ2_size cJ2_size 1 (some (.int)) 0 := ⟨⟨TJ2, 3, rfl⟩, q1411, q787, q788, q136, q789, by decide, by decide, by decide, by decide +kernel⟩
theorem vc_X2_46 : VCm RX2 46 2 yJ2_get cJ2_get 2 (some (.object "java/lang/Object")) 1 := ⟨⟨TJ2, 3, rfl⟩, q1412, q928, q929, q136, q930, by decide, by decide, by decide, by decide +kernel⟩
theorem vc_X2_55 : VCm RX2 55 3 yX2_goes cX2_goes 5 none 1 := ⟨⟨TX2, 5, rfl⟩, q1414, q1416, qs34, q137, q1417, by decide, by decide, by decide, by decide +kernel⟩
theorem vc_X5_47 : VCm RX5 47 2 yJ2_size cJ2_size 1 (some (.int)) 0 := ⟨⟨TJ2, 3, rfl⟩, q1427, q787, q788, q136, q789, by decide, by decide, by decide, by decide +kernel⟩
theorem vc_X5_57 : VCm RX5 57 6 yX5_isOn cX5_isOn 5 (some (.boolean)) 3 := ⟨⟨TX5, 7, rfl⟩, q1429, q1431, qs35, q142, q1432, by decide, by decide, by decide, by decide +kernel⟩
theorem vc_X5_61 : VCm RX5 61 2 yJ2_get cJ2_get 2 (some (.object "java/lang/Object")) 1 := ⟨⟨TJ2, 3, rfl⟩, q1433, q928, q929, q136, q930, by decide, by decide, by decide, by decide +kernel⟩
theorem vc_X6_109 : VCm RX6 109 7 yX6_isLast cX6_isLast 6 (some (.boolean)) 2 := ⟨⟨TX6, 10, rfl⟩, q1641, q1643, qs51, q143, q1644, by decide, by decide, by decide, by decide +kernel⟩
theorem vc_X6_116 : VCm RX6 116 7 yX6_asksAll cX6_asksAll 3 none 1 := ⟨⟨TX6, 10, rfl⟩, q1645, q1647, qs52, q143, q1648, by decide, by decide, by decide, by decide +kernel⟩
theorem vc_X6_135 : VCm RX6 135 7 yX6_lost cX6_lost 2 (some (.int)) 1 := ⟨⟨TX6, 10, rfl⟩, q1650, q1651, q1652, q143, q1653, by decide, by decide, by decide, by decide +kernel⟩
theorem vc_X6_49 : VCm RX6 49 6 yX5_looks cX5_looks 4 none 2 := ⟨⟨TX5, 7, rfl⟩, q1632, q1424, q1425, q142, q1426, by decide, by decide, by decide, by decide +kernel⟩
theorem vc_X6_65 : VCm RX6 65 7 yX6_empties cX6_empties 3 none 1 := ⟨⟨TX6, 10, rfl⟩, q1633, q1635, qs50, q143, q1636, by decide, by decide, by decide, by decide +kernel⟩
theorem vc_X6_72 : VCm RX6 72 2 yJ2_size cJ2_size 1 (some (.int)) 0 := ⟨⟨TJ2, 3, rfl⟩, q1637, q787, q788, q136, q789, by decide, by decide, by decide, by decide +kernel⟩
theorem vc_X6_78 : VCm RX6 78 2 yJ2_get cJ2_get 2 (some (.object "java/lang/Object")) 1 := ⟨⟨TJ2, 3, rfl⟩, q1638, q928, q929, q136, q930, by decide, by decide, by decide, by decide +kernel⟩
theorem vx_X0_222 : VCx RX0 222 0 yX0_reads 3 := ⟨⟨TX0, 39, rfl⟩, q877, q879, qs9, by decide, by decide, by decide +kernel⟩
theorem vx_X0_300 : VCx RX0 300 15 yX13_read 0 := ⟨⟨TX13, 7, rfl⟩, q1067, q1068, q1069, by decide, by decide, by decide +kernel⟩
theorem vx_X0_331 : VCx RX0 331 17 yX15_tells 1 := ⟨⟨TX15, 5, rfl⟩, q1451, q1452, q1453, by decide, by decide, by decide +kernel⟩
theorem vx_X13_116 : VCx RX13 116 15 yX13_sum 0 := ⟨⟨TX13, 7, rfl⟩, q1208, q1210, qs23, by decide, by decide, by decide +kernel⟩
theorem vx_X13_123 : VCx RX13 123 15 yX13_both 0 := ⟨⟨TX13, 7, rfl⟩, q1294, q1296, qs30, by decide, by decide, by decide +kernel⟩
theorem vx_X13_136 : VCx RX13 136 15 yX13_plain 0 := ⟨⟨TX13, 7, rfl⟩, q1298, q1300, qs31, by decide, by decide, by decide +kernel⟩
theorem vx_X13_146 : VCx RX13 146 15 yX13_positive 0 := ⟨⟨TX13, 7, rfl⟩, q1303, q1305, qs32, by decide, by decide, by decide +kernel⟩
theorem vx_X13_166 : VCx RX13 166 15 yX13_opens 0 := ⟨⟨TX13, 7, rfl⟩, q1221, q1223, qs26, by decide, by decide, by decide +kernel⟩
theorem vx_X13_174 : VCx RX13 174 15 yX13_leaf 0 := ⟨⟨TX13, 7, rfl⟩, q1226, q1228, qs27, by decide, by decide, by decide +kernel⟩
theorem vx_X13_191 : VCx RX13 191 15 yX13_term 0 := ⟨⟨TX13, 7, rfl⟩, q1212, q1214, qs24, by decide, by decide, by decide +kernel⟩
theorem vx_X13_201 : VCx RX13 201 15 yX13_part 0 := ⟨⟨TX13, 7, rfl⟩, q1216, q1218, qs25, by decide, by decide, by decide +kernel⟩
theorem vx_X13_61 : VCx RX13 61 15 yX13_clause 0 := ⟨⟨TX13, 7, rfl⟩, q1079, q1081, qs17, by decide, by decide, by decide +kernel⟩
theorem vx_X13_70 : VCx RX13 70 15 yX13_number 2 := ⟨⟨TX13, 7, rfl⟩, q1158, q1160, qs20, by decide, by decide, by decide +kernel⟩
theorem vx_X13_75 : VCx RX13 75 15 yX13_need 1 := ⟨⟨TX13, 7, rfl⟩, q1163, q1165, qs21, by decide, by decide, by decide +kernel⟩
theorem vx_X13_88 : VCx RX13 88 15 yX13_head 0 := ⟨⟨TX13, 7, rfl⟩, q1197, q1199, qs22, by decide, by decide, by decide +kernel⟩
theorem vx_X13_94 : VCx RX13 94 15 yX13_test 0 := ⟨⟨TX13, 7, rfl⟩, q1290, q1292, qs29, by decide, by decide, by decide +kernel⟩
