set_option maxRecDepth 100000
set_option maxHeartbeats 4000000 in
theorem mC_J0_init_ok (l : Launch) (D : DD) (w : AH) (a : Nat) (hf : mC_J0_init a w = some ()) : MA l D yJ0_init cJ0_init 1 none 1 [.ref a] w (.returned none) w := by
  refine MA.introH (own := RJ0) (nm := "<init>") (ls := [some (.ref a)]) (by decide) rfl rfl (Nat.le_of_ble_eq_true rfl) rfl (fun X hl hD hE hH => ?_)
  subst hl hD
  unfold mC_J0_init at hf
  refine V_aload_n dJ0_init_0 rfl ?_
  refine V_objInit q201 q182 q183 (by decide) (Nat.le_of_ble_eq_true rfl) dJ0_init_1 ?_
  exact V_vret hE dJ0_init_4
set_option maxHeartbeats 4000000 in
theorem mC_J1_init_ok (l : Launch) (D : DD) (w : AH) (a : Nat) (w' : AH) (hf : mC_J1_init a w = some w') : MA l D yJ1_init cJ1_init 1 none 2 [.ref a] w (.returned none) w' := by
  refine MA.introH (own := RJ1) (nm := "<init>") (ls := [some (.ref a)]) (by decide) rfl rfl (Nat.le_of_ble_eq_true rfl) rfl (fun X hl hD hE hH => ?_)
  subst hl hD
  unfold mC_J1_init at hf
  refine V_aload_n dJ1_init_0 rfl ?_
  obtain ⟨r2, hc1, hf⟩ := bd1_ex hf
  refine V_cI (av := []) (rest := []) (st' := []) (mC_J0_init_ok _ _ _ _ hc1) ic_J1_1 (by decide) rfl rfl (Nat.le_of_ble_eq_true rfl) dJ1_init_1 rfl ?_
  refine V_aload_n dJ1_init_4 rfl ?_
  refine V_iconst dJ1_init_5 ckc_0 ?_
  obtain ⟨h3, hf⟩ := ck_ex hf
  obtain ⟨w4, hs5, hf⟩ := st1_ex hf
  refine VE_putI fw_J1_7 h3 rfl rfl rfl hs5 dJ1_init_6 ?_
  cases some_ex hf
  exact V_vret hE dJ1_init_9
set_option maxHeartbeats 4000000 in
theorem mC_J2_init_ok (l : Launch) (D : DD) (w : AH) (a : Nat) (p0 : Int32) (w' : AH) (hf : mC_J2_init a p0 w = some w') : MA l D yJ2_init cJ2_init 2 none 3 [.ref a, .int p0] w (.returned none) w' := by
  refine MA.introH (own := RJ2) (nm := "<init>") (ls := [some (.ref a), some (.int p0)]) (by decide) rfl rfl (Nat.le_of_ble_eq_true rfl) rfl (fun X hl hD hE hH => ?_)
  subst hl hD
  unfold mC_J2_init at hf
  refine V_aload_n dJ2_init_0 rfl ?_
  obtain ⟨w2, hc1, hf⟩ := bd1_ex hf
  refine V_cI (av := []) (rest := []) (st' := []) (mC_J1_init_ok _ _ _ _ _ hc1) ic_J2_1 (by decide) rfl rfl (Nat.le_of_ble_eq_true rfl) dJ2_init_1 rfl ?_
  refine V_iload_n dJ2_init_4 rfl ?_
  refine V_if_le (tgt := 19) dJ2_init_5 (by decide) (fun hc3 => ?_) (fun hc3 => ?_)
  · have hf := if_t hf hc3
    refine V_iload_n dJ2_init_19 rfl ?_
    refine V_if_ne (tgt := 33) dJ2_init_20 (by decide) (fun hc4 => ?_) (fun hc4 => ?_)
    · have hf := if_f hf hc4
      cases hf
    · have hf := if_t hf hc4
      refine V_aload_n dJ2_init_23 rfl ?_
      cases hf
  · have hf := if_f hf hc3
    refine V_aload_n dJ2_init_8 rfl ?_
    refine V_iload_n dJ2_init_9 rfl ?_
    obtain ⟨h5, hf⟩ := ck_ex hf
    obtain ⟨b6, hb7, hf⟩ := st1_ex hf
    obtain ⟨w8, hs9, hf⟩ := st1_ex hf
    refine VE_anew (k := 5) (by decide) q202 h5 rfl hb7 hs9 dJ2_init_10 ?_
    obtain ⟨h10, hf⟩ := ck_ex hf
    obtain ⟨w11, hs12, hf⟩ := st1_ex hf
    refine VE_putR (x := (some b6)) fw_J2_9 h10 rfl hs12 dJ2_init_13 ?_
    refine V_goto (tgt := 60) dJ2_init_16 (by decide) ?_
    cases some_ex hf
    exact V_vret hE dJ2_init_60
set_option maxHeartbeats 4000000 in
theorem mC_X1_init_ok (l : Launch) (D : DD) (w : AH) (a : Nat) (w' : AH) (hf : mC_X1_init a w = some w') : MA l D yX1_init cX1_init 1 none 4 [.ref a] w (.returned none) w' := by
  refine MA.introH (own := RX1) (nm := "<init>") (ls := [some (.ref a)]) (by decide) rfl rfl (Nat.le_of_ble_eq_true rfl) rfl (fun X hl hD hE hH => ?_)
  subst hl hD
  unfold mC_X1_init at hf
  refine V_aload_n dX1_init_0 rfl ?_
  refine V_objInit q189 q182 q183 (by decide) (Nat.le_of_ble_eq_true rfl) dX1_init_1 ?_
  refine V_aload_n dX1_init_4 rfl ?_
  obtain ⟨h1, hf⟩ := ck_ex hf
  obtain ⟨b2, hb3, hf⟩ := st1_ex hf
  obtain ⟨w4, hs5, hf⟩ := st1_ex hf
  refine VE_new clJ2 q190 q191 q136 ok_J2 h1 hb3 hs5 dX1_init_5 ?_
  refine V_dup dX1_init_8 rfl ?_
  refine V_iconst dX1_init_9 ckc_4 ?_
  obtain ⟨w7, hc6, hf⟩ := bd1_ex hf
  refine V_cI (av := [.int (4 : Int32)]) (rest := [.ref b2, .ref a]) (st' := [.ref b2, .ref a]) (mC_J2_init_ok _ _ _ _ _ _ hc6) ic_X1_11 (by decide) rfl rfl (Nat.le_of_ble_eq_true rfl) dX1_init_10 rfl ?_
  obtain ⟨h8, hf⟩ := ck_ex hf
  obtain ⟨w9, hs10, hf⟩ := st1_ex hf
  refine VE_putRF (x := (some b2)) ff_X1_14 h8 hE.ini rfl hs10 dX1_init_13 ?_
  refine V_aload_n dX1_init_16 rfl ?_
  obtain ⟨h11, hf⟩ := ck_ex hf
  obtain ⟨b12, hb13, hf⟩ := st1_ex hf
  obtain ⟨w14, hs15, hf⟩ := st1_ex hf
  refine VE_new clJ2 q190 q191 q136 ok_J2 h11 hb13 hs15 dX1_init_17 ?_
  refine V_dup dX1_init_20 rfl ?_
  refine V_bipush dX1_init_21 ckb_8 ?_
  obtain ⟨w17, hc16, hf⟩ := bd1_ex hf
  refine V_cI (av := [.int (8 : Int32)]) (rest := [.ref b12, .ref a]) (st' := [.ref b12, .ref a]) (mC_J2_init_ok _ _ _ _ _ _ hc16) ic_X1_11 (by decide) rfl rfl (Nat.le_of_ble_eq_true rfl) dX1_init_23 rfl ?_
  obtain ⟨h18, hf⟩ := ck_ex hf
  obtain ⟨w19, hs20, hf⟩ := st1_ex hf
  refine VE_putRF (x := (some b12)) ff_X1_20 h18 hE.ini rfl hs20 dX1_init_26 ?_
  refine V_aload_n dX1_init_29 rfl ?_
  obtain ⟨h21, hf⟩ := ck_ex hf
  obtain ⟨b22, hb23, hf⟩ := st1_ex hf
  obtain ⟨w24, hs25, hf⟩ := st1_ex hf
  refine VE_new clJ2 q190 q191 q136 ok_J2 h21 hb23 hs25 dX1_init_30 ?_
  refine V_dup dX1_init_33 rfl ?_
  refine V_iconst dX1_init_34 ckc_4 ?_
  obtain ⟨w27, hc26, hf⟩ := bd1_ex hf
  refine V_cI (av := [.int (4 : Int32)]) (rest := [.ref b22, .ref a]) (st' := [.ref b22, .ref a]) (mC_J2_init_ok _ _ _ _ _ _ hc26) ic_X1_11 (by decide) rfl rfl (Nat.le_of_ble_eq_true rfl) dX1_init_35 rfl ?_
  obtain ⟨h28, hf⟩ := ck_ex hf
  obtain ⟨w29, hs30, hf⟩ := st1_ex hf
  refine VE_putRF (x := (some b22)) ff_X1_23 h28 hE.ini rfl hs30 dX1_init_38 ?_
  refine V_aload_n dX1_init_41 rfl ?_
  obtain ⟨h31, hf⟩ := ck_ex hf
  obtain ⟨b32, hb33, hf⟩ := st1_ex hf
  obtain ⟨w34, hs35, hf⟩ := st1_ex hf
  refine VE_new clJ2 q190 q191 q136 ok_J2 h31 hb33 hs35 dX1_init_42 ?_
  refine V_dup dX1_init_45 rfl ?_
  refine V_iconst dX1_init_46 ckc_4 ?_
  obtain ⟨w37, hc36, hf⟩ := bd1_ex hf
  refine V_cI (av := [.int (4 : Int32)]) (rest := [.ref b32, .ref a]) (st' := [.ref b32, .ref a]) (mC_J2_init_ok _ _ _ _ _ _ hc36) ic_X1_11 (by decide) rfl rfl (Nat.le_of_ble_eq_true rfl) dX1_init_47 rfl ?_
  obtain ⟨h38, hf⟩ := ck_ex hf
  obtain ⟨w39, hs40, hf⟩ := st1_ex hf
  refine VE_putRF (x := (some b32)) ff_X1_26 h38 hE.ini rfl hs40 dX1_init_50 ?_
  refine V_aload_n dX1_init_53 rfl ?_
  obtain ⟨h41, hf⟩ := ck_ex hf
  obtain ⟨b42, hb43, hf⟩ := st1_ex hf
  obtain ⟨w44, hs45, hf⟩ := st1_ex hf
  refine VE_new clJ2 q190 q191 q136 ok_J2 h41 hb43 hs45 dX1_init_54 ?_
  refine V_dup dX1_init_57 rfl ?_
  refine V_iconst dX1_init_58 ckc_4 ?_
  obtain ⟨w47, hc46, hf⟩ := bd1_ex hf
  refine V_cI (av := [.int (4 : Int32)]) (rest := [.ref b42, .ref a]) (st' := [.ref b42, .ref a]) (mC_J2_init_ok _ _ _ _ _ _ hc46) ic_X1_11 (by decide) rfl rfl (Nat.le_of_ble_eq_true rfl) dX1_init_59 rfl ?_
  obtain ⟨h48, hf⟩ := ck_ex hf
  obtain ⟨w49, hs50, hf⟩ := st1_ex hf
  refine VE_putRF (x := (some b42)) ff_X1_29 h48 hE.ini rfl hs50 dX1_init_62 ?_
  refine V_aload_n dX1_init_65 rfl ?_
  obtain ⟨h51, hf⟩ := ck_ex hf
  obtain ⟨b52, hb53, hf⟩ := st1_ex hf
  obtain ⟨w54, hs55, hf⟩ := st1_ex hf
  refine VE_new clJ2 q190 q191 q136 ok_J2 h51 hb53 hs55 dX1_init_66 ?_
  refine V_dup dX1_init_69 rfl ?_
  refine V_iconst dX1_init_70 ckc_4 ?_
  obtain ⟨w57, hc56, hf⟩ := bd1_ex hf
  refine V_cI (av := [.int (4 : Int32)]) (rest := [.ref b52, .ref a]) (st' := [.ref b52, .ref a]) (mC_J2_init_ok _ _ _ _ _ _ hc56) ic_X1_11 (by decide) rfl rfl (Nat.le_of_ble_eq_true rfl) dX1_init_71 rfl ?_
  obtain ⟨h58, hf⟩ := ck_ex hf
  obtain ⟨w59, hs60, hf⟩ := st1_ex hf
  refine VE_putRF (x := (some b52)) ff_X1_32 h58 hE.ini rfl hs60 dX1_init_74 ?_
  refine V_aload_n dX1_init_77 rfl ?_
  refine V_bipush dX1_init_78 ckb_16 ?_
  obtain ⟨h61, hf⟩ := ck_ex hf
  obtain ⟨b62, hb63, hf⟩ := st1_ex hf
  obtain ⟨w64, hs65, hf⟩ := st1_ex hf
  refine VE_newa (k := 1) rfl (by decide) (by decide) ac_1 rfl h61 (by decide) hb63 hs65 dX1_init_80 ?_
  obtain ⟨h66, hf⟩ := ck_ex hf
  obtain ⟨w67, hs68, hf⟩ := st1_ex hf
  refine VE_putRF (x := (some b62)) ff_X1_35 h66 hE.ini rfl hs68 dX1_init_82 ?_
  refine V_aload_n dX1_init_85 rfl ?_
  refine V_bipush dX1_init_86 ckb_16 ?_
  obtain ⟨h69, hf⟩ := ck_ex hf
  obtain ⟨b70, hb71, hf⟩ := st1_ex hf
  obtain ⟨w72, hs73, hf⟩ := st1_ex hf
  refine VE_newa (k := 1) rfl (by decide) (by decide) ac_1 rfl h69 (by decide) hb71 hs73 dX1_init_88 ?_
  obtain ⟨h74, hf⟩ := ck_ex hf
  obtain ⟨w75, hs76, hf⟩ := st1_ex hf
  refine VE_putRF (x := (some b70)) ff_X1_39 h74 hE.ini rfl hs76 dX1_init_90 ?_
  refine V_aload_n dX1_init_93 rfl ?_
  refine V_bipush dX1_init_94 ckb_16 ?_
  obtain ⟨h77, hf⟩ := ck_ex hf
  obtain ⟨b78, hb79, hf⟩ := st1_ex hf
  obtain ⟨w80, hs81, hf⟩ := st1_ex hf
  refine VE_newa (k := 1) rfl (by decide) (by decide) ac_1 rfl h77 (by decide) hb79 hs81 dX1_init_96 ?_
  obtain ⟨h82, hf⟩ := ck_ex hf
  obtain ⟨w83, hs84, hf⟩ := st1_ex hf
  refine VE_putRF (x := (some b78)) ff_X1_42 h82 hE.ini rfl hs84 dX1_init_98 ?_
  refine V_aload_n dX1_init_101 rfl ?_
  refine V_sipush dX1_init_102 cks_200 ?_
  obtain ⟨h85, hf⟩ := ck_ex hf
  obtain ⟨b86, hb87, hf⟩ := st1_ex hf
  obtain ⟨w88, hs89, hf⟩ := st1_ex hf
  refine VE_newa (k := 1) rfl (by decide) (by decide) ac_1 rfl h85 (by decide) hb87 hs89 dX1_init_105 ?_
  obtain ⟨h90, hf⟩ := ck_ex hf
  obtain ⟨w91, hs92, hf⟩ := st1_ex hf
  refine VE_putRF (x := (some b86)) ff_X1_45 h90 hE.ini rfl hs92 dX1_init_107 ?_
  refine V_aload_n dX1_init_110 rfl ?_
  refine V_sipush dX1_init_111 cks_200 ?_
  obtain ⟨h93, hf⟩ := ck_ex hf
  obtain ⟨b94, hb95, hf⟩ := st1_ex hf
  obtain ⟨w96, hs97, hf⟩ := st1_ex hf
  refine VE_newa (k := 1) rfl (by decide) (by decide) ac_1 rfl h93 (by decide) hb95 hs97 dX1_init_114 ?_
  obtain ⟨h98, hf⟩ := ck_ex hf
  obtain ⟨w99, hs100, hf⟩ := st1_ex hf
  refine VE_putRF (x := (some b94)) ff_X1_48 h98 hE.ini rfl hs100 dX1_init_116 ?_
  refine V_aload_n dX1_init_119 rfl ?_
  refine V_sipush dX1_init_120 cks_200 ?_
  obtain ⟨h101, hf⟩ := ck_ex hf
  obtain ⟨b102, hb103, hf⟩ := st1_ex hf
  obtain ⟨w104, hs105, hf⟩ := st1_ex hf
  refine VE_newa (k := 1) rfl (by decide) (by decide) ac_1 rfl h101 (by decide) hb103 hs105 dX1_init_123 ?_
  obtain ⟨h106, hf⟩ := ck_ex hf
  obtain ⟨w107, hs108, hf⟩ := st1_ex hf
  refine VE_putRF (x := (some b102)) ff_X1_51 h106 hE.ini rfl hs108 dX1_init_125 ?_
  refine V_aload_n dX1_init_128 rfl ?_
  refine V_sipush dX1_init_129 cks_200 ?_
  obtain ⟨h109, hf⟩ := ck_ex hf
  obtain ⟨b110, hb111, hf⟩ := st1_ex hf
  obtain ⟨w112, hs113, hf⟩ := st1_ex hf
  refine VE_newa (k := 1) rfl (by decide) (by decide) ac_1 rfl h109 (by decide) hb111 hs113 dX1_init_132 ?_
  obtain ⟨h114, hf⟩ := ck_ex hf
  obtain ⟨w115, hs116, hf⟩ := st1_ex hf
  refine VE_putRF (x := (some b110)) ff_X1_54 h114 hE.ini rfl hs116 dX1_init_134 ?_
  refine V_aload_n dX1_init_137 rfl ?_
  refine V_sipush dX1_init_138 cks_200 ?_
  obtain ⟨h117, hf⟩ := ck_ex hf
  obtain ⟨b118, hb119, hf⟩ := st1_ex hf
  obtain ⟨w120, hs121, hf⟩ := st1_ex hf
  refine VE_newa (k := 1) rfl (by decide) (by decide) ac_1 rfl h117 (by decide) hb119 hs121 dX1_init_141 ?_
  obtain ⟨h122, hf⟩ := ck_ex hf
  obtain ⟨w123, hs124, hf⟩ := st1_ex hf
  refine VE_putRF (x := (some b118)) ff_X1_57 h122 hE.ini rfl hs124 dX1_init_143 ?_
  refine V_aload_n dX1_init_146 rfl ?_
  refine V_bipush dX1_init_147 ckb_20 ?_
  obtain ⟨h125, hf⟩ := ck_ex hf
  obtain ⟨b126, hb127, hf⟩ := st1_ex hf
  obtain ⟨w128, hs129, hf⟩ := st1_ex hf
  refine VE_newa (k := 1) rfl (by decide) (by decide) ac_1 rfl h125 (by decide) hb127 hs129 dX1_init_149 ?_
  obtain ⟨h130, hf⟩ := ck_ex hf
  obtain ⟨w131, hs132, hf⟩ := st1_ex hf
  refine VE_putRF (x := (some b126)) ff_X1_60 h130 hE.ini rfl hs132 dX1_init_151 ?_
  refine V_aload_n dX1_init_154 rfl ?_
  refine V_bipush dX1_init_155 ckb_40 ?_
  obtain ⟨h133, hf⟩ := ck_ex hf
  obtain ⟨b134, hb135, hf⟩ := st1_ex hf
  obtain ⟨w136, hs137, hf⟩ := st1_ex hf
  refine VE_newa (k := 1) rfl (by decide) (by decide) ac_1 rfl h133 (by decide) hb135 hs137 dX1_init_157 ?_
  obtain ⟨h138, hf⟩ := ck_ex hf
  obtain ⟨w139, hs140, hf⟩ := st1_ex hf
  refine VE_putRF (x := (some b134)) ff_X1_63 h138 hE.ini rfl hs140 dX1_init_159 ?_
  refine V_aload_n dX1_init_162 rfl ?_
  refine V_bipush dX1_init_163 ckb_40 ?_
  obtain ⟨h141, hf⟩ := ck_ex hf
  obtain ⟨b142, hb143, hf⟩ := st1_ex hf
  obtain ⟨w144, hs145, hf⟩ := st1_ex hf
  refine VE_newa (k := 1) rfl (by decide) (by decide) ac_1 rfl h141 (by decide) hb143 hs145 dX1_init_165 ?_
  obtain ⟨h146, hf⟩ := ck_ex hf
  obtain ⟨w147, hs148, hf⟩ := st1_ex hf
  refine VE_putRF (x := (some b142)) ff_X1_66 h146 hE.ini rfl hs148 dX1_init_167 ?_
  refine V_aload_n dX1_init_170 rfl ?_
  refine V_sipush dX1_init_171 cks_200 ?_
  obtain ⟨h149, hf⟩ := ck_ex hf
  obtain ⟨b150, hb151, hf⟩ := st1_ex hf
  obtain ⟨w152, hs153, hf⟩ := st1_ex hf
  refine VE_newa (k := 1) rfl (by decide) (by decide) ac_1 rfl h149 (by decide) hb151 hs153 dX1_init_174 ?_
  obtain ⟨h154, hf⟩ := ck_ex hf
  obtain ⟨w155, hs156, hf⟩ := st1_ex hf
  refine VE_putRF (x := (some b150)) ff_X1_69 h154 hE.ini rfl hs156 dX1_init_176 ?_
  refine V_aload_n dX1_init_179 rfl ?_
  refine V_bipush dX1_init_180 ckb_20 ?_
  obtain ⟨h157, hf⟩ := ck_ex hf
  obtain ⟨b158, hb159, hf⟩ := st1_ex hf
  obtain ⟨w160, hs161, hf⟩ := st1_ex hf
  refine VE_newa (k := 1) rfl (by decide) (by decide) ac_1 rfl h157 (by decide) hb159 hs161 dX1_init_182 ?_
  obtain ⟨h162, hf⟩ := ck_ex hf
  obtain ⟨w163, hs164, hf⟩ := st1_ex hf
  refine VE_putRF (x := (some b158)) ff_X1_72 h162 hE.ini rfl hs164 dX1_init_184 ?_
  refine V_aload_n dX1_init_187 rfl ?_
  refine V_bipush dX1_init_188 ckb_20 ?_
  obtain ⟨h165, hf⟩ := ck_ex hf
  obtain ⟨b166, hb167, hf⟩ := st1_ex hf
  obtain ⟨w168, hs169, hf⟩ := st1_ex hf
  refine VE_newa (k := 2) rfl (by decide) (by decide) ac_2 rfl h165 (by decide) hb167 hs169 dX1_init_190 ?_
  obtain ⟨h170, hf⟩ := ck_ex hf
  obtain ⟨w171, hs172, hf⟩ := st1_ex hf
  refine VE_putRF (x := (some b166)) ff_X1_75 h170 hE.ini rfl hs172 dX1_init_192 ?_
  refine V_aload_n dX1_init_195 rfl ?_
  refine V_bipush dX1_init_196 ckb_20 ?_
  obtain ⟨h173, hf⟩ := ck_ex hf
  obtain ⟨b174, hb175, hf⟩ := st1_ex hf
  obtain ⟨w176, hs177, hf⟩ := st1_ex hf
  refine VE_newa (k := 2) rfl (by decide) (by decide) ac_2 rfl h173 (by decide) hb175 hs177 dX1_init_198 ?_
  obtain ⟨h178, hf⟩ := ck_ex hf
  obtain ⟨w179, hs180, hf⟩ := st1_ex hf
  refine VE_putRF (x := (some b174)) ff_X1_79 h178 hE.ini rfl hs180 dX1_init_200 ?_
  refine V_aload_n dX1_init_203 rfl ?_
  refine V_bipush dX1_init_204 ckb_48 ?_
  obtain ⟨h181, hf⟩ := ck_ex hf
  obtain ⟨b182, hb183, hf⟩ := st1_ex hf
  obtain ⟨w184, hs185, hf⟩ := st1_ex hf
  refine VE_newa (k := 3) rfl (by decide) (by decide) ac_3 rfl h181 (by decide) hb183 hs185 dX1_init_206 ?_
  obtain ⟨h186, hf⟩ := ck_ex hf
  obtain ⟨w187, hs188, hf⟩ := st1_ex hf
  refine VE_putRF (x := (some b182)) ff_X1_82 h186 hE.ini rfl hs188 dX1_init_208 ?_
  refine V_aload_n dX1_init_211 rfl ?_
  refine V_bipush dX1_init_212 ckb_20 ?_
  obtain ⟨h189, hf⟩ := ck_ex hf
  obtain ⟨w190, hs191, hf⟩ := st1_ex hf
  refine VE_putI fw_X1_86 h189 rfl rfl rfl hs191 dX1_init_214 ?_
  cases some_ex hf
  exact V_vret hE dX1_init_217
set_option maxHeartbeats 4000000 in
theorem mC_X2_init_ok (l : Launch) (D : DD) (w : AH) (a : Nat) (p0 : Nat) (w' : AH) (hf : mC_X2_init a p0 w = some w') : MA l D yX2_init cX2_init 2 none 1 [.ref a, .ref p0] w (.returned none) w' := by
  refine MA.introH (own := RX2) (nm := "<init>") (ls := [some (.ref a), some (.ref p0)]) (by decide) rfl rfl (Nat.le_of_ble_eq_true rfl) rfl (fun X hl hD hE hH => ?_)
  subst hl hD
  unfold mC_X2_init at hf
  refine V_aload_n dX2_init_0 rfl ?_
  refine V_aload_n dX2_init_1 rfl ?_
  obtain ⟨h1, hf⟩ := ck_ex hf
  obtain ⟨w2, hs3, hf⟩ := st1_ex hf
  refine VE_putRF (x := (some p0)) ff_X2_3 h1 hE.ini rfl hs3 dX2_init_2 ?_
  refine V_aload_n dX2_init_5 rfl ?_
  refine V_objInit q348 q182 q183 (by decide) (Nat.le_of_ble_eq_true rfl) dX2_init_6 ?_
  refine V_aload_n dX2_init_9 rfl ?_
  refine V_sipush dX2_init_10 cks_240 ?_
  obtain ⟨h4, hf⟩ := ck_ex hf
  obtain ⟨b5, hb6, hf⟩ := st1_ex hf
  obtain ⟨w7, hs8, hf⟩ := st1_ex hf
  refine VE_newa (k := 3) rfl (by decide) (by decide) ac_3 rfl h4 (by decide) hb6 hs8 dX2_init_13 ?_
  obtain ⟨h9, hf⟩ := ck_ex hf
  obtain ⟨w10, hs11, hf⟩ := st1_ex hf
  refine VE_putRF (x := (some b5)) ff_X2_15 h9 hE.ini rfl hs11 dX2_init_15 ?_
  refine V_aload_n dX2_init_18 rfl ?_
  refine V_sipush dX2_init_19 cks_240 ?_
  obtain ⟨h12, hf⟩ := ck_ex hf
  obtain ⟨b13, hb14, hf⟩ := st1_ex hf
  obtain ⟨w15, hs16, hf⟩ := st1_ex hf
  refine VE_newa (k := 3) rfl (by decide) (by decide) ac_3 rfl h12 (by decide) hb14 hs16 dX2_init_22 ?_
  obtain ⟨h17, hf⟩ := ck_ex hf
  obtain ⟨w18, hs19, hf⟩ := st1_ex hf
  refine VE_putRF (x := (some b13)) ff_X2_19 h17 hE.ini rfl hs19 dX2_init_24 ?_
  refine V_aload_n dX2_init_27 rfl ?_
  refine V_iconst dX2_init_28 ckc_m1 ?_
  obtain ⟨h20, hf⟩ := ck_ex hf
  obtain ⟨w21, hs22, hf⟩ := st1_ex hf
  refine VE_putI fw_X2_22 h20 rfl rfl rfl hs22 dX2_init_29 ?_
  refine V_aload_n dX2_init_32 rfl ?_
  refine V_iconst dX2_init_33 ckc_m1 ?_
  obtain ⟨h23, hf⟩ := ck_ex hf
  obtain ⟨w24, hs25, hf⟩ := st1_ex hf
  refine VE_putI fw_X2_26 h23 rfl rfl rfl hs25 dX2_init_34 ?_
  cases some_ex hf
  exact V_vret hE dX2_init_37
set_option maxHeartbeats 4000000 in
theorem mC_J3_init_2_41_v {X : CX} {w0 : AH} {w' : AH}  (hE : XE X w0 1 none "<init>" (.returned none) w') (hH : XH X []) (v0 : Nat) (v1 : Option Nat) (v2 : Option Nat) (v3 : Int32) (w : AH) (hf : mC_J3_init_2_41 v0 v1 v2 v3 w = some w') : V X cJ3_init_2 RJ3 5 1 w 41 [some (.ref v0), some (va_rf v1), some (va_rf v2), some (.int v3), none] [] := by
  unfold mC_J3_init_2_41 at hf
  refine V_aload_n dJ3_init_2_41 rfl ?_
  refine V_aload_nq (r := v1) dJ3_init_2_42 rfl ?_
  obtain ⟨h1, hf⟩ := ck_ex hf
  obtain ⟨w2, hs3, hf⟩ := st1_ex hf
  refine VE_putR (x := v1) fw_J3_31 h1 rfl hs3 dJ3_init_2_43 ?_
  refine V_aload_n dJ3_init_2_46 rfl ?_
  refine V_aload_nq (r := v2) dJ3_init_2_47 rfl ?_
  obtain ⟨h4, hf⟩ := ck_ex hf
  obtain ⟨w5, hs6, hf⟩ := st1_ex hf
  refine VE_putR (x := v2) fw_J3_7 h4 rfl hs6 dJ3_init_2_48 ?_
  refine V_iload_n dJ3_init_2_51 rfl ?_
  refine V_if_ne (tgt := 60) dJ3_init_2_52 (by decide) (fun hc7 => ?_) (fun hc7 => ?_)
  · have hf := if_f hf hc7
    cases some_ex hf
    exact V_vret hE dJ3_init_2_60
  · have hf := if_t hf hc7
    refine V_aload_n dJ3_init_2_55 rfl ?_
    refine V_null dJ3_init_2_56 ?_
    obtain ⟨h8, hf⟩ := ck_ex hf
    obtain ⟨w9, hs10, hf⟩ := st1_ex hf
    refine VE_putR (x := none) fw_J3_24 h8 rfl hs10 dJ3_init_2_57 ?_
    cases some_ex hf
    exact V_vret hE dJ3_init_2_60
set_option maxHeartbeats 4000000 in
theorem mC_J3_init_2_ok (l : Launch) (D : DD) (w : AH) (a : Nat) (p0 : Option Nat) (p1 : Option Nat) (p2 : Int32) (p3 : Int32) (w' : AH) (hf : mC_J3_init_2 a p0 p1 p2 p3 w = some w') : MA l D yJ3_init_2 cJ3_init_2 5 none 1 [.ref a, va_rf p0, va_rf p1, .int p2, .int p3] w (.returned none) w' := by
  refine MA.introH (own := RJ3) (nm := "<init>") (ls := [some (.ref a), some (va_rf p0), some (va_rf p1), some (.int p2), some (.int p3)]) (by decide) rfl rfl (by cases p0 <;> cases p1 <;> exact Nat.le_of_ble_eq_true rfl) (by cases p0 <;> cases p1 <;> rfl) (fun X hl hD hE hH => ?_)
  subst hl hD
  unfold mC_J3_init_2 at hf
  refine V_aload_n dJ3_init_2_0 rfl ?_
  refine V_objInit q396 q182 q183 (by decide) (Nat.le_of_ble_eq_true rfl) dJ3_init_2_1 ?_
  refine V_aload_n dJ3_init_2_4 rfl ?_
  refine V_aload_n dJ3_init_2_5 rfl ?_
  obtain ⟨h1, hf⟩ := ck_ex hf
  obtain ⟨w2, hs3, hf⟩ := st1_ex hf
  refine VE_putR (x := (some a)) fw_J3_7 h1 rfl hs3 dJ3_init_2_6 ?_
  refine V_aload_n dJ3_init_2_9 rfl ?_
  obtain ⟨x4, hx5, hf⟩ := st1_ex hf
  refine VE_statR (key := 1000) (fun D U h => h.2.2.2.2.2.2.1.2.1) q397 hx5 dJ3_init_2_10 ?_
  obtain ⟨h6, hf⟩ := ck_ex hf
  obtain ⟨w7, hs8, hf⟩ := st1_ex hf
  refine VE_putR (x := x4) fw_J3_17 h6 rfl hs8 dJ3_init_2_13 ?_
  refine V_aload_n dJ3_init_2_16 rfl ?_
  obtain ⟨x9, hx10, hf⟩ := st1_ex hf
  refine VE_statR (key := 1001) (fun D U h => h.2.2.2.2.2.2.1.2.2.1) q399 hx10 dJ3_init_2_17 ?_
  obtain ⟨h11, hf⟩ := ck_ex hf
  obtain ⟨w12, hs13, hf⟩ := st1_ex hf
  refine VE_putR (x := x9) fw_J3_24 h11 rfl hs13 dJ3_init_2_20 ?_
  refine V_iload dJ3_init_2_23 rfl ?_
  refine V_if_eq (tgt := 36) dJ3_init_2_25 (by decide) (fun hc14 => ?_) (fun hc14 => ?_)
  · have hf := if_t hf hc14
    refine V_aload_n dJ3_init_2_36 rfl ?_
    refine V_null dJ3_init_2_37 ?_
    obtain ⟨h15, hf⟩ := ck_ex hf
    obtain ⟨w16, hs17, hf⟩ := st1_ex hf
    refine VE_putR (x := none) fw_J3_17 h15 rfl hs17 dJ3_init_2_38 ?_
    refine V_keep [true, true, true, true, false] rfl ?_
    exact mC_J3_init_2_41_v hE hH a p0 p1 p2 w16 hf
  · have hf := if_f hf hc14
    refine V_aload_n dJ3_init_2_28 rfl ?_
    cases hf
set_option maxHeartbeats 4000000 in
theorem mC_J4_init_ok (l : Launch) (D : DD) (w : AH) (a : Nat) (p0 : Option Nat) (p1 : Option Nat) (p2 : Int32) (p3 : Int32) (w' : AH) (hf : mC_J4_init a p0 p1 p2 p3 w = some w') : MA l D yJ4_init cJ4_init 5 none 2 [.ref a, va_rf p0, va_rf p1, .int p2, .int p3] w (.returned none) w' := by
  refine MA.introH (own := RJ4) (nm := "<init>") (ls := [some (.ref a), some (va_rf p0), some (va_rf p1), some (.int p2), some (.int p3)]) (by decide) rfl rfl (by cases p0 <;> cases p1 <;> exact Nat.le_of_ble_eq_true rfl) (by cases p0 <;> cases p1 <;> rfl) (fun X hl hD hE hH => ?_)
  subst hl hD
  unfold mC_J4_init at hf
  refine V_aload_n dJ4_init_0 rfl ?_
  refine V_aload_nq (r := p0) dJ4_init_1 rfl ?_
  refine V_aload_nq (r := p1) dJ4_init_2 rfl ?_
  refine V_iload_n dJ4_init_3 rfl ?_
  refine V_iload dJ4_init_4 rfl ?_
  obtain ⟨w2, hc1, hf⟩ := bd1_ex hf
  refine V_cI (av := [va_rf p0, va_rf p1, .int p2, .int p3]) (rest := []) (st' := []) (mC_J3_init_2_ok _ _ _ _ _ _ _ _ _ hc1) ic_J4_16 (by decide) rfl rfl (Nat.le_of_ble_eq_true rfl) dJ4_init_6 rfl ?_
  cases some_ex hf
  exact V_vret hE dJ4_init_9
set_option maxHeartbeats 4000000 in
theorem mC_X4_init_ok (l : Launch) (D : DD) (w : AH) (a : Nat) (w' : AH) (hf : mC_X4_init a w = some w') : MA l D yX4_init cX4_init 1 none 3 [.ref a] w (.returned none) w' := by
  refine MA.introH (own := RX4) (nm := "<init>") (ls := [some (.ref a)]) (by decide) rfl rfl (Nat.le_of_ble_eq_true rfl) rfl (fun X hl hD hE hH => ?_)
  subst hl hD
  unfold mC_X4_init at hf
  refine V_aload_n dX4_init_0 rfl ?_
  refine V_null dX4_init_1 ?_
  refine V_null dX4_init_2 ?_
  refine V_iconst dX4_init_3 ckc_0 ?_
  refine V_iconst dX4_init_4 ckc_0 ?_
  obtain ⟨w2, hc1, hf⟩ := bd1_ex hf
  refine V_cI (av := [.null, .null, .int (0 : Int32), .int (0 : Int32)]) (rest := []) (st' := []) (mC_J4_init_ok _ _ _ _ _ _ _ _ _ hc1) ic_X4_1 (by decide) rfl rfl (Nat.le_of_ble_eq_true rfl) dX4_init_5 rfl ?_
  cases some_ex hf
  exact V_vret hE dX4_init_8
set_option maxHeartbeats 4000000 in
theorem mC_X3_init_ok (l : Launch) (D : DD) (w : AH) (a : Nat) (w' : AH) (hf : mC_X3_init a w = some w') : MA l D yX3_init cX3_init 1 none 4 [.ref a] w (.returned none) w' := by
  refine MA.introH (own := RX3) (nm := "<init>") (ls := [some (.ref a)]) (by decide) rfl rfl (Nat.le_of_ble_eq_true rfl) rfl (fun X hl hD hE hH => ?_)
  subst hl hD
  unfold mC_X3_init at hf
  refine V_aload_n dX3_init_0 rfl ?_
  refine V_objInit q372 q182 q183 (by decide) (Nat.le_of_ble_eq_true rfl) dX3_init_1 ?_
  refine V_aload_n dX3_init_4 rfl ?_
  obtain ⟨h1, hf⟩ := ck_ex hf
  obtain ⟨b2, hb3, hf⟩ := st1_ex hf
  obtain ⟨w4, hs5, hf⟩ := st1_ex hf
  refine VE_new clX4 q373 q374 q141 ok_X4 h1 hb3 hs5 dX3_init_5 ?_
  refine V_dup dX3_init_8 rfl ?_
  obtain ⟨w7, hc6, hf⟩ := bd1_ex hf
  refine V_cI (av := []) (rest := [.ref b2, .ref a]) (st' := [.ref b2, .ref a]) (mC_X4_init_ok _ _ _ _ _ hc6) ic_X3_9 (by decide) rfl rfl (Nat.le_of_ble_eq_true rfl) dX3_init_9 rfl ?_
  obtain ⟨h8, hf⟩ := ck_ex hf
  obtain ⟨w9, hs10, hf⟩ := st1_ex hf
  refine VE_putRF (x := (some b2)) ff_X3_10 h8 hE.ini rfl hs10 dX3_init_12 ?_
  refine V_aload_n dX3_init_15 rfl ?_
  refine V_bipush dX3_init_16 ckb_11 ?_
  obtain ⟨h11, hf⟩ := ck_ex hf
  obtain ⟨b12, hb13, hf⟩ := st1_ex hf
  obtain ⟨w14, hs15, hf⟩ := st1_ex hf
  refine VE_newa (k := 2) rfl (by decide) (by decide) ac_2 rfl h11 (by decide) hb13 hs15 dX3_init_18 ?_
  obtain ⟨h16, hf⟩ := ck_ex hf
  obtain ⟨w17, hs18, hf⟩ := st1_ex hf
  refine VE_putRF (x := (some b12)) ff_X3_16 h16 hE.ini rfl hs18 dX3_init_20 ?_
  refine V_aload_n dX3_init_23 rfl ?_
  refine V_iconst dX3_init_24 ckc_5 ?_
  obtain ⟨h19, hf⟩ := ck_ex hf
  obtain ⟨b20, hb21, hf⟩ := st1_ex hf
  obtain ⟨w22, hs23, hf⟩ := st1_ex hf
  refine VE_newa (k := 3) rfl (by decide) (by decide) ac_3 rfl h19 (by decide) hb21 hs23 dX3_init_25 ?_
  obtain ⟨h24, hf⟩ := ck_ex hf
  obtain ⟨w25, hs26, hf⟩ := st1_ex hf
  refine VE_putRF (x := (some b20)) ff_X3_20 h24 hE.ini rfl hs26 dX3_init_27 ?_
  cases some_ex hf
  exact V_vret hE dX3_init_30
set_option maxHeartbeats 4000000 in
theorem mC_X5_init_ok (l : Launch) (D : DD) (w : AH) (a : Nat) (p0 : Nat) (w' : AH) (hf : mC_X5_init a p0 w = some w') : MA l D yX5_init cX5_init 2 none 1 [.ref a, .ref p0] w (.returned none) w' := by
  refine MA.introH (own := RX5) (nm := "<init>") (ls := [some (.ref a), some (.ref p0)]) (by decide) rfl rfl (Nat.le_of_ble_eq_true rfl) rfl (fun X hl hD hE hH => ?_)
  subst hl hD
  unfold mC_X5_init at hf
  refine V_aload_n dX5_init_0 rfl ?_
  refine V_aload_n dX5_init_1 rfl ?_
  obtain ⟨h1, hf⟩ := ck_ex hf
  obtain ⟨w2, hs3, hf⟩ := st1_ex hf
  refine VE_putRF (x := (some p0)) ff_X5_3 h1 hE.ini rfl hs3 dX5_init_2 ?_
  refine V_aload_n dX5_init_5 rfl ?_
  refine V_objInit q457 q182 q183 (by decide) (Nat.le_of_ble_eq_true rfl) dX5_init_6 ?_
  refine V_aload_n dX5_init_9 rfl ?_
  refine V_sipush dX5_init_10 cks_200 ?_
  obtain ⟨h4, hf⟩ := ck_ex hf
  obtain ⟨b5, hb6, hf⟩ := st1_ex hf
  obtain ⟨w7, hs8, hf⟩ := st1_ex hf
  refine VE_newa (k := 3) rfl (by decide) (by decide) ac_3 rfl h4 (by decide) hb6 hs8 dX5_init_13 ?_
  obtain ⟨h9, hf⟩ := ck_ex hf
  obtain ⟨w10, hs11, hf⟩ := st1_ex hf
  refine VE_putRF (x := (some b5)) ff_X5_15 h9 hE.ini rfl hs11 dX5_init_15 ?_
  refine V_aload_n dX5_init_18 rfl ?_
  refine V_sipush dX5_init_19 cks_200 ?_
  obtain ⟨h12, hf⟩ := ck_ex hf
  obtain ⟨b13, hb14, hf⟩ := st1_ex hf
  obtain ⟨w15, hs16, hf⟩ := st1_ex hf
  refine VE_newa (k := 1) rfl (by decide) (by decide) ac_1 rfl h12 (by decide) hb14 hs16 dX5_init_22 ?_
  obtain ⟨h17, hf⟩ := ck_ex hf
  obtain ⟨w18, hs19, hf⟩ := st1_ex hf
  refine VE_putRF (x := (some b13)) ff_X5_19 h17 hE.ini rfl hs19 dX5_init_24 ?_
  refine V_aload_n dX5_init_27 rfl ?_
  refine V_bipush dX5_init_28 ckb_16 ?_
  obtain ⟨h20, hf⟩ := ck_ex hf
  obtain ⟨b21, hb22, hf⟩ := st1_ex hf
  obtain ⟨w23, hs24, hf⟩ := st1_ex hf
  refine VE_newa (k := 1) rfl (by decide) (by decide) ac_1 rfl h20 (by decide) hb22 hs24 dX5_init_30 ?_
  obtain ⟨h25, hf⟩ := ck_ex hf
  obtain ⟨w26, hs27, hf⟩ := st1_ex hf
  refine VE_putRF (x := (some b21)) ff_X5_23 h25 hE.ini rfl hs27 dX5_init_32 ?_
  refine V_aload_n dX5_init_35 rfl ?_
  refine V_iconst dX5_init_36 ckc_m1 ?_
  obtain ⟨h28, hf⟩ := ck_ex hf
  obtain ⟨w29, hs30, hf⟩ := st1_ex hf
  refine VE_putI fw_X5_26 h28 rfl rfl rfl hs30 dX5_init_37 ?_
  refine V_aload_n dX5_init_40 rfl ?_
  refine V_iconst dX5_init_41 ckc_m1 ?_
  obtain ⟨h31, hf⟩ := ck_ex hf
  obtain ⟨w32, hs33, hf⟩ := st1_ex hf
  refine VE_putI fw_X5_30 h31 rfl rfl rfl hs33 dX5_init_42 ?_
  refine V_aload_n dX5_init_45 rfl ?_
  refine V_iconst dX5_init_46 ckc_m1 ?_
  obtain ⟨h34, hf⟩ := ck_ex hf
  obtain ⟨w35, hs36, hf⟩ := st1_ex hf
  refine VE_putI fw_X5_33 h34 rfl rfl rfl hs36 dX5_init_47 ?_
  cases some_ex hf
  exact V_vret hE dX5_init_50
set_option maxHeartbeats 4000000 in
theorem mC_X6_init_ok (l : Launch) (D : DD) (w : AH) (a : Nat) (p0 : Nat) (w' : AH) (hf : mC_X6_init a p0 w = some w') : MA l D yX6_init cX6_init 2 none 1 [.ref a, .ref p0] w (.returned none) w' := by
  refine MA.introH (own := RX6) (nm := "<init>") (ls := [some (.ref a), some (.ref p0)]) (by decide) rfl rfl (Nat.le_of_ble_eq_true rfl) rfl (fun X hl hD hE hH => ?_)
  subst hl hD
  unfold mC_X6_init at hf
  refine V_aload_n dX6_init_0 rfl ?_
  refine V_aload_n dX6_init_1 rfl ?_
  obtain ⟨h1, hf⟩ := ck_ex hf
  obtain ⟨w2, hs3, hf⟩ := st1_ex hf
  refine VE_putRF (x := (some p0)) ff_X6_3 h1 hE.ini rfl hs3 dX6_init_2 ?_
  refine V_aload_n dX6_init_5 rfl ?_
  refine V_objInit q488 q182 q183 (by decide) (Nat.le_of_ble_eq_true rfl) dX6_init_6 ?_
  refine V_aload_n dX6_init_9 rfl ?_
  refine V_bipush dX6_init_10 ckb_80 ?_
  obtain ⟨h4, hf⟩ := ck_ex hf
  obtain ⟨b5, hb6, hf⟩ := st1_ex hf
  obtain ⟨w7, hs8, hf⟩ := st1_ex hf
  refine VE_newa (k := 1) rfl (by decide) (by decide) ac_1 rfl h4 (by decide) hb6 hs8 dX6_init_12 ?_
  obtain ⟨h9, hf⟩ := ck_ex hf
  obtain ⟨w10, hs11, hf⟩ := st1_ex hf
  refine VE_putRF (x := (some b5)) ff_X6_15 h9 hE.ini rfl hs11 dX6_init_14 ?_
  refine V_aload_n dX6_init_17 rfl ?_
  refine V_bipush dX6_init_18 ckb_20 ?_
  obtain ⟨h12, hf⟩ := ck_ex hf
  obtain ⟨b13, hb14, hf⟩ := st1_ex hf
  obtain ⟨w15, hs16, hf⟩ := st1_ex hf
  refine VE_newa (k := 1) rfl (by decide) (by decide) ac_1 rfl h12 (by decide) hb14 hs16 dX6_init_20 ?_
  obtain ⟨h17, hf⟩ := ck_ex hf
  obtain ⟨w18, hs19, hf⟩ := st1_ex hf
  refine VE_putRF (x := (some b13)) ff_X6_19 h17 hE.ini rfl hs19 dX6_init_22 ?_
  refine V_aload_n dX6_init_25 rfl ?_
  refine V_sipush dX6_init_26 cks_160 ?_
  obtain ⟨h20, hf⟩ := ck_ex hf
  obtain ⟨b21, hb22, hf⟩ := st1_ex hf
  obtain ⟨w23, hs24, hf⟩ := st1_ex hf
  refine VE_newa (k := 1) rfl (by decide) (by decide) ac_1 rfl h20 (by decide) hb22 hs24 dX6_init_29 ?_
  obtain ⟨h25, hf⟩ := ck_ex hf
  obtain ⟨w26, hs27, hf⟩ := st1_ex hf
  refine VE_putRF (x := (some b21)) ff_X6_22 h25 hE.ini rfl hs27 dX6_init_31 ?_
  refine V_aload_n dX6_init_34 rfl ?_
  refine V_bipush dX6_init_35 ckb_20 ?_
  obtain ⟨h28, hf⟩ := ck_ex hf
  obtain ⟨b29, hb30, hf⟩ := st1_ex hf
  obtain ⟨w31, hs32, hf⟩ := st1_ex hf
  refine VE_newa (k := 3) rfl (by decide) (by decide) ac_3 rfl h28 (by decide) hb30 hs32 dX6_init_37 ?_
  obtain ⟨h33, hf⟩ := ck_ex hf
  obtain ⟨w34, hs35, hf⟩ := st1_ex hf
  refine VE_putRF (x := (some b29)) ff_X6_25 h33 hE.ini rfl hs35 dX6_init_39 ?_
  refine V_aload_n dX6_init_42 rfl ?_
  refine V_bipush dX6_init_43 ckb_20 ?_
  obtain ⟨h36, hf⟩ := ck_ex hf
  obtain ⟨b37, hb38, hf⟩ := st1_ex hf
  obtain ⟨w39, hs40, hf⟩ := st1_ex hf
  refine VE_newa (k := 3) rfl (by decide) (by decide) ac_3 rfl h36 (by decide) hb38 hs40 dX6_init_45 ?_
  obtain ⟨h41, hf⟩ := ck_ex hf
  obtain ⟨w42, hs43, hf⟩ := st1_ex hf
  refine VE_putRF (x := (some b37)) ff_X6_29 h41 hE.ini rfl hs43 dX6_init_47 ?_
  refine V_aload_n dX6_init_50 rfl ?_
  refine V_sipush dX6_init_51 cks_200 ?_
  obtain ⟨h44, hf⟩ := ck_ex hf
  obtain ⟨b45, hb46, hf⟩ := st1_ex hf
  obtain ⟨w47, hs48, hf⟩ := st1_ex hf
  refine VE_newa (k := 3) rfl (by decide) (by decide) ac_3 rfl h44 (by decide) hb46 hs48 dX6_init_54 ?_
  obtain ⟨h49, hf⟩ := ck_ex hf
  obtain ⟨w50, hs51, hf⟩ := st1_ex hf
  refine VE_putRF (x := (some b45)) ff_X6_32 h49 hE.ini rfl hs51 dX6_init_56 ?_
  refine V_aload_n dX6_init_59 rfl ?_
  refine V_iconst dX6_init_60 ckc_m1 ?_
  obtain ⟨h52, hf⟩ := ck_ex hf
  obtain ⟨w53, hs54, hf⟩ := st1_ex hf
  refine VE_putI fw_X6_35 h52 rfl rfl rfl hs54 dX6_init_61 ?_
  refine V_aload_n dX6_init_64 rfl ?_
  refine V_iconst dX6_init_65 ckc_m1 ?_
  obtain ⟨h55, hf⟩ := ck_ex hf
  obtain ⟨w56, hs57, hf⟩ := st1_ex hf
  refine VE_putI fw_X6_39 h55 rfl rfl rfl hs57 dX6_init_66 ?_
  refine V_aload_n dX6_init_69 rfl ?_
  refine V_iconst dX6_init_70 ckc_m1 ?_
  obtain ⟨h58, hf⟩ := ck_ex hf
  obtain ⟨w59, hs60, hf⟩ := st1_ex hf
  refine VE_putI fw_X6_42 h58 rfl rfl rfl hs60 dX6_init_71 ?_
  cases some_ex hf
  exact V_vret hE dX6_init_74
set_option maxHeartbeats 4000000 in
theorem mC_X0_init_ok (l : Launch) (D : DD) (w : AH) (a : Nat) (w' : AH) (hf : mC_X0_init a w = some w') : MA l D yX0_init cX0_init 1 none 5 [.ref a] w (.returned none) w' := by
  refine MA.introH (own := RX0) (nm := "<init>") (ls := [some (.ref a)]) (by decide) rfl rfl (Nat.le_of_ble_eq_true rfl) rfl (fun X hl hD hE hH => ?_)
  subst hl hD
  unfold mC_X0_init at hf
  refine V_aload_n dX0_init_0 rfl ?_
  refine V_objInit q181 q182 q183 (by decide) (Nat.le_of_ble_eq_true rfl) dX0_init_1 ?_
  refine V_aload_n dX0_init_4 rfl ?_
  obtain ⟨h1, hf⟩ := ck_ex hf
  obtain ⟨b2, hb3, hf⟩ := st1_ex hf
  obtain ⟨w4, hs5, hf⟩ := st1_ex hf
  refine VE_new clX1 q184 q185 q133 ok_X1 h1 hb3 hs5 dX0_init_5 ?_
  refine V_dup dX0_init_8 rfl ?_
  obtain ⟨w7, hc6, hf⟩ := bd1_ex hf
  refine V_nI (av := []) (rest := [.ref b2, .ref a]) (st' := [.ref b2, .ref a]) (mC_X1_init_ok _ _ _ _ _ hc6) ni_X0_9 (by decide) rfl rfl (Nat.le_of_ble_eq_true rfl) dX0_init_9 rfl ?_
  obtain ⟨h8, hf⟩ := ck_ex hf
  obtain ⟨w9, hs10, hf⟩ := st1_ex hf
  refine VE_putRF (x := (some b2)) ff_X0_10 h8 hE.ini rfl hs10 dX0_init_12 ?_
  refine V_aload_n dX0_init_15 rfl ?_
  refine V_iconst dX0_init_16 ckc_2 ?_
  obtain ⟨h11, hf⟩ := ck_ex hf
  obtain ⟨b12, hb13, hf⟩ := st1_ex hf
  obtain ⟨w14, hs15, hf⟩ := st1_ex hf
  refine VE_anew (k := 6) (by decide) q184 h11 (by decide) hb13 hs15 dX0_init_17 ?_
  obtain ⟨h16, hf⟩ := ck_ex hf
  obtain ⟨w17, hs18, hf⟩ := st1_ex hf
  refine VE_putRF (x := (some b12)) ff_X0_16 h16 hE.ini rfl hs18 dX0_init_20 ?_
  refine V_aload_n dX0_init_23 rfl ?_
  refine V_sipush dX0_init_24 cks_400 ?_
  obtain ⟨h19, hf⟩ := ck_ex hf
  obtain ⟨b20, hb21, hf⟩ := st1_ex hf
  obtain ⟨w22, hs23, hf⟩ := st1_ex hf
  refine VE_newa (k := 4) rfl (by decide) (by decide) ac_4 rfl h19 (by decide) hb21 hs23 dX0_init_27 ?_
  obtain ⟨h24, hf⟩ := ck_ex hf
  obtain ⟨w25, hs26, hf⟩ := st1_ex hf
  refine VE_putRF (x := (some b20)) ff_X0_20 h24 hE.ini rfl hs26 dX0_init_29 ?_
  refine V_aload_n dX0_init_32 rfl ?_
  refine V_iconst dX0_init_33 ckc_m1 ?_
  obtain ⟨h27, hf⟩ := ck_ex hf
  obtain ⟨w28, hs29, hf⟩ := st1_ex hf
  refine VE_putI fw_X0_24 h27 rfl rfl rfl hs29 dX0_init_34 ?_
  refine V_aload_n dX0_init_37 rfl ?_
  obtain ⟨h30, hf⟩ := ck_ex hf
  obtain ⟨b31, hb32, hf⟩ := st1_ex hf
  obtain ⟨w33, hs34, hf⟩ := st1_ex hf
  refine VE_new clX2 q343 q344 q137 ok_X2 h30 hb32 hs34 dX0_init_38 ?_
  refine V_dup dX0_init_41 rfl ?_
  refine V_aload_n dX0_init_42 rfl ?_
  obtain ⟨w36, hc35, hf⟩ := bd1_ex hf
  refine V_nI (av := [.ref a]) (rest := [.ref b31, .ref a]) (st' := [.ref b31, .ref a]) (mC_X2_init_ok _ _ _ _ _ _ hc35) ni_X0_30 (by decide) rfl rfl (Nat.le_of_ble_eq_true rfl) dX0_init_43 rfl ?_
  obtain ⟨h37, hf⟩ := ck_ex hf
  obtain ⟨w38, hs39, hf⟩ := st1_ex hf
  refine VE_putRF (x := (some b31)) ff_X0_33 h37 hE.ini rfl hs39 dX0_init_46 ?_
  refine V_aload_n dX0_init_49 rfl ?_
  obtain ⟨h40, hf⟩ := ck_ex hf
  obtain ⟨b41, hb42, hf⟩ := st1_ex hf
  obtain ⟨w43, hs44, hf⟩ := st1_ex hf
  refine VE_new clX3 q367 q368 q138 ok_X3 h40 hb42 hs44 dX0_init_50 ?_
  refine V_dup dX0_init_53 rfl ?_
  obtain ⟨w46, hc45, hf⟩ := bd1_ex hf
  refine V_nI (av := []) (rest := [.ref b41, .ref a]) (st' := [.ref b41, .ref a]) (mC_X3_init_ok _ _ _ _ _ hc45) ni_X0_39 (by decide) rfl rfl (Nat.le_of_ble_eq_true rfl) dX0_init_54 rfl ?_
  obtain ⟨h47, hf⟩ := ck_ex hf
  obtain ⟨w48, hs49, hf⟩ := st1_ex hf
  refine VE_putRF (x := (some b41)) ff_X0_40 h47 hE.ini rfl hs49 dX0_init_57 ?_
  refine V_aload_n dX0_init_60 rfl ?_
  obtain ⟨h50, hf⟩ := ck_ex hf
  obtain ⟨b51, hb52, hf⟩ := st1_ex hf
  obtain ⟨w53, hs54, hf⟩ := st1_ex hf
  refine VE_new clX5 q452 q453 q142 ok_X5 h50 hb52 hs54 dX0_init_61 ?_
  refine V_dup dX0_init_64 rfl ?_
  refine V_aload_n dX0_init_65 rfl ?_
  obtain ⟨w56, hc55, hf⟩ := bd1_ex hf
  refine V_nI (av := [.ref a]) (rest := [.ref b51, .ref a]) (st' := [.ref b51, .ref a]) (mC_X5_init_ok _ _ _ _ _ _ hc55) ni_X0_46 (by decide) rfl rfl (Nat.le_of_ble_eq_true rfl) dX0_init_66 rfl ?_
  obtain ⟨h57, hf⟩ := ck_ex hf
  obtain ⟨w58, hs59, hf⟩ := st1_ex hf
  refine VE_putRF (x := (some b51)) ff_X0_47 h57 hE.ini rfl hs59 dX0_init_69 ?_
  refine V_aload_n dX0_init_72 rfl ?_
  refine V_bipush dX0_init_73 ckb_7 ?_
  obtain ⟨h60, hf⟩ := ck_ex hf
  obtain ⟨b61, hb62, hf⟩ := st1_ex hf
  obtain ⟨w63, hs64, hf⟩ := st1_ex hf
  refine VE_newa (k := 1) rfl (by decide) (by decide) ac_1 rfl h60 (by decide) hb62 hs64 dX0_init_75 ?_
  obtain ⟨h65, hf⟩ := ck_ex hf
  obtain ⟨w66, hs67, hf⟩ := st1_ex hf
  refine VE_putRF (x := (some b61)) ff_X0_51 h65 hE.ini rfl hs67 dX0_init_77 ?_
  refine V_aload_n dX0_init_80 rfl ?_
  refine V_bipush dX0_init_81 ckb_7 ?_
  obtain ⟨h68, hf⟩ := ck_ex hf
  obtain ⟨b69, hb70, hf⟩ := st1_ex hf
  obtain ⟨w71, hs72, hf⟩ := st1_ex hf
  refine VE_newa (k := 1) rfl (by decide) (by decide) ac_1 rfl h68 (by decide) hb70 hs72 dX0_init_83 ?_
  obtain ⟨h73, hf⟩ := ck_ex hf
  obtain ⟨w74, hs75, hf⟩ := st1_ex hf
  refine VE_putRF (x := (some b69)) ff_X0_55 h73 hE.ini rfl hs75 dX0_init_85 ?_
  refine V_aload_n dX0_init_88 rfl ?_
  refine V_bipush dX0_init_89 ckb_7 ?_
  obtain ⟨h76, hf⟩ := ck_ex hf
  obtain ⟨b77, hb78, hf⟩ := st1_ex hf
  obtain ⟨w79, hs80, hf⟩ := st1_ex hf
  refine VE_newa (k := 1) rfl (by decide) (by decide) ac_1 rfl h76 (by decide) hb78 hs80 dX0_init_91 ?_
  obtain ⟨h81, hf⟩ := ck_ex hf
  obtain ⟨w82, hs83, hf⟩ := st1_ex hf
  refine VE_putRF (x := (some b77)) ff_X0_58 h81 hE.ini rfl hs83 dX0_init_93 ?_
  refine V_aload_n dX0_init_96 rfl ?_
  refine V_bipush dX0_init_97 ckb_7 ?_
  obtain ⟨h84, hf⟩ := ck_ex hf
  obtain ⟨b85, hb86, hf⟩ := st1_ex hf
  obtain ⟨w87, hs88, hf⟩ := st1_ex hf
  refine VE_newa (k := 1) rfl (by decide) (by decide) ac_1 rfl h84 (by decide) hb86 hs88 dX0_init_99 ?_
  obtain ⟨h89, hf⟩ := ck_ex hf
  obtain ⟨w90, hs91, hf⟩ := st1_ex hf
  refine VE_putRF (x := (some b85)) ff_X0_61 h89 hE.ini rfl hs91 dX0_init_101 ?_
  refine V_aload_n dX0_init_104 rfl ?_
  refine V_bipush dX0_init_105 ckb_7 ?_
  obtain ⟨h92, hf⟩ := ck_ex hf
  obtain ⟨b93, hb94, hf⟩ := st1_ex hf
  obtain ⟨w95, hs96, hf⟩ := st1_ex hf
  refine VE_newa (k := 1) rfl (by decide) (by decide) ac_1 rfl h92 (by decide) hb94 hs96 dX0_init_107 ?_
  obtain ⟨h97, hf⟩ := ck_ex hf
  obtain ⟨w98, hs99, hf⟩ := st1_ex hf
  refine VE_putRF (x := (some b93)) ff_X0_64 h97 hE.ini rfl hs99 dX0_init_109 ?_
  refine V_aload_n dX0_init_112 rfl ?_
  refine V_bipush dX0_init_113 ckb_7 ?_
  obtain ⟨h100, hf⟩ := ck_ex hf
  obtain ⟨b101, hb102, hf⟩ := st1_ex hf
  obtain ⟨w103, hs104, hf⟩ := st1_ex hf
  refine VE_newa (k := 1) rfl (by decide) (by decide) ac_1 rfl h100 (by decide) hb102 hs104 dX0_init_115 ?_
  obtain ⟨h105, hf⟩ := ck_ex hf
  obtain ⟨w106, hs107, hf⟩ := st1_ex hf
  refine VE_putRF (x := (some b101)) ff_X0_67 h105 hE.ini rfl hs107 dX0_init_117 ?_
  refine V_aload_n dX0_init_120 rfl ?_
  refine V_bipush dX0_init_121 ckb_7 ?_
  obtain ⟨h108, hf⟩ := ck_ex hf
  obtain ⟨b109, hb110, hf⟩ := st1_ex hf
  obtain ⟨w111, hs112, hf⟩ := st1_ex hf
  refine VE_newa (k := 1) rfl (by decide) (by decide) ac_1 rfl h108 (by decide) hb110 hs112 dX0_init_123 ?_
  obtain ⟨h113, hf⟩ := ck_ex hf
  obtain ⟨w114, hs115, hf⟩ := st1_ex hf
  refine VE_putRF (x := (some b109)) ff_X0_70 h113 hE.ini rfl hs115 dX0_init_125 ?_
  refine V_aload_n dX0_init_128 rfl ?_
  refine V_bipush dX0_init_129 ckb_7 ?_
  obtain ⟨h116, hf⟩ := ck_ex hf
  obtain ⟨b117, hb118, hf⟩ := st1_ex hf
  obtain ⟨w119, hs120, hf⟩ := st1_ex hf
  refine VE_newa (k := 1) rfl (by decide) (by decide) ac_1 rfl h116 (by decide) hb118 hs120 dX0_init_131 ?_
  obtain ⟨h121, hf⟩ := ck_ex hf
  obtain ⟨w122, hs123, hf⟩ := st1_ex hf
  refine VE_putRF (x := (some b117)) ff_X0_73 h121 hE.ini rfl hs123 dX0_init_133 ?_
  refine V_aload_n dX0_init_136 rfl ?_
  refine V_bipush dX0_init_137 ckb_7 ?_
  obtain ⟨h124, hf⟩ := ck_ex hf
  obtain ⟨b125, hb126, hf⟩ := st1_ex hf
  obtain ⟨w127, hs128, hf⟩ := st1_ex hf
  refine VE_newa (k := 1) rfl (by decide) (by decide) ac_1 rfl h124 (by decide) hb126 hs128 dX0_init_139 ?_
  obtain ⟨h129, hf⟩ := ck_ex hf
  obtain ⟨w130, hs131, hf⟩ := st1_ex hf
  refine VE_putRF (x := (some b125)) ff_X0_76 h129 hE.ini rfl hs131 dX0_init_141 ?_
  refine V_aload_n dX0_init_144 rfl ?_
  refine V_iconst dX0_init_145 ckc_m1 ?_
  obtain ⟨h132, hf⟩ := ck_ex hf
  obtain ⟨w133, hs134, hf⟩ := st1_ex hf
  refine VE_putI fw_X0_79 h132 rfl rfl rfl hs134 dX0_init_146 ?_
  refine V_aload_n dX0_init_149 rfl ?_
  obtain ⟨h135, hf⟩ := ck_ex hf
  obtain ⟨b136, hb137, hf⟩ := st1_ex hf
  obtain ⟨w138, hs139, hf⟩ := st1_ex hf
  refine VE_new clX6 q483 q484 q143 ok_X6 h135 hb137 hs139 dX0_init_150 ?_
  refine V_dup dX0_init_153 rfl ?_
  refine V_aload_n dX0_init_154 rfl ?_
  obtain ⟨w141, hc140, hf⟩ := bd1_ex hf
  refine V_nI (av := [.ref a]) (rest := [.ref b136, .ref a]) (st' := [.ref b136, .ref a]) (mC_X6_init_ok _ _ _ _ _ _ hc140) ni_X0_84 (by decide) rfl rfl (Nat.le_of_ble_eq_true rfl) dX0_init_155 rfl ?_
  obtain ⟨h142, hf⟩ := ck_ex hf
  obtain ⟨w143, hs144, hf⟩ := st1_ex hf
  refine VE_putRF (x := (some b136)) ff_X0_85 h142 hE.ini rfl hs144 dX0_init_158 ?_
  refine V_aload_n dX0_init_161 rfl ?_
  refine V_bipush dX0_init_162 ckb_8 ?_
  obtain ⟨h145, hf⟩ := ck_ex hf
  obtain ⟨b146, hb147, hf⟩ := st1_ex hf
  obtain ⟨w148, hs149, hf⟩ := st1_ex hf
  refine VE_newa (k := 1) rfl (by decide) (by decide) ac_1 rfl h145 (by decide) hb147 hs149 dX0_init_164 ?_
  obtain ⟨h150, hf⟩ := ck_ex hf
  obtain ⟨w151, hs152, hf⟩ := st1_ex hf
  refine VE_putRF (x := (some b146)) ff_X0_89 h150 hE.ini rfl hs152 dX0_init_166 ?_
  refine V_aload_n dX0_init_169 rfl ?_
  refine V_bipush dX0_init_170 ckb_20 ?_
  obtain ⟨h153, hf⟩ := ck_ex hf
  obtain ⟨b154, hb155, hf⟩ := st1_ex hf
  obtain ⟨w156, hs157, hf⟩ := st1_ex hf
  refine VE_newa (k := 1) rfl (by decide) (by decide) ac_1 rfl h153 (by decide) hb155 hs157 dX0_init_172 ?_
  obtain ⟨h158, hf⟩ := ck_ex hf
  obtain ⟨w159, hs160, hf⟩ := st1_ex hf
  refine VE_putRF (x := (some b154)) ff_X0_92 h158 hE.ini rfl hs160 dX0_init_174 ?_
  refine V_aload_n dX0_init_177 rfl ?_
  refine V_bipush dX0_init_178 ckb_8 ?_
  obtain ⟨h161, hf⟩ := ck_ex hf
  obtain ⟨b162, hb163, hf⟩ := st1_ex hf
  obtain ⟨w164, hs165, hf⟩ := st1_ex hf
  refine VE_newa (k := 1) rfl (by decide) (by decide) ac_1 rfl h161 (by decide) hb163 hs165 dX0_init_180 ?_
  obtain ⟨h166, hf⟩ := ck_ex hf
  obtain ⟨w167, hs168, hf⟩ := st1_ex hf
  refine VE_putRF (x := (some b162)) ff_X0_95 h166 hE.ini rfl hs168 dX0_init_182 ?_
  refine V_aload_n dX0_init_185 rfl ?_
  refine V_bipush dX0_init_186 ckb_8 ?_
  obtain ⟨h169, hf⟩ := ck_ex hf
  obtain ⟨b170, hb171, hf⟩ := st1_ex hf
  obtain ⟨w172, hs173, hf⟩ := st1_ex hf
  refine VE_newa (k := 2) rfl (by decide) (by decide) ac_2 rfl h169 (by decide) hb171 hs173 dX0_init_188 ?_
  obtain ⟨h174, hf⟩ := ck_ex hf
  obtain ⟨w175, hs176, hf⟩ := st1_ex hf
  refine VE_putRF (x := (some b170)) ff_X0_98 h174 hE.ini rfl hs176 dX0_init_190 ?_
  refine V_aload_n dX0_init_193 rfl ?_
  refine V_bipush dX0_init_194 ckb_7 ?_
  obtain ⟨h177, hf⟩ := ck_ex hf
  obtain ⟨b178, hb179, hf⟩ := st1_ex hf
  obtain ⟨w180, hs181, hf⟩ := st1_ex hf
  refine VE_newa (k := 1) rfl (by decide) (by decide) ac_1 rfl h177 (by decide) hb179 hs181 dX0_init_196 ?_
  obtain ⟨h182, hf⟩ := ck_ex hf
  obtain ⟨w183, hs184, hf⟩ := st1_ex hf
  refine VE_putRF (x := (some b178)) ff_X0_102 h182 hE.ini rfl hs184 dX0_init_198 ?_
  refine V_aload_n dX0_init_201 rfl ?_
  refine V_bipush dX0_init_202 ckb_7 ?_
  obtain ⟨h185, hf⟩ := ck_ex hf
  obtain ⟨b186, hb187, hf⟩ := st1_ex hf
  obtain ⟨w188, hs189, hf⟩ := st1_ex hf
  refine VE_newa (k := 1) rfl (by decide) (by decide) ac_1 rfl h185 (by decide) hb187 hs189 dX0_init_204 ?_
  obtain ⟨h190, hf⟩ := ck_ex hf
  obtain ⟨w191, hs192, hf⟩ := st1_ex hf
  refine VE_putRF (x := (some b186)) ff_X0_105 h190 hE.ini rfl hs192 dX0_init_206 ?_
  refine V_aload_n dX0_init_209 rfl ?_
  refine V_bipush dX0_init_210 ckb_7 ?_
  obtain ⟨h193, hf⟩ := ck_ex hf
  obtain ⟨b194, hb195, hf⟩ := st1_ex hf
  obtain ⟨w196, hs197, hf⟩ := st1_ex hf
  refine VE_newa (k := 1) rfl (by decide) (by decide) ac_1 rfl h193 (by decide) hb195 hs197 dX0_init_212 ?_
  obtain ⟨h198, hf⟩ := ck_ex hf
  obtain ⟨w199, hs200, hf⟩ := st1_ex hf
  refine VE_putRF (x := (some b194)) ff_X0_108 h198 hE.ini rfl hs200 dX0_init_214 ?_
  refine V_aload_n dX0_init_217 rfl ?_
  refine V_bipush dX0_init_218 ckb_7 ?_
  obtain ⟨h201, hf⟩ := ck_ex hf
  obtain ⟨b202, hb203, hf⟩ := st1_ex hf
  obtain ⟨w204, hs205, hf⟩ := st1_ex hf
  refine VE_newa (k := 1) rfl (by decide) (by decide) ac_1 rfl h201 (by decide) hb203 hs205 dX0_init_220 ?_
  obtain ⟨h206, hf⟩ := ck_ex hf
  obtain ⟨w207, hs208, hf⟩ := st1_ex hf
  refine VE_putRF (x := (some b202)) ff_X0_111 h206 hE.ini rfl hs208 dX0_init_222 ?_
  refine V_aload_n dX0_init_225 rfl ?_
  refine V_iconst dX0_init_226 ckc_m1 ?_
  obtain ⟨h209, hf⟩ := ck_ex hf
  obtain ⟨w210, hs211, hf⟩ := st1_ex hf
  refine VE_putI fw_X0_114 h209 rfl rfl rfl hs211 dX0_init_227 ?_
  cases some_ex hf
  exact V_vret hE dX0_init_230
set_option maxHeartbeats 4000000 in
theorem mC_X0_in_ok (l : Launch) (D : DD) (w : AH) (p0 : Int32) (p1 : Int32) (p2 : Int32) (r : Int32) (hf : mC_X0_in p0 p1 p2 = some r) : MA l D yX0_in cX0_in 3 (some (.boolean)) 1 [.int p0, .int p1, .int p2] w (.returned (some (.int r))) w := by
  refine MA.introH (own := RX0) (nm := "in") (ls := [some (.int p0), some (.int p1), some (.int p2)]) (by decide) rfl rfl (Nat.le_of_ble_eq_true rfl) rfl (fun X hl hD hE hH => ?_)
  subst hl hD
  unfold mC_X0_in at hf
  refine V_iload_n dX0_in_0 rfl ?_
  refine V_iload_n dX0_in_1 rfl ?_
  refine V_icmp_lt (tgt := 14) dX0_in_2 (by decide) (fun hc1 => ?_) (fun hc1 => ?_)
  · have hf := if_t hf hc1
    refine V_iconst dX0_in_14 ckc_0 ?_
    cases some_ex hf
    exact V_zret hE (by decide) dX0_in_15
  · have hf := if_f hf hc1
    refine V_iload_n dX0_in_5 rfl ?_
    refine V_iload_n dX0_in_6 rfl ?_
    refine V_icmp_gt (tgt := 14) dX0_in_7 (by decide) (fun hc2 => ?_) (fun hc2 => ?_)
    · have hf := if_t hf hc2
      refine V_iconst dX0_in_14 ckc_0 ?_
      cases some_ex hf
      exact V_zret hE (by decide) dX0_in_15
    · have hf := if_f hf hc2
      refine V_iconst dX0_in_10 ckc_1 ?_
      refine V_goto (tgt := 15) dX0_in_11 (by decide) ?_
      cases some_ex hf
      exact V_zret hE (by decide) dX0_in_15
set_option maxHeartbeats 4000000 in
theorem mC_X0_refuse_ok (l : Launch) (D : DD) (w : AH) (a : Nat) (p0 : Int32) (r : Int32) (w' : AH) (hf : mC_X0_refuse a p0 w = some (r, w')) : MA l D yX0_refuse cX0_refuse 2 (some (.int)) 1 [.ref a, .int p0] w (.returned (some (.int r))) w' := by
  refine MA.introH (own := RX0) (nm := "refuse") (ls := [some (.ref a), some (.int p0)]) (by decide) rfl rfl (Nat.le_of_ble_eq_true rfl) rfl (fun X hl hD hE hH => ?_)
  subst hl hD
  unfold mC_X0_refuse at hf
  refine V_aload_n dX0_refuse_0 rfl ?_
  refine V_iload_n dX0_refuse_1 rfl ?_
  obtain ⟨h1, hf⟩ := ck_ex hf
  obtain ⟨w2, hs3, hf⟩ := st1_ex hf
  refine VE_putI fw_X0_117 h1 rfl rfl rfl hs3 dX0_refuse_2 ?_
  refine V_iload_n dX0_refuse_5 rfl ?_
  cases some_ex hf
  exact V_iret hE dX0_refuse_6
set_option maxHeartbeats 4000000 in
theorem mC_J2_clear_27_v {X : CX} {w0 : AH} {w' : AH}  (hE : XE X w0 1 none "clear" (.returned none) w') (hH : XH X []) (k27 : Nat → Int32 → Int32 → AH → Option (AH)) (hk27 : ∀ (v1 : Nat) (v2 : Int32) (v3 : Int32) (w : AH), k27 v1 v2 v3 w = some w' → V X cJ2_clear RJ2 4 1 w 27 [none, some (.ref v1), some (.int v2), some (.int v3)] []) (v1 : Nat) (v2 : Int32) (v3 : Int32) (w : AH) (hf : mC_J2_clear_27 k27 v1 v2 v3 w = some w') : V X cJ2_clear RJ2 4 1 w 27 [none, some (.ref v1), some (.int v2), some (.int v3)] [] := by
  unfold mC_J2_clear_27 at hf
  refine V_iload_n dJ2_clear_27 rfl ?_
  refine V_iload_n dJ2_clear_28 rfl ?_
  refine V_icmp_ge (tgt := 42) dJ2_clear_29 (by decide) (fun hc1 => ?_) (fun hc1 => ?_)
  · have hf := if_t hf hc1
    cases some_ex hf
    exact V_vret hE dJ2_clear_42
  · have hf := if_f hf hc1
    refine V_aload_n dJ2_clear_32 rfl ?_
    refine V_iload_n dJ2_clear_33 rfl ?_
    refine V_null dJ2_clear_34 ?_
    obtain ⟨h2, hf⟩ := ck_ex hf
    obtain ⟨w3, hs4, hf⟩ := st1_ex hf
    refine VE_aastN h2 rfl hs4 dJ2_clear_35 ?_
    refine V_inc (ls' := [none, some (.ref v1), some (.int v2), some (.int (v3 + (1 : Int32)))]) dJ2_clear_36 rfl ckc_1 (by decide) rfl ?_
    refine V_goto (tgt := 27) dJ2_clear_39 (by decide) ?_
    exact hk27 v1 v2 (v3 + (1 : Int32)) w3 hf
set_option maxHeartbeats 4000000 in
theorem mC_J2_clear_ok (l : Launch) (D : DD) (w : AH) (a : Nat) (w' : AH) (hf : mC_J2_clear a w = some w') : MA l D yJ2_clear cJ2_clear 4 none 1 [.ref a] w (.returned none) w' := by
  refine MA.introH (own := RJ2) (nm := "clear") (ls := [some (.ref a), none, none, none]) (by decide) rfl rfl (Nat.le_of_ble_eq_true rfl) rfl (fun X hl hD hE hH => ?_)
  subst hl hD
  unfold mC_J2_clear at hf
  refine V_aload_n dJ2_clear_0 rfl ?_
  refine V_dup dJ2_clear_1 rfl ?_
  obtain ⟨h1, hf⟩ := ck_ex hf
  refine VP_getI fa_J2_63 h1 rfl dJ2_clear_2 ?_
  refine V_iconst dJ2_clear_5 ckc_1 ?_
  refine V_iadd dJ2_clear_6 ?_
  obtain ⟨w2, hs3, hf⟩ := st1_ex hf
  refine VE_putI fw_J2_63 h1 rfl rfl rfl hs3 dJ2_clear_7 ?_
  refine V_aload_n dJ2_clear_10 rfl ?_
  obtain ⟨h4, hf⟩ := ck_ex hf
  obtain ⟨b5, hb6, hf⟩ := bd1_ex hf
  refine VP_getR (x := some b5) fa_J2_9 h4 rfl rfl hb6 dJ2_clear_11 ?_
  refine V_astore_n (ls' := [some (.ref a), some (.ref b5), none, none]) dJ2_clear_14 (by decide) rfl ?_
  refine V_aload_n dJ2_clear_15 rfl ?_
  refine VP_getI fa_J2_48 h4 rfl dJ2_clear_16 ?_
  refine V_istore_n (ls' := [some (.ref a), some (.ref b5), some (.int (hvi w2 a 2)), none]) dJ2_clear_19 (by decide) rfl ?_
  refine V_aload_n dJ2_clear_20 rfl ?_
  refine V_iconst dJ2_clear_21 ckc_0 ?_
  refine V_dup_x1 dJ2_clear_22 rfl rfl ?_
  obtain ⟨w7, hs8, hf⟩ := st1_ex hf
  refine VE_putI fw_J2_48 h4 rfl rfl rfl hs8 dJ2_clear_23 ?_
  refine V_istore_n (ls' := [some (.ref a), some (.ref b5), some (.int (hvi w2 a 2)), some (.int (0 : Int32))]) dJ2_clear_26 (by decide) rfl ?_
  refine V_keep [false, true, true, true] rfl ?_
  exact lq4_ex (P := fun v1 v2 v3 w => V X cJ2_clear RJ2 4 1 w 27 [none, some (.ref v1), some (.int v2), some (.int v3)] []) (fun k hk v1 v2 v3 w hf => mC_J2_clear_27_v hE hH k hk v1 v2 v3 w hf) LF b5 (hvi w2 a 2) (0 : Int32) w7 hf
set_option maxHeartbeats 4000000 in
theorem mC_J7_copyOf_2_24_v {X : CX} {w0 : AH} {r : Nat} {w' : AH}  (hE : XE X w0 1 (some (.array (.object "java/lang/Object"))) "copyOf" (.returned (some (.ref r))) w') (hH : XH X []) (v0 : Nat) (v1 : Int32) (t0 : Nat) (w : AH) (hf : mC_J7_copyOf_2_24 v0 v1 t0 w = some (r, w')) : V X cJ7_copyOf_2 RJ7 4 1 w 24 [some (.ref v0), some (.int v1), none, none] [.ref t0] := by
  unfold mC_J7_copyOf_2_24 at hf
  refine V_astore_n (ls' := [some (.ref v0), some (.int v1), none, some (.ref t0)]) dJ7_copyOf_2_24 (by decide) rfl ?_
  refine V_aload_n dJ7_copyOf_2_25 rfl ?_
  refine V_iconst dJ7_copyOf_2_26 ckc_0 ?_
  refine V_aload_n dJ7_copyOf_2_27 rfl ?_
  refine V_iconst dJ7_copyOf_2_28 ckc_0 ?_
  refine V_aload_n dJ7_copyOf_2_29 rfl ?_
  obtain ⟨h1, hf⟩ := ck_ex hf
  refine VE_alen h1 dJ7_copyOf_2_30 ?_
  refine V_iload_n dJ7_copyOf_2_31 rfl ?_
  obtain ⟨r2, hm3, hf⟩ := st1_ex hf
  refine V_mmin q725 q726 q147 q727 (by decide) (Nat.le_of_ble_eq_true rfl) dJ7_copyOf_2_32 ?_
  rw [hm3]
  obtain ⟨h4, hf⟩ := ck_ex hf
  obtain ⟨h5, hf⟩ := ck_ex hf
  obtain ⟨h6, hf⟩ := ck_ex hf
  obtain ⟨h7, hf⟩ := ck_ex hf
  obtain ⟨w8, hs9, hf⟩ := st1_ex hf
  refine VE_cpyR castO q728 q730 q729 q149 (hk_mk h4) (hk_mk h5) h6 h7 hs9 (by decide) (Nat.le_of_ble_eq_true rfl) dJ7_copyOf_2_35 ?_
  refine V_aload_n dJ7_copyOf_2_38 rfl ?_
  cases some_ex hf
  exact V_aret (r := some _) hE (by first | exact Or.inl ⟨_, rfl⟩ | exact Or.inr ⟨_, rfl⟩) dJ7_copyOf_2_39
set_option maxHeartbeats 4000000 in
theorem mC_J7_copyOf_2_ok (l : Launch) (D : DD) (w : AH) (p0 : Nat) (p1 : Int32) (p2 : Nat) (r : Nat) (w' : AH) (hf : mC_J7_copyOf_2 p0 p1 p2 w = some (r, w')) : MA l D yJ7_copyOf_2 cJ7_copyOf_2 4 (some (.array (.object "java/lang/Object"))) 1 [.ref p0, .int p1, .ref p2] w (.returned (some (.ref r))) w' := by
  refine MA.introH (own := RJ7) (nm := "copyOf") (ls := [some (.ref p0), some (.int p1), some (.ref p2), none]) (by decide) rfl rfl (Nat.le_of_ble_eq_true rfl) rfl (fun X hl hD hE hH => ?_)
  subst hl hD
  unfold mC_J7_copyOf_2 at hf
  refine V_aload_n dJ7_copyOf_2_0 rfl ?_
  obtain ⟨b1, ha2, hf⟩ := bd1_ex hf
  refine V_ldcM q723 ha2 dJ7_copyOf_2_1 ?_
  refine V_acmp_ne (rx := (some p2)) (ry := (some b1)) (tgt := 13) dJ7_copyOf_2_3 (by decide) (fun hc3 => ?_) (fun hc3 => ?_)
  · have hf := if_f hf hc3
    refine V_aload_n dJ7_copyOf_2_13 rfl ?_
    cases hf
  · have hf := if_t hf hc3
    refine V_iload_n dJ7_copyOf_2_6 rfl ?_
    obtain ⟨h4, hf⟩ := ck_ex hf
    obtain ⟨b5, hb6, hf⟩ := st1_ex hf
    obtain ⟨w7, hs8, hf⟩ := st1_ex hf
    refine VE_anew (k := 5) (by decide) q724 h4 rfl hb6 hs8 dJ7_copyOf_2_7 ?_
    refine V_goto (tgt := 24) dJ7_copyOf_2_10 (by decide) ?_
    refine V_keep [true, true, false, true] rfl ?_
    exact mC_J7_copyOf_2_24_v hE hH p0 p1 b5 w7 hf
set_option maxHeartbeats 4000000 in
theorem mC_J7_copyOf_ok (l : Launch) (D : DD) (w : AH) (p0 : Nat) (p1 : Int32) (r : Nat) (w' : AH) (hf : mC_J7_copyOf p0 p1 w = some (r, w')) : MA l D yJ7_copyOf cJ7_copyOf 2 (some (.array (.object "java/lang/Object"))) 2 [.ref p0, .int p1] w (.returned (some (.ref r))) w' := by
  refine MA.introH (own := RJ7) (nm := "copyOf") (ls := [some (.ref p0), some (.int p1)]) (by decide) rfl rfl (Nat.le_of_ble_eq_true rfl) rfl (fun X hl hD hE hH => ?_)
  subst hl hD
  unfold mC_J7_copyOf at hf
  refine V_aload_n dJ7_copyOf_0 rfl ?_
  refine V_iload_n dJ7_copyOf_1 rfl ?_
  refine V_aload_n dJ7_copyOf_2 rfl ?_
  obtain ⟨h1, hf⟩ := ck_ex hf
  obtain ⟨b2, ha3, hf⟩ := bd1_ex hf
  refine V_getC q690 q2566 q2565 q691 q719 (hk_mk h1) ha3 (by decide) (Nat.le_of_ble_eq_true rfl) dJ7_copyOf_3 ?_
  obtain ⟨r5, w6, hc4, hf⟩ := bd2_ex hf
  refine V_cS (rest := []) (st' := [.ref r5]) (mC_J7_copyOf_2_ok _ _ _ _ _ _ _ _ hc4) sc_J7_300 (by decide) rfl rfl (Nat.le_of_ble_eq_true rfl) dJ7_copyOf_6 rfl ?_
  cases some_ex hf
  exact V_aret (r := some _) hE (by first | exact Or.inl ⟨_, rfl⟩ | exact Or.inr ⟨_, rfl⟩) dJ7_copyOf_9
set_option maxHeartbeats 4000000 in
theorem mC_J2_toArray_ok (l : Launch) (D : DD) (w : AH) (a : Nat) (r : Nat) (w' : AH) (hf : mC_J2_toArray a w = some (r, w')) : MA l D yJ2_toArray cJ2_toArray 1 (some (.array (.object "java/lang/Object"))) 3 [.ref a] w (.returned (some (.ref r))) w' := by
  refine MA.introH (own := RJ2) (nm := "toArray") (ls := [some (.ref a)]) (by decide) rfl rfl (Nat.le_of_ble_eq_true rfl) rfl (fun X hl hD hE hH => ?_)
  subst hl hD
  unfold mC_J2_toArray at hf
  refine V_aload_n dJ2_toArray_0 rfl ?_
  obtain ⟨h1, hf⟩ := ck_ex hf
  obtain ⟨b2, hb3, hf⟩ := bd1_ex hf
  refine VP_getR (x := some b2) fa_J2_9 h1 rfl rfl hb3 dJ2_toArray_1 ?_
  refine V_aload_n dJ2_toArray_4 rfl ?_
  refine VP_getI fa_J2_48 h1 rfl dJ2_toArray_5 ?_
  obtain ⟨r5, w6, hc4, hf⟩ := bd2_ex hf
  refine V_cS (rest := []) (st' := [.ref r5]) (mC_J7_copyOf_ok _ _ _ _ _ _ _ hc4) sc_J2_66 (by decide) rfl rfl (Nat.le_of_ble_eq_true rfl) dJ2_toArray_8 rfl ?_
  cases some_ex hf
  exact V_aret (r := some _) hE (by first | exact Or.inl ⟨_, rfl⟩ | exact Or.inr ⟨_, rfl⟩) dJ2_toArray_11
set_option maxHeartbeats 4000000 in
theorem mC_J5_newLength_21_v {X : CX} {w0 : AH} {r : Int32}  (w : AH) (hE : XE X w0 1 (some (.int)) "newLength" (.returned (some (.int r))) w) (hH : XH X []) (v0 : Int32) (v1 : Int32) (hf : mC_J5_newLength_21 w v0 v1 = some r) : V X cJ5_newLength RJ5 4 1 w 21 [some (.int v0), some (.int v1), none, none] [] := by
  unfold mC_J5_newLength_21 at hf
  refine V_iload_n dJ5_newLength_21 rfl ?_
  refine V_iload_n dJ5_newLength_22 rfl ?_
  cases hf
set_option maxHeartbeats 4000000 in
theorem mC_J5_newLength_ok (l : Launch) (D : DD) (w : AH) (p0 : Int32) (p1 : Int32) (p2 : Int32) (r : Int32) (hf : mC_J5_newLength p0 p1 p2 w = some r) : MA l D yJ5_newLength cJ5_newLength 4 (some (.int)) 1 [.int p0, .int p1, .int p2] w (.returned (some (.int r))) w := by
  refine MA.introH (own := RJ5) (nm := "newLength") (ls := [some (.int p0), some (.int p1), some (.int p2), none]) (by decide) rfl rfl (Nat.le_of_ble_eq_true rfl) rfl (fun X hl hD hE hH => ?_)
  subst hl hD
  unfold mC_J5_newLength at hf
  refine V_iload_n dJ5_newLength_0 rfl ?_
  refine V_iload_n dJ5_newLength_1 rfl ?_
  refine V_iload_n dJ5_newLength_2 rfl ?_
  obtain ⟨r1, hm2, hf⟩ := st1_ex hf
  refine V_mmax q740 q741 q147 q742 (by decide) (Nat.le_of_ble_eq_true rfl) dJ5_newLength_3 ?_
  rw [hm2]
  refine V_iadd dJ5_newLength_6 ?_
  refine V_istore_n (ls' := [some (.int p0), some (.int p1), some (.int p2), some (.int (p0 + r1))]) dJ5_newLength_7 (by decide) rfl ?_
  refine V_iconst dJ5_newLength_8 ckc_0 ?_
  refine V_iload_n dJ5_newLength_9 rfl ?_
  refine V_icmp_ge (tgt := 21) dJ5_newLength_10 (by decide) (fun hc3 => ?_) (fun hc3 => ?_)
  · have hf := if_t hf hc3
    refine V_keep [true, true, false, false] rfl ?_
    exact mC_J5_newLength_21_v w hE hH p0 p1 hf
  · have hf := if_f hf hc3
    refine V_iload_n dJ5_newLength_13 rfl ?_
    refine V_ldc q743 dJ5_newLength_14 ?_
    refine V_icmp_gt (tgt := 21) dJ5_newLength_16 (by decide) (fun hc4 => ?_) (fun hc4 => ?_)
    · have hf := if_t hf hc4
      refine V_keep [true, true, false, false] rfl ?_
      exact mC_J5_newLength_21_v w hE hH p0 p1 hf
    · have hf := if_f hf hc4
      refine V_iload_n dJ5_newLength_19 rfl ?_
      cases some_ex hf
      exact V_iret hE dJ5_newLength_20
set_option maxHeartbeats 4000000 in
theorem mC_J2_grow_20_v {X : CX} {w0 : AH} {r : Nat} {w' : AH}  (hE : XE X w0 3 (some (.array (.object "java/lang/Object"))) "grow" (.returned (some (.ref r))) w') (hH : XH X []) (v0 : Nat) (v1 : Int32) (v2 : Int32) (w : AH) (hf : mC_J2_grow_20 v0 v1 v2 w = some (r, w')) : V X cJ2_grow RJ2 4 3 w 20 [some (.ref v0), some (.int v1), some (.int v2), none] [] := by
  unfold mC_J2_grow_20 at hf
  refine V_iload_n dJ2_grow_20 rfl ?_
  refine V_iload_n dJ2_grow_21 rfl ?_
  refine V_iload_n dJ2_grow_22 rfl ?_
  refine V_isub dJ2_grow_23 ?_
  refine V_iload_n dJ2_grow_24 rfl ?_
  refine V_iconst dJ2_grow_25 ckc_1 ?_
  refine V_ishr dJ2_grow_26 ?_
  obtain ⟨r2, hc1, hf⟩ := bd1_ex hf
  refine V_cS (rest := []) (st' := [.int r2]) (mC_J5_newLength_ok _ _ _ _ _ _ _ hc1) sc_J2_73 (by decide) rfl rfl (Nat.le_of_ble_eq_true rfl) dJ2_grow_27 rfl ?_
  refine V_istore_n (ls' := [some (.ref v0), some (.int v1), some (.int v2), some (.int r2)]) dJ2_grow_30 (by decide) rfl ?_
  refine V_aload_n dJ2_grow_31 rfl ?_
  refine V_aload_n dJ2_grow_32 rfl ?_
  obtain ⟨h3, hf⟩ := ck_ex hf
  obtain ⟨b4, hb5, hf⟩ := bd1_ex hf
  refine VP_getR (x := some b4) fa_J2_9 h3 rfl rfl hb5 dJ2_grow_33 ?_
  refine V_iload_n dJ2_grow_36 rfl ?_
  obtain ⟨r7, w8, hc6, hf⟩ := bd2_ex hf
  refine V_cS (rest := [.ref v0]) (st' := [.ref r7, .ref v0]) (mC_J7_copyOf_ok _ _ _ _ _ _ _ hc6) sc_J2_66 (by decide) rfl rfl (Nat.le_of_ble_eq_true rfl) dJ2_grow_37 rfl ?_
  refine V_dup_x1 dJ2_grow_40 rfl rfl ?_
  obtain ⟨h9, hf⟩ := ck_ex hf
  obtain ⟨w10, hs11, hf⟩ := st1_ex hf
  refine VE_putR (x := (some r7)) fw_J2_9 h9 rfl hs11 dJ2_grow_41 ?_
  cases some_ex hf
  exact V_aret (r := some _) hE (by first | exact Or.inl ⟨_, rfl⟩ | exact Or.inr ⟨_, rfl⟩) dJ2_grow_44
set_option maxHeartbeats 4000000 in
theorem mC_J2_grow_ok (l : Launch) (D : DD) (w : AH) (a : Nat) (p0 : Int32) (r : Nat) (w' : AH) (hf : mC_J2_grow a p0 w = some (r, w')) : MA l D yJ2_grow cJ2_grow 4 (some (.array (.object "java/lang/Object"))) 3 [.ref a, .int p0] w (.returned (some (.ref r))) w' := by
  refine MA.introH (own := RJ2) (nm := "grow") (ls := [some (.ref a), some (.int p0), none, none]) (by decide) rfl rfl (Nat.le_of_ble_eq_true rfl) rfl (fun X hl hD hE hH => ?_)
  subst hl hD
  unfold mC_J2_grow at hf
  refine V_aload_n dJ2_grow_0 rfl ?_
  obtain ⟨h1, hf⟩ := ck_ex hf
  obtain ⟨b2, hb3, hf⟩ := bd1_ex hf
  refine VP_getR (x := some b2) fa_J2_9 h1 rfl rfl hb3 dJ2_grow_1 ?_
  obtain ⟨h4, hf⟩ := ck_ex hf
  refine VE_alen h4 dJ2_grow_4 ?_
  refine V_istore_n (ls' := [some (.ref a), some (.int p0), some (.int (Int32.ofNat (hkd w b2).2)), none]) dJ2_grow_5 (by decide) rfl ?_
  refine V_iload_n dJ2_grow_6 rfl ?_
  refine V_if_gt (tgt := 20) dJ2_grow_7 (by decide) (fun hc5 => ?_) (fun hc5 => ?_)
  · have hf := if_t hf hc5
    exact mC_J2_grow_20_v hE hH a p0 (Int32.ofNat (hkd w b2).2) w hf
  · have hf := if_f hf hc5
    refine V_aload_n dJ2_grow_10 rfl ?_
    refine VP_getR (x := some b2) fa_J2_9 h1 rfl rfl hb3 dJ2_grow_11 ?_
    cases hf
set_option maxHeartbeats 4000000 in
theorem mC_J2_addAll_56_v {X : CX} {w0 : AH} {r : Int32} {w' : AH}  (hE : XE X w0 4 (some (.boolean)) "addAll" (.returned (some (.int r))) w') (hH : XH X []) (v0 : Nat) (v2 : Nat) (v3 : Int32) (v4 : Nat) (v5 : Int32) (w : AH) (hf : mC_J2_addAll_56 v0 v2 v3 v4 v5 w = some (r, w')) : V X cJ2_addAll RJ2 6 4 w 56 [some (.ref v0), none, some (.ref v2), some (.int v3), some (.ref v4), some (.int v5)] [] := by
  unfold mC_J2_addAll_56 at hf
  refine V_aload_n dJ2_addAll_56 rfl ?_
  refine V_iconst dJ2_addAll_57 ckc_0 ?_
  refine V_aload dJ2_addAll_58 rfl ?_
  refine V_iload dJ2_addAll_60 rfl ?_
  refine V_iload_n dJ2_addAll_62 rfl ?_
  obtain ⟨h1, hf⟩ := ck_ex hf
  obtain ⟨h2, hf⟩ := ck_ex hf
  obtain ⟨h3, hf⟩ := ck_ex hf
  obtain ⟨h4, hf⟩ := ck_ex hf
  obtain ⟨w5, hs6, hf⟩ := st1_ex hf
  refine VE_cpyR castO q748 q730 q729 q149 (hk_mk h1) (hk_mk h2) h3 h4 hs6 (by decide) (Nat.le_of_ble_eq_true rfl) dJ2_addAll_63 ?_
  refine V_aload_n dJ2_addAll_66 rfl ?_
  refine V_iload dJ2_addAll_67 rfl ?_
  refine V_iload_n dJ2_addAll_69 rfl ?_
  refine V_iadd dJ2_addAll_70 ?_
  obtain ⟨h7, hf⟩ := ck_ex hf
  obtain ⟨w8, hs9, hf⟩ := st1_ex hf
  refine VE_putI fw_J2_48 h7 rfl rfl rfl hs9 dJ2_addAll_71 ?_
  refine V_iconst dJ2_addAll_74 ckc_1 ?_
  cases some_ex hf
  exact V_zret hE (by decide) dJ2_addAll_75
set_option maxHeartbeats 4000000 in
theorem mC_J2_addAll_ok (l : Launch) (D : DD) (w : AH) (a : Nat) (p0 : Nat) (r : Int32) (w' : AH) (hf : mC_J2_addAll a p0 w = some (r, w')) : MA l D yJ2_addAll cJ2_addAll 6 (some (.boolean)) 4 [.ref a, .ref p0] w (.returned (some (.int r))) w' := by
  refine MA.introH (own := RJ2) (nm := "addAll") (ls := [some (.ref a), some (.ref p0), none, none, none, none]) (by decide) rfl rfl (Nat.le_of_ble_eq_true rfl) rfl (fun X hl hD hE hH => ?_)
  subst hl hD
  unfold mC_J2_addAll at hf
  refine V_aload_n dJ2_addAll_0 rfl ?_
  obtain ⟨h1, hf⟩ := ck_ex hf
  obtain ⟨r3, w4, hc2, hf⟩ := bd2_ex hf
  refine V_toArr (rest := []) (st' := [.ref r3]) (n := 0) rfl rfl (mC_J2_toArray_ok _ _ _ _ _ _ hc2) ⟨_, _, rfl⟩ q678 q682 q684 q136 q686 (by decide) (kIn1 h1) (by decide) (Nat.le_of_ble_eq_true rfl) dJ2_addAll_1 rfl ?_
  refine V_astore_n (ls' := [some (.ref a), some (.ref p0), some (.ref r3), none, none, none]) dJ2_addAll_6 (by decide) rfl ?_
  refine V_aload_n dJ2_addAll_7 rfl ?_
  refine V_dup dJ2_addAll_8 rfl ?_
  obtain ⟨h5, hf⟩ := ck_ex hf
  refine VP_getI fa_J2_63 h5 rfl dJ2_addAll_9 ?_
  refine V_iconst dJ2_addAll_12 ckc_1 ?_
  refine V_iadd dJ2_addAll_13 ?_
  obtain ⟨w6, hs7, hf⟩ := st1_ex hf
  refine VE_putI fw_J2_63 h5 rfl rfl rfl hs7 dJ2_addAll_14 ?_
  refine V_aload_n dJ2_addAll_17 rfl ?_
  obtain ⟨h8, hf⟩ := ck_ex hf
  refine VE_alen h8 dJ2_addAll_18 ?_
  refine V_istore_n (ls' := [some (.ref a), some (.ref p0), some (.ref r3), some (.int (Int32.ofNat (hkd w6 r3).2)), none, none]) dJ2_addAll_19 (by decide) rfl ?_
  refine V_iload_n dJ2_addAll_20 rfl ?_
  refine V_if_ne (tgt := 26) dJ2_addAll_21 (by decide) (fun hc9 => ?_) (fun hc9 => ?_)
  · have hf := if_f hf hc9
    refine V_iload_n dJ2_addAll_26 rfl ?_
    refine V_aload_n dJ2_addAll_27 rfl ?_
    obtain ⟨h10, hf⟩ := ck_ex hf
    obtain ⟨b11, hb12, hf⟩ := bd1_ex hf
    refine VP_getR (x := some b11) fa_J2_9 h10 rfl rfl hb12 dJ2_addAll_28 ?_
    refine V_dup dJ2_addAll_31 rfl ?_
    refine V_astore (ls' := [some (.ref a), some (.ref p0), some (.ref r3), some (.int (Int32.ofNat (hkd w6 r3).2)), some (.ref b11), none]) dJ2_addAll_32 (by decide) rfl ?_
    obtain ⟨h13, hf⟩ := ck_ex hf
    refine VE_alen h13 dJ2_addAll_34 ?_
    refine V_aload_n dJ2_addAll_35 rfl ?_
    refine VP_getI fa_J2_48 h10 rfl dJ2_addAll_36 ?_
    refine V_dup dJ2_addAll_39 rfl ?_
    refine V_istore (ls' := [some (.ref a), some (.ref p0), some (.ref r3), some (.int (Int32.ofNat (hkd w6 r3).2)), some (.ref b11), some (.int (hvi w6 a 2))]) dJ2_addAll_40 (by decide) rfl ?_
    refine V_isub dJ2_addAll_42 ?_
    refine V_icmp_le (tgt := 56) dJ2_addAll_43 (by decide) (fun hc14 => ?_) (fun hc14 => ?_)
    · have hf := if_t hf hc14
      refine V_keep [true, false, true, true, true, true] rfl ?_
      exact mC_J2_addAll_56_v hE hH a r3 (Int32.ofNat (hkd w6 r3).2) b11 (hvi w6 a 2) w6 hf
    · have hf := if_f hf hc14
      refine V_aload_n dJ2_addAll_46 rfl ?_
      refine V_iload dJ2_addAll_47 rfl ?_
      refine V_iload_n dJ2_addAll_49 rfl ?_
      refine V_iadd dJ2_addAll_50 ?_
      obtain ⟨r16, w17, hc15, hf⟩ := bd2_ex hf
      refine V_cV (av := [.int ((hvi w6 a 2) + (Int32.ofNat (hkd w6 r3).2))]) (rest := []) (st' := [.ref r16]) (mC_J2_grow_ok _ _ _ _ _ _ _ hc15) vc_J2_69 (kIn1 h10) (by decide) rfl rfl (Nat.le_of_ble_eq_true rfl) dJ2_addAll_51 rfl ?_
      refine V_astore (ls' := [some (.ref a), some (.ref p0), some (.ref r3), some (.int (Int32.ofNat (hkd w6 r3).2)), some (.ref r16), some (.int (hvi w6 a 2))]) dJ2_addAll_54 (by decide) rfl ?_
      refine V_keep [true, false, true, true, true, true] rfl ?_
      exact mC_J2_addAll_56_v hE hH a r3 (Int32.ofNat (hkd w6 r3).2) r16 (hvi w6 a 2) w17 hf
  · have hf := if_t hf hc9
    refine V_iconst dJ2_addAll_24 ckc_0 ?_
    cases some_ex hf
    exact V_zret hE (by decide) dJ2_addAll_25
set_option maxHeartbeats 4000000 in
theorem mC_X1_over_ok (l : Launch) (D : DD) (w : AH) (p0 : Nat) (p1 : Nat) (w' : AH) (hf : mC_X1_over p0 p1 w = some w') : MA l D yX1_over cX1_over 2 none 5 [.ref p0, .ref p1] w (.returned none) w' := by
  refine MA.introH (own := RX1) (nm := "over") (ls := [some (.ref p0), some (.ref p1)]) (by decide) rfl rfl (Nat.le_of_ble_eq_true rfl) rfl (fun X hl hD hE hH => ?_)
  subst hl hD
  unfold mC_X1_over at hf
  refine V_aload_n dX1_over_0 rfl ?_
  obtain ⟨h1, hf⟩ := ck_ex hf
  obtain ⟨w3, hc2, hf⟩ := bd1_ex hf
  refine V_cV (av := []) (rest := []) (st' := []) (mC_J2_clear_ok _ _ _ _ _ hc2) vc_X1_90 (kIn1 h1) (by decide) rfl rfl (Nat.le_of_ble_eq_true rfl) dX1_over_1 rfl ?_
  refine V_aload_n dX1_over_4 rfl ?_
  refine V_aload_n dX1_over_5 rfl ?_
  obtain ⟨h4, hf⟩ := ck_ex hf
  obtain ⟨r6, w7, hc5, hf⟩ := bd2_ex hf
  refine V_cV (av := [.ref p1]) (rest := []) (st' := [.int r6]) (mC_J2_addAll_ok _ _ _ _ _ _ _ hc5) vc_X1_93 (kIn1 h4) (by decide) rfl rfl (Nat.le_of_ble_eq_true rfl) dX1_over_6 rfl ?_
  refine V_pop dX1_over_9 rfl ?_
  cases some_ex hf
  exact V_vret hE dX1_over_10
set_option maxHeartbeats 4000000 in
theorem mC_X1_rows_ok (l : Launch) (D : DD) (w : AH) (p0 : Nat) (p1 : Nat) (w' : AH) (hf : mC_X1_rows p0 p1 w = some w') : MA l D yX1_rows cX1_rows 2 none 1 [.ref p0, .ref p1] w (.returned none) w' := by
  refine MA.introH (own := RX1) (nm := "rows") (ls := [some (.ref p0), some (.ref p1)]) (by decide) rfl rfl (Nat.le_of_ble_eq_true rfl) rfl (fun X hl hD hE hH => ?_)
  subst hl hD
  unfold mC_X1_rows at hf
  refine V_aload_n dX1_rows_0 rfl ?_
  refine V_iconst dX1_rows_1 ckc_0 ?_
  refine V_aload_n dX1_rows_2 rfl ?_
  refine V_iconst dX1_rows_3 ckc_0 ?_
  refine V_aload_n dX1_rows_4 rfl ?_
  obtain ⟨h1, hf⟩ := ck_ex hf
  refine VE_alen h1 dX1_rows_5 ?_
  obtain ⟨h2, hf⟩ := ck_ex hf
  obtain ⟨h3, hf⟩ := ck_ex hf
  obtain ⟨h4, hf⟩ := ck_ex hf
  obtain ⟨w5, hs6, hf⟩ := st1_ex hf
  refine VE_cpyI q752 q730 q729 q149 (hk_mk h2) (hk_mk h3) h4 hs6 (by decide) (Nat.le_of_ble_eq_true rfl) dX1_rows_6 ?_
  cases some_ex hf
  exact V_vret hE dX1_rows_9
set_option maxHeartbeats 4000000 in
theorem mC_X1_takes_ok (l : Launch) (D : DD) (w : AH) (a : Nat) (p0 : Nat) (w' : AH) (hf : mC_X1_takes a p0 w = some w') : MA l D yX1_takes cX1_takes 2 none 6 [.ref a, .ref p0] w (.returned none) w' := by
  refine MA.introH (own := RX1) (nm := "takes") (ls := [some (.ref a), some (.ref p0)]) (by decide) rfl rfl (Nat.le_of_ble_eq_true rfl) rfl (fun X hl hD hE hH => ?_)
  subst hl hD
  unfold mC_X1_takes at hf
  refine V_aload_n dX1_takes_0 rfl ?_
  obtain ⟨h1, hf⟩ := ck_ex hf
  obtain ⟨b2, hb3, hf⟩ := bd1_ex hf
  refine VP_getR (x := some b2) fa_X1_14 h1 rfl rfl hb3 dX1_takes_1 ?_
  refine V_aload_n dX1_takes_4 rfl ?_
  obtain ⟨h4, hf⟩ := ck_ex hf
  obtain ⟨b5, hb6, hf⟩ := bd1_ex hf
  refine VP_getR (x := some b5) fa_X1_14 h4 rfl rfl hb6 dX1_takes_5 ?_
  obtain ⟨w8, hc7, hf⟩ := bd1_ex hf
  refine V_cS (rest := []) (st' := []) (mC_X1_over_ok _ _ _ _ _ _ hc7) sc_X1_103 (by decide) rfl rfl (Nat.le_of_ble_eq_true rfl) dX1_takes_8 rfl ?_
  refine V_aload_n dX1_takes_11 rfl ?_
  obtain ⟨h9, hf⟩ := ck_ex hf
  obtain ⟨b10, hb11, hf⟩ := bd1_ex hf
  refine VP_getR (x := some b10) fa_X1_20 h9 rfl rfl hb11 dX1_takes_12 ?_
  refine V_aload_n dX1_takes_15 rfl ?_
  obtain ⟨h12, hf⟩ := ck_ex hf
  obtain ⟨b13, hb14, hf⟩ := bd1_ex hf
  refine VP_getR (x := some b13) fa_X1_20 h12 rfl rfl hb14 dX1_takes_16 ?_
  obtain ⟨w16, hc15, hf⟩ := bd1_ex hf
  refine V_cS (rest := []) (st' := []) (mC_X1_over_ok _ _ _ _ _ _ hc15) sc_X1_103 (by decide) rfl rfl (Nat.le_of_ble_eq_true rfl) dX1_takes_19 rfl ?_
  refine V_aload_n dX1_takes_22 rfl ?_
  obtain ⟨h17, hf⟩ := ck_ex hf
  obtain ⟨b18, hb19, hf⟩ := bd1_ex hf
  refine VP_getR (x := some b18) fa_X1_23 h17 rfl rfl hb19 dX1_takes_23 ?_
  refine V_aload_n dX1_takes_26 rfl ?_
  obtain ⟨h20, hf⟩ := ck_ex hf
  obtain ⟨b21, hb22, hf⟩ := bd1_ex hf
  refine VP_getR (x := some b21) fa_X1_23 h20 rfl rfl hb22 dX1_takes_27 ?_
  obtain ⟨w24, hc23, hf⟩ := bd1_ex hf
  refine V_cS (rest := []) (st' := []) (mC_X1_over_ok _ _ _ _ _ _ hc23) sc_X1_103 (by decide) rfl rfl (Nat.le_of_ble_eq_true rfl) dX1_takes_30 rfl ?_
  refine V_aload_n dX1_takes_33 rfl ?_
  obtain ⟨h25, hf⟩ := ck_ex hf
  obtain ⟨b26, hb27, hf⟩ := bd1_ex hf
  refine VP_getR (x := some b26) fa_X1_26 h25 rfl rfl hb27 dX1_takes_34 ?_
  refine V_aload_n dX1_takes_37 rfl ?_
  obtain ⟨h28, hf⟩ := ck_ex hf
  obtain ⟨b29, hb30, hf⟩ := bd1_ex hf
  refine VP_getR (x := some b29) fa_X1_26 h28 rfl rfl hb30 dX1_takes_38 ?_
  obtain ⟨w32, hc31, hf⟩ := bd1_ex hf
  refine V_cS (rest := []) (st' := []) (mC_X1_over_ok _ _ _ _ _ _ hc31) sc_X1_103 (by decide) rfl rfl (Nat.le_of_ble_eq_true rfl) dX1_takes_41 rfl ?_
  refine V_aload_n dX1_takes_44 rfl ?_
  obtain ⟨h33, hf⟩ := ck_ex hf
  obtain ⟨b34, hb35, hf⟩ := bd1_ex hf
  refine VP_getR (x := some b34) fa_X1_29 h33 rfl rfl hb35 dX1_takes_45 ?_
  refine V_aload_n dX1_takes_48 rfl ?_
  obtain ⟨h36, hf⟩ := ck_ex hf
  obtain ⟨b37, hb38, hf⟩ := bd1_ex hf
  refine VP_getR (x := some b37) fa_X1_29 h36 rfl rfl hb38 dX1_takes_49 ?_
  obtain ⟨w40, hc39, hf⟩ := bd1_ex hf
  refine V_cS (rest := []) (st' := []) (mC_X1_over_ok _ _ _ _ _ _ hc39) sc_X1_103 (by decide) rfl rfl (Nat.le_of_ble_eq_true rfl) dX1_takes_52 rfl ?_
  refine V_aload_n dX1_takes_55 rfl ?_
  obtain ⟨h41, hf⟩ := ck_ex hf
  obtain ⟨b42, hb43, hf⟩ := bd1_ex hf
  refine VP_getR (x := some b42) fa_X1_32 h41 rfl rfl hb43 dX1_takes_56 ?_
  refine V_aload_n dX1_takes_59 rfl ?_
  obtain ⟨h44, hf⟩ := ck_ex hf
  obtain ⟨b45, hb46, hf⟩ := bd1_ex hf
  refine VP_getR (x := some b45) fa_X1_32 h44 rfl rfl hb46 dX1_takes_60 ?_
  obtain ⟨w48, hc47, hf⟩ := bd1_ex hf
  refine V_cS (rest := []) (st' := []) (mC_X1_over_ok _ _ _ _ _ _ hc47) sc_X1_103 (by decide) rfl rfl (Nat.le_of_ble_eq_true rfl) dX1_takes_63 rfl ?_
  refine V_aload_n dX1_takes_66 rfl ?_
  obtain ⟨h49, hf⟩ := ck_ex hf
  obtain ⟨b50, hb51, hf⟩ := bd1_ex hf
  refine VP_getR (x := some b50) fa_X1_35 h49 rfl rfl hb51 dX1_takes_67 ?_
  refine V_aload_n dX1_takes_70 rfl ?_
  obtain ⟨h52, hf⟩ := ck_ex hf
  obtain ⟨b53, hb54, hf⟩ := bd1_ex hf
  refine VP_getR (x := some b53) fa_X1_35 h52 rfl rfl hb54 dX1_takes_71 ?_
  obtain ⟨w56, hc55, hf⟩ := bd1_ex hf
  refine V_cS (rest := []) (st' := []) (mC_X1_rows_ok _ _ _ _ _ _ hc55) sc_X1_107 (by decide) rfl rfl (Nat.le_of_ble_eq_true rfl) dX1_takes_74 rfl ?_
  refine V_aload_n dX1_takes_77 rfl ?_
  obtain ⟨h57, hf⟩ := ck_ex hf
  obtain ⟨b58, hb59, hf⟩ := bd1_ex hf
  refine VP_getR (x := some b58) fa_X1_39 h57 rfl rfl hb59 dX1_takes_78 ?_
  refine V_aload_n dX1_takes_81 rfl ?_
  obtain ⟨h60, hf⟩ := ck_ex hf
  obtain ⟨b61, hb62, hf⟩ := bd1_ex hf
  refine VP_getR (x := some b61) fa_X1_39 h60 rfl rfl hb62 dX1_takes_82 ?_
  obtain ⟨w64, hc63, hf⟩ := bd1_ex hf
  refine V_cS (rest := []) (st' := []) (mC_X1_rows_ok _ _ _ _ _ _ hc63) sc_X1_107 (by decide) rfl rfl (Nat.le_of_ble_eq_true rfl) dX1_takes_85 rfl ?_
  refine V_aload_n dX1_takes_88 rfl ?_
  obtain ⟨h65, hf⟩ := ck_ex hf
  obtain ⟨b66, hb67, hf⟩ := bd1_ex hf
  refine VP_getR (x := some b66) fa_X1_42 h65 rfl rfl hb67 dX1_takes_89 ?_
  refine V_aload_n dX1_takes_92 rfl ?_
  obtain ⟨h68, hf⟩ := ck_ex hf
  obtain ⟨b69, hb70, hf⟩ := bd1_ex hf
  refine VP_getR (x := some b69) fa_X1_42 h68 rfl rfl hb70 dX1_takes_93 ?_
  obtain ⟨w72, hc71, hf⟩ := bd1_ex hf
  refine V_cS (rest := []) (st' := []) (mC_X1_rows_ok _ _ _ _ _ _ hc71) sc_X1_107 (by decide) rfl rfl (Nat.le_of_ble_eq_true rfl) dX1_takes_96 rfl ?_
  refine V_aload_n dX1_takes_99 rfl ?_
  obtain ⟨h73, hf⟩ := ck_ex hf
  obtain ⟨b74, hb75, hf⟩ := bd1_ex hf
  refine VP_getR (x := some b74) fa_X1_45 h73 rfl rfl hb75 dX1_takes_100 ?_
  refine V_aload_n dX1_takes_103 rfl ?_
  obtain ⟨h76, hf⟩ := ck_ex hf
  obtain ⟨b77, hb78, hf⟩ := bd1_ex hf
  refine VP_getR (x := some b77) fa_X1_45 h76 rfl rfl hb78 dX1_takes_104 ?_
  obtain ⟨w80, hc79, hf⟩ := bd1_ex hf
  refine V_cS (rest := []) (st' := []) (mC_X1_rows_ok _ _ _ _ _ _ hc79) sc_X1_107 (by decide) rfl rfl (Nat.le_of_ble_eq_true rfl) dX1_takes_107 rfl ?_
  refine V_aload_n dX1_takes_110 rfl ?_
  obtain ⟨h81, hf⟩ := ck_ex hf
  obtain ⟨b82, hb83, hf⟩ := bd1_ex hf
  refine VP_getR (x := some b82) fa_X1_48 h81 rfl rfl hb83 dX1_takes_111 ?_
  refine V_aload_n dX1_takes_114 rfl ?_
  obtain ⟨h84, hf⟩ := ck_ex hf
  obtain ⟨b85, hb86, hf⟩ := bd1_ex hf
  refine VP_getR (x := some b85) fa_X1_48 h84 rfl rfl hb86 dX1_takes_115 ?_
  obtain ⟨w88, hc87, hf⟩ := bd1_ex hf
  refine V_cS (rest := []) (st' := []) (mC_X1_rows_ok _ _ _ _ _ _ hc87) sc_X1_107 (by decide) rfl rfl (Nat.le_of_ble_eq_true rfl) dX1_takes_118 rfl ?_
  refine V_aload_n dX1_takes_121 rfl ?_
  obtain ⟨h89, hf⟩ := ck_ex hf
  obtain ⟨b90, hb91, hf⟩ := bd1_ex hf
  refine VP_getR (x := some b90) fa_X1_51 h89 rfl rfl hb91 dX1_takes_122 ?_
  refine V_aload_n dX1_takes_125 rfl ?_
  obtain ⟨h92, hf⟩ := ck_ex hf
  obtain ⟨b93, hb94, hf⟩ := bd1_ex hf
  refine VP_getR (x := some b93) fa_X1_51 h92 rfl rfl hb94 dX1_takes_126 ?_
  obtain ⟨w96, hc95, hf⟩ := bd1_ex hf
  refine V_cS (rest := []) (st' := []) (mC_X1_rows_ok _ _ _ _ _ _ hc95) sc_X1_107 (by decide) rfl rfl (Nat.le_of_ble_eq_true rfl) dX1_takes_129 rfl ?_
  refine V_aload_n dX1_takes_132 rfl ?_
  obtain ⟨h97, hf⟩ := ck_ex hf
  obtain ⟨b98, hb99, hf⟩ := bd1_ex hf
  refine VP_getR (x := some b98) fa_X1_54 h97 rfl rfl hb99 dX1_takes_133 ?_
  refine V_aload_n dX1_takes_136 rfl ?_
  obtain ⟨h100, hf⟩ := ck_ex hf
  obtain ⟨b101, hb102, hf⟩ := bd1_ex hf
  refine VP_getR (x := some b101) fa_X1_54 h100 rfl rfl hb102 dX1_takes_137 ?_
  obtain ⟨w104, hc103, hf⟩ := bd1_ex hf
  refine V_cS (rest := []) (st' := []) (mC_X1_rows_ok _ _ _ _ _ _ hc103) sc_X1_107 (by decide) rfl rfl (Nat.le_of_ble_eq_true rfl) dX1_takes_140 rfl ?_
  refine V_aload_n dX1_takes_143 rfl ?_
  obtain ⟨h105, hf⟩ := ck_ex hf
  obtain ⟨b106, hb107, hf⟩ := bd1_ex hf
  refine VP_getR (x := some b106) fa_X1_57 h105 rfl rfl hb107 dX1_takes_144 ?_
  refine V_aload_n dX1_takes_147 rfl ?_
  obtain ⟨h108, hf⟩ := ck_ex hf
  obtain ⟨b109, hb110, hf⟩ := bd1_ex hf
  refine VP_getR (x := some b109) fa_X1_57 h108 rfl rfl hb110 dX1_takes_148 ?_
  obtain ⟨w112, hc111, hf⟩ := bd1_ex hf
  refine V_cS (rest := []) (st' := []) (mC_X1_rows_ok _ _ _ _ _ _ hc111) sc_X1_107 (by decide) rfl rfl (Nat.le_of_ble_eq_true rfl) dX1_takes_151 rfl ?_
  refine V_aload_n dX1_takes_154 rfl ?_
  obtain ⟨h113, hf⟩ := ck_ex hf
  obtain ⟨b114, hb115, hf⟩ := bd1_ex hf
  refine VP_getR (x := some b114) fa_X1_60 h113 rfl rfl hb115 dX1_takes_155 ?_
  refine V_aload_n dX1_takes_158 rfl ?_
  obtain ⟨h116, hf⟩ := ck_ex hf
  obtain ⟨b117, hb118, hf⟩ := bd1_ex hf
  refine VP_getR (x := some b117) fa_X1_60 h116 rfl rfl hb118 dX1_takes_159 ?_
  obtain ⟨w120, hc119, hf⟩ := bd1_ex hf
  refine V_cS (rest := []) (st' := []) (mC_X1_rows_ok _ _ _ _ _ _ hc119) sc_X1_107 (by decide) rfl rfl (Nat.le_of_ble_eq_true rfl) dX1_takes_162 rfl ?_
  refine V_aload_n dX1_takes_165 rfl ?_
  obtain ⟨h121, hf⟩ := ck_ex hf
  obtain ⟨b122, hb123, hf⟩ := bd1_ex hf
  refine VP_getR (x := some b122) fa_X1_63 h121 rfl rfl hb123 dX1_takes_166 ?_
  refine V_aload_n dX1_takes_169 rfl ?_
  obtain ⟨h124, hf⟩ := ck_ex hf
  obtain ⟨b125, hb126, hf⟩ := bd1_ex hf
  refine VP_getR (x := some b125) fa_X1_63 h124 rfl rfl hb126 dX1_takes_170 ?_
  obtain ⟨w128, hc127, hf⟩ := bd1_ex hf
  refine V_cS (rest := []) (st' := []) (mC_X1_rows_ok _ _ _ _ _ _ hc127) sc_X1_107 (by decide) rfl rfl (Nat.le_of_ble_eq_true rfl) dX1_takes_173 rfl ?_
  refine V_aload_n dX1_takes_176 rfl ?_
  obtain ⟨h129, hf⟩ := ck_ex hf
  obtain ⟨b130, hb131, hf⟩ := bd1_ex hf
  refine VP_getR (x := some b130) fa_X1_66 h129 rfl rfl hb131 dX1_takes_177 ?_
  refine V_aload_n dX1_takes_180 rfl ?_
  obtain ⟨h132, hf⟩ := ck_ex hf
  obtain ⟨b133, hb134, hf⟩ := bd1_ex hf
  refine VP_getR (x := some b133) fa_X1_66 h132 rfl rfl hb134 dX1_takes_181 ?_
  obtain ⟨w136, hc135, hf⟩ := bd1_ex hf
  refine V_cS (rest := []) (st' := []) (mC_X1_rows_ok _ _ _ _ _ _ hc135) sc_X1_107 (by decide) rfl rfl (Nat.le_of_ble_eq_true rfl) dX1_takes_184 rfl ?_
  refine V_aload_n dX1_takes_187 rfl ?_
  obtain ⟨h137, hf⟩ := ck_ex hf
  obtain ⟨b138, hb139, hf⟩ := bd1_ex hf
  refine VP_getR (x := some b138) fa_X1_69 h137 rfl rfl hb139 dX1_takes_188 ?_
  refine V_aload_n dX1_takes_191 rfl ?_
  obtain ⟨h140, hf⟩ := ck_ex hf
  obtain ⟨b141, hb142, hf⟩ := bd1_ex hf
  refine VP_getR (x := some b141) fa_X1_69 h140 rfl rfl hb142 dX1_takes_192 ?_
  obtain ⟨w144, hc143, hf⟩ := bd1_ex hf
  refine V_cS (rest := []) (st' := []) (mC_X1_rows_ok _ _ _ _ _ _ hc143) sc_X1_107 (by decide) rfl rfl (Nat.le_of_ble_eq_true rfl) dX1_takes_195 rfl ?_
  refine V_aload_n dX1_takes_198 rfl ?_
  obtain ⟨h145, hf⟩ := ck_ex hf
  obtain ⟨b146, hb147, hf⟩ := bd1_ex hf
  refine VP_getR (x := some b146) fa_X1_72 h145 rfl rfl hb147 dX1_takes_199 ?_
  refine V_aload_n dX1_takes_202 rfl ?_
  obtain ⟨h148, hf⟩ := ck_ex hf
  obtain ⟨b149, hb150, hf⟩ := bd1_ex hf
  refine VP_getR (x := some b149) fa_X1_72 h148 rfl rfl hb150 dX1_takes_203 ?_
  obtain ⟨w152, hc151, hf⟩ := bd1_ex hf
  refine V_cS (rest := []) (st' := []) (mC_X1_rows_ok _ _ _ _ _ _ hc151) sc_X1_107 (by decide) rfl rfl (Nat.le_of_ble_eq_true rfl) dX1_takes_206 rfl ?_
  refine V_aload_n dX1_takes_209 rfl ?_
  obtain ⟨h153, hf⟩ := ck_ex hf
  obtain ⟨b154, hb155, hf⟩ := bd1_ex hf
  refine VP_getR (x := some b154) fa_X1_75 h153 rfl rfl hb155 dX1_takes_210 ?_
  refine V_iconst dX1_takes_213 ckc_0 ?_
  refine V_aload_n dX1_takes_214 rfl ?_
  obtain ⟨h156, hf⟩ := ck_ex hf
  obtain ⟨b157, hb158, hf⟩ := bd1_ex hf
  refine VP_getR (x := some b157) fa_X1_75 h156 rfl rfl hb158 dX1_takes_215 ?_
  refine V_iconst dX1_takes_218 ckc_0 ?_
  refine V_bipush dX1_takes_219 ckb_20 ?_
  obtain ⟨h159, hf⟩ := ck_ex hf
  obtain ⟨h160, hf⟩ := ck_ex hf
  obtain ⟨h161, hf⟩ := ck_ex hf
  obtain ⟨w162, hs163, hf⟩ := st1_ex hf
  refine VE_cpyL q752 q730 q729 q149 (hk_mk h159) (hk_mk h160) h161 hs163 (by decide) (Nat.le_of_ble_eq_true rfl) dX1_takes_221 ?_
  refine V_aload_n dX1_takes_224 rfl ?_
  obtain ⟨h164, hf⟩ := ck_ex hf
  obtain ⟨b165, hb166, hf⟩ := bd1_ex hf
  refine VP_getR (x := some b165) fa_X1_79 h164 rfl rfl hb166 dX1_takes_225 ?_
  refine V_iconst dX1_takes_228 ckc_0 ?_
  refine V_aload_n dX1_takes_229 rfl ?_
  obtain ⟨h167, hf⟩ := ck_ex hf
  obtain ⟨b168, hb169, hf⟩ := bd1_ex hf
  refine VP_getR (x := some b168) fa_X1_79 h167 rfl rfl hb169 dX1_takes_230 ?_
  refine V_iconst dX1_takes_233 ckc_0 ?_
  refine V_bipush dX1_takes_234 ckb_20 ?_
  obtain ⟨h170, hf⟩ := ck_ex hf
  obtain ⟨h171, hf⟩ := ck_ex hf
  obtain ⟨h172, hf⟩ := ck_ex hf
  obtain ⟨w173, hs174, hf⟩ := st1_ex hf
  refine VE_cpyL q752 q730 q729 q149 (hk_mk h170) (hk_mk h171) h172 hs174 (by decide) (Nat.le_of_ble_eq_true rfl) dX1_takes_236 ?_
  refine V_aload_n dX1_takes_239 rfl ?_
  obtain ⟨h175, hf⟩ := ck_ex hf
  obtain ⟨b176, hb177, hf⟩ := bd1_ex hf
  refine VP_getR (x := some b176) fa_X1_82 h175 rfl rfl hb177 dX1_takes_240 ?_
  refine V_iconst dX1_takes_243 ckc_0 ?_
  refine V_aload_n dX1_takes_244 rfl ?_
  obtain ⟨h178, hf⟩ := ck_ex hf
  obtain ⟨b179, hb180, hf⟩ := bd1_ex hf
  refine VP_getR (x := some b179) fa_X1_82 h178 rfl rfl hb180 dX1_takes_245 ?_
  refine V_iconst dX1_takes_248 ckc_0 ?_
  refine V_aload_n dX1_takes_249 rfl ?_
  refine VP_getR (x := some b179) fa_X1_82 h178 rfl rfl hb180 dX1_takes_250 ?_
  obtain ⟨h181, hf⟩ := ck_ex hf
  refine VE_alen h181 dX1_takes_253 ?_
  obtain ⟨h182, hf⟩ := ck_ex hf
  obtain ⟨h183, hf⟩ := ck_ex hf
  obtain ⟨h184, hf⟩ := ck_ex hf
  obtain ⟨h185, hf⟩ := ck_ex hf
  obtain ⟨w186, hs187, hf⟩ := st1_ex hf
  refine VE_cpyZ q752 q730 q729 q149 (hk_mk h182) (hk_mk h183) h184 h185 hs187 (by decide) (Nat.le_of_ble_eq_true rfl) dX1_takes_254 ?_
  refine V_aload_n dX1_takes_257 rfl ?_
  refine V_aload_n dX1_takes_258 rfl ?_
  obtain ⟨h188, hf⟩ := ck_ex hf
  refine VP_getI fa_X1_111 h188 rfl dX1_takes_259 ?_
  obtain ⟨h189, hf⟩ := ck_ex hf
  obtain ⟨w190, hs191, hf⟩ := st1_ex hf
  refine VE_putI fw_X1_111 h189 rfl rfl rfl hs191 dX1_takes_262 ?_
  refine V_aload_n dX1_takes_265 rfl ?_
  refine V_aload_n dX1_takes_266 rfl ?_
  obtain ⟨h192, hf⟩ := ck_ex hf
  refine VP_getI fa_X1_114 h192 rfl dX1_takes_267 ?_
  obtain ⟨h193, hf⟩ := ck_ex hf
  obtain ⟨w194, hs195, hf⟩ := st1_ex hf
  refine VE_putI fw_X1_114 h193 rfl rfl rfl hs195 dX1_takes_270 ?_
  refine V_aload_n dX1_takes_273 rfl ?_
  refine V_aload_n dX1_takes_274 rfl ?_
  obtain ⟨h196, hf⟩ := ck_ex hf
  refine VP_getI fa_X1_117 h196 rfl dX1_takes_275 ?_
  obtain ⟨h197, hf⟩ := ck_ex hf
  obtain ⟨w198, hs199, hf⟩ := st1_ex hf
  refine VE_putI fw_X1_117 h197 rfl rfl rfl hs199 dX1_takes_278 ?_
  refine V_aload_n dX1_takes_281 rfl ?_
  refine V_aload_n dX1_takes_282 rfl ?_
  obtain ⟨h200, hf⟩ := ck_ex hf
  refine VP_getI fa_X1_86 h200 rfl dX1_takes_283 ?_
  obtain ⟨h201, hf⟩ := ck_ex hf
  obtain ⟨w202, hs203, hf⟩ := st1_ex hf
  refine VE_putI fw_X1_86 h201 rfl rfl rfl hs203 dX1_takes_286 ?_
  refine V_aload_n dX1_takes_289 rfl ?_
  refine V_aload_n dX1_takes_290 rfl ?_
  obtain ⟨h204, hf⟩ := ck_ex hf
  refine VP_getI fa_X1_120 h204 rfl dX1_takes_291 ?_
  obtain ⟨h205, hf⟩ := ck_ex hf
  obtain ⟨w206, hs207, hf⟩ := st1_ex hf
  refine VE_putI fw_X1_120 h205 rfl rfl rfl hs207 dX1_takes_294 ?_
  cases some_ex hf
  exact V_vret hE dX1_takes_297
set_option maxHeartbeats 4000000 in
theorem mC_X0_done_ok (l : Launch) (D : DD) (w : AH) (a : Nat) (p0 : Int32) (r : Int32) (w' : AH) (hf : mC_X0_done a p0 w = some (r, w')) : MA l D yX0_done cX0_done 2 (some (.int)) 1 [.ref a, .int p0] w (.returned (some (.int r))) w' := by
  refine MA.introH (own := RX0) (nm := "done") (ls := [some (.ref a), some (.int p0)]) (by decide) rfl rfl (Nat.le_of_ble_eq_true rfl) rfl (fun X hl hD hE hH => ?_)
  subst hl hD
  unfold mC_X0_done at hf
  refine V_aload_n dX0_done_0 rfl ?_
  refine V_iconst dX0_done_1 ckc_0 ?_
  obtain ⟨h1, hf⟩ := ck_ex hf
  obtain ⟨w2, hs3, hf⟩ := st1_ex hf
  refine VE_putI fw_X0_117 h1 rfl rfl rfl hs3 dX0_done_2 ?_
  refine V_iload_n dX0_done_5 rfl ?_
  cases some_ex hf
  exact V_iret hE dX0_done_6
set_option maxHeartbeats 4000000 in
theorem mC_X0_image_37_v {X : CX} {w0 : AH} {r : Int32} {w' : AH}  (hE : XE X w0 7 (some (.int)) "image" (.returned (some (.int r))) w') (hH : XH X []) (v0 : Nat) (v1 : Int32) (w : AH) (hf : mC_X0_image_37 v0 v1 w = some (r, w')) : V X cX0_image RX0 2 7 w 37 [some (.ref v0), some (.int v1)] [] := by
  unfold mC_X0_image_37 at hf
  refine V_aload_n dX0_image_37 rfl ?_
  obtain ⟨h1, hf⟩ := ck_ex hf
  obtain ⟨b2, hb3, hf⟩ := bd1_ex hf
  refine VP_getR (x := some b2) fa_X0_16 h1 rfl rfl hb3 dX0_image_38 ?_
  refine V_iload_n dX0_image_41 rfl ?_
  obtain ⟨h4, hf⟩ := ck_ex hf
  obtain ⟨x5, hx6, hf⟩ := st1_ex hf
  refine VE_aald (x := x5) h4 (by decide) (by decide) rfl hx6 dX0_image_42 ?_
  refine V_aload_n dX0_image_43 rfl ?_
  obtain ⟨b7, hb8, hf⟩ := bd1_ex hf
  refine VP_getR (x := some b7) fa_X0_10 h1 rfl rfl hb8 dX0_image_44 ?_
  obtain ⟨b9, rfl, hf⟩ := bd1_ex hf
  obtain ⟨h10, hf⟩ := ck_ex hf
  obtain ⟨w12, hc11, hf⟩ := bd1_ex hf
  refine V_cV (av := [.ref b7]) (rest := []) (st' := []) (mC_X1_takes_ok _ _ _ _ _ _ hc11) vc_X0_134 (kIn1 h10) (by decide) rfl rfl (Nat.le_of_ble_eq_true rfl) dX0_image_47 rfl ?_
  refine V_aload_n dX0_image_50 rfl ?_
  refine V_iconst dX0_image_51 ckc_0 ?_
  obtain ⟨h13, hf⟩ := ck_ex hf
  obtain ⟨r15, w16, hc14, hf⟩ := bd2_ex hf
  refine V_cV (av := [.int (0 : Int32)]) (rest := []) (st' := [.int r15]) (mC_X0_done_ok _ _ _ _ _ _ _ hc14) vc_X0_123 (kIn1 h13) (by decide) rfl rfl (Nat.le_of_ble_eq_true rfl) dX0_image_52 rfl ?_
  cases some_ex hf
  exact V_iret hE dX0_image_55
set_option maxHeartbeats 4000000 in
theorem mC_X0_image_ok (l : Launch) (D : DD) (w : AH) (a : Nat) (p0 : Int32) (r : Int32) (w' : AH) (hf : mC_X0_image a p0 w = some (r, w')) : MA l D yX0_image cX0_image 2 (some (.int)) 7 [.ref a, .int p0] w (.returned (some (.int r))) w' := by
  refine MA.introH (own := RX0) (nm := "image") (ls := [some (.ref a), some (.int p0)]) (by decide) rfl rfl (Nat.le_of_ble_eq_true rfl) rfl (fun X hl hD hE hH => ?_)
  subst hl hD
  unfold mC_X0_image at hf
  refine V_iload_n dX0_image_0 rfl ?_
  refine V_iconst dX0_image_1 ckc_0 ?_
  refine V_iconst dX0_image_2 ckc_1 ?_
  obtain ⟨r2, hc1, hf⟩ := bd1_ex hf
  refine V_cS (rest := []) (st' := [.int r2]) (mC_X0_in_ok _ _ _ _ _ _ _ hc1) sc_X0_127 (by decide) rfl rfl (Nat.le_of_ble_eq_true rfl) dX0_image_3 rfl ?_
  refine V_if_ne (tgt := 15) dX0_image_6 (by decide) (fun hc3 => ?_) (fun hc3 => ?_)
  · have hf := if_f hf hc3
    refine V_aload_n dX0_image_15 rfl ?_
    obtain ⟨h4, hf⟩ := ck_ex hf
    obtain ⟨b5, hb6, hf⟩ := bd1_ex hf
    refine VP_getR (x := some b5) fa_X0_16 h4 rfl rfl hb6 dX0_image_16 ?_
    refine V_iload_n dX0_image_19 rfl ?_
    obtain ⟨h7, hf⟩ := ck_ex hf
    obtain ⟨x8, hx9, hf⟩ := st1_ex hf
    refine VE_aald (x := x8) h7 (by decide) (by decide) rfl hx9 dX0_image_20 ?_
    refine V_ifnonnull (r := x8) (tgt := 37) dX0_image_21 (by decide) (fun hc10 => ?_) (fun hc10 => ?_)
    · have hf := if_f hf hc10
      exact mC_X0_image_37_v hE hH a p0 w hf
    · have hf := if_t hf hc10
      refine V_aload_n dX0_image_24 rfl ?_
      refine VP_getR (x := some b5) fa_X0_16 h4 rfl rfl hb6 dX0_image_25 ?_
      refine V_iload_n dX0_image_28 rfl ?_
      obtain ⟨h11, hf⟩ := ck_ex hf
      obtain ⟨b12, hb13, hf⟩ := st1_ex hf
      obtain ⟨w14, hs15, hf⟩ := st1_ex hf
      refine VE_new clX1 q184 q185 q133 ok_X1 h11 hb13 hs15 dX0_image_29 ?_
      refine V_dup dX0_image_32 rfl ?_
      obtain ⟨w17, hc16, hf⟩ := bd1_ex hf
      refine V_nI (av := []) (rest := [.ref b12, .int p0, .ref b5]) (st' := [.ref b12, .int p0, .ref b5]) (mC_X1_init_ok _ _ _ _ _ hc16) ni_X0_9 (by decide) rfl rfl (Nat.le_of_ble_eq_true rfl) dX0_image_33 rfl ?_
      obtain ⟨h18, hf⟩ := ck_ex hf
      obtain ⟨h19, hf⟩ := ck_ex hf
      obtain ⟨w20, hs21, hf⟩ := st1_ex hf
      refine VE_aastT h18 h19 rfl hs21 dX0_image_36 ?_
      exact mC_X0_image_37_v hE hH a p0 w20 hf
  · have hf := if_t hf hc3
    refine V_aload_n dX0_image_9 rfl ?_
    refine V_iconst dX0_image_10 ckc_m1 ?_
    obtain ⟨h22, hf⟩ := ck_ex hf
    obtain ⟨r24, w25, hc23, hf⟩ := bd2_ex hf
    refine V_cV (av := [.int (-1 : Int32)]) (rest := []) (st' := [.int r24]) (mC_X0_refuse_ok _ _ _ _ _ _ _ hc23) vc_X0_131 (kIn1 h22) (by decide) rfl rfl (Nat.le_of_ble_eq_true rfl) dX0_image_11 rfl ?_
    cases some_ex hf
    exact V_iret hE dX0_image_14
set_option maxHeartbeats 4000000 in
theorem mC_X0_told_ok (l : Launch) (D : DD) (w : AH) (a : Nat) (p0 : Int32) (r : Int32) (w' : AH) (hf : mC_X0_told a p0 w = some (r, w')) : MA l D yX0_told cX0_told 2 (some (.int)) 2 [.ref a, .int p0] w (.returned (some (.int r))) w' := by
  refine MA.introH (own := RX0) (nm := "told") (ls := [some (.ref a), some (.int p0)]) (by decide) rfl rfl (Nat.le_of_ble_eq_true rfl) rfl (fun X hl hD hE hH => ?_)
  subst hl hD
  unfold mC_X0_told at hf
  refine V_aload_n dX0_told_0 rfl ?_
  refine V_dup dX0_told_1 rfl ?_
  obtain ⟨h1, hf⟩ := ck_ex hf
  refine VP_getI fa_X0_120 h1 rfl dX0_told_2 ?_
  refine V_iconst dX0_told_5 ckc_1 ?_
  refine V_iadd dX0_told_6 ?_
  obtain ⟨w2, hs3, hf⟩ := st1_ex hf
  refine VE_putI fw_X0_120 h1 rfl rfl rfl hs3 dX0_told_7 ?_
  refine V_aload_n dX0_told_10 rfl ?_
  refine V_iload_n dX0_told_11 rfl ?_
  obtain ⟨h4, hf⟩ := ck_ex hf
  obtain ⟨r6, w7, hc5, hf⟩ := bd2_ex hf
  refine V_cV (av := [.int p0]) (rest := []) (st' := [.int r6]) (mC_X0_done_ok _ _ _ _ _ _ _ hc5) vc_X0_123 (kIn1 h4) (by decide) rfl rfl (Nat.le_of_ble_eq_true rfl) dX0_told_12 rfl ?_
  cases some_ex hf
  exact V_iret hE dX0_told_15
set_option maxHeartbeats 4000000 in
theorem mC_X0_back_ok (l : Launch) (D : DD) (w : AH) (a : Nat) (p0 : Int32) (r : Int32) (w' : AH) (hf : mC_X0_back a p0 w = some (r, w')) : MA l D yX0_back cX0_back 2 (some (.int)) 7 [.ref a, .int p0] w (.returned (some (.int r))) w' := by
  refine MA.introH (own := RX0) (nm := "back") (ls := [some (.ref a), some (.int p0)]) (by decide) rfl rfl (Nat.le_of_ble_eq_true rfl) rfl (fun X hl hD hE hH => ?_)
  subst hl hD
  unfold mC_X0_back at hf
  refine V_iload_n dX0_back_0 rfl ?_
  refine V_iconst dX0_back_1 ckc_0 ?_
  refine V_iconst dX0_back_2 ckc_1 ?_
  obtain ⟨r2, hc1, hf⟩ := bd1_ex hf
  refine V_cS (rest := []) (st' := [.int r2]) (mC_X0_in_ok _ _ _ _ _ _ _ hc1) sc_X0_127 (by decide) rfl rfl (Nat.le_of_ble_eq_true rfl) dX0_back_3 rfl ?_
  refine V_if_ne (tgt := 15) dX0_back_6 (by decide) (fun hc3 => ?_) (fun hc3 => ?_)
  · have hf := if_f hf hc3
    refine V_aload_n dX0_back_15 rfl ?_
    obtain ⟨h4, hf⟩ := ck_ex hf
    obtain ⟨b5, hb6, hf⟩ := bd1_ex hf
    refine VP_getR (x := some b5) fa_X0_16 h4 rfl rfl hb6 dX0_back_16 ?_
    refine V_iload_n dX0_back_19 rfl ?_
    obtain ⟨h7, hf⟩ := ck_ex hf
    obtain ⟨x8, hx9, hf⟩ := st1_ex hf
    refine VE_aald (x := x8) h7 (by decide) (by decide) rfl hx9 dX0_back_20 ?_
    refine V_ifnonnull (r := x8) (tgt := 31) dX0_back_21 (by decide) (fun hc10 => ?_) (fun hc10 => ?_)
    · have hf := if_f hf hc10
      refine V_aload_n dX0_back_31 rfl ?_
      obtain ⟨b11, hb12, hf⟩ := bd1_ex hf
      refine VP_getR (x := some b11) fa_X0_10 h4 rfl rfl hb12 dX0_back_32 ?_
      refine V_aload_n dX0_back_35 rfl ?_
      refine VP_getR (x := some b5) fa_X0_16 h4 rfl rfl hb6 dX0_back_36 ?_
      refine V_iload_n dX0_back_39 rfl ?_
      obtain ⟨x13, hx14, hf⟩ := st1_ex hf
      refine VE_aald (x := x13) h7 (by decide) (by decide) rfl hx14 dX0_back_40 ?_
      obtain ⟨b15, rfl, hf⟩ := bd1_ex hf
      obtain ⟨h16, hf⟩ := ck_ex hf
      obtain ⟨w18, hc17, hf⟩ := bd1_ex hf
      refine V_cV (av := [.ref b15]) (rest := []) (st' := []) (mC_X1_takes_ok _ _ _ _ _ _ hc17) vc_X0_134 (kIn1 h16) (by decide) rfl rfl (Nat.le_of_ble_eq_true rfl) dX0_back_41 rfl ?_
      refine V_aload_n dX0_back_44 rfl ?_
      refine V_iconst dX0_back_45 ckc_0 ?_
      obtain ⟨h19, hf⟩ := ck_ex hf
      obtain ⟨r21, w22, hc20, hf⟩ := bd2_ex hf
      refine V_cV (av := [.int (0 : Int32)]) (rest := []) (st' := [.int r21]) (mC_X0_told_ok _ _ _ _ _ _ _ hc20) vc_X0_138 (kIn1 h19) (by decide) rfl rfl (Nat.le_of_ble_eq_true rfl) dX0_back_46 rfl ?_
      cases some_ex hf
      exact V_iret hE dX0_back_49
    · have hf := if_t hf hc10
      refine V_aload_n dX0_back_24 rfl ?_
      refine V_bipush dX0_back_25 ckb_m2 ?_
      obtain ⟨r24, w25, hc23, hf⟩ := bd2_ex hf
      refine V_cV (av := [.int (-2 : Int32)]) (rest := []) (st' := [.int r24]) (mC_X0_refuse_ok _ _ _ _ _ _ _ hc23) vc_X0_131 (kIn1 h4) (by decide) rfl rfl (Nat.le_of_ble_eq_true rfl) dX0_back_27 rfl ?_
      cases some_ex hf
      exact V_iret hE dX0_back_30
  · have hf := if_t hf hc3
    refine V_aload_n dX0_back_9 rfl ?_
    refine V_iconst dX0_back_10 ckc_m1 ?_
    obtain ⟨h26, hf⟩ := ck_ex hf
    obtain ⟨r28, w29, hc27, hf⟩ := bd2_ex hf
    refine V_cV (av := [.int (-1 : Int32)]) (rest := []) (st' := [.int r28]) (mC_X0_refuse_ok _ _ _ _ _ _ _ hc27) vc_X0_131 (kIn1 h26) (by decide) rfl rfl (Nat.le_of_ble_eq_true rfl) dX0_back_11 rfl ?_
    cases some_ex hf
    exact V_iret hE dX0_back_14
set_option maxHeartbeats 4000000 in
theorem mC_X0_place_29_v {X : CX} {w0 : AH} {r : Int32} {w' : AH}  (hE : XE X w0 3 (some (.int)) "place" (.returned (some (.int r))) w') (hH : XH X []) (v0 : Nat) (w : AH) (hf : mC_X0_place_29 v0 w = some (r, w')) : V X cX0_place RX0 4 3 w 29 [some (.ref v0), none, none, none] [] := by
  unfold mC_X0_place_29 at hf
  refine V_aload_n dX0_place_29 rfl ?_
  refine V_iconst dX0_place_30 ckc_m1 ?_
  obtain ⟨h1, hf⟩ := ck_ex hf
  obtain ⟨r3, w4, hc2, hf⟩ := bd2_ex hf
  refine V_cV (av := [.int (-1 : Int32)]) (rest := []) (st' := [.int r3]) (mC_X0_refuse_ok _ _ _ _ _ _ _ hc2) vc_X0_131 (kIn1 h1) (by decide) rfl rfl (Nat.le_of_ble_eq_true rfl) dX0_place_31 rfl ?_
  cases some_ex hf
  exact V_iret hE dX0_place_34
set_option maxHeartbeats 4000000 in
theorem mC_X0_place_ok (l : Launch) (D : DD) (w : AH) (a : Nat) (p0 : Int32) (p1 : Int32) (p2 : Int32) (r : Int32) (w' : AH) (hf : mC_X0_place a p0 p1 p2 w = some (r, w')) : MA l D yX0_place cX0_place 4 (some (.int)) 3 [.ref a, .int p0, .int p1, .int p2] w (.returned (some (.int r))) w' := by
  refine MA.introH (own := RX0) (nm := "place") (ls := [some (.ref a), some (.int p0), some (.int p1), some (.int p2)]) (by decide) rfl rfl (Nat.le_of_ble_eq_true rfl) rfl (fun X hl hD hE hH => ?_)
  subst hl hD
  unfold mC_X0_place at hf
  refine V_iload_n dX0_place_0 rfl ?_
  refine V_iconst dX0_place_1 ckc_0 ?_
  refine V_iconst dX0_place_2 ckc_5 ?_
  obtain ⟨r2, hc1, hf⟩ := bd1_ex hf
  refine V_cS (rest := []) (st' := [.int r2]) (mC_X0_in_ok _ _ _ _ _ _ _ hc1) sc_X0_127 (by decide) rfl rfl (Nat.le_of_ble_eq_true rfl) dX0_place_3 rfl ?_
  refine V_if_eq (tgt := 29) dX0_place_6 (by decide) (fun hc3 => ?_) (fun hc3 => ?_)
  · have hf := if_t hf hc3
    refine V_keep [true, false, false, false] rfl ?_
    exact mC_X0_place_29_v hE hH a w hf
  · have hf := if_f hf hc3
    refine V_iload_n dX0_place_9 rfl ?_
    refine V_iconst dX0_place_10 ckc_0 ?_
    refine V_bipush dX0_place_11 ckb_99 ?_
    obtain ⟨r5, hc4, hf⟩ := bd1_ex hf
    refine V_cS (rest := []) (st' := [.int r5]) (mC_X0_in_ok _ _ _ _ _ _ _ hc4) sc_X0_127 (by decide) rfl rfl (Nat.le_of_ble_eq_true rfl) dX0_place_13 rfl ?_
    refine V_if_eq (tgt := 29) dX0_place_16 (by decide) (fun hc6 => ?_) (fun hc6 => ?_)
    · have hf := if_t hf hc6
      refine V_keep [true, false, false, false] rfl ?_
      exact mC_X0_place_29_v hE hH a w hf
    · have hf := if_f hf hc6
      refine V_iload_n dX0_place_19 rfl ?_
      refine V_iconst dX0_place_20 ckc_0 ?_
      refine V_bipush dX0_place_21 ckb_99 ?_
      obtain ⟨r8, hc7, hf⟩ := bd1_ex hf
      refine V_cS (rest := []) (st' := [.int r8]) (mC_X0_in_ok _ _ _ _ _ _ _ hc7) sc_X0_127 (by decide) rfl rfl (Nat.le_of_ble_eq_true rfl) dX0_place_23 rfl ?_
      refine V_if_ne (tgt := 35) dX0_place_26 (by decide) (fun hc9 => ?_) (fun hc9 => ?_)
      · have hf := if_f hf hc9
        refine V_aload_n dX0_place_35 rfl ?_
        obtain ⟨h10, hf⟩ := ck_ex hf
        obtain ⟨b11, hb12, hf⟩ := bd1_ex hf
        refine VP_getR (x := some b11) fa_X0_10 h10 rfl rfl hb12 dX0_place_36 ?_
        obtain ⟨h13, hf⟩ := ck_ex hf
        refine VP_getI fa_X0_141 h13 rfl dX0_place_39 ?_
        refine V_bipush dX0_place_42 ckb_16 ?_
        refine V_icmp_ne (tgt := 54) dX0_place_44 (by decide) (fun hc14 => ?_) (fun hc14 => ?_)
        · have hf := if_f hf hc14
          refine V_aload_n dX0_place_54 rfl ?_
          refine VP_getR (x := some b11) fa_X0_10 h10 rfl rfl hb12 dX0_place_55 ?_
          obtain ⟨b15, hb16, hf⟩ := bd1_ex hf
          refine VP_getR (x := some b15) fa_X0_160 h13 rfl rfl hb16 dX0_place_58 ?_
          refine V_aload_n dX0_place_61 rfl ?_
          refine VP_getR (x := some b11) fa_X0_10 h10 rfl rfl hb12 dX0_place_62 ?_
          refine VP_getI fa_X0_141 h13 rfl dX0_place_65 ?_
          refine V_iload_n dX0_place_68 rfl ?_
          obtain ⟨h17, hf⟩ := ck_ex hf
          obtain ⟨w18, hs19, hf⟩ := st1_ex hf
          refine VE_iast h17 rfl hs19 dX0_place_69 ?_
          refine V_aload_n dX0_place_70 rfl ?_
          obtain ⟨h20, hf⟩ := ck_ex hf
          obtain ⟨b21, hb22, hf⟩ := bd1_ex hf
          refine VP_getR (x := some b21) fa_X0_10 h20 rfl rfl hb22 dX0_place_71 ?_
          obtain ⟨h23, hf⟩ := ck_ex hf
          obtain ⟨b24, hb25, hf⟩ := bd1_ex hf
          refine VP_getR (x := some b24) fa_X0_163 h23 rfl rfl hb25 dX0_place_74 ?_
          refine V_aload_n dX0_place_77 rfl ?_
          refine VP_getR (x := some b21) fa_X0_10 h20 rfl rfl hb22 dX0_place_78 ?_
          refine VP_getI fa_X0_141 h23 rfl dX0_place_81 ?_
          refine V_iload_n dX0_place_84 rfl ?_
          obtain ⟨h26, hf⟩ := ck_ex hf
          obtain ⟨w27, hs28, hf⟩ := st1_ex hf
          refine VE_iast h26 rfl hs28 dX0_place_85 ?_
          refine V_aload_n dX0_place_86 rfl ?_
          obtain ⟨h29, hf⟩ := ck_ex hf
          obtain ⟨b30, hb31, hf⟩ := bd1_ex hf
          refine VP_getR (x := some b30) fa_X0_10 h29 rfl rfl hb31 dX0_place_87 ?_
          obtain ⟨h32, hf⟩ := ck_ex hf
          obtain ⟨b33, hb34, hf⟩ := bd1_ex hf
          refine VP_getR (x := some b33) fa_X0_166 h32 rfl rfl hb34 dX0_place_90 ?_
          refine V_aload_n dX0_place_93 rfl ?_
          refine VP_getR (x := some b30) fa_X0_10 h29 rfl rfl hb31 dX0_place_94 ?_
          refine VP_getI fa_X0_141 h32 rfl dX0_place_97 ?_
          refine V_iload_n dX0_place_100 rfl ?_
          obtain ⟨h35, hf⟩ := ck_ex hf
          obtain ⟨w36, hs37, hf⟩ := st1_ex hf
          refine VE_iast h35 rfl hs37 dX0_place_101 ?_
          refine V_aload_n dX0_place_102 rfl ?_
          obtain ⟨h38, hf⟩ := ck_ex hf
          obtain ⟨b39, hb40, hf⟩ := bd1_ex hf
          refine VP_getR (x := some b39) fa_X0_10 h38 rfl rfl hb40 dX0_place_103 ?_
          refine V_dup dX0_place_106 rfl ?_
          obtain ⟨h41, hf⟩ := ck_ex hf
          refine VP_getI fa_X0_141 h41 rfl dX0_place_107 ?_
          refine V_iconst dX0_place_110 ckc_1 ?_
          refine V_iadd dX0_place_111 ?_
          obtain ⟨w42, hs43, hf⟩ := st1_ex hf
          refine VE_putI fw_X0_141 h41 rfl rfl rfl hs43 dX0_place_112 ?_
          refine V_aload_n dX0_place_115 rfl ?_
          refine V_aload_n dX0_place_116 rfl ?_
          obtain ⟨h44, hf⟩ := ck_ex hf
          obtain ⟨b45, hb46, hf⟩ := bd1_ex hf
          refine VP_getR (x := some b45) fa_X0_10 h44 rfl rfl hb46 dX0_place_117 ?_
          obtain ⟨h47, hf⟩ := ck_ex hf
          refine VP_getI fa_X0_141 h47 rfl dX0_place_120 ?_
          refine V_iconst dX0_place_123 ckc_1 ?_
          refine V_isub dX0_place_124 ?_
          obtain ⟨r49, w50, hc48, hf⟩ := bd2_ex hf
          refine V_cV (av := [.int ((hvi w42 b45 22) - (1 : Int32))]) (rest := []) (st' := [.int r49]) (mC_X0_told_ok _ _ _ _ _ _ _ hc48) vc_X0_138 (kIn1 h44) (by decide) rfl rfl (Nat.le_of_ble_eq_true rfl) dX0_place_125 rfl ?_
          cases some_ex hf
          exact V_iret hE dX0_place_128
        · have hf := if_t hf hc14
          refine V_aload_n dX0_place_47 rfl ?_
          refine V_bipush dX0_place_48 ckb_m5 ?_
          obtain ⟨r52, w53, hc51, hf⟩ := bd2_ex hf
          refine V_cV (av := [.int (-5 : Int32)]) (rest := []) (st' := [.int r52]) (mC_X0_refuse_ok _ _ _ _ _ _ _ hc51) vc_X0_131 (kIn1 h10) (by decide) rfl rfl (Nat.le_of_ble_eq_true rfl) dX0_place_50 rfl ?_
          cases some_ex hf
          exact V_iret hE dX0_place_53
      · have hf := if_t hf hc9
        refine V_keep [true, false, false, false] rfl ?_
        exact mC_X0_place_29_v hE hH a w hf
set_option maxHeartbeats 4000000 in
theorem mC_X0_areLetters_2_v {X : CX} {w0 : AH} {w : AH} {r : Int32}  (hE : XE X w0 2 (some (.boolean)) "areLetters" (.returned (some (.int r))) w) (hH : XH X []) (k2 : Int32 → Int32 → Option (Int32)) (hk2 : ∀ (v0 : Int32) (v1 : Int32), k2 v0 v1 = some r → V X cX0_areLetters RX0 2 2 w 2 [some (.int v0), some (.int v1)] []) (v0 : Int32) (v1 : Int32) (hf : mC_X0_areLetters_2 k2 v0 v1 = some r) : V X cX0_areLetters RX0 2 2 w 2 [some (.int v0), some (.int v1)] [] := by
  unfold mC_X0_areLetters_2 at hf
  refine V_iload_n dX0_areLetters_2 rfl ?_
  refine V_iconst dX0_areLetters_3 ckc_4 ?_
  refine V_icmp_ge (tgt := 35) dX0_areLetters_4 (by decide) (fun hc1 => ?_) (fun hc1 => ?_)
  · have hf := if_t hf hc1
    refine V_iconst dX0_areLetters_35 ckc_1 ?_
    cases some_ex hf
    exact V_zret hE (by decide) dX0_areLetters_36
  · have hf := if_f hf hc1
    refine V_iload_n dX0_areLetters_7 rfl ?_
    refine V_bipush dX0_areLetters_8 ckb_8 ?_
    refine V_iload_n dX0_areLetters_10 rfl ?_
    refine V_imul dX0_areLetters_11 ?_
    refine V_ishr dX0_areLetters_12 ?_
    refine V_sipush dX0_areLetters_13 cks_255 ?_
    refine V_iand dX0_areLetters_16 ?_
    refine V_bipush dX0_areLetters_17 ckb_97 ?_
    refine V_bipush dX0_areLetters_19 ckb_122 ?_
    obtain ⟨r3, hc2, hf⟩ := bd1_ex hf
    refine V_cS (rest := []) (st' := [.int r3]) (mC_X0_in_ok _ _ _ _ _ _ _ hc2) sc_X0_127 (by decide) rfl rfl (Nat.le_of_ble_eq_true rfl) dX0_areLetters_21 rfl ?_
    refine V_if_ne (tgt := 29) dX0_areLetters_24 (by decide) (fun hc4 => ?_) (fun hc4 => ?_)
    · have hf := if_f hf hc4
      refine V_inc (ls' := [some (.int v0), some (.int (v1 + (1 : Int32)))]) dX0_areLetters_29 rfl ckc_1 (by decide) rfl ?_
      refine V_goto (tgt := 2) dX0_areLetters_32 (by decide) ?_
      exact hk2 v0 (v1 + (1 : Int32)) hf
    · have hf := if_t hf hc4
      refine V_iconst dX0_areLetters_27 ckc_0 ?_
      cases some_ex hf
      exact V_zret hE (by decide) dX0_areLetters_28
set_option maxHeartbeats 4000000 in
theorem mC_X0_areLetters_ok (l : Launch) (D : DD) (w : AH) (p0 : Int32) (r : Int32) (hf : mC_X0_areLetters p0 = some r) : MA l D yX0_areLetters cX0_areLetters 2 (some (.boolean)) 2 [.int p0] w (.returned (some (.int r))) w := by
  refine MA.introH (own := RX0) (nm := "areLetters") (ls := [some (.int p0), none]) (by decide) rfl rfl (Nat.le_of_ble_eq_true rfl) rfl (fun X hl hD hE hH => ?_)
  subst hl hD
  unfold mC_X0_areLetters at hf
  refine V_iconst dX0_areLetters_0 ckc_0 ?_
  refine V_istore_n (ls' := [some (.int p0), some (.int (0 : Int32))]) dX0_areLetters_1 (by decide) rfl ?_
  exact lq2_ex (P := fun v0 v1 => V X cX0_areLetters RX0 2 2 w 2 [some (.int v0), some (.int v1)] []) (fun k hk v0 v1 hf => mC_X0_areLetters_2_v hE hH k hk v0 v1 hf) LF p0 (0 : Int32) hf
set_option maxHeartbeats 4000000 in
theorem mC_X0_isOne_ok (l : Launch) (D : DD) (w : AH) (p0 : Int32) (p1 : Int32) (p2 : Int32) (p3 : Int32) (r : Int32) (hf : mC_X0_isOne p0 p1 p2 p3 = some r) : MA l D yX0_isOne cX0_isOne 4 (some (.boolean)) 3 [.int p0, .int p1, .int p2, .int p3] w (.returned (some (.int r))) w := by
  refine MA.introH (own := RX0) (nm := "isOne") (ls := [some (.int p0), some (.int p1), some (.int p2), some (.int p3)]) (by decide) rfl rfl (Nat.le_of_ble_eq_true rfl) rfl (fun X hl hD hE hH => ?_)
  subst hl hD
  unfold mC_X0_isOne at hf
  refine V_iload_n dX0_isOne_0 rfl ?_
  refine V_iconst dX0_isOne_1 ckc_0 ?_
  refine V_bipush dX0_isOne_2 ckb_99 ?_
  obtain ⟨r2, hc1, hf⟩ := bd1_ex hf
  refine V_cS (rest := []) (st' := [.int r2]) (mC_X0_in_ok _ _ _ _ _ _ _ hc1) sc_X0_127 (by decide) rfl rfl (Nat.le_of_ble_eq_true rfl) dX0_isOne_4 rfl ?_
  refine V_if_eq (tgt := 40) dX0_isOne_7 (by decide) (fun hc3 => ?_) (fun hc3 => ?_)
  · have hf := if_t hf hc3
    refine V_iconst dX0_isOne_40 ckc_0 ?_
    cases some_ex hf
    exact V_zret hE (by decide) dX0_isOne_41
  · have hf := if_f hf hc3
    refine V_iload_n dX0_isOne_10 rfl ?_
    refine V_iconst dX0_isOne_11 ckc_0 ?_
    refine V_bipush dX0_isOne_12 ckb_120 ?_
    obtain ⟨r5, hc4, hf⟩ := bd1_ex hf
    refine V_cS (rest := []) (st' := [.int r5]) (mC_X0_in_ok _ _ _ _ _ _ _ hc4) sc_X0_127 (by decide) rfl rfl (Nat.le_of_ble_eq_true rfl) dX0_isOne_14 rfl ?_
    refine V_if_eq (tgt := 40) dX0_isOne_17 (by decide) (fun hc6 => ?_) (fun hc6 => ?_)
    · have hf := if_t hf hc6
      refine V_iconst dX0_isOne_40 ckc_0 ?_
      cases some_ex hf
      exact V_zret hE (by decide) dX0_isOne_41
    · have hf := if_f hf hc6
      refine V_iload_n dX0_isOne_20 rfl ?_
      refine V_iconst dX0_isOne_21 ckc_0 ?_
      refine V_iconst dX0_isOne_22 ckc_3 ?_
      obtain ⟨r8, hc7, hf⟩ := bd1_ex hf
      refine V_cS (rest := []) (st' := [.int r8]) (mC_X0_in_ok _ _ _ _ _ _ _ hc7) sc_X0_127 (by decide) rfl rfl (Nat.le_of_ble_eq_true rfl) dX0_isOne_23 rfl ?_
      refine V_if_eq (tgt := 40) dX0_isOne_26 (by decide) (fun hc9 => ?_) (fun hc9 => ?_)
      · have hf := if_t hf hc9
        refine V_iconst dX0_isOne_40 ckc_0 ?_
        cases some_ex hf
        exact V_zret hE (by decide) dX0_isOne_41
      · have hf := if_f hf hc9
        refine V_iload_n dX0_isOne_29 rfl ?_
        obtain ⟨r11, hc10, hf⟩ := bd1_ex hf
        refine V_cS (rest := []) (st' := [.int r11]) (mC_X0_areLetters_ok _ _ _ _ _ hc10) sc_X0_169 (by decide) rfl rfl (Nat.le_of_ble_eq_true rfl) dX0_isOne_30 rfl ?_
        refine V_if_eq (tgt := 40) dX0_isOne_33 (by decide) (fun hc12 => ?_) (fun hc12 => ?_)
        · have hf := if_t hf hc12
          refine V_iconst dX0_isOne_40 ckc_0 ?_
          cases some_ex hf
          exact V_zret hE (by decide) dX0_isOne_41
        · have hf := if_f hf hc12
          refine V_iconst dX0_isOne_36 ckc_1 ?_
          refine V_goto (tgt := 41) dX0_isOne_37 (by decide) ?_
          cases some_ex hf
          exact V_zret hE (by decide) dX0_isOne_41
set_option maxHeartbeats 4000000 in
theorem mC_X0_isDay_ok (l : Launch) (D : DD) (w : AH) (p0 : Int32) (r : Int32) (hf : mC_X0_isDay p0 = some r) : MA l D yX0_isDay cX0_isDay 1 (some (.boolean)) 2 [.int p0] w (.returned (some (.int r))) w := by
  refine MA.introH (own := RX0) (nm := "isDay") (ls := [some (.int p0)]) (by decide) rfl rfl (Nat.le_of_ble_eq_true rfl) rfl (fun X hl hD hE hH => ?_)
  subst hl hD
  unfold mC_X0_isDay at hf
  refine V_iload_n dX0_isDay_0 rfl ?_
  refine V_iconst dX0_isDay_1 ckc_0 ?_
  refine V_sipush dX0_isDay_2 cks_399 ?_
  obtain ⟨r2, hc1, hf⟩ := bd1_ex hf
  refine V_cS (rest := []) (st' := [.int r2]) (mC_X0_in_ok _ _ _ _ _ _ _ hc1) sc_X0_127 (by decide) rfl rfl (Nat.le_of_ble_eq_true rfl) dX0_isDay_5 rfl ?_
  obtain ⟨h3, hf⟩ := ck_ex hf
  cases some_ex hf
  exact V_zret hE (isZ_nar h3) dX0_isDay_8
set_option maxHeartbeats 4000000 in
theorem mC_X0_isPlace_ok (l : Launch) (D : DD) (w : AH) (a : Nat) (p0 : Int32) (r : Int32) (hf : mC_X0_isPlace a p0 w = some r) : MA l D yX0_isPlace cX0_isPlace 2 (some (.boolean)) 2 [.ref a, .int p0] w (.returned (some (.int r))) w := by
  refine MA.introH (own := RX0) (nm := "isPlace") (ls := [some (.ref a), some (.int p0)]) (by decide) rfl rfl (Nat.le_of_ble_eq_true rfl) rfl (fun X hl hD hE hH => ?_)
  subst hl hD
  unfold mC_X0_isPlace at hf
  refine V_iload_n dX0_isPlace_0 rfl ?_
  refine V_iconst dX0_isPlace_1 ckc_0 ?_
  refine V_aload_n dX0_isPlace_2 rfl ?_
  obtain ⟨h1, hf⟩ := ck_ex hf
  obtain ⟨b2, hb3, hf⟩ := bd1_ex hf
  refine VP_getR (x := some b2) fa_X0_10 h1 rfl rfl hb3 dX0_isPlace_3 ?_
  obtain ⟨h4, hf⟩ := ck_ex hf
  refine VP_getI fa_X0_141 h4 rfl dX0_isPlace_6 ?_
  refine V_iconst dX0_isPlace_9 ckc_1 ?_
  refine V_isub dX0_isPlace_10 ?_
  obtain ⟨r6, hc5, hf⟩ := bd1_ex hf
  refine V_cS (rest := []) (st' := [.int r6]) (mC_X0_in_ok _ _ _ _ _ _ _ hc5) sc_X0_127 (by decide) rfl rfl (Nat.le_of_ble_eq_true rfl) dX0_isPlace_11 rfl ?_
  obtain ⟨h7, hf⟩ := ck_ex hf
  cases some_ex hf
  exact V_zret hE (isZ_nar h7) dX0_isPlace_14
set_option maxHeartbeats 4000000 in
theorem mC_J2_size_ok (l : Launch) (D : DD) (w : AH) (a : Nat) (r : Int32) (hf : mC_J2_size a w = some r) : MA l D yJ2_size cJ2_size 1 (some (.int)) 1 [.ref a] w (.returned (some (.int r))) w := by
  refine MA.introH (own := RJ2) (nm := "size") (ls := [some (.ref a)]) (by decide) rfl rfl (Nat.le_of_ble_eq_true rfl) rfl (fun X hl hD hE hH => ?_)
  subst hl hD
  unfold mC_J2_size at hf
  refine V_aload_n dJ2_size_0 rfl ?_
  obtain ⟨h1, hf⟩ := ck_ex hf
  refine VP_getI fa_J2_48 h1 rfl dJ2_size_1 ?_
  cases some_ex hf
  exact V_iret hE dJ2_size_4
set_option maxHeartbeats 4000000 in
theorem mC_X8_init_ok (l : Launch) (D : DD) (w : AH) (a : Nat) (p0 : Int32) (p1 : Int32) (p2 : Int32) (p3 : Int32) (p4 : Int32) (w' : AH) (hf : mC_X8_init a p0 p1 p2 p3 p4 w = some w') : MA l D yX8_init cX8_init 6 none 1 [.ref a, .int p0, .int p1, .int p2, .int p3, .int p4] w (.returned none) w' := by
  refine MA.introH (own := RX8) (nm := "<init>") (ls := [some (.ref a), some (.int p0), some (.int p1), some (.int p2), some (.int p3), some (.int p4)]) (by decide) rfl rfl (Nat.le_of_ble_eq_true rfl) rfl (fun X hl hD hE hH => ?_)
  subst hl hD
  unfold mC_X8_init at hf
  refine V_aload_n dX8_init_0 rfl ?_
  refine V_objInit q799 q182 q183 (by decide) (Nat.le_of_ble_eq_true rfl) dX8_init_1 ?_
  refine V_aload_n dX8_init_4 rfl ?_
  refine V_iload_n dX8_init_5 rfl ?_
  obtain ⟨h1, hf⟩ := ck_ex hf
  obtain ⟨w2, hs3, hf⟩ := st1_ex hf
  refine VE_putIF ff_X8_7 h1 hE.ini rfl rfl rfl hs3 dX8_init_6 ?_
  refine V_aload_n dX8_init_9 rfl ?_
  refine V_iload_n dX8_init_10 rfl ?_
  obtain ⟨h4, hf⟩ := ck_ex hf
  obtain ⟨w5, hs6, hf⟩ := st1_ex hf
  refine VE_putIF ff_X8_13 h4 hE.ini rfl rfl rfl hs6 dX8_init_11 ?_
  refine V_aload_n dX8_init_14 rfl ?_
  refine V_iload_n dX8_init_15 rfl ?_
  obtain ⟨h7, hf⟩ := ck_ex hf
  obtain ⟨w8, hs9, hf⟩ := st1_ex hf
  refine VE_putIF ff_X8_16 h7 hE.ini rfl rfl rfl hs9 dX8_init_16 ?_
  refine V_aload_n dX8_init_19 rfl ?_
  refine V_iload dX8_init_20 rfl ?_
  obtain ⟨h10, hf⟩ := ck_ex hf
  obtain ⟨w11, hs12, hf⟩ := st1_ex hf
  refine VE_putIF ff_X8_19 h10 hE.ini rfl rfl rfl hs12 dX8_init_22 ?_
  refine V_aload_n dX8_init_25 rfl ?_
  refine V_iload dX8_init_26 rfl ?_
  obtain ⟨h13, hf⟩ := ck_ex hf
  obtain ⟨w14, hs15, hf⟩ := st1_ex hf
  refine VE_putIF ff_X8_22 h13 hE.ini rfl rfl rfl hs15 dX8_init_28 ?_
  cases some_ex hf
  exact V_vret hE dX8_init_31
set_option maxHeartbeats 4000000 in
theorem mC_J2_grow_2_ok (l : Launch) (D : DD) (w : AH) (a : Nat) (r : Nat) (w' : AH) (hf : mC_J2_grow_2 a w = some (r, w')) : MA l D yJ2_grow_2 cJ2_grow_2 1 (some (.array (.object "java/lang/Object"))) 4 [.ref a] w (.returned (some (.ref r))) w' := by
  refine MA.introH (own := RJ2) (nm := "grow") (ls := [some (.ref a)]) (by decide) rfl rfl (Nat.le_of_ble_eq_true rfl) rfl (fun X hl hD hE hH => ?_)
  subst hl hD
  unfold mC_J2_grow_2 at hf
  refine V_aload_n dJ2_grow_2_0 rfl ?_
  refine V_aload_n dJ2_grow_2_1 rfl ?_
  obtain ⟨h1, hf⟩ := ck_ex hf
  refine VP_getI fa_J2_48 h1 rfl dJ2_grow_2_2 ?_
  refine V_iconst dJ2_grow_2_5 ckc_1 ?_
  refine V_iadd dJ2_grow_2_6 ?_
  obtain ⟨r3, w4, hc2, hf⟩ := bd2_ex hf
  refine V_cV (av := [.int ((hvi w a 2) + (1 : Int32))]) (rest := []) (st' := [.ref r3]) (mC_J2_grow_ok _ _ _ _ _ _ _ hc2) vc_J2_69 (kIn1 h1) (by decide) rfl rfl (Nat.le_of_ble_eq_true rfl) dJ2_grow_2_7 rfl ?_
  cases some_ex hf
  exact V_aret (r := some _) hE (by first | exact Or.inl ⟨_, rfl⟩ | exact Or.inr ⟨_, rfl⟩) dJ2_grow_2_10
set_option maxHeartbeats 4000000 in
theorem mC_J2_add_2_11_v {X : CX} {w0 : AH} {w' : AH}  (hE : XE X w0 5 none "add" (.returned none) w') (hH : XH X []) (v0 : Nat) (v1 : Nat) (v2 : Nat) (v3 : Int32) (w : AH) (hf : mC_J2_add_2_11 v0 v1 v2 v3 w = some w') : V X cJ2_add_2 RJ2 4 5 w 11 [some (.ref v0), some (.ref v1), some (.ref v2), some (.int v3)] [] := by
  unfold mC_J2_add_2_11 at hf
  refine V_aload_n dJ2_add_2_11 rfl ?_
  refine V_iload_n dJ2_add_2_12 rfl ?_
  refine V_aload_n dJ2_add_2_13 rfl ?_
  obtain ⟨h1, hf⟩ := ck_ex hf
  obtain ⟨h2, hf⟩ := ck_ex hf
  obtain ⟨w3, hs4, hf⟩ := st1_ex hf
  refine VE_aast castO h1 h2 rfl hs4 dJ2_add_2_14 ?_
  refine V_aload_n dJ2_add_2_15 rfl ?_
  refine V_iload_n dJ2_add_2_16 rfl ?_
  refine V_iconst dJ2_add_2_17 ckc_1 ?_
  refine V_iadd dJ2_add_2_18 ?_
  obtain ⟨h5, hf⟩ := ck_ex hf
  obtain ⟨w6, hs7, hf⟩ := st1_ex hf
  refine VE_putI fw_J2_48 h5 rfl rfl rfl hs7 dJ2_add_2_19 ?_
  cases some_ex hf
  exact V_vret hE dJ2_add_2_22
set_option maxHeartbeats 4000000 in
theorem mC_J2_add_2_ok (l : Launch) (D : DD) (w : AH) (a : Nat) (p0 : Nat) (p1 : Nat) (p2 : Int32) (w' : AH) (hf : mC_J2_add_2 a p0 p1 p2 w = some w') : MA l D yJ2_add_2 cJ2_add_2 4 none 5 [.ref a, .ref p0, .ref p1, .int p2] w (.returned none) w' := by
  refine MA.introH (own := RJ2) (nm := "add") (ls := [some (.ref a), some (.ref p0), some (.ref p1), some (.int p2)]) (by decide) rfl rfl (Nat.le_of_ble_eq_true rfl) rfl (fun X hl hD hE hH => ?_)
  subst hl hD
  unfold mC_J2_add_2 at hf
  refine V_iload_n dJ2_add_2_0 rfl ?_
  refine V_aload_n dJ2_add_2_1 rfl ?_
  obtain ⟨h1, hf⟩ := ck_ex hf
  refine VE_alen h1 dJ2_add_2_2 ?_
  refine V_icmp_ne (tgt := 11) dJ2_add_2_3 (by decide) (fun hc2 => ?_) (fun hc2 => ?_)
  · have hf := if_f hf hc2
    exact mC_J2_add_2_11_v hE hH a p0 p1 p2 w hf
  · have hf := if_t hf hc2
    refine V_aload_n dJ2_add_2_6 rfl ?_
    obtain ⟨h3, hf⟩ := ck_ex hf
    obtain ⟨r5, w6, hc4, hf⟩ := bd2_ex hf
    refine V_cV (av := []) (rest := []) (st' := [.ref r5]) (mC_J2_grow_2_ok _ _ _ _ _ _ hc4) vc_J2_129 (kIn1 h3) (by decide) rfl rfl (Nat.le_of_ble_eq_true rfl) dJ2_add_2_7 rfl ?_
    refine V_astore_n (ls' := [some (.ref a), some (.ref p0), some (.ref r5), some (.int p2)]) dJ2_add_2_10 (by decide) rfl ?_
    exact mC_J2_add_2_11_v hE hH a p0 r5 p2 w6 hf
set_option maxHeartbeats 4000000 in
theorem mC_J2_add_ok (l : Launch) (D : DD) (w : AH) (a : Nat) (p0 : Nat) (r : Int32) (w' : AH) (hf : mC_J2_add a p0 w = some (r, w')) : MA l D yJ2_add cJ2_add 2 (some (.boolean)) 6 [.ref a, .ref p0] w (.returned (some (.int r))) w' := by
  refine MA.introH (own := RJ2) (nm := "add") (ls := [some (.ref a), some (.ref p0)]) (by decide) rfl rfl (Nat.le_of_ble_eq_true rfl) rfl (fun X hl hD hE hH => ?_)
  subst hl hD
  unfold mC_J2_add at hf
  refine V_aload_n dJ2_add_0 rfl ?_
  refine V_dup dJ2_add_1 rfl ?_
  obtain ⟨h1, hf⟩ := ck_ex hf
  refine VP_getI fa_J2_63 h1 rfl dJ2_add_2 ?_
  refine V_iconst dJ2_add_5 ckc_1 ?_
  refine V_iadd dJ2_add_6 ?_
  obtain ⟨w2, hs3, hf⟩ := st1_ex hf
  refine VE_putI fw_J2_63 h1 rfl rfl rfl hs3 dJ2_add_7 ?_
  refine V_aload_n dJ2_add_10 rfl ?_
  refine V_aload_n dJ2_add_11 rfl ?_
  refine V_aload_n dJ2_add_12 rfl ?_
  obtain ⟨h4, hf⟩ := ck_ex hf
  obtain ⟨b5, hb6, hf⟩ := bd1_ex hf
  refine VP_getR (x := some b5) fa_J2_9 h4 rfl rfl hb6 dJ2_add_13 ?_
  refine V_aload_n dJ2_add_16 rfl ?_
  refine VP_getI fa_J2_48 h4 rfl dJ2_add_17 ?_
  obtain ⟨w8, hc7, hf⟩ := bd1_ex hf
  refine V_cV (av := [.ref p0, .ref b5, .int (hvi w2 a 2)]) (rest := []) (st' := []) (mC_J2_add_2_ok _ _ _ _ _ _ _ _ hc7) vc_J2_131 (kIn1 h4) (by decide) rfl rfl (Nat.le_of_ble_eq_true rfl) dJ2_add_20 rfl ?_
  refine V_iconst dJ2_add_23 ckc_1 ?_
  cases some_ex hf
  exact V_zret hE (by decide) dJ2_add_24
set_option maxHeartbeats 4000000 in
theorem mC_X9_init_ok (l : Launch) (D : DD) (w : AH) (a : Nat) (p0 : Int32) (p1 : Int32) (p2 : Int32) (p3 : Int32) (p4 : Int32) (w' : AH) (hf : mC_X9_init a p0 p1 p2 p3 p4 w = some w') : MA l D yX9_init cX9_init 6 none 2 [.ref a, .int p0, .int p1, .int p2, .int p3, .int p4] w (.returned none) w' := by
  refine MA.introH (own := RX9) (nm := "<init>") (ls := [some (.ref a), some (.int p0), some (.int p1), some (.int p2), some (.int p3), some (.int p4)]) (by decide) rfl rfl (Nat.le_of_ble_eq_true rfl) rfl (fun X hl hD hE hH => ?_)
  subst hl hD
  unfold mC_X9_init at hf
  refine V_aload_n dX9_init_0 rfl ?_
  refine V_iload_n dX9_init_1 rfl ?_
  refine V_iload_n dX9_init_2 rfl ?_
  refine V_iload_n dX9_init_3 rfl ?_
  refine V_iload dX9_init_4 rfl ?_
  refine V_iload dX9_init_6 rfl ?_
  obtain ⟨w2, hc1, hf⟩ := bd1_ex hf
  refine V_cI (av := [.int p0, .int p1, .int p2, .int p3, .int p4]) (rest := []) (st' := []) (mC_X8_init_ok _ _ _ _ _ _ _ _ _ _ hc1) ic_X9_3 (by decide) rfl rfl (Nat.le_of_ble_eq_true rfl) dX9_init_8 rfl ?_
  cases some_ex hf
  exact V_vret hE dX9_init_11
set_option maxHeartbeats 4000000 in
theorem mC_X10_init_ok (l : Launch) (D : DD) (w : AH) (a : Nat) (p0 : Int32) (p1 : Int32) (p2 : Int32) (p3 : Int32) (p4 : Int32) (w' : AH) (hf : mC_X10_init a p0 p1 p2 p3 p4 w = some w') : MA l D yX10_init cX10_init 6 none 2 [.ref a, .int p0, .int p1, .int p2, .int p3, .int p4] w (.returned none) w' := by
  refine MA.introH (own := RX10) (nm := "<init>") (ls := [some (.ref a), some (.int p0), some (.int p1), some (.int p2), some (.int p3), some (.int p4)]) (by decide) rfl rfl (Nat.le_of_ble_eq_true rfl) rfl (fun X hl hD hE hH => ?_)
  subst hl hD
  unfold mC_X10_init at hf
  refine V_aload_n dX10_init_0 rfl ?_
  refine V_iload_n dX10_init_1 rfl ?_
  refine V_iload_n dX10_init_2 rfl ?_
  refine V_iload_n dX10_init_3 rfl ?_
  refine V_iload dX10_init_4 rfl ?_
  refine V_iload dX10_init_6 rfl ?_
  obtain ⟨w2, hc1, hf⟩ := bd1_ex hf
  refine V_cI (av := [.int p0, .int p1, .int p2, .int p3, .int p4]) (rest := []) (st' := []) (mC_X8_init_ok _ _ _ _ _ _ _ _ _ _ hc1) ic_X10_3 (by decide) rfl rfl (Nat.le_of_ble_eq_true rfl) dX10_init_8 rfl ?_
  cases some_ex hf
  exact V_vret hE dX10_init_11
set_option maxHeartbeats 4000000 in
theorem mC_X11_init_ok (l : Launch) (D : DD) (w : AH) (a : Nat) (p0 : Int32) (p1 : Int32) (p2 : Int32) (p3 : Int32) (p4 : Int32) (w' : AH) (hf : mC_X11_init a p0 p1 p2 p3 p4 w = some w') : MA l D yX11_init cX11_init 6 none 3 [.ref a, .int p0, .int p1, .int p2, .int p3, .int p4] w (.returned none) w' := by
  refine MA.introH (own := RX11) (nm := "<init>") (ls := [some (.ref a), some (.int p0), some (.int p1), some (.int p2), some (.int p3), some (.int p4)]) (by decide) rfl rfl (Nat.le_of_ble_eq_true rfl) rfl (fun X hl hD hE hH => ?_)
  subst hl hD
  unfold mC_X11_init at hf
  refine V_aload_n dX11_init_0 rfl ?_
  refine V_iload_n dX11_init_1 rfl ?_
  refine V_iload_n dX11_init_2 rfl ?_
  refine V_iload_n dX11_init_3 rfl ?_
  refine V_iload dX11_init_4 rfl ?_
  refine V_iload dX11_init_6 rfl ?_
  obtain ⟨w2, hc1, hf⟩ := bd1_ex hf
  refine V_cI (av := [.int p0, .int p1, .int p2, .int p3, .int p4]) (rest := []) (st' := []) (mC_X10_init_ok _ _ _ _ _ _ _ _ _ _ hc1) ic_X11_3 (by decide) rfl rfl (Nat.le_of_ble_eq_true rfl) dX11_init_8 rfl ?_
  cases some_ex hf
  exact V_vret hE dX11_init_11
set_option maxHeartbeats 4000000 in
theorem mC_X0_adds_149_v {X : CX} {w0 : AH} {r : Int32} {w' : AH}  (hE : XE X w0 7 (some (.int)) "adds" (.returned (some (.int r))) w') (hH : XH X []) (v0 : Nat) (v7 : Int32) (w : AH) (hf : mC_X0_adds_149 v0 v7 w = some (r, w')) : V X cX0_adds RX0 8 7 w 149 [some (.ref v0), none, none, none, none, none, none, some (.int v7)] [] := by
  unfold mC_X0_adds_149 at hf
  refine V_aload_n dX0_adds_149 rfl ?_
  obtain ⟨h1, hf⟩ := ck_ex hf
  obtain ⟨b2, hb3, hf⟩ := bd1_ex hf
  refine VP_getR (x := some b2) fa_X0_10 h1 rfl rfl hb3 dX0_adds_150 ?_
  obtain ⟨h4, hf⟩ := ck_ex hf
  obtain ⟨b5, hb6, hf⟩ := bd1_ex hf
  refine VP_getR (x := some b5) fa_X0_191 h4 rfl rfl hb6 dX0_adds_153 ?_
  refine V_iload dX0_adds_156 rfl ?_
  refine V_iconst dX0_adds_158 ckc_m1 ?_
  obtain ⟨h7, hf⟩ := ck_ex hf
  obtain ⟨w8, hs9, hf⟩ := st1_ex hf
  refine VE_iast h7 rfl hs9 dX0_adds_159 ?_
  refine V_aload_n dX0_adds_160 rfl ?_
  obtain ⟨h10, hf⟩ := ck_ex hf
  obtain ⟨b11, hb12, hf⟩ := bd1_ex hf
  refine VP_getR (x := some b11) fa_X0_10 h10 rfl rfl hb12 dX0_adds_161 ?_
  obtain ⟨h13, hf⟩ := ck_ex hf
  obtain ⟨b14, hb15, hf⟩ := bd1_ex hf
  refine VP_getR (x := some b14) fa_X0_194 h13 rfl rfl hb15 dX0_adds_164 ?_
  refine V_iload dX0_adds_167 rfl ?_
  refine V_iconst dX0_adds_169 ckc_m1 ?_
  obtain ⟨h16, hf⟩ := ck_ex hf
  obtain ⟨w17, hs18, hf⟩ := st1_ex hf
  refine VE_iast h16 rfl hs18 dX0_adds_170 ?_
  refine V_iload dX0_adds_171 rfl ?_
  cases some_ex hf
  exact V_iret hE dX0_adds_173
set_option maxHeartbeats 4000000 in
theorem mC_X0_adds_ok (l : Launch) (D : DD) (w : AH) (a : Nat) (p0 : Int32) (p1 : Int32) (p2 : Int32) (p3 : Int32) (p4 : Int32) (p5 : Int32) (r : Int32) (w' : AH) (hf : mC_X0_adds a p0 p1 p2 p3 p4 p5 w = some (r, w')) : MA l D yX0_adds cX0_adds 8 (some (.int)) 7 [.ref a, .int p0, .int p1, .int p2, .int p3, .int p4, .int p5] w (.returned (some (.int r))) w' := by
  refine MA.introH (own := RX0) (nm := "adds") (ls := [some (.ref a), some (.int p0), some (.int p1), some (.int p2), some (.int p3), some (.int p4), some (.int p5), none]) (by decide) rfl rfl (Nat.le_of_ble_eq_true rfl) rfl (fun X hl hD hE hH => ?_)
  subst hl hD
  unfold mC_X0_adds at hf
  refine V_aload_n dX0_adds_0 rfl ?_
  obtain ⟨h1, hf⟩ := ck_ex hf
  obtain ⟨b2, hb3, hf⟩ := bd1_ex hf
  refine VP_getR (x := some b2) fa_X0_10 h1 rfl rfl hb3 dX0_adds_1 ?_
  obtain ⟨h4, hf⟩ := ck_ex hf
  obtain ⟨b5, hb6, hf⟩ := bd1_ex hf
  refine VP_getR (x := some b5) fa_X0_144 h4 rfl rfl hb6 dX0_adds_4 ?_
  obtain ⟨h7, hf⟩ := ck_ex hf
  obtain ⟨r9, hc8, hf⟩ := bd1_ex hf
  refine V_cV (av := []) (rest := []) (st' := [.int r9]) (mC_J2_size_ok _ _ _ _ _ hc8) vc_X0_148 (kIn1 h7) (by decide) rfl rfl (Nat.le_of_ble_eq_true rfl) dX0_adds_7 rfl ?_
  refine V_istore (ls' := [some (.ref a), some (.int p0), some (.int p1), some (.int p2), some (.int p3), some (.int p4), some (.int p5), some (.int r9)]) dX0_adds_10 (by decide) rfl ?_
  refine V_iload dX0_adds_12 rfl ?_
  by_cases hw0 : p3 = (0 : Int32)
  · have hf := if_t hf hw0
    refine V_tableIn (off := 26) (tgt := 40) dX0_adds_14 (by rw [hw0]; decide) (by rw [hw0]; decide) (by rw [hw0]; rfl) (by decide) ?_
    refine V_aload_n dX0_adds_40 rfl ?_
    refine VP_getR (x := some b2) fa_X0_10 h1 rfl rfl hb3 dX0_adds_41 ?_
    refine VP_getR (x := some b5) fa_X0_144 h4 rfl rfl hb6 dX0_adds_44 ?_
    obtain ⟨h10, hf⟩ := ck_ex hf
    obtain ⟨b11, hb12, hf⟩ := st1_ex hf
    obtain ⟨w13, hs14, hf⟩ := st1_ex hf
    refine VE_new clX8 q794 q795 q145 ok_X8 h10 hb12 hs14 dX0_adds_47 ?_
    refine V_dup dX0_adds_50 rfl ?_
    refine V_iload_n dX0_adds_51 rfl ?_
    refine V_iload_n dX0_adds_52 rfl ?_
    refine V_iload_n dX0_adds_53 rfl ?_
    refine V_iload dX0_adds_54 rfl ?_
    refine V_iload dX0_adds_56 rfl ?_
    obtain ⟨w16, hc15, hf⟩ := bd1_ex hf
    refine V_cI (av := [.int p0, .int p1, .int p2, .int p4, .int p5]) (rest := [.ref b11, .ref b5]) (st' := [.ref b11, .ref b5]) (mC_X8_init_ok _ _ _ _ _ _ _ _ _ _ hc15) ic_X0_175 (by decide) rfl rfl (Nat.le_of_ble_eq_true rfl) dX0_adds_58 rfl ?_
    obtain ⟨h17, hf⟩ := ck_ex hf
    obtain ⟨r19, w20, hc18, hf⟩ := bd2_ex hf
    refine V_cV (av := [.ref b11]) (rest := []) (st' := [.int r19]) (mC_J2_add_ok _ _ _ _ _ _ _ hc18) vc_X0_178 (kIn1 h17) (by decide) rfl rfl (Nat.le_of_ble_eq_true rfl) dX0_adds_61 rfl ?_
    refine V_pop dX0_adds_64 rfl ?_
    refine V_goto (tgt := 149) dX0_adds_65 (by decide) ?_
    refine V_keep [true, false, false, false, false, false, false, true] rfl ?_
    exact mC_X0_adds_149_v hE hH a r9 w20 hf
  replace hf := if_f hf hw0
  by_cases hw1 : p3 = (1 : Int32)
  · have hf := if_t hf hw1
    refine V_tableIn (off := 54) (tgt := 68) dX0_adds_14 (by rw [hw1]; decide) (by rw [hw1]; decide) (by rw [hw1]; rfl) (by decide) ?_
    refine V_aload_n dX0_adds_68 rfl ?_
    refine VP_getR (x := some b2) fa_X0_10 h1 rfl rfl hb3 dX0_adds_69 ?_
    refine VP_getR (x := some b5) fa_X0_144 h4 rfl rfl hb6 dX0_adds_72 ?_
    obtain ⟨h21, hf⟩ := ck_ex hf
    obtain ⟨b22, hb23, hf⟩ := st1_ex hf
    obtain ⟨w24, hs25, hf⟩ := st1_ex hf
    refine VE_new clX9 q836 q837 q150 ok_X9 h21 hb23 hs25 dX0_adds_75 ?_
    refine V_dup dX0_adds_78 rfl ?_
    refine V_iload_n dX0_adds_79 rfl ?_
    refine V_iload_n dX0_adds_80 rfl ?_
    refine V_iload_n dX0_adds_81 rfl ?_
    refine V_iload dX0_adds_82 rfl ?_
    refine V_iload dX0_adds_84 rfl ?_
    obtain ⟨w27, hc26, hf⟩ := bd1_ex hf
    refine V_cI (av := [.int p0, .int p1, .int p2, .int p4, .int p5]) (rest := [.ref b22, .ref b5]) (st' := [.ref b22, .ref b5]) (mC_X9_init_ok _ _ _ _ _ _ _ _ _ _ hc26) ic_X0_184 (by decide) rfl rfl (Nat.le_of_ble_eq_true rfl) dX0_adds_86 rfl ?_
    obtain ⟨h28, hf⟩ := ck_ex hf
    obtain ⟨r30, w31, hc29, hf⟩ := bd2_ex hf
    refine V_cV (av := [.ref b22]) (rest := []) (st' := [.int r30]) (mC_J2_add_ok _ _ _ _ _ _ _ hc29) vc_X0_178 (kIn1 h28) (by decide) rfl rfl (Nat.le_of_ble_eq_true rfl) dX0_adds_89 rfl ?_
    refine V_pop dX0_adds_92 rfl ?_
    refine V_goto (tgt := 149) dX0_adds_93 (by decide) ?_
    refine V_keep [true, false, false, false, false, false, false, true] rfl ?_
    exact mC_X0_adds_149_v hE hH a r9 w31 hf
  replace hf := if_f hf hw1
  by_cases hw2 : p3 = (2 : Int32)
  · have hf := if_t hf hw2
    refine V_tableIn (off := 82) (tgt := 96) dX0_adds_14 (by rw [hw2]; decide) (by rw [hw2]; decide) (by rw [hw2]; rfl) (by decide) ?_
    refine V_aload_n dX0_adds_96 rfl ?_
    refine VP_getR (x := some b2) fa_X0_10 h1 rfl rfl hb3 dX0_adds_97 ?_
    refine VP_getR (x := some b5) fa_X0_144 h4 rfl rfl hb6 dX0_adds_100 ?_
    obtain ⟨h32, hf⟩ := ck_ex hf
    obtain ⟨b33, hb34, hf⟩ := st1_ex hf
    obtain ⟨w35, hs36, hf⟩ := st1_ex hf
    refine VE_new clX10 q848 q849 q151 ok_X10 h32 hb34 hs36 dX0_adds_103 ?_
    refine V_dup dX0_adds_106 rfl ?_
    refine V_iload_n dX0_adds_107 rfl ?_
    refine V_iload_n dX0_adds_108 rfl ?_
    refine V_iload_n dX0_adds_109 rfl ?_
    refine V_iload dX0_adds_110 rfl ?_
    refine V_iload dX0_adds_112 rfl ?_
    obtain ⟨w38, hc37, hf⟩ := bd1_ex hf
    refine V_cI (av := [.int p0, .int p1, .int p2, .int p4, .int p5]) (rest := [.ref b33, .ref b5]) (st' := [.ref b33, .ref b5]) (mC_X10_init_ok _ _ _ _ _ _ _ _ _ _ hc37) ic_X0_187 (by decide) rfl rfl (Nat.le_of_ble_eq_true rfl) dX0_adds_114 rfl ?_
    obtain ⟨h39, hf⟩ := ck_ex hf
    obtain ⟨r41, w42, hc40, hf⟩ := bd2_ex hf
    refine V_cV (av := [.ref b33]) (rest := []) (st' := [.int r41]) (mC_J2_add_ok _ _ _ _ _ _ _ hc40) vc_X0_178 (kIn1 h39) (by decide) rfl rfl (Nat.le_of_ble_eq_true rfl) dX0_adds_117 rfl ?_
    refine V_pop dX0_adds_120 rfl ?_
    refine V_goto (tgt := 149) dX0_adds_121 (by decide) ?_
    refine V_keep [true, false, false, false, false, false, false, true] rfl ?_
    exact mC_X0_adds_149_v hE hH a r9 w42 hf
  replace hf := if_f hf hw2
  have hw0' := lv_neT hw0 (show (0 : Int32).toInt = 0 from by decide)
  have hw1' := lv_neT hw1 (show (1 : Int32).toInt = 1 from by decide)
  have hw2' := lv_neT hw2 (show (2 : Int32).toInt = 2 from by decide)
  refine V_tableOut (tgt := 124) dX0_adds_14 (by omega) (by decide) ?_
  refine V_aload_n dX0_adds_124 rfl ?_
  refine VP_getR (x := some b2) fa_X0_10 h1 rfl rfl hb3 dX0_adds_125 ?_
  refine VP_getR (x := some b5) fa_X0_144 h4 rfl rfl hb6 dX0_adds_128 ?_
  obtain ⟨h43, hf⟩ := ck_ex hf
  obtain ⟨b44, hb45, hf⟩ := st1_ex hf
  obtain ⟨w46, hs47, hf⟩ := st1_ex hf
  refine VE_new clX11 q860 q861 q152 ok_X11 h43 hb45 hs47 dX0_adds_131 ?_
  refine V_dup dX0_adds_134 rfl ?_
  refine V_iload_n dX0_adds_135 rfl ?_
  refine V_iload_n dX0_adds_136 rfl ?_
  refine V_iload_n dX0_adds_137 rfl ?_
  refine V_iload dX0_adds_138 rfl ?_
  refine V_iload dX0_adds_140 rfl ?_
  obtain ⟨w49, hc48, hf⟩ := bd1_ex hf
  refine V_cI (av := [.int p0, .int p1, .int p2, .int p4, .int p5]) (rest := [.ref b44, .ref b5]) (st' := [.ref b44, .ref b5]) (mC_X11_init_ok _ _ _ _ _ _ _ _ _ _ hc48) ic_X0_190 (by decide) rfl rfl (Nat.le_of_ble_eq_true rfl) dX0_adds_142 rfl ?_
  obtain ⟨h50, hf⟩ := ck_ex hf
  obtain ⟨r52, w53, hc51, hf⟩ := bd2_ex hf
  refine V_cV (av := [.ref b44]) (rest := []) (st' := [.int r52]) (mC_J2_add_ok _ _ _ _ _ _ _ hc51) vc_X0_178 (kIn1 h50) (by decide) rfl rfl (Nat.le_of_ble_eq_true rfl) dX0_adds_145 rfl ?_
  refine V_pop dX0_adds_148 rfl ?_
  refine V_keep [true, false, false, false, false, false, false, true] rfl ?_
  exact mC_X0_adds_149_v hE hH a r9 w53 hf
set_option maxHeartbeats 4000000 in
theorem mC_X0_name_20_v {X : CX} {w0 : AH} {r : Int32} {w' : AH}  (hE : XE X w0 8 (some (.int)) "name" (.returned (some (.int r))) w') (hH : XH X []) (v0 : Nat) (w : AH) (hf : mC_X0_name_20 v0 w = some (r, w')) : V X cX0_name RX0 7 8 w 20 [some (.ref v0), none, none, none, none, none, none] [] := by
  unfold mC_X0_name_20 at hf
  refine V_aload_n dX0_name_20 rfl ?_
  refine V_iconst dX0_name_21 ckc_m1 ?_
  obtain ⟨h1, hf⟩ := ck_ex hf
  obtain ⟨r3, w4, hc2, hf⟩ := bd2_ex hf
  refine V_cV (av := [.int (-1 : Int32)]) (rest := []) (st' := [.int r3]) (mC_X0_refuse_ok _ _ _ _ _ _ _ hc2) vc_X0_131 (kIn1 h1) (by decide) rfl rfl (Nat.le_of_ble_eq_true rfl) dX0_name_22 rfl ?_
  cases some_ex hf
  exact V_iret hE dX0_name_25
set_option maxHeartbeats 4000000 in
theorem mC_X0_name_ok (l : Launch) (D : DD) (w : AH) (a : Nat) (p0 : Int32) (p1 : Int32) (p2 : Int32) (p3 : Int32) (p4 : Int32) (p5 : Int32) (r : Int32) (w' : AH) (hf : mC_X0_name a p0 p1 p2 p3 p4 p5 w = some (r, w')) : MA l D yX0_name cX0_name 7 (some (.int)) 8 [.ref a, .int p0, .int p1, .int p2, .int p3, .int p4, .int p5] w (.returned (some (.int r))) w' := by
  refine MA.introH (own := RX0) (nm := "name") (ls := [some (.ref a), some (.int p0), some (.int p1), some (.int p2), some (.int p3), some (.int p4), some (.int p5)]) (by decide) rfl rfl (Nat.le_of_ble_eq_true rfl) rfl (fun X hl hD hE hH => ?_)
  subst hl hD
  unfold mC_X0_name at hf
  refine V_iload_n dX0_name_0 rfl ?_
  refine V_iload_n dX0_name_1 rfl ?_
  refine V_iload dX0_name_2 rfl ?_
  refine V_iload dX0_name_4 rfl ?_
  obtain ⟨r2, hc1, hf⟩ := bd1_ex hf
  refine V_cS (rest := []) (st' := [.int r2]) (mC_X0_isOne_ok _ _ _ _ _ _ _ _ hc1) sc_X0_197 (by decide) rfl rfl (Nat.le_of_ble_eq_true rfl) dX0_name_6 rfl ?_
  refine V_if_eq (tgt := 20) dX0_name_9 (by decide) (fun hc3 => ?_) (fun hc3 => ?_)
  · have hf := if_t hf hc3
    refine V_keep [true, false, false, false, false, false, false] rfl ?_
    exact mC_X0_name_20_v hE hH a w hf
  · have hf := if_f hf hc3
    refine V_iload dX0_name_12 rfl ?_
    obtain ⟨r5, hc4, hf⟩ := bd1_ex hf
    refine V_cS (rest := []) (st' := [.int r5]) (mC_X0_isDay_ok _ _ _ _ _ hc4) sc_X0_201 (by decide) rfl rfl (Nat.le_of_ble_eq_true rfl) dX0_name_14 rfl ?_
    refine V_if_ne (tgt := 26) dX0_name_17 (by decide) (fun hc6 => ?_) (fun hc6 => ?_)
    · have hf := if_f hf hc6
      refine V_aload_n dX0_name_26 rfl ?_
      refine V_iload_n dX0_name_27 rfl ?_
      obtain ⟨h7, hf⟩ := ck_ex hf
      obtain ⟨r9, hc8, hf⟩ := bd1_ex hf
      refine V_cV (av := [.int p0]) (rest := []) (st' := [.int r9]) (mC_X0_isPlace_ok _ _ _ _ _ _ hc8) vc_X0_204 (kIn1 h7) (by decide) rfl rfl (Nat.le_of_ble_eq_true rfl) dX0_name_28 rfl ?_
      refine V_if_ne (tgt := 41) dX0_name_31 (by decide) (fun hc10 => ?_) (fun hc10 => ?_)
      · have hf := if_f hf hc10
        refine V_aload_n dX0_name_41 rfl ?_
        obtain ⟨b11, hb12, hf⟩ := bd1_ex hf
        refine VP_getR (x := some b11) fa_X0_10 h7 rfl rfl hb12 dX0_name_42 ?_
        obtain ⟨h13, hf⟩ := ck_ex hf
        obtain ⟨b14, hb15, hf⟩ := bd1_ex hf
        refine VP_getR (x := some b14) fa_X0_144 h13 rfl rfl hb15 dX0_name_45 ?_
        obtain ⟨h16, hf⟩ := ck_ex hf
        obtain ⟨r18, hc17, hf⟩ := bd1_ex hf
        refine V_cV (av := []) (rest := []) (st' := [.int r18]) (mC_J2_size_ok _ _ _ _ _ hc17) vc_X0_148 (kIn1 h16) (by decide) rfl rfl (Nat.le_of_ble_eq_true rfl) dX0_name_48 rfl ?_
        refine V_sipush dX0_name_51 cks_200 ?_
        refine V_icmp_ne (tgt := 64) dX0_name_54 (by decide) (fun hc19 => ?_) (fun hc19 => ?_)
        · have hf := if_f hf hc19
          refine V_aload_n dX0_name_64 rfl ?_
          refine V_aload_n dX0_name_65 rfl ?_
          refine V_iload_n dX0_name_66 rfl ?_
          refine V_iload_n dX0_name_67 rfl ?_
          refine V_iload_n dX0_name_68 rfl ?_
          refine V_iload dX0_name_69 rfl ?_
          refine V_iload dX0_name_71 rfl ?_
          refine V_iload dX0_name_73 rfl ?_
          obtain ⟨r21, w22, hc20, hf⟩ := bd2_ex hf
          refine V_cV (av := [.int p0, .int p1, .int p2, .int p3, .int p4, .int p5]) (rest := [.ref a]) (st' := [.int r21, .ref a]) (mC_X0_adds_ok _ _ _ _ _ _ _ _ _ _ _ _ hc20) vc_X0_207 (kIn1 h7) (by decide) rfl rfl (Nat.le_of_ble_eq_true rfl) dX0_name_75 rfl ?_
          obtain ⟨h23, hf⟩ := ck_ex hf
          obtain ⟨r25, w26, hc24, hf⟩ := bd2_ex hf
          refine V_cV (av := [.int r21]) (rest := []) (st' := [.int r25]) (mC_X0_told_ok _ _ _ _ _ _ _ hc24) vc_X0_138 (kIn1 h23) (by decide) rfl rfl (Nat.le_of_ble_eq_true rfl) dX0_name_78 rfl ?_
          cases some_ex hf
          exact V_iret hE dX0_name_81
        · have hf := if_t hf hc19
          refine V_aload_n dX0_name_57 rfl ?_
          refine V_bipush dX0_name_58 ckb_m5 ?_
          obtain ⟨r28, w29, hc27, hf⟩ := bd2_ex hf
          refine V_cV (av := [.int (-5 : Int32)]) (rest := []) (st' := [.int r28]) (mC_X0_refuse_ok _ _ _ _ _ _ _ hc27) vc_X0_131 (kIn1 h7) (by decide) rfl rfl (Nat.le_of_ble_eq_true rfl) dX0_name_60 rfl ?_
          cases some_ex hf
          exact V_iret hE dX0_name_63
      · have hf := if_t hf hc10
        refine V_aload_n dX0_name_34 rfl ?_
        refine V_bipush dX0_name_35 ckb_m2 ?_
        obtain ⟨r31, w32, hc30, hf⟩ := bd2_ex hf
        refine V_cV (av := [.int (-2 : Int32)]) (rest := []) (st' := [.int r31]) (mC_X0_refuse_ok _ _ _ _ _ _ _ hc30) vc_X0_131 (kIn1 h7) (by decide) rfl rfl (Nat.le_of_ble_eq_true rfl) dX0_name_37 rfl ?_
        cases some_ex hf
        exact V_iret hE dX0_name_40
    · have hf := if_t hf hc6
      refine V_keep [true, false, false, false, false, false, false] rfl ?_
      exact mC_X0_name_20_v hE hH a w hf
set_option maxHeartbeats 4000000 in
theorem mC_X0_isName_ok (l : Launch) (D : DD) (w : AH) (a : Nat) (p0 : Int32) (r : Int32) (hf : mC_X0_isName a p0 w = some r) : MA l D yX0_isName cX0_isName 2 (some (.boolean)) 2 [.ref a, .int p0] w (.returned (some (.int r))) w := by
  refine MA.introH (own := RX0) (nm := "isName") (ls := [some (.ref a), some (.int p0)]) (by decide) rfl rfl (Nat.le_of_ble_eq_true rfl) rfl (fun X hl hD hE hH => ?_)
  subst hl hD
  unfold mC_X0_isName at hf
  refine V_iload_n dX0_isName_0 rfl ?_
  refine V_if_lt (tgt := 22) dX0_isName_1 (by decide) (fun hc1 => ?_) (fun hc1 => ?_)
  · have hf := if_t hf hc1
    refine V_iconst dX0_isName_22 ckc_0 ?_
    cases some_ex hf
    exact V_zret hE (by decide) dX0_isName_23
  · have hf := if_f hf hc1
    refine V_iload_n dX0_isName_4 rfl ?_
    refine V_aload_n dX0_isName_5 rfl ?_
    obtain ⟨h2, hf⟩ := ck_ex hf
    obtain ⟨b3, hb4, hf⟩ := bd1_ex hf
    refine VP_getR (x := some b3) fa_X0_10 h2 rfl rfl hb4 dX0_isName_6 ?_
    obtain ⟨h5, hf⟩ := ck_ex hf
    obtain ⟨b6, hb7, hf⟩ := bd1_ex hf
    refine VP_getR (x := some b6) fa_X0_144 h5 rfl rfl hb7 dX0_isName_9 ?_
    obtain ⟨h8, hf⟩ := ck_ex hf
    obtain ⟨r10, hc9, hf⟩ := bd1_ex hf
    refine V_cV (av := []) (rest := [.int p0]) (st' := [.int r10, .int p0]) (mC_J2_size_ok _ _ _ _ _ hc9) vc_X0_148 (kIn1 h8) (by decide) rfl rfl (Nat.le_of_ble_eq_true rfl) dX0_isName_12 rfl ?_
    refine V_icmp_ge (tgt := 22) dX0_isName_15 (by decide) (fun hc11 => ?_) (fun hc11 => ?_)
    · have hf := if_t hf hc11
      refine V_iconst dX0_isName_22 ckc_0 ?_
      cases some_ex hf
      exact V_zret hE (by decide) dX0_isName_23
    · have hf := if_f hf hc11
      refine V_iconst dX0_isName_18 ckc_1 ?_
      refine V_goto (tgt := 23) dX0_isName_19 (by decide) ?_
      cases some_ex hf
      exact V_zret hE (by decide) dX0_isName_23
set_option maxHeartbeats 4000000 in
theorem mC_X0_off_14_v {X : CX} {w0 : AH} {r : Int32} {w' : AH}  (hE : XE X w0 3 (some (.int)) "off" (.returned (some (.int r))) w') (hH : XH X []) (v0 : Nat) (w : AH) (hf : mC_X0_off_14 v0 w = some (r, w')) : V X cX0_off RX0 4 3 w 14 [some (.ref v0), none, none, none] [] := by
  unfold mC_X0_off_14 at hf
  refine V_aload_n dX0_off_14 rfl ?_
  refine V_iconst dX0_off_15 ckc_m1 ?_
  obtain ⟨h1, hf⟩ := ck_ex hf
  obtain ⟨r3, w4, hc2, hf⟩ := bd2_ex hf
  refine V_cV (av := [.int (-1 : Int32)]) (rest := []) (st' := [.int r3]) (mC_X0_refuse_ok _ _ _ _ _ _ _ hc2) vc_X0_131 (kIn1 h1) (by decide) rfl rfl (Nat.le_of_ble_eq_true rfl) dX0_off_16 rfl ?_
  cases some_ex hf
  exact V_iret hE dX0_off_19
set_option maxHeartbeats 4000000 in
theorem mC_X0_off_ok (l : Launch) (D : DD) (w : AH) (a : Nat) (p0 : Int32) (p1 : Int32) (p2 : Int32) (r : Int32) (w' : AH) (hf : mC_X0_off a p0 p1 p2 w = some (r, w')) : MA l D yX0_off cX0_off 4 (some (.int)) 3 [.ref a, .int p0, .int p1, .int p2] w (.returned (some (.int r))) w' := by
  refine MA.introH (own := RX0) (nm := "off") (ls := [some (.ref a), some (.int p0), some (.int p1), some (.int p2)]) (by decide) rfl rfl (Nat.le_of_ble_eq_true rfl) rfl (fun X hl hD hE hH => ?_)
  subst hl hD
  unfold mC_X0_off at hf
  refine V_iload_n dX0_off_0 rfl ?_
  obtain ⟨r2, hc1, hf⟩ := bd1_ex hf
  refine V_cS (rest := []) (st' := [.int r2]) (mC_X0_isDay_ok _ _ _ _ _ hc1) sc_X0_201 (by decide) rfl rfl (Nat.le_of_ble_eq_true rfl) dX0_off_1 rfl ?_
  refine V_if_eq (tgt := 14) dX0_off_4 (by decide) (fun hc3 => ?_) (fun hc3 => ?_)
  · have hf := if_t hf hc3
    refine V_keep [true, false, false, false] rfl ?_
    exact mC_X0_off_14_v hE hH a w hf
  · have hf := if_f hf hc3
    refine V_iload_n dX0_off_7 rfl ?_
    obtain ⟨r5, hc4, hf⟩ := bd1_ex hf
    refine V_cS (rest := []) (st' := [.int r5]) (mC_X0_isDay_ok _ _ _ _ _ hc4) sc_X0_201 (by decide) rfl rfl (Nat.le_of_ble_eq_true rfl) dX0_off_8 rfl ?_
    refine V_if_ne (tgt := 20) dX0_off_11 (by decide) (fun hc6 => ?_) (fun hc6 => ?_)
    · have hf := if_f hf hc6
      refine V_aload_n dX0_off_20 rfl ?_
      refine V_iload_n dX0_off_21 rfl ?_
      obtain ⟨h7, hf⟩ := ck_ex hf
      obtain ⟨r9, hc8, hf⟩ := bd1_ex hf
      refine V_cV (av := [.int p0]) (rest := []) (st' := [.int r9]) (mC_X0_isName_ok _ _ _ _ _ _ hc8) vc_X0_226 (kIn1 h7) (by decide) rfl rfl (Nat.le_of_ble_eq_true rfl) dX0_off_22 rfl ?_
      refine V_if_ne (tgt := 35) dX0_off_25 (by decide) (fun hc10 => ?_) (fun hc10 => ?_)
      · have hf := if_f hf hc10
        refine V_aload_n dX0_off_35 rfl ?_
        obtain ⟨b11, hb12, hf⟩ := bd1_ex hf
        refine VP_getR (x := some b11) fa_X0_10 h7 rfl rfl hb12 dX0_off_36 ?_
        obtain ⟨h13, hf⟩ := ck_ex hf
        obtain ⟨b14, hb15, hf⟩ := bd1_ex hf
        refine VP_getR (x := some b14) fa_X0_191 h13 rfl rfl hb15 dX0_off_39 ?_
        refine V_iload_n dX0_off_42 rfl ?_
        obtain ⟨h16, hf⟩ := ck_ex hf
        refine VE_iald h16 rfl dX0_off_43 ?_
        refine V_iconst dX0_off_44 ckc_m1 ?_
        refine V_icmp_eq (tgt := 55) dX0_off_45 (by decide) (fun hc17 => ?_) (fun hc17 => ?_)
        · have hf := if_t hf hc17
          refine V_aload_n dX0_off_55 rfl ?_
          refine VP_getR (x := some b11) fa_X0_10 h7 rfl rfl hb12 dX0_off_56 ?_
          refine VP_getR (x := some b14) fa_X0_191 h13 rfl rfl hb15 dX0_off_59 ?_
          refine V_iload_n dX0_off_62 rfl ?_
          refine V_iload_n dX0_off_63 rfl ?_
          obtain ⟨w18, hs19, hf⟩ := st1_ex hf
          refine VE_iast h16 rfl hs19 dX0_off_64 ?_
          refine V_aload_n dX0_off_65 rfl ?_
          obtain ⟨h20, hf⟩ := ck_ex hf
          obtain ⟨b21, hb22, hf⟩ := bd1_ex hf
          refine VP_getR (x := some b21) fa_X0_10 h20 rfl rfl hb22 dX0_off_66 ?_
          obtain ⟨h23, hf⟩ := ck_ex hf
          obtain ⟨b24, hb25, hf⟩ := bd1_ex hf
          refine VP_getR (x := some b24) fa_X0_229 h23 rfl rfl hb25 dX0_off_69 ?_
          refine V_iload_n dX0_off_72 rfl ?_
          refine V_iload_n dX0_off_73 rfl ?_
          obtain ⟨h26, hf⟩ := ck_ex hf
          obtain ⟨w27, hs28, hf⟩ := st1_ex hf
          refine VE_iast h26 rfl hs28 dX0_off_74 ?_
          refine V_aload_n dX0_off_75 rfl ?_
          refine V_iconst dX0_off_76 ckc_0 ?_
          obtain ⟨h29, hf⟩ := ck_ex hf
          obtain ⟨r31, w32, hc30, hf⟩ := bd2_ex hf
          refine V_cV (av := [.int (0 : Int32)]) (rest := []) (st' := [.int r31]) (mC_X0_told_ok _ _ _ _ _ _ _ hc30) vc_X0_138 (kIn1 h29) (by decide) rfl rfl (Nat.le_of_ble_eq_true rfl) dX0_off_77 rfl ?_
          cases some_ex hf
          exact V_iret hE dX0_off_80
        · have hf := if_f hf hc17
          refine V_aload_n dX0_off_48 rfl ?_
          refine V_bipush dX0_off_49 ckb_m4 ?_
          obtain ⟨r34, w35, hc33, hf⟩ := bd2_ex hf
          refine V_cV (av := [.int (-4 : Int32)]) (rest := []) (st' := [.int r34]) (mC_X0_refuse_ok _ _ _ _ _ _ _ hc33) vc_X0_131 (kIn1 h7) (by decide) rfl rfl (Nat.le_of_ble_eq_true rfl) dX0_off_51 rfl ?_
          cases some_ex hf
          exact V_iret hE dX0_off_54
      · have hf := if_t hf hc10
        refine V_aload_n dX0_off_28 rfl ?_
        refine V_bipush dX0_off_29 ckb_m2 ?_
        obtain ⟨r37, w38, hc36, hf⟩ := bd2_ex hf
        refine V_cV (av := [.int (-2 : Int32)]) (rest := []) (st' := [.int r37]) (mC_X0_refuse_ok _ _ _ _ _ _ _ hc36) vc_X0_131 (kIn1 h7) (by decide) rfl rfl (Nat.le_of_ble_eq_true rfl) dX0_off_31 rfl ?_
        cases some_ex hf
        exact V_iret hE dX0_off_34
    · have hf := if_t hf hc6
      refine V_keep [true, false, false, false] rfl ?_
      exact mC_X0_off_14_v hE hH a w hf
set_option maxHeartbeats 4000000 in
theorem mC_J13_checkIndex_9_v {X : CX} {w0 : AH} {w : AH} {r : Int32}  (hE : XE X w0 1 (some (.int)) "checkIndex" (.returned (some (.int r))) w) (hH : XH X []) (v0 : Int32) (v1 : Int32) (v2 : Option Nat) (hf : mC_J13_checkIndex_9 v0 v1 v2 = some r) : V X cJ13_checkIndex RJ13 3 1 w 9 [some (.int v0), some (.int v1), some (va_rf v2)] [] := by
  unfold mC_J13_checkIndex_9 at hf
  refine V_aload_nq (r := v2) dJ13_checkIndex_9 rfl ?_
  refine V_iload_n dJ13_checkIndex_10 rfl ?_
  refine V_iload_n dJ13_checkIndex_11 rfl ?_
  cases hf
set_option maxHeartbeats 4000000 in
theorem mC_J13_checkIndex_ok (l : Launch) (D : DD) (w : AH) (p0 : Int32) (p1 : Int32) (p2 : Option Nat) (r : Int32) (hf : mC_J13_checkIndex p0 p1 p2 = some r) : MA l D yJ13_checkIndex cJ13_checkIndex 3 (some (.int)) 1 [.int p0, .int p1, va_rf p2] w (.returned (some (.int r))) w := by
  refine MA.introH (own := RJ13) (nm := "checkIndex") (ls := [some (.int p0), some (.int p1), some (va_rf p2)]) (by decide) rfl rfl (by cases p2 <;> exact Nat.le_of_ble_eq_true rfl) (by cases p2 <;> rfl) (fun X hl hD hE hH => ?_)
  subst hl hD
  unfold mC_J13_checkIndex at hf
  refine V_iload_n dJ13_checkIndex_0 rfl ?_
  refine V_if_lt (tgt := 9) dJ13_checkIndex_1 (by decide) (fun hc1 => ?_) (fun hc1 => ?_)
  · have hf := if_t hf hc1
    exact mC_J13_checkIndex_9_v hE hH p0 p1 p2 hf
  · have hf := if_f hf hc1
    refine V_iload_n dJ13_checkIndex_4 rfl ?_
    refine V_iload_n dJ13_checkIndex_5 rfl ?_
    refine V_icmp_lt (tgt := 16) dJ13_checkIndex_6 (by decide) (fun hc2 => ?_) (fun hc2 => ?_)
    · have hf := if_t hf hc2
      refine V_iload_n dJ13_checkIndex_16 rfl ?_
      cases some_ex hf
      exact V_iret hE dJ13_checkIndex_17
    · have hf := if_f hf hc2
      exact mC_J13_checkIndex_9_v hE hH p0 p1 p2 hf
set_option maxHeartbeats 4000000 in
theorem mC_J12_checkIndex_ok (l : Launch) (D : DD) (w : AH) (p0 : Int32) (p1 : Int32) (r : Int32) (hf : mC_J12_checkIndex p0 p1 = some r) : MA l D yJ12_checkIndex cJ12_checkIndex 2 (some (.int)) 2 [.int p0, .int p1] w (.returned (some (.int r))) w := by
  refine MA.introH (own := RJ12) (nm := "checkIndex") (ls := [some (.int p0), some (.int p1)]) (by decide) rfl rfl (Nat.le_of_ble_eq_true rfl) rfl (fun X hl hD hE hH => ?_)
  subst hl hD
  unfold mC_J12_checkIndex at hf
  refine V_iload_n dJ12_checkIndex_0 rfl ?_
  refine V_iload_n dJ12_checkIndex_1 rfl ?_
  refine V_null dJ12_checkIndex_2 ?_
  obtain ⟨r2, hc1, hf⟩ := bd1_ex hf
  refine V_cS (rest := []) (st' := [.int r2]) (mC_J13_checkIndex_ok _ _ _ _ _ _ _ hc1) sc_J12_105 (by decide) rfl rfl (Nat.le_of_ble_eq_true rfl) dJ12_checkIndex_3 rfl ?_
  cases some_ex hf
  exact V_iret hE dJ12_checkIndex_6
set_option maxHeartbeats 4000000 in
theorem mC_J2_elementData_ok (l : Launch) (D : DD) (w : AH) (a : Nat) (p0 : Int32) (r : Nat) (hf : mC_J2_elementData a p0 w = some r) : MA l D yJ2_elementData cJ2_elementData 2 (some (.object "java/lang/Object")) 1 [.ref a, .int p0] w (.returned (some (.ref r))) w := by
  refine MA.introH (own := RJ2) (nm := "elementData") (ls := [some (.ref a), some (.int p0)]) (by decide) rfl rfl (Nat.le_of_ble_eq_true rfl) rfl (fun X hl hD hE hH => ?_)
  subst hl hD
  unfold mC_J2_elementData at hf
  refine V_aload_n dJ2_elementData_0 rfl ?_
  obtain ⟨h1, hf⟩ := ck_ex hf
  obtain ⟨b2, hb3, hf⟩ := bd1_ex hf
  refine VP_getR (x := some b2) fa_J2_9 h1 rfl rfl hb3 dJ2_elementData_1 ?_
  refine V_iload_n dJ2_elementData_4 rfl ?_
  obtain ⟨h4, hf⟩ := ck_ex hf
  obtain ⟨x5, hx6, hf⟩ := st1_ex hf
  refine VE_aald (x := x5) h4 (by decide) (by decide) rfl hx6 dJ2_elementData_5 ?_
  obtain ⟨b7, rfl, hf⟩ := bd1_ex hf
  cases some_ex hf
  exact V_aret (r := some _) hE (by first | exact Or.inl ⟨_, rfl⟩ | exact Or.inr ⟨_, rfl⟩) dJ2_elementData_6
set_option maxHeartbeats 4000000 in
theorem mC_J2_get_ok (l : Launch) (D : DD) (w : AH) (a : Nat) (p0 : Int32) (r : Nat) (hf : mC_J2_get a p0 w = some r) : MA l D yJ2_get cJ2_get 2 (some (.object "java/lang/Object")) 3 [.ref a, .int p0] w (.returned (some (.ref r))) w := by
  refine MA.introH (own := RJ2) (nm := "get") (ls := [some (.ref a), some (.int p0)]) (by decide) rfl rfl (Nat.le_of_ble_eq_true rfl) rfl (fun X hl hD hE hH => ?_)
  subst hl hD
  unfold mC_J2_get at hf
  refine V_iload_n dJ2_get_0 rfl ?_
  refine V_aload_n dJ2_get_1 rfl ?_
  obtain ⟨h1, hf⟩ := ck_ex hf
  refine VP_getI fa_J2_48 h1 rfl dJ2_get_2 ?_
  obtain ⟨r3, hc2, hf⟩ := bd1_ex hf
  refine V_cS (rest := []) (st' := [.int r3]) (mC_J12_checkIndex_ok _ _ _ _ _ _ hc2) sc_J2_118 (by decide) rfl rfl (Nat.le_of_ble_eq_true rfl) dJ2_get_5 rfl ?_
  refine V_pop dJ2_get_8 rfl ?_
  refine V_aload_n dJ2_get_9 rfl ?_
  refine V_iload_n dJ2_get_10 rfl ?_
  obtain ⟨r5, hc4, hf⟩ := bd1_ex hf
  refine V_cV (av := [.int p0]) (rest := []) (st' := [.ref r5]) (mC_J2_elementData_ok _ _ _ _ _ _ hc4) vc_J2_123 (kIn1 h1) (by decide) rfl rfl (Nat.le_of_ble_eq_true rfl) dJ2_get_11 rfl ?_
  cases some_ex hf
  exact V_aret (r := some _) hE (by first | exact Or.inl ⟨_, rfl⟩ | exact Or.inr ⟨_, rfl⟩) dJ2_get_14
set_option maxHeartbeats 4000000 in
theorem mC_X0_moved_15_v {X : CX} {w0 : AH} {r : Int32} {w' : AH}  (hE : XE X w0 4 (some (.int)) "moved" (.returned (some (.int r))) w') (hH : XH X []) (v0 : Nat) (w : AH) (hf : mC_X0_moved_15 v0 w = some (r, w')) : V X cX0_moved RX0 5 4 w 15 [some (.ref v0), none, none, none, none] [] := by
  unfold mC_X0_moved_15 at hf
  refine V_aload_n dX0_moved_15 rfl ?_
  refine V_iconst dX0_moved_16 ckc_m1 ?_
  obtain ⟨h1, hf⟩ := ck_ex hf
  obtain ⟨r3, w4, hc2, hf⟩ := bd2_ex hf
  refine V_cV (av := [.int (-1 : Int32)]) (rest := []) (st' := [.int r3]) (mC_X0_refuse_ok _ _ _ _ _ _ _ hc2) vc_X0_131 (kIn1 h1) (by decide) rfl rfl (Nat.le_of_ble_eq_true rfl) dX0_moved_17 rfl ?_
  cases some_ex hf
  exact V_iret hE dX0_moved_20
set_option maxHeartbeats 4000000 in
theorem mC_X0_moved_37_v {X : CX} {w0 : AH} {r : Int32} {w' : AH}  (hE : XE X w0 4 (some (.int)) "moved" (.returned (some (.int r))) w') (hH : XH X []) (v0 : Nat) (w : AH) (hf : mC_X0_moved_37 v0 w = some (r, w')) : V X cX0_moved RX0 5 4 w 37 [some (.ref v0), none, none, none, none] [] := by
  unfold mC_X0_moved_37 at hf
  refine V_aload_n dX0_moved_37 rfl ?_
  refine V_bipush dX0_moved_38 ckb_m2 ?_
  obtain ⟨h1, hf⟩ := ck_ex hf
  obtain ⟨r3, w4, hc2, hf⟩ := bd2_ex hf
  refine V_cV (av := [.int (-2 : Int32)]) (rest := []) (st' := [.int r3]) (mC_X0_refuse_ok _ _ _ _ _ _ _ hc2) vc_X0_131 (kIn1 h1) (by decide) rfl rfl (Nat.le_of_ble_eq_true rfl) dX0_moved_40 rfl ?_
  cases some_ex hf
  exact V_iret hE dX0_moved_43
set_option maxHeartbeats 4000000 in
theorem mC_X0_moved_ok (l : Launch) (D : DD) (w : AH) (a : Nat) (p0 : Int32) (p1 : Int32) (p2 : Int32) (p3 : Int32) (r : Int32) (w' : AH) (hf : mC_X0_moved a p0 p1 p2 p3 w = some (r, w')) : MA l D yX0_moved cX0_moved 5 (some (.int)) 4 [.ref a, .int p0, .int p1, .int p2, .int p3] w (.returned (some (.int r))) w' := by
  refine MA.introH (own := RX0) (nm := "moved") (ls := [some (.ref a), some (.int p0), some (.int p1), some (.int p2), some (.int p3)]) (by decide) rfl rfl (Nat.le_of_ble_eq_true rfl) rfl (fun X hl hD hE hH => ?_)
  subst hl hD
  unfold mC_X0_moved at hf
  refine V_iload_n dX0_moved_0 rfl ?_
  obtain ⟨r2, hc1, hf⟩ := bd1_ex hf
  refine V_cS (rest := []) (st' := [.int r2]) (mC_X0_isDay_ok _ _ _ _ _ hc1) sc_X0_201 (by decide) rfl rfl (Nat.le_of_ble_eq_true rfl) dX0_moved_1 rfl ?_
  refine V_if_eq (tgt := 15) dX0_moved_4 (by decide) (fun hc3 => ?_) (fun hc3 => ?_)
  · have hf := if_t hf hc3
    refine V_keep [true, false, false, false, false] rfl ?_
    exact mC_X0_moved_15_v hE hH a w hf
  · have hf := if_f hf hc3
    refine V_iload dX0_moved_7 rfl ?_
    obtain ⟨r5, hc4, hf⟩ := bd1_ex hf
    refine V_cS (rest := []) (st' := [.int r5]) (mC_X0_isDay_ok _ _ _ _ _ hc4) sc_X0_201 (by decide) rfl rfl (Nat.le_of_ble_eq_true rfl) dX0_moved_9 rfl ?_
    refine V_if_ne (tgt := 21) dX0_moved_12 (by decide) (fun hc6 => ?_) (fun hc6 => ?_)
    · have hf := if_f hf hc6
      refine V_aload_n dX0_moved_21 rfl ?_
      refine V_iload_n dX0_moved_22 rfl ?_
      obtain ⟨h7, hf⟩ := ck_ex hf
      obtain ⟨r9, hc8, hf⟩ := bd1_ex hf
      refine V_cV (av := [.int p0]) (rest := []) (st' := [.int r9]) (mC_X0_isName_ok _ _ _ _ _ _ hc8) vc_X0_226 (kIn1 h7) (by decide) rfl rfl (Nat.le_of_ble_eq_true rfl) dX0_moved_23 rfl ?_
      refine V_if_eq (tgt := 37) dX0_moved_26 (by decide) (fun hc10 => ?_) (fun hc10 => ?_)
      · have hf := if_t hf hc10
        refine V_keep [true, false, false, false, false] rfl ?_
        exact mC_X0_moved_37_v hE hH a w hf
      · have hf := if_f hf hc10
        refine V_aload_n dX0_moved_29 rfl ?_
        refine V_iload_n dX0_moved_30 rfl ?_
        obtain ⟨r12, hc11, hf⟩ := bd1_ex hf
        refine V_cV (av := [.int p1]) (rest := []) (st' := [.int r12]) (mC_X0_isPlace_ok _ _ _ _ _ _ hc11) vc_X0_204 (kIn1 h7) (by decide) rfl rfl (Nat.le_of_ble_eq_true rfl) dX0_moved_31 rfl ?_
        refine V_if_ne (tgt := 44) dX0_moved_34 (by decide) (fun hc13 => ?_) (fun hc13 => ?_)
        · have hf := if_f hf hc13
          refine V_aload_n dX0_moved_44 rfl ?_
          obtain ⟨b14, hb15, hf⟩ := bd1_ex hf
          refine VP_getR (x := some b14) fa_X0_10 h7 rfl rfl hb15 dX0_moved_45 ?_
          obtain ⟨h16, hf⟩ := ck_ex hf
          obtain ⟨b17, hb18, hf⟩ := bd1_ex hf
          refine VP_getR (x := some b17) fa_X0_144 h16 rfl rfl hb18 dX0_moved_48 ?_
          refine V_iload_n dX0_moved_51 rfl ?_
          obtain ⟨h19, hf⟩ := ck_ex hf
          obtain ⟨r21, hc20, hf⟩ := bd1_ex hf
          refine V_cV (av := [.int p0]) (rest := []) (st' := [.ref r21]) (mC_J2_get_ok _ _ _ _ _ _ hc20) vc_X0_232 (kIn1 h19) (by decide) rfl rfl (Nat.le_of_ble_eq_true rfl) dX0_moved_52 rfl ?_
          obtain ⟨h22, hf⟩ := ck_ex hf
          refine VE_cast cc_X0_173 h22 dX0_moved_55 ?_
          refine VP_getI fa_X0_236 h22 rfl dX0_moved_58 ?_
          refine V_iload_n dX0_moved_61 rfl ?_
          refine V_icmp_ne (tgt := 72) dX0_moved_62 (by decide) (fun hc23 => ?_) (fun hc23 => ?_)
          · have hf := if_f hf hc23
            refine V_aload_n dX0_moved_72 rfl ?_
            refine VP_getR (x := some b14) fa_X0_10 h7 rfl rfl hb15 dX0_moved_73 ?_
            obtain ⟨b24, hb25, hf⟩ := bd1_ex hf
            refine VP_getR (x := some b24) fa_X0_194 h16 rfl rfl hb25 dX0_moved_76 ?_
            refine V_iload_n dX0_moved_79 rfl ?_
            obtain ⟨h26, hf⟩ := ck_ex hf
            refine VE_iald h26 rfl dX0_moved_80 ?_
            refine V_iconst dX0_moved_81 ckc_m1 ?_
            refine V_icmp_eq (tgt := 92) dX0_moved_82 (by decide) (fun hc27 => ?_) (fun hc27 => ?_)
            · have hf := if_t hf hc27
              refine V_aload_n dX0_moved_92 rfl ?_
              refine VP_getR (x := some b14) fa_X0_10 h7 rfl rfl hb15 dX0_moved_93 ?_
              refine VP_getR (x := some b24) fa_X0_194 h16 rfl rfl hb25 dX0_moved_96 ?_
              refine V_iload_n dX0_moved_99 rfl ?_
              refine V_iload_n dX0_moved_100 rfl ?_
              obtain ⟨w28, hs29, hf⟩ := st1_ex hf
              refine VE_iast h26 rfl hs29 dX0_moved_101 ?_
              refine V_aload_n dX0_moved_102 rfl ?_
              obtain ⟨h30, hf⟩ := ck_ex hf
              obtain ⟨b31, hb32, hf⟩ := bd1_ex hf
              refine VP_getR (x := some b31) fa_X0_10 h30 rfl rfl hb32 dX0_moved_103 ?_
              obtain ⟨h33, hf⟩ := ck_ex hf
              obtain ⟨b34, hb35, hf⟩ := bd1_ex hf
              refine VP_getR (x := some b34) fa_X0_239 h33 rfl rfl hb35 dX0_moved_106 ?_
              refine V_iload_n dX0_moved_109 rfl ?_
              refine V_iload_n dX0_moved_110 rfl ?_
              obtain ⟨h36, hf⟩ := ck_ex hf
              obtain ⟨w37, hs38, hf⟩ := st1_ex hf
              refine VE_iast h36 rfl hs38 dX0_moved_111 ?_
              refine V_aload_n dX0_moved_112 rfl ?_
              obtain ⟨h39, hf⟩ := ck_ex hf
              obtain ⟨b40, hb41, hf⟩ := bd1_ex hf
              refine VP_getR (x := some b40) fa_X0_10 h39 rfl rfl hb41 dX0_moved_113 ?_
              obtain ⟨h42, hf⟩ := ck_ex hf
              obtain ⟨b43, hb44, hf⟩ := bd1_ex hf
              refine VP_getR (x := some b43) fa_X0_242 h42 rfl rfl hb44 dX0_moved_116 ?_
              refine V_iload_n dX0_moved_119 rfl ?_
              refine V_iload dX0_moved_120 rfl ?_
              obtain ⟨h45, hf⟩ := ck_ex hf
              obtain ⟨w46, hs47, hf⟩ := st1_ex hf
              refine VE_iast h45 rfl hs47 dX0_moved_122 ?_
              refine V_aload_n dX0_moved_123 rfl ?_
              refine V_iconst dX0_moved_124 ckc_0 ?_
              obtain ⟨h48, hf⟩ := ck_ex hf
              obtain ⟨r50, w51, hc49, hf⟩ := bd2_ex hf
              refine V_cV (av := [.int (0 : Int32)]) (rest := []) (st' := [.int r50]) (mC_X0_told_ok _ _ _ _ _ _ _ hc49) vc_X0_138 (kIn1 h48) (by decide) rfl rfl (Nat.le_of_ble_eq_true rfl) dX0_moved_125 rfl ?_
              cases some_ex hf
              exact V_iret hE dX0_moved_128
            · have hf := if_f hf hc27
              refine V_aload_n dX0_moved_85 rfl ?_
              refine V_bipush dX0_moved_86 ckb_m4 ?_
              obtain ⟨r53, w54, hc52, hf⟩ := bd2_ex hf
              refine V_cV (av := [.int (-4 : Int32)]) (rest := []) (st' := [.int r53]) (mC_X0_refuse_ok _ _ _ _ _ _ _ hc52) vc_X0_131 (kIn1 h7) (by decide) rfl rfl (Nat.le_of_ble_eq_true rfl) dX0_moved_88 rfl ?_
              cases some_ex hf
              exact V_iret hE dX0_moved_91
          · have hf := if_t hf hc23
            refine V_aload_n dX0_moved_65 rfl ?_
            refine V_bipush dX0_moved_66 ckb_m3 ?_
            obtain ⟨r56, w57, hc55, hf⟩ := bd2_ex hf
            refine V_cV (av := [.int (-3 : Int32)]) (rest := []) (st' := [.int r56]) (mC_X0_refuse_ok _ _ _ _ _ _ _ hc55) vc_X0_131 (kIn1 h7) (by decide) rfl rfl (Nat.le_of_ble_eq_true rfl) dX0_moved_68 rfl ?_
            cases some_ex hf
            exact V_iret hE dX0_moved_71
        · have hf := if_t hf hc13
          refine V_keep [true, false, false, false, false] rfl ?_
          exact mC_X0_moved_37_v hE hH a w hf
    · have hf := if_t hf hc6
      refine V_keep [true, false, false, false, false] rfl ?_
      exact mC_X0_moved_15_v hE hH a w hf
set_option maxHeartbeats 4000000 in
theorem mC_X8_kind_ok (l : Launch) (D : DD) (w : AH) (a : Nat) (r : Int32) (hf : mC_X8_kind a w = some r) : MA l D yX8_kind cX8_kind 1 (some (.int)) 1 [.ref a] w (.returned (some (.int r))) w := by
  refine MA.introH (own := RX8) (nm := "kind") (ls := [some (.ref a)]) (by decide) rfl rfl (Nat.le_of_ble_eq_true rfl) rfl (fun X hl hD hE hH => ?_)
  subst hl hD
  unfold mC_X8_kind at hf
  refine V_iconst dX8_kind_0 ckc_0 ?_
  cases some_ex hf
  exact V_iret hE dX8_kind_1
set_option maxHeartbeats 4000000 in
theorem mC_X9_kind_ok (l : Launch) (D : DD) (w : AH) (a : Nat) (r : Int32) (hf : mC_X9_kind a w = some r) : MA l D yX9_kind cX9_kind 1 (some (.int)) 2 [.ref a] w (.returned (some (.int r))) w := by
  refine MA.introH (own := RX9) (nm := "kind") (ls := [some (.ref a)]) (by decide) rfl rfl (Nat.le_of_ble_eq_true rfl) rfl (fun X hl hD hE hH => ?_)
  subst hl hD
  unfold mC_X9_kind at hf
  refine V_aload_n dX9_kind_0 rfl ?_
  obtain ⟨h1, hf⟩ := ck_ex hf
  obtain ⟨r3, hc2, hf⟩ := bd1_ex hf
  refine V_su (av := []) (rest := []) (st' := [.int r3]) (mC_X8_kind_ok _ _ _ _ _ hc2) su_X9_9 (kIn1 h1) (by decide) rfl rfl (Nat.le_of_ble_eq_true rfl) dX9_kind_1 rfl ?_
  refine V_iconst dX9_kind_4 ckc_1 ?_
  refine V_iadd dX9_kind_5 ?_
  cases some_ex hf
  exact V_iret hE dX9_kind_6
set_option maxHeartbeats 4000000 in
theorem mC_X10_kind_ok (l : Launch) (D : DD) (w : AH) (a : Nat) (r : Int32) (hf : mC_X10_kind a w = some r) : MA l D yX10_kind cX10_kind 1 (some (.int)) 1 [.ref a] w (.returned (some (.int r))) w := by
  refine MA.introH (own := RX10) (nm := "kind") (ls := [some (.ref a)]) (by decide) rfl rfl (Nat.le_of_ble_eq_true rfl) rfl (fun X hl hD hE hH => ?_)
  subst hl hD
  unfold mC_X10_kind at hf
  refine V_iconst dX10_kind_0 ckc_2 ?_
  cases some_ex hf
  exact V_iret hE dX10_kind_1
set_option maxHeartbeats 4000000 in
theorem mC_X11_kind_ok (l : Launch) (D : DD) (w : AH) (a : Nat) (r : Int32) (hf : mC_X11_kind a w = some r) : MA l D yX11_kind cX11_kind 1 (some (.int)) 2 [.ref a] w (.returned (some (.int r))) w := by
  refine MA.introH (own := RX11) (nm := "kind") (ls := [some (.ref a)]) (by decide) rfl rfl (Nat.le_of_ble_eq_true rfl) rfl (fun X hl hD hE hH => ?_)
  subst hl hD
  unfold mC_X11_kind at hf
  refine V_aload_n dX11_kind_0 rfl ?_
  obtain ⟨h1, hf⟩ := ck_ex hf
  obtain ⟨r3, hc2, hf⟩ := bd1_ex hf
  refine V_su (av := []) (rest := []) (st' := [.int r3]) (mC_X10_kind_ok _ _ _ _ _ hc2) su_X11_9 (kIn1 h1) (by decide) rfl rfl (Nat.le_of_ble_eq_true rfl) dX11_kind_1 rfl ?_
  refine V_iconst dX11_kind_4 ckc_3 ?_
  refine V_iadd dX11_kind_5 ?_
  refine V_iconst dX11_kind_6 ckc_2 ?_
  refine V_isub dX11_kind_7 ?_
  cases some_ex hf
  exact V_iret hE dX11_kind_8
set_option maxHeartbeats 4000000 in
theorem ps_X0_251 {X : CX} {cc : ByteArray} {nL d pc : Nat} {w : AH} {ls : List (Option Value)} {st rest : List Value} {b : Nat} {r : Int32} (hc : dKind b w = some r) (hdd : 2 + 1 ≤ d) (hst : st = .ref b :: rest) (hcat : (rest.map fun v => v.category).sum ≤ 8) (hd : decode cc pc = .ok (.invokevirtual 251, 3)) (kk : V X cc RX0 nL d w (pc + 3) ls (.int r :: rest)) : V X cc RX0 nL d w pc ls st := by
  unfold dKind at hc
  by_cases hk : (hkd w b).1 = 19
  · replace hc := if_t hc hk
    exact V_xU (av := []) (mC_X8_kind_ok _ _ _ _ _ hc) uc_X0_251_9 q960 q145 (by decide) hk (by omega) rfl hst hcat hd kk
  replace hc := if_f hc hk
  clear hk
  by_cases hk : (hkd w b).1 = 20
  · replace hc := if_t hc hk
    exact V_xU (av := []) (mC_X9_kind_ok _ _ _ _ _ hc) uc_X0_251_10 q958 q150 (by decide) hk (by omega) rfl hst hcat hd kk
  replace hc := if_f hc hk
  clear hk
  by_cases hk : (hkd w b).1 = 21
  · replace hc := if_t hc hk
    exact V_xU (av := []) (mC_X10_kind_ok _ _ _ _ _ hc) uc_X0_251_11 q951 q151 (by decide) hk (by omega) rfl hst hcat hd kk
  replace hc := if_f hc hk
  clear hk
  by_cases hk : (hkd w b).1 = 22
  · replace hc := if_t hc hk
    exact V_xU (av := []) (mC_X11_kind_ok _ _ _ _ _ hc) uc_X0_251_12 q954 q152 (by decide) hk (by omega) rfl hst hcat hd kk
  replace hc := if_f hc hk
  clear hk
  cases hc
set_option maxHeartbeats 4000000 in
theorem mC_X0_of_ok (l : Launch) (D : DD) (w : AH) (a : Nat) (p0 : Int32) (p1 : Int32) (r : Int32) (hf : mC_X0_of a p0 p1 w = some r) : MA l D yX0_of cX0_of 4 (some (.int)) 4 [.ref a, .int p0, .int p1] w (.returned (some (.int r))) w := by
  refine MA.introH (own := RX0) (nm := "of") (ls := [some (.ref a), some (.int p0), some (.int p1), none]) (by decide) rfl rfl (Nat.le_of_ble_eq_true rfl) rfl (fun X hl hD hE hH => ?_)
  subst hl hD
  unfold mC_X0_of at hf
  refine V_aload_n dX0_of_0 rfl ?_
  refine V_iload_n dX0_of_1 rfl ?_
  obtain ⟨h1, hf⟩ := ck_ex hf
  obtain ⟨r3, hc2, hf⟩ := bd1_ex hf
  refine V_cV (av := [.int p0]) (rest := []) (st' := [.int r3]) (mC_X0_isName_ok _ _ _ _ _ _ hc2) vc_X0_226 (kIn1 h1) (by decide) rfl rfl (Nat.le_of_ble_eq_true rfl) dX0_of_2 rfl ?_
  refine V_if_ne (tgt := 10) dX0_of_5 (by decide) (fun hc4 => ?_) (fun hc4 => ?_)
  · have hf := if_f hf hc4
    refine V_aload_n dX0_of_10 rfl ?_
    obtain ⟨b5, hb6, hf⟩ := bd1_ex hf
    refine VP_getR (x := some b5) fa_X0_10 h1 rfl rfl hb6 dX0_of_11 ?_
    obtain ⟨h7, hf⟩ := ck_ex hf
    obtain ⟨b8, hb9, hf⟩ := bd1_ex hf
    refine VP_getR (x := some b8) fa_X0_144 h7 rfl rfl hb9 dX0_of_14 ?_
    refine V_iload_n dX0_of_17 rfl ?_
    obtain ⟨h10, hf⟩ := ck_ex hf
    obtain ⟨r12, hc11, hf⟩ := bd1_ex hf
    refine V_cV (av := [.int p0]) (rest := []) (st' := [.ref r12]) (mC_J2_get_ok _ _ _ _ _ _ hc11) vc_X0_232 (kIn1 h10) (by decide) rfl rfl (Nat.le_of_ble_eq_true rfl) dX0_of_18 rfl ?_
    obtain ⟨h13, hf⟩ := ck_ex hf
    refine VE_cast cc_X0_173 h13 dX0_of_21 ?_
    refine V_astore_n (ls' := [some (.ref a), some (.int p0), some (.int p1), some (.ref r12)]) dX0_of_24 (by decide) rfl ?_
    refine V_iload_n dX0_of_25 rfl ?_
    by_cases hw0 : p1 = (0 : Int32)
    · have hf := if_t hf hw0
      refine V_tableIn (off := 34) (tgt := 60) dX0_of_26 (by rw [hw0]; decide) (by rw [hw0]; decide) (by rw [hw0]; rfl) (by decide) ?_
      refine V_aload_n dX0_of_60 rfl ?_
      refine VP_getI fa_X0_236 h13 rfl dX0_of_61 ?_
      cases some_ex hf
      exact V_iret hE dX0_of_64
    replace hf := if_f hf hw0
    by_cases hw1 : p1 = (1 : Int32)
    · have hf := if_t hf hw1
      refine V_tableIn (off := 39) (tgt := 65) dX0_of_26 (by rw [hw1]; decide) (by rw [hw1]; decide) (by rw [hw1]; rfl) (by decide) ?_
      refine V_aload_n dX0_of_65 rfl ?_
      refine VP_getI fa_X0_245 h13 rfl dX0_of_66 ?_
      cases some_ex hf
      exact V_iret hE dX0_of_69
    replace hf := if_f hf hw1
    by_cases hw2 : p1 = (2 : Int32)
    · have hf := if_t hf hw2
      refine V_tableIn (off := 44) (tgt := 70) dX0_of_26 (by rw [hw2]; decide) (by rw [hw2]; decide) (by rw [hw2]; rfl) (by decide) ?_
      refine V_aload_n dX0_of_70 rfl ?_
      refine VP_getI fa_X0_248 h13 rfl dX0_of_71 ?_
      cases some_ex hf
      exact V_iret hE dX0_of_74
    replace hf := if_f hf hw2
    by_cases hw3 : p1 = (3 : Int32)
    · have hf := if_t hf hw3
      refine V_tableIn (off := 49) (tgt := 75) dX0_of_26 (by rw [hw3]; decide) (by rw [hw3]; decide) (by rw [hw3]; rfl) (by decide) ?_
      refine V_aload_n dX0_of_75 rfl ?_
      obtain ⟨r15, hc14, hf⟩ := bd1_ex hf
      refine ps_X0_251 hc14 (by decide) rfl (Nat.le_of_ble_eq_true rfl) dX0_of_76 ?_
      cases some_ex hf
      exact V_iret hE dX0_of_79
    replace hf := if_f hf hw3
    by_cases hw4 : p1 = (4 : Int32)
    · have hf := if_t hf hw4
      refine V_tableIn (off := 54) (tgt := 80) dX0_of_26 (by rw [hw4]; decide) (by rw [hw4]; decide) (by rw [hw4]; rfl) (by decide) ?_
      refine V_aload_n dX0_of_80 rfl ?_
      refine VP_getI fa_X0_254 h13 rfl dX0_of_81 ?_
      cases some_ex hf
      exact V_iret hE dX0_of_84
    replace hf := if_f hf hw4
    have hw0' := lv_neT hw0 (show (0 : Int32).toInt = 0 from by decide)
    have hw1' := lv_neT hw1 (show (1 : Int32).toInt = 1 from by decide)
    have hw2' := lv_neT hw2 (show (2 : Int32).toInt = 2 from by decide)
    have hw3' := lv_neT hw3 (show (3 : Int32).toInt = 3 from by decide)
    have hw4' := lv_neT hw4 (show (4 : Int32).toInt = 4 from by decide)
    refine V_tableOut (tgt := 85) dX0_of_26 (by omega) (by decide) ?_
    refine V_iconst dX0_of_85 ckc_m1 ?_
    cases some_ex hf
    exact V_iret hE dX0_of_86
  · have hf := if_t hf hc4
    refine V_iconst dX0_of_8 ckc_m1 ?_
    cases some_ex hf
    exact V_iret hE dX0_of_9
