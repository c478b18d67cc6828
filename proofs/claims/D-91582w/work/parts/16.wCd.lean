set_option maxRecDepth 100000
set_option maxHeartbeats 4000000 in
theorem mC_X5_looks_75_v {X : CX} {w0 : AH} {w' : AH}  (hE : XE X w0 406 none "looks" (.returned none) w') (hH : XH X []) (k75 : Nat → Int32 → Int32 → Int32 → AH → Option (AH)) (hk75 : ∀ (v0 : Nat) (v1 : Int32) (v2 : Int32) (v3 : Int32) (w : AH), k75 v0 v1 v2 v3 w = some w' → V X cX5_looks RX5 4 406 w 75 [some (.ref v0), some (.int v1), some (.int v2), some (.int v3)] []) (v0 : Nat) (v1 : Int32) (v2 : Int32) (v3 : Int32) (w : AH) (hf : mC_X5_looks_75 k75 v0 v1 v2 v3 w = some w') : V X cX5_looks RX5 4 406 w 75 [some (.ref v0), some (.int v1), some (.int v2), some (.int v3)] [] := by
  unfold mC_X5_looks_75 at hf
  refine V_iload_n dX5_looks_75 rfl ?_
  refine V_aload_n dX5_looks_76 rfl ?_
  obtain ⟨h1, hf⟩ := ck_ex hf
  obtain ⟨b2, hb3, hf⟩ := bd1_ex hf
  refine VP_getR (x := some b2) fa_X5_3 h1 rfl rfl hb3 dX5_looks_77 ?_
  obtain ⟨h4, hf⟩ := ck_ex hf
  obtain ⟨b5, hb6, hf⟩ := bd1_ex hf
  refine VP_getR (x := some b5) fa_X5_37 h4 rfl rfl hb6 dX5_looks_80 ?_
  obtain ⟨h7, hf⟩ := ck_ex hf
  obtain ⟨b8, hb9, hf⟩ := bd1_ex hf
  refine VP_getR (x := some b8) fa_X5_41 h7 rfl rfl hb9 dX5_looks_83 ?_
  obtain ⟨h10, hf⟩ := ck_ex hf
  obtain ⟨r12, hc11, hf⟩ := bd1_ex hf
  refine V_cV (av := []) (rest := [.int v3]) (st' := [.int r12, .int v3]) (mC_J2_size_ok _ _ _ _ _ hc11) vc_X5_47 (kIn1 h10) (by decide) rfl rfl (Nat.le_of_ble_eq_true rfl) dX5_looks_86 rfl ?_
  refine V_icmp_ge (tgt := 151) dX5_looks_89 (by decide) (fun hc13 => ?_) (fun hc13 => ?_)
  · have hf := if_t hf hc13
    cases some_ex hf
    exact V_vret hE dX5_looks_151
  · have hf := if_f hf hc13
    refine V_aload_n dX5_looks_92 rfl ?_
    obtain ⟨b14, hb15, hf⟩ := bd1_ex hf
    refine VP_getR (x := some b14) fa_X5_19 h1 rfl rfl hb15 dX5_looks_93 ?_
    refine V_iload_n dX5_looks_96 rfl ?_
    refine V_aload_n dX5_looks_97 rfl ?_
    refine VP_getR (x := some b2) fa_X5_3 h1 rfl rfl hb3 dX5_looks_98 ?_
    refine V_iload_n dX5_looks_101 rfl ?_
    refine V_iload_n dX5_looks_102 rfl ?_
    refine V_iload_n dX5_looks_103 rfl ?_
    obtain ⟨r17, hc16, hf⟩ := bd1_ex hf
    refine V_nV (av := [.int v3, .int v1, .int v2]) (rest := [.int v3, .ref b14]) (st' := [.int r17, .int v3, .ref b14]) (mC_X0_placeOf_ok _ _ _ _ _ _ _ _ hc16) nv_X5_53 (kIn1 h4) (by decide) rfl rfl (Nat.le_of_ble_eq_true rfl) dX5_looks_104 rfl ?_
    obtain ⟨h18, hf⟩ := ck_ex hf
    obtain ⟨w19, hs20, hf⟩ := st1_ex hf
    refine VE_iast h18 rfl hs20 dX5_looks_107 ?_
    refine V_aload_n dX5_looks_108 rfl ?_
    obtain ⟨h21, hf⟩ := ck_ex hf
    obtain ⟨b22, hb23, hf⟩ := bd1_ex hf
    refine VP_getR (x := some b22) fa_X5_15 h21 rfl rfl hb23 dX5_looks_109 ?_
    refine V_iload_n dX5_looks_112 rfl ?_
    refine V_aload_n dX5_looks_113 rfl ?_
    refine V_iload_n dX5_looks_114 rfl ?_
    refine V_iload_n dX5_looks_115 rfl ?_
    refine V_iload_n dX5_looks_116 rfl ?_
    obtain ⟨r25, w26, hc24, hf⟩ := bd2_ex hf
    refine V_cV (av := [.int v3, .int v1, .int v2]) (rest := [.int v3, .ref b22]) (st' := [.int r25, .int v3, .ref b22]) (mC_X5_isOn_ok _ _ _ _ _ _ _ _ _ hc24) vc_X5_57 (kIn1 h21) (by decide) rfl rfl (Nat.le_of_ble_eq_true rfl) dX5_looks_117 rfl ?_
    obtain ⟨h27, hf⟩ := ck_ex hf
    obtain ⟨h28, hf⟩ := ck_ex hf
    obtain ⟨w29, hs30, hf⟩ := st1_ex hf
    refine VE_zast h28 h27 rfl hs30 dX5_looks_120 ?_
    refine V_aload_n dX5_looks_121 rfl ?_
    obtain ⟨h31, hf⟩ := ck_ex hf
    obtain ⟨b32, hb33, hf⟩ := bd1_ex hf
    refine VP_getR (x := some b32) fa_X5_15 h31 rfl rfl hb33 dX5_looks_122 ?_
    refine V_iload_n dX5_looks_125 rfl ?_
    obtain ⟨h34, hf⟩ := ck_ex hf
    refine VE_zald h34 rfl dX5_looks_126 ?_
    refine V_if_eq (tgt := 145) dX5_looks_127 (by decide) (fun hc35 => ?_) (fun hc35 => ?_)
    · have hf := if_t hf hc35
      exact mC_X5_looks_145_v hE hH k75 hk75 v0 v1 v2 v3 w29 hf
    · have hf := if_f hf hc35
      refine V_aload_n dX5_looks_130 rfl ?_
      obtain ⟨b36, hb37, hf⟩ := bd1_ex hf
      refine VP_getR (x := some b36) fa_X5_23 h31 rfl rfl hb37 dX5_looks_131 ?_
      refine V_aload_n dX5_looks_134 rfl ?_
      obtain ⟨b38, hb39, hf⟩ := bd1_ex hf
      refine VP_getR (x := some b38) fa_X5_19 h31 rfl rfl hb39 dX5_looks_135 ?_
      refine V_iload_n dX5_looks_138 rfl ?_
      obtain ⟨h40, hf⟩ := ck_ex hf
      refine VE_iald h40 rfl dX5_looks_139 ?_
      refine V_dup2 dX5_looks_140 rfl rfl ?_
      obtain ⟨h41, hf⟩ := ck_ex hf
      refine VE_iald h41 rfl dX5_looks_141 ?_
      refine V_iconst dX5_looks_142 ckc_1 ?_
      refine V_iadd dX5_looks_143 ?_
      obtain ⟨w42, hs43, hf⟩ := st1_ex hf
      refine VE_iast h41 rfl hs43 dX5_looks_144 ?_
      exact mC_X5_looks_145_v hE hH k75 hk75 v0 v1 v2 v3 w42 hf
set_option maxHeartbeats 4000000 in
theorem mC_X5_looks_54_v {X : CX} {w0 : AH} {w' : AH}  (hE : XE X w0 406 none "looks" (.returned none) w') (hH : XH X []) (k54 : Nat → Int32 → Int32 → Int32 → AH → Option (AH)) (hk54 : ∀ (v0 : Nat) (v1 : Int32) (v2 : Int32) (v3 : Int32) (w : AH), k54 v0 v1 v2 v3 w = some w' → V X cX5_looks RX5 4 406 w 54 [some (.ref v0), some (.int v1), some (.int v2), some (.int v3)] []) (v0 : Nat) (v1 : Int32) (v2 : Int32) (v3 : Int32) (w : AH) (hf : mC_X5_looks_54 k54 v0 v1 v2 v3 w = some w') : V X cX5_looks RX5 4 406 w 54 [some (.ref v0), some (.int v1), some (.int v2), some (.int v3)] [] := by
  unfold mC_X5_looks_54 at hf
  refine V_iload_n dX5_looks_54 rfl ?_
  refine V_bipush dX5_looks_55 ckb_16 ?_
  refine V_icmp_ge (tgt := 73) dX5_looks_57 (by decide) (fun hc1 => ?_) (fun hc1 => ?_)
  · have hf := if_t hf hc1
    refine V_iconst dX5_looks_73 ckc_0 ?_
    refine V_istore_n (ls' := [some (.ref v0), some (.int v1), some (.int v2), some (.int (0 : Int32))]) dX5_looks_74 (by decide) rfl ?_
    exact lq5_ex (P := fun v0 v1 v2 v3 w => V X cX5_looks RX5 4 406 w 75 [some (.ref v0), some (.int v1), some (.int v2), some (.int v3)] []) (fun k hk v0 v1 v2 v3 w hf => mC_X5_looks_75_v hE hH k hk v0 v1 v2 v3 w hf) LF v0 v1 v2 (0 : Int32) w hf
  · have hf := if_f hf hc1
    refine V_aload_n dX5_looks_60 rfl ?_
    obtain ⟨h2, hf⟩ := ck_ex hf
    obtain ⟨b3, hb4, hf⟩ := bd1_ex hf
    refine VP_getR (x := some b3) fa_X5_23 h2 rfl rfl hb4 dX5_looks_61 ?_
    refine V_iload_n dX5_looks_64 rfl ?_
    refine V_iconst dX5_looks_65 ckc_0 ?_
    obtain ⟨h5, hf⟩ := ck_ex hf
    obtain ⟨w6, hs7, hf⟩ := st1_ex hf
    refine VE_iast h5 rfl hs7 dX5_looks_66 ?_
    refine V_inc (ls' := [some (.ref v0), some (.int v1), some (.int v2), some (.int (v3 + (1 : Int32)))]) dX5_looks_67 rfl ckc_1 (by decide) rfl ?_
    refine V_goto (tgt := 54) dX5_looks_70 (by decide) ?_
    exact hk54 v0 v1 v2 (v3 + (1 : Int32)) w6 hf
set_option maxHeartbeats 4000000 in
theorem mC_X5_looks_31_v {X : CX} {w0 : AH} {w' : AH}  (hE : XE X w0 406 none "looks" (.returned none) w') (hH : XH X []) (v0 : Nat) (v1 : Int32) (v2 : Int32) (w : AH) (hf : mC_X5_looks_31 v0 v1 v2 w = some w') : V X cX5_looks RX5 4 406 w 31 [some (.ref v0), some (.int v1), some (.int v2), none] [] := by
  unfold mC_X5_looks_31 at hf
  refine V_aload_n dX5_looks_31 rfl ?_
  refine V_iload_n dX5_looks_32 rfl ?_
  obtain ⟨h1, hf⟩ := ck_ex hf
  obtain ⟨w2, hs3, hf⟩ := st1_ex hf
  refine VE_putI fw_X5_26 h1 rfl rfl rfl hs3 dX5_looks_33 ?_
  refine V_aload_n dX5_looks_36 rfl ?_
  refine V_iload_n dX5_looks_37 rfl ?_
  obtain ⟨h4, hf⟩ := ck_ex hf
  obtain ⟨w5, hs6, hf⟩ := st1_ex hf
  refine VE_putI fw_X5_30 h4 rfl rfl rfl hs6 dX5_looks_38 ?_
  refine V_aload_n dX5_looks_41 rfl ?_
  refine V_aload_n dX5_looks_42 rfl ?_
  obtain ⟨h7, hf⟩ := ck_ex hf
  obtain ⟨b8, hb9, hf⟩ := bd1_ex hf
  refine VP_getR (x := some b8) fa_X5_3 h7 rfl rfl hb9 dX5_looks_43 ?_
  obtain ⟨h10, hf⟩ := ck_ex hf
  refine VP_getI fa_X5_36 h10 rfl dX5_looks_46 ?_
  obtain ⟨w11, hs12, hf⟩ := st1_ex hf
  refine VE_putI fw_X5_33 h7 rfl rfl rfl hs12 dX5_looks_49 ?_
  refine V_iconst dX5_looks_52 ckc_0 ?_
  refine V_istore_n (ls' := [some (.ref v0), some (.int v1), some (.int v2), some (.int (0 : Int32))]) dX5_looks_53 (by decide) rfl ?_
  exact lq5_ex (P := fun v0 v1 v2 v3 w => V X cX5_looks RX5 4 406 w 54 [some (.ref v0), some (.int v1), some (.int v2), some (.int v3)] []) (fun k hk v0 v1 v2 v3 w hf => mC_X5_looks_54_v hE hH k hk v0 v1 v2 v3 w hf) LF v0 v1 v2 (0 : Int32) w11 hf
set_option maxHeartbeats 4000000 in
theorem mC_X5_looks_ok (l : Launch) (D : DD) (w : AH) (a : Nat) (p0 : Int32) (p1 : Int32) (w' : AH) (hf : mC_X5_looks a p0 p1 w = some w') : MA l D yX5_looks cX5_looks 4 none 406 [.ref a, .int p0, .int p1] w (.returned none) w' := by
  refine MA.introH (own := RX5) (nm := "looks") (ls := [some (.ref a), some (.int p0), some (.int p1), none]) (by decide) rfl rfl (Nat.le_of_ble_eq_true rfl) rfl (fun X hl hD hE hH => ?_)
  subst hl hD
  unfold mC_X5_looks at hf
  refine V_aload_n dX5_looks_0 rfl ?_
  obtain ⟨h1, hf⟩ := ck_ex hf
  refine VP_getI fa_X5_26 h1 rfl dX5_looks_1 ?_
  refine V_iload_n dX5_looks_4 rfl ?_
  refine V_icmp_ne (tgt := 31) dX5_looks_5 (by decide) (fun hc2 => ?_) (fun hc2 => ?_)
  · have hf := if_f hf hc2
    exact mC_X5_looks_31_v hE hH a p0 p1 w hf
  · have hf := if_t hf hc2
    refine V_aload_n dX5_looks_8 rfl ?_
    refine VP_getI fa_X5_30 h1 rfl dX5_looks_9 ?_
    refine V_iload_n dX5_looks_12 rfl ?_
    refine V_icmp_ne (tgt := 31) dX5_looks_13 (by decide) (fun hc3 => ?_) (fun hc3 => ?_)
    · have hf := if_f hf hc3
      exact mC_X5_looks_31_v hE hH a p0 p1 w hf
    · have hf := if_t hf hc3
      refine V_aload_n dX5_looks_16 rfl ?_
      refine VP_getI fa_X5_33 h1 rfl dX5_looks_17 ?_
      refine V_aload_n dX5_looks_20 rfl ?_
      obtain ⟨b4, hb5, hf⟩ := bd1_ex hf
      refine VP_getR (x := some b4) fa_X5_3 h1 rfl rfl hb5 dX5_looks_21 ?_
      obtain ⟨h6, hf⟩ := ck_ex hf
      refine VP_getI fa_X5_36 h6 rfl dX5_looks_24 ?_
      refine V_icmp_ne (tgt := 31) dX5_looks_27 (by decide) (fun hc7 => ?_) (fun hc7 => ?_)
      · have hf := if_f hf hc7
        exact mC_X5_looks_31_v hE hH a p0 p1 w hf
      · have hf := if_t hf hc7
        cases some_ex hf
        exact V_vret hE dX5_looks_30
set_option maxHeartbeats 4000000 in
theorem mC_X0_on_ok (l : Launch) (D : DD) (w : AH) (a : Nat) (p0 : Int32) (p1 : Int32) (p2 : Int32) (r : Int32) (w' : AH) (hf : mC_X0_on a p0 p1 p2 w = some (r, w')) : MA l D yX0_on cX0_on 4 (some (.int)) 407 [.ref a, .int p0, .int p1, .int p2] w (.returned (some (.int r))) w' := by
  refine MA.introH (own := RX0) (nm := "on") (ls := [some (.ref a), some (.int p0), some (.int p1), some (.int p2)]) (by decide) rfl rfl (Nat.le_of_ble_eq_true rfl) rfl (fun X hl hD hE hH => ?_)
  subst hl hD
  unfold mC_X0_on at hf
  refine V_aload_n dX0_on_0 rfl ?_
  refine V_iload_n dX0_on_1 rfl ?_
  obtain ⟨h1, hf⟩ := ck_ex hf
  obtain ⟨r3, hc2, hf⟩ := bd1_ex hf
  refine V_cV (av := [.int p0]) (rest := []) (st' := [.int r3]) (mC_X0_isName_ok _ _ _ _ _ _ hc2) vc_X0_226 (kIn1 h1) (by decide) rfl rfl (Nat.le_of_ble_eq_true rfl) dX0_on_2 rfl ?_
  refine V_if_eq (tgt := 22) dX0_on_5 (by decide) (fun hc4 => ?_) (fun hc4 => ?_)
  · have hf := if_t hf hc4
    refine V_iconst dX0_on_22 ckc_m1 ?_
    cases some_ex hf
    exact V_iret hE dX0_on_23
  · have hf := if_f hf hc4
    refine V_iload_n dX0_on_8 rfl ?_
    obtain ⟨r6, hc5, hf⟩ := bd1_ex hf
    refine V_cS (rest := []) (st' := [.int r6]) (mC_X0_isDay_ok _ _ _ _ _ hc5) sc_X0_201 (by decide) rfl rfl (Nat.le_of_ble_eq_true rfl) dX0_on_9 rfl ?_
    refine V_if_eq (tgt := 22) dX0_on_12 (by decide) (fun hc7 => ?_) (fun hc7 => ?_)
    · have hf := if_t hf hc7
      refine V_iconst dX0_on_22 ckc_m1 ?_
      cases some_ex hf
      exact V_iret hE dX0_on_23
    · have hf := if_f hf hc7
      refine V_iload_n dX0_on_15 rfl ?_
      obtain ⟨r9, hc8, hf⟩ := bd1_ex hf
      refine V_cS (rest := []) (st' := [.int r9]) (mC_X0_isDay_ok _ _ _ _ _ hc8) sc_X0_201 (by decide) rfl rfl (Nat.le_of_ble_eq_true rfl) dX0_on_16 rfl ?_
      refine V_if_ne (tgt := 24) dX0_on_19 (by decide) (fun hc10 => ?_) (fun hc10 => ?_)
      · have hf := if_f hf hc10
        refine V_aload_n dX0_on_24 rfl ?_
        obtain ⟨b11, hb12, hf⟩ := bd1_ex hf
        refine VP_getR (x := some b11) fa_X0_47 h1 rfl rfl hb12 dX0_on_25 ?_
        refine V_iload_n dX0_on_28 rfl ?_
        refine V_iload_n dX0_on_29 rfl ?_
        obtain ⟨h13, hf⟩ := ck_ex hf
        obtain ⟨w15, hc14, hf⟩ := bd1_ex hf
        refine V_cV (av := [.int p1, .int p2]) (rest := []) (st' := []) (mC_X5_looks_ok _ _ _ _ _ _ _ hc14) vc_X0_347 (kIn1 h13) (by decide) rfl rfl (Nat.le_of_ble_eq_true rfl) dX0_on_30 rfl ?_
        refine V_aload_n dX0_on_33 rfl ?_
        obtain ⟨h16, hf⟩ := ck_ex hf
        obtain ⟨b17, hb18, hf⟩ := bd1_ex hf
        refine VP_getR (x := some b17) fa_X0_47 h16 rfl rfl hb18 dX0_on_34 ?_
        obtain ⟨h19, hf⟩ := ck_ex hf
        obtain ⟨b20, hb21, hf⟩ := bd1_ex hf
        refine VP_getR (x := some b20) fa_X0_350 h19 rfl rfl hb21 dX0_on_37 ?_
        refine V_iload_n dX0_on_40 rfl ?_
        obtain ⟨h22, hf⟩ := ck_ex hf
        refine VE_zald h22 rfl dX0_on_41 ?_
        refine V_if_eq (tgt := 49) dX0_on_42 (by decide) (fun hc23 => ?_) (fun hc23 => ?_)
        · have hf := if_t hf hc23
          refine V_iconst dX0_on_49 ckc_0 ?_
          cases some_ex hf
          exact V_iret hE dX0_on_50
        · have hf := if_f hf hc23
          refine V_iconst dX0_on_45 ckc_1 ?_
          refine V_goto (tgt := 50) dX0_on_46 (by decide) ?_
          cases some_ex hf
          exact V_iret hE dX0_on_50
      · have hf := if_t hf hc10
        refine V_iconst dX0_on_22 ckc_m1 ?_
        cases some_ex hf
        exact V_iret hE dX0_on_23
set_option maxHeartbeats 4000000 in
theorem mC_X0_roll_ok (l : Launch) (D : DD) (w : AH) (a : Nat) (p0 : Int32) (p1 : Int32) (p2 : Int32) (r : Int32) (w' : AH) (hf : mC_X0_roll a p0 p1 p2 w = some (r, w')) : MA l D yX0_roll cX0_roll 4 (some (.int)) 407 [.ref a, .int p0, .int p1, .int p2] w (.returned (some (.int r))) w' := by
  refine MA.introH (own := RX0) (nm := "roll") (ls := [some (.ref a), some (.int p0), some (.int p1), some (.int p2)]) (by decide) rfl rfl (Nat.le_of_ble_eq_true rfl) rfl (fun X hl hD hE hH => ?_)
  subst hl hD
  unfold mC_X0_roll at hf
  refine V_aload_n dX0_roll_0 rfl ?_
  refine V_iload_n dX0_roll_1 rfl ?_
  obtain ⟨h1, hf⟩ := ck_ex hf
  obtain ⟨r3, hc2, hf⟩ := bd1_ex hf
  refine V_cV (av := [.int p0]) (rest := []) (st' := [.int r3]) (mC_X0_isPlace_ok _ _ _ _ _ _ hc2) vc_X0_204 (kIn1 h1) (by decide) rfl rfl (Nat.le_of_ble_eq_true rfl) dX0_roll_2 rfl ?_
  refine V_if_eq (tgt := 22) dX0_roll_5 (by decide) (fun hc4 => ?_) (fun hc4 => ?_)
  · have hf := if_t hf hc4
    refine V_iconst dX0_roll_22 ckc_m1 ?_
    cases some_ex hf
    exact V_iret hE dX0_roll_23
  · have hf := if_f hf hc4
    refine V_iload_n dX0_roll_8 rfl ?_
    obtain ⟨r6, hc5, hf⟩ := bd1_ex hf
    refine V_cS (rest := []) (st' := [.int r6]) (mC_X0_isDay_ok _ _ _ _ _ hc5) sc_X0_201 (by decide) rfl rfl (Nat.le_of_ble_eq_true rfl) dX0_roll_9 rfl ?_
    refine V_if_eq (tgt := 22) dX0_roll_12 (by decide) (fun hc7 => ?_) (fun hc7 => ?_)
    · have hf := if_t hf hc7
      refine V_iconst dX0_roll_22 ckc_m1 ?_
      cases some_ex hf
      exact V_iret hE dX0_roll_23
    · have hf := if_f hf hc7
      refine V_iload_n dX0_roll_15 rfl ?_
      obtain ⟨r9, hc8, hf⟩ := bd1_ex hf
      refine V_cS (rest := []) (st' := [.int r9]) (mC_X0_isDay_ok _ _ _ _ _ hc8) sc_X0_201 (by decide) rfl rfl (Nat.le_of_ble_eq_true rfl) dX0_roll_16 rfl ?_
      refine V_if_ne (tgt := 24) dX0_roll_19 (by decide) (fun hc10 => ?_) (fun hc10 => ?_)
      · have hf := if_f hf hc10
        refine V_aload_n dX0_roll_24 rfl ?_
        obtain ⟨b11, hb12, hf⟩ := bd1_ex hf
        refine VP_getR (x := some b11) fa_X0_47 h1 rfl rfl hb12 dX0_roll_25 ?_
        refine V_iload_n dX0_roll_28 rfl ?_
        refine V_iload_n dX0_roll_29 rfl ?_
        obtain ⟨h13, hf⟩ := ck_ex hf
        obtain ⟨w15, hc14, hf⟩ := bd1_ex hf
        refine V_cV (av := [.int p1, .int p2]) (rest := []) (st' := []) (mC_X5_looks_ok _ _ _ _ _ _ _ hc14) vc_X0_347 (kIn1 h13) (by decide) rfl rfl (Nat.le_of_ble_eq_true rfl) dX0_roll_30 rfl ?_
        refine V_aload_n dX0_roll_33 rfl ?_
        obtain ⟨h16, hf⟩ := ck_ex hf
        obtain ⟨b17, hb18, hf⟩ := bd1_ex hf
        refine VP_getR (x := some b17) fa_X0_47 h16 rfl rfl hb18 dX0_roll_34 ?_
        obtain ⟨h19, hf⟩ := ck_ex hf
        obtain ⟨b20, hb21, hf⟩ := bd1_ex hf
        refine VP_getR (x := some b20) fa_X0_344 h19 rfl rfl hb21 dX0_roll_37 ?_
        refine V_iload_n dX0_roll_40 rfl ?_
        obtain ⟨h22, hf⟩ := ck_ex hf
        refine VE_iald h22 rfl dX0_roll_41 ?_
        cases some_ex hf
        exact V_iret hE dX0_roll_42
      · have hf := if_t hf hc10
        refine V_iconst dX0_roll_22 ckc_m1 ?_
        cases some_ex hf
        exact V_iret hE dX0_roll_23
set_option maxHeartbeats 4000000 in
theorem mC_X0_areBarred_102_v {X : CX} {w0 : AH} {r : Int32}  (w : AH) (hE : XE X w0 4 (some (.boolean)) "areBarred" (.returned (some (.int r))) w) (hH : XH X []) (k2 : Nat → Int32 → Int32 → Int32 → Option (Int32)) (hk2 : ∀ (v0 : Nat) (v1 : Int32) (v2 : Int32) (v3 : Int32), k2 v0 v1 v2 v3 = some r → V X cX0_areBarred RX0 4 4 w 2 [some (.ref v0), some (.int v1), some (.int v2), some (.int v3)] []) (v0 : Nat) (v1 : Int32) (v2 : Int32) (v3 : Int32) (hf : mC_X0_areBarred_102 w k2 v0 v1 v2 v3 = some r) : V X cX0_areBarred RX0 4 4 w 102 [some (.ref v0), some (.int v1), some (.int v2), some (.int v3)] [] := by
  unfold mC_X0_areBarred_102 at hf
  refine V_inc (ls' := [some (.ref v0), some (.int v1), some (.int v2), some (.int (v3 + (1 : Int32)))]) dX0_areBarred_102 rfl ckc_1 (by decide) rfl ?_
  refine V_goto (tgt := 2) dX0_areBarred_105 (by decide) ?_
  exact hk2 v0 v1 v2 (v3 + (1 : Int32)) hf
set_option maxHeartbeats 4000000 in
theorem mC_X0_areBarred_58_v {X : CX} {w0 : AH} {r : Int32}  (w : AH) (hE : XE X w0 4 (some (.boolean)) "areBarred" (.returned (some (.int r))) w) (hH : XH X []) (k2 : Nat → Int32 → Int32 → Int32 → Option (Int32)) (hk2 : ∀ (v0 : Nat) (v1 : Int32) (v2 : Int32) (v3 : Int32), k2 v0 v1 v2 v3 = some r → V X cX0_areBarred RX0 4 4 w 2 [some (.ref v0), some (.int v1), some (.int v2), some (.int v3)] []) (v0 : Nat) (v1 : Int32) (v2 : Int32) (v3 : Int32) (hf : mC_X0_areBarred_58 w k2 v0 v1 v2 v3 = some r) : V X cX0_areBarred RX0 4 4 w 58 [some (.ref v0), some (.int v1), some (.int v2), some (.int v3)] [] := by
  unfold mC_X0_areBarred_58 at hf
  refine V_aload_n dX0_areBarred_58 rfl ?_
  obtain ⟨h1, hf⟩ := ck_ex hf
  obtain ⟨b2, hb3, hf⟩ := bd1_ex hf
  refine VP_getR (x := some b2) fa_X0_10 h1 rfl rfl hb3 dX0_areBarred_59 ?_
  obtain ⟨h4, hf⟩ := ck_ex hf
  obtain ⟨b5, hb6, hf⟩ := bd1_ex hf
  refine VP_getR (x := some b5) fa_X0_276 h4 rfl rfl hb6 dX0_areBarred_62 ?_
  refine V_iload_n dX0_areBarred_65 rfl ?_
  obtain ⟨h7, hf⟩ := ck_ex hf
  obtain ⟨r9, hc8, hf⟩ := bd1_ex hf
  refine V_cV (av := [.int v3]) (rest := []) (st' := [.ref r9]) (mC_J2_get_ok _ _ _ _ _ _ hc8) vc_X0_232 (kIn1 h7) (by decide) rfl rfl (Nat.le_of_ble_eq_true rfl) dX0_areBarred_66 rfl ?_
  obtain ⟨h10, hf⟩ := ck_ex hf
  refine VE_cast cc_X0_279 h10 dX0_areBarred_69 ?_
  refine VP_getI fa_X0_282 h10 rfl dX0_areBarred_72 ?_
  refine V_iload_n dX0_areBarred_75 rfl ?_
  refine V_icmp_ne (tgt := 102) dX0_areBarred_76 (by decide) (fun hc11 => ?_) (fun hc11 => ?_)
  · have hf := if_f hf hc11
    exact mC_X0_areBarred_102_v w hE hH k2 hk2 v0 v1 v2 v3 hf
  · have hf := if_t hf hc11
    refine V_aload_n dX0_areBarred_79 rfl ?_
    refine VP_getR (x := some b2) fa_X0_10 h1 rfl rfl hb3 dX0_areBarred_80 ?_
    refine VP_getR (x := some b5) fa_X0_276 h4 rfl rfl hb6 dX0_areBarred_83 ?_
    refine V_iload_n dX0_areBarred_86 rfl ?_
    obtain ⟨r13, hc12, hf⟩ := bd1_ex hf
    refine V_cV (av := [.int v3]) (rest := []) (st' := [.ref r13]) (mC_J2_get_ok _ _ _ _ _ _ hc12) vc_X0_232 (kIn1 h7) (by decide) rfl rfl (Nat.le_of_ble_eq_true rfl) dX0_areBarred_87 rfl ?_
    obtain ⟨h14, hf⟩ := ck_ex hf
    refine VE_cast cc_X0_279 h14 dX0_areBarred_90 ?_
    refine VP_getI fa_X0_285 h14 rfl dX0_areBarred_93 ?_
    refine V_iload_n dX0_areBarred_96 rfl ?_
    refine V_icmp_ne (tgt := 102) dX0_areBarred_97 (by decide) (fun hc15 => ?_) (fun hc15 => ?_)
    · have hf := if_f hf hc15
      exact mC_X0_areBarred_102_v w hE hH k2 hk2 v0 v1 v2 v3 hf
    · have hf := if_t hf hc15
      refine V_iconst dX0_areBarred_100 ckc_1 ?_
      cases some_ex hf
      exact V_zret hE (by decide) dX0_areBarred_101
set_option maxHeartbeats 4000000 in
theorem mC_X0_areBarred_2_v {X : CX} {w0 : AH} {r : Int32}  (w : AH) (hE : XE X w0 4 (some (.boolean)) "areBarred" (.returned (some (.int r))) w) (hH : XH X []) (k2 : Nat → Int32 → Int32 → Int32 → Option (Int32)) (hk2 : ∀ (v0 : Nat) (v1 : Int32) (v2 : Int32) (v3 : Int32), k2 v0 v1 v2 v3 = some r → V X cX0_areBarred RX0 4 4 w 2 [some (.ref v0), some (.int v1), some (.int v2), some (.int v3)] []) (v0 : Nat) (v1 : Int32) (v2 : Int32) (v3 : Int32) (hf : mC_X0_areBarred_2 w k2 v0 v1 v2 v3 = some r) : V X cX0_areBarred RX0 4 4 w 2 [some (.ref v0), some (.int v1), some (.int v2), some (.int v3)] [] := by
  unfold mC_X0_areBarred_2 at hf
  refine V_iload_n dX0_areBarred_2 rfl ?_
  refine V_aload_n dX0_areBarred_3 rfl ?_
  obtain ⟨h1, hf⟩ := ck_ex hf
  obtain ⟨b2, hb3, hf⟩ := bd1_ex hf
  refine VP_getR (x := some b2) fa_X0_10 h1 rfl rfl hb3 dX0_areBarred_4 ?_
  obtain ⟨h4, hf⟩ := ck_ex hf
  obtain ⟨b5, hb6, hf⟩ := bd1_ex hf
  refine VP_getR (x := some b5) fa_X0_276 h4 rfl rfl hb6 dX0_areBarred_7 ?_
  obtain ⟨h7, hf⟩ := ck_ex hf
  obtain ⟨r9, hc8, hf⟩ := bd1_ex hf
  refine V_cV (av := []) (rest := [.int v3]) (st' := [.int r9, .int v3]) (mC_J2_size_ok _ _ _ _ _ hc8) vc_X0_148 (kIn1 h7) (by decide) rfl rfl (Nat.le_of_ble_eq_true rfl) dX0_areBarred_10 rfl ?_
  refine V_icmp_ge (tgt := 108) dX0_areBarred_13 (by decide) (fun hc10 => ?_) (fun hc10 => ?_)
  · have hf := if_t hf hc10
    refine V_iconst dX0_areBarred_108 ckc_0 ?_
    cases some_ex hf
    exact V_zret hE (by decide) dX0_areBarred_109
  · have hf := if_f hf hc10
    refine V_aload_n dX0_areBarred_16 rfl ?_
    refine VP_getR (x := some b2) fa_X0_10 h1 rfl rfl hb3 dX0_areBarred_17 ?_
    refine VP_getR (x := some b5) fa_X0_276 h4 rfl rfl hb6 dX0_areBarred_20 ?_
    refine V_iload_n dX0_areBarred_23 rfl ?_
    obtain ⟨r12, hc11, hf⟩ := bd1_ex hf
    refine V_cV (av := [.int v3]) (rest := []) (st' := [.ref r12]) (mC_J2_get_ok _ _ _ _ _ _ hc11) vc_X0_232 (kIn1 h7) (by decide) rfl rfl (Nat.le_of_ble_eq_true rfl) dX0_areBarred_24 rfl ?_
    obtain ⟨h13, hf⟩ := ck_ex hf
    refine VE_cast cc_X0_279 h13 dX0_areBarred_27 ?_
    refine VP_getI fa_X0_282 h13 rfl dX0_areBarred_30 ?_
    refine V_iload_n dX0_areBarred_33 rfl ?_
    refine V_icmp_ne (tgt := 58) dX0_areBarred_34 (by decide) (fun hc14 => ?_) (fun hc14 => ?_)
    · have hf := if_f hf hc14
      exact mC_X0_areBarred_58_v w hE hH k2 hk2 v0 v1 v2 v3 hf
    · have hf := if_t hf hc14
      refine V_aload_n dX0_areBarred_37 rfl ?_
      refine VP_getR (x := some b2) fa_X0_10 h1 rfl rfl hb3 dX0_areBarred_38 ?_
      refine VP_getR (x := some b5) fa_X0_276 h4 rfl rfl hb6 dX0_areBarred_41 ?_
      refine V_iload_n dX0_areBarred_44 rfl ?_
      obtain ⟨r16, hc15, hf⟩ := bd1_ex hf
      refine V_cV (av := [.int v3]) (rest := []) (st' := [.ref r16]) (mC_J2_get_ok _ _ _ _ _ _ hc15) vc_X0_232 (kIn1 h7) (by decide) rfl rfl (Nat.le_of_ble_eq_true rfl) dX0_areBarred_45 rfl ?_
      obtain ⟨h17, hf⟩ := ck_ex hf
      refine VE_cast cc_X0_279 h17 dX0_areBarred_48 ?_
      refine VP_getI fa_X0_285 h17 rfl dX0_areBarred_51 ?_
      refine V_iload_n dX0_areBarred_54 rfl ?_
      refine V_icmp_eq (tgt := 100) dX0_areBarred_55 (by decide) (fun hc18 => ?_) (fun hc18 => ?_)
      · have hf := if_t hf hc18
        refine V_iconst dX0_areBarred_100 ckc_1 ?_
        cases some_ex hf
        exact V_zret hE (by decide) dX0_areBarred_101
      · have hf := if_f hf hc18
        exact mC_X0_areBarred_58_v w hE hH k2 hk2 v0 v1 v2 v3 hf
set_option maxHeartbeats 4000000 in
theorem mC_X0_areBarred_ok (l : Launch) (D : DD) (w : AH) (a : Nat) (p0 : Int32) (p1 : Int32) (r : Int32) (hf : mC_X0_areBarred a p0 p1 w = some r) : MA l D yX0_areBarred cX0_areBarred 4 (some (.boolean)) 4 [.ref a, .int p0, .int p1] w (.returned (some (.int r))) w := by
  refine MA.introH (own := RX0) (nm := "areBarred") (ls := [some (.ref a), some (.int p0), some (.int p1), none]) (by decide) rfl rfl (Nat.le_of_ble_eq_true rfl) rfl (fun X hl hD hE hH => ?_)
  subst hl hD
  unfold mC_X0_areBarred at hf
  refine V_iconst dX0_areBarred_0 ckc_0 ?_
  refine V_istore_n (ls' := [some (.ref a), some (.int p0), some (.int p1), some (.int (0 : Int32))]) dX0_areBarred_1 (by decide) rfl ?_
  exact lq4_ex (P := fun v0 v1 v2 v3 => V X cX0_areBarred RX0 4 4 w 2 [some (.ref v0), some (.int v1), some (.int v2), some (.int v3)] []) (fun k hk v0 v1 v2 v3 hf => mC_X0_areBarred_2_v w hE hH k hk v0 v1 v2 v3 hf) LF a p0 p1 (0 : Int32) hf
set_option maxHeartbeats 4000000 in
theorem mC_X0_twice_166_v {X : CX} {w0 : AH} {r : Int32} {w' : AH}  (hE : XE X w0 407 (some (.int)) "twice" (.returned (some (.int r))) w') (hH : XH X []) (k57 : Nat → Int32 → Int32 → Int32 → Int32 → AH → Option (Int32 × AH)) (hk57 : ∀ (v0 : Nat) (v3 : Int32) (v4 : Int32) (v5 : Int32) (v6 : Int32) (w : AH), k57 v0 v3 v4 v5 v6 w = some (r, w') → V X cX0_twice RX0 7 407 w 57 [some (.ref v0), none, none, some (.int v3), some (.int v4), some (.int v5), some (.int v6)] []) (v0 : Nat) (v3 : Int32) (v4 : Int32) (v5 : Int32) (v6 : Int32) (w : AH) (hf : mC_X0_twice_166 k57 v0 v3 v4 v5 v6 w = some (r, w')) : V X cX0_twice RX0 7 407 w 166 [some (.ref v0), none, none, some (.int v3), some (.int v4), some (.int v5), some (.int v6)] [] := by
  unfold mC_X0_twice_166 at hf
  refine V_inc (ls' := [some (.ref v0), none, none, some (.int v3), some (.int v4), some (.int v5), some (.int (v6 + (1 : Int32)))]) dX0_twice_166 rfl ckc_1 (by decide) rfl ?_
  refine V_goto (tgt := 57) dX0_twice_169 (by decide) ?_
  exact hk57 v0 v3 v4 v5 (v6 + (1 : Int32)) w hf
set_option maxHeartbeats 4000000 in
theorem mC_X0_twice_57_v {X : CX} {w0 : AH} {r : Int32} {w' : AH}  (hE : XE X w0 407 (some (.int)) "twice" (.returned (some (.int r))) w') (hH : XH X []) (k36 : Nat → Int32 → Int32 → Int32 → AH → Option (Int32 × AH)) (hk36 : ∀ (v0 : Nat) (v3 : Int32) (v4 : Int32) (v5 : Int32) (w : AH), k36 v0 v3 v4 v5 w = some (r, w') → V X cX0_twice RX0 7 407 w 36 [some (.ref v0), none, none, some (.int v3), some (.int v4), some (.int v5), none] []) (k57 : Nat → Int32 → Int32 → Int32 → Int32 → AH → Option (Int32 × AH)) (hk57 : ∀ (v0 : Nat) (v3 : Int32) (v4 : Int32) (v5 : Int32) (v6 : Int32) (w : AH), k57 v0 v3 v4 v5 v6 w = some (r, w') → V X cX0_twice RX0 7 407 w 57 [some (.ref v0), none, none, some (.int v3), some (.int v4), some (.int v5), some (.int v6)] []) (v0 : Nat) (v3 : Int32) (v4 : Int32) (v5 : Int32) (v6 : Int32) (w : AH) (hf : mC_X0_twice_57 k36 k57 v0 v3 v4 v5 v6 w = some (r, w')) : V X cX0_twice RX0 7 407 w 57 [some (.ref v0), none, none, some (.int v3), some (.int v4), some (.int v5), some (.int v6)] [] := by
  unfold mC_X0_twice_57 at hf
  refine V_iload dX0_twice_57 rfl ?_
  refine V_aload_n dX0_twice_59 rfl ?_
  obtain ⟨h1, hf⟩ := ck_ex hf
  obtain ⟨b2, hb3, hf⟩ := bd1_ex hf
  refine VP_getR (x := some b2) fa_X0_10 h1 rfl rfl hb3 dX0_twice_60 ?_
  obtain ⟨h4, hf⟩ := ck_ex hf
  obtain ⟨b5, hb6, hf⟩ := bd1_ex hf
  refine VP_getR (x := some b5) fa_X0_144 h4 rfl rfl hb6 dX0_twice_63 ?_
  obtain ⟨h7, hf⟩ := ck_ex hf
  obtain ⟨r9, hc8, hf⟩ := bd1_ex hf
  refine V_cV (av := []) (rest := [.int v6]) (st' := [.int r9, .int v6]) (mC_J2_size_ok _ _ _ _ _ hc8) vc_X0_148 (kIn1 h7) (by decide) rfl rfl (Nat.le_of_ble_eq_true rfl) dX0_twice_66 rfl ?_
  refine V_icmp_ge (tgt := 172) dX0_twice_69 (by decide) (fun hc10 => ?_) (fun hc10 => ?_)
  · have hf := if_t hf hc10
    refine V_inc (ls' := [some (.ref v0), none, none, some (.int v3), some (.int v4), some (.int (v5 + (1 : Int32))), some (.int v6)]) dX0_twice_172 rfl ckc_1 (by decide) rfl ?_
    refine V_goto (tgt := 36) dX0_twice_175 (by decide) ?_
    refine V_keep [true, true, true, true, true, true, false] rfl ?_
    exact hk36 v0 v3 v4 (v5 + (1 : Int32)) w hf
  · have hf := if_f hf hc10
    refine V_aload_n dX0_twice_72 rfl ?_
    obtain ⟨b11, hb12, hf⟩ := bd1_ex hf
    refine VP_getR (x := some b11) fa_X0_47 h1 rfl rfl hb12 dX0_twice_73 ?_
    obtain ⟨h13, hf⟩ := ck_ex hf
    obtain ⟨b14, hb15, hf⟩ := bd1_ex hf
    refine VP_getR (x := some b14) fa_X0_350 h13 rfl rfl hb15 dX0_twice_76 ?_
    refine V_iload dX0_twice_79 rfl ?_
    obtain ⟨h16, hf⟩ := ck_ex hf
    refine VE_zald h16 rfl dX0_twice_81 ?_
    refine V_if_eq (tgt := 166) dX0_twice_82 (by decide) (fun hc17 => ?_) (fun hc17 => ?_)
    · have hf := if_t hf hc17
      exact mC_X0_twice_166_v hE hH k57 hk57 v0 v3 v4 v5 v6 w hf
    · have hf := if_f hf hc17
      refine V_aload_n dX0_twice_85 rfl ?_
      refine VP_getR (x := some b11) fa_X0_47 h1 rfl rfl hb12 dX0_twice_86 ?_
      refine VP_getR (x := some b14) fa_X0_350 h13 rfl rfl hb15 dX0_twice_89 ?_
      refine V_iload dX0_twice_92 rfl ?_
      obtain ⟨h18, hf⟩ := ck_ex hf
      refine VE_zald h18 rfl dX0_twice_94 ?_
      refine V_if_eq (tgt := 166) dX0_twice_95 (by decide) (fun hc19 => ?_) (fun hc19 => ?_)
      · have hf := if_t hf hc19
        exact mC_X0_twice_166_v hE hH k57 hk57 v0 v3 v4 v5 v6 w hf
      · have hf := if_f hf hc19
        refine V_aload_n dX0_twice_98 rfl ?_
        refine VP_getR (x := some b11) fa_X0_47 h1 rfl rfl hb12 dX0_twice_99 ?_
        obtain ⟨b20, hb21, hf⟩ := bd1_ex hf
        refine VP_getR (x := some b20) fa_X0_351 h13 rfl rfl hb21 dX0_twice_102 ?_
        refine V_iload dX0_twice_105 rfl ?_
        obtain ⟨h22, hf⟩ := ck_ex hf
        refine VE_iald h22 rfl dX0_twice_107 ?_
        refine V_aload_n dX0_twice_108 rfl ?_
        refine VP_getR (x := some b11) fa_X0_47 h1 rfl rfl hb12 dX0_twice_109 ?_
        refine VP_getR (x := some b20) fa_X0_351 h13 rfl rfl hb21 dX0_twice_112 ?_
        refine V_iload dX0_twice_115 rfl ?_
        obtain ⟨h23, hf⟩ := ck_ex hf
        refine VE_iald h23 rfl dX0_twice_117 ?_
        refine V_icmp_eq (tgt := 166) dX0_twice_118 (by decide) (fun hc24 => ?_) (fun hc24 => ?_)
        · have hf := if_t hf hc24
          exact mC_X0_twice_166_v hE hH k57 hk57 v0 v3 v4 v5 v6 w hf
        · have hf := if_f hf hc24
          refine V_aload_n dX0_twice_121 rfl ?_
          refine V_iload dX0_twice_122 rfl ?_
          refine V_iload dX0_twice_124 rfl ?_
          obtain ⟨r26, hc25, hf⟩ := bd1_ex hf
          refine V_cV (av := [.int v5, .int v6]) (rest := []) (st' := [.int r26]) (mC_X0_likeOf_ok _ _ _ _ _ _ _ hc25) vc_X0_267 (kIn1 h1) (by decide) rfl rfl (Nat.le_of_ble_eq_true rfl) dX0_twice_126 rfl ?_
          refine V_iconst dX0_twice_129 ckc_5 ?_
          refine V_icmp_lt (tgt := 166) dX0_twice_130 (by decide) (fun hc27 => ?_) (fun hc27 => ?_)
          · have hf := if_t hf hc27
            exact mC_X0_twice_166_v hE hH k57 hk57 v0 v3 v4 v5 v6 w hf
          · have hf := if_f hf hc27
            refine V_aload_n dX0_twice_133 rfl ?_
            refine V_iload dX0_twice_134 rfl ?_
            refine V_iload dX0_twice_136 rfl ?_
            obtain ⟨r29, hc28, hf⟩ := bd1_ex hf
            refine V_cV (av := [.int v5, .int v6]) (rest := []) (st' := [.int r29]) (mC_X0_areBarred_ok _ _ _ _ _ _ _ hc28) vc_X0_353 (kIn1 h1) (by decide) rfl rfl (Nat.le_of_ble_eq_true rfl) dX0_twice_138 rfl ?_
            refine V_if_eq (tgt := 147) dX0_twice_141 (by decide) (fun hc30 => ?_) (fun hc30 => ?_)
            · have hf := if_t hf hc30
              refine V_iload dX0_twice_147 rfl ?_
              refine V_iload_n dX0_twice_149 rfl ?_
              refine V_icmp_ne (tgt := 163) dX0_twice_150 (by decide) (fun hc31 => ?_) (fun hc31 => ?_)
              · have hf := if_f hf hc31
                refine V_inc (ls' := [some (.ref v0), none, none, some (.int v3), some (.int (v4 + (1 : Int32))), some (.int v5), some (.int v6)]) dX0_twice_163 rfl ckc_1 (by decide) rfl ?_
                exact mC_X0_twice_166_v hE hH k57 hk57 v0 v3 (v4 + (1 : Int32)) v5 v6 w hf
              · have hf := if_t hf hc31
                refine V_sipush dX0_twice_153 cks_200 ?_
                refine V_iload dX0_twice_156 rfl ?_
                refine V_imul dX0_twice_158 ?_
                refine V_iload dX0_twice_159 rfl ?_
                refine V_iadd dX0_twice_161 ?_
                cases some_ex hf
                exact V_iret hE dX0_twice_162
            · have hf := if_f hf hc30
              refine V_goto (tgt := 166) dX0_twice_144 (by decide) ?_
              exact mC_X0_twice_166_v hE hH k57 hk57 v0 v3 v4 v5 v6 w hf
set_option maxHeartbeats 4000000 in
theorem mC_X0_twice_36_v {X : CX} {w0 : AH} {r : Int32} {w' : AH}  (hE : XE X w0 407 (some (.int)) "twice" (.returned (some (.int r))) w') (hH : XH X []) (k36 : Nat → Int32 → Int32 → Int32 → AH → Option (Int32 × AH)) (hk36 : ∀ (v0 : Nat) (v3 : Int32) (v4 : Int32) (v5 : Int32) (w : AH), k36 v0 v3 v4 v5 w = some (r, w') → V X cX0_twice RX0 7 407 w 36 [some (.ref v0), none, none, some (.int v3), some (.int v4), some (.int v5), none] []) (v0 : Nat) (v3 : Int32) (v4 : Int32) (v5 : Int32) (w : AH) (hf : mC_X0_twice_36 k36 v0 v3 v4 v5 w = some (r, w')) : V X cX0_twice RX0 7 407 w 36 [some (.ref v0), none, none, some (.int v3), some (.int v4), some (.int v5), none] [] := by
  unfold mC_X0_twice_36 at hf
  refine V_iload dX0_twice_36 rfl ?_
  refine V_aload_n dX0_twice_38 rfl ?_
  obtain ⟨h1, hf⟩ := ck_ex hf
  obtain ⟨b2, hb3, hf⟩ := bd1_ex hf
  refine VP_getR (x := some b2) fa_X0_10 h1 rfl rfl hb3 dX0_twice_39 ?_
  obtain ⟨h4, hf⟩ := ck_ex hf
  obtain ⟨b5, hb6, hf⟩ := bd1_ex hf
  refine VP_getR (x := some b5) fa_X0_144 h4 rfl rfl hb6 dX0_twice_42 ?_
  obtain ⟨h7, hf⟩ := ck_ex hf
  obtain ⟨r9, hc8, hf⟩ := bd1_ex hf
  refine V_cV (av := []) (rest := [.int v5]) (st' := [.int r9, .int v5]) (mC_J2_size_ok _ _ _ _ _ hc8) vc_X0_148 (kIn1 h7) (by decide) rfl rfl (Nat.le_of_ble_eq_true rfl) dX0_twice_45 rfl ?_
  refine V_icmp_ge (tgt := 178) dX0_twice_48 (by decide) (fun hc10 => ?_) (fun hc10 => ?_)
  · have hf := if_t hf hc10
    refine V_iload_n dX0_twice_178 rfl ?_
    refine V_iconst dX0_twice_179 ckc_m1 ?_
    refine V_icmp_ne (tgt := 188) dX0_twice_180 (by decide) (fun hc11 => ?_) (fun hc11 => ?_)
    · have hf := if_f hf hc11
      refine V_iconst dX0_twice_188 ckc_m1 ?_
      cases some_ex hf
      exact V_iret hE dX0_twice_189
    · have hf := if_t hf hc11
      refine V_iload dX0_twice_183 rfl ?_
      refine V_goto (tgt := 189) dX0_twice_185 (by decide) ?_
      cases some_ex hf
      exact V_iret hE dX0_twice_189
  · have hf := if_f hf hc10
    refine V_iload dX0_twice_51 rfl ?_
    refine V_iconst dX0_twice_53 ckc_1 ?_
    refine V_iadd dX0_twice_54 ?_
    refine V_istore (ls' := [some (.ref v0), none, none, some (.int v3), some (.int v4), some (.int v5), some (.int (v5 + (1 : Int32)))]) dX0_twice_55 (by decide) rfl ?_
    exact lq6_ex (P := fun v0 v3 v4 v5 v6 w => V X cX0_twice RX0 7 407 w 57 [some (.ref v0), none, none, some (.int v3), some (.int v4), some (.int v5), some (.int v6)] []) (fun k hk v0 v3 v4 v5 v6 w hf => mC_X0_twice_57_v hE hH k36 hk36 k hk v0 v3 v4 v5 v6 w hf) LF v0 v3 v4 v5 (v5 + (1 : Int32)) w hf
set_option maxHeartbeats 4000000 in
theorem mC_X0_twice_ok (l : Launch) (D : DD) (w : AH) (a : Nat) (p0 : Int32) (p1 : Int32) (p2 : Int32) (r : Int32) (w' : AH) (hf : mC_X0_twice a p0 p1 p2 w = some (r, w')) : MA l D yX0_twice cX0_twice 7 (some (.int)) 407 [.ref a, .int p0, .int p1, .int p2] w (.returned (some (.int r))) w' := by
  refine MA.introH (own := RX0) (nm := "twice") (ls := [some (.ref a), some (.int p0), some (.int p1), some (.int p2), none, none, none]) (by decide) rfl rfl (Nat.le_of_ble_eq_true rfl) rfl (fun X hl hD hE hH => ?_)
  subst hl hD
  unfold mC_X0_twice at hf
  refine V_iload_n dX0_twice_0 rfl ?_
  obtain ⟨r2, hc1, hf⟩ := bd1_ex hf
  refine V_cS (rest := []) (st' := [.int r2]) (mC_X0_isDay_ok _ _ _ _ _ hc1) sc_X0_201 (by decide) rfl rfl (Nat.le_of_ble_eq_true rfl) dX0_twice_1 rfl ?_
  refine V_if_eq (tgt := 19) dX0_twice_4 (by decide) (fun hc3 => ?_) (fun hc3 => ?_)
  · have hf := if_t hf hc3
    refine V_iconst dX0_twice_19 ckc_m1 ?_
    cases some_ex hf
    exact V_iret hE dX0_twice_20
  · have hf := if_f hf hc3
    refine V_iload_n dX0_twice_7 rfl ?_
    obtain ⟨r5, hc4, hf⟩ := bd1_ex hf
    refine V_cS (rest := []) (st' := [.int r5]) (mC_X0_isDay_ok _ _ _ _ _ hc4) sc_X0_201 (by decide) rfl rfl (Nat.le_of_ble_eq_true rfl) dX0_twice_8 rfl ?_
    refine V_if_eq (tgt := 19) dX0_twice_11 (by decide) (fun hc6 => ?_) (fun hc6 => ?_)
    · have hf := if_t hf hc6
      refine V_iconst dX0_twice_19 ckc_m1 ?_
      cases some_ex hf
      exact V_iret hE dX0_twice_20
    · have hf := if_f hf hc6
      refine V_iload_n dX0_twice_14 rfl ?_
      refine V_iconst dX0_twice_15 ckc_m1 ?_
      refine V_icmp_ge (tgt := 21) dX0_twice_16 (by decide) (fun hc7 => ?_) (fun hc7 => ?_)
      · have hf := if_t hf hc7
        refine V_aload_n dX0_twice_21 rfl ?_
        obtain ⟨h8, hf⟩ := ck_ex hf
        obtain ⟨b9, hb10, hf⟩ := bd1_ex hf
        refine VP_getR (x := some b9) fa_X0_47 h8 rfl rfl hb10 dX0_twice_22 ?_
        refine V_iload_n dX0_twice_25 rfl ?_
        refine V_iload_n dX0_twice_26 rfl ?_
        obtain ⟨h11, hf⟩ := ck_ex hf
        obtain ⟨w13, hc12, hf⟩ := bd1_ex hf
        refine V_cV (av := [.int p0, .int p1]) (rest := []) (st' := []) (mC_X5_looks_ok _ _ _ _ _ _ _ hc12) vc_X0_347 (kIn1 h11) (by decide) rfl rfl (Nat.le_of_ble_eq_true rfl) dX0_twice_27 rfl ?_
        refine V_iconst dX0_twice_30 ckc_0 ?_
        refine V_istore (ls' := [some (.ref a), some (.int p0), some (.int p1), some (.int p2), some (.int (0 : Int32)), none, none]) dX0_twice_31 (by decide) rfl ?_
        refine V_iconst dX0_twice_33 ckc_0 ?_
        refine V_istore (ls' := [some (.ref a), some (.int p0), some (.int p1), some (.int p2), some (.int (0 : Int32)), some (.int (0 : Int32)), none]) dX0_twice_34 (by decide) rfl ?_
        refine V_keep [true, false, false, true, true, true, true] rfl ?_
        exact lq5_ex (P := fun v0 v3 v4 v5 w => V X cX0_twice RX0 7 407 w 36 [some (.ref v0), none, none, some (.int v3), some (.int v4), some (.int v5), none] []) (fun k hk v0 v3 v4 v5 w hf => mC_X0_twice_36_v hE hH k hk v0 v3 v4 v5 w hf) LF a p2 (0 : Int32) (0 : Int32) w13 hf
      · have hf := if_f hf hc7
        refine V_iconst dX0_twice_19 ckc_m1 ?_
        cases some_ex hf
        exact V_iret hE dX0_twice_20
set_option maxHeartbeats 4000000 in
theorem mC_X0_atLeast_ok (l : Launch) (D : DD) (w : AH) (p0 : Int64) (p1 : Int32) (r : Int32) (hf : mC_X0_atLeast p0 p1 = some r) : MA l D yX0_atLeast cX0_atLeast 3 (some (.int)) 1 [.long p0, .int p1] w (.returned (some (.int r))) w := by
  refine MA.introH (own := RX0) (nm := "atLeast") (ls := [some (.long p0), none, some (.int p1)]) (by decide) rfl rfl (Nat.le_of_ble_eq_true rfl) rfl (fun X hl hD hE hH => ?_)
  subst hl hD
  unfold mC_X0_atLeast at hf
  refine V_lload_n dX0_atLeast_0 rfl ?_
  refine V_ldc2 q1449 dX0_atLeast_1 ?_
  refine V_lif_ne (tgt := 12) dX0_atLeast_4 dX0_atLeast_5 (by decide) (fun hc1 => ?_) (fun hc1 => ?_)
  · have hf := if_f hf hc1
    refine V_lconst dX0_atLeast_12 ckl_0 ?_
    refine V_lload_n dX0_atLeast_13 rfl ?_
    obtain ⟨r2, hm3, hf⟩ := st1_ex hf
    refine V_mmaxl q1519 q1520 q147 q1521 (by decide) (Nat.le_of_ble_eq_true rfl) dX0_atLeast_14 ?_
    rw [hm3]
    refine V_l2i dX0_atLeast_17 ?_
    cases some_ex hf
    exact V_iret hE dX0_atLeast_18
  · have hf := if_t hf hc1
    refine V_iload_n dX0_atLeast_8 rfl ?_
    refine V_goto (tgt := 18) dX0_atLeast_9 (by decide) ?_
    cases some_ex hf
    exact V_iret hE dX0_atLeast_18
set_option maxHeartbeats 4000000 in
theorem mC_X0_fewOn_ok (l : Launch) (D : DD) (w : AH) (a : Nat) (p0 : Int32) (r : Int32) (w' : AH) (hf : mC_X0_fewOn a p0 w = some (r, w')) : MA l D yX0_fewOn cX0_fewOn 2 (some (.int)) 405 [.ref a, .int p0] w (.returned (some (.int r))) w' := by
  refine MA.introH (own := RX0) (nm := "fewOn") (ls := [some (.ref a), some (.int p0)]) (by decide) rfl rfl (Nat.le_of_ble_eq_true rfl) rfl (fun X hl hD hE hH => ?_)
  subst hl hD
  unfold mC_X0_fewOn at hf
  refine V_aload_n dX0_fewOn_0 rfl ?_
  refine V_iload_n dX0_fewOn_1 rfl ?_
  obtain ⟨h1, hf⟩ := ck_ex hf
  obtain ⟨w3, hc2, hf⟩ := bd1_ex hf
  refine V_cV (av := [.int p0]) (rest := []) (st' := []) (mC_X0_asks_ok _ _ _ _ _ _ hc2) vc_X0_341 (kIn1 h1) (by decide) rfl rfl (Nat.le_of_ble_eq_true rfl) dX0_fewOn_2 rfl ?_
  refine V_aload_n dX0_fewOn_5 rfl ?_
  refine V_bipush dX0_fewOn_6 ckb_7 ?_
  refine V_iconst dX0_fewOn_8 ckc_0 ?_
  refine V_iload_n dX0_fewOn_9 rfl ?_
  obtain ⟨h4, hf⟩ := ck_ex hf
  obtain ⟨r6, w7, hc5, hf⟩ := bd2_ex hf
  refine V_cV (av := [.int (7 : Int32), .int (0 : Int32), .int p0]) (rest := []) (st' := [.long r6]) (mC_X0_last_ok _ _ _ _ _ _ _ _ _ hc5) vc_X0_364 (kIn1 h4) (by decide) rfl rfl (Nat.le_of_ble_eq_true rfl) dX0_fewOn_10 rfl ?_
  refine V_iconst dX0_fewOn_13 ckc_0 ?_
  obtain ⟨r9, hc8, hf⟩ := bd1_ex hf
  refine V_cS (rest := []) (st' := [.int r9]) (mC_X0_atLeast_ok _ _ _ _ _ _ hc8) sc_X0_368 (by decide) rfl rfl (Nat.le_of_ble_eq_true rfl) dX0_fewOn_14 rfl ?_
  cases some_ex hf
  exact V_iret hE dX0_fewOn_17
set_option maxHeartbeats 4000000 in
theorem mC_X0_asksPlace_ok (l : Launch) (D : DD) (w : AH) (a : Nat) (p0 : Int32) (p1 : Int32) (w' : AH) (hf : mC_X0_asksPlace a p0 p1 w = some w') : MA l D yX0_asksPlace cX0_asksPlace 3 none 3 [.ref a, .int p0, .int p1] w (.returned none) w' := by
  refine MA.introH (own := RX0) (nm := "asksPlace") (ls := [some (.ref a), some (.int p0), some (.int p1)]) (by decide) rfl rfl (Nat.le_of_ble_eq_true rfl) rfl (fun X hl hD hE hH => ?_)
  subst hl hD
  unfold mC_X0_asksPlace at hf
  refine V_aload_n dX0_asksPlace_0 rfl ?_
  refine V_iload_n dX0_asksPlace_1 rfl ?_
  obtain ⟨h1, hf⟩ := ck_ex hf
  obtain ⟨w3, hc2, hf⟩ := bd1_ex hf
  refine V_cV (av := [.int p1]) (rest := []) (st' := []) (mC_X0_asks_ok _ _ _ _ _ _ hc2) vc_X0_341 (kIn1 h1) (by decide) rfl rfl (Nat.le_of_ble_eq_true rfl) dX0_asksPlace_2 rfl ?_
  refine V_aload_n dX0_asksPlace_5 rfl ?_
  obtain ⟨h4, hf⟩ := ck_ex hf
  obtain ⟨b5, hb6, hf⟩ := bd1_ex hf
  refine VP_getR (x := some b5) fa_X0_40 h4 rfl rfl hb6 dX0_asksPlace_6 ?_
  obtain ⟨h7, hf⟩ := ck_ex hf
  obtain ⟨b8, hb9, hf⟩ := bd1_ex hf
  refine VP_getR (x := some b8) fa_X0_338 h7 rfl rfl hb9 dX0_asksPlace_9 ?_
  refine V_iconst dX0_asksPlace_12 ckc_2 ?_
  refine V_iload_n dX0_asksPlace_13 rfl ?_
  refine V_i2l dX0_asksPlace_14 ?_
  obtain ⟨h10, hf⟩ := ck_ex hf
  obtain ⟨w11, hs12, hf⟩ := st1_ex hf
  refine VE_last h10 (by decide) hs12 dX0_asksPlace_15 ?_
  refine V_aload_n dX0_asksPlace_16 rfl ?_
  obtain ⟨h13, hf⟩ := ck_ex hf
  obtain ⟨b14, hb15, hf⟩ := bd1_ex hf
  refine VP_getR (x := some b14) fa_X0_40 h13 rfl rfl hb15 dX0_asksPlace_17 ?_
  obtain ⟨h16, hf⟩ := ck_ex hf
  obtain ⟨b17, hb18, hf⟩ := bd1_ex hf
  refine VP_getR (x := some b17) fa_X0_338 h16 rfl rfl hb18 dX0_asksPlace_20 ?_
  refine V_iconst dX0_asksPlace_23 ckc_3 ?_
  refine V_aload_n dX0_asksPlace_24 rfl ?_
  obtain ⟨b19, hb20, hf⟩ := bd1_ex hf
  refine VP_getR (x := some b19) fa_X0_10 h13 rfl rfl hb20 dX0_asksPlace_25 ?_
  obtain ⟨h21, hf⟩ := ck_ex hf
  obtain ⟨b22, hb23, hf⟩ := bd1_ex hf
  refine VP_getR (x := some b22) fa_X0_160 h21 rfl rfl hb23 dX0_asksPlace_28 ?_
  refine V_iload_n dX0_asksPlace_31 rfl ?_
  obtain ⟨h24, hf⟩ := ck_ex hf
  refine VE_iald h24 rfl dX0_asksPlace_32 ?_
  refine V_i2l dX0_asksPlace_33 ?_
  obtain ⟨h25, hf⟩ := ck_ex hf
  obtain ⟨w26, hs27, hf⟩ := st1_ex hf
  refine VE_last h25 (by decide) hs27 dX0_asksPlace_34 ?_
  refine V_aload_n dX0_asksPlace_35 rfl ?_
  obtain ⟨h28, hf⟩ := ck_ex hf
  obtain ⟨b29, hb30, hf⟩ := bd1_ex hf
  refine VP_getR (x := some b29) fa_X0_40 h28 rfl rfl hb30 dX0_asksPlace_36 ?_
  obtain ⟨h31, hf⟩ := ck_ex hf
  obtain ⟨b32, hb33, hf⟩ := bd1_ex hf
  refine VP_getR (x := some b32) fa_X0_338 h31 rfl rfl hb33 dX0_asksPlace_39 ?_
  refine V_iconst dX0_asksPlace_42 ckc_5 ?_
  refine V_aload_n dX0_asksPlace_43 rfl ?_
  obtain ⟨b34, hb35, hf⟩ := bd1_ex hf
  refine VP_getR (x := some b34) fa_X0_47 h28 rfl rfl hb35 dX0_asksPlace_44 ?_
  obtain ⟨h36, hf⟩ := ck_ex hf
  obtain ⟨b37, hb38, hf⟩ := bd1_ex hf
  refine VP_getR (x := some b37) fa_X0_344 h36 rfl rfl hb38 dX0_asksPlace_47 ?_
  refine V_iload_n dX0_asksPlace_50 rfl ?_
  obtain ⟨h39, hf⟩ := ck_ex hf
  refine VE_iald h39 rfl dX0_asksPlace_51 ?_
  refine V_i2l dX0_asksPlace_52 ?_
  obtain ⟨h40, hf⟩ := ck_ex hf
  obtain ⟨w41, hs42, hf⟩ := st1_ex hf
  refine VE_last h40 (by decide) hs42 dX0_asksPlace_53 ?_
  cases some_ex hf
  exact V_vret hE dX0_asksPlace_54
set_option maxHeartbeats 4000000 in
theorem mC_X0_ruleOf_ok (l : Launch) (D : DD) (w : AH) (a : Nat) (p0 : Int32) (p1 : Int32) (p2 : Int32) (p3 : Int32) (r : Int32) (w' : AH) (hf : mC_X0_ruleOf a p0 p1 p2 p3 w = some (r, w')) : MA l D yX0_ruleOf cX0_ruleOf 5 (some (.int)) 405 [.ref a, .int p0, .int p1, .int p2, .int p3] w (.returned (some (.int r))) w' := by
  refine MA.introH (own := RX0) (nm := "ruleOf") (ls := [some (.ref a), some (.int p0), some (.int p1), some (.int p2), some (.int p3)]) (by decide) rfl rfl (Nat.le_of_ble_eq_true rfl) rfl (fun X hl hD hE hH => ?_)
  subst hl hD
  unfold mC_X0_ruleOf at hf
  refine V_aload_n dX0_ruleOf_0 rfl ?_
  refine V_iload_n dX0_ruleOf_1 rfl ?_
  refine V_iload_n dX0_ruleOf_2 rfl ?_
  obtain ⟨h1, hf⟩ := ck_ex hf
  obtain ⟨w3, hc2, hf⟩ := bd1_ex hf
  refine V_cV (av := [.int p1, .int p2]) (rest := []) (st' := []) (mC_X0_asksPlace_ok _ _ _ _ _ _ _ hc2) vc_X0_361 (kIn1 h1) (by decide) rfl rfl (Nat.le_of_ble_eq_true rfl) dX0_ruleOf_3 rfl ?_
  refine V_aload_n dX0_ruleOf_6 rfl ?_
  refine V_iload_n dX0_ruleOf_7 rfl ?_
  refine V_iconst dX0_ruleOf_8 ckc_0 ?_
  refine V_iload_n dX0_ruleOf_9 rfl ?_
  obtain ⟨h4, hf⟩ := ck_ex hf
  obtain ⟨r6, w7, hc5, hf⟩ := bd2_ex hf
  refine V_cV (av := [.int p0, .int (0 : Int32), .int p2]) (rest := []) (st' := [.long r6]) (mC_X0_last_ok _ _ _ _ _ _ _ _ _ hc5) vc_X0_364 (kIn1 h4) (by decide) rfl rfl (Nat.le_of_ble_eq_true rfl) dX0_ruleOf_10 rfl ?_
  refine V_iload dX0_ruleOf_13 rfl ?_
  obtain ⟨r9, hc8, hf⟩ := bd1_ex hf
  refine V_cS (rest := []) (st' := [.int r9]) (mC_X0_atLeast_ok _ _ _ _ _ _ hc8) sc_X0_368 (by decide) rfl rfl (Nat.le_of_ble_eq_true rfl) dX0_ruleOf_15 rfl ?_
  cases some_ex hf
  exact V_iret hE dX0_ruleOf_18
set_option maxHeartbeats 4000000 in
theorem mC_X0_rule_40_v {X : CX} {w0 : AH} {r : Int32} {w' : AH}  (hE : XE X w0 407 (some (.int)) "rule" (.returned (some (.int r))) w') (hH : XH X []) (v0 : Nat) (v1 : Int32) (v2 : Int32) (v3 : Int32) (v4 : Int32) (w : AH) (hf : mC_X0_rule_40 v0 v1 v2 v3 v4 w = some (r, w')) : V X cX0_rule RX0 5 407 w 40 [some (.ref v0), some (.int v1), some (.int v2), some (.int v3), some (.int v4)] [] := by
  unfold mC_X0_rule_40 at hf
  refine V_aload_n dX0_rule_40 rfl ?_
  obtain ⟨h1, hf⟩ := ck_ex hf
  obtain ⟨b2, hb3, hf⟩ := bd1_ex hf
  refine VP_getR (x := some b2) fa_X0_47 h1 rfl rfl hb3 dX0_rule_41 ?_
  refine V_iload_n dX0_rule_44 rfl ?_
  refine V_iload_n dX0_rule_45 rfl ?_
  obtain ⟨h4, hf⟩ := ck_ex hf
  obtain ⟨w6, hc5, hf⟩ := bd1_ex hf
  refine V_cV (av := [.int v2, .int v3]) (rest := []) (st' := []) (mC_X5_looks_ok _ _ _ _ _ _ _ hc5) vc_X0_347 (kIn1 h4) (by decide) rfl rfl (Nat.le_of_ble_eq_true rfl) dX0_rule_46 rfl ?_
  refine V_iload dX0_rule_49 rfl ?_
  refine V_iconst dX0_rule_51 ckc_2 ?_
  refine V_icmp_ne (tgt := 63) dX0_rule_52 (by decide) (fun hc7 => ?_) (fun hc7 => ?_)
  · have hf := if_f hf hc7
    refine V_iload dX0_rule_63 rfl ?_
    refine V_if_ne (tgt := 81) dX0_rule_65 (by decide) (fun hc8 => ?_) (fun hc8 => ?_)
    · have hf := if_f hf hc8
      refine V_aload_n dX0_rule_81 rfl ?_
      refine V_bipush dX0_rule_82 ckb_6 ?_
      refine V_iload_n dX0_rule_84 rfl ?_
      refine V_iload_n dX0_rule_85 rfl ?_
      refine V_sipush dX0_rule_86 cks_200 ?_
      obtain ⟨h9, hf⟩ := ck_ex hf
      obtain ⟨r11, w12, hc10, hf⟩ := bd2_ex hf
      refine V_cV (av := [.int (6 : Int32), .int v1, .int v2, .int (200 : Int32)]) (rest := []) (st' := [.int r11]) (mC_X0_ruleOf_ok _ _ _ _ _ _ _ _ _ _ hc10) vc_X0_375 (kIn1 h9) (by decide) rfl rfl (Nat.le_of_ble_eq_true rfl) dX0_rule_89 rfl ?_
      cases some_ex hf
      exact V_iret hE dX0_rule_92
    · have hf := if_t hf hc8
      refine V_aload_n dX0_rule_68 rfl ?_
      refine V_iconst dX0_rule_69 ckc_5 ?_
      refine V_iload_n dX0_rule_70 rfl ?_
      refine V_iload_n dX0_rule_71 rfl ?_
      refine V_sipush dX0_rule_72 cks_1000 ?_
      obtain ⟨h13, hf⟩ := ck_ex hf
      obtain ⟨r15, w16, hc14, hf⟩ := bd2_ex hf
      refine V_cV (av := [.int (5 : Int32), .int v1, .int v2, .int (1000 : Int32)]) (rest := []) (st' := [.int r15]) (mC_X0_ruleOf_ok _ _ _ _ _ _ _ _ _ _ hc14) vc_X0_375 (kIn1 h13) (by decide) rfl rfl (Nat.le_of_ble_eq_true rfl) dX0_rule_75 rfl ?_
      refine V_goto (tgt := 92) dX0_rule_78 (by decide) ?_
      cases some_ex hf
      exact V_iret hE dX0_rule_92
  · have hf := if_t hf hc7
    refine V_aload_n dX0_rule_55 rfl ?_
    refine V_iload_n dX0_rule_56 rfl ?_
    obtain ⟨h17, hf⟩ := ck_ex hf
    obtain ⟨r19, w20, hc18, hf⟩ := bd2_ex hf
    refine V_cV (av := [.int v2]) (rest := []) (st' := [.int r19]) (mC_X0_fewOn_ok _ _ _ _ _ _ _ hc18) vc_X0_372 (kIn1 h17) (by decide) rfl rfl (Nat.le_of_ble_eq_true rfl) dX0_rule_57 rfl ?_
    refine V_goto (tgt := 92) dX0_rule_60 (by decide) ?_
    cases some_ex hf
    exact V_iret hE dX0_rule_92
set_option maxHeartbeats 4000000 in
theorem mC_X0_rule_ok (l : Launch) (D : DD) (w : AH) (a : Nat) (p0 : Int32) (p1 : Int32) (p2 : Int32) (p3 : Int32) (r : Int32) (w' : AH) (hf : mC_X0_rule a p0 p1 p2 p3 w = some (r, w')) : MA l D yX0_rule cX0_rule 5 (some (.int)) 407 [.ref a, .int p0, .int p1, .int p2, .int p3] w (.returned (some (.int r))) w' := by
  refine MA.introH (own := RX0) (nm := "rule") (ls := [some (.ref a), some (.int p0), some (.int p1), some (.int p2), some (.int p3)]) (by decide) rfl rfl (Nat.le_of_ble_eq_true rfl) rfl (fun X hl hD hE hH => ?_)
  subst hl hD
  unfold mC_X0_rule at hf
  refine V_iload_n dX0_rule_0 rfl ?_
  obtain ⟨r2, hc1, hf⟩ := bd1_ex hf
  refine V_cS (rest := []) (st' := [.int r2]) (mC_X0_isDay_ok _ _ _ _ _ hc1) sc_X0_201 (by decide) rfl rfl (Nat.le_of_ble_eq_true rfl) dX0_rule_1 rfl ?_
  refine V_if_eq (tgt := 38) dX0_rule_4 (by decide) (fun hc3 => ?_) (fun hc3 => ?_)
  · have hf := if_t hf hc3
    refine V_iconst dX0_rule_38 ckc_m1 ?_
    cases some_ex hf
    exact V_iret hE dX0_rule_39
  · have hf := if_f hf hc3
    refine V_iload_n dX0_rule_7 rfl ?_
    obtain ⟨r5, hc4, hf⟩ := bd1_ex hf
    refine V_cS (rest := []) (st' := [.int r5]) (mC_X0_isDay_ok _ _ _ _ _ hc4) sc_X0_201 (by decide) rfl rfl (Nat.le_of_ble_eq_true rfl) dX0_rule_8 rfl ?_
    refine V_if_eq (tgt := 38) dX0_rule_11 (by decide) (fun hc6 => ?_) (fun hc6 => ?_)
    · have hf := if_t hf hc6
      refine V_iconst dX0_rule_38 ckc_m1 ?_
      cases some_ex hf
      exact V_iret hE dX0_rule_39
    · have hf := if_f hf hc6
      refine V_iload dX0_rule_14 rfl ?_
      refine V_iconst dX0_rule_16 ckc_0 ?_
      refine V_iconst dX0_rule_17 ckc_2 ?_
      obtain ⟨r8, hc7, hf⟩ := bd1_ex hf
      refine V_cS (rest := []) (st' := [.int r8]) (mC_X0_in_ok _ _ _ _ _ _ _ hc7) sc_X0_127 (by decide) rfl rfl (Nat.le_of_ble_eq_true rfl) dX0_rule_18 rfl ?_
      refine V_if_eq (tgt := 38) dX0_rule_21 (by decide) (fun hc9 => ?_) (fun hc9 => ?_)
      · have hf := if_t hf hc9
        refine V_iconst dX0_rule_38 ckc_m1 ?_
        cases some_ex hf
        exact V_iret hE dX0_rule_39
      · have hf := if_f hf hc9
        refine V_iload dX0_rule_24 rfl ?_
        refine V_iconst dX0_rule_26 ckc_2 ?_
        refine V_icmp_ge (tgt := 40) dX0_rule_27 (by decide) (fun hc10 => ?_) (fun hc10 => ?_)
        · have hf := if_t hf hc10
          exact mC_X0_rule_40_v hE hH a p0 p1 p2 p3 w hf
        · have hf := if_f hf hc10
          refine V_aload_n dX0_rule_30 rfl ?_
          refine V_iload_n dX0_rule_31 rfl ?_
          obtain ⟨h11, hf⟩ := ck_ex hf
          obtain ⟨r13, hc12, hf⟩ := bd1_ex hf
          refine V_cV (av := [.int p0]) (rest := []) (st' := [.int r13]) (mC_X0_isPlace_ok _ _ _ _ _ _ hc12) vc_X0_204 (kIn1 h11) (by decide) rfl rfl (Nat.le_of_ble_eq_true rfl) dX0_rule_32 rfl ?_
          refine V_if_ne (tgt := 40) dX0_rule_35 (by decide) (fun hc14 => ?_) (fun hc14 => ?_)
          · have hf := if_f hf hc14
            exact mC_X0_rule_40_v hE hH a p0 p1 p2 p3 w hf
          · have hf := if_t hf hc14
            refine V_iconst dX0_rule_38 ckc_m1 ?_
            cases some_ex hf
            exact V_iret hE dX0_rule_39
set_option maxHeartbeats 4000000 in
theorem mC_X0_wish_17_v {X : CX} {w0 : AH} {r : Int32} {w' : AH}  (hE : XE X w0 3 (some (.int)) "wish" (.returned (some (.int r))) w') (hH : XH X []) (k17 : Nat → Int32 → Int32 → AH → Option (Int32 × AH)) (hk17 : ∀ (v0 : Nat) (v1 : Int32) (v2 : Int32) (w : AH), k17 v0 v1 v2 w = some (r, w') → V X cX0_wish RX0 3 3 w 17 [some (.ref v0), some (.int v1), some (.int v2)] []) (v0 : Nat) (v1 : Int32) (v2 : Int32) (w : AH) (hf : mC_X0_wish_17 k17 v0 v1 v2 w = some (r, w')) : V X cX0_wish RX0 3 3 w 17 [some (.ref v0), some (.int v1), some (.int v2)] [] := by
  unfold mC_X0_wish_17 at hf
  refine V_iload_n dX0_wish_17 rfl ?_
  refine V_aload_n dX0_wish_18 rfl ?_
  obtain ⟨h1, hf⟩ := ck_ex hf
  refine VP_getI fa_X0_379 h1 rfl dX0_wish_19 ?_
  refine V_icmp_ge (tgt := 48) dX0_wish_22 (by decide) (fun hc2 => ?_) (fun hc2 => ?_)
  · have hf := if_t hf hc2
    refine V_aload_n dX0_wish_48 rfl ?_
    refine VP_getI fa_X0_379 h1 rfl dX0_wish_49 ?_
    refine V_bipush dX0_wish_52 ckb_7 ?_
    refine V_icmp_ne (tgt := 64) dX0_wish_54 (by decide) (fun hc3 => ?_) (fun hc3 => ?_)
    · have hf := if_f hf hc3
      refine V_aload_n dX0_wish_64 rfl ?_
      obtain ⟨b4, hb5, hf⟩ := bd1_ex hf
      refine VP_getR (x := some b4) fa_X0_51 h1 rfl rfl hb5 dX0_wish_65 ?_
      refine V_aload_n dX0_wish_68 rfl ?_
      refine VP_getI fa_X0_379 h1 rfl dX0_wish_69 ?_
      refine V_iload_n dX0_wish_72 rfl ?_
      obtain ⟨h6, hf⟩ := ck_ex hf
      obtain ⟨w7, hs8, hf⟩ := st1_ex hf
      refine VE_iast h6 rfl hs8 dX0_wish_73 ?_
      refine V_aload_n dX0_wish_74 rfl ?_
      obtain ⟨h9, hf⟩ := ck_ex hf
      obtain ⟨b10, hb11, hf⟩ := bd1_ex hf
      refine VP_getR (x := some b10) fa_X0_55 h9 rfl rfl hb11 dX0_wish_75 ?_
      refine V_aload_n dX0_wish_78 rfl ?_
      refine VP_getI fa_X0_379 h9 rfl dX0_wish_79 ?_
      refine V_iconst dX0_wish_82 ckc_0 ?_
      obtain ⟨h12, hf⟩ := ck_ex hf
      obtain ⟨w13, hs14, hf⟩ := st1_ex hf
      refine VE_iast h12 rfl hs14 dX0_wish_83 ?_
      refine V_aload_n dX0_wish_84 rfl ?_
      obtain ⟨h15, hf⟩ := ck_ex hf
      obtain ⟨b16, hb17, hf⟩ := bd1_ex hf
      refine VP_getR (x := some b16) fa_X0_58 h15 rfl rfl hb17 dX0_wish_85 ?_
      refine V_aload_n dX0_wish_88 rfl ?_
      refine VP_getI fa_X0_379 h15 rfl dX0_wish_89 ?_
      refine V_sipush dX0_wish_92 cks_399 ?_
      obtain ⟨h18, hf⟩ := ck_ex hf
      obtain ⟨w19, hs20, hf⟩ := st1_ex hf
      refine VE_iast h18 rfl hs20 dX0_wish_95 ?_
      refine V_aload_n dX0_wish_96 rfl ?_
      refine V_dup dX0_wish_97 rfl ?_
      obtain ⟨h21, hf⟩ := ck_ex hf
      refine VP_getI fa_X0_379 h21 rfl dX0_wish_98 ?_
      refine V_iconst dX0_wish_101 ckc_1 ?_
      refine V_iadd dX0_wish_102 ?_
      obtain ⟨w22, hs23, hf⟩ := st1_ex hf
      refine VE_putI fw_X0_379 h21 rfl rfl rfl hs23 dX0_wish_103 ?_
      refine V_aload_n dX0_wish_106 rfl ?_
      refine V_aload_n dX0_wish_107 rfl ?_
      obtain ⟨h24, hf⟩ := ck_ex hf
      refine VP_getI fa_X0_379 h24 rfl dX0_wish_108 ?_
      obtain ⟨r26, w27, hc25, hf⟩ := bd2_ex hf
      refine V_cV (av := [.int (hvi w22 v0 19)]) (rest := []) (st' := [.int r26]) (mC_X0_done_ok _ _ _ _ _ _ _ hc25) vc_X0_123 (kIn1 h24) (by decide) rfl rfl (Nat.le_of_ble_eq_true rfl) dX0_wish_111 rfl ?_
      cases some_ex hf
      exact V_iret hE dX0_wish_114
    · have hf := if_t hf hc3
      refine V_aload_n dX0_wish_57 rfl ?_
      refine V_bipush dX0_wish_58 ckb_m5 ?_
      obtain ⟨r29, w30, hc28, hf⟩ := bd2_ex hf
      refine V_cV (av := [.int (-5 : Int32)]) (rest := []) (st' := [.int r29]) (mC_X0_refuse_ok _ _ _ _ _ _ _ hc28) vc_X0_131 (kIn1 h1) (by decide) rfl rfl (Nat.le_of_ble_eq_true rfl) dX0_wish_60 rfl ?_
      cases some_ex hf
      exact V_iret hE dX0_wish_63
  · have hf := if_f hf hc2
    refine V_aload_n dX0_wish_25 rfl ?_
    obtain ⟨b31, hb32, hf⟩ := bd1_ex hf
    refine VP_getR (x := some b31) fa_X0_51 h1 rfl rfl hb32 dX0_wish_26 ?_
    refine V_iload_n dX0_wish_29 rfl ?_
    obtain ⟨h33, hf⟩ := ck_ex hf
    refine VE_iald h33 rfl dX0_wish_30 ?_
    refine V_iload_n dX0_wish_31 rfl ?_
    refine V_icmp_ne (tgt := 42) dX0_wish_32 (by decide) (fun hc34 => ?_) (fun hc34 => ?_)
    · have hf := if_f hf hc34
      refine V_inc (ls' := [some (.ref v0), some (.int v1), some (.int (v2 + (1 : Int32)))]) dX0_wish_42 rfl ckc_1 (by decide) rfl ?_
      refine V_goto (tgt := 17) dX0_wish_45 (by decide) ?_
      exact hk17 v0 v1 (v2 + (1 : Int32)) w hf
    · have hf := if_t hf hc34
      refine V_aload_n dX0_wish_35 rfl ?_
      refine V_bipush dX0_wish_36 ckb_m4 ?_
      obtain ⟨r36, w37, hc35, hf⟩ := bd2_ex hf
      refine V_cV (av := [.int (-4 : Int32)]) (rest := []) (st' := [.int r36]) (mC_X0_refuse_ok _ _ _ _ _ _ _ hc35) vc_X0_131 (kIn1 h1) (by decide) rfl rfl (Nat.le_of_ble_eq_true rfl) dX0_wish_38 rfl ?_
      cases some_ex hf
      exact V_iret hE dX0_wish_41
set_option maxHeartbeats 4000000 in
theorem mC_X0_wish_ok (l : Launch) (D : DD) (w : AH) (a : Nat) (p0 : Int32) (r : Int32) (w' : AH) (hf : mC_X0_wish a p0 w = some (r, w')) : MA l D yX0_wish cX0_wish 3 (some (.int)) 3 [.ref a, .int p0] w (.returned (some (.int r))) w' := by
  refine MA.introH (own := RX0) (nm := "wish") (ls := [some (.ref a), some (.int p0), none]) (by decide) rfl rfl (Nat.le_of_ble_eq_true rfl) rfl (fun X hl hD hE hH => ?_)
  subst hl hD
  unfold mC_X0_wish at hf
  refine V_aload_n dX0_wish_0 rfl ?_
  refine V_iload_n dX0_wish_1 rfl ?_
  obtain ⟨h1, hf⟩ := ck_ex hf
  obtain ⟨r3, hc2, hf⟩ := bd1_ex hf
  refine V_cV (av := [.int p0]) (rest := []) (st' := [.int r3]) (mC_X0_isPlace_ok _ _ _ _ _ _ hc2) vc_X0_204 (kIn1 h1) (by decide) rfl rfl (Nat.le_of_ble_eq_true rfl) dX0_wish_2 rfl ?_
  refine V_if_ne (tgt := 15) dX0_wish_5 (by decide) (fun hc4 => ?_) (fun hc4 => ?_)
  · have hf := if_f hf hc4
    refine V_iconst dX0_wish_15 ckc_0 ?_
    refine V_istore_n (ls' := [some (.ref a), some (.int p0), some (.int (0 : Int32))]) dX0_wish_16 (by decide) rfl ?_
    exact lq4_ex (P := fun v0 v1 v2 w => V X cX0_wish RX0 3 3 w 17 [some (.ref v0), some (.int v1), some (.int v2)] []) (fun k hk v0 v1 v2 w hf => mC_X0_wish_17_v hE hH k hk v0 v1 v2 w hf) LF a p0 (0 : Int32) w hf
  · have hf := if_t hf hc4
    refine V_aload_n dX0_wish_8 rfl ?_
    refine V_bipush dX0_wish_9 ckb_m2 ?_
    obtain ⟨r6, w7, hc5, hf⟩ := bd2_ex hf
    refine V_cV (av := [.int (-2 : Int32)]) (rest := []) (st' := [.int r6]) (mC_X0_refuse_ok _ _ _ _ _ _ _ hc5) vc_X0_131 (kIn1 h1) (by decide) rfl rfl (Nat.le_of_ble_eq_true rfl) dX0_wish_11 rfl ?_
    cases some_ex hf
    exact V_iret hE dX0_wish_14
set_option maxHeartbeats 4000000 in
theorem mC_X0_clear_ok (l : Launch) (D : DD) (w : AH) (a : Nat) (r : Int32) (w' : AH) (hf : mC_X0_clear a w = some (r, w')) : MA l D yX0_clear cX0_clear 2 (some (.int)) 1 [.ref a] w (.returned (some (.int r))) w' := by
  refine MA.introH (own := RX0) (nm := "clear") (ls := [some (.ref a), none]) (by decide) rfl rfl (Nat.le_of_ble_eq_true rfl) rfl (fun X hl hD hE hH => ?_)
  subst hl hD
  unfold mC_X0_clear at hf
  refine V_aload_n dX0_clear_0 rfl ?_
  obtain ⟨h1, hf⟩ := ck_ex hf
  refine VP_getI fa_X0_379 h1 rfl dX0_clear_1 ?_
  refine V_istore_n (ls' := [some (.ref a), some (.int (hvi w a 19))]) dX0_clear_4 (by decide) rfl ?_
  refine V_aload_n dX0_clear_5 rfl ?_
  refine V_iconst dX0_clear_6 ckc_0 ?_
  obtain ⟨w2, hs3, hf⟩ := st1_ex hf
  refine VE_putI fw_X0_379 h1 rfl rfl rfl hs3 dX0_clear_7 ?_
  refine V_iload_n dX0_clear_10 rfl ?_
  cases some_ex hf
  exact V_iret hE dX0_clear_11
set_option maxHeartbeats 4000000 in
theorem mC_X0_areThere_2_v {X : CX} {w0 : AH} {r : Int32}  (w : AH) (hE : XE X w0 3 (some (.boolean)) "areThere" (.returned (some (.int r))) w) (hH : XH X []) (k2 : Nat → Int32 → Option (Int32)) (hk2 : ∀ (v0 : Nat) (v1 : Int32), k2 v0 v1 = some r → V X cX0_areThere RX0 2 3 w 2 [some (.ref v0), some (.int v1)] []) (v0 : Nat) (v1 : Int32) (hf : mC_X0_areThere_2 w k2 v0 v1 = some r) : V X cX0_areThere RX0 2 3 w 2 [some (.ref v0), some (.int v1)] [] := by
  unfold mC_X0_areThere_2 at hf
  refine V_iload_n dX0_areThere_2 rfl ?_
  refine V_aload_n dX0_areThere_3 rfl ?_
  obtain ⟨h1, hf⟩ := ck_ex hf
  refine VP_getI fa_X0_379 h1 rfl dX0_areThere_4 ?_
  refine V_icmp_ge (tgt := 31) dX0_areThere_7 (by decide) (fun hc2 => ?_) (fun hc2 => ?_)
  · have hf := if_t hf hc2
    refine V_iconst dX0_areThere_31 ckc_1 ?_
    cases some_ex hf
    exact V_zret hE (by decide) dX0_areThere_32
  · have hf := if_f hf hc2
    refine V_aload_n dX0_areThere_10 rfl ?_
    refine V_aload_n dX0_areThere_11 rfl ?_
    obtain ⟨b3, hb4, hf⟩ := bd1_ex hf
    refine VP_getR (x := some b3) fa_X0_51 h1 rfl rfl hb4 dX0_areThere_12 ?_
    refine V_iload_n dX0_areThere_15 rfl ?_
    obtain ⟨h5, hf⟩ := ck_ex hf
    refine VE_iald h5 rfl dX0_areThere_16 ?_
    obtain ⟨r7, hc6, hf⟩ := bd1_ex hf
    refine V_cV (av := [.int (hvi w b3 (v1.toNatClampNeg))]) (rest := []) (st' := [.int r7]) (mC_X0_isPlace_ok _ _ _ _ _ _ hc6) vc_X0_204 (kIn1 h1) (by decide) rfl rfl (Nat.le_of_ble_eq_true rfl) dX0_areThere_17 rfl ?_
    refine V_if_ne (tgt := 25) dX0_areThere_20 (by decide) (fun hc8 => ?_) (fun hc8 => ?_)
    · have hf := if_f hf hc8
      refine V_inc (ls' := [some (.ref v0), some (.int (v1 + (1 : Int32)))]) dX0_areThere_25 rfl ckc_1 (by decide) rfl ?_
      refine V_goto (tgt := 2) dX0_areThere_28 (by decide) ?_
      exact hk2 v0 (v1 + (1 : Int32)) hf
    · have hf := if_t hf hc8
      refine V_iconst dX0_areThere_23 ckc_0 ?_
      cases some_ex hf
      exact V_zret hE (by decide) dX0_areThere_24
set_option maxHeartbeats 4000000 in
theorem mC_X0_areThere_ok (l : Launch) (D : DD) (w : AH) (a : Nat) (r : Int32) (hf : mC_X0_areThere a w = some r) : MA l D yX0_areThere cX0_areThere 2 (some (.boolean)) 3 [.ref a] w (.returned (some (.int r))) w := by
  refine MA.introH (own := RX0) (nm := "areThere") (ls := [some (.ref a), none]) (by decide) rfl rfl (Nat.le_of_ble_eq_true rfl) rfl (fun X hl hD hE hH => ?_)
  subst hl hD
  unfold mC_X0_areThere at hf
  refine V_iconst dX0_areThere_0 ckc_0 ?_
  refine V_istore_n (ls' := [some (.ref a), some (.int (0 : Int32))]) dX0_areThere_1 (by decide) rfl ?_
  exact lq2_ex (P := fun v0 v1 => V X cX0_areThere RX0 2 3 w 2 [some (.ref v0), some (.int v1)] []) (fun k hk v0 v1 hf => mC_X0_areThere_2_v w hE hH k hk v0 v1 hf) LF a (0 : Int32) hf
set_option maxHeartbeats 4000000 in
theorem mC_X0_lays_11_v {X : CX} {w0 : AH} {w' : AH}  (hE : XE X w0 407 none "lays" (.returned none) w') (hH : XH X []) (k11 : Nat → Int32 → Int32 → AH → Option (AH)) (hk11 : ∀ (v0 : Nat) (v1 : Int32) (v3 : Int32) (w : AH), k11 v0 v1 v3 w = some w' → V X cX0_lays RX0 4 407 w 11 [some (.ref v0), some (.int v1), none, some (.int v3)] []) (v0 : Nat) (v1 : Int32) (v3 : Int32) (w : AH) (hf : mC_X0_lays_11 k11 v0 v1 v3 w = some w') : V X cX0_lays RX0 4 407 w 11 [some (.ref v0), some (.int v1), none, some (.int v3)] [] := by
  unfold mC_X0_lays_11 at hf
  refine V_iload_n dX0_lays_11 rfl ?_
  refine V_aload_n dX0_lays_12 rfl ?_
  obtain ⟨h1, hf⟩ := ck_ex hf
  refine VP_getI fa_X0_379 h1 rfl dX0_lays_13 ?_
  refine V_icmp_ge (tgt := 68) dX0_lays_16 (by decide) (fun hc2 => ?_) (fun hc2 => ?_)
  · have hf := if_t hf hc2
    cases some_ex hf
    exact V_vret hE dX0_lays_68
  · have hf := if_f hf hc2
    refine V_aload_n dX0_lays_19 rfl ?_
    obtain ⟨b3, hb4, hf⟩ := bd1_ex hf
    refine VP_getR (x := some b3) fa_X0_61 h1 rfl rfl hb4 dX0_lays_20 ?_
    refine V_iload_n dX0_lays_23 rfl ?_
    refine V_aload_n dX0_lays_24 rfl ?_
    refine V_iconst dX0_lays_25 ckc_5 ?_
    refine V_aload_n dX0_lays_26 rfl ?_
    obtain ⟨b5, hb6, hf⟩ := bd1_ex hf
    refine VP_getR (x := some b5) fa_X0_51 h1 rfl rfl hb6 dX0_lays_27 ?_
    refine V_iload_n dX0_lays_30 rfl ?_
    obtain ⟨h7, hf⟩ := ck_ex hf
    refine VE_iald h7 rfl dX0_lays_31 ?_
    refine V_iload_n dX0_lays_32 rfl ?_
    refine V_sipush dX0_lays_33 cks_1000 ?_
    obtain ⟨r9, w10, hc8, hf⟩ := bd2_ex hf
    refine V_cV (av := [.int (5 : Int32), .int (hvi w b5 (v3.toNatClampNeg)), .int v1, .int (1000 : Int32)]) (rest := [.int v3, .ref b3]) (st' := [.int r9, .int v3, .ref b3]) (mC_X0_ruleOf_ok _ _ _ _ _ _ _ _ _ _ hc8) vc_X0_375 (kIn1 h1) (by decide) rfl rfl (Nat.le_of_ble_eq_true rfl) dX0_lays_36 rfl ?_
    obtain ⟨h11, hf⟩ := ck_ex hf
    obtain ⟨w12, hs13, hf⟩ := st1_ex hf
    refine VE_iast h11 rfl hs13 dX0_lays_39 ?_
    refine V_aload_n dX0_lays_40 rfl ?_
    obtain ⟨h14, hf⟩ := ck_ex hf
    obtain ⟨b15, hb16, hf⟩ := bd1_ex hf
    refine VP_getR (x := some b15) fa_X0_64 h14 rfl rfl hb16 dX0_lays_41 ?_
    refine V_iload_n dX0_lays_44 rfl ?_
    refine V_aload_n dX0_lays_45 rfl ?_
    refine V_bipush dX0_lays_46 ckb_6 ?_
    refine V_aload_n dX0_lays_48 rfl ?_
    obtain ⟨b17, hb18, hf⟩ := bd1_ex hf
    refine VP_getR (x := some b17) fa_X0_51 h14 rfl rfl hb18 dX0_lays_49 ?_
    refine V_iload_n dX0_lays_52 rfl ?_
    obtain ⟨h19, hf⟩ := ck_ex hf
    refine VE_iald h19 rfl dX0_lays_53 ?_
    refine V_iload_n dX0_lays_54 rfl ?_
    refine V_sipush dX0_lays_55 cks_200 ?_
    obtain ⟨r21, w22, hc20, hf⟩ := bd2_ex hf
    refine V_cV (av := [.int (6 : Int32), .int (hvi w12 b17 (v3.toNatClampNeg)), .int v1, .int (200 : Int32)]) (rest := [.int v3, .ref b15]) (st' := [.int r21, .int v3, .ref b15]) (mC_X0_ruleOf_ok _ _ _ _ _ _ _ _ _ _ hc20) vc_X0_375 (kIn1 h14) (by decide) rfl rfl (Nat.le_of_ble_eq_true rfl) dX0_lays_58 rfl ?_
    obtain ⟨h23, hf⟩ := ck_ex hf
    obtain ⟨w24, hs25, hf⟩ := st1_ex hf
    refine VE_iast h23 rfl hs25 dX0_lays_61 ?_
    refine V_inc (ls' := [some (.ref v0), some (.int v1), none, some (.int (v3 + (1 : Int32)))]) dX0_lays_62 rfl ckc_1 (by decide) rfl ?_
    refine V_goto (tgt := 11) dX0_lays_65 (by decide) ?_
    exact hk11 v0 v1 (v3 + (1 : Int32)) w24 hf
set_option maxHeartbeats 4000000 in
theorem mC_X0_lays_ok (l : Launch) (D : DD) (w : AH) (a : Nat) (p0 : Int32) (p1 : Int32) (w' : AH) (hf : mC_X0_lays a p0 p1 w = some w') : MA l D yX0_lays cX0_lays 4 none 407 [.ref a, .int p0, .int p1] w (.returned none) w' := by
  refine MA.introH (own := RX0) (nm := "lays") (ls := [some (.ref a), some (.int p0), some (.int p1), none]) (by decide) rfl rfl (Nat.le_of_ble_eq_true rfl) rfl (fun X hl hD hE hH => ?_)
  subst hl hD
  unfold mC_X0_lays at hf
  refine V_aload_n dX0_lays_0 rfl ?_
  obtain ⟨h1, hf⟩ := ck_ex hf
  obtain ⟨b2, hb3, hf⟩ := bd1_ex hf
  refine VP_getR (x := some b2) fa_X0_47 h1 rfl rfl hb3 dX0_lays_1 ?_
  refine V_iload_n dX0_lays_4 rfl ?_
  refine V_iload_n dX0_lays_5 rfl ?_
  obtain ⟨h4, hf⟩ := ck_ex hf
  obtain ⟨w6, hc5, hf⟩ := bd1_ex hf
  refine V_cV (av := [.int p0, .int p1]) (rest := []) (st' := []) (mC_X5_looks_ok _ _ _ _ _ _ _ hc5) vc_X0_347 (kIn1 h4) (by decide) rfl rfl (Nat.le_of_ble_eq_true rfl) dX0_lays_6 rfl ?_
  refine V_iconst dX0_lays_9 ckc_0 ?_
  refine V_istore_n (ls' := [some (.ref a), some (.int p0), some (.int p1), some (.int (0 : Int32))]) dX0_lays_10 (by decide) rfl ?_
  refine V_keep [true, true, false, true] rfl ?_
  exact lq4_ex (P := fun v0 v1 v3 w => V X cX0_lays RX0 4 407 w 11 [some (.ref v0), some (.int v1), none, some (.int v3)] []) (fun k hk v0 v1 v3 w hf => mC_X0_lays_11_v hE hH k hk v0 v1 v3 w hf) LF a p0 (0 : Int32) w6 hf
set_option maxHeartbeats 4000000 in
theorem mC_J16_bitCount_ok (l : Launch) (D : DD) (w : AH) (p0 : Int32) (r : Int32) (hf : mC_J16_bitCount p0 = some r) : MA l D yJ16_bitCount cJ16_bitCount 1 (some (.int)) 1 [.int p0] w (.returned (some (.int r))) w := by
  refine MA.introH (own := RJ16) (nm := "bitCount") (ls := [some (.int p0)]) (by decide) rfl rfl (Nat.le_of_ble_eq_true rfl) rfl (fun X hl hD hE hH => ?_)
  subst hl hD
  unfold mC_J16_bitCount at hf
  refine V_iload_n dJ16_bitCount_0 rfl ?_
  refine V_iload_n dJ16_bitCount_1 rfl ?_
  refine V_iconst dJ16_bitCount_2 ckc_1 ?_
  refine V_iushr dJ16_bitCount_3 ?_
  refine V_ldcw q1553 dJ16_bitCount_4 ?_
  refine V_iand dJ16_bitCount_7 ?_
  refine V_isub dJ16_bitCount_8 ?_
  refine V_istore_n (ls' := [some (.int (p0 - (((p0.toUInt32 >>> ((1 : Int32).toUInt32 &&& Int32.toUInt32 31)).toInt32) &&& (1431655765 : Int32))))]) dJ16_bitCount_9 (by decide) rfl ?_
  refine V_iload_n dJ16_bitCount_10 rfl ?_
  refine V_ldcw q1554 dJ16_bitCount_11 ?_
  refine V_iand dJ16_bitCount_14 ?_
  refine V_iload_n dJ16_bitCount_15 rfl ?_
  refine V_iconst dJ16_bitCount_16 ckc_2 ?_
  refine V_iushr dJ16_bitCount_17 ?_
  refine V_ldcw q1554 dJ16_bitCount_18 ?_
  refine V_iand dJ16_bitCount_21 ?_
  refine V_iadd dJ16_bitCount_22 ?_
  refine V_istore_n (ls' := [some (.int (((p0 - (((p0.toUInt32 >>> ((1 : Int32).toUInt32 &&& Int32.toUInt32 31)).toInt32) &&& (1431655765 : Int32))) &&& (858993459 : Int32)) + ((((p0 - (((p0.toUInt32 >>> ((1 : Int32).toUInt32 &&& Int32.toUInt32 31)).toInt32) &&& (1431655765 : Int32))).toUInt32 >>> ((2 : Int32).toUInt32 &&& Int32.toUInt32 31)).toInt32) &&& (858993459 : Int32))))]) dJ16_bitCount_23 (by decide) rfl ?_
  refine V_iload_n dJ16_bitCount_24 rfl ?_
  refine V_iload_n dJ16_bitCount_25 rfl ?_
  refine V_iconst dJ16_bitCount_26 ckc_4 ?_
  refine V_iushr dJ16_bitCount_27 ?_
  refine V_iadd dJ16_bitCount_28 ?_
  refine V_ldcw q1555 dJ16_bitCount_29 ?_
  refine V_iand dJ16_bitCount_32 ?_
  refine V_istore_n (ls' := [some (.int (((((p0 - (((p0.toUInt32 >>> ((1 : Int32).toUInt32 &&& Int32.toUInt32 31)).toInt32) &&& (1431655765 : Int32))) &&& (858993459 : Int32)) + ((((p0 - (((p0.toUInt32 >>> ((1 : Int32).toUInt32 &&& Int32.toUInt32 31)).toInt32) &&& (1431655765 : Int32))).toUInt32 >>> ((2 : Int32).toUInt32 &&& Int32.toUInt32 31)).toInt32) &&& (858993459 : Int32))) + (((((p0 - (((p0.toUInt32 >>> ((1 : Int32).toUInt32 &&& Int32.toUInt32 31)).toInt32) &&& (1431655765 : Int32))) &&& (858993459 : Int32)) + ((((p0 - (((p0.toUInt32 >>> ((1 : Int32).toUInt32 &&& Int32.toUInt32 31)).toInt32) &&& (1431655765 : Int32))).toUInt32 >>> ((2 : Int32).toUInt32 &&& Int32.toUInt32 31)).toInt32) &&& (858993459 : Int32))).toUInt32 >>> ((4 : Int32).toUInt32 &&& Int32.toUInt32 31)).toInt32)) &&& (252645135 : Int32)))]) dJ16_bitCount_33 (by decide) rfl ?_
  refine V_iload_n dJ16_bitCount_34 rfl ?_
  refine V_iload_n dJ16_bitCount_35 rfl ?_
  refine V_bipush dJ16_bitCount_36 ckb_8 ?_
  refine V_iushr dJ16_bitCount_38 ?_
  refine V_iadd dJ16_bitCount_39 ?_
  refine V_istore_n (ls' := [some (.int ((((((p0 - (((p0.toUInt32 >>> ((1 : Int32).toUInt32 &&& Int32.toUInt32 31)).toInt32) &&& (1431655765 : Int32))) &&& (858993459 : Int32)) + ((((p0 - (((p0.toUInt32 >>> ((1 : Int32).toUInt32 &&& Int32.toUInt32 31)).toInt32) &&& (1431655765 : Int32))).toUInt32 >>> ((2 : Int32).toUInt32 &&& Int32.toUInt32 31)).toInt32) &&& (858993459 : Int32))) + (((((p0 - (((p0.toUInt32 >>> ((1 : Int32).toUInt32 &&& Int32.toUInt32 31)).toInt32) &&& (1431655765 : Int32))) &&& (858993459 : Int32)) + ((((p0 - (((p0.toUInt32 >>> ((1 : Int32).toUInt32 &&& Int32.toUInt32 31)).toInt32) &&& (1431655765 : Int32))).toUInt32 >>> ((2 : Int32).toUInt32 &&& Int32.toUInt32 31)).toInt32) &&& (858993459 : Int32))).toUInt32 >>> ((4 : Int32).toUInt32 &&& Int32.toUInt32 31)).toInt32)) &&& (252645135 : Int32)) + (((((((p0 - (((p0.toUInt32 >>> ((1 : Int32).toUInt32 &&& Int32.toUInt32 31)).toInt32) &&& (1431655765 : Int32))) &&& (858993459 : Int32)) + ((((p0 - (((p0.toUInt32 >>> ((1 : Int32).toUInt32 &&& Int32.toUInt32 31)).toInt32) &&& (1431655765 : Int32))).toUInt32 >>> ((2 : Int32).toUInt32 &&& Int32.toUInt32 31)).toInt32) &&& (858993459 : Int32))) + (((((p0 - (((p0.toUInt32 >>> ((1 : Int32).toUInt32 &&& Int32.toUInt32 31)).toInt32) &&& (1431655765 : Int32))) &&& (858993459 : Int32)) + ((((p0 - (((p0.toUInt32 >>> ((1 : Int32).toUInt32 &&& Int32.toUInt32 31)).toInt32) &&& (1431655765 : Int32))).toUInt32 >>> ((2 : Int32).toUInt32 &&& Int32.toUInt32 31)).toInt32) &&& (858993459 : Int32))).toUInt32 >>> ((4 : Int32).toUInt32 &&& Int32.toUInt32 31)).toInt32)) &&& (252645135 : Int32)).toUInt32 >>> ((8 : Int32).toUInt32 &&& Int32.toUInt32 31)).toInt32)))]) dJ16_bitCount_40 (by decide) rfl ?_
  refine V_iload_n dJ16_bitCount_41 rfl ?_
  refine V_iload_n dJ16_bitCount_42 rfl ?_
  refine V_bipush dJ16_bitCount_43 ckb_16 ?_
  refine V_iushr dJ16_bitCount_45 ?_
  refine V_iadd dJ16_bitCount_46 ?_
  refine V_istore_n (ls' := [some (.int (((((((p0 - (((p0.toUInt32 >>> ((1 : Int32).toUInt32 &&& Int32.toUInt32 31)).toInt32) &&& (1431655765 : Int32))) &&& (858993459 : Int32)) + ((((p0 - (((p0.toUInt32 >>> ((1 : Int32).toUInt32 &&& Int32.toUInt32 31)).toInt32) &&& (1431655765 : Int32))).toUInt32 >>> ((2 : Int32).toUInt32 &&& Int32.toUInt32 31)).toInt32) &&& (858993459 : Int32))) + (((((p0 - (((p0.toUInt32 >>> ((1 : Int32).toUInt32 &&& Int32.toUInt32 31)).toInt32) &&& (1431655765 : Int32))) &&& (858993459 : Int32)) + ((((p0 - (((p0.toUInt32 >>> ((1 : Int32).toUInt32 &&& Int32.toUInt32 31)).toInt32) &&& (1431655765 : Int32))).toUInt32 >>> ((2 : Int32).toUInt32 &&& Int32.toUInt32 31)).toInt32) &&& (858993459 : Int32))).toUInt32 >>> ((4 : Int32).toUInt32 &&& Int32.toUInt32 31)).toInt32)) &&& (252645135 : Int32)) + (((((((p0 - (((p0.toUInt32 >>> ((1 : Int32).toUInt32 &&& Int32.toUInt32 31)).toInt32) &&& (1431655765 : Int32))) &&& (858993459 : Int32)) + ((((p0 - (((p0.toUInt32 >>> ((1 : Int32).toUInt32 &&& Int32.toUInt32 31)).toInt32) &&& (1431655765 : Int32))).toUInt32 >>> ((2 : Int32).toUInt32 &&& Int32.toUInt32 31)).toInt32) &&& (858993459 : Int32))) + (((((p0 - (((p0.toUInt32 >>> ((1 : Int32).toUInt32 &&& Int32.toUInt32 31)).toInt32) &&& (1431655765 : Int32))) &&& (858993459 : Int32)) + ((((p0 - (((p0.toUInt32 >>> ((1 : Int32).toUInt32 &&& Int32.toUInt32 31)).toInt32) &&& (1431655765 : Int32))).toUInt32 >>> ((2 : Int32).toUInt32 &&& Int32.toUInt32 31)).toInt32) &&& (858993459 : Int32))).toUInt32 >>> ((4 : Int32).toUInt32 &&& Int32.toUInt32 31)).toInt32)) &&& (252645135 : Int32)).toUInt32 >>> ((8 : Int32).toUInt32 &&& Int32.toUInt32 31)).toInt32)) + ((((((((p0 - (((p0.toUInt32 >>> ((1 : Int32).toUInt32 &&& Int32.toUInt32 31)).toInt32) &&& (1431655765 : Int32))) &&& (858993459 : Int32)) + ((((p0 - (((p0.toUInt32 >>> ((1 : Int32).toUInt32 &&& Int32.toUInt32 31)).toInt32) &&& (1431655765 : Int32))).toUInt32 >>> ((2 : Int32).toUInt32 &&& Int32.toUInt32 31)).toInt32) &&& (858993459 : Int32))) + (((((p0 - (((p0.toUInt32 >>> ((1 : Int32).toUInt32 &&& Int32.toUInt32 31)).toInt32) &&& (1431655765 : Int32))) &&& (858993459 : Int32)) + ((((p0 - (((p0.toUInt32 >>> ((1 : Int32).toUInt32 &&& Int32.toUInt32 31)).toInt32) &&& (1431655765 : Int32))).toUInt32 >>> ((2 : Int32).toUInt32 &&& Int32.toUInt32 31)).toInt32) &&& (858993459 : Int32))).toUInt32 >>> ((4 : Int32).toUInt32 &&& Int32.toUInt32 31)).toInt32)) &&& (252645135 : Int32)) + (((((((p0 - (((p0.toUInt32 >>> ((1 : Int32).toUInt32 &&& Int32.toUInt32 31)).toInt32) &&& (1431655765 : Int32))) &&& (858993459 : Int32)) + ((((p0 - (((p0.toUInt32 >>> ((1 : Int32).toUInt32 &&& Int32.toUInt32 31)).toInt32) &&& (1431655765 : Int32))).toUInt32 >>> ((2 : Int32).toUInt32 &&& Int32.toUInt32 31)).toInt32) &&& (858993459 : Int32))) + (((((p0 - (((p0.toUInt32 >>> ((1 : Int32).toUInt32 &&& Int32.toUInt32 31)).toInt32) &&& (1431655765 : Int32))) &&& (858993459 : Int32)) + ((((p0 - (((p0.toUInt32 >>> ((1 : Int32).toUInt32 &&& Int32.toUInt32 31)).toInt32) &&& (1431655765 : Int32))).toUInt32 >>> ((2 : Int32).toUInt32 &&& Int32.toUInt32 31)).toInt32) &&& (858993459 : Int32))).toUInt32 >>> ((4 : Int32).toUInt32 &&& Int32.toUInt32 31)).toInt32)) &&& (252645135 : Int32)).toUInt32 >>> ((8 : Int32).toUInt32 &&& Int32.toUInt32 31)).toInt32)).toUInt32 >>> ((16 : Int32).toUInt32 &&& Int32.toUInt32 31)).toInt32)))]) dJ16_bitCount_47 (by decide) rfl ?_
  refine V_iload_n dJ16_bitCount_48 rfl ?_
  refine V_bipush dJ16_bitCount_49 ckb_63 ?_
  refine V_iand dJ16_bitCount_51 ?_
  cases some_ex hf
  exact V_iret hE dJ16_bitCount_52
set_option maxHeartbeats 4000000 in
theorem mC_X1_far_ok (l : Launch) (D : DD) (w : AH) (a : Nat) (p0 : Int32) (p1 : Int32) (r : Int32) (hf : mC_X1_far a p0 p1 w = some r) : MA l D yX1_far cX1_far 3 (some (.int)) 1 [.ref a, .int p0, .int p1] w (.returned (some (.int r))) w := by
  refine MA.introH (own := RX1) (nm := "far") (ls := [some (.ref a), some (.int p0), some (.int p1)]) (by decide) rfl rfl (Nat.le_of_ble_eq_true rfl) rfl (fun X hl hD hE hH => ?_)
  subst hl hD
  unfold mC_X1_far at hf
  refine V_aload_n dX1_far_0 rfl ?_
  obtain ⟨h1, hf⟩ := ck_ex hf
  obtain ⟨b2, hb3, hf⟩ := bd1_ex hf
  refine VP_getR (x := some b2) fa_X1_39 h1 rfl rfl hb3 dX1_far_1 ?_
  refine V_iload_n dX1_far_4 rfl ?_
  obtain ⟨h4, hf⟩ := ck_ex hf
  refine VE_iald h4 rfl dX1_far_5 ?_
  refine V_aload_n dX1_far_6 rfl ?_
  refine VP_getR (x := some b2) fa_X1_39 h1 rfl rfl hb3 dX1_far_7 ?_
  refine V_iload_n dX1_far_10 rfl ?_
  obtain ⟨h5, hf⟩ := ck_ex hf
  refine VE_iald h5 rfl dX1_far_11 ?_
  refine V_isub dX1_far_12 ?_
  obtain ⟨r6, hm7, hf⟩ := st1_ex hf
  refine V_mabs q1568 q982 q147 q983 (by decide) (Nat.le_of_ble_eq_true rfl) dX1_far_13 ?_
  rw [hm7]
  refine V_aload_n dX1_far_16 rfl ?_
  obtain ⟨b8, hb9, hf⟩ := bd1_ex hf
  refine VP_getR (x := some b8) fa_X1_42 h1 rfl rfl hb9 dX1_far_17 ?_
  refine V_iload_n dX1_far_20 rfl ?_
  obtain ⟨h10, hf⟩ := ck_ex hf
  refine VE_iald h10 rfl dX1_far_21 ?_
  refine V_aload_n dX1_far_22 rfl ?_
  refine VP_getR (x := some b8) fa_X1_42 h1 rfl rfl hb9 dX1_far_23 ?_
  refine V_iload_n dX1_far_26 rfl ?_
  obtain ⟨h11, hf⟩ := ck_ex hf
  refine VE_iald h11 rfl dX1_far_27 ?_
  refine V_isub dX1_far_28 ?_
  obtain ⟨r12, hm13, hf⟩ := st1_ex hf
  refine V_mabs q1568 q982 q147 q983 (by decide) (Nat.le_of_ble_eq_true rfl) dX1_far_29 ?_
  rw [hm13]
  refine V_iadd dX1_far_32 ?_
  cases some_ex hf
  exact V_iret hE dX1_far_33
set_option maxHeartbeats 4000000 in
theorem mB_X0_leads_185_v {X : CX} {w0 : AH} {dR : Nat} {w' : AH}  (r_X0_leads : Nat → Int32 → Int32 → Int32 → AH → Option (AH)) (hr_X0_leads : ∀ (w : AH) (a : Nat) (p0 : Int32) (p1 : Int32) (p2 : Int32) (w' : AH) , r_X0_leads a p0 p1 p2 w = some w' → MA (xl X) (xD X) yX0_leads cX0_leads 7 none dR [.ref a, .int p0, .int p1, .int p2] w (.returned none) w') (hext : 1 ≤ dR) (hE : XE X w0 (dR + 1) none "leads" (.returned none) w') (hH : XH X []) (k67 : Nat → Int32 → Int32 → Int32 → Int32 → Int32 → AH → Option (AH)) (hk67 : ∀ (v0 : Nat) (v1 : Int32) (v2 : Int32) (v3 : Int32) (v4 : Int32) (v5 : Int32) (w : AH), k67 v0 v1 v2 v3 v4 v5 w = some w' → V X cX0_leads RX0 7 (dR + 1) w 67 [some (.ref v0), some (.int v1), some (.int v2), some (.int v3), some (.int v4), some (.int v5), none] []) (v0 : Nat) (v1 : Int32) (v2 : Int32) (v3 : Int32) (v4 : Int32) (v5 : Int32) (w : AH) (hf : mB_X0_leads_185 r_X0_leads k67 v0 v1 v2 v3 v4 v5 w = some w') : V X cX0_leads RX0 7 (dR + 1) w 185 [some (.ref v0), some (.int v1), some (.int v2), some (.int v3), some (.int v4), some (.int v5), none] [] := by
  unfold mB_X0_leads_185 at hf
  refine V_inc (ls' := [some (.ref v0), some (.int v1), some (.int v2), some (.int v3), some (.int v4), some (.int (v5 + (1 : Int32))), none]) dX0_leads_185 rfl ckc_1 (by decide) rfl ?_
  refine V_goto (tgt := 67) dX0_leads_188 (by decide) ?_
  exact hk67 v0 v1 v2 v3 v4 (v5 + (1 : Int32)) w hf
set_option maxHeartbeats 4000000 in
theorem mB_X0_leads_67_v {X : CX} {w0 : AH} {dR : Nat} {w' : AH}  (r_X0_leads : Nat → Int32 → Int32 → Int32 → AH → Option (AH)) (hr_X0_leads : ∀ (w : AH) (a : Nat) (p0 : Int32) (p1 : Int32) (p2 : Int32) (w' : AH) , r_X0_leads a p0 p1 p2 w = some w' → MA (xl X) (xD X) yX0_leads cX0_leads 7 none dR [.ref a, .int p0, .int p1, .int p2] w (.returned none) w') (hext : 1 ≤ dR) (hE : XE X w0 (dR + 1) none "leads" (.returned none) w') (hH : XH X []) (k67 : Nat → Int32 → Int32 → Int32 → Int32 → Int32 → AH → Option (AH)) (hk67 : ∀ (v0 : Nat) (v1 : Int32) (v2 : Int32) (v3 : Int32) (v4 : Int32) (v5 : Int32) (w : AH), k67 v0 v1 v2 v3 v4 v5 w = some w' → V X cX0_leads RX0 7 (dR + 1) w 67 [some (.ref v0), some (.int v1), some (.int v2), some (.int v3), some (.int v4), some (.int v5), none] []) (v0 : Nat) (v1 : Int32) (v2 : Int32) (v3 : Int32) (v4 : Int32) (v5 : Int32) (w : AH) (hf : mB_X0_leads_67 r_X0_leads k67 v0 v1 v2 v3 v4 v5 w = some w') : V X cX0_leads RX0 7 (dR + 1) w 67 [some (.ref v0), some (.int v1), some (.int v2), some (.int v3), some (.int v4), some (.int v5), none] [] := by
  unfold mB_X0_leads_67 at hf
  refine V_iload dX0_leads_67 rfl ?_
  refine V_aload_n dX0_leads_69 rfl ?_
  obtain ⟨h1, hf⟩ := ck_ex hf
  refine VP_getI fa_X0_379 h1 rfl dX0_leads_70 ?_
  refine V_icmp_ge (tgt := 191) dX0_leads_73 (by decide) (fun hc2 => ?_) (fun hc2 => ?_)
  · have hf := if_t hf hc2
    cases some_ex hf
    exact V_vret hE dX0_leads_191
  · have hf := if_f hf hc2
    refine V_aload_n dX0_leads_76 rfl ?_
    obtain ⟨b3, hb4, hf⟩ := bd1_ex hf
    refine VP_getR (x := some b3) fa_X0_10 h1 rfl rfl hb4 dX0_leads_77 ?_
    refine V_aload_n dX0_leads_80 rfl ?_
    obtain ⟨b5, hb6, hf⟩ := bd1_ex hf
    refine VP_getR (x := some b5) fa_X0_51 h1 rfl rfl hb6 dX0_leads_81 ?_
    refine V_iload_n dX0_leads_84 rfl ?_
    obtain ⟨h7, hf⟩ := ck_ex hf
    refine VE_iald h7 rfl dX0_leads_85 ?_
    refine V_aload_n dX0_leads_86 rfl ?_
    refine VP_getR (x := some b5) fa_X0_51 h1 rfl rfl hb6 dX0_leads_87 ?_
    refine V_iload dX0_leads_90 rfl ?_
    obtain ⟨h8, hf⟩ := ck_ex hf
    refine VE_iald h8 rfl dX0_leads_92 ?_
    obtain ⟨h9, hf⟩ := ck_ex hf
    obtain ⟨r11, hc10, hf⟩ := bd1_ex hf
    refine V_cV (av := [.int (hvi w b5 (v1.toNatClampNeg)), .int (hvi w b5 (v5.toNatClampNeg))]) (rest := []) (st' := [.int r11]) (mC_X1_far_ok _ _ _ _ _ _ _ hc10) vc_X0_385 (kIn1 h9) (by omega) rfl rfl (Nat.le_of_ble_eq_true rfl) dX0_leads_93 rfl ?_
    refine V_istore (ls' := [some (.ref v0), some (.int v1), some (.int v2), some (.int v3), some (.int v4), some (.int v5), some (.int r11)]) dX0_leads_96 (by decide) rfl ?_
    refine V_iload_n dX0_leads_98 rfl ?_
    refine V_iload dX0_leads_99 rfl ?_
    refine V_ishr dX0_leads_101 ?_
    refine V_iconst dX0_leads_102 ckc_1 ?_
    refine V_iand dX0_leads_103 ?_
    refine V_if_eq (tgt := 185) dX0_leads_104 (by decide) (fun hc12 => ?_) (fun hc12 => ?_)
    · have hf := if_t hf hc12
      refine V_keep [true, true, true, true, true, true, false] rfl ?_
      exact mB_X0_leads_185_v r_X0_leads hr_X0_leads hext hE hH k67 hk67 v0 v1 v2 v3 v4 v5 w hf
    · have hf := if_f hf hc12
      refine V_iload dX0_leads_107 rfl ?_
      refine V_aload_n dX0_leads_109 rfl ?_
      obtain ⟨b13, hb14, hf⟩ := bd1_ex hf
      refine VP_getR (x := some b13) fa_X0_64 h1 rfl rfl hb14 dX0_leads_110 ?_
      refine V_iload_n dX0_leads_113 rfl ?_
      obtain ⟨h15, hf⟩ := ck_ex hf
      refine VE_iald h15 rfl dX0_leads_114 ?_
      refine V_icmp_gt (tgt := 185) dX0_leads_115 (by decide) (fun hc16 => ?_) (fun hc16 => ?_)
      · have hf := if_t hf hc16
        refine V_keep [true, true, true, true, true, true, false] rfl ?_
        exact mB_X0_leads_185_v r_X0_leads hr_X0_leads hext hE hH k67 hk67 v0 v1 v2 v3 v4 v5 w hf
      · have hf := if_f hf hc16
        refine V_aload_n dX0_leads_118 rfl ?_
        obtain ⟨b17, hb18, hf⟩ := bd1_ex hf
        refine VP_getR (x := some b17) fa_X0_67 h1 rfl rfl hb18 dX0_leads_119 ?_
        refine V_iload dX0_leads_122 rfl ?_
        obtain ⟨h19, hf⟩ := ck_ex hf
        refine VE_iald h19 rfl dX0_leads_124 ?_
        refine V_iload dX0_leads_125 rfl ?_
        refine V_iadd dX0_leads_127 ?_
        refine V_aload_n dX0_leads_128 rfl ?_
        obtain ⟨b20, hb21, hf⟩ := bd1_ex hf
        refine VP_getR (x := some b20) fa_X0_61 h1 rfl rfl hb21 dX0_leads_129 ?_
        refine V_iload dX0_leads_132 rfl ?_
        obtain ⟨h22, hf⟩ := ck_ex hf
        refine VE_iald h22 rfl dX0_leads_134 ?_
        refine V_icmp_le (tgt := 141) dX0_leads_135 (by decide) (fun hc23 => ?_) (fun hc23 => ?_)
        · have hf := if_t hf hc23
          refine V_aload_n dX0_leads_141 rfl ?_
          refine VP_getR (x := some b17) fa_X0_67 h1 rfl rfl hb18 dX0_leads_142 ?_
          refine V_iload dX0_leads_145 rfl ?_
          refine V_dup2 dX0_leads_147 rfl rfl ?_
          refine VE_iald h19 rfl dX0_leads_148 ?_
          refine V_iload dX0_leads_149 rfl ?_
          refine V_iadd dX0_leads_151 ?_
          obtain ⟨w24, hs25, hf⟩ := st1_ex hf
          refine VE_iast h19 rfl hs25 dX0_leads_152 ?_
          refine V_aload_n dX0_leads_153 rfl ?_
          obtain ⟨h26, hf⟩ := ck_ex hf
          obtain ⟨b27, hb28, hf⟩ := bd1_ex hf
          refine VP_getR (x := some b27) fa_X0_70 h26 rfl rfl hb28 dX0_leads_154 ?_
          refine V_iload_n dX0_leads_157 rfl ?_
          refine V_iload dX0_leads_158 rfl ?_
          obtain ⟨h29, hf⟩ := ck_ex hf
          obtain ⟨w30, hs31, hf⟩ := st1_ex hf
          refine VE_iast h29 rfl hs31 dX0_leads_160 ?_
          refine V_aload_n dX0_leads_161 rfl ?_
          refine V_iload_n dX0_leads_162 rfl ?_
          refine V_iconst dX0_leads_163 ckc_1 ?_
          refine V_iadd dX0_leads_164 ?_
          refine V_iload_n dX0_leads_165 rfl ?_
          refine V_iload_n dX0_leads_166 rfl ?_
          refine V_iload dX0_leads_167 rfl ?_
          refine V_iadd dX0_leads_169 ?_
          obtain ⟨h32, hf⟩ := ck_ex hf
          obtain ⟨w34, hc33, hf⟩ := bd1_ex hf
          refine V_cV (av := [.int (v1 + (1 : Int32)), .int v2, .int (v3 + r11)]) (rest := []) (st' := []) (hr_X0_leads _ _ _ _ _ _ hc33) vc_X0_387 (kIn1 h32) (by omega) rfl rfl (Nat.le_of_ble_eq_true rfl) dX0_leads_170 rfl ?_
          refine V_aload_n dX0_leads_173 rfl ?_
          obtain ⟨h35, hf⟩ := ck_ex hf
          obtain ⟨b36, hb37, hf⟩ := bd1_ex hf
          refine VP_getR (x := some b36) fa_X0_67 h35 rfl rfl hb37 dX0_leads_174 ?_
          refine V_iload dX0_leads_177 rfl ?_
          refine V_dup2 dX0_leads_179 rfl rfl ?_
          obtain ⟨h38, hf⟩ := ck_ex hf
          refine VE_iald h38 rfl dX0_leads_180 ?_
          refine V_iload dX0_leads_181 rfl ?_
          refine V_isub dX0_leads_183 ?_
          obtain ⟨w39, hs40, hf⟩ := st1_ex hf
          refine VE_iast h38 rfl hs40 dX0_leads_184 ?_
          refine V_keep [true, true, true, true, true, true, false] rfl ?_
          exact mB_X0_leads_185_v r_X0_leads hr_X0_leads hext hE hH k67 hk67 v0 v1 v2 v3 v4 v5 w39 hf
        · have hf := if_f hf hc23
          refine V_goto (tgt := 185) dX0_leads_138 (by decide) ?_
          refine V_keep [true, true, true, true, true, true, false] rfl ?_
          exact mB_X0_leads_185_v r_X0_leads hr_X0_leads hext hE hH k67 hk67 v0 v1 v2 v3 v4 v5 w hf
set_option maxHeartbeats 4000000 in
theorem mB_X0_leads_17_v {X : CX} {w0 : AH} {dR : Nat} {w' : AH}  (r_X0_leads : Nat → Int32 → Int32 → Int32 → AH → Option (AH)) (hr_X0_leads : ∀ (w : AH) (a : Nat) (p0 : Int32) (p1 : Int32) (p2 : Int32) (w' : AH) , r_X0_leads a p0 p1 p2 w = some w' → MA (xl X) (xD X) yX0_leads cX0_leads 7 none dR [.ref a, .int p0, .int p1, .int p2] w (.returned none) w') (hext : 1 ≤ dR) (hE : XE X w0 (dR + 1) none "leads" (.returned none) w') (hH : XH X []) (v0 : Nat) (v1 : Int32) (v2 : Int32) (v3 : Int32) (w : AH) (hf : mB_X0_leads_17 r_X0_leads v0 v1 v2 v3 w = some w') : V X cX0_leads RX0 7 (dR + 1) w 17 [some (.ref v0), some (.int v1), some (.int v2), some (.int v3), none, none, none] [] := by
  unfold mB_X0_leads_17 at hf
  refine V_iload_n dX0_leads_17 rfl ?_
  refine V_aload_n dX0_leads_18 rfl ?_
  obtain ⟨h1, hf⟩ := ck_ex hf
  refine VP_getI fa_X0_379 h1 rfl dX0_leads_19 ?_
  refine V_icmp_ne (tgt := 48) dX0_leads_22 (by decide) (fun hc2 => ?_) (fun hc2 => ?_)
  · have hf := if_f hf hc2
    refine V_aload_n dX0_leads_48 rfl ?_
    obtain ⟨b3, hb4, hf⟩ := bd1_ex hf
    refine VP_getR (x := some b3) fa_X0_47 h1 rfl rfl hb4 dX0_leads_49 ?_
    obtain ⟨h5, hf⟩ := ck_ex hf
    obtain ⟨b6, hb7, hf⟩ := bd1_ex hf
    refine VP_getR (x := some b6) fa_X0_344 h5 rfl rfl hb7 dX0_leads_52 ?_
    refine V_aload_n dX0_leads_55 rfl ?_
    obtain ⟨b8, hb9, hf⟩ := bd1_ex hf
    refine VP_getR (x := some b8) fa_X0_51 h1 rfl rfl hb9 dX0_leads_56 ?_
    refine V_iload_n dX0_leads_59 rfl ?_
    obtain ⟨h10, hf⟩ := ck_ex hf
    refine VE_iald h10 rfl dX0_leads_60 ?_
    obtain ⟨h11, hf⟩ := ck_ex hf
    refine VE_iald h11 rfl dX0_leads_61 ?_
    refine V_istore (ls' := [some (.ref v0), some (.int v1), some (.int v2), some (.int v3), some (.int (hvi w b6 ((hvi w b8 (v1.toNatClampNeg)).toNatClampNeg))), none, none]) dX0_leads_62 (by decide) rfl ?_
    refine V_iconst dX0_leads_64 ckc_0 ?_
    refine V_istore (ls' := [some (.ref v0), some (.int v1), some (.int v2), some (.int v3), some (.int (hvi w b6 ((hvi w b8 (v1.toNatClampNeg)).toNatClampNeg))), some (.int (0 : Int32)), none]) dX0_leads_65 (by decide) rfl ?_
    exact lq7_ex (P := fun v0 v1 v2 v3 v4 v5 w => V X cX0_leads RX0 7 (dR + 1) w 67 [some (.ref v0), some (.int v1), some (.int v2), some (.int v3), some (.int v4), some (.int v5), none] []) (fun k hk v0 v1 v2 v3 v4 v5 w hf => mB_X0_leads_67_v r_X0_leads hr_X0_leads hext hE hH k hk v0 v1 v2 v3 v4 v5 w hf) LF v0 v1 v2 v3 (hvi w b6 ((hvi w b8 (v1.toNatClampNeg)).toNatClampNeg)) (0 : Int32) w hf
  · have hf := if_t hf hc2
    refine V_aload_n dX0_leads_25 rfl ?_
    refine V_iload_n dX0_leads_26 rfl ?_
    obtain ⟨w12, hs13, hf⟩ := st1_ex hf
    refine VE_putI fw_X0_382 h1 rfl rfl rfl hs13 dX0_leads_27 ?_
    refine V_aload_n dX0_leads_30 rfl ?_
    obtain ⟨h14, hf⟩ := ck_ex hf
    obtain ⟨b15, hb16, hf⟩ := bd1_ex hf
    refine VP_getR (x := some b15) fa_X0_70 h14 rfl rfl hb16 dX0_leads_31 ?_
    refine V_iconst dX0_leads_34 ckc_0 ?_
    refine V_aload_n dX0_leads_35 rfl ?_
    obtain ⟨b17, hb18, hf⟩ := bd1_ex hf
    refine VP_getR (x := some b17) fa_X0_73 h14 rfl rfl hb18 dX0_leads_36 ?_
    refine V_iconst dX0_leads_39 ckc_0 ?_
    refine V_aload_n dX0_leads_40 rfl ?_
    refine VP_getI fa_X0_379 h14 rfl dX0_leads_41 ?_
    obtain ⟨h19, hf⟩ := ck_ex hf
    obtain ⟨h20, hf⟩ := ck_ex hf
    obtain ⟨h21, hf⟩ := ck_ex hf
    obtain ⟨w22, hs23, hf⟩ := st1_ex hf
    refine VE_cpyI q876 q730 q729 q149 (hk_mk h19) (hk_mk h20) h21 hs23 (by omega) (Nat.le_of_ble_eq_true rfl) dX0_leads_44 ?_
    cases some_ex hf
    exact V_vret hE dX0_leads_47
set_option maxHeartbeats 4000000 in
theorem mB_X0_leads_ok (l : Launch) (D : DD) (dR : Nat) (r_X0_leads : Nat → Int32 → Int32 → Int32 → AH → Option (AH)) (hr_X0_leads : ∀ (w : AH) (a : Nat) (p0 : Int32) (p1 : Int32) (p2 : Int32) (w' : AH) , r_X0_leads a p0 p1 p2 w = some w' → MA l D yX0_leads cX0_leads 7 none dR [.ref a, .int p0, .int p1, .int p2] w (.returned none) w') (hext : 1 ≤ dR) (w : AH) (a : Nat) (p0 : Int32) (p1 : Int32) (p2 : Int32) (w' : AH) (hf : mB_X0_leads r_X0_leads a p0 p1 p2 w = some w') : MA l D yX0_leads cX0_leads 7 none (dR + 1) [.ref a, .int p0, .int p1, .int p2] w (.returned none) w' := by
  refine MA.introH (own := RX0) (nm := "leads") (ls := [some (.ref a), some (.int p0), some (.int p1), some (.int p2), none, none, none]) (by decide) rfl rfl (Nat.le_of_ble_eq_true rfl) rfl (fun X hl hD hE hH => ?_)
  subst hl hD
  unfold mB_X0_leads at hf
  refine V_aload_n dX0_leads_0 rfl ?_
  obtain ⟨h1, hf⟩ := ck_ex hf
  refine VP_getI fa_X0_382 h1 rfl dX0_leads_1 ?_
  refine V_iconst dX0_leads_4 ckc_m1 ?_
  refine V_icmp_eq (tgt := 17) dX0_leads_5 (by decide) (fun hc2 => ?_) (fun hc2 => ?_)
  · have hf := if_t hf hc2
    exact mB_X0_leads_17_v r_X0_leads hr_X0_leads hext hE hH a p0 p1 p2 w hf
  · have hf := if_f hf hc2
    refine V_iload_n dX0_leads_8 rfl ?_
    refine V_aload_n dX0_leads_9 rfl ?_
    refine VP_getI fa_X0_382 h1 rfl dX0_leads_10 ?_
    refine V_icmp_lt (tgt := 17) dX0_leads_13 (by decide) (fun hc3 => ?_) (fun hc3 => ?_)
    · have hf := if_t hf hc3
      exact mB_X0_leads_17_v r_X0_leads hr_X0_leads hext hE hH a p0 p1 p2 w hf
    · have hf := if_f hf hc3
      cases some_ex hf
      exact V_vret hE dX0_leads_16
set_option maxHeartbeats 4000000 in
theorem mG_leads_ok (l : Launch) (D : DD) : ∀ n : Nat, (∀ (w : AH) (a : Nat) (p0 : Int32) (p1 : Int32) (p2 : Int32) (w' : AH) , mC_X0_leads n a p0 p1 p2 w = some w' → MA l D yX0_leads cX0_leads 7 none (1 + n) [.ref a, .int p0, .int p1, .int p2] w (.returned none) w')
  | 0 => fun _ _ _ _ _ _ hf => (by cases hf)
  | n + 1 => by
    have ih := mG_leads_ok l D n
    exact fun x0 x1 x2 x3 x4 x5 hf => mB_X0_leads_ok l D (1 + n) _ ih (by omega) x0 x1 x2 x3 x4 x5 hf
set_option maxHeartbeats 4000000 in
theorem mC_X0_leads_ok (l : Launch) (D : DD) (n : Nat) : ∀ (w : AH) (a : Nat) (p0 : Int32) (p1 : Int32) (p2 : Int32) (w' : AH) , mC_X0_leads n a p0 p1 p2 w = some w' → MA l D yX0_leads cX0_leads 7 none (1 + n) [.ref a, .int p0, .int p1, .int p2] w (.returned none) w' := mG_leads_ok l D n
set_option maxHeartbeats 4000000 in
theorem mC_X0_sumOf_7_v {X : CX} {w0 : AH} {r : Int32} {w' : AH}  (hE : XE X w0 202 (some (.int)) "sumOf" (.returned (some (.int r))) w') (hH : XH X []) (k7 : Nat → Int32 → Int32 → AH → Option (Int32 × AH)) (hk7 : ∀ (v0 : Nat) (v1 : Int32) (v2 : Int32) (w : AH), k7 v0 v1 v2 w = some (r, w') → V X cX0_sumOf RX0 3 202 w 7 [some (.ref v0), some (.int v1), some (.int v2)] []) (v0 : Nat) (v1 : Int32) (v2 : Int32) (w : AH) (hf : mC_X0_sumOf_7 k7 v0 v1 v2 w = some (r, w')) : V X cX0_sumOf RX0 3 202 w 7 [some (.ref v0), some (.int v1), some (.int v2)] [] := by
  unfold mC_X0_sumOf_7 at hf
  refine V_iload_n dX0_sumOf_7 rfl ?_
  refine V_aload_n dX0_sumOf_8 rfl ?_
  obtain ⟨h1, hf⟩ := ck_ex hf
  refine VP_getI fa_X0_379 h1 rfl dX0_sumOf_9 ?_
  refine V_icmp_ge (tgt := 28) dX0_sumOf_12 (by decide) (fun hc2 => ?_) (fun hc2 => ?_)
  · have hf := if_t hf hc2
    refine V_aload_n dX0_sumOf_28 rfl ?_
    refine V_iconst dX0_sumOf_29 ckc_0 ?_
    refine V_iload_n dX0_sumOf_30 rfl ?_
    refine V_iconst dX0_sumOf_31 ckc_0 ?_
    obtain ⟨w4, hc3, hf⟩ := bd1_ex hf
    refine V_cV (av := [.int (0 : Int32), .int v1, .int (0 : Int32)]) (rest := []) (st' := []) (mC_X0_leads_ok _ _ 200 _ _ _ _ _ _ hc3) vc_X0_387 (kIn1 h1) (by decide) rfl rfl (Nat.le_of_ble_eq_true rfl) dX0_sumOf_32 rfl ?_
    refine V_aload_n dX0_sumOf_35 rfl ?_
    obtain ⟨h5, hf⟩ := ck_ex hf
    refine VP_getI fa_X0_382 h5 rfl dX0_sumOf_36 ?_
    cases some_ex hf
    exact V_iret hE dX0_sumOf_39
  · have hf := if_f hf hc2
    refine V_aload_n dX0_sumOf_15 rfl ?_
    obtain ⟨b6, hb7, hf⟩ := bd1_ex hf
    refine VP_getR (x := some b6) fa_X0_67 h1 rfl rfl hb7 dX0_sumOf_16 ?_
    refine V_iload_n dX0_sumOf_19 rfl ?_
    refine V_iconst dX0_sumOf_20 ckc_0 ?_
    obtain ⟨h8, hf⟩ := ck_ex hf
    obtain ⟨w9, hs10, hf⟩ := st1_ex hf
    refine VE_iast h8 rfl hs10 dX0_sumOf_21 ?_
    refine V_inc (ls' := [some (.ref v0), some (.int v1), some (.int (v2 + (1 : Int32)))]) dX0_sumOf_22 rfl ckc_1 (by decide) rfl ?_
    refine V_goto (tgt := 7) dX0_sumOf_25 (by decide) ?_
    exact hk7 v0 v1 (v2 + (1 : Int32)) w9 hf
set_option maxHeartbeats 4000000 in
theorem mC_X0_sumOf_ok (l : Launch) (D : DD) (w : AH) (a : Nat) (p0 : Int32) (r : Int32) (w' : AH) (hf : mC_X0_sumOf a p0 w = some (r, w')) : MA l D yX0_sumOf cX0_sumOf 3 (some (.int)) 202 [.ref a, .int p0] w (.returned (some (.int r))) w' := by
  refine MA.introH (own := RX0) (nm := "sumOf") (ls := [some (.ref a), some (.int p0), none]) (by decide) rfl rfl (Nat.le_of_ble_eq_true rfl) rfl (fun X hl hD hE hH => ?_)
  subst hl hD
  unfold mC_X0_sumOf at hf
  refine V_aload_n dX0_sumOf_0 rfl ?_
  refine V_iconst dX0_sumOf_1 ckc_m1 ?_
  obtain ⟨h1, hf⟩ := ck_ex hf
  obtain ⟨w2, hs3, hf⟩ := st1_ex hf
  refine VE_putI fw_X0_382 h1 rfl rfl rfl hs3 dX0_sumOf_2 ?_
  refine V_iconst dX0_sumOf_5 ckc_0 ?_
  refine V_istore_n (ls' := [some (.ref a), some (.int p0), some (.int (0 : Int32))]) dX0_sumOf_6 (by decide) rfl ?_
  exact lq4_ex (P := fun v0 v1 v2 w => V X cX0_sumOf RX0 3 202 w 7 [some (.ref v0), some (.int v1), some (.int v2)] []) (fun k hk v0 v1 v2 w hf => mC_X0_sumOf_7_v hE hH k hk v0 v1 v2 w hf) LF a p0 (0 : Int32) w2 hf
set_option maxHeartbeats 4000000 in
theorem mC_X0_booths_143_v {X : CX} {w0 : AH} {r : Int32} {w' : AH}  (hE : XE X w0 408 (some (.int)) "booths" (.returned (some (.int r))) w') (hH : XH X []) (v0 : Nat) (v3 : Int32) (v4 : Int32) (w : AH) (hf : mC_X0_booths_143 v0 v3 v4 w = some (r, w')) : V X cX0_booths RX0 8 408 w 143 [some (.ref v0), none, none, some (.int v3), some (.int v4), none, none, none] [] := by
  unfold mC_X0_booths_143 at hf
  refine V_iload_n dX0_booths_143 rfl ?_
  refine V_iconst dX0_booths_144 ckc_m1 ?_
  refine V_icmp_ne (tgt := 150) dX0_booths_145 (by decide) (fun hc1 => ?_) (fun hc1 => ?_)
  · have hf := if_f hf hc1
    refine V_aload_n dX0_booths_150 rfl ?_
    refine V_aload_n dX0_booths_151 rfl ?_
    obtain ⟨h2, hf⟩ := ck_ex hf
    refine VP_getI fa_X0_379 h2 rfl dX0_booths_152 ?_
    obtain ⟨w3, hs4, hf⟩ := st1_ex hf
    refine VE_putI fw_X0_79 h2 rfl rfl rfl hs4 dX0_booths_155 ?_
    refine V_aload_n dX0_booths_158 rfl ?_
    refine V_iload dX0_booths_159 rfl ?_
    obtain ⟨h5, hf⟩ := ck_ex hf
    obtain ⟨w6, hs7, hf⟩ := st1_ex hf
    refine VE_putI fw_X0_406 h5 rfl rfl rfl hs7 dX0_booths_161 ?_
    refine V_iload_n dX0_booths_164 rfl ?_
    cases some_ex hf
    exact V_iret hE dX0_booths_165
  · have hf := if_t hf hc1
    refine V_iconst dX0_booths_148 ckc_m1 ?_
    cases some_ex hf
    exact V_iret hE dX0_booths_149
set_option maxHeartbeats 4000000 in
theorem mC_X0_booths_131_v {X : CX} {w0 : AH} {r : Int32} {w' : AH}  (hE : XE X w0 408 (some (.int)) "booths" (.returned (some (.int r))) w') (hH : XH X []) (k54 : Nat → Int32 → Int32 → Int32 → Int32 → AH → Option (Int32 × AH)) (hk54 : ∀ (v0 : Nat) (v3 : Int32) (v4 : Int32) (v5 : Int32) (v6 : Int32) (w : AH), k54 v0 v3 v4 v5 v6 w = some (r, w') → V X cX0_booths RX0 8 408 w 54 [some (.ref v0), none, none, some (.int v3), some (.int v4), some (.int v5), some (.int v6), none] []) (v0 : Nat) (v3 : Int32) (v4 : Int32) (v5 : Int32) (v6 : Int32) (w : AH) (hf : mC_X0_booths_131 k54 v0 v3 v4 v5 v6 w = some (r, w')) : V X cX0_booths RX0 8 408 w 131 [some (.ref v0), none, none, some (.int v3), some (.int v4), some (.int v5), some (.int v6), none] [] := by
  unfold mC_X0_booths_131 at hf
  refine V_inc (ls' := [some (.ref v0), none, none, some (.int v3), some (.int v4), some (.int v5), some (.int (v6 + (1 : Int32))), none]) dX0_booths_131 rfl ckc_1 (by decide) rfl ?_
  refine V_goto (tgt := 54) dX0_booths_134 (by decide) ?_
  exact hk54 v0 v3 v4 v5 (v6 + (1 : Int32)) w hf
set_option maxHeartbeats 4000000 in
theorem mC_X0_booths_107_v {X : CX} {w0 : AH} {r : Int32} {w' : AH}  (hE : XE X w0 408 (some (.int)) "booths" (.returned (some (.int r))) w') (hH : XH X []) (k54 : Nat → Int32 → Int32 → Int32 → Int32 → AH → Option (Int32 × AH)) (hk54 : ∀ (v0 : Nat) (v3 : Int32) (v4 : Int32) (v5 : Int32) (v6 : Int32) (w : AH), k54 v0 v3 v4 v5 v6 w = some (r, w') → V X cX0_booths RX0 8 408 w 54 [some (.ref v0), none, none, some (.int v3), some (.int v4), some (.int v5), some (.int v6), none] []) (v0 : Nat) (v5 : Int32) (v6 : Int32) (v7 : Int32) (w : AH) (hf : mC_X0_booths_107 k54 v0 v5 v6 v7 w = some (r, w')) : V X cX0_booths RX0 8 408 w 107 [some (.ref v0), none, none, none, none, some (.int v5), some (.int v6), some (.int v7)] [] := by
  unfold mC_X0_booths_107 at hf
  refine V_iload dX0_booths_107 rfl ?_
  refine V_istore_n (ls' := [some (.ref v0), none, none, some (.int v6), none, some (.int v5), some (.int v6), some (.int v7)]) dX0_booths_109 (by decide) rfl ?_
  refine V_iload dX0_booths_110 rfl ?_
  refine V_istore (ls' := [some (.ref v0), none, none, some (.int v6), some (.int v7), some (.int v5), some (.int v6), some (.int v7)]) dX0_booths_112 (by decide) rfl ?_
  refine V_aload_n dX0_booths_114 rfl ?_
  obtain ⟨h1, hf⟩ := ck_ex hf
  obtain ⟨b2, hb3, hf⟩ := bd1_ex hf
  refine VP_getR (x := some b2) fa_X0_73 h1 rfl rfl hb3 dX0_booths_115 ?_
  refine V_iconst dX0_booths_118 ckc_0 ?_
  refine V_aload_n dX0_booths_119 rfl ?_
  obtain ⟨b4, hb5, hf⟩ := bd1_ex hf
  refine VP_getR (x := some b4) fa_X0_76 h1 rfl rfl hb5 dX0_booths_120 ?_
  refine V_iconst dX0_booths_123 ckc_0 ?_
  refine V_aload_n dX0_booths_124 rfl ?_
  refine VP_getI fa_X0_379 h1 rfl dX0_booths_125 ?_
  obtain ⟨h6, hf⟩ := ck_ex hf
  obtain ⟨h7, hf⟩ := ck_ex hf
  obtain ⟨h8, hf⟩ := ck_ex hf
  obtain ⟨w9, hs10, hf⟩ := st1_ex hf
  refine VE_cpyI q876 q730 q729 q149 (hk_mk h6) (hk_mk h7) h8 hs10 (by decide) (Nat.le_of_ble_eq_true rfl) dX0_booths_128 ?_
  refine V_keep [true, true, true, true, true, true, true, false] rfl ?_
  exact mC_X0_booths_131_v hE hH k54 hk54 v0 v6 v7 v5 v6 w9 hf
set_option maxHeartbeats 4000000 in
theorem mC_X0_booths_54_v {X : CX} {w0 : AH} {r : Int32} {w' : AH}  (hE : XE X w0 408 (some (.int)) "booths" (.returned (some (.int r))) w') (hH : XH X []) (k37 : Nat → Int32 → Int32 → Int32 → AH → Option (Int32 × AH)) (hk37 : ∀ (v0 : Nat) (v3 : Int32) (v4 : Int32) (v5 : Int32) (w : AH), k37 v0 v3 v4 v5 w = some (r, w') → V X cX0_booths RX0 8 408 w 37 [some (.ref v0), none, none, some (.int v3), some (.int v4), some (.int v5), none, none] []) (k54 : Nat → Int32 → Int32 → Int32 → Int32 → AH → Option (Int32 × AH)) (hk54 : ∀ (v0 : Nat) (v3 : Int32) (v4 : Int32) (v5 : Int32) (v6 : Int32) (w : AH), k54 v0 v3 v4 v5 v6 w = some (r, w') → V X cX0_booths RX0 8 408 w 54 [some (.ref v0), none, none, some (.int v3), some (.int v4), some (.int v5), some (.int v6), none] []) (v0 : Nat) (v3 : Int32) (v4 : Int32) (v5 : Int32) (v6 : Int32) (w : AH) (hf : mC_X0_booths_54 k37 k54 v0 v3 v4 v5 v6 w = some (r, w')) : V X cX0_booths RX0 8 408 w 54 [some (.ref v0), none, none, some (.int v3), some (.int v4), some (.int v5), some (.int v6), none] [] := by
  unfold mC_X0_booths_54 at hf
  refine V_iload dX0_booths_54 rfl ?_
  refine V_iconst dX0_booths_56 ckc_1 ?_
  refine V_aload_n dX0_booths_57 rfl ?_
  obtain ⟨h1, hf⟩ := ck_ex hf
  refine VP_getI fa_X0_379 h1 rfl dX0_booths_58 ?_
  refine V_ishl dX0_booths_61 ?_
  refine V_icmp_ge (tgt := 137) dX0_booths_62 (by decide) (fun hc2 => ?_) (fun hc2 => ?_)
  · have hf := if_t hf hc2
    refine V_inc (ls' := [some (.ref v0), none, none, some (.int v3), some (.int v4), some (.int (v5 + (1 : Int32))), some (.int v6), none]) dX0_booths_137 rfl ckc_1 (by decide) rfl ?_
    refine V_goto (tgt := 37) dX0_booths_140 (by decide) ?_
    refine V_keep [true, true, true, true, true, true, false, true] rfl ?_
    exact hk37 v0 v3 v4 (v5 + (1 : Int32)) w hf
  · have hf := if_f hf hc2
    refine V_iload dX0_booths_65 rfl ?_
    obtain ⟨r4, hc3, hf⟩ := bd1_ex hf
    refine V_cS (rest := []) (st' := [.int r4]) (mC_J16_bitCount_ok _ _ _ _ _ hc3) sc_X0_398 (by decide) rfl rfl (Nat.le_of_ble_eq_true rfl) dX0_booths_67 rfl ?_
    refine V_iload dX0_booths_70 rfl ?_
    refine V_icmp_eq (tgt := 78) dX0_booths_72 (by decide) (fun hc5 => ?_) (fun hc5 => ?_)
    · have hf := if_t hf hc5
      refine V_aload_n dX0_booths_78 rfl ?_
      refine V_iload dX0_booths_79 rfl ?_
      obtain ⟨r7, w8, hc6, hf⟩ := bd2_ex hf
      refine V_cV (av := [.int v6]) (rest := []) (st' := [.int r7]) (mC_X0_sumOf_ok _ _ _ _ _ _ _ hc6) vc_X0_403 (kIn1 h1) (by decide) rfl rfl (Nat.le_of_ble_eq_true rfl) dX0_booths_81 rfl ?_
      refine V_istore (ls' := [some (.ref v0), none, none, some (.int v3), some (.int v4), some (.int v5), some (.int v6), some (.int r7)]) dX0_booths_84 (by decide) rfl ?_
      refine V_iload dX0_booths_86 rfl ?_
      refine V_iconst dX0_booths_88 ckc_m1 ?_
      refine V_icmp_eq (tgt := 131) dX0_booths_89 (by decide) (fun hc9 => ?_) (fun hc9 => ?_)
      · have hf := if_t hf hc9
        refine V_keep [true, true, true, true, true, true, true, false] rfl ?_
        exact mC_X0_booths_131_v hE hH k54 hk54 v0 v3 v4 v5 v6 w8 hf
      · have hf := if_f hf hc9
        refine V_iload_n dX0_booths_92 rfl ?_
        refine V_iconst dX0_booths_93 ckc_m1 ?_
        refine V_icmp_eq (tgt := 107) dX0_booths_94 (by decide) (fun hc10 => ?_) (fun hc10 => ?_)
        · have hf := if_t hf hc10
          refine V_keep [true, true, true, false, false, true, true, true] rfl ?_
          exact mC_X0_booths_107_v hE hH k54 hk54 v0 v5 v6 r7 w8 hf
        · have hf := if_f hf hc10
          refine V_iload dX0_booths_97 rfl ?_
          refine V_iload dX0_booths_99 rfl ?_
          refine V_icmp_lt (tgt := 107) dX0_booths_101 (by decide) (fun hc11 => ?_) (fun hc11 => ?_)
          · have hf := if_t hf hc11
            refine V_keep [true, true, true, false, false, true, true, true] rfl ?_
            exact mC_X0_booths_107_v hE hH k54 hk54 v0 v5 v6 r7 w8 hf
          · have hf := if_f hf hc11
            refine V_goto (tgt := 131) dX0_booths_104 (by decide) ?_
            refine V_keep [true, true, true, true, true, true, true, false] rfl ?_
            exact mC_X0_booths_131_v hE hH k54 hk54 v0 v3 v4 v5 v6 w8 hf
    · have hf := if_f hf hc5
      refine V_goto (tgt := 131) dX0_booths_75 (by decide) ?_
      exact mC_X0_booths_131_v hE hH k54 hk54 v0 v3 v4 v5 v6 w hf
set_option maxHeartbeats 4000000 in
theorem mC_X0_booths_37_v {X : CX} {w0 : AH} {r : Int32} {w' : AH}  (hE : XE X w0 408 (some (.int)) "booths" (.returned (some (.int r))) w') (hH : XH X []) (k37 : Nat → Int32 → Int32 → Int32 → AH → Option (Int32 × AH)) (hk37 : ∀ (v0 : Nat) (v3 : Int32) (v4 : Int32) (v5 : Int32) (w : AH), k37 v0 v3 v4 v5 w = some (r, w') → V X cX0_booths RX0 8 408 w 37 [some (.ref v0), none, none, some (.int v3), some (.int v4), some (.int v5), none, none] []) (v0 : Nat) (v3 : Int32) (v4 : Int32) (v5 : Int32) (w : AH) (hf : mC_X0_booths_37 k37 v0 v3 v4 v5 w = some (r, w')) : V X cX0_booths RX0 8 408 w 37 [some (.ref v0), none, none, some (.int v3), some (.int v4), some (.int v5), none, none] [] := by
  unfold mC_X0_booths_37 at hf
  refine V_iload dX0_booths_37 rfl ?_
  refine V_aload_n dX0_booths_39 rfl ?_
  obtain ⟨h1, hf⟩ := ck_ex hf
  refine VP_getI fa_X0_379 h1 rfl dX0_booths_40 ?_
  refine V_icmp_gt (tgt := 143) dX0_booths_43 (by decide) (fun hc2 => ?_) (fun hc2 => ?_)
  · have hf := if_t hf hc2
    refine V_keep [true, true, true, true, true, false, true, true] rfl ?_
    exact mC_X0_booths_143_v hE hH v0 v3 v4 w hf
  · have hf := if_f hf hc2
    refine V_iload_n dX0_booths_46 rfl ?_
    refine V_iconst dX0_booths_47 ckc_m1 ?_
    refine V_icmp_ne (tgt := 143) dX0_booths_48 (by decide) (fun hc3 => ?_) (fun hc3 => ?_)
    · have hf := if_f hf hc3
      refine V_keep [true, true, true, true, true, false, true, true] rfl ?_
      exact mC_X0_booths_143_v hE hH v0 v3 v4 w hf
    · have hf := if_t hf hc3
      refine V_iconst dX0_booths_51 ckc_0 ?_
      refine V_istore (ls' := [some (.ref v0), none, none, some (.int v3), some (.int v4), some (.int v5), some (.int (0 : Int32)), none]) dX0_booths_52 (by decide) rfl ?_
      exact lq6_ex (P := fun v0 v3 v4 v5 v6 w => V X cX0_booths RX0 8 408 w 54 [some (.ref v0), none, none, some (.int v3), some (.int v4), some (.int v5), some (.int v6), none] []) (fun k hk v0 v3 v4 v5 v6 w hf => mC_X0_booths_54_v hE hH k37 hk37 k hk v0 v3 v4 v5 v6 w hf) LF v0 v3 v4 v5 (0 : Int32) w hf
set_option maxHeartbeats 4000000 in
theorem mC_X0_booths_ok (l : Launch) (D : DD) (w : AH) (a : Nat) (p0 : Int32) (p1 : Int32) (r : Int32) (w' : AH) (hf : mC_X0_booths a p0 p1 w = some (r, w')) : MA l D yX0_booths cX0_booths 8 (some (.int)) 408 [.ref a, .int p0, .int p1] w (.returned (some (.int r))) w' := by
  refine MA.introH (own := RX0) (nm := "booths") (ls := [some (.ref a), some (.int p0), some (.int p1), none, none, none, none, none]) (by decide) rfl rfl (Nat.le_of_ble_eq_true rfl) rfl (fun X hl hD hE hH => ?_)
  subst hl hD
  unfold mC_X0_booths at hf
  refine V_iload_n dX0_booths_0 rfl ?_
  obtain ⟨r2, hc1, hf⟩ := bd1_ex hf
  refine V_cS (rest := []) (st' := [.int r2]) (mC_X0_isDay_ok _ _ _ _ _ hc1) sc_X0_201 (by decide) rfl rfl (Nat.le_of_ble_eq_true rfl) dX0_booths_1 rfl ?_
  refine V_if_eq (tgt := 21) dX0_booths_4 (by decide) (fun hc3 => ?_) (fun hc3 => ?_)
  · have hf := if_t hf hc3
    refine V_iconst dX0_booths_21 ckc_m1 ?_
    cases some_ex hf
    exact V_iret hE dX0_booths_22
  · have hf := if_f hf hc3
    refine V_iload_n dX0_booths_7 rfl ?_
    obtain ⟨r5, hc4, hf⟩ := bd1_ex hf
    refine V_cS (rest := []) (st' := [.int r5]) (mC_X0_isDay_ok _ _ _ _ _ hc4) sc_X0_201 (by decide) rfl rfl (Nat.le_of_ble_eq_true rfl) dX0_booths_8 rfl ?_
    refine V_if_eq (tgt := 21) dX0_booths_11 (by decide) (fun hc6 => ?_) (fun hc6 => ?_)
    · have hf := if_t hf hc6
      refine V_iconst dX0_booths_21 ckc_m1 ?_
      cases some_ex hf
      exact V_iret hE dX0_booths_22
    · have hf := if_f hf hc6
      refine V_aload_n dX0_booths_14 rfl ?_
      obtain ⟨h7, hf⟩ := ck_ex hf
      obtain ⟨r9, hc8, hf⟩ := bd1_ex hf
      refine V_cV (av := []) (rest := []) (st' := [.int r9]) (mC_X0_areThere_ok _ _ _ _ _ hc8) vc_X0_391 (kIn1 h7) (by decide) rfl rfl (Nat.le_of_ble_eq_true rfl) dX0_booths_15 rfl ?_
      refine V_if_ne (tgt := 23) dX0_booths_18 (by decide) (fun hc10 => ?_) (fun hc10 => ?_)
      · have hf := if_f hf hc10
        refine V_aload_n dX0_booths_23 rfl ?_
        refine V_iload_n dX0_booths_24 rfl ?_
        refine V_iload_n dX0_booths_25 rfl ?_
        obtain ⟨w12, hc11, hf⟩ := bd1_ex hf
        refine V_cV (av := [.int p0, .int p1]) (rest := []) (st' := []) (mC_X0_lays_ok _ _ _ _ _ _ _ hc11) vc_X0_395 (kIn1 h7) (by decide) rfl rfl (Nat.le_of_ble_eq_true rfl) dX0_booths_26 rfl ?_
        refine V_iconst dX0_booths_29 ckc_m1 ?_
        refine V_istore_n (ls' := [some (.ref a), some (.int p0), some (.int p1), some (.int (-1 : Int32)), none, none, none, none]) dX0_booths_30 (by decide) rfl ?_
        refine V_iconst dX0_booths_31 ckc_0 ?_
        refine V_istore (ls' := [some (.ref a), some (.int p0), some (.int p1), some (.int (-1 : Int32)), some (.int (0 : Int32)), none, none, none]) dX0_booths_32 (by decide) rfl ?_
        refine V_iconst dX0_booths_34 ckc_0 ?_
        refine V_istore (ls' := [some (.ref a), some (.int p0), some (.int p1), some (.int (-1 : Int32)), some (.int (0 : Int32)), some (.int (0 : Int32)), none, none]) dX0_booths_35 (by decide) rfl ?_
        refine V_keep [true, false, false, true, true, true, true, true] rfl ?_
        exact lq5_ex (P := fun v0 v3 v4 v5 w => V X cX0_booths RX0 8 408 w 37 [some (.ref v0), none, none, some (.int v3), some (.int v4), some (.int v5), none, none] []) (fun k hk v0 v3 v4 v5 w hf => mC_X0_booths_37_v hE hH k hk v0 v3 v4 v5 w hf) LF a (-1 : Int32) (0 : Int32) (0 : Int32) w12 hf
      · have hf := if_t hf hc10
        refine V_iconst dX0_booths_21 ckc_m1 ?_
        cases some_ex hf
        exact V_iret hE dX0_booths_22
set_option maxHeartbeats 4000000 in
theorem mC_X0_led_ok (l : Launch) (D : DD) (w : AH) (a : Nat) (p0 : Int32) (r : Int32) (hf : mC_X0_led a p0 w = some r) : MA l D yX0_led cX0_led 2 (some (.int)) 2 [.ref a, .int p0] w (.returned (some (.int r))) w := by
  refine MA.introH (own := RX0) (nm := "led") (ls := [some (.ref a), some (.int p0)]) (by decide) rfl rfl (Nat.le_of_ble_eq_true rfl) rfl (fun X hl hD hE hH => ?_)
  subst hl hD
  unfold mC_X0_led at hf
  refine V_aload_n dX0_led_0 rfl ?_
  obtain ⟨h1, hf⟩ := ck_ex hf
  refine VP_getI fa_X0_79 h1 rfl dX0_led_1 ?_
  refine V_iconst dX0_led_4 ckc_m1 ?_
  refine V_icmp_eq (tgt := 22) dX0_led_5 (by decide) (fun hc2 => ?_) (fun hc2 => ?_)
  · have hf := if_t hf hc2
    refine V_iconst dX0_led_22 ckc_m1 ?_
    refine V_goto (tgt := 44) dX0_led_23 (by decide) ?_
    cases some_ex hf
    exact V_iret hE dX0_led_44
  · have hf := if_f hf hc2
    refine V_iload_n dX0_led_8 rfl ?_
    refine V_iconst dX0_led_9 ckc_m1 ?_
    refine V_aload_n dX0_led_10 rfl ?_
    refine VP_getI fa_X0_79 h1 rfl dX0_led_11 ?_
    refine V_iconst dX0_led_14 ckc_1 ?_
    refine V_isub dX0_led_15 ?_
    obtain ⟨r4, hc3, hf⟩ := bd1_ex hf
    refine V_cS (rest := []) (st' := [.int r4]) (mC_X0_in_ok _ _ _ _ _ _ _ hc3) sc_X0_127 (by decide) rfl rfl (Nat.le_of_ble_eq_true rfl) dX0_led_16 rfl ?_
    refine V_if_ne (tgt := 26) dX0_led_19 (by decide) (fun hc5 => ?_) (fun hc5 => ?_)
    · have hf := if_f hf hc5
      refine V_iload_n dX0_led_26 rfl ?_
      refine V_iconst dX0_led_27 ckc_m1 ?_
      refine V_icmp_ne (tgt := 38) dX0_led_28 (by decide) (fun hc6 => ?_) (fun hc6 => ?_)
      · have hf := if_f hf hc6
        refine V_aload_n dX0_led_38 rfl ?_
        obtain ⟨b7, hb8, hf⟩ := bd1_ex hf
        refine VP_getR (x := some b7) fa_X0_76 h1 rfl rfl hb8 dX0_led_39 ?_
        refine V_iload_n dX0_led_42 rfl ?_
        obtain ⟨h9, hf⟩ := ck_ex hf
        refine VE_iald h9 rfl dX0_led_43 ?_
        cases some_ex hf
        exact V_iret hE dX0_led_44
      · have hf := if_t hf hc6
        refine V_aload_n dX0_led_31 rfl ?_
        refine VP_getI fa_X0_406 h1 rfl dX0_led_32 ?_
        refine V_goto (tgt := 44) dX0_led_35 (by decide) ?_
        cases some_ex hf
        exact V_iret hE dX0_led_44
    · have hf := if_t hf hc5
      refine V_iconst dX0_led_22 ckc_m1 ?_
      refine V_goto (tgt := 44) dX0_led_23 (by decide) ?_
      cases some_ex hf
      exact V_iret hE dX0_led_44
set_option maxHeartbeats 4000000 in
theorem mC_X0_judge_ok (l : Launch) (D : DD) (w : AH) (a : Nat) (p0 : Int32) (p1 : Int32) (p2 : Int32) (r : Int32) (w' : AH) (hf : mC_X0_judge a p0 p1 p2 w = some (r, w')) : MA l D yX0_judge cX0_judge 4 (some (.int)) 408 [.ref a, .int p0, .int p1, .int p2] w (.returned (some (.int r))) w' := by
  refine MA.introH (own := RX0) (nm := "judge") (ls := [some (.ref a), some (.int p0), some (.int p1), some (.int p2)]) (by decide) rfl rfl (Nat.le_of_ble_eq_true rfl) rfl (fun X hl hD hE hH => ?_)
  subst hl hD
  unfold mC_X0_judge at hf
  refine V_iload_n dX0_judge_0 rfl ?_
  obtain ⟨r2, hc1, hf⟩ := bd1_ex hf
  refine V_cS (rest := []) (st' := [.int r2]) (mC_X0_isDay_ok _ _ _ _ _ hc1) sc_X0_201 (by decide) rfl rfl (Nat.le_of_ble_eq_true rfl) dX0_judge_1 rfl ?_
  refine V_if_eq (tgt := 34) dX0_judge_4 (by decide) (fun hc3 => ?_) (fun hc3 => ?_)
  · have hf := if_t hf hc3
    refine V_iconst dX0_judge_34 ckc_m1 ?_
    cases some_ex hf
    exact V_iret hE dX0_judge_35
  · have hf := if_f hf hc3
    refine V_iload_n dX0_judge_7 rfl ?_
    obtain ⟨r5, hc4, hf⟩ := bd1_ex hf
    refine V_cS (rest := []) (st' := [.int r5]) (mC_X0_isDay_ok _ _ _ _ _ hc4) sc_X0_201 (by decide) rfl rfl (Nat.le_of_ble_eq_true rfl) dX0_judge_8 rfl ?_
    refine V_if_eq (tgt := 34) dX0_judge_11 (by decide) (fun hc6 => ?_) (fun hc6 => ?_)
    · have hf := if_t hf hc6
      refine V_iconst dX0_judge_34 ckc_m1 ?_
      cases some_ex hf
      exact V_iret hE dX0_judge_35
    · have hf := if_f hf hc6
      refine V_iload_n dX0_judge_14 rfl ?_
      refine V_if_lt (tgt := 34) dX0_judge_15 (by decide) (fun hc7 => ?_) (fun hc7 => ?_)
      · have hf := if_t hf hc7
        refine V_iconst dX0_judge_34 ckc_m1 ?_
        cases some_ex hf
        exact V_iret hE dX0_judge_35
      · have hf := if_f hf hc7
        refine V_iload_n dX0_judge_18 rfl ?_
        refine V_aload_n dX0_judge_19 rfl ?_
        obtain ⟨h8, hf⟩ := ck_ex hf
        refine VP_getI fa_X0_379 h8 rfl dX0_judge_20 ?_
        refine V_ishr dX0_judge_23 ?_
        refine V_if_ne (tgt := 34) dX0_judge_24 (by decide) (fun hc9 => ?_) (fun hc9 => ?_)
        · have hf := if_f hf hc9
          refine V_iconst dX0_judge_34 ckc_m1 ?_
          cases some_ex hf
          exact V_iret hE dX0_judge_35
        · have hf := if_t hf hc9
          refine V_aload_n dX0_judge_27 rfl ?_
          obtain ⟨r11, hc10, hf⟩ := bd1_ex hf
          refine V_cV (av := []) (rest := []) (st' := [.int r11]) (mC_X0_areThere_ok _ _ _ _ _ hc10) vc_X0_391 (kIn1 h8) (by decide) rfl rfl (Nat.le_of_ble_eq_true rfl) dX0_judge_28 rfl ?_
          refine V_if_ne (tgt := 36) dX0_judge_31 (by decide) (fun hc12 => ?_) (fun hc12 => ?_)
          · have hf := if_f hf hc12
            refine V_aload_n dX0_judge_36 rfl ?_
            refine V_iload_n dX0_judge_37 rfl ?_
            refine V_iload_n dX0_judge_38 rfl ?_
            obtain ⟨w14, hc13, hf⟩ := bd1_ex hf
            refine V_cV (av := [.int p1, .int p2]) (rest := []) (st' := []) (mC_X0_lays_ok _ _ _ _ _ _ _ hc13) vc_X0_395 (kIn1 h8) (by decide) rfl rfl (Nat.le_of_ble_eq_true rfl) dX0_judge_39 rfl ?_
            refine V_aload_n dX0_judge_42 rfl ?_
            refine V_iload_n dX0_judge_43 rfl ?_
            obtain ⟨h15, hf⟩ := ck_ex hf
            obtain ⟨r17, w18, hc16, hf⟩ := bd2_ex hf
            refine V_cV (av := [.int p0]) (rest := []) (st' := [.int r17]) (mC_X0_sumOf_ok _ _ _ _ _ _ _ hc16) vc_X0_403 (kIn1 h15) (by decide) rfl rfl (Nat.le_of_ble_eq_true rfl) dX0_judge_44 rfl ?_
            cases some_ex hf
            exact V_iret hE dX0_judge_47
          · have hf := if_t hf hc12
            refine V_iconst dX0_judge_34 ckc_m1 ?_
            cases some_ex hf
            exact V_iret hE dX0_judge_35
set_option maxHeartbeats 4000000 in
theorem mC_X0_booth_ok (l : Launch) (D : DD) (w : AH) (a : Nat) (p0 : Int32) (r : Int32) (w' : AH) (hf : mC_X0_booth a p0 w = some (r, w')) : MA l D yX0_booth cX0_booth 2 (some (.int)) 3 [.ref a, .int p0] w (.returned (some (.int r))) w' := by
  refine MA.introH (own := RX0) (nm := "booth") (ls := [some (.ref a), some (.int p0)]) (by decide) rfl rfl (Nat.le_of_ble_eq_true rfl) rfl (fun X hl hD hE hH => ?_)
  subst hl hD
  unfold mC_X0_booth at hf
  refine V_aload_n dX0_booth_0 rfl ?_
  refine V_iload_n dX0_booth_1 rfl ?_
  obtain ⟨h1, hf⟩ := ck_ex hf
  obtain ⟨r3, hc2, hf⟩ := bd1_ex hf
  refine V_cV (av := [.int p0]) (rest := []) (st' := [.int r3]) (mC_X0_isPlace_ok _ _ _ _ _ _ hc2) vc_X0_204 (kIn1 h1) (by decide) rfl rfl (Nat.le_of_ble_eq_true rfl) dX0_booth_2 rfl ?_
  refine V_if_ne (tgt := 15) dX0_booth_5 (by decide) (fun hc4 => ?_) (fun hc4 => ?_)
  · have hf := if_f hf hc4
    refine V_aload_n dX0_booth_15 rfl ?_
    obtain ⟨b5, hb6, hf⟩ := bd1_ex hf
    refine VP_getR (x := some b5) fa_X0_10 h1 rfl rfl hb6 dX0_booth_16 ?_
    obtain ⟨h7, hf⟩ := ck_ex hf
    refine VP_getI fa_X0_154 h7 rfl dX0_booth_19 ?_
    refine V_bipush dX0_booth_22 ckb_20 ?_
    refine V_icmp_ne (tgt := 34) dX0_booth_24 (by decide) (fun hc8 => ?_) (fun hc8 => ?_)
    · have hf := if_f hf hc8
      refine V_aload_n dX0_booth_34 rfl ?_
      refine VP_getR (x := some b5) fa_X0_10 h1 rfl rfl hb6 dX0_booth_35 ?_
      obtain ⟨b9, hb10, hf⟩ := bd1_ex hf
      refine VP_getR (x := some b9) fa_X0_409 h7 rfl rfl hb10 dX0_booth_38 ?_
      refine V_aload_n dX0_booth_41 rfl ?_
      refine VP_getR (x := some b5) fa_X0_10 h1 rfl rfl hb6 dX0_booth_42 ?_
      refine VP_getI fa_X0_154 h7 rfl dX0_booth_45 ?_
      refine V_iload_n dX0_booth_48 rfl ?_
      obtain ⟨h11, hf⟩ := ck_ex hf
      obtain ⟨w12, hs13, hf⟩ := st1_ex hf
      refine VE_iast h11 rfl hs13 dX0_booth_49 ?_
      refine V_aload_n dX0_booth_50 rfl ?_
      obtain ⟨h14, hf⟩ := ck_ex hf
      obtain ⟨b15, hb16, hf⟩ := bd1_ex hf
      refine VP_getR (x := some b15) fa_X0_10 h14 rfl rfl hb16 dX0_booth_51 ?_
      obtain ⟨h17, hf⟩ := ck_ex hf
      obtain ⟨b18, hb19, hf⟩ := bd1_ex hf
      refine VP_getR (x := some b18) fa_X0_412 h17 rfl rfl hb19 dX0_booth_54 ?_
      refine V_aload_n dX0_booth_57 rfl ?_
      refine VP_getR (x := some b15) fa_X0_10 h14 rfl rfl hb16 dX0_booth_58 ?_
      refine VP_getI fa_X0_154 h17 rfl dX0_booth_61 ?_
      refine V_iconst dX0_booth_64 ckc_m1 ?_
      obtain ⟨h20, hf⟩ := ck_ex hf
      obtain ⟨w21, hs22, hf⟩ := st1_ex hf
      refine VE_iast h20 rfl hs22 dX0_booth_65 ?_
      refine V_aload_n dX0_booth_66 rfl ?_
      obtain ⟨h23, hf⟩ := ck_ex hf
      obtain ⟨b24, hb25, hf⟩ := bd1_ex hf
      refine VP_getR (x := some b24) fa_X0_10 h23 rfl rfl hb25 dX0_booth_67 ?_
      refine V_dup dX0_booth_70 rfl ?_
      obtain ⟨h26, hf⟩ := ck_ex hf
      refine VP_getI fa_X0_154 h26 rfl dX0_booth_71 ?_
      refine V_iconst dX0_booth_74 ckc_1 ?_
      refine V_iadd dX0_booth_75 ?_
      obtain ⟨w27, hs28, hf⟩ := st1_ex hf
      refine VE_putI fw_X0_154 h26 rfl rfl rfl hs28 dX0_booth_76 ?_
      refine V_aload_n dX0_booth_79 rfl ?_
      refine V_aload_n dX0_booth_80 rfl ?_
      obtain ⟨h29, hf⟩ := ck_ex hf
      obtain ⟨b30, hb31, hf⟩ := bd1_ex hf
      refine VP_getR (x := some b30) fa_X0_10 h29 rfl rfl hb31 dX0_booth_81 ?_
      obtain ⟨h32, hf⟩ := ck_ex hf
      refine VP_getI fa_X0_154 h32 rfl dX0_booth_84 ?_
      refine V_iconst dX0_booth_87 ckc_1 ?_
      refine V_isub dX0_booth_88 ?_
      obtain ⟨r34, w35, hc33, hf⟩ := bd2_ex hf
      refine V_cV (av := [.int ((hvi w27 b30 23) - (1 : Int32))]) (rest := []) (st' := [.int r34]) (mC_X0_told_ok _ _ _ _ _ _ _ hc33) vc_X0_138 (kIn1 h29) (by decide) rfl rfl (Nat.le_of_ble_eq_true rfl) dX0_booth_89 rfl ?_
      cases some_ex hf
      exact V_iret hE dX0_booth_92
    · have hf := if_t hf hc8
      refine V_aload_n dX0_booth_27 rfl ?_
      refine V_bipush dX0_booth_28 ckb_m5 ?_
      obtain ⟨r37, w38, hc36, hf⟩ := bd2_ex hf
      refine V_cV (av := [.int (-5 : Int32)]) (rest := []) (st' := [.int r37]) (mC_X0_refuse_ok _ _ _ _ _ _ _ hc36) vc_X0_131 (kIn1 h1) (by decide) rfl rfl (Nat.le_of_ble_eq_true rfl) dX0_booth_30 rfl ?_
      cases some_ex hf
      exact V_iret hE dX0_booth_33
  · have hf := if_t hf hc4
    refine V_aload_n dX0_booth_8 rfl ?_
    refine V_bipush dX0_booth_9 ckb_m2 ?_
    obtain ⟨r40, w41, hc39, hf⟩ := bd2_ex hf
    refine V_cV (av := [.int (-2 : Int32)]) (rest := []) (st' := [.int r40]) (mC_X0_refuse_ok _ _ _ _ _ _ _ hc39) vc_X0_131 (kIn1 h1) (by decide) rfl rfl (Nat.le_of_ble_eq_true rfl) dX0_booth_11 rfl ?_
    cases some_ex hf
    exact V_iret hE dX0_booth_14
set_option maxHeartbeats 4000000 in
theorem mC_X0_isBooth_ok (l : Launch) (D : DD) (w : AH) (a : Nat) (p0 : Int32) (r : Int32) (hf : mC_X0_isBooth a p0 w = some r) : MA l D yX0_isBooth cX0_isBooth 2 (some (.boolean)) 2 [.ref a, .int p0] w (.returned (some (.int r))) w := by
  refine MA.introH (own := RX0) (nm := "isBooth") (ls := [some (.ref a), some (.int p0)]) (by decide) rfl rfl (Nat.le_of_ble_eq_true rfl) rfl (fun X hl hD hE hH => ?_)
  subst hl hD
  unfold mC_X0_isBooth at hf
  refine V_iload_n dX0_isBooth_0 rfl ?_
  refine V_iconst dX0_isBooth_1 ckc_0 ?_
  refine V_aload_n dX0_isBooth_2 rfl ?_
  obtain ⟨h1, hf⟩ := ck_ex hf
  obtain ⟨b2, hb3, hf⟩ := bd1_ex hf
  refine VP_getR (x := some b2) fa_X0_10 h1 rfl rfl hb3 dX0_isBooth_3 ?_
  obtain ⟨h4, hf⟩ := ck_ex hf
  refine VP_getI fa_X0_154 h4 rfl dX0_isBooth_6 ?_
  refine V_iconst dX0_isBooth_9 ckc_1 ?_
  refine V_isub dX0_isBooth_10 ?_
  obtain ⟨r6, hc5, hf⟩ := bd1_ex hf
  refine V_cS (rest := []) (st' := [.int r6]) (mC_X0_in_ok _ _ _ _ _ _ _ hc5) sc_X0_127 (by decide) rfl rfl (Nat.le_of_ble_eq_true rfl) dX0_isBooth_11 rfl ?_
  obtain ⟨h7, hf⟩ := ck_ex hf
  cases some_ex hf
  exact V_zret hE (isZ_nar h7) dX0_isBooth_14
set_option maxHeartbeats 4000000 in
theorem mC_X0_box_ok (l : Launch) (D : DD) (w : AH) (a : Nat) (p0 : Int32) (p1 : Int32) (r : Int32) (w' : AH) (hf : mC_X0_box a p0 p1 w = some (r, w')) : MA l D yX0_box cX0_box 3 (some (.int)) 3 [.ref a, .int p0, .int p1] w (.returned (some (.int r))) w' := by
  refine MA.introH (own := RX0) (nm := "box") (ls := [some (.ref a), some (.int p0), some (.int p1)]) (by decide) rfl rfl (Nat.le_of_ble_eq_true rfl) rfl (fun X hl hD hE hH => ?_)
  subst hl hD
  unfold mC_X0_box at hf
  refine V_iload_n dX0_box_0 rfl ?_
  refine V_iconst dX0_box_1 ckc_0 ?_
  refine V_ldcw q1585 dX0_box_2 ?_
  obtain ⟨r2, hc1, hf⟩ := bd1_ex hf
  refine V_cS (rest := []) (st' := [.int r2]) (mC_X0_in_ok _ _ _ _ _ _ _ hc1) sc_X0_127 (by decide) rfl rfl (Nat.le_of_ble_eq_true rfl) dX0_box_5 rfl ?_
  refine V_if_ne (tgt := 17) dX0_box_8 (by decide) (fun hc3 => ?_) (fun hc3 => ?_)
  · have hf := if_f hf hc3
    refine V_aload_n dX0_box_17 rfl ?_
    refine V_iload_n dX0_box_18 rfl ?_
    obtain ⟨h4, hf⟩ := ck_ex hf
    obtain ⟨r6, hc5, hf⟩ := bd1_ex hf
    refine V_cV (av := [.int p0]) (rest := []) (st' := [.int r6]) (mC_X0_isBooth_ok _ _ _ _ _ _ hc5) vc_X0_416 (kIn1 h4) (by decide) rfl rfl (Nat.le_of_ble_eq_true rfl) dX0_box_19 rfl ?_
    refine V_if_ne (tgt := 32) dX0_box_22 (by decide) (fun hc7 => ?_) (fun hc7 => ?_)
    · have hf := if_f hf hc7
      refine V_aload_n dX0_box_32 rfl ?_
      obtain ⟨b8, hb9, hf⟩ := bd1_ex hf
      refine VP_getR (x := some b8) fa_X0_10 h4 rfl rfl hb9 dX0_box_33 ?_
      obtain ⟨h10, hf⟩ := ck_ex hf
      refine VP_getI fa_X0_157 h10 rfl dX0_box_36 ?_
      refine V_bipush dX0_box_39 ckb_40 ?_
      refine V_icmp_ne (tgt := 51) dX0_box_41 (by decide) (fun hc11 => ?_) (fun hc11 => ?_)
      · have hf := if_f hf hc11
        refine V_aload_n dX0_box_51 rfl ?_
        refine VP_getR (x := some b8) fa_X0_10 h4 rfl rfl hb9 dX0_box_52 ?_
        obtain ⟨b12, hb13, hf⟩ := bd1_ex hf
        refine VP_getR (x := some b12) fa_X0_419 h10 rfl rfl hb13 dX0_box_55 ?_
        refine V_aload_n dX0_box_58 rfl ?_
        refine VP_getR (x := some b8) fa_X0_10 h4 rfl rfl hb9 dX0_box_59 ?_
        refine VP_getI fa_X0_157 h10 rfl dX0_box_62 ?_
        refine V_iload_n dX0_box_65 rfl ?_
        obtain ⟨h14, hf⟩ := ck_ex hf
        obtain ⟨w15, hs16, hf⟩ := st1_ex hf
        refine VE_iast h14 rfl hs16 dX0_box_66 ?_
        refine V_aload_n dX0_box_67 rfl ?_
        obtain ⟨h17, hf⟩ := ck_ex hf
        obtain ⟨b18, hb19, hf⟩ := bd1_ex hf
        refine VP_getR (x := some b18) fa_X0_10 h17 rfl rfl hb19 dX0_box_68 ?_
        obtain ⟨h20, hf⟩ := ck_ex hf
        obtain ⟨b21, hb22, hf⟩ := bd1_ex hf
        refine VP_getR (x := some b21) fa_X0_422 h20 rfl rfl hb22 dX0_box_71 ?_
        refine V_aload_n dX0_box_74 rfl ?_
        refine VP_getR (x := some b18) fa_X0_10 h17 rfl rfl hb19 dX0_box_75 ?_
        refine VP_getI fa_X0_157 h20 rfl dX0_box_78 ?_
        refine V_iload_n dX0_box_81 rfl ?_
        obtain ⟨h23, hf⟩ := ck_ex hf
        obtain ⟨w24, hs25, hf⟩ := st1_ex hf
        refine VE_iast h23 rfl hs25 dX0_box_82 ?_
        refine V_aload_n dX0_box_83 rfl ?_
        obtain ⟨h26, hf⟩ := ck_ex hf
        obtain ⟨b27, hb28, hf⟩ := bd1_ex hf
        refine VP_getR (x := some b27) fa_X0_10 h26 rfl rfl hb28 dX0_box_84 ?_
        refine V_dup dX0_box_87 rfl ?_
        obtain ⟨h29, hf⟩ := ck_ex hf
        refine VP_getI fa_X0_157 h29 rfl dX0_box_88 ?_
        refine V_iconst dX0_box_91 ckc_1 ?_
        refine V_iadd dX0_box_92 ?_
        obtain ⟨w30, hs31, hf⟩ := st1_ex hf
        refine VE_putI fw_X0_157 h29 rfl rfl rfl hs31 dX0_box_93 ?_
        refine V_aload_n dX0_box_96 rfl ?_
        refine V_aload_n dX0_box_97 rfl ?_
        obtain ⟨h32, hf⟩ := ck_ex hf
        obtain ⟨b33, hb34, hf⟩ := bd1_ex hf
        refine VP_getR (x := some b33) fa_X0_10 h32 rfl rfl hb34 dX0_box_98 ?_
        obtain ⟨h35, hf⟩ := ck_ex hf
        refine VP_getI fa_X0_157 h35 rfl dX0_box_101 ?_
        refine V_iconst dX0_box_104 ckc_1 ?_
        refine V_isub dX0_box_105 ?_
        obtain ⟨r37, w38, hc36, hf⟩ := bd2_ex hf
        refine V_cV (av := [.int ((hvi w30 b33 24) - (1 : Int32))]) (rest := []) (st' := [.int r37]) (mC_X0_told_ok _ _ _ _ _ _ _ hc36) vc_X0_138 (kIn1 h32) (by decide) rfl rfl (Nat.le_of_ble_eq_true rfl) dX0_box_106 rfl ?_
        cases some_ex hf
        exact V_iret hE dX0_box_109
      · have hf := if_t hf hc11
        refine V_aload_n dX0_box_44 rfl ?_
        refine V_bipush dX0_box_45 ckb_m5 ?_
        obtain ⟨r40, w41, hc39, hf⟩ := bd2_ex hf
        refine V_cV (av := [.int (-5 : Int32)]) (rest := []) (st' := [.int r40]) (mC_X0_refuse_ok _ _ _ _ _ _ _ hc39) vc_X0_131 (kIn1 h4) (by decide) rfl rfl (Nat.le_of_ble_eq_true rfl) dX0_box_47 rfl ?_
        cases some_ex hf
        exact V_iret hE dX0_box_50
    · have hf := if_t hf hc7
      refine V_aload_n dX0_box_25 rfl ?_
      refine V_bipush dX0_box_26 ckb_m2 ?_
      obtain ⟨r43, w44, hc42, hf⟩ := bd2_ex hf
      refine V_cV (av := [.int (-2 : Int32)]) (rest := []) (st' := [.int r43]) (mC_X0_refuse_ok _ _ _ _ _ _ _ hc42) vc_X0_131 (kIn1 h4) (by decide) rfl rfl (Nat.le_of_ble_eq_true rfl) dX0_box_28 rfl ?_
      cases some_ex hf
      exact V_iret hE dX0_box_31
  · have hf := if_t hf hc3
    refine V_aload_n dX0_box_11 rfl ?_
    refine V_iconst dX0_box_12 ckc_m1 ?_
    obtain ⟨h45, hf⟩ := ck_ex hf
    obtain ⟨r47, w48, hc46, hf⟩ := bd2_ex hf
    refine V_cV (av := [.int (-1 : Int32)]) (rest := []) (st' := [.int r47]) (mC_X0_refuse_ok _ _ _ _ _ _ _ hc46) vc_X0_131 (kIn1 h45) (by decide) rfl rfl (Nat.le_of_ble_eq_true rfl) dX0_box_13 rfl ?_
    cases some_ex hf
    exact V_iret hE dX0_box_16
set_option maxHeartbeats 4000000 in
theorem mC_X0_isBox_ok (l : Launch) (D : DD) (w : AH) (a : Nat) (p0 : Int32) (r : Int32) (hf : mC_X0_isBox a p0 w = some r) : MA l D yX0_isBox cX0_isBox 2 (some (.boolean)) 2 [.ref a, .int p0] w (.returned (some (.int r))) w := by
  refine MA.introH (own := RX0) (nm := "isBox") (ls := [some (.ref a), some (.int p0)]) (by decide) rfl rfl (Nat.le_of_ble_eq_true rfl) rfl (fun X hl hD hE hH => ?_)
  subst hl hD
  unfold mC_X0_isBox at hf
  refine V_iload_n dX0_isBox_0 rfl ?_
  refine V_iconst dX0_isBox_1 ckc_0 ?_
  refine V_aload_n dX0_isBox_2 rfl ?_
  obtain ⟨h1, hf⟩ := ck_ex hf
  obtain ⟨b2, hb3, hf⟩ := bd1_ex hf
  refine VP_getR (x := some b2) fa_X0_10 h1 rfl rfl hb3 dX0_isBox_3 ?_
  obtain ⟨h4, hf⟩ := ck_ex hf
  refine VP_getI fa_X0_157 h4 rfl dX0_isBox_6 ?_
  refine V_iconst dX0_isBox_9 ckc_1 ?_
  refine V_isub dX0_isBox_10 ?_
  obtain ⟨r6, hc5, hf⟩ := bd1_ex hf
  refine V_cS (rest := []) (st' := [.int r6]) (mC_X0_in_ok _ _ _ _ _ _ _ hc5) sc_X0_127 (by decide) rfl rfl (Nat.le_of_ble_eq_true rfl) dX0_isBox_11 rfl ?_
  obtain ⟨h7, hf⟩ := ck_ex hf
  cases some_ex hf
  exact V_zret hE (isZ_nar h7) dX0_isBox_14
set_option maxHeartbeats 4000000 in
theorem mC_X0_hand_37_v {X : CX} {w0 : AH} {r : Int32} {w' : AH}  (hE : XE X w0 7 (some (.int)) "hand" (.returned (some (.int r))) w') (hH : XH X []) (v0 : Nat) (w : AH) (hf : mC_X0_hand_37 v0 w = some (r, w')) : V X cX0_hand RX0 6 7 w 37 [some (.ref v0), none, none, none, none, none] [] := by
  unfold mC_X0_hand_37 at hf
  refine V_aload_n dX0_hand_37 rfl ?_
  refine V_iconst dX0_hand_38 ckc_m1 ?_
  obtain ⟨h1, hf⟩ := ck_ex hf
  obtain ⟨r3, w4, hc2, hf⟩ := bd2_ex hf
  refine V_cV (av := [.int (-1 : Int32)]) (rest := []) (st' := [.int r3]) (mC_X0_refuse_ok _ _ _ _ _ _ _ hc2) vc_X0_131 (kIn1 h1) (by decide) rfl rfl (Nat.le_of_ble_eq_true rfl) dX0_hand_39 rfl ?_
  cases some_ex hf
  exact V_iret hE dX0_hand_42
set_option maxHeartbeats 4000000 in
theorem mC_X0_hand_ok (l : Launch) (D : DD) (w : AH) (a : Nat) (p0 : Int32) (p1 : Int32) (p2 : Int32) (p3 : Int32) (p4 : Int32) (r : Int32) (w' : AH) (hf : mC_X0_hand a p0 p1 p2 p3 p4 w = some (r, w')) : MA l D yX0_hand cX0_hand 6 (some (.int)) 7 [.ref a, .int p0, .int p1, .int p2, .int p3, .int p4] w (.returned (some (.int r))) w' := by
  refine MA.introH (own := RX0) (nm := "hand") (ls := [some (.ref a), some (.int p0), some (.int p1), some (.int p2), some (.int p3), some (.int p4)]) (by decide) rfl rfl (Nat.le_of_ble_eq_true rfl) rfl (fun X hl hD hE hH => ?_)
  subst hl hD
  unfold mC_X0_hand at hf
  refine V_iload_n dX0_hand_0 rfl ?_
  refine V_iconst dX0_hand_1 ckc_0 ?_
  refine V_bipush dX0_hand_2 ckb_19 ?_
  obtain ⟨r2, hc1, hf⟩ := bd1_ex hf
  refine V_cS (rest := []) (st' := [.int r2]) (mC_X0_in_ok _ _ _ _ _ _ _ hc1) sc_X0_127 (by decide) rfl rfl (Nat.le_of_ble_eq_true rfl) dX0_hand_4 rfl ?_
  refine V_if_eq (tgt := 37) dX0_hand_7 (by decide) (fun hc3 => ?_) (fun hc3 => ?_)
  · have hf := if_t hf hc3
    refine V_keep [true, false, false, false, false, false] rfl ?_
    exact mC_X0_hand_37_v hE hH a w hf
  · have hf := if_f hf hc3
    refine V_iload_n dX0_hand_10 rfl ?_
    obtain ⟨r5, hc4, hf⟩ := bd1_ex hf
    refine V_cS (rest := []) (st' := [.int r5]) (mC_X0_isDay_ok _ _ _ _ _ hc4) sc_X0_201 (by decide) rfl rfl (Nat.le_of_ble_eq_true rfl) dX0_hand_11 rfl ?_
    refine V_if_eq (tgt := 37) dX0_hand_14 (by decide) (fun hc6 => ?_) (fun hc6 => ?_)
    · have hf := if_t hf hc6
      refine V_keep [true, false, false, false, false, false] rfl ?_
      exact mC_X0_hand_37_v hE hH a w hf
    · have hf := if_f hf hc6
      refine V_iload dX0_hand_17 rfl ?_
      refine V_iconst dX0_hand_19 ckc_0 ?_
      refine V_ldcw q1585 dX0_hand_20 ?_
      obtain ⟨r8, hc7, hf⟩ := bd1_ex hf
      refine V_cS (rest := []) (st' := [.int r8]) (mC_X0_in_ok _ _ _ _ _ _ _ hc7) sc_X0_127 (by decide) rfl rfl (Nat.le_of_ble_eq_true rfl) dX0_hand_23 rfl ?_
      refine V_if_eq (tgt := 37) dX0_hand_26 (by decide) (fun hc9 => ?_) (fun hc9 => ?_)
      · have hf := if_t hf hc9
        refine V_keep [true, false, false, false, false, false] rfl ?_
        exact mC_X0_hand_37_v hE hH a w hf
      · have hf := if_f hf hc9
        refine V_iload dX0_hand_29 rfl ?_
        obtain ⟨r11, hc10, hf⟩ := bd1_ex hf
        refine V_cS (rest := []) (st' := [.int r11]) (mC_X0_isDay_ok _ _ _ _ _ hc10) sc_X0_201 (by decide) rfl rfl (Nat.le_of_ble_eq_true rfl) dX0_hand_31 rfl ?_
        refine V_if_ne (tgt := 43) dX0_hand_34 (by decide) (fun hc12 => ?_) (fun hc12 => ?_)
        · have hf := if_f hf hc12
          refine V_aload_n dX0_hand_43 rfl ?_
          refine V_iload_n dX0_hand_44 rfl ?_
          obtain ⟨h13, hf⟩ := ck_ex hf
          obtain ⟨r15, hc14, hf⟩ := bd1_ex hf
          refine V_cV (av := [.int p0]) (rest := []) (st' := [.int r15]) (mC_X0_isBox_ok _ _ _ _ _ _ hc14) vc_X0_425 (kIn1 h13) (by decide) rfl rfl (Nat.le_of_ble_eq_true rfl) dX0_hand_45 rfl ?_
          refine V_if_ne (tgt := 58) dX0_hand_48 (by decide) (fun hc16 => ?_) (fun hc16 => ?_)
          · have hf := if_f hf hc16
            refine V_aload_n dX0_hand_58 rfl ?_
            obtain ⟨b17, hb18, hf⟩ := bd1_ex hf
            refine VP_getR (x := some b17) fa_X0_10 h13 rfl rfl hb18 dX0_hand_59 ?_
            obtain ⟨h19, hf⟩ := ck_ex hf
            obtain ⟨b20, hb21, hf⟩ := bd1_ex hf
            refine VP_getR (x := some b20) fa_X0_428 h19 rfl rfl hb21 dX0_hand_62 ?_
            obtain ⟨h22, hf⟩ := ck_ex hf
            obtain ⟨r24, hc23, hf⟩ := bd1_ex hf
            refine V_cV (av := []) (rest := []) (st' := [.int r24]) (mC_J2_size_ok _ _ _ _ _ hc23) vc_X0_148 (kIn1 h22) (by decide) rfl rfl (Nat.le_of_ble_eq_true rfl) dX0_hand_65 rfl ?_
            refine V_sipush dX0_hand_68 cks_200 ?_
            refine V_icmp_ne (tgt := 81) dX0_hand_71 (by decide) (fun hc25 => ?_) (fun hc25 => ?_)
            · have hf := if_f hf hc25
              refine V_aload_n dX0_hand_81 rfl ?_
              refine VP_getR (x := some b17) fa_X0_10 h13 rfl rfl hb18 dX0_hand_82 ?_
              refine VP_getR (x := some b20) fa_X0_428 h19 rfl rfl hb21 dX0_hand_85 ?_
              obtain ⟨h26, hf⟩ := ck_ex hf
              obtain ⟨b27, hb28, hf⟩ := st1_ex hf
              obtain ⟨w29, hs30, hf⟩ := st1_ex hf
              refine VE_new clX12 q988 q989 q159 ok_X12 h26 hb28 hs30 dX0_hand_88 ?_
              refine V_dup dX0_hand_91 rfl ?_
              refine V_iload_n dX0_hand_92 rfl ?_
              refine V_iload_n dX0_hand_93 rfl ?_
              refine V_iload_n dX0_hand_94 rfl ?_
              refine V_iload dX0_hand_95 rfl ?_
              refine V_iload dX0_hand_97 rfl ?_
              obtain ⟨w32, hc31, hf⟩ := bd1_ex hf
              refine V_cI (av := [.int p0, .int p1, .int p2, .int p3, .int p4]) (rest := [.ref b27, .ref b20]) (st' := [.ref b27, .ref b20]) (mC_X12_init_ok _ _ _ _ _ _ _ _ _ _ hc31) ic_X0_281 (by decide) rfl rfl (Nat.le_of_ble_eq_true rfl) dX0_hand_99 rfl ?_
              obtain ⟨h33, hf⟩ := ck_ex hf
              obtain ⟨r35, w36, hc34, hf⟩ := bd2_ex hf
              refine V_cV (av := [.ref b27]) (rest := []) (st' := [.int r35]) (mC_J2_add_ok _ _ _ _ _ _ _ hc34) vc_X0_178 (kIn1 h33) (by decide) rfl rfl (Nat.le_of_ble_eq_true rfl) dX0_hand_102 rfl ?_
              refine V_pop dX0_hand_105 rfl ?_
              refine V_aload_n dX0_hand_106 rfl ?_
              refine V_aload_n dX0_hand_107 rfl ?_
              obtain ⟨h37, hf⟩ := ck_ex hf
              obtain ⟨b38, hb39, hf⟩ := bd1_ex hf
              refine VP_getR (x := some b38) fa_X0_10 h37 rfl rfl hb39 dX0_hand_108 ?_
              obtain ⟨h40, hf⟩ := ck_ex hf
              obtain ⟨b41, hb42, hf⟩ := bd1_ex hf
              refine VP_getR (x := some b41) fa_X0_428 h40 rfl rfl hb42 dX0_hand_111 ?_
              obtain ⟨h43, hf⟩ := ck_ex hf
              obtain ⟨r45, hc44, hf⟩ := bd1_ex hf
              refine V_cV (av := []) (rest := [.ref a]) (st' := [.int r45, .ref a]) (mC_J2_size_ok _ _ _ _ _ hc44) vc_X0_148 (kIn1 h43) (by decide) rfl rfl (Nat.le_of_ble_eq_true rfl) dX0_hand_114 rfl ?_
              obtain ⟨r47, w48, hc46, hf⟩ := bd2_ex hf
              refine V_cV (av := [.int r45]) (rest := []) (st' := [.int r47]) (mC_X0_told_ok _ _ _ _ _ _ _ hc46) vc_X0_138 (kIn1 h37) (by decide) rfl rfl (Nat.le_of_ble_eq_true rfl) dX0_hand_117 rfl ?_
              cases some_ex hf
              exact V_iret hE dX0_hand_120
            · have hf := if_t hf hc25
              refine V_aload_n dX0_hand_74 rfl ?_
              refine V_bipush dX0_hand_75 ckb_m5 ?_
              obtain ⟨r50, w51, hc49, hf⟩ := bd2_ex hf
              refine V_cV (av := [.int (-5 : Int32)]) (rest := []) (st' := [.int r50]) (mC_X0_refuse_ok _ _ _ _ _ _ _ hc49) vc_X0_131 (kIn1 h13) (by decide) rfl rfl (Nat.le_of_ble_eq_true rfl) dX0_hand_77 rfl ?_
              cases some_ex hf
              exact V_iret hE dX0_hand_80
          · have hf := if_t hf hc16
            refine V_aload_n dX0_hand_51 rfl ?_
            refine V_bipush dX0_hand_52 ckb_m2 ?_
            obtain ⟨r53, w54, hc52, hf⟩ := bd2_ex hf
            refine V_cV (av := [.int (-2 : Int32)]) (rest := []) (st' := [.int r53]) (mC_X0_refuse_ok _ _ _ _ _ _ _ hc52) vc_X0_131 (kIn1 h13) (by decide) rfl rfl (Nat.le_of_ble_eq_true rfl) dX0_hand_54 rfl ?_
            cases some_ex hf
            exact V_iret hE dX0_hand_57
        · have hf := if_t hf hc12
          refine V_keep [true, false, false, false, false, false] rfl ?_
          exact mC_X0_hand_37_v hE hH a w hf
set_option maxHeartbeats 4000000 in
theorem mC_X0_handed_149_v {X : CX} {w0 : AH} {r : Option Nat}  (w : AH) (hE : XE X w0 4 (some (.object "FirstPolls$Note")) "handed" (.returned (some (va_rf r))) w) (hH : XH X []) (k38 : Nat → Int32 → Int32 → Int32 → Int32 → Option Nat → Int32 → Int32 → Option (Option Nat)) (hk38 : ∀ (v0 : Nat) (v1 : Int32) (v2 : Int32) (v3 : Int32) (v4 : Int32) (v5 : Option Nat) (v6 : Int32) (v7 : Int32), k38 v0 v1 v2 v3 v4 v5 v6 v7 = some r → V X cX0_handed RX0 9 4 w 38 [some (.ref v0), some (.int v1), some (.int v2), some (.int v3), some (.int v4), some (va_rf v5), some (.int v6), some (.int v7), none] []) (v0 : Nat) (v1 : Int32) (v2 : Int32) (v3 : Int32) (v4 : Int32) (v5 : Option Nat) (v6 : Int32) (v7 : Int32) (hf : mC_X0_handed_149 w k38 v0 v1 v2 v3 v4 v5 v6 v7 = some r) : V X cX0_handed RX0 9 4 w 149 [some (.ref v0), some (.int v1), some (.int v2), some (.int v3), some (.int v4), some (va_rf v5), some (.int v6), some (.int v7), none] [] := by
  unfold mC_X0_handed_149 at hf
  refine V_inc (ls' := [some (.ref v0), some (.int v1), some (.int v2), some (.int v3), some (.int v4), some (va_rf v5), some (.int v6), some (.int (v7 + (1 : Int32))), none]) dX0_handed_149 rfl ckc_1 (by decide) rfl ?_
  refine V_goto (tgt := 38) dX0_handed_152 (by decide) ?_
  exact hk38 v0 v1 v2 v3 v4 v5 v6 (v7 + (1 : Int32)) hf
set_option maxHeartbeats 4000000 in
theorem mC_X0_handed_145_v {X : CX} {w0 : AH} {r : Option Nat}  (w : AH) (hE : XE X w0 4 (some (.object "FirstPolls$Note")) "handed" (.returned (some (va_rf r))) w) (hH : XH X []) (k38 : Nat → Int32 → Int32 → Int32 → Int32 → Option Nat → Int32 → Int32 → Option (Option Nat)) (hk38 : ∀ (v0 : Nat) (v1 : Int32) (v2 : Int32) (v3 : Int32) (v4 : Int32) (v5 : Option Nat) (v6 : Int32) (v7 : Int32), k38 v0 v1 v2 v3 v4 v5 v6 v7 = some r → V X cX0_handed RX0 9 4 w 38 [some (.ref v0), some (.int v1), some (.int v2), some (.int v3), some (.int v4), some (va_rf v5), some (.int v6), some (.int v7), none] []) (v0 : Nat) (v1 : Int32) (v2 : Int32) (v3 : Int32) (v4 : Int32) (v6 : Int32) (v7 : Int32) (v8 : Nat) (hf : mC_X0_handed_145 w k38 v0 v1 v2 v3 v4 v6 v7 v8 = some r) : V X cX0_handed RX0 9 4 w 145 [some (.ref v0), some (.int v1), some (.int v2), some (.int v3), some (.int v4), none, some (.int v6), some (.int v7), some (.ref v8)] [] := by
  unfold mC_X0_handed_145 at hf
  refine V_aload dX0_handed_145 rfl ?_
  refine V_astore (ls' := [some (.ref v0), some (.int v1), some (.int v2), some (.int v3), some (.int v4), some (.ref v8), some (.int v6), some (.int v7), some (.ref v8)]) dX0_handed_147 (by decide) rfl ?_
  refine V_keep [true, true, true, true, true, true, true, true, false] rfl ?_
  exact mC_X0_handed_149_v w hE hH k38 hk38 v0 v1 v2 v3 v4 (some v8) v6 v7 hf
set_option maxHeartbeats 4000000 in
theorem mC_X0_handed_127_v {X : CX} {w0 : AH} {r : Option Nat}  (w : AH) (hE : XE X w0 4 (some (.object "FirstPolls$Note")) "handed" (.returned (some (va_rf r))) w) (hH : XH X []) (k38 : Nat → Int32 → Int32 → Int32 → Int32 → Option Nat → Int32 → Int32 → Option (Option Nat)) (hk38 : ∀ (v0 : Nat) (v1 : Int32) (v2 : Int32) (v3 : Int32) (v4 : Int32) (v5 : Option Nat) (v6 : Int32) (v7 : Int32), k38 v0 v1 v2 v3 v4 v5 v6 v7 = some r → V X cX0_handed RX0 9 4 w 38 [some (.ref v0), some (.int v1), some (.int v2), some (.int v3), some (.int v4), some (va_rf v5), some (.int v6), some (.int v7), none] []) (v0 : Nat) (v1 : Int32) (v2 : Int32) (v3 : Int32) (v4 : Int32) (v5 : Option Nat) (v6 : Int32) (v7 : Int32) (v8 : Nat) (hf : mC_X0_handed_127 w k38 v0 v1 v2 v3 v4 v5 v6 v7 v8 = some r) : V X cX0_handed RX0 9 4 w 127 [some (.ref v0), some (.int v1), some (.int v2), some (.int v3), some (.int v4), some (va_rf v5), some (.int v6), some (.int v7), some (.ref v8)] [] := by
  unfold mC_X0_handed_127 at hf
  refine V_aloadq (r := v5) dX0_handed_127 rfl ?_
  refine V_ifnull (r := v5) (tgt := 145) dX0_handed_129 (by decide) (fun hc1 => ?_) (fun hc1 => ?_)
  · have hf := if_t hf hc1
    refine V_keep [true, true, true, true, true, false, true, true, true] rfl ?_
    exact mC_X0_handed_145_v w hE hH k38 hk38 v0 v1 v2 v3 v4 v6 v7 v8 hf
  · have hf := if_f hf hc1
    refine V_aload dX0_handed_132 rfl ?_
    obtain ⟨h2, hf⟩ := ck_ex hf
    refine VP_getI fa_X0_431 h2 rfl dX0_handed_134 ?_
    refine V_aloadq (r := v5) dX0_handed_137 rfl ?_
    obtain ⟨b3, rfl, hf⟩ := bd1_ex hf
    obtain ⟨h4, hf⟩ := ck_ex hf
    refine VP_getI fa_X0_431 h4 rfl dX0_handed_139 ?_
    refine V_icmp_lt (tgt := 149) dX0_handed_142 (by decide) (fun hc5 => ?_) (fun hc5 => ?_)
    · have hf := if_t hf hc5
      refine V_keep [true, true, true, true, true, true, true, true, false] rfl ?_
      exact mC_X0_handed_149_v w hE hH k38 hk38 v0 v1 v2 v3 v4 (some b3) v6 v7 hf
    · have hf := if_f hf hc5
      refine V_keep [true, true, true, true, true, false, true, true, true] rfl ?_
      exact mC_X0_handed_145_v w hE hH k38 hk38 v0 v1 v2 v3 v4 v6 v7 v8 hf
set_option maxHeartbeats 4000000 in
theorem mC_X0_handed_38_v {X : CX} {w0 : AH} {r : Option Nat}  (w : AH) (hE : XE X w0 4 (some (.object "FirstPolls$Note")) "handed" (.returned (some (va_rf r))) w) (hH : XH X []) (k38 : Nat → Int32 → Int32 → Int32 → Int32 → Option Nat → Int32 → Int32 → Option (Option Nat)) (hk38 : ∀ (v0 : Nat) (v1 : Int32) (v2 : Int32) (v3 : Int32) (v4 : Int32) (v5 : Option Nat) (v6 : Int32) (v7 : Int32), k38 v0 v1 v2 v3 v4 v5 v6 v7 = some r → V X cX0_handed RX0 9 4 w 38 [some (.ref v0), some (.int v1), some (.int v2), some (.int v3), some (.int v4), some (va_rf v5), some (.int v6), some (.int v7), none] []) (v0 : Nat) (v1 : Int32) (v2 : Int32) (v3 : Int32) (v4 : Int32) (v5 : Option Nat) (v6 : Int32) (v7 : Int32) (hf : mC_X0_handed_38 w k38 v0 v1 v2 v3 v4 v5 v6 v7 = some r) : V X cX0_handed RX0 9 4 w 38 [some (.ref v0), some (.int v1), some (.int v2), some (.int v3), some (.int v4), some (va_rf v5), some (.int v6), some (.int v7), none] [] := by
  unfold mC_X0_handed_38 at hf
  refine V_iload dX0_handed_38 rfl ?_
  refine V_aload_n dX0_handed_40 rfl ?_
  obtain ⟨h1, hf⟩ := ck_ex hf
  obtain ⟨b2, hb3, hf⟩ := bd1_ex hf
  refine VP_getR (x := some b2) fa_X0_10 h1 rfl rfl hb3 dX0_handed_41 ?_
  obtain ⟨h4, hf⟩ := ck_ex hf
  obtain ⟨b5, hb6, hf⟩ := bd1_ex hf
  refine VP_getR (x := some b5) fa_X0_428 h4 rfl rfl hb6 dX0_handed_44 ?_
  obtain ⟨h7, hf⟩ := ck_ex hf
  obtain ⟨r9, hc8, hf⟩ := bd1_ex hf
  refine V_cV (av := []) (rest := [.int v7]) (st' := [.int r9, .int v7]) (mC_J2_size_ok _ _ _ _ _ hc8) vc_X0_148 (kIn1 h7) (by decide) rfl rfl (Nat.le_of_ble_eq_true rfl) dX0_handed_47 rfl ?_
  refine V_icmp_ge (tgt := 155) dX0_handed_50 (by decide) (fun hc10 => ?_) (fun hc10 => ?_)
  · have hf := if_t hf hc10
    refine V_aloadq (r := v5) dX0_handed_155 rfl ?_
    cases some_ex hf
    exact V_aret (r := _) hE (by first | exact Or.inl ⟨_, rfl⟩ | exact Or.inr ⟨_, rfl⟩) dX0_handed_157
  · have hf := if_f hf hc10
    refine V_aload_n dX0_handed_53 rfl ?_
    refine VP_getR (x := some b2) fa_X0_10 h1 rfl rfl hb3 dX0_handed_54 ?_
    refine VP_getR (x := some b5) fa_X0_428 h4 rfl rfl hb6 dX0_handed_57 ?_
    refine V_iload dX0_handed_60 rfl ?_
    obtain ⟨r12, hc11, hf⟩ := bd1_ex hf
    refine V_cV (av := [.int v7]) (rest := []) (st' := [.ref r12]) (mC_J2_get_ok _ _ _ _ _ _ hc11) vc_X0_232 (kIn1 h7) (by decide) rfl rfl (Nat.le_of_ble_eq_true rfl) dX0_handed_62 rfl ?_
    obtain ⟨h13, hf⟩ := ck_ex hf
    refine VE_cast cc_X0_279 h13 dX0_handed_65 ?_
    refine V_astore (ls' := [some (.ref v0), some (.int v1), some (.int v2), some (.int v3), some (.int v4), some (va_rf v5), some (.int v6), some (.int v7), some (.ref r12)]) dX0_handed_68 (by decide) rfl ?_
    refine V_aload dX0_handed_70 rfl ?_
    refine VP_getI fa_X0_282 h13 rfl dX0_handed_72 ?_
    refine V_iload_n dX0_handed_75 rfl ?_
    refine V_icmp_ne (tgt := 149) dX0_handed_76 (by decide) (fun hc14 => ?_) (fun hc14 => ?_)
    · have hf := if_f hf hc14
      refine V_keep [true, true, true, true, true, true, true, true, false] rfl ?_
      exact mC_X0_handed_149_v w hE hH k38 hk38 v0 v1 v2 v3 v4 v5 v6 v7 hf
    · have hf := if_t hf hc14
      refine V_aload dX0_handed_79 rfl ?_
      refine VP_getI fa_X0_434 h13 rfl dX0_handed_81 ?_
      refine V_iload_n dX0_handed_84 rfl ?_
      refine V_icmp_gt (tgt := 149) dX0_handed_85 (by decide) (fun hc15 => ?_) (fun hc15 => ?_)
      · have hf := if_t hf hc15
        refine V_keep [true, true, true, true, true, true, true, true, false] rfl ?_
        exact mC_X0_handed_149_v w hE hH k38 hk38 v0 v1 v2 v3 v4 v5 v6 v7 hf
      · have hf := if_f hf hc15
        refine V_aload dX0_handed_88 rfl ?_
        refine VP_getI fa_X0_431 h13 rfl dX0_handed_90 ?_
        refine V_iload_n dX0_handed_93 rfl ?_
        refine V_icmp_gt (tgt := 149) dX0_handed_94 (by decide) (fun hc16 => ?_) (fun hc16 => ?_)
        · have hf := if_t hf hc16
          refine V_keep [true, true, true, true, true, true, true, true, false] rfl ?_
          exact mC_X0_handed_149_v w hE hH k38 hk38 v0 v1 v2 v3 v4 v5 v6 v7 hf
        · have hf := if_f hf hc16
          refine V_aload dX0_handed_97 rfl ?_
          refine VP_getI fa_X0_431 h13 rfl dX0_handed_99 ?_
          refine V_iload dX0_handed_102 rfl ?_
          refine V_icmp_gt (tgt := 149) dX0_handed_104 (by decide) (fun hc17 => ?_) (fun hc17 => ?_)
          · have hf := if_t hf hc17
            refine V_keep [true, true, true, true, true, true, true, true, false] rfl ?_
            exact mC_X0_handed_149_v w hE hH k38 hk38 v0 v1 v2 v3 v4 v5 v6 v7 hf
          · have hf := if_f hf hc17
            refine V_aload dX0_handed_107 rfl ?_
            refine VP_getI fa_X0_431 h13 rfl dX0_handed_109 ?_
            refine V_iload dX0_handed_112 rfl ?_
            refine V_icmp_ne (tgt := 127) dX0_handed_114 (by decide) (fun hc18 => ?_) (fun hc18 => ?_)
            · have hf := if_f hf hc18
              exact mC_X0_handed_127_v w hE hH k38 hk38 v0 v1 v2 v3 v4 v5 v6 v7 r12 hf
            · have hf := if_t hf hc18
              refine V_iload dX0_handed_117 rfl ?_
              refine V_iload dX0_handed_119 rfl ?_
              refine V_icmp_lt (tgt := 127) dX0_handed_121 (by decide) (fun hc19 => ?_) (fun hc19 => ?_)
              · have hf := if_t hf hc19
                exact mC_X0_handed_127_v w hE hH k38 hk38 v0 v1 v2 v3 v4 v5 v6 v7 r12 hf
              · have hf := if_f hf hc19
                refine V_goto (tgt := 149) dX0_handed_124 (by decide) ?_
                refine V_keep [true, true, true, true, true, true, true, true, false] rfl ?_
                exact mC_X0_handed_149_v w hE hH k38 hk38 v0 v1 v2 v3 v4 v5 v6 v7 hf
set_option maxHeartbeats 4000000 in
theorem mC_X0_handed_33_v {X : CX} {w0 : AH} {r : Option Nat}  (w : AH) (hE : XE X w0 4 (some (.object "FirstPolls$Note")) "handed" (.returned (some (va_rf r))) w) (hH : XH X []) (v0 : Nat) (v1 : Int32) (v2 : Int32) (v3 : Int32) (v4 : Int32) (v5 : Option Nat) (t0 : Int32) (hf : mC_X0_handed_33 w v0 v1 v2 v3 v4 v5 t0 = some r) : V X cX0_handed RX0 9 4 w 33 [some (.ref v0), some (.int v1), some (.int v2), some (.int v3), some (.int v4), some (va_rf v5), none, none, none] [.int t0] := by
  unfold mC_X0_handed_33 at hf
  refine V_istore (ls' := [some (.ref v0), some (.int v1), some (.int v2), some (.int v3), some (.int v4), some (va_rf v5), some (.int t0), none, none]) dX0_handed_33 (by decide) (by cases v5 <;> rfl) ?_
  refine V_iconst dX0_handed_35 ckc_0 ?_
  refine V_istore (ls' := [some (.ref v0), some (.int v1), some (.int v2), some (.int v3), some (.int v4), some (va_rf v5), some (.int t0), some (.int (0 : Int32)), none]) dX0_handed_36 (by decide) rfl ?_
  exact lq8_ex (P := fun v0 v1 v2 v3 v4 v5 v6 v7 => V X cX0_handed RX0 9 4 w 38 [some (.ref v0), some (.int v1), some (.int v2), some (.int v3), some (.int v4), some (va_rf v5), some (.int v6), some (.int v7), none] []) (fun k hk v0 v1 v2 v3 v4 v5 v6 v7 hf => mC_X0_handed_38_v w hE hH k hk v0 v1 v2 v3 v4 v5 v6 v7 hf) LF v0 v1 v2 v3 v4 v5 t0 (0 : Int32) hf
set_option maxHeartbeats 4000000 in
theorem mC_X0_handed_ok (l : Launch) (D : DD) (w : AH) (a : Nat) (p0 : Int32) (p1 : Int32) (p2 : Int32) (p3 : Int32) (r : Option Nat) (hf : mC_X0_handed a p0 p1 p2 p3 w = some r) : MA l D yX0_handed cX0_handed 9 (some (.object "FirstPolls$Note")) 4 [.ref a, .int p0, .int p1, .int p2, .int p3] w (.returned (some (va_rf r))) w := by
  refine MA.introH (own := RX0) (nm := "handed") (ls := [some (.ref a), some (.int p0), some (.int p1), some (.int p2), some (.int p3), none, none, none, none]) (by decide) rfl rfl (Nat.le_of_ble_eq_true rfl) rfl (fun X hl hD hE hH => ?_)
  subst hl hD
  unfold mC_X0_handed at hf
  refine V_null dX0_handed_0 ?_
  refine V_astoreq (r := none) (ls' := [some (.ref a), some (.int p0), some (.int p1), some (.int p2), some (.int p3), some (.null), none, none, none]) dX0_handed_1 (by decide) rfl ?_
  refine V_iload dX0_handed_3 rfl ?_
  refine V_iconst dX0_handed_5 ckc_m1 ?_
  refine V_icmp_ne (tgt := 15) dX0_handed_6 (by decide) (fun hc1 => ?_) (fun hc1 => ?_)
  · have hf := if_f hf hc1
    refine V_aload_n dX0_handed_15 rfl ?_
    obtain ⟨h2, hf⟩ := ck_ex hf
    obtain ⟨b3, hb4, hf⟩ := bd1_ex hf
    refine VP_getR (x := some b3) fa_X0_10 h2 rfl rfl hb4 dX0_handed_16 ?_
    obtain ⟨h5, hf⟩ := ck_ex hf
    obtain ⟨b6, hb7, hf⟩ := bd1_ex hf
    refine VP_getR (x := some b6) fa_X0_428 h5 rfl rfl hb7 dX0_handed_19 ?_
    refine V_iload dX0_handed_22 rfl ?_
    obtain ⟨h8, hf⟩ := ck_ex hf
    obtain ⟨r10, hc9, hf⟩ := bd1_ex hf
    refine V_cV (av := [.int p3]) (rest := []) (st' := [.ref r10]) (mC_J2_get_ok _ _ _ _ _ _ hc9) vc_X0_232 (kIn1 h8) (by decide) rfl rfl (Nat.le_of_ble_eq_true rfl) dX0_handed_24 rfl ?_
    obtain ⟨h11, hf⟩ := ck_ex hf
    refine VE_cast cc_X0_279 h11 dX0_handed_27 ?_
    refine VP_getI fa_X0_431 h11 rfl dX0_handed_30 ?_
    exact mC_X0_handed_33_v w hE hH a p0 p1 p2 p3 none (hvi w r10 2) hf
  · have hf := if_t hf hc1
    refine V_sipush dX0_handed_9 cks_400 ?_
    refine V_goto (tgt := 33) dX0_handed_12 (by decide) ?_
    exact mC_X0_handed_33_v w hE hH a p0 p1 p2 p3 none (400 : Int32) hf
set_option maxHeartbeats 4000000 in
theorem mC_X0_held_ok (l : Launch) (D : DD) (w : AH) (a : Nat) (p0 : Int32) (p1 : Int32) (p2 : Int32) (r : Int32) (hf : mC_X0_held a p0 p1 p2 w = some r) : MA l D yX0_held cX0_held 5 (some (.int)) 5 [.ref a, .int p0, .int p1, .int p2] w (.returned (some (.int r))) w := by
  refine MA.introH (own := RX0) (nm := "held") (ls := [some (.ref a), some (.int p0), some (.int p1), some (.int p2), none]) (by decide) rfl rfl (Nat.le_of_ble_eq_true rfl) rfl (fun X hl hD hE hH => ?_)
  subst hl hD
  unfold mC_X0_held at hf
  refine V_aload_n dX0_held_0 rfl ?_
  refine V_iload_n dX0_held_1 rfl ?_
  obtain ⟨h1, hf⟩ := ck_ex hf
  obtain ⟨r3, hc2, hf⟩ := bd1_ex hf
  refine V_cV (av := [.int p0]) (rest := []) (st' := [.int r3]) (mC_X0_isBox_ok _ _ _ _ _ _ hc2) vc_X0_425 (kIn1 h1) (by decide) rfl rfl (Nat.le_of_ble_eq_true rfl) dX0_held_2 rfl ?_
  refine V_if_eq (tgt := 22) dX0_held_5 (by decide) (fun hc4 => ?_) (fun hc4 => ?_)
  · have hf := if_t hf hc4
    refine V_iconst dX0_held_22 ckc_m1 ?_
    cases some_ex hf
    exact V_iret hE dX0_held_23
  · have hf := if_f hf hc4
    refine V_iload_n dX0_held_8 rfl ?_
    obtain ⟨r6, hc5, hf⟩ := bd1_ex hf
    refine V_cS (rest := []) (st' := [.int r6]) (mC_X0_isDay_ok _ _ _ _ _ hc5) sc_X0_201 (by decide) rfl rfl (Nat.le_of_ble_eq_true rfl) dX0_held_9 rfl ?_
    refine V_if_eq (tgt := 22) dX0_held_12 (by decide) (fun hc7 => ?_) (fun hc7 => ?_)
    · have hf := if_t hf hc7
      refine V_iconst dX0_held_22 ckc_m1 ?_
      cases some_ex hf
      exact V_iret hE dX0_held_23
    · have hf := if_f hf hc7
      refine V_iload_n dX0_held_15 rfl ?_
      obtain ⟨r9, hc8, hf⟩ := bd1_ex hf
      refine V_cS (rest := []) (st' := [.int r9]) (mC_X0_isDay_ok _ _ _ _ _ hc8) sc_X0_201 (by decide) rfl rfl (Nat.le_of_ble_eq_true rfl) dX0_held_16 rfl ?_
      refine V_if_ne (tgt := 24) dX0_held_19 (by decide) (fun hc10 => ?_) (fun hc10 => ?_)
      · have hf := if_f hf hc10
        refine V_aload_n dX0_held_24 rfl ?_
        refine V_iload_n dX0_held_25 rfl ?_
        refine V_iload_n dX0_held_26 rfl ?_
        refine V_iload_n dX0_held_27 rfl ?_
        refine V_iconst dX0_held_28 ckc_m1 ?_
        obtain ⟨r12, hc11, hf⟩ := bd1_ex hf
        refine V_cV (av := [.int p0, .int p1, .int p2, .int (-1 : Int32)]) (rest := []) (st' := [va_rf r12]) (mC_X0_handed_ok _ _ _ _ _ _ _ _ _ hc11) vc_X0_437 (kIn1 h1) (by decide) rfl rfl (Nat.le_of_ble_eq_true rfl) dX0_held_29 rfl ?_
        refine V_astoreq (r := r12) (ls' := [some (.ref a), some (.int p0), some (.int p1), some (.int p2), some (va_rf r12)]) dX0_held_32 (by decide) rfl ?_
        refine V_aloadq (r := r12) dX0_held_34 rfl ?_
        refine V_ifnonnull (r := r12) (tgt := 43) dX0_held_36 (by decide) (fun hc13 => ?_) (fun hc13 => ?_)
        · have hf := if_f hf hc13
          refine V_aloadq (r := r12) dX0_held_43 rfl ?_
          obtain ⟨b14, rfl, hf⟩ := bd1_ex hf
          obtain ⟨h15, hf⟩ := ck_ex hf
          refine VP_getI fa_X0_285 h15 rfl dX0_held_45 ?_
          cases some_ex hf
          exact V_iret hE dX0_held_48
        · have hf := if_t hf hc13
          refine V_iconst dX0_held_39 ckc_m1 ?_
          refine V_goto (tgt := 48) dX0_held_40 (by decide) ?_
          cases some_ex hf
          exact V_iret hE dX0_held_48
      · have hf := if_t hf hc10
        refine V_iconst dX0_held_22 ckc_m1 ?_
        cases some_ex hf
        exact V_iret hE dX0_held_23
set_option maxHeartbeats 4000000 in
theorem mC_X0_breaks_105_v {X : CX} {w0 : AH} {r : Int32}  (w : AH) (hE : XE X w0 4 (some (.int)) "breaks" (.returned (some (.int r))) w) (hH : XH X []) (k5 : Nat → Int32 → Int32 → Int32 → Int32 → Option (Int32)) (hk5 : ∀ (v0 : Nat) (v1 : Int32) (v2 : Int32) (v3 : Int32) (v4 : Int32), k5 v0 v1 v2 v3 v4 = some r → V X cX0_breaks RX0 6 4 w 5 [some (.ref v0), some (.int v1), some (.int v2), some (.int v3), some (.int v4), none] []) (v0 : Nat) (v1 : Int32) (v2 : Int32) (v3 : Int32) (v4 : Int32) (hf : mC_X0_breaks_105 w k5 v0 v1 v2 v3 v4 = some r) : V X cX0_breaks RX0 6 4 w 105 [some (.ref v0), some (.int v1), some (.int v2), some (.int v3), some (.int v4), none] [] := by
  unfold mC_X0_breaks_105 at hf
  refine V_inc (ls' := [some (.ref v0), some (.int v1), some (.int v2), some (.int v3), some (.int (v4 + (1 : Int32))), none]) dX0_breaks_105 rfl ckc_1 (by decide) rfl ?_
  refine V_goto (tgt := 5) dX0_breaks_108 (by decide) ?_
  exact hk5 v0 v1 v2 v3 (v4 + (1 : Int32)) hf
set_option maxHeartbeats 4000000 in
theorem mC_X0_breaks_102_v {X : CX} {w0 : AH} {r : Int32}  (w : AH) (hE : XE X w0 4 (some (.int)) "breaks" (.returned (some (.int r))) w) (hH : XH X []) (k5 : Nat → Int32 → Int32 → Int32 → Int32 → Option (Int32)) (hk5 : ∀ (v0 : Nat) (v1 : Int32) (v2 : Int32) (v3 : Int32) (v4 : Int32), k5 v0 v1 v2 v3 v4 = some r → V X cX0_breaks RX0 6 4 w 5 [some (.ref v0), some (.int v1), some (.int v2), some (.int v3), some (.int v4), none] []) (v0 : Nat) (v1 : Int32) (v2 : Int32) (v4 : Int32) (hf : mC_X0_breaks_102 w k5 v0 v1 v2 v4 = some r) : V X cX0_breaks RX0 6 4 w 102 [some (.ref v0), some (.int v1), some (.int v2), none, some (.int v4), none] [] := by
  unfold mC_X0_breaks_102 at hf
  refine V_iload dX0_breaks_102 rfl ?_
  refine V_istore_n (ls' := [some (.ref v0), some (.int v1), some (.int v2), some (.int v4), some (.int v4), none]) dX0_breaks_104 (by decide) rfl ?_
  exact mC_X0_breaks_105_v w hE hH k5 hk5 v0 v1 v2 v4 v4 hf
set_option maxHeartbeats 4000000 in
theorem mC_X0_breaks_5_v {X : CX} {w0 : AH} {r : Int32}  (w : AH) (hE : XE X w0 4 (some (.int)) "breaks" (.returned (some (.int r))) w) (hH : XH X []) (k5 : Nat → Int32 → Int32 → Int32 → Int32 → Option (Int32)) (hk5 : ∀ (v0 : Nat) (v1 : Int32) (v2 : Int32) (v3 : Int32) (v4 : Int32), k5 v0 v1 v2 v3 v4 = some r → V X cX0_breaks RX0 6 4 w 5 [some (.ref v0), some (.int v1), some (.int v2), some (.int v3), some (.int v4), none] []) (v0 : Nat) (v1 : Int32) (v2 : Int32) (v3 : Int32) (v4 : Int32) (hf : mC_X0_breaks_5 w k5 v0 v1 v2 v3 v4 = some r) : V X cX0_breaks RX0 6 4 w 5 [some (.ref v0), some (.int v1), some (.int v2), some (.int v3), some (.int v4), none] [] := by
  unfold mC_X0_breaks_5 at hf
  refine V_iload dX0_breaks_5 rfl ?_
  refine V_aload_n dX0_breaks_7 rfl ?_
  obtain ⟨h1, hf⟩ := ck_ex hf
  obtain ⟨b2, hb3, hf⟩ := bd1_ex hf
  refine VP_getR (x := some b2) fa_X0_10 h1 rfl rfl hb3 dX0_breaks_8 ?_
  obtain ⟨h4, hf⟩ := ck_ex hf
  obtain ⟨b5, hb6, hf⟩ := bd1_ex hf
  refine VP_getR (x := some b5) fa_X0_428 h4 rfl rfl hb6 dX0_breaks_11 ?_
  obtain ⟨h7, hf⟩ := ck_ex hf
  obtain ⟨r9, hc8, hf⟩ := bd1_ex hf
  refine V_cV (av := []) (rest := [.int v4]) (st' := [.int r9, .int v4]) (mC_J2_size_ok _ _ _ _ _ hc8) vc_X0_148 (kIn1 h7) (by decide) rfl rfl (Nat.le_of_ble_eq_true rfl) dX0_breaks_14 rfl ?_
  refine V_icmp_ge (tgt := 111) dX0_breaks_17 (by decide) (fun hc10 => ?_) (fun hc10 => ?_)
  · have hf := if_t hf hc10
    refine V_iload_n dX0_breaks_111 rfl ?_
    cases some_ex hf
    exact V_iret hE dX0_breaks_112
  · have hf := if_f hf hc10
    refine V_aload_n dX0_breaks_20 rfl ?_
    refine VP_getR (x := some b2) fa_X0_10 h1 rfl rfl hb3 dX0_breaks_21 ?_
    refine VP_getR (x := some b5) fa_X0_428 h4 rfl rfl hb6 dX0_breaks_24 ?_
    refine V_iload dX0_breaks_27 rfl ?_
    obtain ⟨r12, hc11, hf⟩ := bd1_ex hf
    refine V_cV (av := [.int v4]) (rest := []) (st' := [.ref r12]) (mC_J2_get_ok _ _ _ _ _ _ hc11) vc_X0_232 (kIn1 h7) (by decide) rfl rfl (Nat.le_of_ble_eq_true rfl) dX0_breaks_29 rfl ?_
    obtain ⟨h13, hf⟩ := ck_ex hf
    refine VE_cast cc_X0_279 h13 dX0_breaks_32 ?_
    refine V_astore (ls' := [some (.ref v0), some (.int v1), some (.int v2), some (.int v3), some (.int v4), some (.ref r12)]) dX0_breaks_35 (by decide) rfl ?_
    refine V_aload dX0_breaks_37 rfl ?_
    refine VP_getI fa_X0_282 h13 rfl dX0_breaks_39 ?_
    refine V_iload_n dX0_breaks_42 rfl ?_
    refine V_icmp_ne (tgt := 105) dX0_breaks_43 (by decide) (fun hc14 => ?_) (fun hc14 => ?_)
    · have hf := if_f hf hc14
      refine V_keep [true, true, true, true, true, false] rfl ?_
      exact mC_X0_breaks_105_v w hE hH k5 hk5 v0 v1 v2 v3 v4 hf
    · have hf := if_t hf hc14
      refine V_aload dX0_breaks_46 rfl ?_
      refine VP_getI fa_X0_434 h13 rfl dX0_breaks_48 ?_
      refine V_iload_n dX0_breaks_51 rfl ?_
      refine V_icmp_gt (tgt := 105) dX0_breaks_52 (by decide) (fun hc15 => ?_) (fun hc15 => ?_)
      · have hf := if_t hf hc15
        refine V_keep [true, true, true, true, true, false] rfl ?_
        exact mC_X0_breaks_105_v w hE hH k5 hk5 v0 v1 v2 v3 v4 hf
      · have hf := if_f hf hc15
        refine V_aload dX0_breaks_55 rfl ?_
        refine VP_getI fa_X0_441 h13 rfl dX0_breaks_57 ?_
        refine V_aload_n dX0_breaks_60 rfl ?_
        refine VP_getR (x := some b2) fa_X0_10 h1 rfl rfl hb3 dX0_breaks_61 ?_
        obtain ⟨b16, hb17, hf⟩ := bd1_ex hf
        refine VP_getR (x := some b16) fa_X0_422 h4 rfl rfl hb17 dX0_breaks_64 ?_
        refine V_iload_n dX0_breaks_67 rfl ?_
        obtain ⟨h18, hf⟩ := ck_ex hf
        refine VE_iald h18 rfl dX0_breaks_68 ?_
        refine V_icmp_eq (tgt := 105) dX0_breaks_69 (by decide) (fun hc19 => ?_) (fun hc19 => ?_)
        · have hf := if_t hf hc19
          refine V_keep [true, true, true, true, true, false] rfl ?_
          exact mC_X0_breaks_105_v w hE hH k5 hk5 v0 v1 v2 v3 v4 hf
        · have hf := if_f hf hc19
          refine V_iload_n dX0_breaks_72 rfl ?_
          refine V_iconst dX0_breaks_73 ckc_m1 ?_
          refine V_icmp_eq (tgt := 102) dX0_breaks_74 (by decide) (fun hc20 => ?_) (fun hc20 => ?_)
          · have hf := if_t hf hc20
            refine V_keep [true, true, true, false, true, false] rfl ?_
            exact mC_X0_breaks_102_v w hE hH k5 hk5 v0 v1 v2 v4 hf
          · have hf := if_f hf hc20
            refine V_aload dX0_breaks_77 rfl ?_
            refine VP_getI fa_X0_431 h13 rfl dX0_breaks_79 ?_
            refine V_aload_n dX0_breaks_82 rfl ?_
            refine VP_getR (x := some b2) fa_X0_10 h1 rfl rfl hb3 dX0_breaks_83 ?_
            refine VP_getR (x := some b5) fa_X0_428 h4 rfl rfl hb6 dX0_breaks_86 ?_
            refine V_iload_n dX0_breaks_89 rfl ?_
            obtain ⟨r22, hc21, hf⟩ := bd1_ex hf
            refine V_cV (av := [.int v3]) (rest := [.int (hvi w r12 2)]) (st' := [.ref r22, .int (hvi w r12 2)]) (mC_J2_get_ok _ _ _ _ _ _ hc21) vc_X0_232 (kIn1 h7) (by decide) rfl rfl (Nat.le_of_ble_eq_true rfl) dX0_breaks_90 rfl ?_
            obtain ⟨h23, hf⟩ := ck_ex hf
            refine VE_cast cc_X0_279 h23 dX0_breaks_93 ?_
            refine VP_getI fa_X0_431 h23 rfl dX0_breaks_96 ?_
            refine V_icmp_ge (tgt := 105) dX0_breaks_99 (by decide) (fun hc24 => ?_) (fun hc24 => ?_)
            · have hf := if_t hf hc24
              refine V_keep [true, true, true, true, true, false] rfl ?_
              exact mC_X0_breaks_105_v w hE hH k5 hk5 v0 v1 v2 v3 v4 hf
            · have hf := if_f hf hc24
              refine V_keep [true, true, true, false, true, false] rfl ?_
              exact mC_X0_breaks_102_v w hE hH k5 hk5 v0 v1 v2 v4 hf
