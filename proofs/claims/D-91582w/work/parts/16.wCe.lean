set_option maxRecDepth 100000
set_option maxHeartbeats 4000000 in
theorem mC_X0_breaks_ok (l : Launch) (D : DD) (w : AH) (a : Nat) (p0 : Int32) (p1 : Int32) (r : Int32) (hf : mC_X0_breaks a p0 p1 w = some r) : MA l D yX0_breaks cX0_breaks 6 (some (.int)) 4 [.ref a, .int p0, .int p1] w (.returned (some (.int r))) w := by
  refine MA.introH (own := RX0) (nm := "breaks") (ls := [some (.ref a), some (.int p0), some (.int p1), none, none, none]) (by decide) rfl rfl (Nat.le_of_ble_eq_true rfl) rfl (fun X hl hD hE hH => ?_)
  subst hl hD
  unfold mC_X0_breaks at hf
  refine V_iconst dX0_breaks_0 ckc_m1 ?_
  refine V_istore_n (ls' := [some (.ref a), some (.int p0), some (.int p1), some (.int (-1 : Int32)), none, none]) dX0_breaks_1 (by decide) rfl ?_
  refine V_iconst dX0_breaks_2 ckc_0 ?_
  refine V_istore (ls' := [some (.ref a), some (.int p0), some (.int p1), some (.int (-1 : Int32)), some (.int (0 : Int32)), none]) dX0_breaks_3 (by decide) rfl ?_
  exact lq5_ex (P := fun v0 v1 v2 v3 v4 => V X cX0_breaks RX0 6 4 w 5 [some (.ref v0), some (.int v1), some (.int v2), some (.int v3), some (.int v4), none] []) (fun k hk v0 v1 v2 v3 v4 hf => mC_X0_breaks_5_v w hE hH k hk v0 v1 v2 v3 v4 hf) LF a p0 p1 (-1 : Int32) (0 : Int32) hf
set_option maxHeartbeats 4000000 in
theorem mC_X0_broken_ok (l : Launch) (D : DD) (w : AH) (a : Nat) (p0 : Int32) (p1 : Int32) (p2 : Int32) (r : Int32) (hf : mC_X0_broken a p0 p1 p2 w = some r) : MA l D yX0_broken cX0_broken 6 (some (.int)) 5 [.ref a, .int p0, .int p1, .int p2] w (.returned (some (.int r))) w := by
  refine MA.introH (own := RX0) (nm := "broken") (ls := [some (.ref a), some (.int p0), some (.int p1), some (.int p2), none, none]) (by decide) rfl rfl (Nat.le_of_ble_eq_true rfl) rfl (fun X hl hD hE hH => ?_)
  subst hl hD
  unfold mC_X0_broken at hf
  refine V_aload_n dX0_broken_0 rfl ?_
  refine V_iload_n dX0_broken_1 rfl ?_
  obtain ⟨h1, hf⟩ := ck_ex hf
  obtain ⟨r3, hc2, hf⟩ := bd1_ex hf
  refine V_cV (av := [.int p0]) (rest := []) (st' := [.int r3]) (mC_X0_isBox_ok _ _ _ _ _ _ hc2) vc_X0_425 (kIn1 h1) (by decide) rfl rfl (Nat.le_of_ble_eq_true rfl) dX0_broken_2 rfl ?_
  refine V_if_eq (tgt := 24) dX0_broken_5 (by decide) (fun hc4 => ?_) (fun hc4 => ?_)
  · have hf := if_t hf hc4
    refine V_iconst dX0_broken_24 ckc_m1 ?_
    cases some_ex hf
    exact V_iret hE dX0_broken_25
  · have hf := if_f hf hc4
    refine V_iload_n dX0_broken_8 rfl ?_
    obtain ⟨r6, hc5, hf⟩ := bd1_ex hf
    refine V_cS (rest := []) (st' := [.int r6]) (mC_X0_isDay_ok _ _ _ _ _ hc5) sc_X0_201 (by decide) rfl rfl (Nat.le_of_ble_eq_true rfl) dX0_broken_9 rfl ?_
    refine V_if_eq (tgt := 24) dX0_broken_12 (by decide) (fun hc7 => ?_) (fun hc7 => ?_)
    · have hf := if_t hf hc7
      refine V_iconst dX0_broken_24 ckc_m1 ?_
      cases some_ex hf
      exact V_iret hE dX0_broken_25
    · have hf := if_f hf hc7
      refine V_iload_n dX0_broken_15 rfl ?_
      refine V_iconst dX0_broken_16 ckc_0 ?_
      refine V_iconst dX0_broken_17 ckc_2 ?_
      obtain ⟨r9, hc8, hf⟩ := bd1_ex hf
      refine V_cS (rest := []) (st' := [.int r9]) (mC_X0_in_ok _ _ _ _ _ _ _ hc8) sc_X0_127 (by decide) rfl rfl (Nat.le_of_ble_eq_true rfl) dX0_broken_18 rfl ?_
      refine V_if_ne (tgt := 26) dX0_broken_21 (by decide) (fun hc10 => ?_) (fun hc10 => ?_)
      · have hf := if_f hf hc10
        refine V_aload_n dX0_broken_26 rfl ?_
        refine V_iload_n dX0_broken_27 rfl ?_
        refine V_iload_n dX0_broken_28 rfl ?_
        obtain ⟨r12, hc11, hf⟩ := bd1_ex hf
        refine V_cV (av := [.int p0, .int p1]) (rest := []) (st' := [.int r12]) (mC_X0_breaks_ok _ _ _ _ _ _ _ hc11) vc_X0_444 (kIn1 h1) (by decide) rfl rfl (Nat.le_of_ble_eq_true rfl) dX0_broken_29 rfl ?_
        refine V_istore (ls' := [some (.ref a), some (.int p0), some (.int p1), some (.int p2), some (.int r12), none]) dX0_broken_32 (by decide) rfl ?_
        refine V_iload dX0_broken_34 rfl ?_
        refine V_iconst dX0_broken_36 ckc_m1 ?_
        refine V_icmp_ne (tgt := 42) dX0_broken_37 (by decide) (fun hc13 => ?_) (fun hc13 => ?_)
        · have hf := if_f hf hc13
          refine V_iload_n dX0_broken_42 rfl ?_
          refine V_iconst dX0_broken_43 ckc_1 ?_
          refine V_icmp_eq (tgt := 91) dX0_broken_44 (by decide) (fun hc14 => ?_) (fun hc14 => ?_)
          · have hf := if_t hf hc14
            refine V_aload_n dX0_broken_91 rfl ?_
            refine V_iload_n dX0_broken_92 rfl ?_
            refine V_sipush dX0_broken_93 cks_400 ?_
            refine V_iload_n dX0_broken_96 rfl ?_
            refine V_iload dX0_broken_97 rfl ?_
            obtain ⟨r16, hc15, hf⟩ := bd1_ex hf
            refine V_cV (av := [.int p0, .int (400 : Int32), .int p1, .int r12]) (rest := []) (st' := [va_rf r16]) (mC_X0_handed_ok _ _ _ _ _ _ _ _ _ hc15) vc_X0_437 (kIn1 h1) (by decide) rfl rfl (Nat.le_of_ble_eq_true rfl) dX0_broken_99 rfl ?_
            refine V_astoreq (r := r16) (ls' := [some (.ref a), some (.int p0), some (.int p1), some (.int p2), some (.int r12), some (va_rf r16)]) dX0_broken_102 (by decide) rfl ?_
            refine V_aloadq (r := r16) dX0_broken_104 rfl ?_
            refine V_ifnonnull (r := r16) (tgt := 113) dX0_broken_106 (by decide) (fun hc17 => ?_) (fun hc17 => ?_)
            · have hf := if_f hf hc17
              refine V_aloadq (r := r16) dX0_broken_113 rfl ?_
              obtain ⟨b18, rfl, hf⟩ := bd1_ex hf
              obtain ⟨h19, hf⟩ := ck_ex hf
              refine VP_getI fa_X0_285 h19 rfl dX0_broken_115 ?_
              cases some_ex hf
              exact V_iret hE dX0_broken_118
            · have hf := if_t hf hc17
              refine V_iconst dX0_broken_109 ckc_m1 ?_
              refine V_goto (tgt := 118) dX0_broken_110 (by decide) ?_
              cases some_ex hf
              exact V_iret hE dX0_broken_118
          · have hf := if_f hf hc14
            refine V_iload_n dX0_broken_47 rfl ?_
            refine V_if_ne (tgt := 72) dX0_broken_48 (by decide) (fun hc20 => ?_) (fun hc20 => ?_)
            · have hf := if_f hf hc20
              refine V_aload_n dX0_broken_72 rfl ?_
              obtain ⟨b21, hb22, hf⟩ := bd1_ex hf
              refine VP_getR (x := some b21) fa_X0_10 h1 rfl rfl hb22 dX0_broken_73 ?_
              obtain ⟨h23, hf⟩ := ck_ex hf
              obtain ⟨b24, hb25, hf⟩ := bd1_ex hf
              refine VP_getR (x := some b24) fa_X0_428 h23 rfl rfl hb25 dX0_broken_76 ?_
              refine V_iload dX0_broken_79 rfl ?_
              obtain ⟨h26, hf⟩ := ck_ex hf
              obtain ⟨r28, hc27, hf⟩ := bd1_ex hf
              refine V_cV (av := [.int r12]) (rest := []) (st' := [.ref r28]) (mC_J2_get_ok _ _ _ _ _ _ hc27) vc_X0_232 (kIn1 h26) (by decide) rfl rfl (Nat.le_of_ble_eq_true rfl) dX0_broken_81 rfl ?_
              obtain ⟨h29, hf⟩ := ck_ex hf
              refine VE_cast cc_X0_279 h29 dX0_broken_84 ?_
              refine VP_getI fa_X0_431 h29 rfl dX0_broken_87 ?_
              cases some_ex hf
              exact V_iret hE dX0_broken_90
            · have hf := if_t hf hc20
              refine V_aload_n dX0_broken_51 rfl ?_
              obtain ⟨b30, hb31, hf⟩ := bd1_ex hf
              refine VP_getR (x := some b30) fa_X0_10 h1 rfl rfl hb31 dX0_broken_52 ?_
              obtain ⟨h32, hf⟩ := ck_ex hf
              obtain ⟨b33, hb34, hf⟩ := bd1_ex hf
              refine VP_getR (x := some b33) fa_X0_428 h32 rfl rfl hb34 dX0_broken_55 ?_
              refine V_iload dX0_broken_58 rfl ?_
              obtain ⟨h35, hf⟩ := ck_ex hf
              obtain ⟨r37, hc36, hf⟩ := bd1_ex hf
              refine V_cV (av := [.int r12]) (rest := []) (st' := [.ref r37]) (mC_J2_get_ok _ _ _ _ _ _ hc36) vc_X0_232 (kIn1 h35) (by decide) rfl rfl (Nat.le_of_ble_eq_true rfl) dX0_broken_60 rfl ?_
              obtain ⟨h38, hf⟩ := ck_ex hf
              refine VE_cast cc_X0_279 h38 dX0_broken_63 ?_
              refine VP_getI fa_X0_285 h38 rfl dX0_broken_66 ?_
              refine V_goto (tgt := 90) dX0_broken_69 (by decide) ?_
              cases some_ex hf
              exact V_iret hE dX0_broken_90
        · have hf := if_t hf hc13
          refine V_iconst dX0_broken_40 ckc_m1 ?_
          cases some_ex hf
          exact V_iret hE dX0_broken_41
      · have hf := if_t hf hc10
        refine V_iconst dX0_broken_24 ckc_m1 ?_
        cases some_ex hf
        exact V_iret hE dX0_broken_25
set_option maxHeartbeats 4000000 in
theorem mC_X0_paper_28_v {X : CX} {w0 : AH} {r : Int32} {w' : AH}  (hE : XE X w0 7 (some (.int)) "paper" (.returned (some (.int r))) w') (hH : XH X []) (v0 : Nat) (w : AH) (hf : mC_X0_paper_28 v0 w = some (r, w')) : V X cX0_paper RX0 5 7 w 28 [some (.ref v0), none, none, none, none] [] := by
  unfold mC_X0_paper_28 at hf
  refine V_aload_n dX0_paper_28 rfl ?_
  refine V_iconst dX0_paper_29 ckc_m1 ?_
  obtain ⟨h1, hf⟩ := ck_ex hf
  obtain ⟨r3, w4, hc2, hf⟩ := bd2_ex hf
  refine V_cV (av := [.int (-1 : Int32)]) (rest := []) (st' := [.int r3]) (mC_X0_refuse_ok _ _ _ _ _ _ _ hc2) vc_X0_131 (kIn1 h1) (by decide) rfl rfl (Nat.le_of_ble_eq_true rfl) dX0_paper_30 rfl ?_
  cases some_ex hf
  exact V_iret hE dX0_paper_33
set_option maxHeartbeats 4000000 in
theorem mC_X0_paper_ok (l : Launch) (D : DD) (w : AH) (a : Nat) (p0 : Int32) (p1 : Int32) (p2 : Int32) (p3 : Int32) (r : Int32) (w' : AH) (hf : mC_X0_paper a p0 p1 p2 p3 w = some (r, w')) : MA l D yX0_paper cX0_paper 5 (some (.int)) 7 [.ref a, .int p0, .int p1, .int p2, .int p3] w (.returned (some (.int r))) w' := by
  refine MA.introH (own := RX0) (nm := "paper") (ls := [some (.ref a), some (.int p0), some (.int p1), some (.int p2), some (.int p3)]) (by decide) rfl rfl (Nat.le_of_ble_eq_true rfl) rfl (fun X hl hD hE hH => ?_)
  subst hl hD
  unfold mC_X0_paper at hf
  refine V_iload_n dX0_paper_0 rfl ?_
  refine V_iconst dX0_paper_1 ckc_0 ?_
  refine V_iconst dX0_paper_2 ckc_3 ?_
  obtain ⟨r2, hc1, hf⟩ := bd1_ex hf
  refine V_cS (rest := []) (st' := [.int r2]) (mC_X0_in_ok _ _ _ _ _ _ _ hc1) sc_X0_127 (by decide) rfl rfl (Nat.le_of_ble_eq_true rfl) dX0_paper_3 rfl ?_
  refine V_if_eq (tgt := 28) dX0_paper_6 (by decide) (fun hc3 => ?_) (fun hc3 => ?_)
  · have hf := if_t hf hc3
    refine V_keep [true, false, false, false, false] rfl ?_
    exact mC_X0_paper_28_v hE hH a w hf
  · have hf := if_f hf hc3
    refine V_iload_n dX0_paper_9 rfl ?_
    refine V_iconst dX0_paper_10 ckc_0 ?_
    refine V_ldcw q1618 dX0_paper_11 ?_
    obtain ⟨r5, hc4, hf⟩ := bd1_ex hf
    refine V_cS (rest := []) (st' := [.int r5]) (mC_X0_in_ok _ _ _ _ _ _ _ hc4) sc_X0_127 (by decide) rfl rfl (Nat.le_of_ble_eq_true rfl) dX0_paper_14 rfl ?_
    refine V_if_eq (tgt := 28) dX0_paper_17 (by decide) (fun hc6 => ?_) (fun hc6 => ?_)
    · have hf := if_t hf hc6
      refine V_keep [true, false, false, false, false] rfl ?_
      exact mC_X0_paper_28_v hE hH a w hf
    · have hf := if_f hf hc6
      refine V_iload dX0_paper_20 rfl ?_
      obtain ⟨r8, hc7, hf⟩ := bd1_ex hf
      refine V_cS (rest := []) (st' := [.int r8]) (mC_X0_isDay_ok _ _ _ _ _ hc7) sc_X0_201 (by decide) rfl rfl (Nat.le_of_ble_eq_true rfl) dX0_paper_22 rfl ?_
      refine V_if_ne (tgt := 34) dX0_paper_25 (by decide) (fun hc9 => ?_) (fun hc9 => ?_)
      · have hf := if_f hf hc9
        refine V_aload_n dX0_paper_34 rfl ?_
        refine V_iload_n dX0_paper_35 rfl ?_
        obtain ⟨h10, hf⟩ := ck_ex hf
        obtain ⟨r12, hc11, hf⟩ := bd1_ex hf
        refine V_cV (av := [.int p0]) (rest := []) (st' := [.int r12]) (mC_X0_isBooth_ok _ _ _ _ _ _ hc11) vc_X0_416 (kIn1 h10) (by decide) rfl rfl (Nat.le_of_ble_eq_true rfl) dX0_paper_36 rfl ?_
        refine V_if_ne (tgt := 49) dX0_paper_39 (by decide) (fun hc13 => ?_) (fun hc13 => ?_)
        · have hf := if_f hf hc13
          refine V_aload_n dX0_paper_49 rfl ?_
          obtain ⟨b14, hb15, hf⟩ := bd1_ex hf
          refine VP_getR (x := some b14) fa_X0_10 h10 rfl rfl hb15 dX0_paper_50 ?_
          obtain ⟨h16, hf⟩ := ck_ex hf
          obtain ⟨b17, hb18, hf⟩ := bd1_ex hf
          refine VP_getR (x := some b17) fa_X0_448 h16 rfl rfl hb18 dX0_paper_53 ?_
          obtain ⟨h19, hf⟩ := ck_ex hf
          obtain ⟨r21, hc20, hf⟩ := bd1_ex hf
          refine V_cV (av := []) (rest := []) (st' := [.int r21]) (mC_J2_size_ok _ _ _ _ _ hc20) vc_X0_148 (kIn1 h19) (by decide) rfl rfl (Nat.le_of_ble_eq_true rfl) dX0_paper_56 rfl ?_
          refine V_bipush dX0_paper_59 ckb_120 ?_
          refine V_icmp_ne (tgt := 71) dX0_paper_61 (by decide) (fun hc22 => ?_) (fun hc22 => ?_)
          · have hf := if_f hf hc22
            refine V_aload_n dX0_paper_71 rfl ?_
            refine VP_getR (x := some b14) fa_X0_10 h10 rfl rfl hb15 dX0_paper_72 ?_
            refine VP_getR (x := some b17) fa_X0_448 h16 rfl rfl hb18 dX0_paper_75 ?_
            obtain ⟨h23, hf⟩ := ck_ex hf
            obtain ⟨b24, hb25, hf⟩ := st1_ex hf
            obtain ⟨w26, hs27, hf⟩ := st1_ex hf
            refine VE_new clX12 q988 q989 q159 ok_X12 h23 hb25 hs27 dX0_paper_78 ?_
            refine V_dup dX0_paper_81 rfl ?_
            refine V_iload_n dX0_paper_82 rfl ?_
            refine V_iload_n dX0_paper_83 rfl ?_
            refine V_iload_n dX0_paper_84 rfl ?_
            refine V_iload dX0_paper_85 rfl ?_
            refine V_iconst dX0_paper_87 ckc_0 ?_
            obtain ⟨w29, hc28, hf⟩ := bd1_ex hf
            refine V_cI (av := [.int p0, .int p1, .int p2, .int p3, .int (0 : Int32)]) (rest := [.ref b24, .ref b17]) (st' := [.ref b24, .ref b17]) (mC_X12_init_ok _ _ _ _ _ _ _ _ _ _ hc28) ic_X0_281 (by decide) rfl rfl (Nat.le_of_ble_eq_true rfl) dX0_paper_88 rfl ?_
            obtain ⟨h30, hf⟩ := ck_ex hf
            obtain ⟨r32, w33, hc31, hf⟩ := bd2_ex hf
            refine V_cV (av := [.ref b24]) (rest := []) (st' := [.int r32]) (mC_J2_add_ok _ _ _ _ _ _ _ hc31) vc_X0_178 (kIn1 h30) (by decide) rfl rfl (Nat.le_of_ble_eq_true rfl) dX0_paper_91 rfl ?_
            refine V_pop dX0_paper_94 rfl ?_
            refine V_aload_n dX0_paper_95 rfl ?_
            refine V_aload_n dX0_paper_96 rfl ?_
            obtain ⟨h34, hf⟩ := ck_ex hf
            obtain ⟨b35, hb36, hf⟩ := bd1_ex hf
            refine VP_getR (x := some b35) fa_X0_10 h34 rfl rfl hb36 dX0_paper_97 ?_
            obtain ⟨h37, hf⟩ := ck_ex hf
            obtain ⟨b38, hb39, hf⟩ := bd1_ex hf
            refine VP_getR (x := some b38) fa_X0_448 h37 rfl rfl hb39 dX0_paper_100 ?_
            obtain ⟨h40, hf⟩ := ck_ex hf
            obtain ⟨r42, hc41, hf⟩ := bd1_ex hf
            refine V_cV (av := []) (rest := [.ref a]) (st' := [.int r42, .ref a]) (mC_J2_size_ok _ _ _ _ _ hc41) vc_X0_148 (kIn1 h40) (by decide) rfl rfl (Nat.le_of_ble_eq_true rfl) dX0_paper_103 rfl ?_
            obtain ⟨r44, w45, hc43, hf⟩ := bd2_ex hf
            refine V_cV (av := [.int r42]) (rest := []) (st' := [.int r44]) (mC_X0_told_ok _ _ _ _ _ _ _ hc43) vc_X0_138 (kIn1 h34) (by decide) rfl rfl (Nat.le_of_ble_eq_true rfl) dX0_paper_106 rfl ?_
            cases some_ex hf
            exact V_iret hE dX0_paper_109
          · have hf := if_t hf hc22
            refine V_aload_n dX0_paper_64 rfl ?_
            refine V_bipush dX0_paper_65 ckb_m5 ?_
            obtain ⟨r47, w48, hc46, hf⟩ := bd2_ex hf
            refine V_cV (av := [.int (-5 : Int32)]) (rest := []) (st' := [.int r47]) (mC_X0_refuse_ok _ _ _ _ _ _ _ hc46) vc_X0_131 (kIn1 h10) (by decide) rfl rfl (Nat.le_of_ble_eq_true rfl) dX0_paper_67 rfl ?_
            cases some_ex hf
            exact V_iret hE dX0_paper_70
        · have hf := if_t hf hc13
          refine V_aload_n dX0_paper_42 rfl ?_
          refine V_bipush dX0_paper_43 ckb_m2 ?_
          obtain ⟨r50, w51, hc49, hf⟩ := bd2_ex hf
          refine V_cV (av := [.int (-2 : Int32)]) (rest := []) (st' := [.int r50]) (mC_X0_refuse_ok _ _ _ _ _ _ _ hc49) vc_X0_131 (kIn1 h10) (by decide) rfl rfl (Nat.le_of_ble_eq_true rfl) dX0_paper_45 rfl ?_
          cases some_ex hf
          exact V_iret hE dX0_paper_48
      · have hf := if_t hf hc9
        refine V_keep [true, false, false, false, false] rfl ?_
        exact mC_X0_paper_28_v hE hH a w hf
set_option maxHeartbeats 4000000 in
theorem mC_X0_count_40_v {X : CX} {w0 : AH} {r : Int32} {w' : AH}  (hE : XE X w0 7 (some (.int)) "count" (.returned (some (.int r))) w') (hH : XH X []) (v0 : Nat) (w : AH) (hf : mC_X0_count_40 v0 w = some (r, w')) : V X cX0_count RX0 7 7 w 40 [some (.ref v0), none, none, none, none, none, none] [] := by
  unfold mC_X0_count_40 at hf
  refine V_aload_n dX0_count_40 rfl ?_
  refine V_iconst dX0_count_41 ckc_m1 ?_
  obtain ⟨h1, hf⟩ := ck_ex hf
  obtain ⟨r3, w4, hc2, hf⟩ := bd2_ex hf
  refine V_cV (av := [.int (-1 : Int32)]) (rest := []) (st' := [.int r3]) (mC_X0_refuse_ok _ _ _ _ _ _ _ hc2) vc_X0_131 (kIn1 h1) (by decide) rfl rfl (Nat.le_of_ble_eq_true rfl) dX0_count_42 rfl ?_
  cases some_ex hf
  exact V_iret hE dX0_count_45
set_option maxHeartbeats 4000000 in
theorem mC_X0_count_ok (l : Launch) (D : DD) (w : AH) (a : Nat) (p0 : Int32) (p1 : Int32) (p2 : Int32) (p3 : Int32) (p4 : Int32) (r : Int32) (w' : AH) (hf : mC_X0_count a p0 p1 p2 p3 p4 w = some (r, w')) : MA l D yX0_count cX0_count 7 (some (.int)) 7 [.ref a, .int p0, .int p1, .int p2, .int p3, .int p4] w (.returned (some (.int r))) w' := by
  refine MA.introH (own := RX0) (nm := "count") (ls := [some (.ref a), some (.int p0), some (.int p1), some (.int p2), some (.int p3), some (.int p4), none]) (by decide) rfl rfl (Nat.le_of_ble_eq_true rfl) rfl (fun X hl hD hE hH => ?_)
  subst hl hD
  unfold mC_X0_count at hf
  refine V_iload_n dX0_count_0 rfl ?_
  refine V_iconst dX0_count_1 ckc_0 ?_
  refine V_bipush dX0_count_2 ckb_7 ?_
  obtain ⟨r2, hc1, hf⟩ := bd1_ex hf
  refine V_cS (rest := []) (st' := [.int r2]) (mC_X0_in_ok _ _ _ _ _ _ _ hc1) sc_X0_127 (by decide) rfl rfl (Nat.le_of_ble_eq_true rfl) dX0_count_4 rfl ?_
  refine V_if_eq (tgt := 40) dX0_count_7 (by decide) (fun hc3 => ?_) (fun hc3 => ?_)
  · have hf := if_t hf hc3
    refine V_keep [true, false, false, false, false, false, true] rfl ?_
    exact mC_X0_count_40_v hE hH a w hf
  · have hf := if_f hf hc3
    refine V_iload_n dX0_count_10 rfl ?_
    refine V_iconst dX0_count_11 ckc_0 ?_
    refine V_bipush dX0_count_12 ckb_9 ?_
    obtain ⟨r5, hc4, hf⟩ := bd1_ex hf
    refine V_cS (rest := []) (st' := [.int r5]) (mC_X0_in_ok _ _ _ _ _ _ _ hc4) sc_X0_127 (by decide) rfl rfl (Nat.le_of_ble_eq_true rfl) dX0_count_14 rfl ?_
    refine V_if_eq (tgt := 40) dX0_count_17 (by decide) (fun hc6 => ?_) (fun hc6 => ?_)
    · have hf := if_t hf hc6
      refine V_keep [true, false, false, false, false, false, true] rfl ?_
      exact mC_X0_count_40_v hE hH a w hf
    · have hf := if_f hf hc6
      refine V_iload dX0_count_20 rfl ?_
      refine V_iconst dX0_count_22 ckc_0 ?_
      refine V_sipush dX0_count_23 cks_10000 ?_
      obtain ⟨r8, hc7, hf⟩ := bd1_ex hf
      refine V_cS (rest := []) (st' := [.int r8]) (mC_X0_in_ok _ _ _ _ _ _ _ hc7) sc_X0_127 (by decide) rfl rfl (Nat.le_of_ble_eq_true rfl) dX0_count_26 rfl ?_
      refine V_if_eq (tgt := 40) dX0_count_29 (by decide) (fun hc9 => ?_) (fun hc9 => ?_)
      · have hf := if_t hf hc9
        refine V_keep [true, false, false, false, false, false, true] rfl ?_
        exact mC_X0_count_40_v hE hH a w hf
      · have hf := if_f hf hc9
        refine V_iload dX0_count_32 rfl ?_
        obtain ⟨r11, hc10, hf⟩ := bd1_ex hf
        refine V_cS (rest := []) (st' := [.int r11]) (mC_X0_isDay_ok _ _ _ _ _ hc10) sc_X0_201 (by decide) rfl rfl (Nat.le_of_ble_eq_true rfl) dX0_count_34 rfl ?_
        refine V_if_ne (tgt := 46) dX0_count_37 (by decide) (fun hc12 => ?_) (fun hc12 => ?_)
        · have hf := if_f hf hc12
          refine V_aload_n dX0_count_46 rfl ?_
          refine V_iload_n dX0_count_47 rfl ?_
          obtain ⟨h13, hf⟩ := ck_ex hf
          obtain ⟨r15, hc14, hf⟩ := bd1_ex hf
          refine V_cV (av := [.int p0]) (rest := []) (st' := [.int r15]) (mC_X0_isBox_ok _ _ _ _ _ _ hc14) vc_X0_425 (kIn1 h13) (by decide) rfl rfl (Nat.le_of_ble_eq_true rfl) dX0_count_48 rfl ?_
          refine V_if_ne (tgt := 61) dX0_count_51 (by decide) (fun hc16 => ?_) (fun hc16 => ?_)
          · have hf := if_f hf hc16
            refine V_aload_n dX0_count_61 rfl ?_
            obtain ⟨b17, hb18, hf⟩ := bd1_ex hf
            refine VP_getR (x := some b17) fa_X0_10 h13 rfl rfl hb18 dX0_count_62 ?_
            obtain ⟨h19, hf⟩ := ck_ex hf
            obtain ⟨b20, hb21, hf⟩ := bd1_ex hf
            refine VP_getR (x := some b20) fa_X0_451 h19 rfl rfl hb21 dX0_count_65 ?_
            obtain ⟨h22, hf⟩ := ck_ex hf
            obtain ⟨r24, hc23, hf⟩ := bd1_ex hf
            refine V_cV (av := []) (rest := []) (st' := [.int r24]) (mC_J2_size_ok _ _ _ _ _ hc23) vc_X0_148 (kIn1 h22) (by decide) rfl rfl (Nat.le_of_ble_eq_true rfl) dX0_count_68 rfl ?_
            refine V_istore (ls' := [some (.ref a), some (.int p0), some (.int p1), some (.int p2), some (.int p3), some (.int p4), some (.int r24)]) dX0_count_71 (by decide) rfl ?_
            refine V_iload dX0_count_73 rfl ?_
            refine V_sipush dX0_count_75 cks_200 ?_
            refine V_icmp_ne (tgt := 88) dX0_count_78 (by decide) (fun hc25 => ?_) (fun hc25 => ?_)
            · have hf := if_f hf hc25
              refine V_aload_n dX0_count_88 rfl ?_
              refine VP_getR (x := some b17) fa_X0_10 h13 rfl rfl hb18 dX0_count_89 ?_
              refine VP_getR (x := some b20) fa_X0_451 h19 rfl rfl hb21 dX0_count_92 ?_
              obtain ⟨h26, hf⟩ := ck_ex hf
              obtain ⟨b27, hb28, hf⟩ := st1_ex hf
              obtain ⟨w29, hs30, hf⟩ := st1_ex hf
              refine VE_new clX12 q988 q989 q159 ok_X12 h26 hb28 hs30 dX0_count_95 ?_
              refine V_dup dX0_count_98 rfl ?_
              refine V_iload_n dX0_count_99 rfl ?_
              refine V_iload_n dX0_count_100 rfl ?_
              refine V_iload_n dX0_count_101 rfl ?_
              refine V_iload dX0_count_102 rfl ?_
              refine V_iconst dX0_count_104 ckc_0 ?_
              obtain ⟨w32, hc31, hf⟩ := bd1_ex hf
              refine V_cI (av := [.int p0, .int p1, .int p2, .int p4, .int (0 : Int32)]) (rest := [.ref b27, .ref b20]) (st' := [.ref b27, .ref b20]) (mC_X12_init_ok _ _ _ _ _ _ _ _ _ _ hc31) ic_X0_281 (by decide) rfl rfl (Nat.le_of_ble_eq_true rfl) dX0_count_105 rfl ?_
              obtain ⟨h33, hf⟩ := ck_ex hf
              obtain ⟨r35, w36, hc34, hf⟩ := bd2_ex hf
              refine V_cV (av := [.ref b27]) (rest := []) (st' := [.int r35]) (mC_J2_add_ok _ _ _ _ _ _ _ hc34) vc_X0_178 (kIn1 h33) (by decide) rfl rfl (Nat.le_of_ble_eq_true rfl) dX0_count_108 rfl ?_
              refine V_pop dX0_count_111 rfl ?_
              refine V_aload_n dX0_count_112 rfl ?_
              obtain ⟨h37, hf⟩ := ck_ex hf
              obtain ⟨b38, hb39, hf⟩ := bd1_ex hf
              refine VP_getR (x := some b38) fa_X0_10 h37 rfl rfl hb39 dX0_count_113 ?_
              obtain ⟨h40, hf⟩ := ck_ex hf
              obtain ⟨b41, hb42, hf⟩ := bd1_ex hf
              refine VP_getR (x := some b41) fa_X0_454 h40 rfl rfl hb42 dX0_count_116 ?_
              refine V_iload dX0_count_119 rfl ?_
              refine V_iload dX0_count_121 rfl ?_
              obtain ⟨h43, hf⟩ := ck_ex hf
              obtain ⟨w44, hs45, hf⟩ := st1_ex hf
              refine VE_iast h43 rfl hs45 dX0_count_123 ?_
              refine V_aload_n dX0_count_124 rfl ?_
              refine V_iload dX0_count_125 rfl ?_
              obtain ⟨h46, hf⟩ := ck_ex hf
              obtain ⟨r48, w49, hc47, hf⟩ := bd2_ex hf
              refine V_cV (av := [.int r24]) (rest := []) (st' := [.int r48]) (mC_X0_told_ok _ _ _ _ _ _ _ hc47) vc_X0_138 (kIn1 h46) (by decide) rfl rfl (Nat.le_of_ble_eq_true rfl) dX0_count_127 rfl ?_
              cases some_ex hf
              exact V_iret hE dX0_count_130
            · have hf := if_t hf hc25
              refine V_aload_n dX0_count_81 rfl ?_
              refine V_bipush dX0_count_82 ckb_m5 ?_
              obtain ⟨r51, w52, hc50, hf⟩ := bd2_ex hf
              refine V_cV (av := [.int (-5 : Int32)]) (rest := []) (st' := [.int r51]) (mC_X0_refuse_ok _ _ _ _ _ _ _ hc50) vc_X0_131 (kIn1 h13) (by decide) rfl rfl (Nat.le_of_ble_eq_true rfl) dX0_count_84 rfl ?_
              cases some_ex hf
              exact V_iret hE dX0_count_87
          · have hf := if_t hf hc16
            refine V_aload_n dX0_count_54 rfl ?_
            refine V_bipush dX0_count_55 ckb_m2 ?_
            obtain ⟨r54, w55, hc53, hf⟩ := bd2_ex hf
            refine V_cV (av := [.int (-2 : Int32)]) (rest := []) (st' := [.int r54]) (mC_X0_refuse_ok _ _ _ _ _ _ _ hc53) vc_X0_131 (kIn1 h13) (by decide) rfl rfl (Nat.le_of_ble_eq_true rfl) dX0_count_57 rfl ?_
            cases some_ex hf
            exact V_iret hE dX0_count_60
        · have hf := if_t hf hc12
          refine V_keep [true, false, false, false, false, false, true] rfl ?_
          exact mC_X0_count_40_v hE hH a w hf
set_option maxHeartbeats 4000000 in
theorem mC_X6_empties_26_v {X : CX} {w0 : AH} {w' : AH}  (hE : XE X w0 1 none "empties" (.returned none) w') (hH : XH X []) (k26 : Nat → Int32 → Int32 → AH → Option (AH)) (hk26 : ∀ (v0 : Nat) (v1 : Int32) (v2 : Int32) (w : AH), k26 v0 v1 v2 w = some w' → V X cX6_empties RX6 3 1 w 26 [some (.ref v0), some (.int v1), some (.int v2)] []) (v0 : Nat) (v1 : Int32) (v2 : Int32) (w : AH) (hf : mC_X6_empties_26 k26 v0 v1 v2 w = some w') : V X cX6_empties RX6 3 1 w 26 [some (.ref v0), some (.int v1), some (.int v2)] [] := by
  unfold mC_X6_empties_26 at hf
  refine V_iload_n dX6_empties_26 rfl ?_
  refine V_bipush dX6_empties_27 ckb_8 ?_
  refine V_icmp_ge (tgt := 50) dX6_empties_29 (by decide) (fun hc1 => ?_) (fun hc1 => ?_)
  · have hf := if_t hf hc1
    refine V_aload_n dX6_empties_50 rfl ?_
    obtain ⟨h2, hf⟩ := ck_ex hf
    obtain ⟨b3, hb4, hf⟩ := bd1_ex hf
    refine VP_getR (x := some b3) fa_X6_19 h2 rfl rfl hb4 dX6_empties_51 ?_
    refine V_iload_n dX6_empties_54 rfl ?_
    refine V_iconst dX6_empties_55 ckc_0 ?_
    obtain ⟨h5, hf⟩ := ck_ex hf
    obtain ⟨w6, hs7, hf⟩ := st1_ex hf
    refine VE_iast h5 rfl hs7 dX6_empties_56 ?_
    refine V_aload_n dX6_empties_57 rfl ?_
    obtain ⟨h8, hf⟩ := ck_ex hf
    obtain ⟨b9, hb10, hf⟩ := bd1_ex hf
    refine VP_getR (x := some b9) fa_X6_29 h8 rfl rfl hb10 dX6_empties_58 ?_
    refine V_iload_n dX6_empties_61 rfl ?_
    refine V_iconst dX6_empties_62 ckc_0 ?_
    obtain ⟨h11, hf⟩ := ck_ex hf
    obtain ⟨w12, hs13, hf⟩ := st1_ex hf
    refine VE_zast (by decide) h11 rfl hs13 dX6_empties_63 ?_
    cases some_ex hf
    exact V_vret hE dX6_empties_64
  · have hf := if_f hf hc1
    refine V_aload_n dX6_empties_32 rfl ?_
    obtain ⟨h14, hf⟩ := ck_ex hf
    obtain ⟨b15, hb16, hf⟩ := bd1_ex hf
    refine VP_getR (x := some b15) fa_X6_22 h14 rfl rfl hb16 dX6_empties_33 ?_
    refine V_bipush dX6_empties_36 ckb_8 ?_
    refine V_iload_n dX6_empties_38 rfl ?_
    refine V_imul dX6_empties_39 ?_
    refine V_iload_n dX6_empties_40 rfl ?_
    refine V_iadd dX6_empties_41 ?_
    refine V_iconst dX6_empties_42 ckc_0 ?_
    obtain ⟨h17, hf⟩ := ck_ex hf
    obtain ⟨w18, hs19, hf⟩ := st1_ex hf
    refine VE_iast h17 rfl hs19 dX6_empties_43 ?_
    refine V_inc (ls' := [some (.ref v0), some (.int v1), some (.int (v2 + (1 : Int32)))]) dX6_empties_44 rfl ckc_1 (by decide) rfl ?_
    refine V_goto (tgt := 26) dX6_empties_47 (by decide) ?_
    exact hk26 v0 v1 (v2 + (1 : Int32)) w18 hf
set_option maxHeartbeats 4000000 in
theorem mC_X6_empties_2_v {X : CX} {w0 : AH} {w' : AH}  (hE : XE X w0 1 none "empties" (.returned none) w') (hH : XH X []) (k2 : Nat → Int32 → Int32 → AH → Option (AH)) (hk2 : ∀ (v0 : Nat) (v1 : Int32) (v2 : Int32) (w : AH), k2 v0 v1 v2 w = some w' → V X cX6_empties RX6 3 1 w 2 [some (.ref v0), some (.int v1), some (.int v2)] []) (v0 : Nat) (v1 : Int32) (v2 : Int32) (w : AH) (hf : mC_X6_empties_2 k2 v0 v1 v2 w = some w') : V X cX6_empties RX6 3 1 w 2 [some (.ref v0), some (.int v1), some (.int v2)] [] := by
  unfold mC_X6_empties_2 at hf
  refine V_iload_n dX6_empties_2 rfl ?_
  refine V_iconst dX6_empties_3 ckc_4 ?_
  refine V_icmp_ge (tgt := 24) dX6_empties_4 (by decide) (fun hc1 => ?_) (fun hc1 => ?_)
  · have hf := if_t hf hc1
    refine V_iconst dX6_empties_24 ckc_0 ?_
    refine V_istore_n (ls' := [some (.ref v0), some (.int v1), some (.int (0 : Int32))]) dX6_empties_25 (by decide) rfl ?_
    exact lq4_ex (P := fun v0 v1 v2 w => V X cX6_empties RX6 3 1 w 26 [some (.ref v0), some (.int v1), some (.int v2)] []) (fun k hk v0 v1 v2 w hf => mC_X6_empties_26_v hE hH k hk v0 v1 v2 w hf) LF v0 v1 (0 : Int32) w hf
  · have hf := if_f hf hc1
    refine V_aload_n dX6_empties_7 rfl ?_
    obtain ⟨h2, hf⟩ := ck_ex hf
    obtain ⟨b3, hb4, hf⟩ := bd1_ex hf
    refine VP_getR (x := some b3) fa_X6_15 h2 rfl rfl hb4 dX6_empties_8 ?_
    refine V_iconst dX6_empties_11 ckc_4 ?_
    refine V_iload_n dX6_empties_12 rfl ?_
    refine V_imul dX6_empties_13 ?_
    refine V_iload_n dX6_empties_14 rfl ?_
    refine V_iadd dX6_empties_15 ?_
    refine V_iconst dX6_empties_16 ckc_0 ?_
    obtain ⟨h5, hf⟩ := ck_ex hf
    obtain ⟨w6, hs7, hf⟩ := st1_ex hf
    refine VE_iast h5 rfl hs7 dX6_empties_17 ?_
    refine V_inc (ls' := [some (.ref v0), some (.int v1), some (.int (v2 + (1 : Int32)))]) dX6_empties_18 rfl ckc_1 (by decide) rfl ?_
    refine V_goto (tgt := 2) dX6_empties_21 (by decide) ?_
    exact hk2 v0 v1 (v2 + (1 : Int32)) w6 hf
set_option maxHeartbeats 4000000 in
theorem mC_X6_empties_ok (l : Launch) (D : DD) (w : AH) (a : Nat) (p0 : Int32) (w' : AH) (hf : mC_X6_empties a p0 w = some w') : MA l D yX6_empties cX6_empties 3 none 1 [.ref a, .int p0] w (.returned none) w' := by
  refine MA.introH (own := RX6) (nm := "empties") (ls := [some (.ref a), some (.int p0), none]) (by decide) rfl rfl (Nat.le_of_ble_eq_true rfl) rfl (fun X hl hD hE hH => ?_)
  subst hl hD
  unfold mC_X6_empties at hf
  refine V_iconst dX6_empties_0 ckc_0 ?_
  refine V_istore_n (ls' := [some (.ref a), some (.int p0), some (.int (0 : Int32))]) dX6_empties_1 (by decide) rfl ?_
  exact lq4_ex (P := fun v0 v1 v2 w => V X cX6_empties RX6 3 1 w 2 [some (.ref v0), some (.int v1), some (.int v2)] []) (fun k hk v0 v1 v2 w hf => mC_X6_empties_2_v hE hH k hk v0 v1 v2 w hf) LF a p0 (0 : Int32) w hf
set_option maxHeartbeats 4000000 in
theorem mC_X6_isLast_118_v {X : CX} {w0 : AH} {r : Int32}  (w : AH) (hE : XE X w0 4 (some (.boolean)) "isLast" (.returned (some (.int r))) w) (hH : XH X []) (k33 : Nat → Int32 → Nat → Int32 → Option (Int32)) (hk33 : ∀ (v0 : Nat) (v2 : Int32) (v3 : Nat) (v4 : Int32), k33 v0 v2 v3 v4 = some r → V X cX6_isLast RX6 6 4 w 33 [some (.ref v0), none, some (.int v2), some (.ref v3), some (.int v4), none] []) (v0 : Nat) (v2 : Int32) (v3 : Nat) (v4 : Int32) (hf : mC_X6_isLast_118 w k33 v0 v2 v3 v4 = some r) : V X cX6_isLast RX6 6 4 w 118 [some (.ref v0), none, some (.int v2), some (.ref v3), some (.int v4), none] [] := by
  unfold mC_X6_isLast_118 at hf
  refine V_inc (ls' := [some (.ref v0), none, some (.int v2), some (.ref v3), some (.int (v4 + (1 : Int32))), none]) dX6_isLast_118 rfl ckc_1 (by decide) rfl ?_
  refine V_goto (tgt := 33) dX6_isLast_121 (by decide) ?_
  exact hk33 v0 v2 v3 (v4 + (1 : Int32)) hf
set_option maxHeartbeats 4000000 in
theorem mC_X6_isLast_33_v {X : CX} {w0 : AH} {r : Int32}  (w : AH) (hE : XE X w0 4 (some (.boolean)) "isLast" (.returned (some (.int r))) w) (hH : XH X []) (k33 : Nat → Int32 → Nat → Int32 → Option (Int32)) (hk33 : ∀ (v0 : Nat) (v2 : Int32) (v3 : Nat) (v4 : Int32), k33 v0 v2 v3 v4 = some r → V X cX6_isLast RX6 6 4 w 33 [some (.ref v0), none, some (.int v2), some (.ref v3), some (.int v4), none] []) (v0 : Nat) (v2 : Int32) (v3 : Nat) (v4 : Int32) (hf : mC_X6_isLast_33 w k33 v0 v2 v3 v4 = some r) : V X cX6_isLast RX6 6 4 w 33 [some (.ref v0), none, some (.int v2), some (.ref v3), some (.int v4), none] [] := by
  unfold mC_X6_isLast_33 at hf
  refine V_iload dX6_isLast_33 rfl ?_
  refine V_aload_n dX6_isLast_35 rfl ?_
  obtain ⟨h1, hf⟩ := ck_ex hf
  obtain ⟨b2, hb3, hf⟩ := bd1_ex hf
  refine VP_getR (x := some b2) fa_X6_3 h1 rfl rfl hb3 dX6_isLast_36 ?_
  obtain ⟨h4, hf⟩ := ck_ex hf
  obtain ⟨b5, hb6, hf⟩ := bd1_ex hf
  refine VP_getR (x := some b5) fa_X6_56 h4 rfl rfl hb6 dX6_isLast_39 ?_
  obtain ⟨h7, hf⟩ := ck_ex hf
  obtain ⟨b8, hb9, hf⟩ := bd1_ex hf
  refine VP_getR (x := some b8) fa_X6_106 h7 rfl rfl hb9 dX6_isLast_42 ?_
  obtain ⟨h10, hf⟩ := ck_ex hf
  obtain ⟨r12, hc11, hf⟩ := bd1_ex hf
  refine V_cV (av := []) (rest := [.int v4]) (st' := [.int r12, .int v4]) (mC_J2_size_ok _ _ _ _ _ hc11) vc_X6_72 (kIn1 h10) (by decide) rfl rfl (Nat.le_of_ble_eq_true rfl) dX6_isLast_45 rfl ?_
  refine V_icmp_ge (tgt := 124) dX6_isLast_48 (by decide) (fun hc13 => ?_) (fun hc13 => ?_)
  · have hf := if_t hf hc13
    refine V_iconst dX6_isLast_124 ckc_1 ?_
    cases some_ex hf
    exact V_zret hE (by decide) dX6_isLast_125
  · have hf := if_f hf hc13
    refine V_aload_n dX6_isLast_51 rfl ?_
    refine VP_getR (x := some b2) fa_X6_3 h1 rfl rfl hb3 dX6_isLast_52 ?_
    refine VP_getR (x := some b5) fa_X6_56 h4 rfl rfl hb6 dX6_isLast_55 ?_
    refine VP_getR (x := some b8) fa_X6_106 h7 rfl rfl hb9 dX6_isLast_58 ?_
    refine V_iload dX6_isLast_61 rfl ?_
    obtain ⟨r15, hc14, hf⟩ := bd1_ex hf
    refine V_cV (av := [.int v4]) (rest := []) (st' := [.ref r15]) (mC_J2_get_ok _ _ _ _ _ _ hc14) vc_X6_78 (kIn1 h10) (by decide) rfl rfl (Nat.le_of_ble_eq_true rfl) dX6_isLast_63 rfl ?_
    obtain ⟨h16, hf⟩ := ck_ex hf
    refine VE_cast cc_X6_82 h16 dX6_isLast_66 ?_
    refine V_astore (ls' := [some (.ref v0), none, some (.int v2), some (.ref v3), some (.int v4), some (.ref r15)]) dX6_isLast_69 (by decide) rfl ?_
    refine V_aload dX6_isLast_71 rfl ?_
    refine VP_getI fa_X6_84 h16 rfl dX6_isLast_73 ?_
    refine V_iload_n dX6_isLast_76 rfl ?_
    refine V_icmp_gt (tgt := 118) dX6_isLast_77 (by decide) (fun hc17 => ?_) (fun hc17 => ?_)
    · have hf := if_t hf hc17
      refine V_keep [true, true, true, true, true, false] rfl ?_
      exact mC_X6_isLast_118_v w hE hH k33 hk33 v0 v2 v3 v4 hf
    · have hf := if_f hf hc17
      refine V_aload dX6_isLast_80 rfl ?_
      refine VP_getI fa_X6_87 h16 rfl dX6_isLast_82 ?_
      refine V_aload_n dX6_isLast_85 rfl ?_
      obtain ⟨h18, hf⟩ := ck_ex hf
      refine VP_getI fa_X6_87 h18 rfl dX6_isLast_86 ?_
      refine V_icmp_ne (tgt := 118) dX6_isLast_89 (by decide) (fun hc19 => ?_) (fun hc19 => ?_)
      · have hf := if_f hf hc19
        refine V_keep [true, true, true, true, true, false] rfl ?_
        exact mC_X6_isLast_118_v w hE hH k33 hk33 v0 v2 v3 v4 hf
      · have hf := if_t hf hc19
        refine V_aload dX6_isLast_92 rfl ?_
        refine VP_getI fa_X6_90 h16 rfl dX6_isLast_94 ?_
        refine V_aload_n dX6_isLast_97 rfl ?_
        refine VP_getI fa_X6_90 h18 rfl dX6_isLast_98 ?_
        refine V_icmp_ne (tgt := 118) dX6_isLast_101 (by decide) (fun hc20 => ?_) (fun hc20 => ?_)
        · have hf := if_f hf hc20
          refine V_keep [true, true, true, true, true, false] rfl ?_
          exact mC_X6_isLast_118_v w hE hH k33 hk33 v0 v2 v3 v4 hf
        · have hf := if_t hf hc20
          refine V_aload dX6_isLast_104 rfl ?_
          refine VP_getI fa_X6_93 h16 rfl dX6_isLast_106 ?_
          refine V_aload_n dX6_isLast_109 rfl ?_
          refine VP_getI fa_X6_93 h18 rfl dX6_isLast_110 ?_
          refine V_icmp_ne (tgt := 118) dX6_isLast_113 (by decide) (fun hc21 => ?_) (fun hc21 => ?_)
          · have hf := if_f hf hc21
            refine V_keep [true, true, true, true, true, false] rfl ?_
            exact mC_X6_isLast_118_v w hE hH k33 hk33 v0 v2 v3 v4 hf
          · have hf := if_t hf hc21
            refine V_iconst dX6_isLast_116 ckc_0 ?_
            cases some_ex hf
            exact V_zret hE (by decide) dX6_isLast_117
set_option maxHeartbeats 4000000 in
theorem mC_X6_isLast_ok (l : Launch) (D : DD) (w : AH) (a : Nat) (p0 : Int32) (p1 : Int32) (r : Int32) (hf : mC_X6_isLast a p0 p1 w = some r) : MA l D yX6_isLast cX6_isLast 6 (some (.boolean)) 4 [.ref a, .int p0, .int p1] w (.returned (some (.int r))) w := by
  refine MA.introH (own := RX6) (nm := "isLast") (ls := [some (.ref a), some (.int p0), some (.int p1), none, none, none]) (by decide) rfl rfl (Nat.le_of_ble_eq_true rfl) rfl (fun X hl hD hE hH => ?_)
  subst hl hD
  unfold mC_X6_isLast at hf
  refine V_aload_n dX6_isLast_0 rfl ?_
  obtain ⟨h1, hf⟩ := ck_ex hf
  obtain ⟨b2, hb3, hf⟩ := bd1_ex hf
  refine VP_getR (x := some b2) fa_X6_3 h1 rfl rfl hb3 dX6_isLast_1 ?_
  obtain ⟨h4, hf⟩ := ck_ex hf
  obtain ⟨b5, hb6, hf⟩ := bd1_ex hf
  refine VP_getR (x := some b5) fa_X6_56 h4 rfl rfl hb6 dX6_isLast_4 ?_
  obtain ⟨h7, hf⟩ := ck_ex hf
  obtain ⟨b8, hb9, hf⟩ := bd1_ex hf
  refine VP_getR (x := some b8) fa_X6_106 h7 rfl rfl hb9 dX6_isLast_7 ?_
  refine V_iload_n dX6_isLast_10 rfl ?_
  obtain ⟨h10, hf⟩ := ck_ex hf
  obtain ⟨r12, hc11, hf⟩ := bd1_ex hf
  refine V_cV (av := [.int p0]) (rest := []) (st' := [.ref r12]) (mC_J2_get_ok _ _ _ _ _ _ hc11) vc_X6_78 (kIn1 h10) (by decide) rfl rfl (Nat.le_of_ble_eq_true rfl) dX6_isLast_11 rfl ?_
  obtain ⟨h13, hf⟩ := ck_ex hf
  refine VE_cast cc_X6_82 h13 dX6_isLast_14 ?_
  refine V_astore_n (ls' := [some (.ref a), some (.int p0), some (.int p1), some (.ref r12), none, none]) dX6_isLast_17 (by decide) rfl ?_
  refine V_aload_n dX6_isLast_18 rfl ?_
  refine VP_getI fa_X6_84 h13 rfl dX6_isLast_19 ?_
  refine V_iload_n dX6_isLast_22 rfl ?_
  refine V_icmp_le (tgt := 28) dX6_isLast_23 (by decide) (fun hc14 => ?_) (fun hc14 => ?_)
  · have hf := if_t hf hc14
    refine V_iload_n dX6_isLast_28 rfl ?_
    refine V_iconst dX6_isLast_29 ckc_1 ?_
    refine V_iadd dX6_isLast_30 ?_
    refine V_istore (ls' := [some (.ref a), some (.int p0), some (.int p1), some (.ref r12), some (.int (p0 + (1 : Int32))), none]) dX6_isLast_31 (by decide) rfl ?_
    refine V_keep [true, false, true, true, true, true] rfl ?_
    exact lq4_ex (P := fun v0 v2 v3 v4 => V X cX6_isLast RX6 6 4 w 33 [some (.ref v0), none, some (.int v2), some (.ref v3), some (.int v4), none] []) (fun k hk v0 v2 v3 v4 hf => mC_X6_isLast_33_v w hE hH k hk v0 v2 v3 v4 hf) LF a p1 r12 (p0 + (1 : Int32)) hf
  · have hf := if_f hf hc14
    refine V_iconst dX6_isLast_26 ckc_0 ?_
    cases some_ex hf
    exact V_zret hE (by decide) dX6_isLast_27
set_option maxHeartbeats 4000000 in
theorem mC_X6_lost_ok (l : Launch) (D : DD) (w : AH) (a : Nat) (p0 : Int32) (r : Int32) (hf : mC_X6_lost a p0 w = some r) : MA l D yX6_lost cX6_lost 2 (some (.int)) 1 [.ref a, .int p0] w (.returned (some (.int r))) w := by
  refine MA.introH (own := RX6) (nm := "lost") (ls := [some (.ref a), some (.int p0)]) (by decide) rfl rfl (Nat.le_of_ble_eq_true rfl) rfl (fun X hl hD hE hH => ?_)
  subst hl hD
  unfold mC_X6_lost at hf
  refine V_aload_n dX6_lost_0 rfl ?_
  obtain ⟨h1, hf⟩ := ck_ex hf
  obtain ⟨b2, hb3, hf⟩ := bd1_ex hf
  refine VP_getR (x := some b2) fa_X6_15 h1 rfl rfl hb3 dX6_lost_1 ?_
  refine V_iconst dX6_lost_4 ckc_4 ?_
  refine V_iload_n dX6_lost_5 rfl ?_
  refine V_imul dX6_lost_6 ?_
  refine V_iconst dX6_lost_7 ckc_1 ?_
  refine V_iadd dX6_lost_8 ?_
  obtain ⟨h4, hf⟩ := ck_ex hf
  refine VE_iald h4 rfl dX6_lost_9 ?_
  refine V_aload_n dX6_lost_10 rfl ?_
  obtain ⟨b5, hb6, hf⟩ := bd1_ex hf
  refine VP_getR (x := some b5) fa_X6_19 h1 rfl rfl hb6 dX6_lost_11 ?_
  refine V_iload_n dX6_lost_14 rfl ?_
  obtain ⟨h7, hf⟩ := ck_ex hf
  refine VE_iald h7 rfl dX6_lost_15 ?_
  refine V_isub dX6_lost_16 ?_
  refine V_aload_n dX6_lost_17 rfl ?_
  refine VP_getR (x := some b2) fa_X6_15 h1 rfl rfl hb3 dX6_lost_18 ?_
  refine V_iconst dX6_lost_21 ckc_4 ?_
  refine V_iload_n dX6_lost_22 rfl ?_
  refine V_imul dX6_lost_23 ?_
  refine V_iconst dX6_lost_24 ckc_2 ?_
  refine V_iadd dX6_lost_25 ?_
  obtain ⟨h8, hf⟩ := ck_ex hf
  refine VE_iald h8 rfl dX6_lost_26 ?_
  refine V_isub dX6_lost_27 ?_
  cases some_ex hf
  exact V_iret hE dX6_lost_28
set_option maxHeartbeats 4000000 in
theorem mC_X6_asksAll_193_v {X : CX} {w0 : AH} {w' : AH}  (hE : XE X w0 405 none "asksAll" (.returned none) w') (hH : XH X []) (k152 : Nat → Int32 → Int32 → AH → Option (AH)) (hk152 : ∀ (v0 : Nat) (v1 : Int32) (v2 : Int32) (w : AH), k152 v0 v1 v2 w = some w' → V X cX6_asksAll RX6 3 405 w 152 [some (.ref v0), some (.int v1), some (.int v2)] []) (v0 : Nat) (v1 : Int32) (v2 : Int32) (t0 : Int32) (t1 : Int32) (t2 : Nat) (w : AH) (hf : mC_X6_asksAll_193 k152 v0 v1 v2 t0 t1 t2 w = some w') : V X cX6_asksAll RX6 3 405 w 193 [some (.ref v0), some (.int v1), some (.int v2)] [.int t0, .int t1, .ref t2] := by
  unfold mC_X6_asksAll_193 at hf
  obtain ⟨h1, hf⟩ := ck_ex hf
  obtain ⟨h2, hf⟩ := ck_ex hf
  obtain ⟨w3, hs4, hf⟩ := st1_ex hf
  refine VE_zast h2 h1 rfl hs4 dX6_asksAll_193 ?_
  refine V_inc (ls' := [some (.ref v0), some (.int v1), some (.int (v2 + (1 : Int32)))]) dX6_asksAll_194 rfl ckc_1 (by decide) rfl ?_
  refine V_goto (tgt := 152) dX6_asksAll_197 (by decide) ?_
  exact hk152 v0 v1 (v2 + (1 : Int32)) w3 hf
set_option maxHeartbeats 4000000 in
theorem mC_X6_asksAll_152_v {X : CX} {w0 : AH} {w' : AH}  (hE : XE X w0 405 none "asksAll" (.returned none) w') (hH : XH X []) (k152 : Nat → Int32 → Int32 → AH → Option (AH)) (hk152 : ∀ (v0 : Nat) (v1 : Int32) (v2 : Int32) (w : AH), k152 v0 v1 v2 w = some w' → V X cX6_asksAll RX6 3 405 w 152 [some (.ref v0), some (.int v1), some (.int v2)] []) (v0 : Nat) (v1 : Int32) (v2 : Int32) (w : AH) (hf : mC_X6_asksAll_152 k152 v0 v1 v2 w = some w') : V X cX6_asksAll RX6 3 405 w 152 [some (.ref v0), some (.int v1), some (.int v2)] [] := by
  unfold mC_X6_asksAll_152 at hf
  refine V_iload_n dX6_asksAll_152 rfl ?_
  refine V_bipush dX6_asksAll_153 ckb_10 ?_
  refine V_icmp_ge (tgt := 200) dX6_asksAll_155 (by decide) (fun hc1 => ?_) (fun hc1 => ?_)
  · have hf := if_t hf hc1
    refine V_aload_n dX6_asksAll_200 rfl ?_
    obtain ⟨h2, hf⟩ := ck_ex hf
    obtain ⟨b3, hb4, hf⟩ := bd1_ex hf
    refine VP_getR (x := some b3) fa_X6_25 h2 rfl rfl hb4 dX6_asksAll_201 ?_
    refine V_iload_n dX6_asksAll_204 rfl ?_
    refine V_aload_n dX6_asksAll_205 rfl ?_
    obtain ⟨b5, hb6, hf⟩ := bd1_ex hf
    refine VP_getR (x := some b5) fa_X6_3 h2 rfl rfl hb6 dX6_asksAll_206 ?_
    refine V_iconst dX6_asksAll_209 ckc_4 ?_
    refine V_iconst dX6_asksAll_210 ckc_0 ?_
    refine V_aload_n dX6_asksAll_211 rfl ?_
    refine VP_getI fa_X6_35 h2 rfl dX6_asksAll_212 ?_
    obtain ⟨h7, hf⟩ := ck_ex hf
    obtain ⟨r9, w10, hc8, hf⟩ := bd2_ex hf
    refine V_nV (av := [.int (4 : Int32), .int (0 : Int32), .int (hvi w v0 6)]) (rest := [.int v1, .ref b3]) (st' := [.long r9, .int v1, .ref b3]) (mC_X0_last_ok _ _ _ _ _ _ _ _ _ hc8) nv_X6_142 (kIn1 h7) (by decide) rfl rfl (Nat.le_of_ble_eq_true rfl) dX6_asksAll_215 rfl ?_
    refine V_ldc2 q1655 dX6_asksAll_218 ?_
    refine V_lif_eq (tgt := 229) dX6_asksAll_221 dX6_asksAll_222 (by decide) (fun hc11 => ?_) (fun hc11 => ?_)
    · have hf := if_t hf hc11
      refine V_iconst dX6_asksAll_229 ckc_0 ?_
      obtain ⟨h12, hf⟩ := ck_ex hf
      obtain ⟨w13, hs14, hf⟩ := st1_ex hf
      refine VE_zast (by decide) h12 rfl hs14 dX6_asksAll_230 ?_
      cases some_ex hf
      exact V_vret hE dX6_asksAll_231
    · have hf := if_f hf hc11
      refine V_iconst dX6_asksAll_225 ckc_1 ?_
      refine V_goto (tgt := 230) dX6_asksAll_226 (by decide) ?_
      obtain ⟨h15, hf⟩ := ck_ex hf
      obtain ⟨w16, hs17, hf⟩ := st1_ex hf
      refine VE_zast (by decide) h15 rfl hs17 dX6_asksAll_230 ?_
      cases some_ex hf
      exact V_vret hE dX6_asksAll_231
  · have hf := if_f hf hc1
    refine V_aload_n dX6_asksAll_158 rfl ?_
    obtain ⟨h18, hf⟩ := ck_ex hf
    obtain ⟨b19, hb20, hf⟩ := bd1_ex hf
    refine VP_getR (x := some b19) fa_X6_32 h18 rfl rfl hb20 dX6_asksAll_159 ?_
    refine V_bipush dX6_asksAll_162 ckb_10 ?_
    refine V_iload_n dX6_asksAll_164 rfl ?_
    refine V_imul dX6_asksAll_165 ?_
    refine V_iload_n dX6_asksAll_166 rfl ?_
    refine V_iadd dX6_asksAll_167 ?_
    refine V_aload_n dX6_asksAll_168 rfl ?_
    obtain ⟨b21, hb22, hf⟩ := bd1_ex hf
    refine VP_getR (x := some b21) fa_X6_3 h18 rfl rfl hb22 dX6_asksAll_169 ?_
    refine V_iconst dX6_asksAll_172 ckc_3 ?_
    refine V_iload_n dX6_asksAll_173 rfl ?_
    refine V_aload_n dX6_asksAll_174 rfl ?_
    refine VP_getI fa_X6_35 h18 rfl dX6_asksAll_175 ?_
    obtain ⟨h23, hf⟩ := ck_ex hf
    obtain ⟨r25, w26, hc24, hf⟩ := bd2_ex hf
    refine V_nV (av := [.int (3 : Int32), .int v2, .int (hvi w v0 6)]) (rest := [.int (((10 : Int32) * v1) + v2), .ref b19]) (st' := [.long r25, .int (((10 : Int32) * v1) + v2), .ref b19]) (mC_X0_last_ok _ _ _ _ _ _ _ _ _ hc24) nv_X6_142 (kIn1 h23) (by decide) rfl rfl (Nat.le_of_ble_eq_true rfl) dX6_asksAll_178 rfl ?_
    refine V_ldc2 q1655 dX6_asksAll_181 ?_
    refine V_lif_eq (tgt := 192) dX6_asksAll_184 dX6_asksAll_185 (by decide) (fun hc27 => ?_) (fun hc27 => ?_)
    · have hf := if_t hf hc27
      refine V_iconst dX6_asksAll_192 ckc_0 ?_
      exact mC_X6_asksAll_193_v hE hH k152 hk152 v0 v1 v2 (0 : Int32) (((10 : Int32) * v1) + v2) b19 w26 hf
    · have hf := if_f hf hc27
      refine V_iconst dX6_asksAll_188 ckc_1 ?_
      refine V_goto (tgt := 193) dX6_asksAll_189 (by decide) ?_
      exact mC_X6_asksAll_193_v hE hH k152 hk152 v0 v1 v2 (1 : Int32) (((10 : Int32) * v1) + v2) b19 w26 hf
set_option maxHeartbeats 4000000 in
theorem mC_X6_asksAll_ok (l : Launch) (D : DD) (w : AH) (a : Nat) (p0 : Int32) (w' : AH) (hf : mC_X6_asksAll a p0 w = some w') : MA l D yX6_asksAll cX6_asksAll 3 none 405 [.ref a, .int p0] w (.returned none) w' := by
  refine MA.introH (own := RX6) (nm := "asksAll") (ls := [some (.ref a), some (.int p0), none]) (by decide) rfl rfl (Nat.le_of_ble_eq_true rfl) rfl (fun X hl hD hE hH => ?_)
  subst hl hD
  unfold mC_X6_asksAll at hf
  refine V_aload_n dX6_asksAll_0 rfl ?_
  obtain ⟨h1, hf⟩ := ck_ex hf
  obtain ⟨b2, hb3, hf⟩ := bd1_ex hf
  refine VP_getR (x := some b2) fa_X6_3 h1 rfl rfl hb3 dX6_asksAll_1 ?_
  refine V_aload_n dX6_asksAll_4 rfl ?_
  refine VP_getR (x := some b2) fa_X6_3 h1 rfl rfl hb3 dX6_asksAll_5 ?_
  obtain ⟨h4, hf⟩ := ck_ex hf
  obtain ⟨b5, hb6, hf⟩ := bd1_ex hf
  refine VP_getR (x := some b5) fa_X6_56 h4 rfl rfl hb6 dX6_asksAll_8 ?_
  obtain ⟨h7, hf⟩ := ck_ex hf
  obtain ⟨b8, hb9, hf⟩ := bd1_ex hf
  refine VP_getR (x := some b8) fa_X6_119 h7 rfl rfl hb9 dX6_asksAll_11 ?_
  refine V_iload_n dX6_asksAll_14 rfl ?_
  obtain ⟨h10, hf⟩ := ck_ex hf
  refine VE_iald h10 rfl dX6_asksAll_15 ?_
  refine V_aload_n dX6_asksAll_16 rfl ?_
  refine VP_getI fa_X6_35 h1 rfl dX6_asksAll_17 ?_
  obtain ⟨w12, hc11, hf⟩ := bd1_ex hf
  refine V_nV (av := [.int (hvi w b8 (p0.toNatClampNeg)), .int (hvi w a 6)]) (rest := []) (st' := []) (mC_X0_asksPlace_ok _ _ _ _ _ _ _ hc11) nv_X6_122 (kIn1 h4) (by decide) rfl rfl (Nat.le_of_ble_eq_true rfl) dX6_asksAll_20 rfl ?_
  refine V_aload_n dX6_asksAll_23 rfl ?_
  obtain ⟨h13, hf⟩ := ck_ex hf
  obtain ⟨b14, hb15, hf⟩ := bd1_ex hf
  refine VP_getR (x := some b14) fa_X6_3 h13 rfl rfl hb15 dX6_asksAll_24 ?_
  obtain ⟨h16, hf⟩ := ck_ex hf
  obtain ⟨b17, hb18, hf⟩ := bd1_ex hf
  refine VP_getR (x := some b17) fa_X6_125 h16 rfl rfl hb18 dX6_asksAll_27 ?_
  obtain ⟨h19, hf⟩ := ck_ex hf
  obtain ⟨b20, hb21, hf⟩ := bd1_ex hf
  refine VP_getR (x := some b20) fa_X6_129 h19 rfl rfl hb21 dX6_asksAll_30 ?_
  refine V_bipush dX6_asksAll_33 ckb_6 ?_
  refine V_aload_n dX6_asksAll_35 rfl ?_
  obtain ⟨b22, hb23, hf⟩ := bd1_ex hf
  refine VP_getR (x := some b22) fa_X6_15 h13 rfl rfl hb23 dX6_asksAll_36 ?_
  refine V_iconst dX6_asksAll_39 ckc_4 ?_
  refine V_iload_n dX6_asksAll_40 rfl ?_
  refine V_imul dX6_asksAll_41 ?_
  obtain ⟨h24, hf⟩ := ck_ex hf
  refine VE_iald h24 rfl dX6_asksAll_42 ?_
  refine V_i2l dX6_asksAll_43 ?_
  obtain ⟨h25, hf⟩ := ck_ex hf
  obtain ⟨w26, hs27, hf⟩ := st1_ex hf
  refine VE_last h25 (by decide) hs27 dX6_asksAll_44 ?_
  refine V_aload_n dX6_asksAll_45 rfl ?_
  obtain ⟨h28, hf⟩ := ck_ex hf
  obtain ⟨b29, hb30, hf⟩ := bd1_ex hf
  refine VP_getR (x := some b29) fa_X6_3 h28 rfl rfl hb30 dX6_asksAll_46 ?_
  obtain ⟨h31, hf⟩ := ck_ex hf
  obtain ⟨b32, hb33, hf⟩ := bd1_ex hf
  refine VP_getR (x := some b32) fa_X6_125 h31 rfl rfl hb33 dX6_asksAll_49 ?_
  obtain ⟨h34, hf⟩ := ck_ex hf
  obtain ⟨b35, hb36, hf⟩ := bd1_ex hf
  refine VP_getR (x := some b35) fa_X6_129 h34 rfl rfl hb36 dX6_asksAll_52 ?_
  refine V_bipush dX6_asksAll_55 ckb_7 ?_
  refine V_aload_n dX6_asksAll_57 rfl ?_
  obtain ⟨b37, hb38, hf⟩ := bd1_ex hf
  refine VP_getR (x := some b37) fa_X6_15 h28 rfl rfl hb38 dX6_asksAll_58 ?_
  refine V_iconst dX6_asksAll_61 ckc_4 ?_
  refine V_iload_n dX6_asksAll_62 rfl ?_
  refine V_imul dX6_asksAll_63 ?_
  refine V_iconst dX6_asksAll_64 ckc_1 ?_
  refine V_iadd dX6_asksAll_65 ?_
  obtain ⟨h39, hf⟩ := ck_ex hf
  refine VE_iald h39 rfl dX6_asksAll_66 ?_
  refine V_i2l dX6_asksAll_67 ?_
  obtain ⟨h40, hf⟩ := ck_ex hf
  obtain ⟨w41, hs42, hf⟩ := st1_ex hf
  refine VE_last h40 (by decide) hs42 dX6_asksAll_68 ?_
  refine V_aload_n dX6_asksAll_69 rfl ?_
  obtain ⟨h43, hf⟩ := ck_ex hf
  obtain ⟨b44, hb45, hf⟩ := bd1_ex hf
  refine VP_getR (x := some b44) fa_X6_3 h43 rfl rfl hb45 dX6_asksAll_70 ?_
  obtain ⟨h46, hf⟩ := ck_ex hf
  obtain ⟨b47, hb48, hf⟩ := bd1_ex hf
  refine VP_getR (x := some b47) fa_X6_125 h46 rfl rfl hb48 dX6_asksAll_73 ?_
  obtain ⟨h49, hf⟩ := ck_ex hf
  obtain ⟨b50, hb51, hf⟩ := bd1_ex hf
  refine VP_getR (x := some b50) fa_X6_129 h49 rfl rfl hb51 dX6_asksAll_76 ?_
  refine V_bipush dX6_asksAll_79 ckb_8 ?_
  refine V_aload_n dX6_asksAll_81 rfl ?_
  obtain ⟨b52, hb53, hf⟩ := bd1_ex hf
  refine VP_getR (x := some b52) fa_X6_19 h43 rfl rfl hb53 dX6_asksAll_82 ?_
  refine V_iload_n dX6_asksAll_85 rfl ?_
  obtain ⟨h54, hf⟩ := ck_ex hf
  refine VE_iald h54 rfl dX6_asksAll_86 ?_
  refine V_i2l dX6_asksAll_87 ?_
  obtain ⟨h55, hf⟩ := ck_ex hf
  obtain ⟨w56, hs57, hf⟩ := st1_ex hf
  refine VE_last h55 (by decide) hs57 dX6_asksAll_88 ?_
  refine V_aload_n dX6_asksAll_89 rfl ?_
  obtain ⟨h58, hf⟩ := ck_ex hf
  obtain ⟨b59, hb60, hf⟩ := bd1_ex hf
  refine VP_getR (x := some b59) fa_X6_3 h58 rfl rfl hb60 dX6_asksAll_90 ?_
  obtain ⟨h61, hf⟩ := ck_ex hf
  obtain ⟨b62, hb63, hf⟩ := bd1_ex hf
  refine VP_getR (x := some b62) fa_X6_125 h61 rfl rfl hb63 dX6_asksAll_93 ?_
  obtain ⟨h64, hf⟩ := ck_ex hf
  obtain ⟨b65, hb66, hf⟩ := bd1_ex hf
  refine VP_getR (x := some b65) fa_X6_129 h64 rfl rfl hb66 dX6_asksAll_96 ?_
  refine V_bipush dX6_asksAll_99 ckb_9 ?_
  refine V_aload_n dX6_asksAll_101 rfl ?_
  obtain ⟨b67, hb68, hf⟩ := bd1_ex hf
  refine VP_getR (x := some b67) fa_X6_15 h58 rfl rfl hb68 dX6_asksAll_102 ?_
  refine V_iconst dX6_asksAll_105 ckc_4 ?_
  refine V_iload_n dX6_asksAll_106 rfl ?_
  refine V_imul dX6_asksAll_107 ?_
  refine V_iconst dX6_asksAll_108 ckc_2 ?_
  refine V_iadd dX6_asksAll_109 ?_
  obtain ⟨h69, hf⟩ := ck_ex hf
  refine VE_iald h69 rfl dX6_asksAll_110 ?_
  refine V_i2l dX6_asksAll_111 ?_
  obtain ⟨h70, hf⟩ := ck_ex hf
  obtain ⟨w71, hs72, hf⟩ := st1_ex hf
  refine VE_last h70 (by decide) hs72 dX6_asksAll_112 ?_
  refine V_aload_n dX6_asksAll_113 rfl ?_
  obtain ⟨h73, hf⟩ := ck_ex hf
  obtain ⟨b74, hb75, hf⟩ := bd1_ex hf
  refine VP_getR (x := some b74) fa_X6_3 h73 rfl rfl hb75 dX6_asksAll_114 ?_
  obtain ⟨h76, hf⟩ := ck_ex hf
  obtain ⟨b77, hb78, hf⟩ := bd1_ex hf
  refine VP_getR (x := some b77) fa_X6_125 h76 rfl rfl hb78 dX6_asksAll_117 ?_
  obtain ⟨h79, hf⟩ := ck_ex hf
  obtain ⟨b80, hb81, hf⟩ := bd1_ex hf
  refine VP_getR (x := some b80) fa_X6_129 h79 rfl rfl hb81 dX6_asksAll_120 ?_
  refine V_bipush dX6_asksAll_123 ckb_10 ?_
  refine V_aload_n dX6_asksAll_125 rfl ?_
  refine V_iload_n dX6_asksAll_126 rfl ?_
  obtain ⟨r83, hc82, hf⟩ := bd1_ex hf
  refine V_cV (av := [.int p0]) (rest := [.int (10 : Int32), .ref b80]) (st' := [.int r83, .int (10 : Int32), .ref b80]) (mC_X6_lost_ok _ _ _ _ _ _ hc82) vc_X6_135 (kIn1 h73) (by decide) rfl rfl (Nat.le_of_ble_eq_true rfl) dX6_asksAll_127 rfl ?_
  refine V_i2l dX6_asksAll_130 ?_
  obtain ⟨h84, hf⟩ := ck_ex hf
  obtain ⟨w85, hs86, hf⟩ := st1_ex hf
  refine VE_last h84 (by decide) hs86 dX6_asksAll_131 ?_
  refine V_aload_n dX6_asksAll_132 rfl ?_
  obtain ⟨h87, hf⟩ := ck_ex hf
  obtain ⟨b88, hb89, hf⟩ := bd1_ex hf
  refine VP_getR (x := some b88) fa_X6_3 h87 rfl rfl hb89 dX6_asksAll_133 ?_
  obtain ⟨h90, hf⟩ := ck_ex hf
  obtain ⟨b91, hb92, hf⟩ := bd1_ex hf
  refine VP_getR (x := some b91) fa_X6_125 h90 rfl rfl hb92 dX6_asksAll_136 ?_
  obtain ⟨h93, hf⟩ := ck_ex hf
  obtain ⟨b94, hb95, hf⟩ := bd1_ex hf
  refine VP_getR (x := some b94) fa_X6_139 h93 rfl rfl hb95 dX6_asksAll_139 ?_
  refine V_iconst dX6_asksAll_142 ckc_4 ?_
  refine V_aload_n dX6_asksAll_143 rfl ?_
  obtain ⟨b96, hb97, hf⟩ := bd1_ex hf
  refine VP_getR (x := some b96) fa_X6_29 h87 rfl rfl hb97 dX6_asksAll_144 ?_
  refine V_iload_n dX6_asksAll_147 rfl ?_
  obtain ⟨h98, hf⟩ := ck_ex hf
  refine VE_zald h98 rfl dX6_asksAll_148 ?_
  obtain ⟨h99, hf⟩ := ck_ex hf
  obtain ⟨h100, hf⟩ := ck_ex hf
  obtain ⟨w101, hs102, hf⟩ := st1_ex hf
  refine VE_zast h100 h99 (by decide) hs102 dX6_asksAll_149 ?_
  refine V_iconst dX6_asksAll_150 ckc_0 ?_
  refine V_istore_n (ls' := [some (.ref a), some (.int p0), some (.int (0 : Int32))]) dX6_asksAll_151 (by decide) rfl ?_
  exact lq4_ex (P := fun v0 v1 v2 w => V X cX6_asksAll RX6 3 405 w 152 [some (.ref v0), some (.int v1), some (.int v2)] []) (fun k hk v0 v1 v2 w hf => mC_X6_asksAll_152_v hE hH k hk v0 v1 v2 w hf) LF a p0 (0 : Int32) w101 hf
set_option maxHeartbeats 4000000 in
theorem mC_X6_looks_447_v {X : CX} {w0 : AH} {w' : AH}  (hE : XE X w0 407 none "looks" (.returned none) w') (hH : XH X []) (k334 : Nat → Int32 → Int32 → AH → Option (AH)) (hk334 : ∀ (v0 : Nat) (v2 : Int32) (v3 : Int32) (w : AH), k334 v0 v2 v3 w = some w' → V X cX6_looks RX6 6 407 w 334 [some (.ref v0), none, some (.int v2), some (.int v3), none, none] []) (v0 : Nat) (v2 : Int32) (v3 : Int32) (w : AH) (hf : mC_X6_looks_447 k334 v0 v2 v3 w = some w') : V X cX6_looks RX6 6 407 w 447 [some (.ref v0), none, some (.int v2), some (.int v3), none, none] [] := by
  unfold mC_X6_looks_447 at hf
  refine V_inc (ls' := [some (.ref v0), none, some (.int v2), some (.int (v3 + (1 : Int32))), none, none]) dX6_looks_447 rfl ckc_1 (by decide) rfl ?_
  refine V_goto (tgt := 334) dX6_looks_450 (by decide) ?_
  exact hk334 v0 v2 (v3 + (1 : Int32)) w hf
set_option maxHeartbeats 4000000 in
theorem mC_X6_looks_334_v {X : CX} {w0 : AH} {w' : AH}  (hE : XE X w0 407 none "looks" (.returned none) w') (hH : XH X []) (k334 : Nat → Int32 → Int32 → AH → Option (AH)) (hk334 : ∀ (v0 : Nat) (v2 : Int32) (v3 : Int32) (w : AH), k334 v0 v2 v3 w = some w' → V X cX6_looks RX6 6 407 w 334 [some (.ref v0), none, some (.int v2), some (.int v3), none, none] []) (v0 : Nat) (v2 : Int32) (v3 : Int32) (w : AH) (hf : mC_X6_looks_334 k334 v0 v2 v3 w = some w') : V X cX6_looks RX6 6 407 w 334 [some (.ref v0), none, some (.int v2), some (.int v3), none, none] [] := by
  unfold mC_X6_looks_334 at hf
  refine V_iload_n dX6_looks_334 rfl ?_
  refine V_aload_n dX6_looks_335 rfl ?_
  obtain ⟨h1, hf⟩ := ck_ex hf
  obtain ⟨b2, hb3, hf⟩ := bd1_ex hf
  refine VP_getR (x := some b2) fa_X6_3 h1 rfl rfl hb3 dX6_looks_336 ?_
  obtain ⟨h4, hf⟩ := ck_ex hf
  obtain ⟨b5, hb6, hf⟩ := bd1_ex hf
  refine VP_getR (x := some b5) fa_X6_56 h4 rfl rfl hb6 dX6_looks_339 ?_
  obtain ⟨h7, hf⟩ := ck_ex hf
  obtain ⟨b8, hb9, hf⟩ := bd1_ex hf
  refine VP_getR (x := some b8) fa_X6_106 h7 rfl rfl hb9 dX6_looks_342 ?_
  obtain ⟨h10, hf⟩ := ck_ex hf
  obtain ⟨r12, hc11, hf⟩ := bd1_ex hf
  refine V_cV (av := []) (rest := [.int v3]) (st' := [.int r12, .int v3]) (mC_J2_size_ok _ _ _ _ _ hc11) vc_X6_72 (kIn1 h10) (by decide) rfl rfl (Nat.le_of_ble_eq_true rfl) dX6_looks_345 rfl ?_
  refine V_icmp_ge (tgt := 453) dX6_looks_348 (by decide) (fun hc13 => ?_) (fun hc13 => ?_)
  · have hf := if_t hf hc13
    cases some_ex hf
    exact V_vret hE dX6_looks_453
  · have hf := if_f hf hc13
    refine V_aload_n dX6_looks_351 rfl ?_
    refine VP_getR (x := some b2) fa_X6_3 h1 rfl rfl hb3 dX6_looks_352 ?_
    refine VP_getR (x := some b5) fa_X6_56 h4 rfl rfl hb6 dX6_looks_355 ?_
    refine VP_getR (x := some b8) fa_X6_106 h7 rfl rfl hb9 dX6_looks_358 ?_
    refine V_iload_n dX6_looks_361 rfl ?_
    obtain ⟨r15, hc14, hf⟩ := bd1_ex hf
    refine V_cV (av := [.int v3]) (rest := []) (st' := [.ref r15]) (mC_J2_get_ok _ _ _ _ _ _ hc14) vc_X6_78 (kIn1 h10) (by decide) rfl rfl (Nat.le_of_ble_eq_true rfl) dX6_looks_362 rfl ?_
    obtain ⟨h16, hf⟩ := ck_ex hf
    refine VE_cast cc_X6_82 h16 dX6_looks_365 ?_
    refine V_astore (ls' := [some (.ref v0), none, some (.int v2), some (.int v3), some (.ref r15), none]) dX6_looks_368 (by decide) rfl ?_
    refine V_aload_n dX6_looks_370 rfl ?_
    refine VP_getR (x := some b2) fa_X6_3 h1 rfl rfl hb3 dX6_looks_371 ?_
    refine VP_getR (x := some b5) fa_X6_56 h4 rfl rfl hb6 dX6_looks_374 ?_
    obtain ⟨b17, hb18, hf⟩ := bd1_ex hf
    refine VP_getR (x := some b17) fa_X6_103 h7 rfl rfl hb18 dX6_looks_377 ?_
    refine V_aload dX6_looks_380 rfl ?_
    refine VP_getI fa_X6_87 h16 rfl dX6_looks_382 ?_
    obtain ⟨h19, hf⟩ := ck_ex hf
    refine VE_iald h19 rfl dX6_looks_385 ?_
    refine V_istore (ls' := [some (.ref v0), none, some (.int v2), some (.int v3), some (.ref r15), some (.int (hvi w b17 ((hvi w r15 0).toNatClampNeg)))]) dX6_looks_386 (by decide) rfl ?_
    refine V_aload_n dX6_looks_388 rfl ?_
    refine V_iload_n dX6_looks_389 rfl ?_
    refine V_iload_n dX6_looks_390 rfl ?_
    obtain ⟨r21, hc20, hf⟩ := bd1_ex hf
    refine V_cV (av := [.int v3, .int v2]) (rest := []) (st' := [.int r21]) (mC_X6_isLast_ok _ _ _ _ _ _ _ hc20) vc_X6_109 (kIn1 h1) (by decide) rfl rfl (Nat.le_of_ble_eq_true rfl) dX6_looks_391 rfl ?_
    refine V_if_eq (tgt := 447) dX6_looks_394 (by decide) (fun hc22 => ?_) (fun hc22 => ?_)
    · have hf := if_t hf hc22
      refine V_keep [true, true, true, true, false, false] rfl ?_
      exact mC_X6_looks_447_v hE hH k334 hk334 v0 v2 v3 w hf
    · have hf := if_f hf hc22
      refine V_aload_n dX6_looks_397 rfl ?_
      obtain ⟨b23, hb24, hf⟩ := bd1_ex hf
      refine VP_getR (x := some b23) fa_X6_32 h1 rfl rfl hb24 dX6_looks_398 ?_
      refine V_bipush dX6_looks_401 ckb_10 ?_
      refine V_iload dX6_looks_403 rfl ?_
      refine V_imul dX6_looks_405 ?_
      refine V_aload dX6_looks_406 rfl ?_
      refine VP_getI fa_X6_93 h16 rfl dX6_looks_408 ?_
      refine V_iadd dX6_looks_411 ?_
      obtain ⟨h25, hf⟩ := ck_ex hf
      refine VE_zald h25 rfl dX6_looks_412 ?_
      refine V_if_ne (tgt := 447) dX6_looks_413 (by decide) (fun hc26 => ?_) (fun hc26 => ?_)
      · have hf := if_f hf hc26
        refine V_keep [true, true, true, true, false, false] rfl ?_
        exact mC_X6_looks_447_v hE hH k334 hk334 v0 v2 v3 w hf
      · have hf := if_t hf hc26
        refine V_aload_n dX6_looks_416 rfl ?_
        obtain ⟨b27, hb28, hf⟩ := bd1_ex hf
        refine VP_getR (x := some b27) fa_X6_22 h1 rfl rfl hb28 dX6_looks_417 ?_
        refine V_bipush dX6_looks_420 ckb_8 ?_
        refine V_iload dX6_looks_422 rfl ?_
        refine V_imul dX6_looks_424 ?_
        refine V_aload dX6_looks_425 rfl ?_
        refine VP_getI fa_X6_90 h16 rfl dX6_looks_427 ?_
        refine V_iadd dX6_looks_430 ?_
        refine V_dup2 dX6_looks_431 rfl rfl ?_
        obtain ⟨h29, hf⟩ := ck_ex hf
        refine VE_iald h29 rfl dX6_looks_432 ?_
        refine V_aload_n dX6_looks_433 rfl ?_
        refine VP_getR (x := some b2) fa_X6_3 h1 rfl rfl hb3 dX6_looks_434 ?_
        refine VP_getR (x := some b5) fa_X6_56 h4 rfl rfl hb6 dX6_looks_437 ?_
        obtain ⟨b30, hb31, hf⟩ := bd1_ex hf
        refine VP_getR (x := some b30) fa_X6_113 h7 rfl rfl hb31 dX6_looks_440 ?_
        refine V_iload_n dX6_looks_443 rfl ?_
        obtain ⟨h32, hf⟩ := ck_ex hf
        refine VE_iald h32 rfl dX6_looks_444 ?_
        refine V_iadd dX6_looks_445 ?_
        obtain ⟨w33, hs34, hf⟩ := st1_ex hf
        refine VE_iast h29 rfl hs34 dX6_looks_446 ?_
        refine V_keep [true, true, true, true, false, false] rfl ?_
        exact mC_X6_looks_447_v hE hH k334 hk334 v0 v2 v3 w33 hf
set_option maxHeartbeats 4000000 in
theorem mC_X6_looks_307_v {X : CX} {w0 : AH} {w' : AH}  (hE : XE X w0 407 none "looks" (.returned none) w') (hH : XH X []) (k307 : Nat → Int32 → Int32 → AH → Option (AH)) (hk307 : ∀ (v0 : Nat) (v2 : Int32) (v3 : Int32) (w : AH), k307 v0 v2 v3 w = some w' → V X cX6_looks RX6 6 407 w 307 [some (.ref v0), none, some (.int v2), some (.int v3), none, none] []) (v0 : Nat) (v2 : Int32) (v3 : Int32) (w : AH) (hf : mC_X6_looks_307 k307 v0 v2 v3 w = some w') : V X cX6_looks RX6 6 407 w 307 [some (.ref v0), none, some (.int v2), some (.int v3), none, none] [] := by
  unfold mC_X6_looks_307 at hf
  refine V_iload_n dX6_looks_307 rfl ?_
  refine V_aload_n dX6_looks_308 rfl ?_
  obtain ⟨h1, hf⟩ := ck_ex hf
  obtain ⟨b2, hb3, hf⟩ := bd1_ex hf
  refine VP_getR (x := some b2) fa_X6_3 h1 rfl rfl hb3 dX6_looks_309 ?_
  obtain ⟨h4, hf⟩ := ck_ex hf
  obtain ⟨b5, hb6, hf⟩ := bd1_ex hf
  refine VP_getR (x := some b5) fa_X6_56 h4 rfl rfl hb6 dX6_looks_312 ?_
  obtain ⟨h7, hf⟩ := ck_ex hf
  refine VP_getI fa_X6_60 h7 rfl dX6_looks_315 ?_
  refine V_icmp_ge (tgt := 332) dX6_looks_318 (by decide) (fun hc8 => ?_) (fun hc8 => ?_)
  · have hf := if_t hf hc8
    refine V_iconst dX6_looks_332 ckc_0 ?_
    refine V_istore_n (ls' := [some (.ref v0), none, some (.int v2), some (.int (0 : Int32)), none, none]) dX6_looks_333 (by decide) rfl ?_
    exact lq4_ex (P := fun v0 v2 v3 w => V X cX6_looks RX6 6 407 w 334 [some (.ref v0), none, some (.int v2), some (.int v3), none, none] []) (fun k hk v0 v2 v3 w hf => mC_X6_looks_334_v hE hH k hk v0 v2 v3 w hf) LF v0 v2 (0 : Int32) w hf
  · have hf := if_f hf hc8
    refine V_aload_n dX6_looks_321 rfl ?_
    refine V_iload_n dX6_looks_322 rfl ?_
    obtain ⟨w10, hc9, hf⟩ := bd1_ex hf
    refine V_cV (av := [.int v3]) (rest := []) (st' := []) (mC_X6_asksAll_ok _ _ _ _ _ _ hc9) vc_X6_116 (kIn1 h1) (by decide) rfl rfl (Nat.le_of_ble_eq_true rfl) dX6_looks_323 rfl ?_
    refine V_inc (ls' := [some (.ref v0), none, some (.int v2), some (.int (v3 + (1 : Int32))), none, none]) dX6_looks_326 rfl ckc_1 (by decide) rfl ?_
    refine V_goto (tgt := 307) dX6_looks_329 (by decide) ?_
    exact hk307 v0 v2 (v3 + (1 : Int32)) w10 hf
set_option maxHeartbeats 4000000 in
theorem mC_X6_looks_299_v {X : CX} {w0 : AH} {w' : AH}  (hE : XE X w0 407 none "looks" (.returned none) w') (hH : XH X []) (k222 : Nat → Int32 → Int32 → AH → Option (AH)) (hk222 : ∀ (v0 : Nat) (v2 : Int32) (v3 : Int32) (w : AH), k222 v0 v2 v3 w = some w' → V X cX6_looks RX6 6 407 w 222 [some (.ref v0), none, some (.int v2), some (.int v3), none, none] []) (v0 : Nat) (v2 : Int32) (v3 : Int32) (w : AH) (hf : mC_X6_looks_299 k222 v0 v2 v3 w = some w') : V X cX6_looks RX6 6 407 w 299 [some (.ref v0), none, some (.int v2), some (.int v3), none, none] [] := by
  unfold mC_X6_looks_299 at hf
  refine V_inc (ls' := [some (.ref v0), none, some (.int v2), some (.int (v3 + (1 : Int32))), none, none]) dX6_looks_299 rfl ckc_1 (by decide) rfl ?_
  refine V_goto (tgt := 222) dX6_looks_302 (by decide) ?_
  exact hk222 v0 v2 (v3 + (1 : Int32)) w hf
set_option maxHeartbeats 4000000 in
theorem mC_X6_looks_222_v {X : CX} {w0 : AH} {w' : AH}  (hE : XE X w0 407 none "looks" (.returned none) w') (hH : XH X []) (k222 : Nat → Int32 → Int32 → AH → Option (AH)) (hk222 : ∀ (v0 : Nat) (v2 : Int32) (v3 : Int32) (w : AH), k222 v0 v2 v3 w = some w' → V X cX6_looks RX6 6 407 w 222 [some (.ref v0), none, some (.int v2), some (.int v3), none, none] []) (v0 : Nat) (v2 : Int32) (v3 : Int32) (w : AH) (hf : mC_X6_looks_222 k222 v0 v2 v3 w = some w') : V X cX6_looks RX6 6 407 w 222 [some (.ref v0), none, some (.int v2), some (.int v3), none, none] [] := by
  unfold mC_X6_looks_222 at hf
  refine V_iload_n dX6_looks_222 rfl ?_
  refine V_aload_n dX6_looks_223 rfl ?_
  obtain ⟨h1, hf⟩ := ck_ex hf
  obtain ⟨b2, hb3, hf⟩ := bd1_ex hf
  refine VP_getR (x := some b2) fa_X6_3 h1 rfl rfl hb3 dX6_looks_224 ?_
  obtain ⟨h4, hf⟩ := ck_ex hf
  obtain ⟨b5, hb6, hf⟩ := bd1_ex hf
  refine VP_getR (x := some b5) fa_X6_56 h4 rfl rfl hb6 dX6_looks_227 ?_
  obtain ⟨h7, hf⟩ := ck_ex hf
  obtain ⟨b8, hb9, hf⟩ := bd1_ex hf
  refine VP_getR (x := some b8) fa_X6_106 h7 rfl rfl hb9 dX6_looks_230 ?_
  obtain ⟨h10, hf⟩ := ck_ex hf
  obtain ⟨r12, hc11, hf⟩ := bd1_ex hf
  refine V_cV (av := []) (rest := [.int v3]) (st' := [.int r12, .int v3]) (mC_J2_size_ok _ _ _ _ _ hc11) vc_X6_72 (kIn1 h10) (by decide) rfl rfl (Nat.le_of_ble_eq_true rfl) dX6_looks_233 rfl ?_
  refine V_icmp_ge (tgt := 305) dX6_looks_236 (by decide) (fun hc13 => ?_) (fun hc13 => ?_)
  · have hf := if_t hf hc13
    refine V_iconst dX6_looks_305 ckc_0 ?_
    refine V_istore_n (ls' := [some (.ref v0), none, some (.int v2), some (.int (0 : Int32)), none, none]) dX6_looks_306 (by decide) rfl ?_
    exact lq4_ex (P := fun v0 v2 v3 w => V X cX6_looks RX6 6 407 w 307 [some (.ref v0), none, some (.int v2), some (.int v3), none, none] []) (fun k hk v0 v2 v3 w hf => mC_X6_looks_307_v hE hH k hk v0 v2 v3 w hf) LF v0 v2 (0 : Int32) w hf
  · have hf := if_f hf hc13
    refine V_aload_n dX6_looks_239 rfl ?_
    refine V_iload_n dX6_looks_240 rfl ?_
    refine V_iload_n dX6_looks_241 rfl ?_
    obtain ⟨r15, hc14, hf⟩ := bd1_ex hf
    refine V_cV (av := [.int v3, .int v2]) (rest := []) (st' := [.int r15]) (mC_X6_isLast_ok _ _ _ _ _ _ _ hc14) vc_X6_109 (kIn1 h1) (by decide) rfl rfl (Nat.le_of_ble_eq_true rfl) dX6_looks_242 rfl ?_
    refine V_if_eq (tgt := 299) dX6_looks_245 (by decide) (fun hc16 => ?_) (fun hc16 => ?_)
    · have hf := if_t hf hc16
      exact mC_X6_looks_299_v hE hH k222 hk222 v0 v2 v3 w hf
    · have hf := if_f hf hc16
      refine V_aload_n dX6_looks_248 rfl ?_
      obtain ⟨b17, hb18, hf⟩ := bd1_ex hf
      refine VP_getR (x := some b17) fa_X6_19 h1 rfl rfl hb18 dX6_looks_249 ?_
      refine V_aload_n dX6_looks_252 rfl ?_
      refine VP_getR (x := some b2) fa_X6_3 h1 rfl rfl hb3 dX6_looks_253 ?_
      refine VP_getR (x := some b5) fa_X6_56 h4 rfl rfl hb6 dX6_looks_256 ?_
      obtain ⟨b19, hb20, hf⟩ := bd1_ex hf
      refine VP_getR (x := some b19) fa_X6_103 h7 rfl rfl hb20 dX6_looks_259 ?_
      refine V_aload_n dX6_looks_262 rfl ?_
      refine VP_getR (x := some b2) fa_X6_3 h1 rfl rfl hb3 dX6_looks_263 ?_
      refine VP_getR (x := some b5) fa_X6_56 h4 rfl rfl hb6 dX6_looks_266 ?_
      refine VP_getR (x := some b8) fa_X6_106 h7 rfl rfl hb9 dX6_looks_269 ?_
      refine V_iload_n dX6_looks_272 rfl ?_
      obtain ⟨r22, hc21, hf⟩ := bd1_ex hf
      refine V_cV (av := [.int v3]) (rest := [.ref b19, .ref b17]) (st' := [.ref r22, .ref b19, .ref b17]) (mC_J2_get_ok _ _ _ _ _ _ hc21) vc_X6_78 (kIn1 h10) (by decide) rfl rfl (Nat.le_of_ble_eq_true rfl) dX6_looks_273 rfl ?_
      obtain ⟨h23, hf⟩ := ck_ex hf
      refine VE_cast cc_X6_82 h23 dX6_looks_276 ?_
      refine VP_getI fa_X6_87 h23 rfl dX6_looks_279 ?_
      obtain ⟨h24, hf⟩ := ck_ex hf
      refine VE_iald h24 rfl dX6_looks_282 ?_
      refine V_dup2 dX6_looks_283 rfl rfl ?_
      obtain ⟨h25, hf⟩ := ck_ex hf
      refine VE_iald h25 rfl dX6_looks_284 ?_
      refine V_aload_n dX6_looks_285 rfl ?_
      refine VP_getR (x := some b2) fa_X6_3 h1 rfl rfl hb3 dX6_looks_286 ?_
      refine VP_getR (x := some b5) fa_X6_56 h4 rfl rfl hb6 dX6_looks_289 ?_
      obtain ⟨b26, hb27, hf⟩ := bd1_ex hf
      refine VP_getR (x := some b26) fa_X6_113 h7 rfl rfl hb27 dX6_looks_292 ?_
      refine V_iload_n dX6_looks_295 rfl ?_
      obtain ⟨h28, hf⟩ := ck_ex hf
      refine VE_iald h28 rfl dX6_looks_296 ?_
      refine V_iadd dX6_looks_297 ?_
      obtain ⟨w29, hs30, hf⟩ := st1_ex hf
      refine VE_iast h25 rfl hs30 dX6_looks_298 ?_
      exact mC_X6_looks_299_v hE hH k222 hk222 v0 v2 v3 w29 hf
set_option maxHeartbeats 4000000 in
theorem mC_X6_looks_214_v {X : CX} {w0 : AH} {w' : AH}  (hE : XE X w0 407 none "looks" (.returned none) w') (hH : XH X []) (k169 : Nat → Int32 → Int32 → AH → Option (AH)) (hk169 : ∀ (v0 : Nat) (v2 : Int32) (v3 : Int32) (w : AH), k169 v0 v2 v3 w = some w' → V X cX6_looks RX6 6 407 w 169 [some (.ref v0), none, some (.int v2), some (.int v3), none, none] []) (v0 : Nat) (v2 : Int32) (v3 : Int32) (w : AH) (hf : mC_X6_looks_214 k169 v0 v2 v3 w = some w') : V X cX6_looks RX6 6 407 w 214 [some (.ref v0), none, some (.int v2), some (.int v3), none, none] [] := by
  unfold mC_X6_looks_214 at hf
  refine V_inc (ls' := [some (.ref v0), none, some (.int v2), some (.int (v3 + (1 : Int32))), none, none]) dX6_looks_214 rfl ckc_1 (by decide) rfl ?_
  refine V_goto (tgt := 169) dX6_looks_217 (by decide) ?_
  exact hk169 v0 v2 (v3 + (1 : Int32)) w hf
set_option maxHeartbeats 4000000 in
theorem mC_X6_looks_169_v {X : CX} {w0 : AH} {w' : AH}  (hE : XE X w0 407 none "looks" (.returned none) w') (hH : XH X []) (k169 : Nat → Int32 → Int32 → AH → Option (AH)) (hk169 : ∀ (v0 : Nat) (v2 : Int32) (v3 : Int32) (w : AH), k169 v0 v2 v3 w = some w' → V X cX6_looks RX6 6 407 w 169 [some (.ref v0), none, some (.int v2), some (.int v3), none, none] []) (v0 : Nat) (v2 : Int32) (v3 : Int32) (w : AH) (hf : mC_X6_looks_169 k169 v0 v2 v3 w = some w') : V X cX6_looks RX6 6 407 w 169 [some (.ref v0), none, some (.int v2), some (.int v3), none, none] [] := by
  unfold mC_X6_looks_169 at hf
  refine V_iload_n dX6_looks_169 rfl ?_
  refine V_aload_n dX6_looks_170 rfl ?_
  obtain ⟨h1, hf⟩ := ck_ex hf
  obtain ⟨b2, hb3, hf⟩ := bd1_ex hf
  refine VP_getR (x := some b2) fa_X6_3 h1 rfl rfl hb3 dX6_looks_171 ?_
  obtain ⟨h4, hf⟩ := ck_ex hf
  obtain ⟨b5, hb6, hf⟩ := bd1_ex hf
  refine VP_getR (x := some b5) fa_X6_56 h4 rfl rfl hb6 dX6_looks_174 ?_
  obtain ⟨h7, hf⟩ := ck_ex hf
  refine VP_getI fa_X6_96 h7 rfl dX6_looks_177 ?_
  refine V_icmp_ge (tgt := 220) dX6_looks_180 (by decide) (fun hc8 => ?_) (fun hc8 => ?_)
  · have hf := if_t hf hc8
    refine V_iconst dX6_looks_220 ckc_0 ?_
    refine V_istore_n (ls' := [some (.ref v0), none, some (.int v2), some (.int (0 : Int32)), none, none]) dX6_looks_221 (by decide) rfl ?_
    exact lq4_ex (P := fun v0 v2 v3 w => V X cX6_looks RX6 6 407 w 222 [some (.ref v0), none, some (.int v2), some (.int v3), none, none] []) (fun k hk v0 v2 v3 w hf => mC_X6_looks_222_v hE hH k hk v0 v2 v3 w hf) LF v0 v2 (0 : Int32) w hf
  · have hf := if_f hf hc8
    refine V_aload_n dX6_looks_183 rfl ?_
    refine VP_getR (x := some b2) fa_X6_3 h1 rfl rfl hb3 dX6_looks_184 ?_
    refine V_iload_n dX6_looks_187 rfl ?_
    refine V_iload_n dX6_looks_188 rfl ?_
    obtain ⟨r10, hc9, hf⟩ := bd1_ex hf
    refine V_nV (av := [.int v3, .int v2]) (rest := []) (st' := [.int r10]) (mC_X0_breaks_ok _ _ _ _ _ _ _ hc9) nv_X6_99 (kIn1 h4) (by decide) rfl rfl (Nat.le_of_ble_eq_true rfl) dX6_looks_189 rfl ?_
    refine V_iconst dX6_looks_192 ckc_m1 ?_
    refine V_icmp_eq (tgt := 214) dX6_looks_193 (by decide) (fun hc11 => ?_) (fun hc11 => ?_)
    · have hf := if_t hf hc11
      exact mC_X6_looks_214_v hE hH k169 hk169 v0 v2 v3 w hf
    · have hf := if_f hf hc11
      refine V_aload_n dX6_looks_196 rfl ?_
      obtain ⟨b12, hb13, hf⟩ := bd1_ex hf
      refine VP_getR (x := some b12) fa_X6_29 h1 rfl rfl hb13 dX6_looks_197 ?_
      refine V_aload_n dX6_looks_200 rfl ?_
      refine VP_getR (x := some b2) fa_X6_3 h1 rfl rfl hb3 dX6_looks_201 ?_
      refine VP_getR (x := some b5) fa_X6_56 h4 rfl rfl hb6 dX6_looks_204 ?_
      obtain ⟨b14, hb15, hf⟩ := bd1_ex hf
      refine VP_getR (x := some b14) fa_X6_103 h7 rfl rfl hb15 dX6_looks_207 ?_
      refine V_iload_n dX6_looks_210 rfl ?_
      obtain ⟨h16, hf⟩ := ck_ex hf
      refine VE_iald h16 rfl dX6_looks_211 ?_
      refine V_iconst dX6_looks_212 ckc_1 ?_
      obtain ⟨h17, hf⟩ := ck_ex hf
      obtain ⟨w18, hs19, hf⟩ := st1_ex hf
      refine VE_zast (by decide) h17 rfl hs19 dX6_looks_213 ?_
      exact mC_X6_looks_214_v hE hH k169 hk169 v0 v2 v3 w18 hf
set_option maxHeartbeats 4000000 in
theorem mC_X6_looks_161_v {X : CX} {w0 : AH} {w' : AH}  (hE : XE X w0 407 none "looks" (.returned none) w') (hH : XH X []) (k93 : Nat → Int32 → Int32 → AH → Option (AH)) (hk93 : ∀ (v0 : Nat) (v2 : Int32) (v3 : Int32) (w : AH), k93 v0 v2 v3 w = some w' → V X cX6_looks RX6 6 407 w 93 [some (.ref v0), none, some (.int v2), some (.int v3), none, none] []) (v0 : Nat) (v2 : Int32) (v3 : Int32) (w : AH) (hf : mC_X6_looks_161 k93 v0 v2 v3 w = some w') : V X cX6_looks RX6 6 407 w 161 [some (.ref v0), none, some (.int v2), some (.int v3), none, none] [] := by
  unfold mC_X6_looks_161 at hf
  refine V_inc (ls' := [some (.ref v0), none, some (.int v2), some (.int (v3 + (1 : Int32))), none, none]) dX6_looks_161 rfl ckc_1 (by decide) rfl ?_
  refine V_goto (tgt := 93) dX6_looks_164 (by decide) ?_
  exact hk93 v0 v2 (v3 + (1 : Int32)) w hf
set_option maxHeartbeats 4000000 in
theorem mC_X6_looks_93_v {X : CX} {w0 : AH} {w' : AH}  (hE : XE X w0 407 none "looks" (.returned none) w') (hH : XH X []) (k93 : Nat → Int32 → Int32 → AH → Option (AH)) (hk93 : ∀ (v0 : Nat) (v2 : Int32) (v3 : Int32) (w : AH), k93 v0 v2 v3 w = some w' → V X cX6_looks RX6 6 407 w 93 [some (.ref v0), none, some (.int v2), some (.int v3), none, none] []) (v0 : Nat) (v2 : Int32) (v3 : Int32) (w : AH) (hf : mC_X6_looks_93 k93 v0 v2 v3 w = some w') : V X cX6_looks RX6 6 407 w 93 [some (.ref v0), none, some (.int v2), some (.int v3), none, none] [] := by
  unfold mC_X6_looks_93 at hf
  refine V_iload_n dX6_looks_93 rfl ?_
  refine V_aload_n dX6_looks_94 rfl ?_
  obtain ⟨h1, hf⟩ := ck_ex hf
  obtain ⟨b2, hb3, hf⟩ := bd1_ex hf
  refine VP_getR (x := some b2) fa_X6_3 h1 rfl rfl hb3 dX6_looks_95 ?_
  obtain ⟨h4, hf⟩ := ck_ex hf
  obtain ⟨b5, hb6, hf⟩ := bd1_ex hf
  refine VP_getR (x := some b5) fa_X6_56 h4 rfl rfl hb6 dX6_looks_98 ?_
  obtain ⟨h7, hf⟩ := ck_ex hf
  obtain ⟨b8, hb9, hf⟩ := bd1_ex hf
  refine VP_getR (x := some b8) fa_X6_69 h7 rfl rfl hb9 dX6_looks_101 ?_
  obtain ⟨h10, hf⟩ := ck_ex hf
  obtain ⟨r12, hc11, hf⟩ := bd1_ex hf
  refine V_cV (av := []) (rest := [.int v3]) (st' := [.int r12, .int v3]) (mC_J2_size_ok _ _ _ _ _ hc11) vc_X6_72 (kIn1 h10) (by decide) rfl rfl (Nat.le_of_ble_eq_true rfl) dX6_looks_104 rfl ?_
  refine V_icmp_ge (tgt := 167) dX6_looks_107 (by decide) (fun hc13 => ?_) (fun hc13 => ?_)
  · have hf := if_t hf hc13
    refine V_iconst dX6_looks_167 ckc_0 ?_
    refine V_istore_n (ls' := [some (.ref v0), none, some (.int v2), some (.int (0 : Int32)), none, none]) dX6_looks_168 (by decide) rfl ?_
    exact lq4_ex (P := fun v0 v2 v3 w => V X cX6_looks RX6 6 407 w 169 [some (.ref v0), none, some (.int v2), some (.int v3), none, none] []) (fun k hk v0 v2 v3 w hf => mC_X6_looks_169_v hE hH k hk v0 v2 v3 w hf) LF v0 v2 (0 : Int32) w hf
  · have hf := if_f hf hc13
    refine V_aload_n dX6_looks_110 rfl ?_
    refine VP_getR (x := some b2) fa_X6_3 h1 rfl rfl hb3 dX6_looks_111 ?_
    refine VP_getR (x := some b5) fa_X6_56 h4 rfl rfl hb6 dX6_looks_114 ?_
    refine VP_getR (x := some b8) fa_X6_69 h7 rfl rfl hb9 dX6_looks_117 ?_
    refine V_iload_n dX6_looks_120 rfl ?_
    obtain ⟨r15, hc14, hf⟩ := bd1_ex hf
    refine V_cV (av := [.int v3]) (rest := []) (st' := [.ref r15]) (mC_J2_get_ok _ _ _ _ _ _ hc14) vc_X6_78 (kIn1 h10) (by decide) rfl rfl (Nat.le_of_ble_eq_true rfl) dX6_looks_121 rfl ?_
    obtain ⟨h16, hf⟩ := ck_ex hf
    refine VE_cast cc_X6_82 h16 dX6_looks_124 ?_
    refine V_astore (ls' := [some (.ref v0), none, some (.int v2), some (.int v3), some (.ref r15), none]) dX6_looks_127 (by decide) rfl ?_
    refine V_aload dX6_looks_129 rfl ?_
    refine VP_getI fa_X6_84 h16 rfl dX6_looks_131 ?_
    refine V_iload_n dX6_looks_134 rfl ?_
    refine V_icmp_gt (tgt := 161) dX6_looks_135 (by decide) (fun hc17 => ?_) (fun hc17 => ?_)
    · have hf := if_t hf hc17
      refine V_keep [true, true, true, true, false, true] rfl ?_
      exact mC_X6_looks_161_v hE hH k93 hk93 v0 v2 v3 w hf
    · have hf := if_f hf hc17
      refine V_aload_n dX6_looks_138 rfl ?_
      obtain ⟨b18, hb19, hf⟩ := bd1_ex hf
      refine VP_getR (x := some b18) fa_X6_15 h1 rfl rfl hb19 dX6_looks_139 ?_
      refine V_iconst dX6_looks_142 ckc_4 ?_
      refine V_aload dX6_looks_143 rfl ?_
      refine VP_getI fa_X6_87 h16 rfl dX6_looks_145 ?_
      refine V_imul dX6_looks_148 ?_
      refine V_aload dX6_looks_149 rfl ?_
      refine VP_getI fa_X6_90 h16 rfl dX6_looks_151 ?_
      refine V_iadd dX6_looks_154 ?_
      refine V_aload dX6_looks_155 rfl ?_
      refine VP_getI fa_X6_93 h16 rfl dX6_looks_157 ?_
      obtain ⟨h20, hf⟩ := ck_ex hf
      obtain ⟨w21, hs22, hf⟩ := st1_ex hf
      refine VE_iast h20 rfl hs22 dX6_looks_160 ?_
      refine V_keep [true, true, true, true, false, true] rfl ?_
      exact mC_X6_looks_161_v hE hH k93 hk93 v0 v2 v3 w21 hf
set_option maxHeartbeats 4000000 in
theorem mC_X6_looks_66_v {X : CX} {w0 : AH} {w' : AH}  (hE : XE X w0 407 none "looks" (.returned none) w') (hH : XH X []) (k66 : Nat → Int32 → Int32 → AH → Option (AH)) (hk66 : ∀ (v0 : Nat) (v2 : Int32) (v3 : Int32) (w : AH), k66 v0 v2 v3 w = some w' → V X cX6_looks RX6 6 407 w 66 [some (.ref v0), none, some (.int v2), some (.int v3), none, none] []) (v0 : Nat) (v2 : Int32) (v3 : Int32) (w : AH) (hf : mC_X6_looks_66 k66 v0 v2 v3 w = some w') : V X cX6_looks RX6 6 407 w 66 [some (.ref v0), none, some (.int v2), some (.int v3), none, none] [] := by
  unfold mC_X6_looks_66 at hf
  refine V_iload_n dX6_looks_66 rfl ?_
  refine V_aload_n dX6_looks_67 rfl ?_
  obtain ⟨h1, hf⟩ := ck_ex hf
  obtain ⟨b2, hb3, hf⟩ := bd1_ex hf
  refine VP_getR (x := some b2) fa_X6_3 h1 rfl rfl hb3 dX6_looks_68 ?_
  obtain ⟨h4, hf⟩ := ck_ex hf
  obtain ⟨b5, hb6, hf⟩ := bd1_ex hf
  refine VP_getR (x := some b5) fa_X6_56 h4 rfl rfl hb6 dX6_looks_71 ?_
  obtain ⟨h7, hf⟩ := ck_ex hf
  refine VP_getI fa_X6_60 h7 rfl dX6_looks_74 ?_
  refine V_icmp_ge (tgt := 91) dX6_looks_77 (by decide) (fun hc8 => ?_) (fun hc8 => ?_)
  · have hf := if_t hf hc8
    refine V_iconst dX6_looks_91 ckc_0 ?_
    refine V_istore_n (ls' := [some (.ref v0), none, some (.int v2), some (.int (0 : Int32)), none, none]) dX6_looks_92 (by decide) rfl ?_
    exact lq4_ex (P := fun v0 v2 v3 w => V X cX6_looks RX6 6 407 w 93 [some (.ref v0), none, some (.int v2), some (.int v3), none, none] []) (fun k hk v0 v2 v3 w hf => mC_X6_looks_93_v hE hH k hk v0 v2 v3 w hf) LF v0 v2 (0 : Int32) w hf
  · have hf := if_f hf hc8
    refine V_aload_n dX6_looks_80 rfl ?_
    refine V_iload_n dX6_looks_81 rfl ?_
    obtain ⟨w10, hc9, hf⟩ := bd1_ex hf
    refine V_cV (av := [.int v3]) (rest := []) (st' := []) (mC_X6_empties_ok _ _ _ _ _ _ hc9) vc_X6_65 (kIn1 h1) (by decide) rfl rfl (Nat.le_of_ble_eq_true rfl) dX6_looks_82 rfl ?_
    refine V_inc (ls' := [some (.ref v0), none, some (.int v2), some (.int (v3 + (1 : Int32))), none, none]) dX6_looks_85 rfl ckc_1 (by decide) rfl ?_
    refine V_goto (tgt := 66) dX6_looks_88 (by decide) ?_
    exact hk66 v0 v2 (v3 + (1 : Int32)) w10 hf
set_option maxHeartbeats 4000000 in
theorem mC_X6_looks_43_v {X : CX} {w0 : AH} {w' : AH}  (hE : XE X w0 407 none "looks" (.returned none) w') (hH : XH X []) (v0 : Nat) (v1 : Int32) (v2 : Int32) (w : AH) (hf : mC_X6_looks_43 v0 v1 v2 w = some w') : V X cX6_looks RX6 6 407 w 43 [some (.ref v0), some (.int v1), some (.int v2), none, none, none] [] := by
  unfold mC_X6_looks_43 at hf
  refine V_aload_n dX6_looks_43 rfl ?_
  refine V_iload_n dX6_looks_44 rfl ?_
  obtain ⟨h1, hf⟩ := ck_ex hf
  obtain ⟨w2, hs3, hf⟩ := st1_ex hf
  refine VE_putI fw_X6_35 h1 rfl rfl rfl hs3 dX6_looks_45 ?_
  refine V_aload_n dX6_looks_48 rfl ?_
  refine V_iload_n dX6_looks_49 rfl ?_
  obtain ⟨h4, hf⟩ := ck_ex hf
  obtain ⟨w5, hs6, hf⟩ := st1_ex hf
  refine VE_putI fw_X6_39 h4 rfl rfl rfl hs6 dX6_looks_50 ?_
  refine V_aload_n dX6_looks_53 rfl ?_
  refine V_aload_n dX6_looks_54 rfl ?_
  obtain ⟨h7, hf⟩ := ck_ex hf
  obtain ⟨b8, hb9, hf⟩ := bd1_ex hf
  refine VP_getR (x := some b8) fa_X6_3 h7 rfl rfl hb9 dX6_looks_55 ?_
  obtain ⟨h10, hf⟩ := ck_ex hf
  refine VP_getI fa_X6_55 h10 rfl dX6_looks_58 ?_
  obtain ⟨w11, hs12, hf⟩ := st1_ex hf
  refine VE_putI fw_X6_42 h7 rfl rfl rfl hs12 dX6_looks_61 ?_
  refine V_iconst dX6_looks_64 ckc_0 ?_
  refine V_istore_n (ls' := [some (.ref v0), some (.int v1), some (.int v2), some (.int (0 : Int32)), none, none]) dX6_looks_65 (by decide) rfl ?_
  refine V_keep [true, false, true, true, true, true] rfl ?_
  exact lq4_ex (P := fun v0 v2 v3 w => V X cX6_looks RX6 6 407 w 66 [some (.ref v0), none, some (.int v2), some (.int v3), none, none] []) (fun k hk v0 v2 v3 w hf => mC_X6_looks_66_v hE hH k hk v0 v2 v3 w hf) LF v0 v2 (0 : Int32) w11 hf
set_option maxHeartbeats 4000000 in
theorem mC_X6_looks_ok (l : Launch) (D : DD) (w : AH) (a : Nat) (p0 : Int32) (p1 : Int32) (w' : AH) (hf : mC_X6_looks a p0 p1 w = some w') : MA l D yX6_looks cX6_looks 6 none 407 [.ref a, .int p0, .int p1] w (.returned none) w' := by
  refine MA.introH (own := RX6) (nm := "looks") (ls := [some (.ref a), some (.int p0), some (.int p1), none, none, none]) (by decide) rfl rfl (Nat.le_of_ble_eq_true rfl) rfl (fun X hl hD hE hH => ?_)
  subst hl hD
  unfold mC_X6_looks at hf
  refine V_aload_n dX6_looks_0 rfl ?_
  obtain ⟨h1, hf⟩ := ck_ex hf
  obtain ⟨b2, hb3, hf⟩ := bd1_ex hf
  refine VP_getR (x := some b2) fa_X6_3 h1 rfl rfl hb3 dX6_looks_1 ?_
  obtain ⟨h4, hf⟩ := ck_ex hf
  obtain ⟨b5, hb6, hf⟩ := bd1_ex hf
  refine VP_getR (x := some b5) fa_X6_45 h4 rfl rfl hb6 dX6_looks_4 ?_
  refine V_iload_n dX6_looks_7 rfl ?_
  refine V_iload_n dX6_looks_8 rfl ?_
  obtain ⟨h7, hf⟩ := ck_ex hf
  obtain ⟨w9, hc8, hf⟩ := bd1_ex hf
  refine V_cV (av := [.int p0, .int p1]) (rest := []) (st' := []) (mC_X5_looks_ok _ _ _ _ _ _ _ hc8) vc_X6_49 (kIn1 h7) (by decide) rfl rfl (Nat.le_of_ble_eq_true rfl) dX6_looks_9 rfl ?_
  refine V_aload_n dX6_looks_12 rfl ?_
  obtain ⟨h10, hf⟩ := ck_ex hf
  refine VP_getI fa_X6_35 h10 rfl dX6_looks_13 ?_
  refine V_iload_n dX6_looks_16 rfl ?_
  refine V_icmp_ne (tgt := 43) dX6_looks_17 (by decide) (fun hc11 => ?_) (fun hc11 => ?_)
  · have hf := if_f hf hc11
    exact mC_X6_looks_43_v hE hH a p0 p1 w9 hf
  · have hf := if_t hf hc11
    refine V_aload_n dX6_looks_20 rfl ?_
    refine VP_getI fa_X6_39 h10 rfl dX6_looks_21 ?_
    refine V_iload_n dX6_looks_24 rfl ?_
    refine V_icmp_ne (tgt := 43) dX6_looks_25 (by decide) (fun hc12 => ?_) (fun hc12 => ?_)
    · have hf := if_f hf hc12
      exact mC_X6_looks_43_v hE hH a p0 p1 w9 hf
    · have hf := if_t hf hc12
      refine V_aload_n dX6_looks_28 rfl ?_
      refine VP_getI fa_X6_42 h10 rfl dX6_looks_29 ?_
      refine V_aload_n dX6_looks_32 rfl ?_
      obtain ⟨b13, hb14, hf⟩ := bd1_ex hf
      refine VP_getR (x := some b13) fa_X6_3 h10 rfl rfl hb14 dX6_looks_33 ?_
      obtain ⟨h15, hf⟩ := ck_ex hf
      refine VP_getI fa_X6_55 h15 rfl dX6_looks_36 ?_
      refine V_icmp_ne (tgt := 43) dX6_looks_39 (by decide) (fun hc16 => ?_) (fun hc16 => ?_)
      · have hf := if_f hf hc16
        exact mC_X6_looks_43_v hE hH a p0 p1 w9 hf
      · have hf := if_t hf hc16
        cases some_ex hf
        exact V_vret hE dX6_looks_42
set_option maxHeartbeats 4000000 in
theorem mC_X6_validOf_4_v {X : CX} {w0 : AH} {r : Int32}  (w : AH) (hE : XE X w0 1 (some (.int)) "validOf" (.returned (some (.int r))) w) (hH : XH X []) (k4 : Nat → Int32 → Int32 → Int32 → Option (Int32)) (hk4 : ∀ (v0 : Nat) (v1 : Int32) (v2 : Int32) (v3 : Int32), k4 v0 v1 v2 v3 = some r → V X cX6_validOf RX6 4 1 w 4 [some (.ref v0), some (.int v1), some (.int v2), some (.int v3)] []) (v0 : Nat) (v1 : Int32) (v2 : Int32) (v3 : Int32) (hf : mC_X6_validOf_4 w k4 v0 v1 v2 v3 = some r) : V X cX6_validOf RX6 4 1 w 4 [some (.ref v0), some (.int v1), some (.int v2), some (.int v3)] [] := by
  unfold mC_X6_validOf_4 at hf
  refine V_iload_n dX6_validOf_4 rfl ?_
  refine V_bipush dX6_validOf_5 ckb_8 ?_
  refine V_icmp_ge (tgt := 30) dX6_validOf_7 (by decide) (fun hc1 => ?_) (fun hc1 => ?_)
  · have hf := if_t hf hc1
    refine V_iload_n dX6_validOf_30 rfl ?_
    cases some_ex hf
    exact V_iret hE dX6_validOf_31
  · have hf := if_f hf hc1
    refine V_iload_n dX6_validOf_10 rfl ?_
    refine V_aload_n dX6_validOf_11 rfl ?_
    obtain ⟨h2, hf⟩ := ck_ex hf
    obtain ⟨b3, hb4, hf⟩ := bd1_ex hf
    refine VP_getR (x := some b3) fa_X6_22 h2 rfl rfl hb4 dX6_validOf_12 ?_
    refine V_bipush dX6_validOf_15 ckb_8 ?_
    refine V_iload_n dX6_validOf_17 rfl ?_
    refine V_imul dX6_validOf_18 ?_
    refine V_iload_n dX6_validOf_19 rfl ?_
    refine V_iadd dX6_validOf_20 ?_
    obtain ⟨h5, hf⟩ := ck_ex hf
    refine VE_iald h5 rfl dX6_validOf_21 ?_
    refine V_iadd dX6_validOf_22 ?_
    refine V_istore_n (ls' := [some (.ref v0), some (.int v1), some (.int (v2 + (hvi w b3 ((((8 : Int32) * v1) + v3).toNatClampNeg)))), some (.int v3)]) dX6_validOf_23 (by decide) rfl ?_
    refine V_inc (ls' := [some (.ref v0), some (.int v1), some (.int (v2 + (hvi w b3 ((((8 : Int32) * v1) + v3).toNatClampNeg)))), some (.int (v3 + (1 : Int32)))]) dX6_validOf_24 rfl ckc_1 (by decide) rfl ?_
    refine V_goto (tgt := 4) dX6_validOf_27 (by decide) ?_
    exact hk4 v0 v1 (v2 + (hvi w b3 ((((8 : Int32) * v1) + v3).toNatClampNeg))) (v3 + (1 : Int32)) hf
set_option maxHeartbeats 4000000 in
theorem mC_X6_validOf_ok (l : Launch) (D : DD) (w : AH) (a : Nat) (p0 : Int32) (r : Int32) (hf : mC_X6_validOf a p0 w = some r) : MA l D yX6_validOf cX6_validOf 4 (some (.int)) 1 [.ref a, .int p0] w (.returned (some (.int r))) w := by
  refine MA.introH (own := RX6) (nm := "validOf") (ls := [some (.ref a), some (.int p0), none, none]) (by decide) rfl rfl (Nat.le_of_ble_eq_true rfl) rfl (fun X hl hD hE hH => ?_)
  subst hl hD
  unfold mC_X6_validOf at hf
  refine V_iconst dX6_validOf_0 ckc_0 ?_
  refine V_istore_n (ls' := [some (.ref a), some (.int p0), some (.int (0 : Int32)), none]) dX6_validOf_1 (by decide) rfl ?_
  refine V_iconst dX6_validOf_2 ckc_0 ?_
  refine V_istore_n (ls' := [some (.ref a), some (.int p0), some (.int (0 : Int32)), some (.int (0 : Int32))]) dX6_validOf_3 (by decide) rfl ?_
  exact lq4_ex (P := fun v0 v1 v2 v3 => V X cX6_validOf RX6 4 1 w 4 [some (.ref v0), some (.int v1), some (.int v2), some (.int v3)] []) (fun k hk v0 v1 v2 v3 hf => mC_X6_validOf_4_v w hE hH k hk v0 v1 v2 v3 hf) LF a p0 (0 : Int32) (0 : Int32) hf
set_option maxHeartbeats 4000000 in
theorem mC_X0_tells_ok (l : Launch) (D : DD) (w : AH) (a : Nat) (p0 : Int32) (p1 : Int32) (p2 : Int32) (p3 : Int32) (r : Int32) (w' : AH) (hf : mC_X0_tells a p0 p1 p2 p3 w = some (r, w')) : MA l D yX0_tells cX0_tells 7 (some (.int)) 408 [.ref a, .int p0, .int p1, .int p2, .int p3] w (.returned (some (.int r))) w' := by
  refine MA.introH (own := RX0) (nm := "tells") (ls := [some (.ref a), some (.int p0), some (.int p1), some (.int p2), some (.int p3), none, none]) (by decide) rfl rfl (Nat.le_of_ble_eq_true rfl) rfl (fun X hl hD hE hH => ?_)
  subst hl hD
  unfold mC_X0_tells at hf
  refine V_aload_n dX0_tells_0 rfl ?_
  refine V_iload_n dX0_tells_1 rfl ?_
  obtain ⟨h1, hf⟩ := ck_ex hf
  obtain ⟨r3, hc2, hf⟩ := bd1_ex hf
  refine V_cV (av := [.int p0]) (rest := []) (st' := [.int r3]) (mC_X0_isBooth_ok _ _ _ _ _ _ hc2) vc_X0_416 (kIn1 h1) (by decide) rfl rfl (Nat.le_of_ble_eq_true rfl) dX0_tells_2 rfl ?_
  refine V_if_eq (tgt := 33) dX0_tells_5 (by decide) (fun hc4 => ?_) (fun hc4 => ?_)
  · have hf := if_t hf hc4
    refine V_ldcw q1627 dX0_tells_33 ?_
    cases some_ex hf
    exact V_iret hE dX0_tells_36
  · have hf := if_f hf hc4
    refine V_iload_n dX0_tells_8 rfl ?_
    obtain ⟨r6, hc5, hf⟩ := bd1_ex hf
    refine V_cS (rest := []) (st' := [.int r6]) (mC_X0_isDay_ok _ _ _ _ _ hc5) sc_X0_201 (by decide) rfl rfl (Nat.le_of_ble_eq_true rfl) dX0_tells_9 rfl ?_
    refine V_if_eq (tgt := 33) dX0_tells_12 (by decide) (fun hc7 => ?_) (fun hc7 => ?_)
    · have hf := if_t hf hc7
      refine V_ldcw q1627 dX0_tells_33 ?_
      cases some_ex hf
      exact V_iret hE dX0_tells_36
    · have hf := if_f hf hc7
      refine V_iload_n dX0_tells_15 rfl ?_
      obtain ⟨r9, hc8, hf⟩ := bd1_ex hf
      refine V_cS (rest := []) (st' := [.int r9]) (mC_X0_isDay_ok _ _ _ _ _ hc8) sc_X0_201 (by decide) rfl rfl (Nat.le_of_ble_eq_true rfl) dX0_tells_16 rfl ?_
      refine V_if_eq (tgt := 33) dX0_tells_19 (by decide) (fun hc10 => ?_) (fun hc10 => ?_)
      · have hf := if_t hf hc10
        refine V_ldcw q1627 dX0_tells_33 ?_
        cases some_ex hf
        exact V_iret hE dX0_tells_36
      · have hf := if_f hf hc10
        refine V_iload dX0_tells_22 rfl ?_
        refine V_iconst dX0_tells_24 ckc_0 ?_
        refine V_bipush dX0_tells_25 ckb_8 ?_
        obtain ⟨r12, hc11, hf⟩ := bd1_ex hf
        refine V_cS (rest := []) (st' := [.int r12]) (mC_X0_in_ok _ _ _ _ _ _ _ hc11) sc_X0_127 (by decide) rfl rfl (Nat.le_of_ble_eq_true rfl) dX0_tells_27 rfl ?_
        refine V_if_ne (tgt := 37) dX0_tells_30 (by decide) (fun hc13 => ?_) (fun hc13 => ?_)
        · have hf := if_f hf hc13
          refine V_aload_n dX0_tells_37 rfl ?_
          obtain ⟨b14, hb15, hf⟩ := bd1_ex hf
          refine VP_getR (x := some b14) fa_X0_85 h1 rfl rfl hb15 dX0_tells_38 ?_
          refine V_iload_n dX0_tells_41 rfl ?_
          refine V_iload_n dX0_tells_42 rfl ?_
          obtain ⟨h16, hf⟩ := ck_ex hf
          obtain ⟨w18, hc17, hf⟩ := bd1_ex hf
          refine V_cV (av := [.int p1, .int p2]) (rest := []) (st' := []) (mC_X6_looks_ok _ _ _ _ _ _ _ hc17) vc_X0_458 (kIn1 h16) (by decide) rfl rfl (Nat.le_of_ble_eq_true rfl) dX0_tells_43 rfl ?_
          refine V_aload_n dX0_tells_46 rfl ?_
          obtain ⟨h19, hf⟩ := ck_ex hf
          obtain ⟨b20, hb21, hf⟩ := bd1_ex hf
          refine VP_getR (x := some b20) fa_X0_85 h19 rfl rfl hb21 dX0_tells_47 ?_
          obtain ⟨h22, hf⟩ := ck_ex hf
          obtain ⟨b23, hb24, hf⟩ := bd1_ex hf
          refine VP_getR (x := some b23) fa_X0_459 h22 rfl rfl hb24 dX0_tells_50 ?_
          refine V_astore (ls' := [some (.ref a), some (.int p0), some (.int p1), some (.int p2), some (.int p3), some (.ref b23), none]) dX0_tells_53 (by decide) rfl ?_
          refine V_iconst dX0_tells_55 ckc_4 ?_
          refine V_iload_n dX0_tells_56 rfl ?_
          refine V_imul dX0_tells_57 ?_
          refine V_istore (ls' := [some (.ref a), some (.int p0), some (.int p1), some (.int p2), some (.int p3), some (.ref b23), some (.int ((4 : Int32) * p0))]) dX0_tells_58 (by decide) rfl ?_
          refine V_iload dX0_tells_60 rfl ?_
          refine V_iconst dX0_tells_62 ckc_4 ?_
          refine V_icmp_ge (tgt := 75) dX0_tells_63 (by decide) (fun hc25 => ?_) (fun hc25 => ?_)
          · have hf := if_t hf hc25
            refine V_iload dX0_tells_75 rfl ?_
            by_cases hw4 : p3 = (4 : Int32)
            · have hf := if_t hf hw4
              refine V_tableIn (off := 31) (tgt := 108) dX0_tells_77 (by rw [hw4]; decide) (by rw [hw4]; decide) (by rw [hw4]; rfl) (by decide) ?_
              refine V_aload_n dX0_tells_108 rfl ?_
              refine VP_getR (x := some b20) fa_X0_85 h19 rfl rfl hb21 dX0_tells_109 ?_
              obtain ⟨b26, hb27, hf⟩ := bd1_ex hf
              refine VP_getR (x := some b26) fa_X0_461 h22 rfl rfl hb27 dX0_tells_112 ?_
              refine V_iload_n dX0_tells_115 rfl ?_
              obtain ⟨h28, hf⟩ := ck_ex hf
              refine VE_iald h28 rfl dX0_tells_116 ?_
              cases some_ex hf
              exact V_iret hE dX0_tells_117
            replace hf := if_f hf hw4
            by_cases hw5 : p3 = (5 : Int32)
            · have hf := if_t hf hw5
              refine V_tableIn (off := 41) (tgt := 118) dX0_tells_77 (by rw [hw5]; decide) (by rw [hw5]; decide) (by rw [hw5]; rfl) (by decide) ?_
              refine V_aload_n dX0_tells_118 rfl ?_
              refine VP_getR (x := some b20) fa_X0_85 h19 rfl rfl hb21 dX0_tells_119 ?_
              refine V_iload_n dX0_tells_122 rfl ?_
              obtain ⟨r30, hc29, hf⟩ := bd1_ex hf
              refine V_cV (av := [.int p0]) (rest := []) (st' := [.int r30]) (mC_X6_lost_ok _ _ _ _ _ _ hc29) vc_X0_464 (kIn1 h22) (by decide) rfl rfl (Nat.le_of_ble_eq_true rfl) dX0_tells_123 rfl ?_
              cases some_ex hf
              exact V_iret hE dX0_tells_126
            replace hf := if_f hf hw5
            by_cases hw6 : p3 = (6 : Int32)
            · have hf := if_t hf hw6
              refine V_tableIn (off := 50) (tgt := 127) dX0_tells_77 (by rw [hw6]; decide) (by rw [hw6]; decide) (by rw [hw6]; rfl) (by decide) ?_
              refine V_aload dX0_tells_127 rfl ?_
              refine V_iload dX0_tells_129 rfl ?_
              obtain ⟨h31, hf⟩ := ck_ex hf
              refine VE_iald h31 rfl dX0_tells_131 ?_
              refine V_aload dX0_tells_132 rfl ?_
              refine V_iload dX0_tells_134 rfl ?_
              refine V_iconst dX0_tells_136 ckc_1 ?_
              refine V_iadd dX0_tells_137 ?_
              obtain ⟨h32, hf⟩ := ck_ex hf
              refine VE_iald h32 rfl dX0_tells_138 ?_
              refine V_aload dX0_tells_139 rfl ?_
              refine V_iload dX0_tells_141 rfl ?_
              refine V_iconst dX0_tells_143 ckc_3 ?_
              refine V_iadd dX0_tells_144 ?_
              obtain ⟨h33, hf⟩ := ck_ex hf
              refine VE_iald h33 rfl dX0_tells_145 ?_
              refine V_iadd dX0_tells_146 ?_
              refine V_icmp_ne (tgt := 165) dX0_tells_147 (by decide) (fun hc34 => ?_) (fun hc34 => ?_)
              · have hf := if_f hf hc34
                refine V_iconst dX0_tells_165 ckc_0 ?_
                cases some_ex hf
                exact V_iret hE dX0_tells_166
              · have hf := if_t hf hc34
                refine V_aload_n dX0_tells_150 rfl ?_
                refine VP_getR (x := some b20) fa_X0_85 h19 rfl rfl hb21 dX0_tells_151 ?_
                refine V_iload_n dX0_tells_154 rfl ?_
                obtain ⟨r36, hc35, hf⟩ := bd1_ex hf
                refine V_cV (av := [.int p0]) (rest := []) (st' := [.int r36]) (mC_X6_lost_ok _ _ _ _ _ _ hc35) vc_X0_464 (kIn1 h22) (by decide) rfl rfl (Nat.le_of_ble_eq_true rfl) dX0_tells_155 rfl ?_
                refine V_if_ne (tgt := 165) dX0_tells_158 (by decide) (fun hc37 => ?_) (fun hc37 => ?_)
                · have hf := if_f hf hc37
                  refine V_iconst dX0_tells_165 ckc_0 ?_
                  cases some_ex hf
                  exact V_iret hE dX0_tells_166
                · have hf := if_t hf hc37
                  refine V_iconst dX0_tells_161 ckc_1 ?_
                  refine V_goto (tgt := 166) dX0_tells_162 (by decide) ?_
                  cases some_ex hf
                  exact V_iret hE dX0_tells_166
            replace hf := if_f hf hw6
            by_cases hw7 : p3 = (7 : Int32)
            · have hf := if_t hf hw7
              refine V_tableIn (off := 90) (tgt := 167) dX0_tells_77 (by rw [hw7]; decide) (by rw [hw7]; decide) (by rw [hw7]; rfl) (by decide) ?_
              refine V_aload_n dX0_tells_167 rfl ?_
              refine VP_getR (x := some b20) fa_X0_85 h19 rfl rfl hb21 dX0_tells_168 ?_
              obtain ⟨b38, hb39, hf⟩ := bd1_ex hf
              refine VP_getR (x := some b38) fa_X0_467 h22 rfl rfl hb39 dX0_tells_171 ?_
              refine V_iload_n dX0_tells_174 rfl ?_
              obtain ⟨h40, hf⟩ := ck_ex hf
              refine VE_zald h40 rfl dX0_tells_175 ?_
              refine V_if_eq (tgt := 183) dX0_tells_176 (by decide) (fun hc41 => ?_) (fun hc41 => ?_)
              · have hf := if_t hf hc41
                refine V_iconst dX0_tells_183 ckc_0 ?_
                cases some_ex hf
                exact V_iret hE dX0_tells_184
              · have hf := if_f hf hc41
                refine V_iconst dX0_tells_179 ckc_1 ?_
                refine V_goto (tgt := 184) dX0_tells_180 (by decide) ?_
                cases some_ex hf
                exact V_iret hE dX0_tells_184
            replace hf := if_f hf hw7
            have hw4' := lv_neT hw4 (show (4 : Int32).toInt = 4 from by decide)
            have hw5' := lv_neT hw5 (show (5 : Int32).toInt = 5 from by decide)
            have hw6' := lv_neT hw6 (show (6 : Int32).toInt = 6 from by decide)
            have hw7' := lv_neT hw7 (show (7 : Int32).toInt = 7 from by decide)
            refine V_tableOut (tgt := 185) dX0_tells_77 (by omega) (by decide) ?_
            refine V_aload_n dX0_tells_185 rfl ?_
            refine VP_getR (x := some b20) fa_X0_85 h19 rfl rfl hb21 dX0_tells_186 ?_
            refine V_iload_n dX0_tells_189 rfl ?_
            obtain ⟨r43, hc42, hf⟩ := bd1_ex hf
            refine V_cV (av := [.int p0]) (rest := []) (st' := [.int r43]) (mC_X6_validOf_ok _ _ _ _ _ _ hc42) vc_X0_470 (kIn1 h22) (by decide) rfl rfl (Nat.le_of_ble_eq_true rfl) dX0_tells_190 rfl ?_
            cases some_ex hf
            exact V_iret hE dX0_tells_193
          · have hf := if_f hf hc25
            refine V_aload dX0_tells_66 rfl ?_
            refine V_iload dX0_tells_68 rfl ?_
            refine V_iload dX0_tells_70 rfl ?_
            refine V_iadd dX0_tells_72 ?_
            obtain ⟨h44, hf⟩ := ck_ex hf
            refine VE_iald h44 rfl dX0_tells_73 ?_
            cases some_ex hf
            exact V_iret hE dX0_tells_74
        · have hf := if_t hf hc13
          refine V_ldcw q1627 dX0_tells_33 ?_
          cases some_ex hf
          exact V_iret hE dX0_tells_36
set_option maxHeartbeats 4000000 in
theorem mC_X0_keep_19_v {X : CX} {w0 : AH} {r : Int32} {w' : AH}  (hE : XE X w0 3 (some (.int)) "keep" (.returned (some (.int r))) w') (hH : XH X []) (v0 : Nat) (w : AH) (hf : mC_X0_keep_19 v0 w = some (r, w')) : V X cX0_keep RX0 3 3 w 19 [some (.ref v0), none, none] [] := by
  unfold mC_X0_keep_19 at hf
  refine V_aload_n dX0_keep_19 rfl ?_
  refine V_iconst dX0_keep_20 ckc_m1 ?_
  obtain ⟨h1, hf⟩ := ck_ex hf
  obtain ⟨r3, w4, hc2, hf⟩ := bd2_ex hf
  refine V_cV (av := [.int (-1 : Int32)]) (rest := []) (st' := [.int r3]) (mC_X0_refuse_ok _ _ _ _ _ _ _ hc2) vc_X0_131 (kIn1 h1) (by decide) rfl rfl (Nat.le_of_ble_eq_true rfl) dX0_keep_21 rfl ?_
  cases some_ex hf
  exact V_iret hE dX0_keep_24
set_option maxHeartbeats 4000000 in
theorem mC_X0_keep_ok (l : Launch) (D : DD) (w : AH) (a : Nat) (p0 : Int32) (p1 : Int32) (r : Int32) (w' : AH) (hf : mC_X0_keep a p0 p1 w = some (r, w')) : MA l D yX0_keep cX0_keep 3 (some (.int)) 3 [.ref a, .int p0, .int p1] w (.returned (some (.int r))) w' := by
  refine MA.introH (own := RX0) (nm := "keep") (ls := [some (.ref a), some (.int p0), some (.int p1)]) (by decide) rfl rfl (Nat.le_of_ble_eq_true rfl) rfl (fun X hl hD hE hH => ?_)
  subst hl hD
  unfold mC_X0_keep at hf
  refine V_iload_n dX0_keep_0 rfl ?_
  refine V_iconst dX0_keep_1 ckc_0 ?_
  refine V_iconst dX0_keep_2 ckc_5 ?_
  obtain ⟨r2, hc1, hf⟩ := bd1_ex hf
  refine V_cS (rest := []) (st' := [.int r2]) (mC_X0_in_ok _ _ _ _ _ _ _ hc1) sc_X0_127 (by decide) rfl rfl (Nat.le_of_ble_eq_true rfl) dX0_keep_3 rfl ?_
  refine V_if_eq (tgt := 19) dX0_keep_6 (by decide) (fun hc3 => ?_) (fun hc3 => ?_)
  · have hf := if_t hf hc3
    refine V_keep [true, false, false] rfl ?_
    exact mC_X0_keep_19_v hE hH a w hf
  · have hf := if_f hf hc3
    refine V_iload_n dX0_keep_9 rfl ?_
    refine V_iconst dX0_keep_10 ckc_0 ?_
    refine V_bipush dX0_keep_11 ckb_7 ?_
    obtain ⟨r5, hc4, hf⟩ := bd1_ex hf
    refine V_cS (rest := []) (st' := [.int r5]) (mC_X0_in_ok _ _ _ _ _ _ _ hc4) sc_X0_127 (by decide) rfl rfl (Nat.le_of_ble_eq_true rfl) dX0_keep_13 rfl ?_
    refine V_if_ne (tgt := 25) dX0_keep_16 (by decide) (fun hc6 => ?_) (fun hc6 => ?_)
    · have hf := if_f hf hc6
      refine V_aload_n dX0_keep_25 rfl ?_
      obtain ⟨h7, hf⟩ := ck_ex hf
      obtain ⟨b8, hb9, hf⟩ := bd1_ex hf
      refine VP_getR (x := some b8) fa_X0_10 h7 rfl rfl hb9 dX0_keep_26 ?_
      obtain ⟨h10, hf⟩ := ck_ex hf
      obtain ⟨b11, hb12, hf⟩ := bd1_ex hf
      refine VP_getR (x := some b11) fa_X0_473 h10 rfl rfl hb12 dX0_keep_29 ?_
      refine V_bipush dX0_keep_32 ckb_8 ?_
      refine V_iload_n dX0_keep_34 rfl ?_
      refine V_imul dX0_keep_35 ?_
      refine V_iload_n dX0_keep_36 rfl ?_
      refine V_iadd dX0_keep_37 ?_
      obtain ⟨h13, hf⟩ := ck_ex hf
      refine VE_zald h13 rfl dX0_keep_38 ?_
      refine V_if_eq (tgt := 49) dX0_keep_39 (by decide) (fun hc14 => ?_) (fun hc14 => ?_)
      · have hf := if_t hf hc14
        refine V_aload_n dX0_keep_49 rfl ?_
        refine VP_getR (x := some b8) fa_X0_10 h7 rfl rfl hb9 dX0_keep_50 ?_
        refine VP_getR (x := some b11) fa_X0_473 h10 rfl rfl hb12 dX0_keep_53 ?_
        refine V_bipush dX0_keep_56 ckb_8 ?_
        refine V_iload_n dX0_keep_58 rfl ?_
        refine V_imul dX0_keep_59 ?_
        refine V_iload_n dX0_keep_60 rfl ?_
        refine V_iadd dX0_keep_61 ?_
        refine V_iconst dX0_keep_62 ckc_1 ?_
        obtain ⟨w15, hs16, hf⟩ := st1_ex hf
        refine VE_zast (by decide) h13 rfl hs16 dX0_keep_63 ?_
        refine V_aload_n dX0_keep_64 rfl ?_
        refine V_iconst dX0_keep_65 ckc_0 ?_
        obtain ⟨h17, hf⟩ := ck_ex hf
        obtain ⟨r19, w20, hc18, hf⟩ := bd2_ex hf
        refine V_cV (av := [.int (0 : Int32)]) (rest := []) (st' := [.int r19]) (mC_X0_told_ok _ _ _ _ _ _ _ hc18) vc_X0_138 (kIn1 h17) (by decide) rfl rfl (Nat.le_of_ble_eq_true rfl) dX0_keep_66 rfl ?_
        cases some_ex hf
        exact V_iret hE dX0_keep_69
      · have hf := if_f hf hc14
        refine V_aload_n dX0_keep_42 rfl ?_
        refine V_bipush dX0_keep_43 ckb_m4 ?_
        obtain ⟨r22, w23, hc21, hf⟩ := bd2_ex hf
        refine V_cV (av := [.int (-4 : Int32)]) (rest := []) (st' := [.int r22]) (mC_X0_refuse_ok _ _ _ _ _ _ _ hc21) vc_X0_131 (kIn1 h7) (by decide) rfl rfl (Nat.le_of_ble_eq_true rfl) dX0_keep_45 rfl ?_
        cases some_ex hf
        exact V_iret hE dX0_keep_48
    · have hf := if_t hf hc6
      refine V_keep [true, false, false] rfl ?_
      exact mC_X0_keep_19_v hE hH a w hf
set_option maxHeartbeats 4000000 in
theorem mC_X0_seatOf_ok (l : Launch) (D : DD) (w : AH) (a : Nat) (p0 : Int32) (r : Int32) (hf : mC_X0_seatOf a p0 w = some r) : MA l D yX0_seatOf cX0_seatOf 2 (some (.int)) 1 [.ref a, .int p0] w (.returned (some (.int r))) w := by
  refine MA.introH (own := RX0) (nm := "seatOf") (ls := [some (.ref a), some (.int p0)]) (by decide) rfl rfl (Nat.le_of_ble_eq_true rfl) rfl (fun X hl hD hE hH => ?_)
  subst hl hD
  unfold mC_X0_seatOf at hf
  refine V_aload_n dX0_seatOf_0 rfl ?_
  obtain ⟨h1, hf⟩ := ck_ex hf
  obtain ⟨b2, hb3, hf⟩ := bd1_ex hf
  refine VP_getR (x := some b2) fa_X0_10 h1 rfl rfl hb3 dX0_seatOf_1 ?_
  obtain ⟨h4, hf⟩ := ck_ex hf
  obtain ⟨b5, hb6, hf⟩ := bd1_ex hf
  refine VP_getR (x := some b5) fa_X0_160 h4 rfl rfl hb6 dX0_seatOf_4 ?_
  refine V_aload_n dX0_seatOf_7 rfl ?_
  refine VP_getR (x := some b2) fa_X0_10 h1 rfl rfl hb3 dX0_seatOf_8 ?_
  obtain ⟨b7, hb8, hf⟩ := bd1_ex hf
  refine VP_getR (x := some b7) fa_X0_409 h4 rfl rfl hb8 dX0_seatOf_11 ?_
  refine V_iload_n dX0_seatOf_14 rfl ?_
  obtain ⟨h9, hf⟩ := ck_ex hf
  refine VE_iald h9 rfl dX0_seatOf_15 ?_
  obtain ⟨h10, hf⟩ := ck_ex hf
  refine VE_iald h10 rfl dX0_seatOf_16 ?_
  cases some_ex hf
  exact V_iret hE dX0_seatOf_17
set_option maxHeartbeats 4000000 in
theorem mC_X0_reckons_236_v {X : CX} {w0 : AH} {w' : AH}  (hE : XE X w0 2 none "reckons" (.returned none) w') (hH : XH X []) (v0 : Nat) (v3 : Int32) (v4 : Int32) (w : AH) (hf : mC_X0_reckons_236 v0 v3 v4 w = some w') : V X cX0_reckons RX0 6 2 w 236 [some (.ref v0), none, none, some (.int v3), some (.int v4), none] [] := by
  unfold mC_X0_reckons_236 at hf
  refine V_aload_n dX0_reckons_236 rfl ?_
  refine V_aload_n dX0_reckons_237 rfl ?_
  obtain ⟨h1, hf⟩ := ck_ex hf
  refine VP_getI fa_X0_482 h1 rfl dX0_reckons_238 ?_
  refine V_iconst dX0_reckons_241 ckc_m1 ?_
  refine V_icmp_ne (tgt := 249) dX0_reckons_242 (by decide) (fun hc2 => ?_) (fun hc2 => ?_)
  · have hf := if_f hf hc2
    refine V_iload_n dX0_reckons_249 rfl ?_
    refine V_iload dX0_reckons_250 rfl ?_
    refine V_isub dX0_reckons_252 ?_
    obtain ⟨w3, hs4, hf⟩ := st1_ex hf
    refine VE_putI fw_X0_487 h1 rfl rfl rfl hs4 dX0_reckons_253 ?_
    cases some_ex hf
    exact V_vret hE dX0_reckons_256
  · have hf := if_t hf hc2
    refine V_iconst dX0_reckons_245 ckc_0 ?_
    refine V_goto (tgt := 253) dX0_reckons_246 (by decide) ?_
    obtain ⟨w5, hs6, hf⟩ := st1_ex hf
    refine VE_putI fw_X0_487 h1 rfl rfl rfl hs6 dX0_reckons_253 ?_
    cases some_ex hf
    exact V_vret hE dX0_reckons_256
set_option maxHeartbeats 4000000 in
theorem mC_X0_reckons_219_v {X : CX} {w0 : AH} {w' : AH}  (hE : XE X w0 2 none "reckons" (.returned none) w') (hH : XH X []) (k142 : Nat → Int32 → Int32 → Int32 → Int32 → Int32 → AH → Option (AH)) (hk142 : ∀ (v0 : Nat) (v1 : Int32) (v2 : Int32) (v3 : Int32) (v4 : Int32) (v5 : Int32) (w : AH), k142 v0 v1 v2 v3 v4 v5 w = some w' → V X cX0_reckons RX0 6 2 w 142 [some (.ref v0), some (.int v1), some (.int v2), some (.int v3), some (.int v4), some (.int v5)] []) (v0 : Nat) (v1 : Int32) (v2 : Int32) (v3 : Int32) (v4 : Int32) (v5 : Int32) (w : AH) (hf : mC_X0_reckons_219 k142 v0 v1 v2 v3 v4 v5 w = some w') : V X cX0_reckons RX0 6 2 w 219 [some (.ref v0), some (.int v1), some (.int v2), some (.int v3), some (.int v4), some (.int v5)] [] := by
  unfold mC_X0_reckons_219 at hf
  refine V_inc (ls' := [some (.ref v0), some (.int v1), some (.int v2), some (.int v3), some (.int v4), some (.int (v5 + (1 : Int32)))]) dX0_reckons_219 rfl ckc_1 (by decide) rfl ?_
  refine V_goto (tgt := 142) dX0_reckons_222 (by decide) ?_
  exact hk142 v0 v1 v2 v3 v4 (v5 + (1 : Int32)) w hf
set_option maxHeartbeats 4000000 in
theorem mC_X0_reckons_174_v {X : CX} {w0 : AH} {w' : AH}  (hE : XE X w0 2 none "reckons" (.returned none) w') (hH : XH X []) (k142 : Nat → Int32 → Int32 → Int32 → Int32 → Int32 → AH → Option (AH)) (hk142 : ∀ (v0 : Nat) (v1 : Int32) (v2 : Int32) (v3 : Int32) (v4 : Int32) (v5 : Int32) (w : AH), k142 v0 v1 v2 v3 v4 v5 w = some w' → V X cX0_reckons RX0 6 2 w 142 [some (.ref v0), some (.int v1), some (.int v2), some (.int v3), some (.int v4), some (.int v5)] []) (v0 : Nat) (v1 : Int32) (v2 : Int32) (v3 : Int32) (v4 : Int32) (v5 : Int32) (w : AH) (hf : mC_X0_reckons_174 k142 v0 v1 v2 v3 v4 v5 w = some w') : V X cX0_reckons RX0 6 2 w 174 [some (.ref v0), some (.int v1), some (.int v2), some (.int v3), some (.int v4), some (.int v5)] [] := by
  unfold mC_X0_reckons_174 at hf
  refine V_aload_n dX0_reckons_174 rfl ?_
  obtain ⟨h1, hf⟩ := ck_ex hf
  obtain ⟨b2, hb3, hf⟩ := bd1_ex hf
  refine VP_getR (x := some b2) fa_X0_89 h1 rfl rfl hb3 dX0_reckons_175 ?_
  refine V_iload dX0_reckons_178 rfl ?_
  obtain ⟨h4, hf⟩ := ck_ex hf
  refine VE_iald h4 rfl dX0_reckons_180 ?_
  refine V_iload_n dX0_reckons_181 rfl ?_
  refine V_icmp_le (tgt := 205) dX0_reckons_182 (by decide) (fun hc5 => ?_) (fun hc5 => ?_)
  · have hf := if_t hf hc5
    refine V_iload dX0_reckons_205 rfl ?_
    refine V_aload_n dX0_reckons_207 rfl ?_
    refine VP_getR (x := some b2) fa_X0_89 h1 rfl rfl hb3 dX0_reckons_208 ?_
    refine V_iload dX0_reckons_211 rfl ?_
    refine VE_iald h4 rfl dX0_reckons_213 ?_
    obtain ⟨r6, hm7, hf⟩ := st1_ex hf
    refine V_mmax q1677 q741 q147 q742 (by decide) (Nat.le_of_ble_eq_true rfl) dX0_reckons_214 ?_
    rw [hm7]
    refine V_istore (ls' := [some (.ref v0), some (.int v1), some (.int v2), some (.int v3), some (.int r6), some (.int v5)]) dX0_reckons_217 (by decide) rfl ?_
    exact mC_X0_reckons_219_v hE hH k142 hk142 v0 v1 v2 v3 r6 v5 w hf
  · have hf := if_f hf hc5
    refine V_iload_n dX0_reckons_185 rfl ?_
    refine V_istore (ls' := [some (.ref v0), some (.int v1), some (.int v2), some (.int v3), some (.int v3), some (.int v5)]) dX0_reckons_186 (by decide) rfl ?_
    refine V_aload_n dX0_reckons_188 rfl ?_
    refine VP_getR (x := some b2) fa_X0_89 h1 rfl rfl hb3 dX0_reckons_189 ?_
    refine V_iload dX0_reckons_192 rfl ?_
    refine VE_iald h4 rfl dX0_reckons_194 ?_
    refine V_istore_n (ls' := [some (.ref v0), some (.int v1), some (.int v2), some (.int (hvi w b2 (v5.toNatClampNeg))), some (.int v3), some (.int v5)]) dX0_reckons_195 (by decide) rfl ?_
    refine V_aload_n dX0_reckons_196 rfl ?_
    refine V_iload dX0_reckons_197 rfl ?_
    obtain ⟨w8, hs9, hf⟩ := st1_ex hf
    refine VE_putI fw_X0_482 h1 rfl rfl rfl hs9 dX0_reckons_199 ?_
    refine V_goto (tgt := 219) dX0_reckons_202 (by decide) ?_
    exact mC_X0_reckons_219_v hE hH k142 hk142 v0 v1 v2 (hvi w b2 (v5.toNatClampNeg)) v3 v5 w8 hf
set_option maxHeartbeats 4000000 in
theorem mC_X0_reckons_142_v {X : CX} {w0 : AH} {w' : AH}  (hE : XE X w0 2 none "reckons" (.returned none) w') (hH : XH X []) (k142 : Nat → Int32 → Int32 → Int32 → Int32 → Int32 → AH → Option (AH)) (hk142 : ∀ (v0 : Nat) (v1 : Int32) (v2 : Int32) (v3 : Int32) (v4 : Int32) (v5 : Int32) (w : AH), k142 v0 v1 v2 v3 v4 v5 w = some w' → V X cX0_reckons RX0 6 2 w 142 [some (.ref v0), some (.int v1), some (.int v2), some (.int v3), some (.int v4), some (.int v5)] []) (v0 : Nat) (v1 : Int32) (v2 : Int32) (v3 : Int32) (v4 : Int32) (v5 : Int32) (w : AH) (hf : mC_X0_reckons_142 k142 v0 v1 v2 v3 v4 v5 w = some w') : V X cX0_reckons RX0 6 2 w 142 [some (.ref v0), some (.int v1), some (.int v2), some (.int v3), some (.int v4), some (.int v5)] [] := by
  unfold mC_X0_reckons_142 at hf
  refine V_iload dX0_reckons_142 rfl ?_
  refine V_bipush dX0_reckons_144 ckb_8 ?_
  refine V_icmp_ge (tgt := 225) dX0_reckons_146 (by decide) (fun hc1 => ?_) (fun hc1 => ?_)
  · have hf := if_t hf hc1
    refine V_iload dX0_reckons_225 rfl ?_
    refine V_iload_n dX0_reckons_227 rfl ?_
    refine V_icmp_ne (tgt := 236) dX0_reckons_228 (by decide) (fun hc2 => ?_) (fun hc2 => ?_)
    · have hf := if_f hf hc2
      refine V_keep [true, false, false, true, true, false] rfl ?_
      exact mC_X0_reckons_236_v hE hH v0 v3 v4 w hf
    · have hf := if_t hf hc2
      refine V_aload_n dX0_reckons_231 rfl ?_
      refine V_iconst dX0_reckons_232 ckc_m1 ?_
      obtain ⟨h3, hf⟩ := ck_ex hf
      obtain ⟨w4, hs5, hf⟩ := st1_ex hf
      refine VE_putI fw_X0_482 h3 rfl rfl rfl hs5 dX0_reckons_233 ?_
      refine V_keep [true, false, false, true, true, false] rfl ?_
      exact mC_X0_reckons_236_v hE hH v0 v3 v4 w4 hf
  · have hf := if_f hf hc1
    refine V_iload_n dX0_reckons_149 rfl ?_
    refine V_if_eq (tgt := 174) dX0_reckons_150 (by decide) (fun hc6 => ?_) (fun hc6 => ?_)
    · have hf := if_t hf hc6
      exact mC_X0_reckons_174_v hE hH k142 hk142 v0 v1 v2 v3 v4 v5 w hf
    · have hf := if_f hf hc6
      refine V_aload_n dX0_reckons_153 rfl ?_
      obtain ⟨h7, hf⟩ := ck_ex hf
      obtain ⟨b8, hb9, hf⟩ := bd1_ex hf
      refine VP_getR (x := some b8) fa_X0_10 h7 rfl rfl hb9 dX0_reckons_154 ?_
      obtain ⟨h10, hf⟩ := ck_ex hf
      obtain ⟨b11, hb12, hf⟩ := bd1_ex hf
      refine VP_getR (x := some b11) fa_X0_473 h10 rfl rfl hb12 dX0_reckons_157 ?_
      refine V_bipush dX0_reckons_160 ckb_8 ?_
      refine V_iload_n dX0_reckons_162 rfl ?_
      refine V_imul dX0_reckons_163 ?_
      refine V_iload dX0_reckons_164 rfl ?_
      refine V_iadd dX0_reckons_166 ?_
      obtain ⟨h13, hf⟩ := ck_ex hf
      refine VE_zald h13 rfl dX0_reckons_167 ?_
      refine V_if_ne (tgt := 174) dX0_reckons_168 (by decide) (fun hc14 => ?_) (fun hc14 => ?_)
      · have hf := if_f hf hc14
        exact mC_X0_reckons_174_v hE hH k142 hk142 v0 v1 v2 v3 v4 v5 w hf
      · have hf := if_t hf hc14
        refine V_goto (tgt := 219) dX0_reckons_171 (by decide) ?_
        exact mC_X0_reckons_219_v hE hH k142 hk142 v0 v1 v2 v3 v4 v5 w hf
set_option maxHeartbeats 4000000 in
theorem mC_X0_reckons_122_v {X : CX} {w0 : AH} {w' : AH}  (hE : XE X w0 2 none "reckons" (.returned none) w') (hH : XH X []) (k90 : Nat → Int32 → Int32 → Int32 → AH → Option (AH)) (hk90 : ∀ (v0 : Nat) (v1 : Int32) (v2 : Int32) (v3 : Int32) (w : AH), k90 v0 v1 v2 v3 w = some w' → V X cX0_reckons RX0 6 2 w 90 [some (.ref v0), some (.int v1), some (.int v2), some (.int v3), none, none] []) (v0 : Nat) (v1 : Int32) (v3 : Int32) (t0 : Int32) (w : AH) (hf : mC_X0_reckons_122 k90 v0 v1 v3 t0 w = some w') : V X cX0_reckons RX0 6 2 w 122 [some (.ref v0), some (.int v1), none, some (.int v3), none, none] [.int t0] := by
  unfold mC_X0_reckons_122 at hf
  refine V_istore_n (ls' := [some (.ref v0), some (.int v1), some (.int t0), some (.int v3), none, none]) dX0_reckons_122 (by decide) rfl ?_
  refine V_inc (ls' := [some (.ref v0), some (.int v1), some (.int t0), some (.int (v3 + (1 : Int32))), none, none]) dX0_reckons_123 rfl ckc_1 (by decide) rfl ?_
  refine V_goto (tgt := 90) dX0_reckons_126 (by decide) ?_
  exact hk90 v0 v1 t0 (v3 + (1 : Int32)) w hf
set_option maxHeartbeats 4000000 in
theorem mC_X0_reckons_117_v {X : CX} {w0 : AH} {w' : AH}  (hE : XE X w0 2 none "reckons" (.returned none) w') (hH : XH X []) (k90 : Nat → Int32 → Int32 → Int32 → AH → Option (AH)) (hk90 : ∀ (v0 : Nat) (v1 : Int32) (v2 : Int32) (v3 : Int32) (w : AH), k90 v0 v1 v2 v3 w = some w' → V X cX0_reckons RX0 6 2 w 90 [some (.ref v0), some (.int v1), some (.int v2), some (.int v3), none, none] []) (v0 : Nat) (v1 : Int32) (v3 : Int32) (w : AH) (hf : mC_X0_reckons_117 k90 v0 v1 v3 w = some w') : V X cX0_reckons RX0 6 2 w 117 [some (.ref v0), some (.int v1), none, some (.int v3), none, none] [] := by
  unfold mC_X0_reckons_117 at hf
  refine V_iconst dX0_reckons_117 ckc_1 ?_
  refine V_goto (tgt := 122) dX0_reckons_118 (by decide) ?_
  exact mC_X0_reckons_122_v hE hH k90 hk90 v0 v1 v3 (1 : Int32) w hf
set_option maxHeartbeats 4000000 in
theorem mC_X0_reckons_90_v {X : CX} {w0 : AH} {w' : AH}  (hE : XE X w0 2 none "reckons" (.returned none) w') (hH : XH X []) (k90 : Nat → Int32 → Int32 → Int32 → AH → Option (AH)) (hk90 : ∀ (v0 : Nat) (v1 : Int32) (v2 : Int32) (v3 : Int32) (w : AH), k90 v0 v1 v2 v3 w = some w' → V X cX0_reckons RX0 6 2 w 90 [some (.ref v0), some (.int v1), some (.int v2), some (.int v3), none, none] []) (v0 : Nat) (v1 : Int32) (v2 : Int32) (v3 : Int32) (w : AH) (hf : mC_X0_reckons_90 k90 v0 v1 v2 v3 w = some w') : V X cX0_reckons RX0 6 2 w 90 [some (.ref v0), some (.int v1), some (.int v2), some (.int v3), none, none] [] := by
  unfold mC_X0_reckons_90 at hf
  refine V_iload_n dX0_reckons_90 rfl ?_
  refine V_bipush dX0_reckons_91 ckb_8 ?_
  refine V_icmp_ge (tgt := 129) dX0_reckons_93 (by decide) (fun hc1 => ?_) (fun hc1 => ?_)
  · have hf := if_t hf hc1
    refine V_iconst dX0_reckons_129 ckc_0 ?_
    refine V_istore_n (ls' := [some (.ref v0), some (.int v1), some (.int v2), some (.int (0 : Int32)), none, none]) dX0_reckons_130 (by decide) rfl ?_
    refine V_iconst dX0_reckons_131 ckc_0 ?_
    refine V_istore (ls' := [some (.ref v0), some (.int v1), some (.int v2), some (.int (0 : Int32)), some (.int (0 : Int32)), none]) dX0_reckons_132 (by decide) rfl ?_
    refine V_aload_n dX0_reckons_134 rfl ?_
    refine V_iconst dX0_reckons_135 ckc_m1 ?_
    obtain ⟨h2, hf⟩ := ck_ex hf
    obtain ⟨w3, hs4, hf⟩ := st1_ex hf
    refine VE_putI fw_X0_482 h2 rfl rfl rfl hs4 dX0_reckons_136 ?_
    refine V_iconst dX0_reckons_139 ckc_0 ?_
    refine V_istore (ls' := [some (.ref v0), some (.int v1), some (.int v2), some (.int (0 : Int32)), some (.int (0 : Int32)), some (.int (0 : Int32))]) dX0_reckons_140 (by decide) rfl ?_
    exact lq7_ex (P := fun v0 v1 v2 v3 v4 v5 w => V X cX0_reckons RX0 6 2 w 142 [some (.ref v0), some (.int v1), some (.int v2), some (.int v3), some (.int v4), some (.int v5)] []) (fun k hk v0 v1 v2 v3 v4 v5 w hf => mC_X0_reckons_142_v hE hH k hk v0 v1 v2 v3 v4 v5 w hf) LF v0 v1 v2 (0 : Int32) (0 : Int32) (0 : Int32) w3 hf
  · have hf := if_f hf hc1
    refine V_iload_n dX0_reckons_96 rfl ?_
    refine V_if_ne (tgt := 117) dX0_reckons_97 (by decide) (fun hc5 => ?_) (fun hc5 => ?_)
    · have hf := if_f hf hc5
      refine V_keep [true, true, false, true, true, true] rfl ?_
      exact mC_X0_reckons_117_v hE hH k90 hk90 v0 v1 v3 w hf
    · have hf := if_t hf hc5
      refine V_aload_n dX0_reckons_100 rfl ?_
      obtain ⟨h6, hf⟩ := ck_ex hf
      obtain ⟨b7, hb8, hf⟩ := bd1_ex hf
      refine VP_getR (x := some b7) fa_X0_10 h6 rfl rfl hb8 dX0_reckons_101 ?_
      obtain ⟨h9, hf⟩ := ck_ex hf
      obtain ⟨b10, hb11, hf⟩ := bd1_ex hf
      refine VP_getR (x := some b10) fa_X0_473 h9 rfl rfl hb11 dX0_reckons_104 ?_
      refine V_bipush dX0_reckons_107 ckb_8 ?_
      refine V_iload_n dX0_reckons_109 rfl ?_
      refine V_imul dX0_reckons_110 ?_
      refine V_iload_n dX0_reckons_111 rfl ?_
      refine V_iadd dX0_reckons_112 ?_
      obtain ⟨h12, hf⟩ := ck_ex hf
      refine VE_zald h12 rfl dX0_reckons_113 ?_
      refine V_if_eq (tgt := 121) dX0_reckons_114 (by decide) (fun hc13 => ?_) (fun hc13 => ?_)
      · have hf := if_t hf hc13
        refine V_iconst dX0_reckons_121 ckc_0 ?_
        refine V_keep [true, true, false, true, true, true] rfl ?_
        exact mC_X0_reckons_122_v hE hH k90 hk90 v0 v1 v3 (0 : Int32) w hf
      · have hf := if_f hf hc13
        refine V_keep [true, true, false, true, true, true] rfl ?_
        exact mC_X0_reckons_117_v hE hH k90 hk90 v0 v1 v3 w hf
set_option maxHeartbeats 4000000 in
theorem mC_X0_reckons_80_v {X : CX} {w0 : AH} {w' : AH}  (hE : XE X w0 2 none "reckons" (.returned none) w') (hH : XH X []) (k23 : Nat → Int32 → Int32 → AH → Option (AH)) (hk23 : ∀ (v0 : Nat) (v1 : Int32) (v2 : Int32) (w : AH), k23 v0 v1 v2 w = some w' → V X cX0_reckons RX0 6 2 w 23 [some (.ref v0), some (.int v1), some (.int v2), none, none, none] []) (v0 : Nat) (v1 : Int32) (v2 : Int32) (w : AH) (hf : mC_X0_reckons_80 k23 v0 v1 v2 w = some w') : V X cX0_reckons RX0 6 2 w 80 [some (.ref v0), some (.int v1), some (.int v2), none, none, none] [] := by
  unfold mC_X0_reckons_80 at hf
  refine V_inc (ls' := [some (.ref v0), some (.int v1), some (.int (v2 + (1 : Int32))), none, none, none]) dX0_reckons_80 rfl ckc_1 (by decide) rfl ?_
  refine V_goto (tgt := 23) dX0_reckons_83 (by decide) ?_
  exact hk23 v0 v1 (v2 + (1 : Int32)) w hf
set_option maxHeartbeats 4000000 in
theorem mC_X0_reckons_45_v {X : CX} {w0 : AH} {w' : AH}  (hE : XE X w0 2 none "reckons" (.returned none) w') (hH : XH X []) (k23 : Nat → Int32 → Int32 → AH → Option (AH)) (hk23 : ∀ (v0 : Nat) (v1 : Int32) (v2 : Int32) (w : AH), k23 v0 v1 v2 w = some w' → V X cX0_reckons RX0 6 2 w 23 [some (.ref v0), some (.int v1), some (.int v2), none, none, none] []) (k45 : Nat → Int32 → Int32 → Int32 → AH → Option (AH)) (hk45 : ∀ (v0 : Nat) (v1 : Int32) (v2 : Int32) (v3 : Int32) (w : AH), k45 v0 v1 v2 v3 w = some w' → V X cX0_reckons RX0 6 2 w 45 [some (.ref v0), some (.int v1), some (.int v2), some (.int v3), none, none] []) (v0 : Nat) (v1 : Int32) (v2 : Int32) (v3 : Int32) (w : AH) (hf : mC_X0_reckons_45 k23 k45 v0 v1 v2 v3 w = some w') : V X cX0_reckons RX0 6 2 w 45 [some (.ref v0), some (.int v1), some (.int v2), some (.int v3), none, none] [] := by
  unfold mC_X0_reckons_45 at hf
  refine V_iload_n dX0_reckons_45 rfl ?_
  refine V_bipush dX0_reckons_46 ckb_8 ?_
  refine V_icmp_ge (tgt := 80) dX0_reckons_48 (by decide) (fun hc1 => ?_) (fun hc1 => ?_)
  · have hf := if_t hf hc1
    refine V_keep [true, true, true, false, true, true] rfl ?_
    exact mC_X0_reckons_80_v hE hH k23 hk23 v0 v1 v2 w hf
  · have hf := if_f hf hc1
    refine V_aload_n dX0_reckons_51 rfl ?_
    obtain ⟨h2, hf⟩ := ck_ex hf
    obtain ⟨b3, hb4, hf⟩ := bd1_ex hf
    refine VP_getR (x := some b3) fa_X0_89 h2 rfl rfl hb4 dX0_reckons_52 ?_
    refine V_iload_n dX0_reckons_55 rfl ?_
    refine V_dup2 dX0_reckons_56 rfl rfl ?_
    obtain ⟨h5, hf⟩ := ck_ex hf
    refine VE_iald h5 rfl dX0_reckons_57 ?_
    refine V_aload_n dX0_reckons_58 rfl ?_
    obtain ⟨b6, hb7, hf⟩ := bd1_ex hf
    refine VP_getR (x := some b6) fa_X0_85 h2 rfl rfl hb7 dX0_reckons_59 ?_
    obtain ⟨h8, hf⟩ := ck_ex hf
    obtain ⟨b9, hb10, hf⟩ := bd1_ex hf
    refine VP_getR (x := some b9) fa_X0_479 h8 rfl rfl hb10 dX0_reckons_62 ?_
    refine V_bipush dX0_reckons_65 ckb_8 ?_
    refine V_iload_n dX0_reckons_67 rfl ?_
    refine V_imul dX0_reckons_68 ?_
    refine V_iload_n dX0_reckons_69 rfl ?_
    refine V_iadd dX0_reckons_70 ?_
    obtain ⟨h11, hf⟩ := ck_ex hf
    refine VE_iald h11 rfl dX0_reckons_71 ?_
    refine V_iadd dX0_reckons_72 ?_
    obtain ⟨w12, hs13, hf⟩ := st1_ex hf
    refine VE_iast h5 rfl hs13 dX0_reckons_73 ?_
    refine V_inc (ls' := [some (.ref v0), some (.int v1), some (.int v2), some (.int (v3 + (1 : Int32))), none, none]) dX0_reckons_74 rfl ckc_1 (by decide) rfl ?_
    refine V_goto (tgt := 45) dX0_reckons_77 (by decide) ?_
    exact hk45 v0 v1 v2 (v3 + (1 : Int32)) w12 hf
set_option maxHeartbeats 4000000 in
theorem mC_X0_reckons_23_v {X : CX} {w0 : AH} {w' : AH}  (hE : XE X w0 2 none "reckons" (.returned none) w') (hH : XH X []) (k23 : Nat → Int32 → Int32 → AH → Option (AH)) (hk23 : ∀ (v0 : Nat) (v1 : Int32) (v2 : Int32) (w : AH), k23 v0 v1 v2 w = some w' → V X cX0_reckons RX0 6 2 w 23 [some (.ref v0), some (.int v1), some (.int v2), none, none, none] []) (v0 : Nat) (v1 : Int32) (v2 : Int32) (w : AH) (hf : mC_X0_reckons_23 k23 v0 v1 v2 w = some w') : V X cX0_reckons RX0 6 2 w 23 [some (.ref v0), some (.int v1), some (.int v2), none, none, none] [] := by
  unfold mC_X0_reckons_23 at hf
  refine V_iload_n dX0_reckons_23 rfl ?_
  refine V_aload_n dX0_reckons_24 rfl ?_
  obtain ⟨h1, hf⟩ := ck_ex hf
  obtain ⟨b2, hb3, hf⟩ := bd1_ex hf
  refine VP_getR (x := some b2) fa_X0_10 h1 rfl rfl hb3 dX0_reckons_25 ?_
  obtain ⟨h4, hf⟩ := ck_ex hf
  refine VP_getI fa_X0_154 h4 rfl dX0_reckons_28 ?_
  refine V_icmp_ge (tgt := 86) dX0_reckons_31 (by decide) (fun hc5 => ?_) (fun hc5 => ?_)
  · have hf := if_t hf hc5
    refine V_iconst dX0_reckons_86 ckc_0 ?_
    refine V_istore_n (ls' := [some (.ref v0), some (.int v1), some (.int (0 : Int32)), none, none, none]) dX0_reckons_87 (by decide) rfl ?_
    refine V_iconst dX0_reckons_88 ckc_0 ?_
    refine V_istore_n (ls' := [some (.ref v0), some (.int v1), some (.int (0 : Int32)), some (.int (0 : Int32)), none, none]) dX0_reckons_89 (by decide) rfl ?_
    exact lq5_ex (P := fun v0 v1 v2 v3 w => V X cX0_reckons RX0 6 2 w 90 [some (.ref v0), some (.int v1), some (.int v2), some (.int v3), none, none] []) (fun k hk v0 v1 v2 v3 w hf => mC_X0_reckons_90_v hE hH k hk v0 v1 v2 v3 w hf) LF v0 v1 (0 : Int32) (0 : Int32) w hf
  · have hf := if_f hf hc5
    refine V_aload_n dX0_reckons_34 rfl ?_
    refine V_iload_n dX0_reckons_35 rfl ?_
    obtain ⟨r7, hc6, hf⟩ := bd1_ex hf
    refine V_cV (av := [.int v2]) (rest := []) (st' := [.int r7]) (mC_X0_seatOf_ok _ _ _ _ _ _ hc6) vc_X0_476 (kIn1 h1) (by decide) rfl rfl (Nat.le_of_ble_eq_true rfl) dX0_reckons_36 rfl ?_
    refine V_iload_n dX0_reckons_39 rfl ?_
    refine V_icmp_ne (tgt := 80) dX0_reckons_40 (by decide) (fun hc8 => ?_) (fun hc8 => ?_)
    · have hf := if_f hf hc8
      exact mC_X0_reckons_80_v hE hH k23 hk23 v0 v1 v2 w hf
    · have hf := if_t hf hc8
      refine V_iconst dX0_reckons_43 ckc_0 ?_
      refine V_istore_n (ls' := [some (.ref v0), some (.int v1), some (.int v2), some (.int (0 : Int32)), none, none]) dX0_reckons_44 (by decide) rfl ?_
      exact lq5_ex (P := fun v0 v1 v2 v3 w => V X cX0_reckons RX0 6 2 w 45 [some (.ref v0), some (.int v1), some (.int v2), some (.int v3), none, none] []) (fun k hk v0 v1 v2 v3 w hf => mC_X0_reckons_45_v hE hH k23 hk23 k hk v0 v1 v2 v3 w hf) LF v0 v1 v2 (0 : Int32) w hf
set_option maxHeartbeats 4000000 in
theorem mC_X0_reckons_2_v {X : CX} {w0 : AH} {w' : AH}  (hE : XE X w0 2 none "reckons" (.returned none) w') (hH : XH X []) (k2 : Nat → Int32 → Int32 → AH → Option (AH)) (hk2 : ∀ (v0 : Nat) (v1 : Int32) (v2 : Int32) (w : AH), k2 v0 v1 v2 w = some w' → V X cX0_reckons RX0 6 2 w 2 [some (.ref v0), some (.int v1), some (.int v2), none, none, none] []) (v0 : Nat) (v1 : Int32) (v2 : Int32) (w : AH) (hf : mC_X0_reckons_2 k2 v0 v1 v2 w = some w') : V X cX0_reckons RX0 6 2 w 2 [some (.ref v0), some (.int v1), some (.int v2), none, none, none] [] := by
  unfold mC_X0_reckons_2 at hf
  refine V_iload_n dX0_reckons_2 rfl ?_
  refine V_bipush dX0_reckons_3 ckb_8 ?_
  refine V_icmp_ge (tgt := 21) dX0_reckons_5 (by decide) (fun hc1 => ?_) (fun hc1 => ?_)
  · have hf := if_t hf hc1
    refine V_iconst dX0_reckons_21 ckc_0 ?_
    refine V_istore_n (ls' := [some (.ref v0), some (.int v1), some (.int (0 : Int32)), none, none, none]) dX0_reckons_22 (by decide) rfl ?_
    exact lq4_ex (P := fun v0 v1 v2 w => V X cX0_reckons RX0 6 2 w 23 [some (.ref v0), some (.int v1), some (.int v2), none, none, none] []) (fun k hk v0 v1 v2 w hf => mC_X0_reckons_23_v hE hH k hk v0 v1 v2 w hf) LF v0 v1 (0 : Int32) w hf
  · have hf := if_f hf hc1
    refine V_aload_n dX0_reckons_8 rfl ?_
    obtain ⟨h2, hf⟩ := ck_ex hf
    obtain ⟨b3, hb4, hf⟩ := bd1_ex hf
    refine VP_getR (x := some b3) fa_X0_89 h2 rfl rfl hb4 dX0_reckons_9 ?_
    refine V_iload_n dX0_reckons_12 rfl ?_
    refine V_iconst dX0_reckons_13 ckc_0 ?_
    obtain ⟨h5, hf⟩ := ck_ex hf
    obtain ⟨w6, hs7, hf⟩ := st1_ex hf
    refine VE_iast h5 rfl hs7 dX0_reckons_14 ?_
    refine V_inc (ls' := [some (.ref v0), some (.int v1), some (.int (v2 + (1 : Int32))), none, none, none]) dX0_reckons_15 rfl ckc_1 (by decide) rfl ?_
    refine V_goto (tgt := 2) dX0_reckons_18 (by decide) ?_
    exact hk2 v0 v1 (v2 + (1 : Int32)) w6 hf
set_option maxHeartbeats 4000000 in
theorem mC_X0_reckons_ok (l : Launch) (D : DD) (w : AH) (a : Nat) (p0 : Int32) (w' : AH) (hf : mC_X0_reckons a p0 w = some w') : MA l D yX0_reckons cX0_reckons 6 none 2 [.ref a, .int p0] w (.returned none) w' := by
  refine MA.introH (own := RX0) (nm := "reckons") (ls := [some (.ref a), some (.int p0), none, none, none, none]) (by decide) rfl rfl (Nat.le_of_ble_eq_true rfl) rfl (fun X hl hD hE hH => ?_)
  subst hl hD
  unfold mC_X0_reckons at hf
  refine V_iconst dX0_reckons_0 ckc_0 ?_
  refine V_istore_n (ls' := [some (.ref a), some (.int p0), some (.int (0 : Int32)), none, none, none]) dX0_reckons_1 (by decide) rfl ?_
  exact lq4_ex (P := fun v0 v1 v2 w => V X cX0_reckons RX0 6 2 w 2 [some (.ref v0), some (.int v1), some (.int v2), none, none, none] []) (fun k hk v0 v1 v2 w hf => mC_X0_reckons_2_v hE hH k hk v0 v1 v2 w hf) LF a p0 (0 : Int32) w hf
set_option maxHeartbeats 4000000 in
theorem mC_X0_doesHang_120_v {X : CX} {w0 : AH} {r : Int32}  (w : AH) (hE : XE X w0 1 (some (.boolean)) "doesHang" (.returned (some (.int r))) w) (hH : XH X []) (k7 : Nat → Int32 → Int32 → Int32 → Int32 → Option (Int32)) (hk7 : ∀ (v0 : Nat) (v1 : Int32) (v2 : Int32) (v3 : Int32) (v4 : Int32), k7 v0 v1 v2 v3 v4 = some r → V X cX0_doesHang RX0 7 1 w 7 [some (.ref v0), some (.int v1), some (.int v2), some (.int v3), some (.int v4), none, none] []) (v0 : Nat) (v1 : Int32) (v2 : Int32) (v3 : Int32) (v4 : Int32) (hf : mC_X0_doesHang_120 w k7 v0 v1 v2 v3 v4 = some r) : V X cX0_doesHang RX0 7 1 w 120 [some (.ref v0), some (.int v1), some (.int v2), some (.int v3), some (.int v4), none, none] [] := by
  unfold mC_X0_doesHang_120 at hf
  refine V_inc (ls' := [some (.ref v0), some (.int v1), some (.int v2), some (.int v3), some (.int (v4 + (1 : Int32))), none, none]) dX0_doesHang_120 rfl ckc_1 (by decide) rfl ?_
  refine V_goto (tgt := 7) dX0_doesHang_123 (by decide) ?_
  exact hk7 v0 v1 v2 v3 (v4 + (1 : Int32)) hf
set_option maxHeartbeats 4000000 in
theorem mC_X0_doesHang_75_v {X : CX} {w0 : AH} {r : Int32}  (w : AH) (hE : XE X w0 1 (some (.boolean)) "doesHang" (.returned (some (.int r))) w) (hH : XH X []) (k25 : Nat → Int32 → Int32 → Int32 → Int32 → Int32 → Int32 → Option (Int32)) (hk25 : ∀ (v0 : Nat) (v1 : Int32) (v2 : Int32) (v3 : Int32) (v4 : Int32) (v5 : Int32) (v6 : Int32), k25 v0 v1 v2 v3 v4 v5 v6 = some r → V X cX0_doesHang RX0 7 1 w 25 [some (.ref v0), some (.int v1), some (.int v2), some (.int v3), some (.int v4), some (.int v5), some (.int v6)] []) (v0 : Nat) (v1 : Int32) (v2 : Int32) (v3 : Int32) (v4 : Int32) (v6 : Int32) (t0 : Int32) (hf : mC_X0_doesHang_75 w k25 v0 v1 v2 v3 v4 v6 t0 = some r) : V X cX0_doesHang RX0 7 1 w 75 [some (.ref v0), some (.int v1), some (.int v2), some (.int v3), some (.int v4), none, some (.int v6)] [.int t0] := by
  unfold mC_X0_doesHang_75 at hf
  refine V_istore (ls' := [some (.ref v0), some (.int v1), some (.int v2), some (.int v3), some (.int v4), some (.int t0), some (.int v6)]) dX0_doesHang_75 (by decide) rfl ?_
  refine V_inc (ls' := [some (.ref v0), some (.int v1), some (.int v2), some (.int v3), some (.int v4), some (.int t0), some (.int (v6 + (1 : Int32)))]) dX0_doesHang_77 rfl ckc_1 (by decide) rfl ?_
  refine V_goto (tgt := 25) dX0_doesHang_80 (by decide) ?_
  exact hk25 v0 v1 v2 v3 v4 t0 (v6 + (1 : Int32)) hf
set_option maxHeartbeats 4000000 in
theorem mC_X0_doesHang_70_v {X : CX} {w0 : AH} {r : Int32}  (w : AH) (hE : XE X w0 1 (some (.boolean)) "doesHang" (.returned (some (.int r))) w) (hH : XH X []) (k25 : Nat → Int32 → Int32 → Int32 → Int32 → Int32 → Int32 → Option (Int32)) (hk25 : ∀ (v0 : Nat) (v1 : Int32) (v2 : Int32) (v3 : Int32) (v4 : Int32) (v5 : Int32) (v6 : Int32), k25 v0 v1 v2 v3 v4 v5 v6 = some r → V X cX0_doesHang RX0 7 1 w 25 [some (.ref v0), some (.int v1), some (.int v2), some (.int v3), some (.int v4), some (.int v5), some (.int v6)] []) (v0 : Nat) (v1 : Int32) (v2 : Int32) (v3 : Int32) (v4 : Int32) (v6 : Int32) (hf : mC_X0_doesHang_70 w k25 v0 v1 v2 v3 v4 v6 = some r) : V X cX0_doesHang RX0 7 1 w 70 [some (.ref v0), some (.int v1), some (.int v2), some (.int v3), some (.int v4), none, some (.int v6)] [] := by
  unfold mC_X0_doesHang_70 at hf
  refine V_iconst dX0_doesHang_70 ckc_1 ?_
  refine V_goto (tgt := 75) dX0_doesHang_71 (by decide) ?_
  exact mC_X0_doesHang_75_v w hE hH k25 hk25 v0 v1 v2 v3 v4 v6 (1 : Int32) hf
set_option maxHeartbeats 4000000 in
theorem mC_X0_doesHang_74_v {X : CX} {w0 : AH} {r : Int32}  (w : AH) (hE : XE X w0 1 (some (.boolean)) "doesHang" (.returned (some (.int r))) w) (hH : XH X []) (k25 : Nat → Int32 → Int32 → Int32 → Int32 → Int32 → Int32 → Option (Int32)) (hk25 : ∀ (v0 : Nat) (v1 : Int32) (v2 : Int32) (v3 : Int32) (v4 : Int32) (v5 : Int32) (v6 : Int32), k25 v0 v1 v2 v3 v4 v5 v6 = some r → V X cX0_doesHang RX0 7 1 w 25 [some (.ref v0), some (.int v1), some (.int v2), some (.int v3), some (.int v4), some (.int v5), some (.int v6)] []) (v0 : Nat) (v1 : Int32) (v2 : Int32) (v3 : Int32) (v4 : Int32) (v6 : Int32) (hf : mC_X0_doesHang_74 w k25 v0 v1 v2 v3 v4 v6 = some r) : V X cX0_doesHang RX0 7 1 w 74 [some (.ref v0), some (.int v1), some (.int v2), some (.int v3), some (.int v4), none, some (.int v6)] [] := by
  unfold mC_X0_doesHang_74 at hf
  refine V_iconst dX0_doesHang_74 ckc_0 ?_
  exact mC_X0_doesHang_75_v w hE hH k25 hk25 v0 v1 v2 v3 v4 v6 (0 : Int32) hf
set_option maxHeartbeats 4000000 in
theorem mC_X0_doesHang_25_v {X : CX} {w0 : AH} {r : Int32}  (w : AH) (hE : XE X w0 1 (some (.boolean)) "doesHang" (.returned (some (.int r))) w) (hH : XH X []) (k7 : Nat → Int32 → Int32 → Int32 → Int32 → Option (Int32)) (hk7 : ∀ (v0 : Nat) (v1 : Int32) (v2 : Int32) (v3 : Int32) (v4 : Int32), k7 v0 v1 v2 v3 v4 = some r → V X cX0_doesHang RX0 7 1 w 7 [some (.ref v0), some (.int v1), some (.int v2), some (.int v3), some (.int v4), none, none] []) (k25 : Nat → Int32 → Int32 → Int32 → Int32 → Int32 → Int32 → Option (Int32)) (hk25 : ∀ (v0 : Nat) (v1 : Int32) (v2 : Int32) (v3 : Int32) (v4 : Int32) (v5 : Int32) (v6 : Int32), k25 v0 v1 v2 v3 v4 v5 v6 = some r → V X cX0_doesHang RX0 7 1 w 25 [some (.ref v0), some (.int v1), some (.int v2), some (.int v3), some (.int v4), some (.int v5), some (.int v6)] []) (v0 : Nat) (v1 : Int32) (v2 : Int32) (v3 : Int32) (v4 : Int32) (v5 : Int32) (v6 : Int32) (hf : mC_X0_doesHang_25 w k7 k25 v0 v1 v2 v3 v4 v5 v6 = some r) : V X cX0_doesHang RX0 7 1 w 25 [some (.ref v0), some (.int v1), some (.int v2), some (.int v3), some (.int v4), some (.int v5), some (.int v6)] [] := by
  unfold mC_X0_doesHang_25 at hf
  refine V_iload dX0_doesHang_25 rfl ?_
  refine V_aload_n dX0_doesHang_27 rfl ?_
  obtain ⟨h1, hf⟩ := ck_ex hf
  obtain ⟨b2, hb3, hf⟩ := bd1_ex hf
  refine VP_getR (x := some b2) fa_X0_10 h1 rfl rfl hb3 dX0_doesHang_28 ?_
  obtain ⟨h4, hf⟩ := ck_ex hf
  refine VP_getI fa_X0_154 h4 rfl dX0_doesHang_31 ?_
  refine V_icmp_ge (tgt := 83) dX0_doesHang_34 (by decide) (fun hc5 => ?_) (fun hc5 => ?_)
  · have hf := if_t hf hc5
    refine V_iload dX0_doesHang_83 rfl ?_
    refine V_if_eq (tgt := 120) dX0_doesHang_85 (by decide) (fun hc6 => ?_) (fun hc6 => ?_)
    · have hf := if_t hf hc6
      refine V_keep [true, true, true, true, true, false, false] rfl ?_
      exact mC_X0_doesHang_120_v w hE hH k7 hk7 v0 v1 v2 v3 v4 hf
    · have hf := if_f hf hc6
      refine V_aload_n dX0_doesHang_88 rfl ?_
      refine VP_getR (x := some b2) fa_X0_10 h1 rfl rfl hb3 dX0_doesHang_89 ?_
      obtain ⟨b7, hb8, hf⟩ := bd1_ex hf
      refine VP_getR (x := some b7) fa_X0_160 h4 rfl rfl hb8 dX0_doesHang_92 ?_
      refine V_iload dX0_doesHang_95 rfl ?_
      obtain ⟨h9, hf⟩ := ck_ex hf
      refine VE_iald h9 rfl dX0_doesHang_97 ?_
      refine V_iload_n dX0_doesHang_98 rfl ?_
      refine V_icmp_eq (tgt := 105) dX0_doesHang_99 (by decide) (fun hc10 => ?_) (fun hc10 => ?_)
      · have hf := if_t hf hc10
        refine V_iconst dX0_doesHang_105 ckc_1 ?_
        refine V_istore_n (ls' := [some (.ref v0), some (.int v1), some (.int v2), some (.int (1 : Int32)), some (.int v4), some (.int v5), some (.int v6)]) dX0_doesHang_106 (by decide) rfl ?_
        refine V_iload_n dX0_doesHang_107 rfl ?_
        refine V_aload_n dX0_doesHang_108 rfl ?_
        obtain ⟨b11, hb12, hf⟩ := bd1_ex hf
        refine VP_getR (x := some b11) fa_X0_47 h1 rfl rfl hb12 dX0_doesHang_109 ?_
        obtain ⟨h13, hf⟩ := ck_ex hf
        obtain ⟨b14, hb15, hf⟩ := bd1_ex hf
        refine VP_getR (x := some b14) fa_X0_344 h13 rfl rfl hb15 dX0_doesHang_112 ?_
        refine V_iload dX0_doesHang_115 rfl ?_
        obtain ⟨h16, hf⟩ := ck_ex hf
        refine VE_iald h16 rfl dX0_doesHang_117 ?_
        refine V_iadd dX0_doesHang_118 ?_
        refine V_istore_n (ls' := [some (.ref v0), some (.int v1), some (.int (v2 + (hvi w b14 (v4.toNatClampNeg)))), some (.int (1 : Int32)), some (.int v4), some (.int v5), some (.int v6)]) dX0_doesHang_119 (by decide) rfl ?_
        refine V_keep [true, true, true, true, true, false, false] rfl ?_
        exact mC_X0_doesHang_120_v w hE hH k7 hk7 v0 v1 (v2 + (hvi w b14 (v4.toNatClampNeg))) (1 : Int32) v4 hf
      · have hf := if_f hf hc10
        refine V_goto (tgt := 120) dX0_doesHang_102 (by decide) ?_
        refine V_keep [true, true, true, true, true, false, false] rfl ?_
        exact mC_X0_doesHang_120_v w hE hH k7 hk7 v0 v1 v2 v3 v4 hf
  · have hf := if_f hf hc5
    refine V_iload dX0_doesHang_37 rfl ?_
    refine V_if_ne (tgt := 70) dX0_doesHang_39 (by decide) (fun hc17 => ?_) (fun hc17 => ?_)
    · have hf := if_f hf hc17
      refine V_keep [true, true, true, true, true, false, true] rfl ?_
      exact mC_X0_doesHang_70_v w hE hH k25 hk25 v0 v1 v2 v3 v4 v6 hf
    · have hf := if_t hf hc17
      refine V_aload_n dX0_doesHang_42 rfl ?_
      refine VP_getR (x := some b2) fa_X0_10 h1 rfl rfl hb3 dX0_doesHang_43 ?_
      obtain ⟨b18, hb19, hf⟩ := bd1_ex hf
      refine VP_getR (x := some b18) fa_X0_409 h4 rfl rfl hb19 dX0_doesHang_46 ?_
      refine V_iload dX0_doesHang_49 rfl ?_
      obtain ⟨h20, hf⟩ := ck_ex hf
      refine VE_iald h20 rfl dX0_doesHang_51 ?_
      refine V_iload dX0_doesHang_52 rfl ?_
      refine V_icmp_ne (tgt := 74) dX0_doesHang_54 (by decide) (fun hc21 => ?_) (fun hc21 => ?_)
      · have hf := if_f hf hc21
        refine V_keep [true, true, true, true, true, false, true] rfl ?_
        exact mC_X0_doesHang_74_v w hE hH k25 hk25 v0 v1 v2 v3 v4 v6 hf
      · have hf := if_t hf hc21
        refine V_aload_n dX0_doesHang_57 rfl ?_
        obtain ⟨b22, hb23, hf⟩ := bd1_ex hf
        refine VP_getR (x := some b22) fa_X0_85 h1 rfl rfl hb23 dX0_doesHang_58 ?_
        obtain ⟨h24, hf⟩ := ck_ex hf
        obtain ⟨b25, hb26, hf⟩ := bd1_ex hf
        refine VP_getR (x := some b25) fa_X0_467 h24 rfl rfl hb26 dX0_doesHang_61 ?_
        refine V_iload dX0_doesHang_64 rfl ?_
        obtain ⟨h27, hf⟩ := ck_ex hf
        refine VE_zald h27 rfl dX0_doesHang_66 ?_
        refine V_if_eq (tgt := 74) dX0_doesHang_67 (by decide) (fun hc28 => ?_) (fun hc28 => ?_)
        · have hf := if_t hf hc28
          refine V_keep [true, true, true, true, true, false, true] rfl ?_
          exact mC_X0_doesHang_74_v w hE hH k25 hk25 v0 v1 v2 v3 v4 v6 hf
        · have hf := if_f hf hc28
          refine V_keep [true, true, true, true, true, false, true] rfl ?_
          exact mC_X0_doesHang_70_v w hE hH k25 hk25 v0 v1 v2 v3 v4 v6 hf
set_option maxHeartbeats 4000000 in
theorem mC_X0_doesHang_7_v {X : CX} {w0 : AH} {r : Int32}  (w : AH) (hE : XE X w0 1 (some (.boolean)) "doesHang" (.returned (some (.int r))) w) (hH : XH X []) (k7 : Nat → Int32 → Int32 → Int32 → Int32 → Option (Int32)) (hk7 : ∀ (v0 : Nat) (v1 : Int32) (v2 : Int32) (v3 : Int32) (v4 : Int32), k7 v0 v1 v2 v3 v4 = some r → V X cX0_doesHang RX0 7 1 w 7 [some (.ref v0), some (.int v1), some (.int v2), some (.int v3), some (.int v4), none, none] []) (v0 : Nat) (v1 : Int32) (v2 : Int32) (v3 : Int32) (v4 : Int32) (hf : mC_X0_doesHang_7 w k7 v0 v1 v2 v3 v4 = some r) : V X cX0_doesHang RX0 7 1 w 7 [some (.ref v0), some (.int v1), some (.int v2), some (.int v3), some (.int v4), none, none] [] := by
  unfold mC_X0_doesHang_7 at hf
  refine V_iload dX0_doesHang_7 rfl ?_
  refine V_aload_n dX0_doesHang_9 rfl ?_
  obtain ⟨h1, hf⟩ := ck_ex hf
  obtain ⟨b2, hb3, hf⟩ := bd1_ex hf
  refine VP_getR (x := some b2) fa_X0_10 h1 rfl rfl hb3 dX0_doesHang_10 ?_
  obtain ⟨h4, hf⟩ := ck_ex hf
  refine VP_getI fa_X0_141 h4 rfl dX0_doesHang_13 ?_
  refine V_icmp_ge (tgt := 126) dX0_doesHang_16 (by decide) (fun hc5 => ?_) (fun hc5 => ?_)
  · have hf := if_t hf hc5
    refine V_iload_n dX0_doesHang_126 rfl ?_
    refine V_if_eq (tgt := 142) dX0_doesHang_127 (by decide) (fun hc6 => ?_) (fun hc6 => ?_)
    · have hf := if_t hf hc6
      refine V_iconst dX0_doesHang_142 ckc_0 ?_
      cases some_ex hf
      exact V_zret hE (by decide) dX0_doesHang_143
    · have hf := if_f hf hc6
      refine V_iload_n dX0_doesHang_130 rfl ?_
      refine V_aload_n dX0_doesHang_131 rfl ?_
      refine VP_getI fa_X0_487 h1 rfl dX0_doesHang_132 ?_
      refine V_icmp_lt (tgt := 142) dX0_doesHang_135 (by decide) (fun hc7 => ?_) (fun hc7 => ?_)
      · have hf := if_t hf hc7
        refine V_iconst dX0_doesHang_142 ckc_0 ?_
        cases some_ex hf
        exact V_zret hE (by decide) dX0_doesHang_143
      · have hf := if_f hf hc7
        refine V_iconst dX0_doesHang_138 ckc_1 ?_
        refine V_goto (tgt := 143) dX0_doesHang_139 (by decide) ?_
        cases some_ex hf
        exact V_zret hE (by decide) dX0_doesHang_143
  · have hf := if_f hf hc5
    refine V_iconst dX0_doesHang_19 ckc_0 ?_
    refine V_istore (ls' := [some (.ref v0), some (.int v1), some (.int v2), some (.int v3), some (.int v4), some (.int (0 : Int32)), none]) dX0_doesHang_20 (by decide) rfl ?_
    refine V_iconst dX0_doesHang_22 ckc_0 ?_
    refine V_istore (ls' := [some (.ref v0), some (.int v1), some (.int v2), some (.int v3), some (.int v4), some (.int (0 : Int32)), some (.int (0 : Int32))]) dX0_doesHang_23 (by decide) rfl ?_
    exact lq7_ex (P := fun v0 v1 v2 v3 v4 v5 v6 => V X cX0_doesHang RX0 7 1 w 25 [some (.ref v0), some (.int v1), some (.int v2), some (.int v3), some (.int v4), some (.int v5), some (.int v6)] []) (fun k hk v0 v1 v2 v3 v4 v5 v6 hf => mC_X0_doesHang_25_v w hE hH k7 hk7 k hk v0 v1 v2 v3 v4 v5 v6 hf) LF v0 v1 v2 v3 v4 (0 : Int32) (0 : Int32) hf
set_option maxHeartbeats 4000000 in
theorem mC_X0_doesHang_ok (l : Launch) (D : DD) (w : AH) (a : Nat) (p0 : Int32) (r : Int32) (hf : mC_X0_doesHang a p0 w = some r) : MA l D yX0_doesHang cX0_doesHang 7 (some (.boolean)) 1 [.ref a, .int p0] w (.returned (some (.int r))) w := by
  refine MA.introH (own := RX0) (nm := "doesHang") (ls := [some (.ref a), some (.int p0), none, none, none, none, none]) (by decide) rfl rfl (Nat.le_of_ble_eq_true rfl) rfl (fun X hl hD hE hH => ?_)
  subst hl hD
  unfold mC_X0_doesHang at hf
  refine V_iconst dX0_doesHang_0 ckc_0 ?_
  refine V_istore_n (ls' := [some (.ref a), some (.int p0), some (.int (0 : Int32)), none, none, none, none]) dX0_doesHang_1 (by decide) rfl ?_
  refine V_iconst dX0_doesHang_2 ckc_0 ?_
  refine V_istore_n (ls' := [some (.ref a), some (.int p0), some (.int (0 : Int32)), some (.int (0 : Int32)), none, none, none]) dX0_doesHang_3 (by decide) rfl ?_
  refine V_iconst dX0_doesHang_4 ckc_0 ?_
  refine V_istore (ls' := [some (.ref a), some (.int p0), some (.int (0 : Int32)), some (.int (0 : Int32)), some (.int (0 : Int32)), none, none]) dX0_doesHang_5 (by decide) rfl ?_
  exact lq5_ex (P := fun v0 v1 v2 v3 v4 => V X cX0_doesHang RX0 7 1 w 7 [some (.ref v0), some (.int v1), some (.int v2), some (.int v3), some (.int v4), none, none] []) (fun k hk v0 v1 v2 v3 v4 hf => mC_X0_doesHang_7_v w hE hH k hk v0 v1 v2 v3 v4 hf) LF a p0 (0 : Int32) (0 : Int32) (0 : Int32) hf
set_option maxHeartbeats 4000000 in
theorem mC_X0_seat_ok (l : Launch) (D : DD) (w : AH) (a : Nat) (p0 : Int32) (p1 : Int32) (p2 : Int32) (p3 : Int32) (r : Int32) (w' : AH) (hf : mC_X0_seat a p0 p1 p2 p3 w = some (r, w')) : MA l D yX0_seat cX0_seat 5 (some (.int)) 408 [.ref a, .int p0, .int p1, .int p2, .int p3] w (.returned (some (.int r))) w' := by
  refine MA.introH (own := RX0) (nm := "seat") (ls := [some (.ref a), some (.int p0), some (.int p1), some (.int p2), some (.int p3)]) (by decide) rfl rfl (Nat.le_of_ble_eq_true rfl) rfl (fun X hl hD hE hH => ?_)
  subst hl hD
  unfold mC_X0_seat at hf
  refine V_iload_n dX0_seat_0 rfl ?_
  refine V_iconst dX0_seat_1 ckc_0 ?_
  refine V_iconst dX0_seat_2 ckc_5 ?_
  obtain ⟨r2, hc1, hf⟩ := bd1_ex hf
  refine V_cS (rest := []) (st' := [.int r2]) (mC_X0_in_ok _ _ _ _ _ _ _ hc1) sc_X0_127 (by decide) rfl rfl (Nat.le_of_ble_eq_true rfl) dX0_seat_3 rfl ?_
  refine V_if_eq (tgt := 34) dX0_seat_6 (by decide) (fun hc3 => ?_) (fun hc3 => ?_)
  · have hf := if_t hf hc3
    refine V_ldcw q1627 dX0_seat_34 ?_
    cases some_ex hf
    exact V_iret hE dX0_seat_37
  · have hf := if_f hf hc3
    refine V_iload_n dX0_seat_9 rfl ?_
    obtain ⟨r5, hc4, hf⟩ := bd1_ex hf
    refine V_cS (rest := []) (st' := [.int r5]) (mC_X0_isDay_ok _ _ _ _ _ hc4) sc_X0_201 (by decide) rfl rfl (Nat.le_of_ble_eq_true rfl) dX0_seat_10 rfl ?_
    refine V_if_eq (tgt := 34) dX0_seat_13 (by decide) (fun hc6 => ?_) (fun hc6 => ?_)
    · have hf := if_t hf hc6
      refine V_ldcw q1627 dX0_seat_34 ?_
      cases some_ex hf
      exact V_iret hE dX0_seat_37
    · have hf := if_f hf hc6
      refine V_iload_n dX0_seat_16 rfl ?_
      obtain ⟨r8, hc7, hf⟩ := bd1_ex hf
      refine V_cS (rest := []) (st' := [.int r8]) (mC_X0_isDay_ok _ _ _ _ _ hc7) sc_X0_201 (by decide) rfl rfl (Nat.le_of_ble_eq_true rfl) dX0_seat_17 rfl ?_
      refine V_if_eq (tgt := 34) dX0_seat_20 (by decide) (fun hc9 => ?_) (fun hc9 => ?_)
      · have hf := if_t hf hc9
        refine V_ldcw q1627 dX0_seat_34 ?_
        cases some_ex hf
        exact V_iret hE dX0_seat_37
      · have hf := if_f hf hc9
        refine V_iload dX0_seat_23 rfl ?_
        refine V_iconst dX0_seat_25 ckc_0 ?_
        refine V_bipush dX0_seat_26 ckb_10 ?_
        obtain ⟨r11, hc10, hf⟩ := bd1_ex hf
        refine V_cS (rest := []) (st' := [.int r11]) (mC_X0_in_ok _ _ _ _ _ _ _ hc10) sc_X0_127 (by decide) rfl rfl (Nat.le_of_ble_eq_true rfl) dX0_seat_28 rfl ?_
        refine V_if_ne (tgt := 38) dX0_seat_31 (by decide) (fun hc12 => ?_) (fun hc12 => ?_)
        · have hf := if_f hf hc12
          refine V_aload_n dX0_seat_38 rfl ?_
          obtain ⟨h13, hf⟩ := ck_ex hf
          obtain ⟨b14, hb15, hf⟩ := bd1_ex hf
          refine VP_getR (x := some b14) fa_X0_85 h13 rfl rfl hb15 dX0_seat_39 ?_
          refine V_iload_n dX0_seat_42 rfl ?_
          refine V_iload_n dX0_seat_43 rfl ?_
          obtain ⟨h16, hf⟩ := ck_ex hf
          obtain ⟨w18, hc17, hf⟩ := bd1_ex hf
          refine V_cV (av := [.int p1, .int p2]) (rest := []) (st' := []) (mC_X6_looks_ok _ _ _ _ _ _ _ hc17) vc_X0_458 (kIn1 h16) (by decide) rfl rfl (Nat.le_of_ble_eq_true rfl) dX0_seat_44 rfl ?_
          refine V_aload_n dX0_seat_47 rfl ?_
          refine V_iload_n dX0_seat_48 rfl ?_
          obtain ⟨h19, hf⟩ := ck_ex hf
          obtain ⟨w21, hc20, hf⟩ := bd1_ex hf
          refine V_cV (av := [.int p0]) (rest := []) (st' := []) (mC_X0_reckons_ok _ _ _ _ _ _ hc20) vc_X0_490 (kIn1 h19) (by decide) rfl rfl (Nat.le_of_ble_eq_true rfl) dX0_seat_49 rfl ?_
          refine V_iload dX0_seat_52 rfl ?_
          refine V_bipush dX0_seat_54 ckb_8 ?_
          refine V_icmp_ge (tgt := 69) dX0_seat_56 (by decide) (fun hc22 => ?_) (fun hc22 => ?_)
          · have hf := if_t hf hc22
            refine V_iload dX0_seat_69 rfl ?_
            refine V_bipush dX0_seat_71 ckb_8 ?_
            refine V_icmp_ne (tgt := 83) dX0_seat_73 (by decide) (fun hc23 => ?_) (fun hc23 => ?_)
            · have hf := if_f hf hc23
              refine V_iload dX0_seat_83 rfl ?_
              refine V_bipush dX0_seat_85 ckb_9 ?_
              refine V_icmp_ne (tgt := 97) dX0_seat_87 (by decide) (fun hc24 => ?_) (fun hc24 => ?_)
              · have hf := if_f hf hc24
                refine V_aload_n dX0_seat_97 rfl ?_
                refine V_iload_n dX0_seat_98 rfl ?_
                obtain ⟨h25, hf⟩ := ck_ex hf
                obtain ⟨r27, hc26, hf⟩ := bd1_ex hf
                refine V_cV (av := [.int p0]) (rest := []) (st' := [.int r27]) (mC_X0_doesHang_ok _ _ _ _ _ _ hc26) vc_X0_493 (kIn1 h25) (by decide) rfl rfl (Nat.le_of_ble_eq_true rfl) dX0_seat_99 rfl ?_
                refine V_if_eq (tgt := 109) dX0_seat_102 (by decide) (fun hc28 => ?_) (fun hc28 => ?_)
                · have hf := if_t hf hc28
                  refine V_iconst dX0_seat_109 ckc_0 ?_
                  cases some_ex hf
                  exact V_iret hE dX0_seat_110
                · have hf := if_f hf hc28
                  refine V_iconst dX0_seat_105 ckc_1 ?_
                  refine V_goto (tgt := 110) dX0_seat_106 (by decide) ?_
                  cases some_ex hf
                  exact V_iret hE dX0_seat_110
              · have hf := if_t hf hc24
                refine V_aload_n dX0_seat_90 rfl ?_
                obtain ⟨h29, hf⟩ := ck_ex hf
                refine VP_getI fa_X0_487 h29 rfl dX0_seat_91 ?_
                refine V_goto (tgt := 110) dX0_seat_94 (by decide) ?_
                cases some_ex hf
                exact V_iret hE dX0_seat_110
            · have hf := if_t hf hc23
              refine V_aload_n dX0_seat_76 rfl ?_
              obtain ⟨h30, hf⟩ := ck_ex hf
              refine VP_getI fa_X0_482 h30 rfl dX0_seat_77 ?_
              refine V_goto (tgt := 110) dX0_seat_80 (by decide) ?_
              cases some_ex hf
              exact V_iret hE dX0_seat_110
          · have hf := if_f hf hc22
            refine V_aload_n dX0_seat_59 rfl ?_
            obtain ⟨h31, hf⟩ := ck_ex hf
            obtain ⟨b32, hb33, hf⟩ := bd1_ex hf
            refine VP_getR (x := some b32) fa_X0_89 h31 rfl rfl hb33 dX0_seat_60 ?_
            refine V_iload dX0_seat_63 rfl ?_
            obtain ⟨h34, hf⟩ := ck_ex hf
            refine VE_iald h34 rfl dX0_seat_65 ?_
            refine V_goto (tgt := 110) dX0_seat_66 (by decide) ?_
            cases some_ex hf
            exact V_iret hE dX0_seat_110
        · have hf := if_t hf hc12
          refine V_ldcw q1627 dX0_seat_34 ?_
          cases some_ex hf
          exact V_iret hE dX0_seat_37
set_option maxHeartbeats 4000000 in
theorem mC_X0_mayTell_28_v {X : CX} {w0 : AH} {r : Int32}  (w : AH) (hE : XE X w0 1 (some (.boolean)) "mayTell" (.returned (some (.int r))) w) (hH : XH X []) (k5 : Nat → Int32 → Int32 → Int32 → Int32 → Option (Int32)) (hk5 : ∀ (v0 : Nat) (v1 : Int32) (v2 : Int32) (v3 : Int32) (v4 : Int32), k5 v0 v1 v2 v3 v4 = some r → V X cX0_mayTell RX0 5 1 w 5 [some (.ref v0), some (.int v1), some (.int v2), some (.int v3), some (.int v4)] []) (v0 : Nat) (v1 : Int32) (v2 : Int32) (v4 : Int32) (t0 : Int32) (t1 : Int32) (hf : mC_X0_mayTell_28 w k5 v0 v1 v2 v4 t0 t1 = some r) : V X cX0_mayTell RX0 5 1 w 28 [some (.ref v0), some (.int v1), some (.int v2), none, some (.int v4)] [.int t0, .int t1] := by
  unfold mC_X0_mayTell_28 at hf
  refine V_iadd dX0_mayTell_28 ?_
  refine V_istore_n (ls' := [some (.ref v0), some (.int v1), some (.int v2), some (.int (t1 + t0)), some (.int v4)]) dX0_mayTell_29 (by decide) rfl ?_
  refine V_inc (ls' := [some (.ref v0), some (.int v1), some (.int v2), some (.int (t1 + t0)), some (.int (v4 + (1 : Int32)))]) dX0_mayTell_30 rfl ckc_1 (by decide) rfl ?_
  refine V_goto (tgt := 5) dX0_mayTell_33 (by decide) ?_
  exact hk5 v0 v1 v2 (t1 + t0) (v4 + (1 : Int32)) hf
set_option maxHeartbeats 4000000 in
theorem mC_X0_mayTell_5_v {X : CX} {w0 : AH} {r : Int32}  (w : AH) (hE : XE X w0 1 (some (.boolean)) "mayTell" (.returned (some (.int r))) w) (hH : XH X []) (k5 : Nat → Int32 → Int32 → Int32 → Int32 → Option (Int32)) (hk5 : ∀ (v0 : Nat) (v1 : Int32) (v2 : Int32) (v3 : Int32) (v4 : Int32), k5 v0 v1 v2 v3 v4 = some r → V X cX0_mayTell RX0 5 1 w 5 [some (.ref v0), some (.int v1), some (.int v2), some (.int v3), some (.int v4)] []) (v0 : Nat) (v1 : Int32) (v2 : Int32) (v3 : Int32) (v4 : Int32) (hf : mC_X0_mayTell_5 w k5 v0 v1 v2 v3 v4 = some r) : V X cX0_mayTell RX0 5 1 w 5 [some (.ref v0), some (.int v1), some (.int v2), some (.int v3), some (.int v4)] [] := by
  unfold mC_X0_mayTell_5 at hf
  refine V_iload dX0_mayTell_5 rfl ?_
  refine V_bipush dX0_mayTell_7 ckb_8 ?_
  refine V_icmp_ge (tgt := 36) dX0_mayTell_9 (by decide) (fun hc1 => ?_) (fun hc1 => ?_)
  · have hf := if_t hf hc1
    refine V_iload_n dX0_mayTell_36 rfl ?_
    refine V_iload_n dX0_mayTell_37 rfl ?_
    refine V_icmp_lt (tgt := 50) dX0_mayTell_38 (by decide) (fun hc2 => ?_) (fun hc2 => ?_)
    · have hf := if_t hf hc2
      refine V_iconst dX0_mayTell_50 ckc_0 ?_
      cases some_ex hf
      exact V_zret hE (by decide) dX0_mayTell_51
    · have hf := if_f hf hc2
      refine V_iload_n dX0_mayTell_41 rfl ?_
      refine V_iconst dX0_mayTell_42 ckc_2 ?_
      refine V_icmp_lt (tgt := 50) dX0_mayTell_43 (by decide) (fun hc3 => ?_) (fun hc3 => ?_)
      · have hf := if_t hf hc3
        refine V_iconst dX0_mayTell_50 ckc_0 ?_
        cases some_ex hf
        exact V_zret hE (by decide) dX0_mayTell_51
      · have hf := if_f hf hc3
        refine V_iconst dX0_mayTell_46 ckc_1 ?_
        refine V_goto (tgt := 51) dX0_mayTell_47 (by decide) ?_
        cases some_ex hf
        exact V_zret hE (by decide) dX0_mayTell_51
  · have hf := if_f hf hc1
    refine V_iload_n dX0_mayTell_12 rfl ?_
    refine V_aload_n dX0_mayTell_13 rfl ?_
    obtain ⟨h4, hf⟩ := ck_ex hf
    obtain ⟨b5, hb6, hf⟩ := bd1_ex hf
    refine VP_getR (x := some b5) fa_X0_95 h4 rfl rfl hb6 dX0_mayTell_14 ?_
    refine V_iload dX0_mayTell_17 rfl ?_
    obtain ⟨h7, hf⟩ := ck_ex hf
    refine VE_iald h7 rfl dX0_mayTell_19 ?_
    refine V_if_le (tgt := 27) dX0_mayTell_20 (by decide) (fun hc8 => ?_) (fun hc8 => ?_)
    · have hf := if_t hf hc8
      refine V_iconst dX0_mayTell_27 ckc_0 ?_
      refine V_keep [true, true, true, false, true] rfl ?_
      exact mC_X0_mayTell_28_v w hE hH k5 hk5 v0 v1 v2 v4 (0 : Int32) v3 hf
    · have hf := if_f hf hc8
      refine V_iconst dX0_mayTell_23 ckc_1 ?_
      refine V_goto (tgt := 28) dX0_mayTell_24 (by decide) ?_
      refine V_keep [true, true, true, false, true] rfl ?_
      exact mC_X0_mayTell_28_v w hE hH k5 hk5 v0 v1 v2 v4 (1 : Int32) v3 hf
set_option maxHeartbeats 4000000 in
theorem mC_X0_mayTell_ok (l : Launch) (D : DD) (w : AH) (a : Nat) (p0 : Int32) (p1 : Int32) (r : Int32) (hf : mC_X0_mayTell a p0 p1 w = some r) : MA l D yX0_mayTell cX0_mayTell 5 (some (.boolean)) 1 [.ref a, .int p0, .int p1] w (.returned (some (.int r))) w := by
  refine MA.introH (own := RX0) (nm := "mayTell") (ls := [some (.ref a), some (.int p0), some (.int p1), none, none]) (by decide) rfl rfl (Nat.le_of_ble_eq_true rfl) rfl (fun X hl hD hE hH => ?_)
  subst hl hD
  unfold mC_X0_mayTell at hf
  refine V_iconst dX0_mayTell_0 ckc_0 ?_
  refine V_istore_n (ls' := [some (.ref a), some (.int p0), some (.int p1), some (.int (0 : Int32)), none]) dX0_mayTell_1 (by decide) rfl ?_
  refine V_iconst dX0_mayTell_2 ckc_0 ?_
  refine V_istore (ls' := [some (.ref a), some (.int p0), some (.int p1), some (.int (0 : Int32)), some (.int (0 : Int32))]) dX0_mayTell_3 (by decide) rfl ?_
  exact lq5_ex (P := fun v0 v1 v2 v3 v4 => V X cX0_mayTell RX0 5 1 w 5 [some (.ref v0), some (.int v1), some (.int v2), some (.int v3), some (.int v4)] []) (fun k hk v0 v1 v2 v3 v4 hf => mC_X0_mayTell_5_v w hE hH k hk v0 v1 v2 v3 v4 hf) LF a p0 p1 (0 : Int32) (0 : Int32) hf
set_option maxHeartbeats 4000000 in
theorem mC_X0_hides_215_v {X : CX} {w0 : AH} {w' : AH}  (hE : XE X w0 2 none "hides" (.returned none) w') (hH : XH X []) (k183 : Nat → Int32 → Int32 → Int32 → AH → Option (AH)) (hk183 : ∀ (v0 : Nat) (v3 : Int32) (v4 : Int32) (v6 : Int32) (w : AH), k183 v0 v3 v4 v6 w = some w' → V X cX0_hides RX0 8 2 w 183 [some (.ref v0), none, none, some (.int v3), some (.int v4), none, some (.int v6), none] []) (v0 : Nat) (v3 : Int32) (v4 : Int32) (v6 : Int32) (w : AH) (hf : mC_X0_hides_215 k183 v0 v3 v4 v6 w = some w') : V X cX0_hides RX0 8 2 w 215 [some (.ref v0), none, none, some (.int v3), some (.int v4), none, some (.int v6), none] [] := by
  unfold mC_X0_hides_215 at hf
  refine V_inc (ls' := [some (.ref v0), none, none, some (.int v3), some (.int v4), none, some (.int (v6 + (1 : Int32))), none]) dX0_hides_215 rfl ckc_1 (by decide) rfl ?_
  refine V_goto (tgt := 183) dX0_hides_218 (by decide) ?_
  exact hk183 v0 v3 v4 (v6 + (1 : Int32)) w hf
set_option maxHeartbeats 4000000 in
theorem mC_X0_hides_183_v {X : CX} {w0 : AH} {w' : AH}  (hE : XE X w0 2 none "hides" (.returned none) w') (hH : XH X []) (k183 : Nat → Int32 → Int32 → Int32 → AH → Option (AH)) (hk183 : ∀ (v0 : Nat) (v3 : Int32) (v4 : Int32) (v6 : Int32) (w : AH), k183 v0 v3 v4 v6 w = some w' → V X cX0_hides RX0 8 2 w 183 [some (.ref v0), none, none, some (.int v3), some (.int v4), none, some (.int v6), none] []) (v0 : Nat) (v3 : Int32) (v4 : Int32) (v6 : Int32) (w : AH) (hf : mC_X0_hides_183 k183 v0 v3 v4 v6 w = some w') : V X cX0_hides RX0 8 2 w 183 [some (.ref v0), none, none, some (.int v3), some (.int v4), none, some (.int v6), none] [] := by
  unfold mC_X0_hides_183 at hf
  refine V_iload dX0_hides_183 rfl ?_
  refine V_aload_n dX0_hides_185 rfl ?_
  obtain ⟨h1, hf⟩ := ck_ex hf
  obtain ⟨b2, hb3, hf⟩ := bd1_ex hf
  refine VP_getR (x := some b2) fa_X0_10 h1 rfl rfl hb3 dX0_hides_186 ?_
  obtain ⟨h4, hf⟩ := ck_ex hf
  refine VP_getI fa_X0_154 h4 rfl dX0_hides_189 ?_
  refine V_icmp_ge (tgt := 221) dX0_hides_192 (by decide) (fun hc5 => ?_) (fun hc5 => ?_)
  · have hf := if_t hf hc5
    cases some_ex hf
    exact V_vret hE dX0_hides_221
  · have hf := if_f hf hc5
    refine V_aload_n dX0_hides_195 rfl ?_
    obtain ⟨b6, hb7, hf⟩ := bd1_ex hf
    refine VP_getR (x := some b6) fa_X0_92 h1 rfl rfl hb7 dX0_hides_196 ?_
    refine V_iload dX0_hides_199 rfl ?_
    obtain ⟨h8, hf⟩ := ck_ex hf
    refine VE_iald h8 rfl dX0_hides_201 ?_
    refine V_iload_n dX0_hides_202 rfl ?_
    refine V_icmp_ne (tgt := 215) dX0_hides_203 (by decide) (fun hc9 => ?_) (fun hc9 => ?_)
    · have hf := if_f hf hc9
      exact mC_X0_hides_215_v hE hH k183 hk183 v0 v3 v4 v6 w hf
    · have hf := if_t hf hc9
      refine V_aload_n dX0_hides_206 rfl ?_
      refine VP_getR (x := some b6) fa_X0_92 h1 rfl rfl hb7 dX0_hides_207 ?_
      refine V_iload dX0_hides_210 rfl ?_
      refine V_iload dX0_hides_212 rfl ?_
      obtain ⟨w10, hs11, hf⟩ := st1_ex hf
      refine VE_iast h8 rfl hs11 dX0_hides_214 ?_
      exact mC_X0_hides_215_v hE hH k183 hk183 v0 v3 v4 v6 w10 hf
set_option maxHeartbeats 4000000 in
theorem mC_X0_hides_162_v {X : CX} {w0 : AH} {w' : AH}  (hE : XE X w0 2 none "hides" (.returned none) w') (hH : XH X []) (k11 : Nat → Int32 → Int32 → Int32 → Int32 → Int32 → Int32 → AH → Option (AH)) (hk11 : ∀ (v0 : Nat) (v1 : Int32) (v2 : Int32) (v3 : Int32) (v4 : Int32) (v5 : Int32) (v6 : Int32) (w : AH), k11 v0 v1 v2 v3 v4 v5 v6 w = some w' → V X cX0_hides RX0 8 2 w 11 [some (.ref v0), some (.int v1), some (.int v2), some (.int v3), some (.int v4), some (.int v5), some (.int v6), none] []) (v0 : Nat) (v1 : Int32) (v2 : Int32) (v3 : Int32) (v4 : Int32) (v5 : Int32) (v6 : Int32) (w : AH) (hf : mC_X0_hides_162 k11 v0 v1 v2 v3 v4 v5 v6 w = some w') : V X cX0_hides RX0 8 2 w 162 [some (.ref v0), some (.int v1), some (.int v2), some (.int v3), some (.int v4), some (.int v5), some (.int v6), none] [] := by
  unfold mC_X0_hides_162 at hf
  refine V_inc (ls' := [some (.ref v0), some (.int v1), some (.int v2), some (.int v3), some (.int v4), some (.int v5), some (.int (v6 + (1 : Int32))), none]) dX0_hides_162 rfl ckc_1 (by decide) rfl ?_
  refine V_goto (tgt := 11) dX0_hides_165 (by decide) ?_
  exact hk11 v0 v1 v2 v3 v4 v5 (v6 + (1 : Int32)) w hf
set_option maxHeartbeats 4000000 in
theorem mC_X0_hides_105_v {X : CX} {w0 : AH} {w' : AH}  (hE : XE X w0 2 none "hides" (.returned none) w') (hH : XH X []) (k11 : Nat → Int32 → Int32 → Int32 → Int32 → Int32 → Int32 → AH → Option (AH)) (hk11 : ∀ (v0 : Nat) (v1 : Int32) (v2 : Int32) (v3 : Int32) (v4 : Int32) (v5 : Int32) (v6 : Int32) (w : AH), k11 v0 v1 v2 v3 v4 v5 v6 w = some w' → V X cX0_hides RX0 8 2 w 11 [some (.ref v0), some (.int v1), some (.int v2), some (.int v3), some (.int v4), some (.int v5), some (.int v6), none] []) (k105 : Nat → Int32 → Int32 → Int32 → Int32 → Int32 → Int32 → Int32 → AH → Option (AH)) (hk105 : ∀ (v0 : Nat) (v1 : Int32) (v2 : Int32) (v3 : Int32) (v4 : Int32) (v5 : Int32) (v6 : Int32) (v7 : Int32) (w : AH), k105 v0 v1 v2 v3 v4 v5 v6 v7 w = some w' → V X cX0_hides RX0 8 2 w 105 [some (.ref v0), some (.int v1), some (.int v2), some (.int v3), some (.int v4), some (.int v5), some (.int v6), some (.int v7)] []) (v0 : Nat) (v1 : Int32) (v2 : Int32) (v3 : Int32) (v4 : Int32) (v5 : Int32) (v6 : Int32) (v7 : Int32) (w : AH) (hf : mC_X0_hides_105 k11 k105 v0 v1 v2 v3 v4 v5 v6 v7 w = some w') : V X cX0_hides RX0 8 2 w 105 [some (.ref v0), some (.int v1), some (.int v2), some (.int v3), some (.int v4), some (.int v5), some (.int v6), some (.int v7)] [] := by
  unfold mC_X0_hides_105 at hf
  refine V_iload dX0_hides_105 rfl ?_
  refine V_bipush dX0_hides_107 ckb_8 ?_
  refine V_icmp_ge (tgt := 144) dX0_hides_109 (by decide) (fun hc1 => ?_) (fun hc1 => ?_)
  · have hf := if_t hf hc1
    refine V_aload_n dX0_hides_144 rfl ?_
    refine V_iload dX0_hides_145 rfl ?_
    refine V_iload_n dX0_hides_147 rfl ?_
    obtain ⟨h2, hf⟩ := ck_ex hf
    obtain ⟨r4, hc3, hf⟩ := bd1_ex hf
    refine V_cV (av := [.int v5, .int v2]) (rest := []) (st' := [.int r4]) (mC_X0_mayTell_ok _ _ _ _ _ _ _ hc3) vc_X0_496 (kIn1 h2) (by decide) rfl rfl (Nat.le_of_ble_eq_true rfl) dX0_hides_148 rfl ?_
    refine V_if_ne (tgt := 157) dX0_hides_151 (by decide) (fun hc5 => ?_) (fun hc5 => ?_)
    · have hf := if_f hf hc5
      refine V_iload_n dX0_hides_157 rfl ?_
      refine V_istore (ls' := [some (.ref v0), some (.int v1), some (.int v2), some (.int v3), some (.int v3), some (.int v5), some (.int v6), some (.int v7)]) dX0_hides_158 (by decide) rfl ?_
      refine V_iconst dX0_hides_160 ckc_m1 ?_
      refine V_istore_n (ls' := [some (.ref v0), some (.int v1), some (.int v2), some (.int (-1 : Int32)), some (.int v3), some (.int v5), some (.int v6), some (.int v7)]) dX0_hides_161 (by decide) rfl ?_
      refine V_keep [true, true, true, true, true, true, true, false] rfl ?_
      exact mC_X0_hides_162_v hE hH k11 hk11 v0 v1 v2 (-1 : Int32) v3 v5 v6 w hf
    · have hf := if_t hf hc5
      refine V_goto (tgt := 162) dX0_hides_154 (by decide) ?_
      refine V_keep [true, true, true, true, true, true, true, false] rfl ?_
      exact mC_X0_hides_162_v hE hH k11 hk11 v0 v1 v2 v3 v4 v5 v6 w hf
  · have hf := if_f hf hc1
    refine V_aload_n dX0_hides_112 rfl ?_
    obtain ⟨h6, hf⟩ := ck_ex hf
    obtain ⟨b7, hb8, hf⟩ := bd1_ex hf
    refine VP_getR (x := some b7) fa_X0_95 h6 rfl rfl hb8 dX0_hides_113 ?_
    refine V_iload dX0_hides_116 rfl ?_
    refine V_dup2 dX0_hides_118 rfl rfl ?_
    obtain ⟨h9, hf⟩ := ck_ex hf
    refine VE_iald h9 rfl dX0_hides_119 ?_
    refine V_aload_n dX0_hides_120 rfl ?_
    obtain ⟨b10, hb11, hf⟩ := bd1_ex hf
    refine VP_getR (x := some b10) fa_X0_85 h6 rfl rfl hb11 dX0_hides_121 ?_
    obtain ⟨h12, hf⟩ := ck_ex hf
    obtain ⟨b13, hb14, hf⟩ := bd1_ex hf
    refine VP_getR (x := some b13) fa_X0_479 h12 rfl rfl hb14 dX0_hides_124 ?_
    refine V_bipush dX0_hides_127 ckb_8 ?_
    refine V_iload dX0_hides_129 rfl ?_
    refine V_imul dX0_hides_131 ?_
    refine V_iload dX0_hides_132 rfl ?_
    refine V_iadd dX0_hides_134 ?_
    obtain ⟨h15, hf⟩ := ck_ex hf
    refine VE_iald h15 rfl dX0_hides_135 ?_
    refine V_iadd dX0_hides_136 ?_
    obtain ⟨w16, hs17, hf⟩ := st1_ex hf
    refine VE_iast h9 rfl hs17 dX0_hides_137 ?_
    refine V_inc (ls' := [some (.ref v0), some (.int v1), some (.int v2), some (.int v3), some (.int v4), some (.int v5), some (.int v6), some (.int (v7 + (1 : Int32)))]) dX0_hides_138 rfl ckc_1 (by decide) rfl ?_
    refine V_goto (tgt := 105) dX0_hides_141 (by decide) ?_
    exact hk105 v0 v1 v2 v3 v4 v5 v6 (v7 + (1 : Int32)) w16 hf
set_option maxHeartbeats 4000000 in
theorem mC_X0_hides_79_v {X : CX} {w0 : AH} {w' : AH}  (hE : XE X w0 2 none "hides" (.returned none) w') (hH : XH X []) (k11 : Nat → Int32 → Int32 → Int32 → Int32 → Int32 → Int32 → AH → Option (AH)) (hk11 : ∀ (v0 : Nat) (v1 : Int32) (v2 : Int32) (v3 : Int32) (v4 : Int32) (v5 : Int32) (v6 : Int32) (w : AH), k11 v0 v1 v2 v3 v4 v5 v6 w = some w' → V X cX0_hides RX0 8 2 w 11 [some (.ref v0), some (.int v1), some (.int v2), some (.int v3), some (.int v4), some (.int v5), some (.int v6), none] []) (v0 : Nat) (v1 : Int32) (v2 : Int32) (v3 : Int32) (v4 : Int32) (v5 : Int32) (v6 : Int32) (w : AH) (hf : mC_X0_hides_79 k11 v0 v1 v2 v3 v4 v5 v6 w = some w') : V X cX0_hides RX0 8 2 w 79 [some (.ref v0), some (.int v1), some (.int v2), some (.int v3), some (.int v4), some (.int v5), some (.int v6), none] [] := by
  unfold mC_X0_hides_79 at hf
  refine V_aload_n dX0_hides_79 rfl ?_
  obtain ⟨h1, hf⟩ := ck_ex hf
  obtain ⟨b2, hb3, hf⟩ := bd1_ex hf
  refine VP_getR (x := some b2) fa_X0_92 h1 rfl rfl hb3 dX0_hides_80 ?_
  refine V_iload dX0_hides_83 rfl ?_
  refine V_iload_n dX0_hides_85 rfl ?_
  obtain ⟨h4, hf⟩ := ck_ex hf
  obtain ⟨w5, hs6, hf⟩ := st1_ex hf
  refine VE_iast h4 rfl hs6 dX0_hides_86 ?_
  refine V_iload dX0_hides_87 rfl ?_
  refine V_aload_n dX0_hides_89 rfl ?_
  obtain ⟨h7, hf⟩ := ck_ex hf
  obtain ⟨b8, hb9, hf⟩ := bd1_ex hf
  refine VP_getR (x := some b8) fa_X0_85 h7 rfl rfl hb9 dX0_hides_90 ?_
  obtain ⟨h10, hf⟩ := ck_ex hf
  obtain ⟨b11, hb12, hf⟩ := bd1_ex hf
  refine VP_getR (x := some b11) fa_X0_461 h10 rfl rfl hb12 dX0_hides_93 ?_
  refine V_iload dX0_hides_96 rfl ?_
  obtain ⟨h13, hf⟩ := ck_ex hf
  refine VE_iald h13 rfl dX0_hides_98 ?_
  refine V_iadd dX0_hides_99 ?_
  refine V_istore (ls' := [some (.ref v0), some (.int v1), some (.int v2), some (.int v3), some (.int v4), some (.int (v5 + (hvi w5 b11 (v6.toNatClampNeg)))), some (.int v6), none]) dX0_hides_100 (by decide) rfl ?_
  refine V_iconst dX0_hides_102 ckc_0 ?_
  refine V_istore (ls' := [some (.ref v0), some (.int v1), some (.int v2), some (.int v3), some (.int v4), some (.int (v5 + (hvi w5 b11 (v6.toNatClampNeg)))), some (.int v6), some (.int (0 : Int32))]) dX0_hides_103 (by decide) rfl ?_
  exact lq9_ex (P := fun v0 v1 v2 v3 v4 v5 v6 v7 w => V X cX0_hides RX0 8 2 w 105 [some (.ref v0), some (.int v1), some (.int v2), some (.int v3), some (.int v4), some (.int v5), some (.int v6), some (.int v7)] []) (fun k hk v0 v1 v2 v3 v4 v5 v6 v7 w hf => mC_X0_hides_105_v hE hH k11 hk11 k hk v0 v1 v2 v3 v4 v5 v6 v7 w hf) LF v0 v1 v2 v3 v4 (v5 + (hvi w5 b11 (v6.toNatClampNeg))) v6 (0 : Int32) w5 hf
