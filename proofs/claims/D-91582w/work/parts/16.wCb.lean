set_option maxRecDepth 100000
set_option maxHeartbeats 4000000 in
theorem mC_X0_hasMoved_ok (l : Launch) (D : DD) (w : AH) (a : Nat) (p0 : Int32) (p1 : Int32) (p2 : Int32) (r : Int32) (hf : mC_X0_hasMoved a p0 p1 p2 w = some r) : MA l D yX0_hasMoved cX0_hasMoved 4 (some (.boolean)) 1 [.ref a, .int p0, .int p1, .int p2] w (.returned (some (.int r))) w := by
  refine MA.introH (own := RX0) (nm := "hasMoved") (ls := [some (.ref a), some (.int p0), some (.int p1), some (.int p2)]) (by decide) rfl rfl (Nat.le_of_ble_eq_true rfl) rfl (fun X hl hD hE hH => ?_)
  subst hl hD
  unfold mC_X0_hasMoved at hf
  refine V_aload_n dX0_hasMoved_0 rfl ?_
  obtain ⟨h1, hf⟩ := ck_ex hf
  obtain ⟨b2, hb3, hf⟩ := bd1_ex hf
  refine VP_getR (x := some b2) fa_X0_10 h1 rfl rfl hb3 dX0_hasMoved_1 ?_
  obtain ⟨h4, hf⟩ := ck_ex hf
  obtain ⟨b5, hb6, hf⟩ := bd1_ex hf
  refine VP_getR (x := some b5) fa_X0_194 h4 rfl rfl hb6 dX0_hasMoved_4 ?_
  refine V_iload_n dX0_hasMoved_7 rfl ?_
  obtain ⟨h7, hf⟩ := ck_ex hf
  refine VE_iald h7 rfl dX0_hasMoved_8 ?_
  refine V_iconst dX0_hasMoved_9 ckc_m1 ?_
  refine V_icmp_eq (tgt := 43) dX0_hasMoved_10 (by decide) (fun hc8 => ?_) (fun hc8 => ?_)
  · have hf := if_t hf hc8
    refine V_iconst dX0_hasMoved_43 ckc_0 ?_
    cases some_ex hf
    exact V_zret hE (by decide) dX0_hasMoved_44
  · have hf := if_f hf hc8
    refine V_aload_n dX0_hasMoved_13 rfl ?_
    refine VP_getR (x := some b2) fa_X0_10 h1 rfl rfl hb3 dX0_hasMoved_14 ?_
    obtain ⟨b9, hb10, hf⟩ := bd1_ex hf
    refine VP_getR (x := some b9) fa_X0_239 h4 rfl rfl hb10 dX0_hasMoved_17 ?_
    refine V_iload_n dX0_hasMoved_20 rfl ?_
    obtain ⟨h11, hf⟩ := ck_ex hf
    refine VE_iald h11 rfl dX0_hasMoved_21 ?_
    refine V_iload_n dX0_hasMoved_22 rfl ?_
    refine V_icmp_gt (tgt := 43) dX0_hasMoved_23 (by decide) (fun hc12 => ?_) (fun hc12 => ?_)
    · have hf := if_t hf hc12
      refine V_iconst dX0_hasMoved_43 ckc_0 ?_
      cases some_ex hf
      exact V_zret hE (by decide) dX0_hasMoved_44
    · have hf := if_f hf hc12
      refine V_aload_n dX0_hasMoved_26 rfl ?_
      refine VP_getR (x := some b2) fa_X0_10 h1 rfl rfl hb3 dX0_hasMoved_27 ?_
      obtain ⟨b13, hb14, hf⟩ := bd1_ex hf
      refine VP_getR (x := some b13) fa_X0_242 h4 rfl rfl hb14 dX0_hasMoved_30 ?_
      refine V_iload_n dX0_hasMoved_33 rfl ?_
      obtain ⟨h15, hf⟩ := ck_ex hf
      refine VE_iald h15 rfl dX0_hasMoved_34 ?_
      refine V_iload_n dX0_hasMoved_35 rfl ?_
      refine V_icmp_gt (tgt := 43) dX0_hasMoved_36 (by decide) (fun hc16 => ?_) (fun hc16 => ?_)
      · have hf := if_t hf hc16
        refine V_iconst dX0_hasMoved_43 ckc_0 ?_
        cases some_ex hf
        exact V_zret hE (by decide) dX0_hasMoved_44
      · have hf := if_f hf hc16
        refine V_iconst dX0_hasMoved_39 ckc_1 ?_
        refine V_goto (tgt := 44) dX0_hasMoved_40 (by decide) ?_
        cases some_ex hf
        exact V_zret hE (by decide) dX0_hasMoved_44
set_option maxHeartbeats 4000000 in
theorem mC_X0_placeOf_ok (l : Launch) (D : DD) (w : AH) (a : Nat) (p0 : Int32) (p1 : Int32) (p2 : Int32) (r : Int32) (hf : mC_X0_placeOf a p0 p1 p2 w = some r) : MA l D yX0_placeOf cX0_placeOf 4 (some (.int)) 4 [.ref a, .int p0, .int p1, .int p2] w (.returned (some (.int r))) w := by
  refine MA.introH (own := RX0) (nm := "placeOf") (ls := [some (.ref a), some (.int p0), some (.int p1), some (.int p2)]) (by decide) rfl rfl (Nat.le_of_ble_eq_true rfl) rfl (fun X hl hD hE hH => ?_)
  subst hl hD
  unfold mC_X0_placeOf at hf
  refine V_aload_n dX0_placeOf_0 rfl ?_
  refine V_iload_n dX0_placeOf_1 rfl ?_
  refine V_iload_n dX0_placeOf_2 rfl ?_
  refine V_iload_n dX0_placeOf_3 rfl ?_
  obtain ⟨h1, hf⟩ := ck_ex hf
  obtain ⟨r3, hc2, hf⟩ := bd1_ex hf
  refine V_cV (av := [.int p0, .int p1, .int p2]) (rest := []) (st' := [.int r3]) (mC_X0_hasMoved_ok _ _ _ _ _ _ _ _ hc2) vc_X0_257 (kIn1 h1) (by decide) rfl rfl (Nat.le_of_ble_eq_true rfl) dX0_placeOf_4 rfl ?_
  refine V_if_eq (tgt := 22) dX0_placeOf_7 (by decide) (fun hc4 => ?_) (fun hc4 => ?_)
  · have hf := if_t hf hc4
    refine V_aload_n dX0_placeOf_22 rfl ?_
    obtain ⟨b5, hb6, hf⟩ := bd1_ex hf
    refine VP_getR (x := some b5) fa_X0_10 h1 rfl rfl hb6 dX0_placeOf_23 ?_
    obtain ⟨h7, hf⟩ := ck_ex hf
    obtain ⟨b8, hb9, hf⟩ := bd1_ex hf
    refine VP_getR (x := some b8) fa_X0_144 h7 rfl rfl hb9 dX0_placeOf_26 ?_
    refine V_iload_n dX0_placeOf_29 rfl ?_
    obtain ⟨h10, hf⟩ := ck_ex hf
    obtain ⟨r12, hc11, hf⟩ := bd1_ex hf
    refine V_cV (av := [.int p0]) (rest := []) (st' := [.ref r12]) (mC_J2_get_ok _ _ _ _ _ _ hc11) vc_X0_232 (kIn1 h10) (by decide) rfl rfl (Nat.le_of_ble_eq_true rfl) dX0_placeOf_30 rfl ?_
    obtain ⟨h13, hf⟩ := ck_ex hf
    refine VE_cast cc_X0_173 h13 dX0_placeOf_33 ?_
    refine VP_getI fa_X0_236 h13 rfl dX0_placeOf_36 ?_
    cases some_ex hf
    exact V_iret hE dX0_placeOf_39
  · have hf := if_f hf hc4
    refine V_aload_n dX0_placeOf_10 rfl ?_
    obtain ⟨b14, hb15, hf⟩ := bd1_ex hf
    refine VP_getR (x := some b14) fa_X0_10 h1 rfl rfl hb15 dX0_placeOf_11 ?_
    obtain ⟨h16, hf⟩ := ck_ex hf
    obtain ⟨b17, hb18, hf⟩ := bd1_ex hf
    refine VP_getR (x := some b17) fa_X0_194 h16 rfl rfl hb18 dX0_placeOf_14 ?_
    refine V_iload_n dX0_placeOf_17 rfl ?_
    obtain ⟨h19, hf⟩ := ck_ex hf
    refine VE_iald h19 rfl dX0_placeOf_18 ?_
    refine V_goto (tgt := 39) dX0_placeOf_19 (by decide) ?_
    cases some_ex hf
    exact V_iret hE dX0_placeOf_39
set_option maxHeartbeats 4000000 in
theorem mC_X0_where_ok (l : Launch) (D : DD) (w : AH) (a : Nat) (p0 : Int32) (p1 : Int32) (p2 : Int32) (r : Int32) (hf : mC_X0_where a p0 p1 p2 w = some r) : MA l D yX0_where cX0_where 4 (some (.int)) 5 [.ref a, .int p0, .int p1, .int p2] w (.returned (some (.int r))) w := by
  refine MA.introH (own := RX0) (nm := "where") (ls := [some (.ref a), some (.int p0), some (.int p1), some (.int p2)]) (by decide) rfl rfl (Nat.le_of_ble_eq_true rfl) rfl (fun X hl hD hE hH => ?_)
  subst hl hD
  unfold mC_X0_where at hf
  refine V_aload_n dX0_where_0 rfl ?_
  refine V_iload_n dX0_where_1 rfl ?_
  obtain ⟨h1, hf⟩ := ck_ex hf
  obtain ⟨r3, hc2, hf⟩ := bd1_ex hf
  refine V_cV (av := [.int p0]) (rest := []) (st' := [.int r3]) (mC_X0_isName_ok _ _ _ _ _ _ hc2) vc_X0_226 (kIn1 h1) (by decide) rfl rfl (Nat.le_of_ble_eq_true rfl) dX0_where_2 rfl ?_
  refine V_if_eq (tgt := 53) dX0_where_5 (by decide) (fun hc4 => ?_) (fun hc4 => ?_)
  · have hf := if_t hf hc4
    refine V_iconst dX0_where_53 ckc_m1 ?_
    cases some_ex hf
    exact V_iret hE dX0_where_54
  · have hf := if_f hf hc4
    refine V_iload_n dX0_where_8 rfl ?_
    obtain ⟨r6, hc5, hf⟩ := bd1_ex hf
    refine V_cS (rest := []) (st' := [.int r6]) (mC_X0_isDay_ok _ _ _ _ _ hc5) sc_X0_201 (by decide) rfl rfl (Nat.le_of_ble_eq_true rfl) dX0_where_9 rfl ?_
    refine V_if_eq (tgt := 53) dX0_where_12 (by decide) (fun hc7 => ?_) (fun hc7 => ?_)
    · have hf := if_t hf hc7
      refine V_iconst dX0_where_53 ckc_m1 ?_
      cases some_ex hf
      exact V_iret hE dX0_where_54
    · have hf := if_f hf hc7
      refine V_iload_n dX0_where_15 rfl ?_
      obtain ⟨r9, hc8, hf⟩ := bd1_ex hf
      refine V_cS (rest := []) (st' := [.int r9]) (mC_X0_isDay_ok _ _ _ _ _ hc8) sc_X0_201 (by decide) rfl rfl (Nat.le_of_ble_eq_true rfl) dX0_where_16 rfl ?_
      refine V_if_eq (tgt := 53) dX0_where_19 (by decide) (fun hc10 => ?_) (fun hc10 => ?_)
      · have hf := if_t hf hc10
        refine V_iconst dX0_where_53 ckc_m1 ?_
        cases some_ex hf
        exact V_iret hE dX0_where_54
      · have hf := if_f hf hc10
        refine V_aload_n dX0_where_22 rfl ?_
        obtain ⟨b11, hb12, hf⟩ := bd1_ex hf
        refine VP_getR (x := some b11) fa_X0_10 h1 rfl rfl hb12 dX0_where_23 ?_
        obtain ⟨h13, hf⟩ := ck_ex hf
        obtain ⟨b14, hb15, hf⟩ := bd1_ex hf
        refine VP_getR (x := some b14) fa_X0_144 h13 rfl rfl hb15 dX0_where_26 ?_
        refine V_iload_n dX0_where_29 rfl ?_
        obtain ⟨h16, hf⟩ := ck_ex hf
        obtain ⟨r18, hc17, hf⟩ := bd1_ex hf
        refine V_cV (av := [.int p0]) (rest := []) (st' := [.ref r18]) (mC_J2_get_ok _ _ _ _ _ _ hc17) vc_X0_232 (kIn1 h16) (by decide) rfl rfl (Nat.le_of_ble_eq_true rfl) dX0_where_30 rfl ?_
        obtain ⟨h19, hf⟩ := ck_ex hf
        refine VE_cast cc_X0_173 h19 dX0_where_33 ?_
        refine VP_getI fa_X0_260 h19 rfl dX0_where_36 ?_
        refine V_iload_n dX0_where_39 rfl ?_
        refine V_icmp_gt (tgt := 53) dX0_where_40 (by decide) (fun hc20 => ?_) (fun hc20 => ?_)
        · have hf := if_t hf hc20
          refine V_iconst dX0_where_53 ckc_m1 ?_
          cases some_ex hf
          exact V_iret hE dX0_where_54
        · have hf := if_f hf hc20
          refine V_aload_n dX0_where_43 rfl ?_
          refine V_iload_n dX0_where_44 rfl ?_
          refine V_iload_n dX0_where_45 rfl ?_
          refine V_iload_n dX0_where_46 rfl ?_
          obtain ⟨r22, hc21, hf⟩ := bd1_ex hf
          refine V_cV (av := [.int p0, .int p1, .int p2]) (rest := []) (st' := [.int r22]) (mC_X0_placeOf_ok _ _ _ _ _ _ _ _ hc21) vc_X0_263 (kIn1 h1) (by decide) rfl rfl (Nat.le_of_ble_eq_true rfl) dX0_where_47 rfl ?_
          refine V_goto (tgt := 54) dX0_where_50 (by decide) ?_
          cases some_ex hf
          exact V_iret hE dX0_where_54
set_option maxHeartbeats 4000000 in
theorem mC_X0_likeOf_121_v {X : CX} {w0 : AH} {r : Int32}  (w : AH) (hE : XE X w0 4 (some (.int)) "likeOf" (.returned (some (.int r))) w) (hH : XH X []) (k76 : Nat → Nat → Int32 → Int32 → Option (Int32)) (hk76 : ∀ (v3 : Nat) (v4 : Nat) (v5 : Int32) (v6 : Int32), k76 v3 v4 v5 v6 = some r → V X cX0_likeOf RX0 7 4 w 76 [none, none, none, some (.ref v3), some (.ref v4), some (.int v5), some (.int v6)] []) (v3 : Nat) (v4 : Nat) (v6 : Int32) (t0 : Int32) (t1 : Int32) (hf : mC_X0_likeOf_121 w k76 v3 v4 v6 t0 t1 = some r) : V X cX0_likeOf RX0 7 4 w 121 [none, none, none, some (.ref v3), some (.ref v4), none, some (.int v6)] [.int t0, .int t1] := by
  unfold mC_X0_likeOf_121 at hf
  refine V_iadd dX0_likeOf_121 ?_
  refine V_istore (ls' := [none, none, none, some (.ref v3), some (.ref v4), some (.int (t1 + t0)), some (.int v6)]) dX0_likeOf_122 (by decide) rfl ?_
  refine V_inc (ls' := [none, none, none, some (.ref v3), some (.ref v4), some (.int (t1 + t0)), some (.int (v6 + (1 : Int32)))]) dX0_likeOf_124 rfl ckc_1 (by decide) rfl ?_
  refine V_goto (tgt := 76) dX0_likeOf_127 (by decide) ?_
  exact hk76 v3 v4 (t1 + t0) (v6 + (1 : Int32)) hf
set_option maxHeartbeats 4000000 in
theorem mC_X0_likeOf_76_v {X : CX} {w0 : AH} {r : Int32}  (w : AH) (hE : XE X w0 4 (some (.int)) "likeOf" (.returned (some (.int r))) w) (hH : XH X []) (k76 : Nat → Nat → Int32 → Int32 → Option (Int32)) (hk76 : ∀ (v3 : Nat) (v4 : Nat) (v5 : Int32) (v6 : Int32), k76 v3 v4 v5 v6 = some r → V X cX0_likeOf RX0 7 4 w 76 [none, none, none, some (.ref v3), some (.ref v4), some (.int v5), some (.int v6)] []) (v3 : Nat) (v4 : Nat) (v5 : Int32) (v6 : Int32) (hf : mC_X0_likeOf_76 w k76 v3 v4 v5 v6 = some r) : V X cX0_likeOf RX0 7 4 w 76 [none, none, none, some (.ref v3), some (.ref v4), some (.int v5), some (.int v6)] [] := by
  unfold mC_X0_likeOf_76 at hf
  refine V_iload dX0_likeOf_76 rfl ?_
  refine V_iconst dX0_likeOf_78 ckc_4 ?_
  refine V_icmp_ge (tgt := 130) dX0_likeOf_79 (by decide) (fun hc1 => ?_) (fun hc1 => ?_)
  · have hf := if_t hf hc1
    refine V_iload dX0_likeOf_130 rfl ?_
    cases some_ex hf
    exact V_iret hE dX0_likeOf_132
  · have hf := if_f hf hc1
    refine V_iload dX0_likeOf_82 rfl ?_
    refine V_aload_n dX0_likeOf_84 rfl ?_
    obtain ⟨h2, hf⟩ := ck_ex hf
    refine VP_getI fa_X0_254 h2 rfl dX0_likeOf_85 ?_
    refine V_bipush dX0_likeOf_88 ckb_8 ?_
    refine V_iload dX0_likeOf_90 rfl ?_
    refine V_imul dX0_likeOf_92 ?_
    refine V_ishr dX0_likeOf_93 ?_
    refine V_sipush dX0_likeOf_94 cks_255 ?_
    refine V_iand dX0_likeOf_97 ?_
    refine V_aload dX0_likeOf_98 rfl ?_
    obtain ⟨h3, hf⟩ := ck_ex hf
    refine VP_getI fa_X0_254 h3 rfl dX0_likeOf_100 ?_
    refine V_bipush dX0_likeOf_103 ckb_8 ?_
    refine V_iload dX0_likeOf_105 rfl ?_
    refine V_imul dX0_likeOf_107 ?_
    refine V_ishr dX0_likeOf_108 ?_
    refine V_sipush dX0_likeOf_109 cks_255 ?_
    refine V_iand dX0_likeOf_112 ?_
    refine V_icmp_ne (tgt := 120) dX0_likeOf_113 (by decide) (fun hc4 => ?_) (fun hc4 => ?_)
    · have hf := if_f hf hc4
      refine V_iconst dX0_likeOf_120 ckc_0 ?_
      refine V_keep [true, true, true, true, true, false, true] rfl ?_
      exact mC_X0_likeOf_121_v w hE hH k76 hk76 v3 v4 v6 (0 : Int32) v5 hf
    · have hf := if_t hf hc4
      refine V_iconst dX0_likeOf_116 ckc_1 ?_
      refine V_goto (tgt := 121) dX0_likeOf_117 (by decide) ?_
      refine V_keep [true, true, true, true, true, false, true] rfl ?_
      exact mC_X0_likeOf_121_v w hE hH k76 hk76 v3 v4 v6 (1 : Int32) v5 hf
set_option maxHeartbeats 4000000 in
theorem mC_X0_likeOf_70_v {X : CX} {w0 : AH} {r : Int32}  (w : AH) (hE : XE X w0 4 (some (.int)) "likeOf" (.returned (some (.int r))) w) (hH : XH X []) (v3 : Nat) (v4 : Nat) (t0 : Int32) (t1 : Int32) (hf : mC_X0_likeOf_70 w v3 v4 t0 t1 = some r) : V X cX0_likeOf RX0 7 4 w 70 [none, none, none, some (.ref v3), some (.ref v4), none, none] [.int t0, .int t1] := by
  unfold mC_X0_likeOf_70 at hf
  refine V_iadd dX0_likeOf_70 ?_
  refine V_istore (ls' := [none, none, none, some (.ref v3), some (.ref v4), some (.int (t1 + t0)), none]) dX0_likeOf_71 (by decide) rfl ?_
  refine V_iconst dX0_likeOf_73 ckc_0 ?_
  refine V_istore (ls' := [none, none, none, some (.ref v3), some (.ref v4), some (.int (t1 + t0)), some (.int (0 : Int32))]) dX0_likeOf_74 (by decide) rfl ?_
  exact lq4_ex (P := fun v3 v4 v5 v6 => V X cX0_likeOf RX0 7 4 w 76 [none, none, none, some (.ref v3), some (.ref v4), some (.int v5), some (.int v6)] []) (fun k hk v3 v4 v5 v6 hf => mC_X0_likeOf_76_v w hE hH k hk v3 v4 v5 v6 hf) LF v3 v4 (t1 + t0) (0 : Int32) hf
set_option maxHeartbeats 4000000 in
theorem mC_X0_likeOf_48_v {X : CX} {w0 : AH} {r : Int32}  (w : AH) (hE : XE X w0 4 (some (.int)) "likeOf" (.returned (some (.int r))) w) (hH : XH X []) (v3 : Nat) (v4 : Nat) (t0 : Int32) (hf : mC_X0_likeOf_48 w v3 v4 t0 = some r) : V X cX0_likeOf RX0 7 4 w 48 [none, none, none, some (.ref v3), some (.ref v4), none, none] [.int t0] := by
  unfold mC_X0_likeOf_48 at hf
  refine V_aload_n dX0_likeOf_48 rfl ?_
  obtain ⟨h1, hf⟩ := ck_ex hf
  refine VP_getI fa_X0_248 h1 rfl dX0_likeOf_49 ?_
  refine V_aload dX0_likeOf_52 rfl ?_
  obtain ⟨h2, hf⟩ := ck_ex hf
  refine VP_getI fa_X0_248 h2 rfl dX0_likeOf_54 ?_
  refine V_isub dX0_likeOf_57 ?_
  obtain ⟨r3, hm4, hf⟩ := st1_ex hf
  refine V_mabs q981 q982 q147 q983 (by decide) (Nat.le_of_ble_eq_true rfl) dX0_likeOf_58 ?_
  rw [hm4]
  refine V_iconst dX0_likeOf_61 ckc_2 ?_
  refine V_icmp_gt (tgt := 69) dX0_likeOf_62 (by decide) (fun hc5 => ?_) (fun hc5 => ?_)
  · have hf := if_t hf hc5
    refine V_iconst dX0_likeOf_69 ckc_0 ?_
    exact mC_X0_likeOf_70_v w hE hH v3 v4 (0 : Int32) t0 hf
  · have hf := if_f hf hc5
    refine V_iconst dX0_likeOf_65 ckc_1 ?_
    refine V_goto (tgt := 70) dX0_likeOf_66 (by decide) ?_
    exact mC_X0_likeOf_70_v w hE hH v3 v4 (1 : Int32) t0 hf
set_option maxHeartbeats 4000000 in
theorem mC_X0_likeOf_ok (l : Launch) (D : DD) (w : AH) (a : Nat) (p0 : Int32) (p1 : Int32) (r : Int32) (hf : mC_X0_likeOf a p0 p1 w = some r) : MA l D yX0_likeOf cX0_likeOf 7 (some (.int)) 4 [.ref a, .int p0, .int p1] w (.returned (some (.int r))) w := by
  refine MA.introH (own := RX0) (nm := "likeOf") (ls := [some (.ref a), some (.int p0), some (.int p1), none, none, none, none]) (by decide) rfl rfl (Nat.le_of_ble_eq_true rfl) rfl (fun X hl hD hE hH => ?_)
  subst hl hD
  unfold mC_X0_likeOf at hf
  refine V_aload_n dX0_likeOf_0 rfl ?_
  obtain ⟨h1, hf⟩ := ck_ex hf
  obtain ⟨b2, hb3, hf⟩ := bd1_ex hf
  refine VP_getR (x := some b2) fa_X0_10 h1 rfl rfl hb3 dX0_likeOf_1 ?_
  obtain ⟨h4, hf⟩ := ck_ex hf
  obtain ⟨b5, hb6, hf⟩ := bd1_ex hf
  refine VP_getR (x := some b5) fa_X0_144 h4 rfl rfl hb6 dX0_likeOf_4 ?_
  refine V_iload_n dX0_likeOf_7 rfl ?_
  obtain ⟨h7, hf⟩ := ck_ex hf
  obtain ⟨r9, hc8, hf⟩ := bd1_ex hf
  refine V_cV (av := [.int p0]) (rest := []) (st' := [.ref r9]) (mC_J2_get_ok _ _ _ _ _ _ hc8) vc_X0_232 (kIn1 h7) (by decide) rfl rfl (Nat.le_of_ble_eq_true rfl) dX0_likeOf_8 rfl ?_
  obtain ⟨h10, hf⟩ := ck_ex hf
  refine VE_cast cc_X0_173 h10 dX0_likeOf_11 ?_
  refine V_astore_n (ls' := [some (.ref a), some (.int p0), some (.int p1), some (.ref r9), none, none, none]) dX0_likeOf_14 (by decide) rfl ?_
  refine V_aload_n dX0_likeOf_15 rfl ?_
  refine VP_getR (x := some b2) fa_X0_10 h1 rfl rfl hb3 dX0_likeOf_16 ?_
  refine VP_getR (x := some b5) fa_X0_144 h4 rfl rfl hb6 dX0_likeOf_19 ?_
  refine V_iload_n dX0_likeOf_22 rfl ?_
  obtain ⟨r12, hc11, hf⟩ := bd1_ex hf
  refine V_cV (av := [.int p1]) (rest := []) (st' := [.ref r12]) (mC_J2_get_ok _ _ _ _ _ _ hc11) vc_X0_232 (kIn1 h7) (by decide) rfl rfl (Nat.le_of_ble_eq_true rfl) dX0_likeOf_23 rfl ?_
  obtain ⟨h13, hf⟩ := ck_ex hf
  refine VE_cast cc_X0_173 h13 dX0_likeOf_26 ?_
  refine V_astore (ls' := [some (.ref a), some (.int p0), some (.int p1), some (.ref r9), some (.ref r12), none, none]) dX0_likeOf_29 (by decide) rfl ?_
  refine V_aload_n dX0_likeOf_31 rfl ?_
  refine VP_getI fa_X0_245 h10 rfl dX0_likeOf_32 ?_
  refine V_aload dX0_likeOf_35 rfl ?_
  refine VP_getI fa_X0_245 h13 rfl dX0_likeOf_37 ?_
  refine V_icmp_ne (tgt := 47) dX0_likeOf_40 (by decide) (fun hc14 => ?_) (fun hc14 => ?_)
  · have hf := if_f hf hc14
    refine V_iconst dX0_likeOf_47 ckc_0 ?_
    refine V_keep [false, false, false, true, true, true, true] rfl ?_
    exact mC_X0_likeOf_48_v w hE hH r9 r12 (0 : Int32) hf
  · have hf := if_t hf hc14
    refine V_iconst dX0_likeOf_43 ckc_1 ?_
    refine V_goto (tgt := 48) dX0_likeOf_44 (by decide) ?_
    refine V_keep [false, false, false, true, true, true, true] rfl ?_
    exact mC_X0_likeOf_48_v w hE hH r9 r12 (1 : Int32) hf
set_option maxHeartbeats 4000000 in
theorem mC_X0_like_ok (l : Launch) (D : DD) (w : AH) (a : Nat) (p0 : Int32) (p1 : Int32) (r : Int32) (hf : mC_X0_like a p0 p1 w = some r) : MA l D yX0_like cX0_like 3 (some (.int)) 5 [.ref a, .int p0, .int p1] w (.returned (some (.int r))) w := by
  refine MA.introH (own := RX0) (nm := "like") (ls := [some (.ref a), some (.int p0), some (.int p1)]) (by decide) rfl rfl (Nat.le_of_ble_eq_true rfl) rfl (fun X hl hD hE hH => ?_)
  subst hl hD
  unfold mC_X0_like at hf
  refine V_aload_n dX0_like_0 rfl ?_
  refine V_iload_n dX0_like_1 rfl ?_
  obtain ⟨h1, hf⟩ := ck_ex hf
  obtain ⟨r3, hc2, hf⟩ := bd1_ex hf
  refine V_cV (av := [.int p0]) (rest := []) (st' := [.int r3]) (mC_X0_isName_ok _ _ _ _ _ _ hc2) vc_X0_226 (kIn1 h1) (by decide) rfl rfl (Nat.le_of_ble_eq_true rfl) dX0_like_2 rfl ?_
  refine V_if_eq (tgt := 30) dX0_like_5 (by decide) (fun hc4 => ?_) (fun hc4 => ?_)
  · have hf := if_t hf hc4
    refine V_iconst dX0_like_30 ckc_m1 ?_
    cases some_ex hf
    exact V_iret hE dX0_like_31
  · have hf := if_f hf hc4
    refine V_aload_n dX0_like_8 rfl ?_
    refine V_iload_n dX0_like_9 rfl ?_
    obtain ⟨r6, hc5, hf⟩ := bd1_ex hf
    refine V_cV (av := [.int p1]) (rest := []) (st' := [.int r6]) (mC_X0_isName_ok _ _ _ _ _ _ hc5) vc_X0_226 (kIn1 h1) (by decide) rfl rfl (Nat.le_of_ble_eq_true rfl) dX0_like_10 rfl ?_
    refine V_if_eq (tgt := 30) dX0_like_13 (by decide) (fun hc7 => ?_) (fun hc7 => ?_)
    · have hf := if_t hf hc7
      refine V_iconst dX0_like_30 ckc_m1 ?_
      cases some_ex hf
      exact V_iret hE dX0_like_31
    · have hf := if_f hf hc7
      refine V_iload_n dX0_like_16 rfl ?_
      refine V_iload_n dX0_like_17 rfl ?_
      refine V_icmp_eq (tgt := 30) dX0_like_18 (by decide) (fun hc8 => ?_) (fun hc8 => ?_)
      · have hf := if_t hf hc8
        refine V_iconst dX0_like_30 ckc_m1 ?_
        cases some_ex hf
        exact V_iret hE dX0_like_31
      · have hf := if_f hf hc8
        refine V_aload_n dX0_like_21 rfl ?_
        refine V_iload_n dX0_like_22 rfl ?_
        refine V_iload_n dX0_like_23 rfl ?_
        obtain ⟨r10, hc9, hf⟩ := bd1_ex hf
        refine V_cV (av := [.int p0, .int p1]) (rest := []) (st' := [.int r10]) (mC_X0_likeOf_ok _ _ _ _ _ _ _ hc9) vc_X0_267 (kIn1 h1) (by decide) rfl rfl (Nat.le_of_ble_eq_true rfl) dX0_like_24 rfl ?_
        refine V_goto (tgt := 31) dX0_like_27 (by decide) ?_
        cases some_ex hf
        exact V_iret hE dX0_like_31
set_option maxHeartbeats 4000000 in
theorem mC_X12_init_ok (l : Launch) (D : DD) (w : AH) (a : Nat) (p0 : Int32) (p1 : Int32) (p2 : Int32) (p3 : Int32) (p4 : Int32) (w' : AH) (hf : mC_X12_init a p0 p1 p2 p3 p4 w = some w') : MA l D yX12_init cX12_init 6 none 1 [.ref a, .int p0, .int p1, .int p2, .int p3, .int p4] w (.returned none) w' := by
  refine MA.introH (own := RX12) (nm := "<init>") (ls := [some (.ref a), some (.int p0), some (.int p1), some (.int p2), some (.int p3), some (.int p4)]) (by decide) rfl rfl (Nat.le_of_ble_eq_true rfl) rfl (fun X hl hD hE hH => ?_)
  subst hl hD
  unfold mC_X12_init at hf
  refine V_aload_n dX12_init_0 rfl ?_
  refine V_objInit q993 q182 q183 (by decide) (Nat.le_of_ble_eq_true rfl) dX12_init_1 ?_
  refine V_aload_n dX12_init_4 rfl ?_
  refine V_iload_n dX12_init_5 rfl ?_
  obtain ⟨h1, hf⟩ := ck_ex hf
  obtain ⟨w2, hs3, hf⟩ := st1_ex hf
  refine VE_putIF ff_X12_7 h1 hE.ini rfl rfl rfl hs3 dX12_init_6 ?_
  refine V_aload_n dX12_init_9 rfl ?_
  refine V_iload_n dX12_init_10 rfl ?_
  obtain ⟨h4, hf⟩ := ck_ex hf
  obtain ⟨w5, hs6, hf⟩ := st1_ex hf
  refine VE_putIF ff_X12_13 h4 hE.ini rfl rfl rfl hs6 dX12_init_11 ?_
  refine V_aload_n dX12_init_14 rfl ?_
  refine V_iload_n dX12_init_15 rfl ?_
  obtain ⟨h7, hf⟩ := ck_ex hf
  obtain ⟨w8, hs9, hf⟩ := st1_ex hf
  refine VE_putIF ff_X12_16 h7 hE.ini rfl rfl rfl hs9 dX12_init_16 ?_
  refine V_aload_n dX12_init_19 rfl ?_
  refine V_iload dX12_init_20 rfl ?_
  obtain ⟨h10, hf⟩ := ck_ex hf
  obtain ⟨w11, hs12, hf⟩ := st1_ex hf
  refine VE_putIF ff_X12_19 h10 hE.ini rfl rfl rfl hs12 dX12_init_22 ?_
  refine V_aload_n dX12_init_25 rfl ?_
  refine V_iload dX12_init_26 rfl ?_
  obtain ⟨h13, hf⟩ := ck_ex hf
  obtain ⟨w14, hs15, hf⟩ := st1_ex hf
  refine VE_putIF ff_X12_22 h13 hE.ini rfl rfl rfl hs15 dX12_init_28 ?_
  cases some_ex hf
  exact V_vret hE dX12_init_31
set_option maxHeartbeats 4000000 in
theorem mC_X0_apart_16_v {X : CX} {w0 : AH} {r : Int32} {w' : AH}  (hE : XE X w0 7 (some (.int)) "apart" (.returned (some (.int r))) w') (hH : XH X []) (v0 : Nat) (w : AH) (hf : mC_X0_apart_16 v0 w = some (r, w')) : V X cX0_apart RX0 3 7 w 16 [some (.ref v0), none, none] [] := by
  unfold mC_X0_apart_16 at hf
  refine V_aload_n dX0_apart_16 rfl ?_
  refine V_bipush dX0_apart_17 ckb_m2 ?_
  obtain ⟨h1, hf⟩ := ck_ex hf
  obtain ⟨r3, w4, hc2, hf⟩ := bd2_ex hf
  refine V_cV (av := [.int (-2 : Int32)]) (rest := []) (st' := [.int r3]) (mC_X0_refuse_ok _ _ _ _ _ _ _ hc2) vc_X0_131 (kIn1 h1) (by decide) rfl rfl (Nat.le_of_ble_eq_true rfl) dX0_apart_19 rfl ?_
  cases some_ex hf
  exact V_iret hE dX0_apart_22
set_option maxHeartbeats 4000000 in
theorem mC_X0_apart_ok (l : Launch) (D : DD) (w : AH) (a : Nat) (p0 : Int32) (p1 : Int32) (r : Int32) (w' : AH) (hf : mC_X0_apart a p0 p1 w = some (r, w')) : MA l D yX0_apart cX0_apart 3 (some (.int)) 7 [.ref a, .int p0, .int p1] w (.returned (some (.int r))) w' := by
  refine MA.introH (own := RX0) (nm := "apart") (ls := [some (.ref a), some (.int p0), some (.int p1)]) (by decide) rfl rfl (Nat.le_of_ble_eq_true rfl) rfl (fun X hl hD hE hH => ?_)
  subst hl hD
  unfold mC_X0_apart at hf
  refine V_aload_n dX0_apart_0 rfl ?_
  refine V_iload_n dX0_apart_1 rfl ?_
  obtain ⟨h1, hf⟩ := ck_ex hf
  obtain ⟨r3, hc2, hf⟩ := bd1_ex hf
  refine V_cV (av := [.int p0]) (rest := []) (st' := [.int r3]) (mC_X0_isName_ok _ _ _ _ _ _ hc2) vc_X0_226 (kIn1 h1) (by decide) rfl rfl (Nat.le_of_ble_eq_true rfl) dX0_apart_2 rfl ?_
  refine V_if_eq (tgt := 16) dX0_apart_5 (by decide) (fun hc4 => ?_) (fun hc4 => ?_)
  · have hf := if_t hf hc4
    refine V_keep [true, false, false] rfl ?_
    exact mC_X0_apart_16_v hE hH a w hf
  · have hf := if_f hf hc4
    refine V_aload_n dX0_apart_8 rfl ?_
    refine V_iload_n dX0_apart_9 rfl ?_
    obtain ⟨r6, hc5, hf⟩ := bd1_ex hf
    refine V_cV (av := [.int p1]) (rest := []) (st' := [.int r6]) (mC_X0_isName_ok _ _ _ _ _ _ hc5) vc_X0_226 (kIn1 h1) (by decide) rfl rfl (Nat.le_of_ble_eq_true rfl) dX0_apart_10 rfl ?_
    refine V_if_ne (tgt := 23) dX0_apart_13 (by decide) (fun hc7 => ?_) (fun hc7 => ?_)
    · have hf := if_f hf hc7
      refine V_iload_n dX0_apart_23 rfl ?_
      refine V_iload_n dX0_apart_24 rfl ?_
      refine V_icmp_ne (tgt := 35) dX0_apart_25 (by decide) (fun hc8 => ?_) (fun hc8 => ?_)
      · have hf := if_f hf hc8
        refine V_aload_n dX0_apart_35 rfl ?_
        obtain ⟨b9, hb10, hf⟩ := bd1_ex hf
        refine VP_getR (x := some b9) fa_X0_10 h1 rfl rfl hb10 dX0_apart_36 ?_
        obtain ⟨h11, hf⟩ := ck_ex hf
        obtain ⟨b12, hb13, hf⟩ := bd1_ex hf
        refine VP_getR (x := some b12) fa_X0_276 h11 rfl rfl hb13 dX0_apart_39 ?_
        obtain ⟨h14, hf⟩ := ck_ex hf
        obtain ⟨r16, hc15, hf⟩ := bd1_ex hf
        refine V_cV (av := []) (rest := []) (st' := [.int r16]) (mC_J2_size_ok _ _ _ _ _ hc15) vc_X0_148 (kIn1 h14) (by decide) rfl rfl (Nat.le_of_ble_eq_true rfl) dX0_apart_42 rfl ?_
        refine V_bipush dX0_apart_45 ckb_40 ?_
        refine V_icmp_ne (tgt := 57) dX0_apart_47 (by decide) (fun hc17 => ?_) (fun hc17 => ?_)
        · have hf := if_f hf hc17
          refine V_aload_n dX0_apart_57 rfl ?_
          refine VP_getR (x := some b9) fa_X0_10 h1 rfl rfl hb10 dX0_apart_58 ?_
          refine VP_getR (x := some b12) fa_X0_276 h11 rfl rfl hb13 dX0_apart_61 ?_
          obtain ⟨h18, hf⟩ := ck_ex hf
          obtain ⟨b19, hb20, hf⟩ := st1_ex hf
          obtain ⟨w21, hs22, hf⟩ := st1_ex hf
          refine VE_new clX12 q988 q989 q159 ok_X12 h18 hb20 hs22 dX0_apart_64 ?_
          refine V_dup dX0_apart_67 rfl ?_
          refine V_iload_n dX0_apart_68 rfl ?_
          refine V_iload_n dX0_apart_69 rfl ?_
          refine V_iconst dX0_apart_70 ckc_0 ?_
          refine V_iconst dX0_apart_71 ckc_0 ?_
          refine V_iconst dX0_apart_72 ckc_0 ?_
          obtain ⟨w24, hc23, hf⟩ := bd1_ex hf
          refine V_cI (av := [.int p0, .int p1, .int (0 : Int32), .int (0 : Int32), .int (0 : Int32)]) (rest := [.ref b19, .ref b12]) (st' := [.ref b19, .ref b12]) (mC_X12_init_ok _ _ _ _ _ _ _ _ _ _ hc23) ic_X0_281 (by decide) rfl rfl (Nat.le_of_ble_eq_true rfl) dX0_apart_73 rfl ?_
          obtain ⟨h25, hf⟩ := ck_ex hf
          obtain ⟨r27, w28, hc26, hf⟩ := bd2_ex hf
          refine V_cV (av := [.ref b19]) (rest := []) (st' := [.int r27]) (mC_J2_add_ok _ _ _ _ _ _ _ hc26) vc_X0_178 (kIn1 h25) (by decide) rfl rfl (Nat.le_of_ble_eq_true rfl) dX0_apart_76 rfl ?_
          refine V_pop dX0_apart_79 rfl ?_
          refine V_aload_n dX0_apart_80 rfl ?_
          refine V_aload_n dX0_apart_81 rfl ?_
          obtain ⟨h29, hf⟩ := ck_ex hf
          obtain ⟨b30, hb31, hf⟩ := bd1_ex hf
          refine VP_getR (x := some b30) fa_X0_10 h29 rfl rfl hb31 dX0_apart_82 ?_
          obtain ⟨h32, hf⟩ := ck_ex hf
          obtain ⟨b33, hb34, hf⟩ := bd1_ex hf
          refine VP_getR (x := some b33) fa_X0_276 h32 rfl rfl hb34 dX0_apart_85 ?_
          obtain ⟨h35, hf⟩ := ck_ex hf
          obtain ⟨r37, hc36, hf⟩ := bd1_ex hf
          refine V_cV (av := []) (rest := [.ref a]) (st' := [.int r37, .ref a]) (mC_J2_size_ok _ _ _ _ _ hc36) vc_X0_148 (kIn1 h35) (by decide) rfl rfl (Nat.le_of_ble_eq_true rfl) dX0_apart_88 rfl ?_
          obtain ⟨r39, w40, hc38, hf⟩ := bd2_ex hf
          refine V_cV (av := [.int r37]) (rest := []) (st' := [.int r39]) (mC_X0_told_ok _ _ _ _ _ _ _ hc38) vc_X0_138 (kIn1 h29) (by decide) rfl rfl (Nat.le_of_ble_eq_true rfl) dX0_apart_91 rfl ?_
          cases some_ex hf
          exact V_iret hE dX0_apart_94
        · have hf := if_t hf hc17
          refine V_aload_n dX0_apart_50 rfl ?_
          refine V_bipush dX0_apart_51 ckb_m5 ?_
          obtain ⟨r42, w43, hc41, hf⟩ := bd2_ex hf
          refine V_cV (av := [.int (-5 : Int32)]) (rest := []) (st' := [.int r42]) (mC_X0_refuse_ok _ _ _ _ _ _ _ hc41) vc_X0_131 (kIn1 h1) (by decide) rfl rfl (Nat.le_of_ble_eq_true rfl) dX0_apart_53 rfl ?_
          cases some_ex hf
          exact V_iret hE dX0_apart_56
      · have hf := if_t hf hc8
        refine V_aload_n dX0_apart_28 rfl ?_
        refine V_bipush dX0_apart_29 ckb_m3 ?_
        obtain ⟨r45, w46, hc44, hf⟩ := bd2_ex hf
        refine V_cV (av := [.int (-3 : Int32)]) (rest := []) (st' := [.int r45]) (mC_X0_refuse_ok _ _ _ _ _ _ _ hc44) vc_X0_131 (kIn1 h1) (by decide) rfl rfl (Nat.le_of_ble_eq_true rfl) dX0_apart_31 rfl ?_
        cases some_ex hf
        exact V_iret hE dX0_apart_34
    · have hf := if_t hf hc7
      refine V_keep [true, false, false] rfl ?_
      exact mC_X0_apart_16_v hE hH a w hf
set_option maxHeartbeats 4000000 in
theorem mC_X0_four_3_v {X : CX} {w0 : AH} {w' : AH}  (hE : XE X w0 1 none "four" (.returned none) w') (hH : XH X []) (k3 : Nat → Int32 → Int32 → AH → Option (AH)) (hk3 : ∀ (v0 : Nat) (v1 : Int32) (v2 : Int32) (w : AH), k3 v0 v1 v2 w = some w' → V X cX0_four RX0 3 1 w 3 [some (.ref v0), some (.int v1), some (.int v2)] []) (v0 : Nat) (v1 : Int32) (v2 : Int32) (w : AH) (hf : mC_X0_four_3 k3 v0 v1 v2 w = some w') : V X cX0_four RX0 3 1 w 3 [some (.ref v0), some (.int v1), some (.int v2)] [] := by
  unfold mC_X0_four_3 at hf
  refine V_iload_n dX0_four_3 rfl ?_
  refine V_if_lt (tgt := 36) dX0_four_4 (by decide) (fun hc1 => ?_) (fun hc1 => ?_)
  · have hf := if_t hf hc1
    cases some_ex hf
    exact V_vret hE dX0_four_36
  · have hf := if_f hf hc1
    refine V_aload_n dX0_four_7 rfl ?_
    obtain ⟨h2, hf⟩ := ck_ex hf
    obtain ⟨b3, hb4, hf⟩ := bd1_ex hf
    refine VP_getR (x := some b3) fa_X0_20 h2 rfl rfl hb4 dX0_four_8 ?_
    refine V_aload_n dX0_four_11 rfl ?_
    refine VP_getI fa_X0_213 h2 rfl dX0_four_12 ?_
    refine V_iload_n dX0_four_15 rfl ?_
    refine V_iload_n dX0_four_16 rfl ?_
    refine V_ishr dX0_four_17 ?_
    refine V_i2b dX0_four_18 ?_
    obtain ⟨h5, hf⟩ := ck_ex hf
    obtain ⟨w6, hs7, hf⟩ := st1_ex hf
    refine VE_bast h5 rfl hs7 dX0_four_19 ?_
    refine V_aload_n dX0_four_20 rfl ?_
    refine V_dup dX0_four_21 rfl ?_
    obtain ⟨h8, hf⟩ := ck_ex hf
    refine VP_getI fa_X0_213 h8 rfl dX0_four_22 ?_
    refine V_iconst dX0_four_25 ckc_1 ?_
    refine V_iadd dX0_four_26 ?_
    obtain ⟨w9, hs10, hf⟩ := st1_ex hf
    refine VE_putI fw_X0_213 h8 rfl rfl rfl hs10 dX0_four_27 ?_
    refine V_inc (ls' := [some (.ref v0), some (.int v1), some (.int (v2 + (-8 : Int32)))]) dX0_four_30 rfl ckc_m8 (by decide) rfl ?_
    refine V_goto (tgt := 3) dX0_four_33 (by decide) ?_
    exact hk3 v0 v1 (v2 + (-8 : Int32)) w9 hf
set_option maxHeartbeats 4000000 in
theorem mC_X0_four_ok (l : Launch) (D : DD) (w : AH) (a : Nat) (p0 : Int32) (w' : AH) (hf : mC_X0_four a p0 w = some w') : MA l D yX0_four cX0_four 3 none 1 [.ref a, .int p0] w (.returned none) w' := by
  refine MA.introH (own := RX0) (nm := "four") (ls := [some (.ref a), some (.int p0), none]) (by decide) rfl rfl (Nat.le_of_ble_eq_true rfl) rfl (fun X hl hD hE hH => ?_)
  subst hl hD
  unfold mC_X0_four at hf
  refine V_bipush dX0_four_0 ckb_24 ?_
  refine V_istore_n (ls' := [some (.ref a), some (.int p0), some (.int (24 : Int32))]) dX0_four_2 (by decide) rfl ?_
  exact lq4_ex (P := fun v0 v1 v2 w => V X cX0_four RX0 3 1 w 3 [some (.ref v0), some (.int v1), some (.int v2)] []) (fun k hk v0 v1 v2 w hf => mC_X0_four_3_v hE hH k hk v0 v1 v2 w hf) LF a p0 (24 : Int32) w hf
set_option maxHeartbeats 4000000 in
theorem mC_X0_feed_ok (l : Launch) (D : DD) (w : AH) (a : Nat) (p0 : Int32) (p1 : Int32) (p2 : Int32) (p3 : Int32) (p4 : Int32) (r : Int32) (w' : AH) (hf : mC_X0_feed a p0 p1 p2 p3 p4 w = some (r, w')) : MA l D yX0_feed cX0_feed 6 (some (.int)) 2 [.ref a, .int p0, .int p1, .int p2, .int p3, .int p4] w (.returned (some (.int r))) w' := by
  refine MA.introH (own := RX0) (nm := "feed") (ls := [some (.ref a), some (.int p0), some (.int p1), some (.int p2), some (.int p3), some (.int p4)]) (by decide) rfl rfl (Nat.le_of_ble_eq_true rfl) rfl (fun X hl hD hE hH => ?_)
  subst hl hD
  unfold mC_X0_feed at hf
  refine V_aload_n dX0_feed_0 rfl ?_
  obtain ⟨h1, hf⟩ := ck_ex hf
  refine VP_getI fa_X0_213 h1 rfl dX0_feed_1 ?_
  refine V_bipush dX0_feed_4 ckb_20 ?_
  refine V_iadd dX0_feed_6 ?_
  refine V_sipush dX0_feed_7 cks_400 ?_
  refine V_icmp_le (tgt := 15) dX0_feed_10 (by decide) (fun hc2 => ?_) (fun hc2 => ?_)
  · have hf := if_t hf hc2
    refine V_aload_n dX0_feed_15 rfl ?_
    refine V_iload_n dX0_feed_16 rfl ?_
    obtain ⟨w4, hc3, hf⟩ := bd1_ex hf
    refine V_cV (av := [.int p0]) (rest := []) (st' := []) (mC_X0_four_ok _ _ _ _ _ _ hc3) vc_X0_288 (kIn1 h1) (by decide) rfl rfl (Nat.le_of_ble_eq_true rfl) dX0_feed_17 rfl ?_
    refine V_aload_n dX0_feed_20 rfl ?_
    refine V_iload_n dX0_feed_21 rfl ?_
    obtain ⟨h5, hf⟩ := ck_ex hf
    obtain ⟨w7, hc6, hf⟩ := bd1_ex hf
    refine V_cV (av := [.int p1]) (rest := []) (st' := []) (mC_X0_four_ok _ _ _ _ _ _ hc6) vc_X0_288 (kIn1 h5) (by decide) rfl rfl (Nat.le_of_ble_eq_true rfl) dX0_feed_22 rfl ?_
    refine V_aload_n dX0_feed_25 rfl ?_
    refine V_iload_n dX0_feed_26 rfl ?_
    obtain ⟨h8, hf⟩ := ck_ex hf
    obtain ⟨w10, hc9, hf⟩ := bd1_ex hf
    refine V_cV (av := [.int p2]) (rest := []) (st' := []) (mC_X0_four_ok _ _ _ _ _ _ hc9) vc_X0_288 (kIn1 h8) (by decide) rfl rfl (Nat.le_of_ble_eq_true rfl) dX0_feed_27 rfl ?_
    refine V_aload_n dX0_feed_30 rfl ?_
    refine V_iload dX0_feed_31 rfl ?_
    obtain ⟨h11, hf⟩ := ck_ex hf
    obtain ⟨w13, hc12, hf⟩ := bd1_ex hf
    refine V_cV (av := [.int p3]) (rest := []) (st' := []) (mC_X0_four_ok _ _ _ _ _ _ hc12) vc_X0_288 (kIn1 h11) (by decide) rfl rfl (Nat.le_of_ble_eq_true rfl) dX0_feed_33 rfl ?_
    refine V_aload_n dX0_feed_36 rfl ?_
    refine V_iload dX0_feed_37 rfl ?_
    obtain ⟨h14, hf⟩ := ck_ex hf
    obtain ⟨w16, hc15, hf⟩ := bd1_ex hf
    refine V_cV (av := [.int p4]) (rest := []) (st' := []) (mC_X0_four_ok _ _ _ _ _ _ hc15) vc_X0_288 (kIn1 h14) (by decide) rfl rfl (Nat.le_of_ble_eq_true rfl) dX0_feed_39 rfl ?_
    refine V_aload_n dX0_feed_42 rfl ?_
    obtain ⟨h17, hf⟩ := ck_ex hf
    refine VP_getI fa_X0_213 h17 rfl dX0_feed_43 ?_
    cases some_ex hf
    exact V_iret hE dX0_feed_46
  · have hf := if_f hf hc2
    refine V_iconst dX0_feed_13 ckc_m1 ?_
    cases some_ex hf
    exact V_iret hE dX0_feed_14
set_option maxHeartbeats 4000000 in
theorem mC_X0_end_ok (l : Launch) (D : DD) (w : AH) (a : Nat) (p0 : Int32) (r : Int32) (w' : AH) (hf : mC_X0_end a p0 w = some (r, w')) : MA l D yX0_end cX0_end 2 (some (.int)) 1 [.ref a, .int p0] w (.returned (some (.int r))) w' := by
  refine MA.introH (own := RX0) (nm := "end") (ls := [some (.ref a), some (.int p0)]) (by decide) rfl rfl (Nat.le_of_ble_eq_true rfl) rfl (fun X hl hD hE hH => ?_)
  subst hl hD
  unfold mC_X0_end at hf
  refine V_iload_n dX0_end_0 rfl ?_
  refine V_if_lt (tgt := 12) dX0_end_1 (by decide) (fun hc1 => ?_) (fun hc1 => ?_)
  · have hf := if_t hf hc1
    refine V_iconst dX0_end_12 ckc_m1 ?_
    cases some_ex hf
    exact V_iret hE dX0_end_13
  · have hf := if_f hf hc1
    refine V_iload_n dX0_end_4 rfl ?_
    refine V_aload_n dX0_end_5 rfl ?_
    obtain ⟨h2, hf⟩ := ck_ex hf
    refine VP_getI fa_X0_213 h2 rfl dX0_end_6 ?_
    refine V_icmp_le (tgt := 14) dX0_end_9 (by decide) (fun hc3 => ?_) (fun hc3 => ?_)
    · have hf := if_t hf hc3
      refine V_aload_n dX0_end_14 rfl ?_
      refine V_iload_n dX0_end_15 rfl ?_
      obtain ⟨w4, hs5, hf⟩ := st1_ex hf
      refine VE_putI fw_X0_213 h2 rfl rfl rfl hs5 dX0_end_16 ?_
      refine V_iload_n dX0_end_19 rfl ?_
      cases some_ex hf
      exact V_iret hE dX0_end_20
    · have hf := if_f hf hc3
      refine V_iconst dX0_end_12 ckc_m1 ?_
      cases some_ex hf
      exact V_iret hE dX0_end_13
set_option maxHeartbeats 4000000 in
theorem mC_X13_init_ok (l : Launch) (D : DD) (w : AH) (a : Nat) (p0 : Nat) (p1 : Int32) (w' : AH) (hf : mC_X13_init a p0 p1 w = some w') : MA l D yX13_init cX13_init 3 none 4 [.ref a, .ref p0, .int p1] w (.returned none) w' := by
  refine MA.introH (own := RX13) (nm := "<init>") (ls := [some (.ref a), some (.ref p0), some (.int p1)]) (by decide) rfl rfl (Nat.le_of_ble_eq_true rfl) rfl (fun X hl hD hE hH => ?_)
  subst hl hD
  unfold mC_X13_init at hf
  refine V_aload_n dX13_init_0 rfl ?_
  refine V_objInit q1041 q182 q183 (by decide) (Nat.le_of_ble_eq_true rfl) dX13_init_1 ?_
  refine V_aload_n dX13_init_4 rfl ?_
  obtain ⟨h1, hf⟩ := ck_ex hf
  obtain ⟨b2, hb3, hf⟩ := st1_ex hf
  obtain ⟨w4, hs5, hf⟩ := st1_ex hf
  refine VE_new clJ2 q1042 q191 q136 ok_J2 h1 hb3 hs5 dX13_init_5 ?_
  refine V_dup dX13_init_8 rfl ?_
  refine V_iconst dX13_init_9 ckc_2 ?_
  obtain ⟨w7, hc6, hf⟩ := bd1_ex hf
  refine V_cI (av := [.int (2 : Int32)]) (rest := [.ref b2, .ref a]) (st' := [.ref b2, .ref a]) (mC_J2_init_ok _ _ _ _ _ _ hc6) ic_X13_11 (by decide) rfl rfl (Nat.le_of_ble_eq_true rfl) dX13_init_10 rfl ?_
  obtain ⟨h8, hf⟩ := ck_ex hf
  obtain ⟨w9, hs10, hf⟩ := st1_ex hf
  refine VE_putRF (x := (some b2)) ff_X13_14 h8 hE.ini rfl hs10 dX13_init_13 ?_
  refine V_aload_n dX13_init_16 rfl ?_
  refine V_aload_n dX13_init_17 rfl ?_
  obtain ⟨h11, hf⟩ := ck_ex hf
  obtain ⟨w12, hs13, hf⟩ := st1_ex hf
  refine VE_putRF (x := (some p0)) ff_X13_20 h11 hE.ini rfl hs13 dX13_init_18 ?_
  refine V_aload_n dX13_init_21 rfl ?_
  refine V_iload_n dX13_init_22 rfl ?_
  obtain ⟨h14, hf⟩ := ck_ex hf
  obtain ⟨w15, hs16, hf⟩ := st1_ex hf
  refine VE_putIF ff_X13_24 h14 hE.ini rfl rfl rfl hs16 dX13_init_23 ?_
  cases some_ex hf
  exact V_vret hE dX13_init_26
set_option maxHeartbeats 4000000 in
theorem mC_X13_isIn_ok (l : Launch) (D : DD) (w : AH) (a : Nat) (p0 : Int32) (p1 : Int32) (p2 : Int32) (r : Int32) (hf : mC_X13_isIn a p0 p1 p2 w = some r) : MA l D yX13_isIn cX13_isIn 4 (some (.boolean)) 1 [.ref a, .int p0, .int p1, .int p2] w (.returned (some (.int r))) w := by
  refine MA.introH (own := RX13) (nm := "isIn") (ls := [some (.ref a), some (.int p0), some (.int p1), some (.int p2)]) (by decide) rfl rfl (Nat.le_of_ble_eq_true rfl) rfl (fun X hl hD hE hH => ?_)
  subst hl hD
  unfold mC_X13_isIn at hf
  refine V_iload_n dX13_isIn_0 rfl ?_
  refine V_aload_n dX13_isIn_1 rfl ?_
  obtain ⟨h1, hf⟩ := ck_ex hf
  refine VP_getI fa_X13_24 h1 rfl dX13_isIn_2 ?_
  refine V_icmp_ge (tgt := 32) dX13_isIn_5 (by decide) (fun hc2 => ?_) (fun hc2 => ?_)
  · have hf := if_t hf hc2
    refine V_iconst dX13_isIn_32 ckc_0 ?_
    cases some_ex hf
    exact V_zret hE (by decide) dX13_isIn_33
  · have hf := if_f hf hc2
    refine V_aload_n dX13_isIn_8 rfl ?_
    obtain ⟨b3, hb4, hf⟩ := bd1_ex hf
    refine VP_getR (x := some b3) fa_X13_20 h1 rfl rfl hb4 dX13_isIn_9 ?_
    refine V_iload_n dX13_isIn_12 rfl ?_
    obtain ⟨h5, hf⟩ := ck_ex hf
    refine VE_bald h5 rfl dX13_isIn_13 ?_
    refine V_iload_n dX13_isIn_14 rfl ?_
    refine V_icmp_lt (tgt := 32) dX13_isIn_15 (by decide) (fun hc6 => ?_) (fun hc6 => ?_)
    · have hf := if_t hf hc6
      refine V_iconst dX13_isIn_32 ckc_0 ?_
      cases some_ex hf
      exact V_zret hE (by decide) dX13_isIn_33
    · have hf := if_f hf hc6
      refine V_aload_n dX13_isIn_18 rfl ?_
      refine VP_getR (x := some b3) fa_X13_20 h1 rfl rfl hb4 dX13_isIn_19 ?_
      refine V_iload_n dX13_isIn_22 rfl ?_
      refine VE_bald h5 rfl dX13_isIn_23 ?_
      refine V_iload_n dX13_isIn_24 rfl ?_
      refine V_icmp_gt (tgt := 32) dX13_isIn_25 (by decide) (fun hc7 => ?_) (fun hc7 => ?_)
      · have hf := if_t hf hc7
        refine V_iconst dX13_isIn_32 ckc_0 ?_
        cases some_ex hf
        exact V_zret hE (by decide) dX13_isIn_33
      · have hf := if_f hf hc7
        refine V_iconst dX13_isIn_28 ckc_1 ?_
        refine V_goto (tgt := 33) dX13_isIn_29 (by decide) ?_
        cases some_ex hf
        exact V_zret hE (by decide) dX13_isIn_33
set_option maxHeartbeats 4000000 in
theorem mC_X13_next_102_v {X : CX} {w0 : AH} {w' : AH}  (hE : XE X w0 2 none "next" (.returned none) w') (hH : XH X []) (k102 : Nat → AH → Option (AH)) (hk102 : ∀ (v0 : Nat) (w : AH), k102 v0 w = some w' → V X cX13_next RX13 1 2 w 102 [some (.ref v0)] []) (v0 : Nat) (w : AH) (hf : mC_X13_next_102 k102 v0 w = some w') : V X cX13_next RX13 1 2 w 102 [some (.ref v0)] [] := by
  unfold mC_X13_next_102 at hf
  refine V_aload_n dX13_next_102 rfl ?_
  refine V_aload_n dX13_next_103 rfl ?_
  obtain ⟨h1, hf⟩ := ck_ex hf
  refine VP_getI fa_X13_28 h1 rfl dX13_next_104 ?_
  refine V_bipush dX13_next_107 ckb_48 ?_
  refine V_bipush dX13_next_109 ckb_57 ?_
  obtain ⟨r3, hc2, hf⟩ := bd1_ex hf
  refine V_cV (av := [.int (hvi w v0 4), .int (48 : Int32), .int (57 : Int32)]) (rest := []) (st' := [.int r3]) (mC_X13_isIn_ok _ _ _ _ _ _ _ _ hc2) vc_X13_34 (kIn1 h1) (by decide) rfl rfl (Nat.le_of_ble_eq_true rfl) dX13_next_111 rfl ?_
  refine V_if_eq (tgt := 151) dX13_next_114 (by decide) (fun hc4 => ?_) (fun hc4 => ?_)
  · have hf := if_t hf hc4
    cases some_ex hf
    exact V_vret hE dX13_next_151
  · have hf := if_f hf hc4
    refine V_aload_n dX13_next_117 rfl ?_
    refine V_dup dX13_next_118 rfl ?_
    refine VP_getI fa_X13_28 h1 rfl dX13_next_119 ?_
    refine V_iconst dX13_next_122 ckc_1 ?_
    refine V_iadd dX13_next_123 ?_
    obtain ⟨w5, hs6, hf⟩ := st1_ex hf
    refine VE_putI fw_X13_28 h1 rfl rfl rfl hs6 dX13_next_124 ?_
    refine V_goto (tgt := 102) dX13_next_127 (by decide) ?_
    exact hk102 v0 w5 hf
set_option maxHeartbeats 4000000 in
theorem mC_X13_next_59_v {X : CX} {w0 : AH} {w' : AH}  (hE : XE X w0 2 none "next" (.returned none) w') (hH : XH X []) (k59 : Nat → AH → Option (AH)) (hk59 : ∀ (v0 : Nat) (w : AH), k59 v0 w = some w' → V X cX13_next RX13 1 2 w 59 [some (.ref v0)] []) (v0 : Nat) (w : AH) (hf : mC_X13_next_59 k59 v0 w = some w') : V X cX13_next RX13 1 2 w 59 [some (.ref v0)] [] := by
  unfold mC_X13_next_59 at hf
  refine V_aload_n dX13_next_59 rfl ?_
  refine V_aload_n dX13_next_60 rfl ?_
  obtain ⟨h1, hf⟩ := ck_ex hf
  refine VP_getI fa_X13_28 h1 rfl dX13_next_61 ?_
  refine V_bipush dX13_next_64 ckb_97 ?_
  refine V_bipush dX13_next_66 ckb_122 ?_
  obtain ⟨r3, hc2, hf⟩ := bd1_ex hf
  refine V_cV (av := [.int (hvi w v0 4), .int (97 : Int32), .int (122 : Int32)]) (rest := []) (st' := [.int r3]) (mC_X13_isIn_ok _ _ _ _ _ _ _ _ hc2) vc_X13_34 (kIn1 h1) (by decide) rfl rfl (Nat.le_of_ble_eq_true rfl) dX13_next_68 rfl ?_
  refine V_if_eq (tgt := 151) dX13_next_71 (by decide) (fun hc4 => ?_) (fun hc4 => ?_)
  · have hf := if_t hf hc4
    cases some_ex hf
    exact V_vret hE dX13_next_151
  · have hf := if_f hf hc4
    refine V_aload_n dX13_next_74 rfl ?_
    refine V_dup dX13_next_75 rfl ?_
    refine VP_getI fa_X13_28 h1 rfl dX13_next_76 ?_
    refine V_iconst dX13_next_79 ckc_1 ?_
    refine V_iadd dX13_next_80 ?_
    obtain ⟨w5, hs6, hf⟩ := st1_ex hf
    refine VE_putI fw_X13_28 h1 rfl rfl rfl hs6 dX13_next_81 ?_
    refine V_goto (tgt := 59) dX13_next_84 (by decide) ?_
    exact hk59 v0 w5 hf
set_option maxHeartbeats 4000000 in
theorem mC_X13_next_8_v {X : CX} {w0 : AH} {w' : AH}  (hE : XE X w0 2 none "next" (.returned none) w') (hH : XH X []) (k8 : Nat → AH → Option (AH)) (hk8 : ∀ (v0 : Nat) (w : AH), k8 v0 w = some w' → V X cX13_next RX13 1 2 w 8 [some (.ref v0)] []) (v0 : Nat) (w : AH) (hf : mC_X13_next_8 k8 v0 w = some w') : V X cX13_next RX13 1 2 w 8 [some (.ref v0)] [] := by
  unfold mC_X13_next_8 at hf
  refine V_aload_n dX13_next_8 rfl ?_
  refine V_aload_n dX13_next_9 rfl ?_
  obtain ⟨h1, hf⟩ := ck_ex hf
  refine VP_getI fa_X13_31 h1 rfl dX13_next_10 ?_
  refine V_bipush dX13_next_13 ckb_32 ?_
  refine V_bipush dX13_next_15 ckb_32 ?_
  obtain ⟨r3, hc2, hf⟩ := bd1_ex hf
  refine V_cV (av := [.int (hvi w v0 3), .int (32 : Int32), .int (32 : Int32)]) (rest := []) (st' := [.int r3]) (mC_X13_isIn_ok _ _ _ _ _ _ _ _ hc2) vc_X13_34 (kIn1 h1) (by decide) rfl rfl (Nat.le_of_ble_eq_true rfl) dX13_next_17 rfl ?_
  refine V_if_eq (tgt := 36) dX13_next_20 (by decide) (fun hc4 => ?_) (fun hc4 => ?_)
  · have hf := if_t hf hc4
    refine V_aload_n dX13_next_36 rfl ?_
    refine V_aload_n dX13_next_37 rfl ?_
    refine VP_getI fa_X13_31 h1 rfl dX13_next_38 ?_
    obtain ⟨w5, hs6, hf⟩ := st1_ex hf
    refine VE_putI fw_X13_28 h1 rfl rfl rfl hs6 dX13_next_41 ?_
    refine V_aload_n dX13_next_44 rfl ?_
    refine V_aload_n dX13_next_45 rfl ?_
    obtain ⟨h7, hf⟩ := ck_ex hf
    refine VP_getI fa_X13_31 h7 rfl dX13_next_46 ?_
    refine V_bipush dX13_next_49 ckb_97 ?_
    refine V_bipush dX13_next_51 ckb_122 ?_
    obtain ⟨r9, hc8, hf⟩ := bd1_ex hf
    refine V_cV (av := [.int (hvi w5 v0 3), .int (97 : Int32), .int (122 : Int32)]) (rest := []) (st' := [.int r9]) (mC_X13_isIn_ok _ _ _ _ _ _ _ _ hc8) vc_X13_34 (kIn1 h7) (by decide) rfl rfl (Nat.le_of_ble_eq_true rfl) dX13_next_53 rfl ?_
    refine V_if_eq (tgt := 87) dX13_next_56 (by decide) (fun hc10 => ?_) (fun hc10 => ?_)
    · have hf := if_t hf hc10
      refine V_aload_n dX13_next_87 rfl ?_
      refine V_aload_n dX13_next_88 rfl ?_
      refine VP_getI fa_X13_31 h7 rfl dX13_next_89 ?_
      refine V_bipush dX13_next_92 ckb_48 ?_
      refine V_bipush dX13_next_94 ckb_57 ?_
      obtain ⟨r12, hc11, hf⟩ := bd1_ex hf
      refine V_cV (av := [.int (hvi w5 v0 3), .int (48 : Int32), .int (57 : Int32)]) (rest := []) (st' := [.int r12]) (mC_X13_isIn_ok _ _ _ _ _ _ _ _ hc11) vc_X13_34 (kIn1 h7) (by decide) rfl rfl (Nat.le_of_ble_eq_true rfl) dX13_next_96 rfl ?_
      refine V_if_eq (tgt := 130) dX13_next_99 (by decide) (fun hc13 => ?_) (fun hc13 => ?_)
      · have hf := if_t hf hc13
        refine V_aload_n dX13_next_130 rfl ?_
        refine VP_getI fa_X13_31 h7 rfl dX13_next_131 ?_
        refine V_aload_n dX13_next_134 rfl ?_
        refine VP_getI fa_X13_24 h7 rfl dX13_next_135 ?_
        refine V_icmp_ge (tgt := 151) dX13_next_138 (by decide) (fun hc14 => ?_) (fun hc14 => ?_)
        · have hf := if_t hf hc14
          cases some_ex hf
          exact V_vret hE dX13_next_151
        · have hf := if_f hf hc14
          refine V_aload_n dX13_next_141 rfl ?_
          refine V_dup dX13_next_142 rfl ?_
          refine VP_getI fa_X13_28 h7 rfl dX13_next_143 ?_
          refine V_iconst dX13_next_146 ckc_1 ?_
          refine V_iadd dX13_next_147 ?_
          obtain ⟨w15, hs16, hf⟩ := st1_ex hf
          refine VE_putI fw_X13_28 h7 rfl rfl rfl hs16 dX13_next_148 ?_
          cases some_ex hf
          exact V_vret hE dX13_next_151
      · have hf := if_f hf hc13
        exact lq2_ex (P := fun v0 w => V X cX13_next RX13 1 2 w 102 [some (.ref v0)] []) (fun k hk v0 w hf => mC_X13_next_102_v hE hH k hk v0 w hf) LF v0 w5 hf
    · have hf := if_f hf hc10
      exact lq2_ex (P := fun v0 w => V X cX13_next RX13 1 2 w 59 [some (.ref v0)] []) (fun k hk v0 w hf => mC_X13_next_59_v hE hH k hk v0 w hf) LF v0 w5 hf
  · have hf := if_f hf hc4
    refine V_aload_n dX13_next_23 rfl ?_
    refine V_dup dX13_next_24 rfl ?_
    refine VP_getI fa_X13_31 h1 rfl dX13_next_25 ?_
    refine V_iconst dX13_next_28 ckc_1 ?_
    refine V_iadd dX13_next_29 ?_
    obtain ⟨w17, hs18, hf⟩ := st1_ex hf
    refine VE_putI fw_X13_31 h1 rfl rfl rfl hs18 dX13_next_30 ?_
    refine V_goto (tgt := 8) dX13_next_33 (by decide) ?_
    exact hk8 v0 w17 hf
set_option maxHeartbeats 4000000 in
theorem mC_X13_next_ok (l : Launch) (D : DD) (w : AH) (a : Nat) (w' : AH) (hf : mC_X13_next a w = some w') : MA l D yX13_next cX13_next 1 none 2 [.ref a] w (.returned none) w' := by
  refine MA.introH (own := RX13) (nm := "next") (ls := [some (.ref a)]) (by decide) rfl rfl (Nat.le_of_ble_eq_true rfl) rfl (fun X hl hD hE hH => ?_)
  subst hl hD
  unfold mC_X13_next at hf
  refine V_aload_n dX13_next_0 rfl ?_
  refine V_aload_n dX13_next_1 rfl ?_
  obtain ⟨h1, hf⟩ := ck_ex hf
  refine VP_getI fa_X13_28 h1 rfl dX13_next_2 ?_
  obtain ⟨w2, hs3, hf⟩ := st1_ex hf
  refine VE_putI fw_X13_31 h1 rfl rfl rfl hs3 dX13_next_5 ?_
  exact lq2_ex (P := fun v0 w => V X cX13_next RX13 1 2 w 8 [some (.ref v0)] []) (fun k hk v0 w hf => mC_X13_next_8_v hE hH k hk v0 w hf) LF a w2 hf
set_option maxHeartbeats 4000000 in
theorem mC_X14_init_ok (l : Launch) (D : DD) (w : AH) (a : Nat) (p0 : Int32) (w' : AH) (hf : mC_X14_init a p0 w = some w') : MA l D yX14_init cX14_init 2 none 3 [.ref a, .int p0] w (.returned none) w' := by
  refine MA.introH (own := RX14) (nm := "<init>") (ls := [some (.ref a), some (.int p0)]) (by decide) rfl rfl (Nat.le_of_ble_eq_true rfl) rfl (fun X hl hD hE hH => ?_)
  subst hl hD
  unfold mC_X14_init at hf
  refine V_aload_n dX14_init_0 rfl ?_
  refine V_null dX14_init_1 ?_
  refine V_null dX14_init_2 ?_
  refine V_iconst dX14_init_3 ckc_0 ?_
  refine V_iconst dX14_init_4 ckc_0 ?_
  obtain ⟨w2, hc1, hf⟩ := bd1_ex hf
  refine V_cI (av := [.null, .null, .int (0 : Int32), .int (0 : Int32)]) (rest := []) (st' := []) (mC_J4_init_ok _ _ _ _ _ _ _ _ _ hc1) ic_X14_1 (by decide) rfl rfl (Nat.le_of_ble_eq_true rfl) dX14_init_5 rfl ?_
  refine V_aload_n dX14_init_8 rfl ?_
  refine V_iload_n dX14_init_9 rfl ?_
  obtain ⟨h3, hf⟩ := ck_ex hf
  obtain ⟨w4, hs5, hf⟩ := st1_ex hf
  refine VE_putIF ff_X14_7 h3 hE.ini rfl rfl rfl hs5 dX14_init_10 ?_
  cases some_ex hf
  exact V_vret hE dX14_init_13
set_option maxHeartbeats 4000000 in
theorem mC_J11_coder_ok (l : Launch) (D : DD) (w : AH) (a : Nat) (r : Int32) (hf : mC_J11_coder a w = some r) : MA l D yJ11_coder cJ11_coder 1 (some (.byte)) 1 [.ref a] w (.returned (some (.int r))) w := by
  refine MA.introH (own := RJ11) (nm := "coder") (ls := [some (.ref a)]) (by decide) rfl rfl (Nat.le_of_ble_eq_true rfl) rfl (fun X hl hD hE hH => ?_)
  subst hl hD
  unfold mC_J11_coder at hf
  refine V_stat (f_ := fun _ => .int 1) (fun D U h => h.2.2.2.2.2.2.1.1) q1120 dJ11_coder_0 (fun _ => ?_)
  refine V_if_eq (tgt := 13) dJ11_coder_3 (by decide) (fun hc1 => ?_) (fun hc1 => ?_)
  · have hf := if_t hf hc1
    refine V_iconst dJ11_coder_13 ckc_1 ?_
    obtain ⟨h2, hf⟩ := ck_ex hf
    cases some_ex hf
    exact V_zret hE (beq_iff_eq.mp h2) dJ11_coder_14
  · have hf := if_f hf hc1
    refine V_aload_n dJ11_coder_6 rfl ?_
    obtain ⟨h3, hf⟩ := ck_ex hf
    refine V_getS (v := .int (hvi w a 1)) fs_J11_15 (beq_iff_eq.mp h3) rfl dJ11_coder_7 ?_
    refine V_goto (tgt := 14) dJ11_coder_10 (by decide) ?_
    obtain ⟨h4, hf⟩ := ck_ex hf
    cases some_ex hf
    exact V_zret hE (beq_iff_eq.mp h4) dJ11_coder_14
set_option maxHeartbeats 4000000 in
theorem mC_J11_length_ok (l : Launch) (D : DD) (w : AH) (a : Nat) (r : Int32) (hf : mC_J11_length a w = some r) : MA l D yJ11_length cJ11_length 1 (some (.int)) 2 [.ref a] w (.returned (some (.int r))) w := by
  refine MA.introH (own := RJ11) (nm := "length") (ls := [some (.ref a)]) (by decide) rfl rfl (Nat.le_of_ble_eq_true rfl) rfl (fun X hl hD hE hH => ?_)
  subst hl hD
  unfold mC_J11_length at hf
  refine V_aload_n dJ11_length_0 rfl ?_
  obtain ⟨h1, hf⟩ := ck_ex hf
  obtain ⟨b2, hb3, hf⟩ := bd1_ex hf
  refine V_getS (v := .ref b2) fs_J11_9 (beq_iff_eq.mp h1) (by show va_rf (hvr w a 0) = _; rw [hb3]; rfl) dJ11_length_1 ?_
  obtain ⟨h4, hf⟩ := ck_ex hf
  refine VE_alenC h4 dJ11_length_4 ?_
  refine V_aload_n dJ11_length_5 rfl ?_
  obtain ⟨r6, hc5, hf⟩ := bd1_ex hf
  refine V_sV (av := []) (rest := [.int (Int32.ofNat (hkd w b2).2)]) (st' := [.int r6, .int (Int32.ofNat (hkd w b2).2)]) (mC_J11_coder_ok _ _ _ _ _ hc5) vc_J11_335 (beq_iff_eq.mp h1) (by decide) rfl rfl (Nat.le_of_ble_eq_true rfl) dJ11_length_6 rfl ?_
  refine V_ishr dJ11_length_9 ?_
  cases some_ex hf
  exact V_iret hE dJ11_length_10
set_option maxHeartbeats 4000000 in
theorem mC_J11_isLatin1_ok (l : Launch) (D : DD) (w : AH) (a : Nat) (r : Int32) (hf : mC_J11_isLatin1 a w = some r) : MA l D yJ11_isLatin1 cJ11_isLatin1 1 (some (.boolean)) 1 [.ref a] w (.returned (some (.int r))) w := by
  refine MA.introH (own := RJ11) (nm := "isLatin1") (ls := [some (.ref a)]) (by decide) rfl rfl (Nat.le_of_ble_eq_true rfl) rfl (fun X hl hD hE hH => ?_)
  subst hl hD
  unfold mC_J11_isLatin1 at hf
  refine V_stat (f_ := fun _ => .int 1) (fun D U h => h.2.2.2.2.2.2.1.1) q1120 dJ11_isLatin1_0 (fun _ => ?_)
  refine V_if_eq (tgt := 17) dJ11_isLatin1_3 (by decide) (fun hc1 => ?_) (fun hc1 => ?_)
  · have hf := if_t hf hc1
    refine V_iconst dJ11_isLatin1_17 ckc_0 ?_
    cases some_ex hf
    exact V_zret hE (by decide) dJ11_isLatin1_18
  · have hf := if_f hf hc1
    refine V_aload_n dJ11_isLatin1_6 rfl ?_
    obtain ⟨h2, hf⟩ := ck_ex hf
    refine V_getS (v := .int (hvi w a 1)) fs_J11_15 (beq_iff_eq.mp h2) rfl dJ11_isLatin1_7 ?_
    refine V_if_ne (tgt := 17) dJ11_isLatin1_10 (by decide) (fun hc3 => ?_) (fun hc3 => ?_)
    · have hf := if_f hf hc3
      refine V_iconst dJ11_isLatin1_17 ckc_0 ?_
      cases some_ex hf
      exact V_zret hE (by decide) dJ11_isLatin1_18
    · have hf := if_t hf hc3
      refine V_iconst dJ11_isLatin1_13 ckc_1 ?_
      refine V_goto (tgt := 18) dJ11_isLatin1_14 (by decide) ?_
      cases some_ex hf
      exact V_zret hE (by decide) dJ11_isLatin1_18
set_option maxHeartbeats 4000000 in
theorem mC_J11_checkIndex_ok (l : Launch) (D : DD) (w : AH) (p0 : Int32) (p1 : Int32) (hf : mC_J11_checkIndex p0 p1 w = some ()) : MA l D yJ11_checkIndex cJ11_checkIndex 2 none 2 [.int p0, .int p1] w (.returned none) w := by
  refine MA.introH (own := RJ11) (nm := "checkIndex") (ls := [some (.int p0), some (.int p1)]) (by decide) rfl rfl (Nat.le_of_ble_eq_true rfl) rfl (fun X hl hD hE hH => ?_)
  subst hl hD
  unfold mC_J11_checkIndex at hf
  refine V_iload_n dJ11_checkIndex_0 rfl ?_
  refine V_iload_n dJ11_checkIndex_1 rfl ?_
  obtain ⟨x1, hx2, hf⟩ := st1_ex hf
  refine VE_statR (key := 1002) (fun D U h => h.2.2.2.2.2.2.1.2.2.2) q1136 hx2 dJ11_checkIndex_2 ?_
  obtain ⟨r4, hc3, hf⟩ := bd1_ex hf
  refine V_cS (rest := []) (st' := [.int r4]) (mC_J13_checkIndex_ok _ _ _ _ _ _ _ hc3) sc_J11_1059 (by decide) rfl rfl (Nat.le_of_ble_eq_true rfl) dJ11_checkIndex_5 rfl ?_
  refine V_pop dJ11_checkIndex_8 rfl ?_
  exact V_vret hE dJ11_checkIndex_9
set_option maxHeartbeats 4000000 in
theorem mC_J14_charAt_ok (l : Launch) (D : DD) (w : AH) (p0 : Nat) (p1 : Int32) (r : Int32) (hf : mC_J14_charAt p0 p1 w = some r) : MA l D yJ14_charAt cJ14_charAt 2 (some (.char)) 3 [.ref p0, .int p1] w (.returned (some (.int r))) w := by
  refine MA.introH (own := RJ14) (nm := "charAt") (ls := [some (.ref p0), some (.int p1)]) (by decide) rfl rfl (Nat.le_of_ble_eq_true rfl) rfl (fun X hl hD hE hH => ?_)
  subst hl hD
  unfold mC_J14_charAt at hf
  refine V_iload_n dJ14_charAt_0 rfl ?_
  refine V_aload_n dJ14_charAt_1 rfl ?_
  obtain ⟨h1, hf⟩ := ck_ex hf
  refine VE_alenC h1 dJ14_charAt_2 ?_
  obtain ⟨r3, hc2, hf⟩ := bd1_ex hf
  refine V_cS (rest := []) (st' := []) (mC_J11_checkIndex_ok _ _ _ _ _ hc2) sc_J14_9 (by decide) rfl rfl (Nat.le_of_ble_eq_true rfl) dJ14_charAt_3 rfl ?_
  refine V_aload_n dJ14_charAt_6 rfl ?_
  refine V_iload_n dJ14_charAt_7 rfl ?_
  obtain ⟨h4, hf⟩ := ck_ex hf
  refine VE_baldC h1 h4 rfl dJ14_charAt_8 ?_
  refine V_sipush dJ14_charAt_9 cks_255 ?_
  refine V_iand dJ14_charAt_12 ?_
  refine V_i2c dJ14_charAt_13 ?_
  obtain ⟨h5, hf⟩ := ck_ex hf
  cases some_ex hf
  exact V_zret hE (beq_iff_eq.mp h5) dJ14_charAt_14
set_option maxHeartbeats 4000000 in
theorem mC_J11_charAt_ok (l : Launch) (D : DD) (w : AH) (a : Nat) (p0 : Int32) (r : Int32) (hf : mC_J11_charAt a p0 w = some r) : MA l D yJ11_charAt cJ11_charAt 2 (some (.char)) 4 [.ref a, .int p0] w (.returned (some (.int r))) w := by
  refine MA.introH (own := RJ11) (nm := "charAt") (ls := [some (.ref a), some (.int p0)]) (by decide) rfl rfl (Nat.le_of_ble_eq_true rfl) rfl (fun X hl hD hE hH => ?_)
  subst hl hD
  unfold mC_J11_charAt at hf
  refine V_aload_n dJ11_charAt_0 rfl ?_
  obtain ⟨h1, hf⟩ := ck_ex hf
  obtain ⟨r3, hc2, hf⟩ := bd1_ex hf
  refine V_sV (av := []) (rest := []) (st' := [.int r3]) (mC_J11_isLatin1_ok _ _ _ _ _ hc2) vc_J11_492 (beq_iff_eq.mp h1) (by decide) rfl rfl (Nat.le_of_ble_eq_true rfl) dJ11_charAt_1 rfl ?_
  refine V_if_eq (tgt := 16) dJ11_charAt_4 (by decide) (fun hc4 => ?_) (fun hc4 => ?_)
  · have hf := if_t hf hc4
    refine V_aload_n dJ11_charAt_16 rfl ?_
    obtain ⟨b5, hb6, hf⟩ := bd1_ex hf
    refine V_getS (v := .ref b5) fs_J11_9 (beq_iff_eq.mp h1) (by show va_rf (hvr w a 0) = _; rw [hb6]; rfl) dJ11_charAt_17 ?_
    refine V_iload_n dJ11_charAt_20 rfl ?_
    cases hf
  · have hf := if_f hf hc4
    refine V_aload_n dJ11_charAt_7 rfl ?_
    obtain ⟨b7, hb8, hf⟩ := bd1_ex hf
    refine V_getS (v := .ref b7) fs_J11_9 (beq_iff_eq.mp h1) (by show va_rf (hvr w a 0) = _; rw [hb8]; rfl) dJ11_charAt_8 ?_
    refine V_iload_n dJ11_charAt_11 rfl ?_
    obtain ⟨r10, hc9, hf⟩ := bd1_ex hf
    refine V_cS (rest := []) (st' := [.int r10]) (mC_J14_charAt_ok _ _ _ _ _ _ hc9) sc_J11_495 (by decide) rfl rfl (Nat.le_of_ble_eq_true rfl) dJ11_charAt_12 rfl ?_
    obtain ⟨h11, hf⟩ := ck_ex hf
    cases some_ex hf
    exact V_zret hE (beq_iff_eq.mp h11) dJ11_charAt_15
set_option maxHeartbeats 4000000 in
theorem mC_X13_is_20_v {X : CX} {w0 : AH} {r : Int32}  (w : AH) (hE : XE X w0 5 (some (.boolean)) "is" (.returned (some (.int r))) w) (hH : XH X []) (k20 : Nat → Nat → Int32 → Option (Int32)) (hk20 : ∀ (v0 : Nat) (v1 : Nat) (v2 : Int32), k20 v0 v1 v2 = some r → V X cX13_is RX13 3 5 w 20 [some (.ref v0), some (.ref v1), some (.int v2)] []) (v0 : Nat) (v1 : Nat) (v2 : Int32) (hf : mC_X13_is_20 w k20 v0 v1 v2 = some r) : V X cX13_is RX13 3 5 w 20 [some (.ref v0), some (.ref v1), some (.int v2)] [] := by
  unfold mC_X13_is_20 at hf
  refine V_iload_n dX13_is_20 rfl ?_
  refine V_aload_n dX13_is_21 rfl ?_
  obtain ⟨h1, hf⟩ := ck_ex hf
  obtain ⟨r3, hc2, hf⟩ := bd1_ex hf
  refine V_sV (av := []) (rest := [.int v2]) (st' := [.int r3, .int v2]) (mC_J11_length_ok _ _ _ _ _ hc2) vc_X13_38 (beq_iff_eq.mp h1) (by decide) rfl rfl (Nat.le_of_ble_eq_true rfl) dX13_is_22 rfl ?_
  refine V_icmp_ge (tgt := 55) dX13_is_25 (by decide) (fun hc4 => ?_) (fun hc4 => ?_)
  · have hf := if_t hf hc4
    refine V_iconst dX13_is_55 ckc_1 ?_
    cases some_ex hf
    exact V_zret hE (by decide) dX13_is_56
  · have hf := if_f hf hc4
    refine V_aload_n dX13_is_28 rfl ?_
    obtain ⟨h5, hf⟩ := ck_ex hf
    obtain ⟨b6, hb7, hf⟩ := bd1_ex hf
    refine VP_getR (x := some b6) fa_X13_20 h5 rfl rfl hb7 dX13_is_29 ?_
    refine V_aload_n dX13_is_32 rfl ?_
    refine VP_getI fa_X13_31 h5 rfl dX13_is_33 ?_
    refine V_iload_n dX13_is_36 rfl ?_
    refine V_iadd dX13_is_37 ?_
    obtain ⟨h8, hf⟩ := ck_ex hf
    refine VE_bald h8 rfl dX13_is_38 ?_
    refine V_aload_n dX13_is_39 rfl ?_
    refine V_iload_n dX13_is_40 rfl ?_
    obtain ⟨r10, hc9, hf⟩ := bd1_ex hf
    refine V_sV (av := [.int v2]) (rest := [.int (hvi w b6 (((hvi w v0 3) + v2).toNatClampNeg))]) (st' := [.int r10, .int (hvi w b6 (((hvi w v0 3) + v2).toNatClampNeg))]) (mC_J11_charAt_ok _ _ _ _ _ _ hc9) vc_X13_44 (beq_iff_eq.mp h1) (by decide) rfl rfl (Nat.le_of_ble_eq_true rfl) dX13_is_41 rfl ?_
    refine V_icmp_eq (tgt := 49) dX13_is_44 (by decide) (fun hc11 => ?_) (fun hc11 => ?_)
    · have hf := if_t hf hc11
      refine V_inc (ls' := [some (.ref v0), some (.ref v1), some (.int (v2 + (1 : Int32)))]) dX13_is_49 rfl ckc_1 (by decide) rfl ?_
      refine V_goto (tgt := 20) dX13_is_52 (by decide) ?_
      exact hk20 v0 v1 (v2 + (1 : Int32)) hf
    · have hf := if_f hf hc11
      refine V_iconst dX13_is_47 ckc_0 ?_
      cases some_ex hf
      exact V_zret hE (by decide) dX13_is_48
set_option maxHeartbeats 4000000 in
theorem mC_X13_is_ok (l : Launch) (D : DD) (w : AH) (a : Nat) (p0 : Nat) (r : Int32) (hf : mC_X13_is a p0 w = some r) : MA l D yX13_is cX13_is 3 (some (.boolean)) 5 [.ref a, .ref p0] w (.returned (some (.int r))) w := by
  refine MA.introH (own := RX13) (nm := "is") (ls := [some (.ref a), some (.ref p0), none]) (by decide) rfl rfl (Nat.le_of_ble_eq_true rfl) rfl (fun X hl hD hE hH => ?_)
  subst hl hD
  unfold mC_X13_is at hf
  refine V_aload_n dX13_is_0 rfl ?_
  obtain ⟨h1, hf⟩ := ck_ex hf
  refine VP_getI fa_X13_28 h1 rfl dX13_is_1 ?_
  refine V_aload_n dX13_is_4 rfl ?_
  refine VP_getI fa_X13_31 h1 rfl dX13_is_5 ?_
  refine V_isub dX13_is_8 ?_
  refine V_aload_n dX13_is_9 rfl ?_
  obtain ⟨h2, hf⟩ := ck_ex hf
  obtain ⟨r4, hc3, hf⟩ := bd1_ex hf
  refine V_sV (av := []) (rest := [.int ((hvi w a 4) - (hvi w a 3))]) (st' := [.int r4, .int ((hvi w a 4) - (hvi w a 3))]) (mC_J11_length_ok _ _ _ _ _ hc3) vc_X13_38 (beq_iff_eq.mp h2) (by decide) rfl rfl (Nat.le_of_ble_eq_true rfl) dX13_is_10 rfl ?_
  refine V_icmp_eq (tgt := 18) dX13_is_13 (by decide) (fun hc5 => ?_) (fun hc5 => ?_)
  · have hf := if_t hf hc5
    refine V_iconst dX13_is_18 ckc_0 ?_
    refine V_istore_n (ls' := [some (.ref a), some (.ref p0), some (.int (0 : Int32))]) dX13_is_19 (by decide) rfl ?_
    exact lq3_ex (P := fun v0 v1 v2 => V X cX13_is RX13 3 5 w 20 [some (.ref v0), some (.ref v1), some (.int v2)] []) (fun k hk v0 v1 v2 hf => mC_X13_is_20_v w hE hH k hk v0 v1 v2 hf) LF a p0 (0 : Int32) hf
  · have hf := if_f hf hc5
    refine V_iconst dX13_is_16 ckc_0 ?_
    cases some_ex hf
    exact V_zret hE (by decide) dX13_is_17
set_option maxHeartbeats 4000000 in
theorem mC_X13_takes_ok (l : Launch) (D : DD) (w : AH) (a : Nat) (p0 : Nat) (r : Int32) (w' : AH) (hf : mC_X13_takes a p0 w = some (r, w')) : MA l D yX13_takes cX13_takes 3 (some (.boolean)) 6 [.ref a, .ref p0] w (.returned (some (.int r))) w' := by
  refine MA.introH (own := RX13) (nm := "takes") (ls := [some (.ref a), some (.ref p0), none]) (by decide) rfl rfl (Nat.le_of_ble_eq_true rfl) rfl (fun X hl hD hE hH => ?_)
  subst hl hD
  unfold mC_X13_takes at hf
  refine V_aload_n dX13_takes_0 rfl ?_
  refine V_aload_n dX13_takes_1 rfl ?_
  obtain ⟨h1, hf⟩ := ck_ex hf
  obtain ⟨r3, hc2, hf⟩ := bd1_ex hf
  refine V_cV (av := [.ref p0]) (rest := []) (st' := [.int r3]) (mC_X13_is_ok _ _ _ _ _ _ hc2) vc_X13_48 (kIn1 h1) (by decide) rfl rfl (Nat.le_of_ble_eq_true rfl) dX13_takes_2 rfl ?_
  refine V_istore_n (ls' := [some (.ref a), some (.ref p0), some (.int r3)]) dX13_takes_5 (by decide) rfl ?_
  refine V_iload_n dX13_takes_6 rfl ?_
  refine V_if_eq (tgt := 14) dX13_takes_7 (by decide) (fun hc4 => ?_) (fun hc4 => ?_)
  · have hf := if_t hf hc4
    refine V_iload_n dX13_takes_14 rfl ?_
    obtain ⟨h5, hf⟩ := ck_ex hf
    cases some_ex hf
    exact V_zret hE (isZ_nar h5) dX13_takes_15
  · have hf := if_f hf hc4
    refine V_aload_n dX13_takes_10 rfl ?_
    obtain ⟨w7, hc6, hf⟩ := bd1_ex hf
    refine V_cV (av := []) (rest := []) (st' := []) (mC_X13_next_ok _ _ _ _ _ hc6) vc_X13_52 (kIn1 h1) (by decide) rfl rfl (Nat.le_of_ble_eq_true rfl) dX13_takes_11 rfl ?_
    refine V_iload_n dX13_takes_14 rfl ?_
    obtain ⟨h8, hf⟩ := ck_ex hf
    cases some_ex hf
    exact V_zret hE (isZ_nar h8) dX13_takes_15
set_option maxHeartbeats 4000000 in
theorem mC_X13_number_81_v {X : CX} {w0 : AH} {r : Int32 ⊕ Nat} {w' : AH}  (hE : XE X w0 4 (some (.int)) "number" (oI r) w') (hH : XH X []) (v0 : Nat) (w : AH) (hf : mC_X13_number_81 v0 w = some (r, w')) : V X cX13_number RX13 5 4 w 81 [some (.ref v0), none, none, none, none] [] := by
  unfold mC_X13_number_81 at hf
  obtain ⟨h1, hf⟩ := ck_ex hf
  obtain ⟨b2, hb3, hf⟩ := st1_ex hf
  obtain ⟨w4, hs5, hf⟩ := st1_ex hf
  refine VE_new clX14 q1084 q1085 q161 ok_X14 h1 hb3 hs5 dX13_number_81 ?_
  refine V_dup dX13_number_84 rfl ?_
  refine V_aload_n dX13_number_85 rfl ?_
  obtain ⟨h6, hf⟩ := ck_ex hf
  refine VP_getI fa_X13_31 h6 rfl dX13_number_86 ?_
  obtain ⟨w8, hc7, hf⟩ := bd1_ex hf
  refine V_cI (av := [.int (hvi w4 v0 3)]) (rest := [.ref b2]) (st' := [.ref b2]) (mC_X14_init_ok _ _ _ _ _ _ hc7) ic_X13_60 (by decide) rfl rfl (Nat.le_of_ble_eq_true rfl) dX13_number_89 rfl ?_
  cases some_ex hf
  exact V_athrow dX13_number_92 (VT_out hE hH (by decide))
set_option maxHeartbeats 4000000 in
theorem mC_X13_number_71_v {X : CX} {w0 : AH} {r : Int32 ⊕ Nat} {w' : AH}  (hE : XE X w0 4 (some (.int)) "number" (oI r) w') (hH : XH X []) (v0 : Nat) (v1 : Int32) (v2 : Int32) (v3 : Int32) (w : AH) (hf : mC_X13_number_71 v0 v1 v2 v3 w = some (r, w')) : V X cX13_number RX13 5 4 w 71 [some (.ref v0), some (.int v1), some (.int v2), some (.int v3), none] [] := by
  unfold mC_X13_number_71 at hf
  refine V_iload_n dX13_number_71 rfl ?_
  refine V_iload_n dX13_number_72 rfl ?_
  refine V_icmp_lt (tgt := 81) dX13_number_73 (by decide) (fun hc1 => ?_) (fun hc1 => ?_)
  · have hf := if_t hf hc1
    refine V_keep [true, false, false, false, true] rfl ?_
    exact mC_X13_number_81_v hE hH v0 w hf
  · have hf := if_f hf hc1
    refine V_iload_n dX13_number_76 rfl ?_
    refine V_iload_n dX13_number_77 rfl ?_
    refine V_icmp_le (tgt := 93) dX13_number_78 (by decide) (fun hc2 => ?_) (fun hc2 => ?_)
    · have hf := if_t hf hc2
      refine V_aload_n dX13_number_93 rfl ?_
      obtain ⟨h3, hf⟩ := ck_ex hf
      obtain ⟨w5, hc4, hf⟩ := bd1_ex hf
      refine V_cV (av := []) (rest := []) (st' := []) (mC_X13_next_ok _ _ _ _ _ hc4) vc_X13_52 (kIn1 h3) (by decide) rfl rfl (Nat.le_of_ble_eq_true rfl) dX13_number_94 rfl ?_
      refine V_iload_n dX13_number_97 rfl ?_
      cases some_ex hf
      exact V_iret hE dX13_number_98
    · have hf := if_f hf hc2
      refine V_keep [true, false, false, false, true] rfl ?_
      exact mC_X13_number_81_v hE hH v0 w hf
set_option maxHeartbeats 4000000 in
theorem mC_X13_number_35_v {X : CX} {w0 : AH} {r : Int32 ⊕ Nat} {w' : AH}  (hE : XE X w0 4 (some (.int)) "number" (oI r) w') (hH : XH X []) (k35 : Nat → Int32 → Int32 → Int32 → Int32 → AH → Option ((Int32 ⊕ Nat) × AH)) (hk35 : ∀ (v0 : Nat) (v1 : Int32) (v2 : Int32) (v3 : Int32) (v4 : Int32) (w : AH), k35 v0 v1 v2 v3 v4 w = some (r, w') → V X cX13_number RX13 5 4 w 35 [some (.ref v0), some (.int v1), some (.int v2), some (.int v3), some (.int v4)] []) (v0 : Nat) (v1 : Int32) (v2 : Int32) (v3 : Int32) (v4 : Int32) (w : AH) (hf : mC_X13_number_35 k35 v0 v1 v2 v3 v4 w = some (r, w')) : V X cX13_number RX13 5 4 w 35 [some (.ref v0), some (.int v1), some (.int v2), some (.int v3), some (.int v4)] [] := by
  unfold mC_X13_number_35 at hf
  refine V_iload dX13_number_35 rfl ?_
  refine V_aload_n dX13_number_37 rfl ?_
  obtain ⟨h1, hf⟩ := ck_ex hf
  refine VP_getI fa_X13_28 h1 rfl dX13_number_38 ?_
  refine V_icmp_ge (tgt := 71) dX13_number_41 (by decide) (fun hc2 => ?_) (fun hc2 => ?_)
  · have hf := if_t hf hc2
    refine V_keep [true, true, true, true, false] rfl ?_
    exact mC_X13_number_71_v hE hH v0 v1 v2 v3 w hf
  · have hf := if_f hf hc2
    refine V_iload_n dX13_number_44 rfl ?_
    refine V_iload_n dX13_number_45 rfl ?_
    refine V_icmp_gt (tgt := 71) dX13_number_46 (by decide) (fun hc3 => ?_) (fun hc3 => ?_)
    · have hf := if_t hf hc3
      refine V_keep [true, true, true, true, false] rfl ?_
      exact mC_X13_number_71_v hE hH v0 v1 v2 v3 w hf
    · have hf := if_f hf hc3
      refine V_bipush dX13_number_49 ckb_10 ?_
      refine V_iload_n dX13_number_51 rfl ?_
      refine V_imul dX13_number_52 ?_
      refine V_aload_n dX13_number_53 rfl ?_
      obtain ⟨b4, hb5, hf⟩ := bd1_ex hf
      refine VP_getR (x := some b4) fa_X13_20 h1 rfl rfl hb5 dX13_number_54 ?_
      refine V_iload dX13_number_57 rfl ?_
      obtain ⟨h6, hf⟩ := ck_ex hf
      refine VE_bald h6 rfl dX13_number_59 ?_
      refine V_iadd dX13_number_60 ?_
      refine V_bipush dX13_number_61 ckb_48 ?_
      refine V_isub dX13_number_63 ?_
      refine V_istore_n (ls' := [some (.ref v0), some (.int v1), some (.int v2), some (.int ((((10 : Int32) * v3) + (hvi w b4 (v4.toNatClampNeg))) - (48 : Int32))), some (.int v4)]) dX13_number_64 (by decide) rfl ?_
      refine V_inc (ls' := [some (.ref v0), some (.int v1), some (.int v2), some (.int ((((10 : Int32) * v3) + (hvi w b4 (v4.toNatClampNeg))) - (48 : Int32))), some (.int (v4 + (1 : Int32)))]) dX13_number_65 rfl ckc_1 (by decide) rfl ?_
      refine V_goto (tgt := 35) dX13_number_68 (by decide) ?_
      exact hk35 v0 v1 v2 ((((10 : Int32) * v3) + (hvi w b4 (v4.toNatClampNeg))) - (48 : Int32)) (v4 + (1 : Int32)) w hf
set_option maxHeartbeats 4000000 in
theorem mC_X13_number_ok (l : Launch) (D : DD) (w : AH) (a : Nat) (p0 : Int32) (p1 : Int32) (r : Int32 ⊕ Nat) (w' : AH) (hf : mC_X13_number a p0 p1 w = some (r, w')) : MA l D yX13_number cX13_number 5 (some (.int)) 4 [.ref a, .int p0, .int p1] w (oI r) w' := by
  refine MA.introH (own := RX13) (nm := "number") (ls := [some (.ref a), some (.int p0), some (.int p1), none, none]) (by decide) rfl rfl (Nat.le_of_ble_eq_true rfl) rfl (fun X hl hD hE hH => ?_)
  subst hl hD
  unfold mC_X13_number at hf
  refine V_aload_n dX13_number_0 rfl ?_
  refine V_aload_n dX13_number_1 rfl ?_
  obtain ⟨h1, hf⟩ := ck_ex hf
  refine VP_getI fa_X13_31 h1 rfl dX13_number_2 ?_
  refine V_bipush dX13_number_5 ckb_48 ?_
  refine V_bipush dX13_number_7 ckb_57 ?_
  obtain ⟨r3, hc2, hf⟩ := bd1_ex hf
  refine V_cV (av := [.int (hvi w a 3), .int (48 : Int32), .int (57 : Int32)]) (rest := []) (st' := [.int r3]) (mC_X13_isIn_ok _ _ _ _ _ _ _ _ hc2) vc_X13_34 (kIn1 h1) (by decide) rfl rfl (Nat.le_of_ble_eq_true rfl) dX13_number_9 rfl ?_
  refine V_if_ne (tgt := 27) dX13_number_12 (by decide) (fun hc4 => ?_) (fun hc4 => ?_)
  · have hf := if_f hf hc4
    refine V_iconst dX13_number_27 ckc_0 ?_
    refine V_istore_n (ls' := [some (.ref a), some (.int p0), some (.int p1), some (.int (0 : Int32)), none]) dX13_number_28 (by decide) rfl ?_
    refine V_aload_n dX13_number_29 rfl ?_
    refine VP_getI fa_X13_31 h1 rfl dX13_number_30 ?_
    refine V_istore (ls' := [some (.ref a), some (.int p0), some (.int p1), some (.int (0 : Int32)), some (.int (hvi w a 3))]) dX13_number_33 (by decide) rfl ?_
    exact lq6_ex (P := fun v0 v1 v2 v3 v4 w => V X cX13_number RX13 5 4 w 35 [some (.ref v0), some (.int v1), some (.int v2), some (.int v3), some (.int v4)] []) (fun k hk v0 v1 v2 v3 v4 w hf => mC_X13_number_35_v hE hH k hk v0 v1 v2 v3 v4 w hf) LF a p0 p1 (0 : Int32) (hvi w a 3) w hf
  · have hf := if_t hf hc4
    obtain ⟨h5, hf⟩ := ck_ex hf
    obtain ⟨b6, hb7, hf⟩ := st1_ex hf
    obtain ⟨w8, hs9, hf⟩ := st1_ex hf
    refine VE_new clX14 q1084 q1085 q161 ok_X14 h5 hb7 hs9 dX13_number_15 ?_
    refine V_dup dX13_number_18 rfl ?_
    refine V_aload_n dX13_number_19 rfl ?_
    obtain ⟨h10, hf⟩ := ck_ex hf
    refine VP_getI fa_X13_31 h10 rfl dX13_number_20 ?_
    obtain ⟨w12, hc11, hf⟩ := bd1_ex hf
    refine V_cI (av := [.int (hvi w8 a 3)]) (rest := [.ref b6]) (st' := [.ref b6]) (mC_X14_init_ok _ _ _ _ _ _ hc11) ic_X13_60 (by decide) rfl rfl (Nat.le_of_ble_eq_true rfl) dX13_number_23 rfl ?_
    cases some_ex hf
    exact V_athrow dX13_number_26 (VT_out hE hH (by decide))
set_option maxHeartbeats 4000000 in
theorem mC_X13_need_ok (l : Launch) (D : DD) (w : AH) (a : Nat) (p0 : Nat) (r : Unit ⊕ Nat) (w' : AH) (hf : mC_X13_need a p0 w = some (r, w')) : MA l D yX13_need cX13_need 2 none 7 [.ref a, .ref p0] w (oV r) w' := by
  refine MA.introH (own := RX13) (nm := "need") (ls := [some (.ref a), some (.ref p0)]) (by decide) rfl rfl (Nat.le_of_ble_eq_true rfl) rfl (fun X hl hD hE hH => ?_)
  subst hl hD
  unfold mC_X13_need at hf
  refine V_aload_n dX13_need_0 rfl ?_
  refine V_aload_n dX13_need_1 rfl ?_
  obtain ⟨h1, hf⟩ := ck_ex hf
  obtain ⟨r3, w4, hc2, hf⟩ := bd2_ex hf
  refine V_cV (av := [.ref p0]) (rest := []) (st' := [.int r3]) (mC_X13_takes_ok _ _ _ _ _ _ _ hc2) vc_X13_55 (kIn1 h1) (by decide) rfl rfl (Nat.le_of_ble_eq_true rfl) dX13_need_2 rfl ?_
  refine V_if_ne (tgt := 20) dX13_need_5 (by decide) (fun hc5 => ?_) (fun hc5 => ?_)
  · have hf := if_f hf hc5
    cases some_ex hf
    exact V_vret hE dX13_need_20
  · have hf := if_t hf hc5
    obtain ⟨h6, hf⟩ := ck_ex hf
    obtain ⟨b7, hb8, hf⟩ := st1_ex hf
    obtain ⟨w9, hs10, hf⟩ := st1_ex hf
    refine VE_new clX14 q1084 q1085 q161 ok_X14 h6 hb8 hs10 dX13_need_8 ?_
    refine V_dup dX13_need_11 rfl ?_
    refine V_aload_n dX13_need_12 rfl ?_
    obtain ⟨h11, hf⟩ := ck_ex hf
    refine VP_getI fa_X13_31 h11 rfl dX13_need_13 ?_
    obtain ⟨w13, hc12, hf⟩ := bd1_ex hf
    refine V_cI (av := [.int (hvi w9 a 3)]) (rest := [.ref b7]) (st' := [.ref b7]) (mC_X14_init_ok _ _ _ _ _ _ hc12) ic_X13_60 (by decide) rfl rfl (Nat.le_of_ble_eq_true rfl) dX13_need_16 rfl ?_
    cases some_ex hf
    exact V_athrow dX13_need_19 (VT_out hE hH (by decide))
set_option maxHeartbeats 4000000 in
theorem mC_X15_init_ok (l : Launch) (D : DD) (w : AH) (a : Nat) (p0 : Int32) (p1 : Int32) (p2 : Int32) (w' : AH) (hf : mC_X15_init a p0 p1 p2 w = some w') : MA l D yX15_init cX15_init 4 none 1 [.ref a, .int p0, .int p1, .int p2] w (.returned none) w' := by
  refine MA.introH (own := RX15) (nm := "<init>") (ls := [some (.ref a), some (.int p0), some (.int p1), some (.int p2)]) (by decide) rfl rfl (Nat.le_of_ble_eq_true rfl) rfl (fun X hl hD hE hH => ?_)
  subst hl hD
  unfold mC_X15_init at hf
  refine V_aload_n dX15_init_0 rfl ?_
  refine V_objInit q1172 q182 q183 (by decide) (Nat.le_of_ble_eq_true rfl) dX15_init_1 ?_
  refine V_aload_n dX15_init_4 rfl ?_
  refine V_iload_n dX15_init_5 rfl ?_
  obtain ⟨h1, hf⟩ := ck_ex hf
  obtain ⟨w2, hs3, hf⟩ := st1_ex hf
  refine VE_putIF ff_X15_9 h1 hE.ini rfl rfl rfl hs3 dX15_init_6 ?_
  refine V_aload_n dX15_init_9 rfl ?_
  refine V_iload_n dX15_init_10 rfl ?_
  obtain ⟨h4, hf⟩ := ck_ex hf
  obtain ⟨w5, hs6, hf⟩ := st1_ex hf
  refine VE_putIF ff_X15_15 h4 hE.ini rfl rfl rfl hs6 dX15_init_11 ?_
  refine V_aload_n dX15_init_14 rfl ?_
  refine V_iload_n dX15_init_15 rfl ?_
  obtain ⟨h7, hf⟩ := ck_ex hf
  obtain ⟨w8, hs9, hf⟩ := st1_ex hf
  refine VE_putIF ff_X15_18 h7 hE.ini rfl rfl rfl hs9 dX15_init_16 ?_
  cases some_ex hf
  exact V_vret hE dX15_init_19
set_option maxHeartbeats 4000000 in
theorem mC_X20_init_ok (l : Launch) (D : DD) (w : AH) (a : Nat) (hf : mC_X20_init a w = some ()) : MA l D yX20_init cX20_init 1 none 1 [.ref a] w (.returned none) w := by
  refine MA.introH (own := RX20) (nm := "<init>") (ls := [some (.ref a)]) (by decide) rfl rfl (Nat.le_of_ble_eq_true rfl) rfl (fun X hl hD hE hH => ?_)
  subst hl hD
  unfold mC_X20_init at hf
  refine V_aload_n dX20_init_0 rfl ?_
  refine V_objInit q1326 q182 q183 (by decide) (Nat.le_of_ble_eq_true rfl) dX20_init_1 ?_
  exact V_vret hE dX20_init_4
set_option maxHeartbeats 4000000 in
theorem mC_X24_init_ok (l : Launch) (D : DD) (w : AH) (a : Nat) (p0 : Int32) (w' : AH) (hf : mC_X24_init a p0 w = some w') : MA l D yX24_init cX24_init 2 none 4 [.ref a, .int p0] w (.returned none) w' := by
  refine MA.introH (own := RX24) (nm := "<init>") (ls := [some (.ref a), some (.int p0)]) (by decide) rfl rfl (Nat.le_of_ble_eq_true rfl) rfl (fun X hl hD hE hH => ?_)
  subst hl hD
  unfold mC_X24_init at hf
  refine V_aload_n dX24_init_0 rfl ?_
  obtain ⟨r2, hc1, hf⟩ := bd1_ex hf
  refine V_nI (av := []) (rest := []) (st' := []) (mC_X20_init_ok _ _ _ _ hc1) ni_X24_1 (by decide) rfl rfl (Nat.le_of_ble_eq_true rfl) dX24_init_1 rfl ?_
  refine V_aload_n dX24_init_4 rfl ?_
  obtain ⟨h3, hf⟩ := ck_ex hf
  obtain ⟨b4, hb5, hf⟩ := st1_ex hf
  obtain ⟨w6, hs7, hf⟩ := st1_ex hf
  refine VE_new clJ2 q1367 q191 q136 ok_J2 h3 hb5 hs7 dX24_init_5 ?_
  refine V_dup dX24_init_8 rfl ?_
  refine V_iconst dX24_init_9 ckc_2 ?_
  obtain ⟨w9, hc8, hf⟩ := bd1_ex hf
  refine V_cI (av := [.int (2 : Int32)]) (rest := [.ref b4, .ref a]) (st' := [.ref b4, .ref a]) (mC_J2_init_ok _ _ _ _ _ _ hc8) ic_X24_9 (by decide) rfl rfl (Nat.le_of_ble_eq_true rfl) dX24_init_10 rfl ?_
  obtain ⟨h10, hf⟩ := ck_ex hf
  obtain ⟨w11, hs12, hf⟩ := st1_ex hf
  refine VE_putRF (x := (some b4)) ff_X24_12 h10 hE.ini rfl hs12 dX24_init_13 ?_
  refine V_aload_n dX24_init_16 rfl ?_
  refine V_iload_n dX24_init_17 rfl ?_
  obtain ⟨h13, hf⟩ := ck_ex hf
  obtain ⟨h14, hf⟩ := ck_ex hf
  obtain ⟨w15, hs16, hf⟩ := st1_ex hf
  refine VE_putIF ff_X24_18 h13 hE.ini rfl (isZ_nar h14) (isZ_fit h14) hs16 dX24_init_18 ?_
  cases some_ex hf
  exact V_vret hE dX24_init_21
set_option maxHeartbeats 4000000 in
theorem mC_X23_init_ok (l : Launch) (D : DD) (w : AH) (a : Nat) (p0 : Nat) (w' : AH) (hf : mC_X23_init a p0 w = some w') : MA l D yX23_init cX23_init 2 none 2 [.ref a, .ref p0] w (.returned none) w' := by
  refine MA.introH (own := RX23) (nm := "<init>") (ls := [some (.ref a), some (.ref p0)]) (by decide) rfl rfl (Nat.le_of_ble_eq_true rfl) rfl (fun X hl hD hE hH => ?_)
  subst hl hD
  unfold mC_X23_init at hf
  refine V_aload_n dX23_init_0 rfl ?_
  obtain ⟨r2, hc1, hf⟩ := bd1_ex hf
  refine V_nI (av := []) (rest := []) (st' := []) (mC_X20_init_ok _ _ _ _ hc1) ni_X23_1 (by decide) rfl rfl (Nat.le_of_ble_eq_true rfl) dX23_init_1 rfl ?_
  refine V_aload_n dX23_init_4 rfl ?_
  refine V_aload_n dX23_init_5 rfl ?_
  obtain ⟨h3, hf⟩ := ck_ex hf
  obtain ⟨w4, hs5, hf⟩ := st1_ex hf
  refine VE_putRF (x := (some p0)) ff_X23_7 h3 hE.ini rfl hs5 dX23_init_6 ?_
  cases some_ex hf
  exact V_vret hE dX23_init_9
set_option maxHeartbeats 4000000 in
theorem mC_X13_opens_ok (l : Launch) (D : DD) (w : AH) (a : Nat) (r : Unit ⊕ Nat) (w' : AH) (hf : mC_X13_opens a w = some (r, w')) : MA l D yX13_opens cX13_opens 1 none 4 [.ref a] w (oV r) w' := by
  refine MA.introH (own := RX13) (nm := "opens") (ls := [some (.ref a)]) (by decide) rfl rfl (Nat.le_of_ble_eq_true rfl) rfl (fun X hl hD hE hH => ?_)
  subst hl hD
  unfold mC_X13_opens at hf
  refine V_aload_n dX13_opens_0 rfl ?_
  obtain ⟨h1, hf⟩ := ck_ex hf
  refine VP_getI fa_X13_141 h1 rfl dX13_opens_1 ?_
  refine V_bipush dX13_opens_4 ckb_8 ?_
  refine V_icmp_ne (tgt := 21) dX13_opens_6 (by decide) (fun hc2 => ?_) (fun hc2 => ?_)
  · have hf := if_f hf hc2
    refine V_aload_n dX13_opens_21 rfl ?_
    refine V_dup dX13_opens_22 rfl ?_
    refine VP_getI fa_X13_141 h1 rfl dX13_opens_23 ?_
    refine V_iconst dX13_opens_26 ckc_1 ?_
    refine V_iadd dX13_opens_27 ?_
    obtain ⟨w3, hs4, hf⟩ := st1_ex hf
    refine VE_putI fw_X13_141 h1 rfl rfl rfl hs4 dX13_opens_28 ?_
    refine V_aload_n dX13_opens_31 rfl ?_
    obtain ⟨h5, hf⟩ := ck_ex hf
    obtain ⟨w7, hc6, hf⟩ := bd1_ex hf
    refine V_cV (av := []) (rest := []) (st' := []) (mC_X13_next_ok _ _ _ _ _ hc6) vc_X13_52 (kIn1 h5) (by decide) rfl rfl (Nat.le_of_ble_eq_true rfl) dX13_opens_32 rfl ?_
    cases some_ex hf
    exact V_vret hE dX13_opens_35
  · have hf := if_t hf hc2
    obtain ⟨h8, hf⟩ := ck_ex hf
    obtain ⟨b9, hb10, hf⟩ := st1_ex hf
    obtain ⟨w11, hs12, hf⟩ := st1_ex hf
    refine VE_new clX14 q1084 q1085 q161 ok_X14 h8 hb10 hs12 dX13_opens_9 ?_
    refine V_dup dX13_opens_12 rfl ?_
    refine V_aload_n dX13_opens_13 rfl ?_
    obtain ⟨h13, hf⟩ := ck_ex hf
    refine VP_getI fa_X13_31 h13 rfl dX13_opens_14 ?_
    obtain ⟨w15, hc14, hf⟩ := bd1_ex hf
    refine V_cI (av := [.int (hvi w11 a 3)]) (rest := [.ref b9]) (st' := [.ref b9]) (mC_X14_init_ok _ _ _ _ _ _ hc14) ic_X13_60 (by decide) rfl rfl (Nat.le_of_ble_eq_true rfl) dX13_opens_17 rfl ?_
    cases some_ex hf
    exact V_athrow dX13_opens_20 (VT_out hE hH (by decide))
set_option maxHeartbeats 4000000 in
theorem mC_X13_flag_ok (l : Launch) (D : DD) (w : AH) (a : Nat) (r : Int32) (hf : mC_X13_flag a w = some r) : MA l D yX13_flag cX13_flag 1 (some (.int)) 6 [.ref a] w (.returned (some (.int r))) w := by
  refine MA.introH (own := RX13) (nm := "flag") (ls := [some (.ref a)]) (by decide) rfl rfl (Nat.le_of_ble_eq_true rfl) rfl (fun X hl hD hE hH => ?_)
  subst hl hD
  unfold mC_X13_flag at hf
  refine V_aload_n dX13_flag_0 rfl ?_
  obtain ⟨b1, ha2, hf⟩ := bd1_ex hf
  refine V_ldcS (key := 154) st_154 ha2 dX13_flag_1 ?_
  obtain ⟨h3, hf⟩ := ck_ex hf
  obtain ⟨r5, hc4, hf⟩ := bd1_ex hf
  refine V_cV (av := [.ref b1]) (rest := []) (st' := [.int r5]) (mC_X13_is_ok _ _ _ _ _ _ hc4) vc_X13_48 (kIn1 h3) (by decide) rfl rfl (Nat.le_of_ble_eq_true rfl) dX13_flag_3 rfl ?_
  refine V_if_eq (tgt := 11) dX13_flag_6 (by decide) (fun hc6 => ?_) (fun hc6 => ?_)
  · have hf := if_t hf hc6
    refine V_aload_n dX13_flag_11 rfl ?_
    obtain ⟨b7, ha8, hf⟩ := bd1_ex hf
    refine V_ldcS (key := 156) st_156 ha8 dX13_flag_12 ?_
    obtain ⟨r10, hc9, hf⟩ := bd1_ex hf
    refine V_cV (av := [.ref b7]) (rest := []) (st' := [.int r10]) (mC_X13_is_ok _ _ _ _ _ _ hc9) vc_X13_48 (kIn1 h3) (by decide) rfl rfl (Nat.le_of_ble_eq_true rfl) dX13_flag_14 rfl ?_
    refine V_if_eq (tgt := 22) dX13_flag_17 (by decide) (fun hc11 => ?_) (fun hc11 => ?_)
    · have hf := if_t hf hc11
      refine V_aload_n dX13_flag_22 rfl ?_
      obtain ⟨b12, ha13, hf⟩ := bd1_ex hf
      refine V_ldcS (key := 158) st_158 ha13 dX13_flag_23 ?_
      obtain ⟨r15, hc14, hf⟩ := bd1_ex hf
      refine V_cV (av := [.ref b12]) (rest := []) (st' := [.int r15]) (mC_X13_is_ok _ _ _ _ _ _ hc14) vc_X13_48 (kIn1 h3) (by decide) rfl rfl (Nat.le_of_ble_eq_true rfl) dX13_flag_25 rfl ?_
      refine V_if_eq (tgt := 33) dX13_flag_28 (by decide) (fun hc16 => ?_) (fun hc16 => ?_)
      · have hf := if_t hf hc16
        refine V_aload_n dX13_flag_33 rfl ?_
        obtain ⟨b17, ha18, hf⟩ := bd1_ex hf
        refine V_ldcS (key := 160) st_160 ha18 dX13_flag_34 ?_
        obtain ⟨r20, hc19, hf⟩ := bd1_ex hf
        refine V_cV (av := [.ref b17]) (rest := []) (st' := [.int r20]) (mC_X13_is_ok _ _ _ _ _ _ hc19) vc_X13_48 (kIn1 h3) (by decide) rfl rfl (Nat.le_of_ble_eq_true rfl) dX13_flag_36 rfl ?_
        refine V_if_eq (tgt := 44) dX13_flag_39 (by decide) (fun hc21 => ?_) (fun hc21 => ?_)
        · have hf := if_t hf hc21
          refine V_aload_n dX13_flag_44 rfl ?_
          obtain ⟨b22, ha23, hf⟩ := bd1_ex hf
          refine V_ldcS (key := 162) st_162 ha23 dX13_flag_45 ?_
          obtain ⟨r25, hc24, hf⟩ := bd1_ex hf
          refine V_cV (av := [.ref b22]) (rest := []) (st' := [.int r25]) (mC_X13_is_ok _ _ _ _ _ _ hc24) vc_X13_48 (kIn1 h3) (by decide) rfl rfl (Nat.le_of_ble_eq_true rfl) dX13_flag_47 rfl ?_
          refine V_if_eq (tgt := 57) dX13_flag_50 (by decide) (fun hc26 => ?_) (fun hc26 => ?_)
          · have hf := if_t hf hc26
            refine V_iconst dX13_flag_57 ckc_m1 ?_
            cases some_ex hf
            exact V_iret hE dX13_flag_58
          · have hf := if_f hf hc26
            refine V_iconst dX13_flag_53 ckc_4 ?_
            refine V_goto (tgt := 58) dX13_flag_54 (by decide) ?_
            cases some_ex hf
            exact V_iret hE dX13_flag_58
        · have hf := if_f hf hc21
          refine V_iconst dX13_flag_42 ckc_3 ?_
          cases some_ex hf
          exact V_iret hE dX13_flag_43
      · have hf := if_f hf hc16
        refine V_iconst dX13_flag_31 ckc_2 ?_
        cases some_ex hf
        exact V_iret hE dX13_flag_32
    · have hf := if_f hf hc11
      refine V_iconst dX13_flag_20 ckc_1 ?_
      cases some_ex hf
      exact V_iret hE dX13_flag_21
  · have hf := if_f hf hc6
    refine V_iconst dX13_flag_9 ckc_0 ?_
    cases some_ex hf
    exact V_iret hE dX13_flag_10
set_option maxHeartbeats 4000000 in
theorem mC_X13_leaf_ok (l : Launch) (D : DD) (w : AH) (a : Nat) (r : Unit ⊕ Nat) (w' : AH) (hf : mC_X13_leaf a w = some (r, w')) : MA l D yX13_leaf cX13_leaf 1 none 4 [.ref a] w (oV r) w' := by
  refine MA.introH (own := RX13) (nm := "leaf") (ls := [some (.ref a)]) (by decide) rfl rfl (Nat.le_of_ble_eq_true rfl) rfl (fun X hl hD hE hH => ?_)
  subst hl hD
  unfold mC_X13_leaf at hf
  refine V_aload_n dX13_leaf_0 rfl ?_
  obtain ⟨h1, hf⟩ := ck_ex hf
  refine VP_getI fa_X13_208 h1 rfl dX13_leaf_1 ?_
  refine V_bipush dX13_leaf_4 ckb_50 ?_
  refine V_icmp_ne (tgt := 21) dX13_leaf_6 (by decide) (fun hc2 => ?_) (fun hc2 => ?_)
  · have hf := if_f hf hc2
    refine V_aload_n dX13_leaf_21 rfl ?_
    refine V_dup dX13_leaf_22 rfl ?_
    refine VP_getI fa_X13_208 h1 rfl dX13_leaf_23 ?_
    refine V_iconst dX13_leaf_26 ckc_1 ?_
    refine V_iadd dX13_leaf_27 ?_
    obtain ⟨w3, hs4, hf⟩ := st1_ex hf
    refine VE_putI fw_X13_208 h1 rfl rfl rfl hs4 dX13_leaf_28 ?_
    cases some_ex hf
    exact V_vret hE dX13_leaf_31
  · have hf := if_t hf hc2
    obtain ⟨h5, hf⟩ := ck_ex hf
    obtain ⟨b6, hb7, hf⟩ := st1_ex hf
    obtain ⟨w8, hs9, hf⟩ := st1_ex hf
    refine VE_new clX14 q1084 q1085 q161 ok_X14 h5 hb7 hs9 dX13_leaf_9 ?_
    refine V_dup dX13_leaf_12 rfl ?_
    refine V_aload_n dX13_leaf_13 rfl ?_
    obtain ⟨h10, hf⟩ := ck_ex hf
    refine VP_getI fa_X13_31 h10 rfl dX13_leaf_14 ?_
    obtain ⟨w12, hc11, hf⟩ := bd1_ex hf
    refine V_cI (av := [.int (hvi w8 a 3)]) (rest := [.ref b6]) (st' := [.ref b6]) (mC_X14_init_ok _ _ _ _ _ _ hc11) ic_X13_60 (by decide) rfl rfl (Nat.le_of_ble_eq_true rfl) dX13_leaf_17 rfl ?_
    cases some_ex hf
    exact V_athrow dX13_leaf_20 (VT_out hE hH (by decide))
set_option maxHeartbeats 4000000 in
theorem mC_X21_init_ok (l : Launch) (D : DD) (w : AH) (a : Nat) (p0 : Int32) (w' : AH) (hf : mC_X21_init a p0 w = some w') : MA l D yX21_init cX21_init 2 none 2 [.ref a, .int p0] w (.returned none) w' := by
  refine MA.introH (own := RX21) (nm := "<init>") (ls := [some (.ref a), some (.int p0)]) (by decide) rfl rfl (Nat.le_of_ble_eq_true rfl) rfl (fun X hl hD hE hH => ?_)
  subst hl hD
  unfold mC_X21_init at hf
  refine V_aload_n dX21_init_0 rfl ?_
  obtain ⟨r2, hc1, hf⟩ := bd1_ex hf
  refine V_nI (av := []) (rest := []) (st' := []) (mC_X20_init_ok _ _ _ _ hc1) ni_X21_1 (by decide) rfl rfl (Nat.le_of_ble_eq_true rfl) dX21_init_1 rfl ?_
  refine V_aload_n dX21_init_4 rfl ?_
  refine V_iload_n dX21_init_5 rfl ?_
  obtain ⟨h3, hf⟩ := ck_ex hf
  obtain ⟨w4, hs5, hf⟩ := st1_ex hf
  refine VE_putIF ff_X21_7 h3 hE.ini rfl rfl rfl hs5 dX21_init_6 ?_
  cases some_ex hf
  exact V_vret hE dX21_init_9
set_option maxHeartbeats 4000000 in
theorem mC_X22_init_ok (l : Launch) (D : DD) (w : AH) (a : Nat) (p0 : Int32) (p1 : Nat) (p2 : Nat) (w' : AH) (hf : mC_X22_init a p0 p1 p2 w = some w') : MA l D yX22_init cX22_init 4 none 2 [.ref a, .int p0, .ref p1, .ref p2] w (.returned none) w' := by
  refine MA.introH (own := RX22) (nm := "<init>") (ls := [some (.ref a), some (.int p0), some (.ref p1), some (.ref p2)]) (by decide) rfl rfl (Nat.le_of_ble_eq_true rfl) rfl (fun X hl hD hE hH => ?_)
  subst hl hD
  unfold mC_X22_init at hf
  refine V_aload_n dX22_init_0 rfl ?_
  obtain ⟨r2, hc1, hf⟩ := bd1_ex hf
  refine V_nI (av := []) (rest := []) (st' := []) (mC_X20_init_ok _ _ _ _ hc1) ni_X22_1 (by decide) rfl rfl (Nat.le_of_ble_eq_true rfl) dX22_init_1 rfl ?_
  refine V_aload_n dX22_init_4 rfl ?_
  refine V_iload_n dX22_init_5 rfl ?_
  obtain ⟨h3, hf⟩ := ck_ex hf
  obtain ⟨h4, hf⟩ := ck_ex hf
  obtain ⟨w5, hs6, hf⟩ := st1_ex hf
  refine VE_putIF ff_X22_7 h3 hE.ini rfl (isC_nar h4) (isC_fit h4) hs6 dX22_init_6 ?_
  refine V_aload_n dX22_init_9 rfl ?_
  refine V_aload_n dX22_init_10 rfl ?_
  obtain ⟨h7, hf⟩ := ck_ex hf
  obtain ⟨w8, hs9, hf⟩ := st1_ex hf
  refine VE_putRF (x := (some p1)) ff_X22_13 h7 hE.ini rfl hs9 dX22_init_11 ?_
  refine V_aload_n dX22_init_14 rfl ?_
  refine V_aload_n dX22_init_15 rfl ?_
  obtain ⟨h10, hf⟩ := ck_ex hf
  obtain ⟨w11, hs12, hf⟩ := st1_ex hf
  refine VE_putRF (x := (some p2)) ff_X22_17 h10 hE.ini rfl hs12 dX22_init_16 ?_
  cases some_ex hf
  exact V_vret hE dX22_init_19
set_option maxHeartbeats 4000000 in
theorem mC_X16_init_ok (l : Launch) (D : DD) (w : AH) (a : Nat) (hf : mC_X16_init a w = some ()) : MA l D yX16_init cX16_init 1 none 1 [.ref a] w (.returned none) w := by
  refine MA.introH (own := RX16) (nm := "<init>") (ls := [some (.ref a)]) (by decide) rfl rfl (Nat.le_of_ble_eq_true rfl) rfl (fun X hl hD hE hH => ?_)
  subst hl hD
  unfold mC_X16_init at hf
  refine V_aload_n dX16_init_0 rfl ?_
  refine V_objInit q1239 q182 q183 (by decide) (Nat.le_of_ble_eq_true rfl) dX16_init_1 ?_
  exact V_vret hE dX16_init_4
set_option maxHeartbeats 4000000 in
theorem mC_X19_init_ok (l : Launch) (D : DD) (w : AH) (a : Nat) (p0 : Int32) (p1 : Nat) (p2 : Nat) (w' : AH) (hf : mC_X19_init a p0 p1 p2 w = some w') : MA l D yX19_init cX19_init 4 none 2 [.ref a, .int p0, .ref p1, .ref p2] w (.returned none) w' := by
  refine MA.introH (own := RX19) (nm := "<init>") (ls := [some (.ref a), some (.int p0), some (.ref p1), some (.ref p2)]) (by decide) rfl rfl (Nat.le_of_ble_eq_true rfl) rfl (fun X hl hD hE hH => ?_)
  subst hl hD
  unfold mC_X19_init at hf
  refine V_aload_n dX19_init_0 rfl ?_
  obtain ⟨r2, hc1, hf⟩ := bd1_ex hf
  refine V_nI (av := []) (rest := []) (st' := []) (mC_X16_init_ok _ _ _ _ hc1) ni_X19_3 (by decide) rfl rfl (Nat.le_of_ble_eq_true rfl) dX19_init_1 rfl ?_
  refine V_aload_n dX19_init_4 rfl ?_
  refine V_iload_n dX19_init_5 rfl ?_
  obtain ⟨h3, hf⟩ := ck_ex hf
  obtain ⟨h4, hf⟩ := ck_ex hf
  obtain ⟨w5, hs6, hf⟩ := st1_ex hf
  refine VE_putIF ff_X19_9 h3 hE.ini rfl (isC_nar h4) (isC_fit h4) hs6 dX19_init_6 ?_
  refine V_aload_n dX19_init_9 rfl ?_
  refine V_aload_n dX19_init_10 rfl ?_
  obtain ⟨h7, hf⟩ := ck_ex hf
  obtain ⟨w8, hs9, hf⟩ := st1_ex hf
  refine VE_putRF (x := (some p1)) ff_X19_15 h7 hE.ini rfl hs9 dX19_init_11 ?_
  refine V_aload_n dX19_init_14 rfl ?_
  refine V_aload_n dX19_init_15 rfl ?_
  obtain ⟨h10, hf⟩ := ck_ex hf
  obtain ⟨w11, hs12, hf⟩ := st1_ex hf
  refine VE_putRF (x := (some p2)) ff_X19_19 h10 hE.ini rfl hs12 dX19_init_16 ?_
  cases some_ex hf
  exact V_vret hE dX19_init_19
set_option maxHeartbeats 4000000 in
theorem mC_X17_init_ok (l : Launch) (D : DD) (w : AH) (a : Nat) (p0 : Int32) (w' : AH) (hf : mC_X17_init a p0 w = some w') : MA l D yX17_init cX17_init 2 none 2 [.ref a, .int p0] w (.returned none) w' := by
  refine MA.introH (own := RX17) (nm := "<init>") (ls := [some (.ref a), some (.int p0)]) (by decide) rfl rfl (Nat.le_of_ble_eq_true rfl) rfl (fun X hl hD hE hH => ?_)
  subst hl hD
  unfold mC_X17_init at hf
  refine V_aload_n dX17_init_0 rfl ?_
  obtain ⟨r2, hc1, hf⟩ := bd1_ex hf
  refine V_nI (av := []) (rest := []) (st' := []) (mC_X16_init_ok _ _ _ _ hc1) ni_X17_1 (by decide) rfl rfl (Nat.le_of_ble_eq_true rfl) dX17_init_1 rfl ?_
  refine V_aload_n dX17_init_4 rfl ?_
  refine V_iload_n dX17_init_5 rfl ?_
  obtain ⟨h3, hf⟩ := ck_ex hf
  obtain ⟨w4, hs5, hf⟩ := st1_ex hf
  refine VE_putIF ff_X17_7 h3 hE.ini rfl rfl rfl hs5 dX17_init_6 ?_
  cases some_ex hf
  exact V_vret hE dX17_init_9
set_option maxHeartbeats 4000000 in
theorem mC_X13_value_ok (l : Launch) (D : DD) (w : AH) (a : Nat) (r : Int32) (hf : mC_X13_value a w = some r) : MA l D yX13_value cX13_value 1 (some (.int)) 6 [.ref a] w (.returned (some (.int r))) w := by
  refine MA.introH (own := RX13) (nm := "value") (ls := [some (.ref a)]) (by decide) rfl rfl (Nat.le_of_ble_eq_true rfl) rfl (fun X hl hD hE hH => ?_)
  subst hl hD
  unfold mC_X13_value at hf
  refine V_aload_n dX13_value_0 rfl ?_
  obtain ⟨b1, ha2, hf⟩ := bd1_ex hf
  refine V_ldcS (key := 211) st_211 ha2 dX13_value_1 ?_
  obtain ⟨h3, hf⟩ := ck_ex hf
  obtain ⟨r5, hc4, hf⟩ := bd1_ex hf
  refine V_cV (av := [.ref b1]) (rest := []) (st' := [.int r5]) (mC_X13_is_ok _ _ _ _ _ _ hc4) vc_X13_48 (kIn1 h3) (by decide) rfl rfl (Nat.le_of_ble_eq_true rfl) dX13_value_3 rfl ?_
  refine V_if_eq (tgt := 11) dX13_value_6 (by decide) (fun hc6 => ?_) (fun hc6 => ?_)
  · have hf := if_t hf hc6
    refine V_aload_n dX13_value_11 rfl ?_
    obtain ⟨b7, ha8, hf⟩ := bd1_ex hf
    refine V_ldcS (key := 213) st_213 ha8 dX13_value_12 ?_
    obtain ⟨r10, hc9, hf⟩ := bd1_ex hf
    refine V_cV (av := [.ref b7]) (rest := []) (st' := [.int r10]) (mC_X13_is_ok _ _ _ _ _ _ hc9) vc_X13_48 (kIn1 h3) (by decide) rfl rfl (Nat.le_of_ble_eq_true rfl) dX13_value_14 rfl ?_
    refine V_if_eq (tgt := 22) dX13_value_17 (by decide) (fun hc11 => ?_) (fun hc11 => ?_)
    · have hf := if_t hf hc11
      refine V_aload_n dX13_value_22 rfl ?_
      obtain ⟨b12, ha13, hf⟩ := bd1_ex hf
      refine V_ldcS (key := 215) st_215 ha13 dX13_value_23 ?_
      obtain ⟨r15, hc14, hf⟩ := bd1_ex hf
      refine V_cV (av := [.ref b12]) (rest := []) (st' := [.int r15]) (mC_X13_is_ok _ _ _ _ _ _ hc14) vc_X13_48 (kIn1 h3) (by decide) rfl rfl (Nat.le_of_ble_eq_true rfl) dX13_value_25 rfl ?_
      refine V_if_eq (tgt := 33) dX13_value_28 (by decide) (fun hc16 => ?_) (fun hc16 => ?_)
      · have hf := if_t hf hc16
        refine V_aload_n dX13_value_33 rfl ?_
        obtain ⟨b17, ha18, hf⟩ := bd1_ex hf
        refine V_ldcS (key := 217) st_217 ha18 dX13_value_34 ?_
        obtain ⟨r20, hc19, hf⟩ := bd1_ex hf
        refine V_cV (av := [.ref b17]) (rest := []) (st' := [.int r20]) (mC_X13_is_ok _ _ _ _ _ _ hc19) vc_X13_48 (kIn1 h3) (by decide) rfl rfl (Nat.le_of_ble_eq_true rfl) dX13_value_36 rfl ?_
        refine V_if_eq (tgt := 44) dX13_value_39 (by decide) (fun hc21 => ?_) (fun hc21 => ?_)
        · have hf := if_t hf hc21
          refine V_aload_n dX13_value_44 rfl ?_
          obtain ⟨b22, ha23, hf⟩ := bd1_ex hf
          refine V_ldcS (key := 219) st_219 ha23 dX13_value_45 ?_
          obtain ⟨r25, hc24, hf⟩ := bd1_ex hf
          refine V_cV (av := [.ref b22]) (rest := []) (st' := [.int r25]) (mC_X13_is_ok _ _ _ _ _ _ hc24) vc_X13_48 (kIn1 h3) (by decide) rfl rfl (Nat.le_of_ble_eq_true rfl) dX13_value_47 rfl ?_
          refine V_if_eq (tgt := 55) dX13_value_50 (by decide) (fun hc26 => ?_) (fun hc26 => ?_)
          · have hf := if_t hf hc26
            refine V_aload_n dX13_value_55 rfl ?_
            obtain ⟨b27, ha28, hf⟩ := bd1_ex hf
            refine V_ldcS (key := 221) st_221 ha28 dX13_value_56 ?_
            obtain ⟨r30, hc29, hf⟩ := bd1_ex hf
            refine V_cV (av := [.ref b27]) (rest := []) (st' := [.int r30]) (mC_X13_is_ok _ _ _ _ _ _ hc29) vc_X13_48 (kIn1 h3) (by decide) rfl rfl (Nat.le_of_ble_eq_true rfl) dX13_value_58 rfl ?_
            refine V_if_eq (tgt := 66) dX13_value_61 (by decide) (fun hc31 => ?_) (fun hc31 => ?_)
            · have hf := if_t hf hc31
              refine V_aload_n dX13_value_66 rfl ?_
              obtain ⟨b32, ha33, hf⟩ := bd1_ex hf
              refine V_ldcS (key := 223) st_223 ha33 dX13_value_67 ?_
              obtain ⟨r35, hc34, hf⟩ := bd1_ex hf
              refine V_cV (av := [.ref b32]) (rest := []) (st' := [.int r35]) (mC_X13_is_ok _ _ _ _ _ _ hc34) vc_X13_48 (kIn1 h3) (by decide) rfl rfl (Nat.le_of_ble_eq_true rfl) dX13_value_69 rfl ?_
              refine V_if_eq (tgt := 78) dX13_value_72 (by decide) (fun hc36 => ?_) (fun hc36 => ?_)
              · have hf := if_t hf hc36
                refine V_aload_n dX13_value_78 rfl ?_
                obtain ⟨b37, ha38, hf⟩ := bd1_ex hf
                refine V_ldcS (key := 225) st_225 ha38 dX13_value_79 ?_
                obtain ⟨r40, hc39, hf⟩ := bd1_ex hf
                refine V_cV (av := [.ref b37]) (rest := []) (st' := [.int r40]) (mC_X13_is_ok _ _ _ _ _ _ hc39) vc_X13_48 (kIn1 h3) (by decide) rfl rfl (Nat.le_of_ble_eq_true rfl) dX13_value_81 rfl ?_
                refine V_if_eq (tgt := 90) dX13_value_84 (by decide) (fun hc41 => ?_) (fun hc41 => ?_)
                · have hf := if_t hf hc41
                  refine V_aload_n dX13_value_90 rfl ?_
                  obtain ⟨b42, ha43, hf⟩ := bd1_ex hf
                  refine V_ldcS (key := 227) st_227 ha43 dX13_value_91 ?_
                  obtain ⟨r45, hc44, hf⟩ := bd1_ex hf
                  refine V_cV (av := [.ref b42]) (rest := []) (st' := [.int r45]) (mC_X13_is_ok _ _ _ _ _ _ hc44) vc_X13_48 (kIn1 h3) (by decide) rfl rfl (Nat.le_of_ble_eq_true rfl) dX13_value_93 rfl ?_
                  refine V_if_eq (tgt := 102) dX13_value_96 (by decide) (fun hc46 => ?_) (fun hc46 => ?_)
                  · have hf := if_t hf hc46
                    refine V_aload_n dX13_value_102 rfl ?_
                    obtain ⟨b47, ha48, hf⟩ := bd1_ex hf
                    refine V_ldcS (key := 229) st_229 ha48 dX13_value_103 ?_
                    obtain ⟨r50, hc49, hf⟩ := bd1_ex hf
                    refine V_cV (av := [.ref b47]) (rest := []) (st' := [.int r50]) (mC_X13_is_ok _ _ _ _ _ _ hc49) vc_X13_48 (kIn1 h3) (by decide) rfl rfl (Nat.le_of_ble_eq_true rfl) dX13_value_105 rfl ?_
                    refine V_if_eq (tgt := 114) dX13_value_108 (by decide) (fun hc51 => ?_) (fun hc51 => ?_)
                    · have hf := if_t hf hc51
                      refine V_aload_n dX13_value_114 rfl ?_
                      obtain ⟨b52, ha53, hf⟩ := bd1_ex hf
                      refine V_ldcS (key := 231) st_231 ha53 dX13_value_115 ?_
                      obtain ⟨r55, hc54, hf⟩ := bd1_ex hf
                      refine V_cV (av := [.ref b52]) (rest := []) (st' := [.int r55]) (mC_X13_is_ok _ _ _ _ _ _ hc54) vc_X13_48 (kIn1 h3) (by decide) rfl rfl (Nat.le_of_ble_eq_true rfl) dX13_value_117 rfl ?_
                      refine V_if_eq (tgt := 128) dX13_value_120 (by decide) (fun hc56 => ?_) (fun hc56 => ?_)
                      · have hf := if_t hf hc56
                        refine V_iconst dX13_value_128 ckc_m1 ?_
                        cases some_ex hf
                        exact V_iret hE dX13_value_129
                      · have hf := if_f hf hc56
                        refine V_bipush dX13_value_123 ckb_10 ?_
                        refine V_goto (tgt := 129) dX13_value_125 (by decide) ?_
                        cases some_ex hf
                        exact V_iret hE dX13_value_129
                    · have hf := if_f hf hc51
                      refine V_bipush dX13_value_111 ckb_9 ?_
                      cases some_ex hf
                      exact V_iret hE dX13_value_113
                  · have hf := if_f hf hc46
                    refine V_bipush dX13_value_99 ckb_8 ?_
                    cases some_ex hf
                    exact V_iret hE dX13_value_101
                · have hf := if_f hf hc41
                  refine V_bipush dX13_value_87 ckb_7 ?_
                  cases some_ex hf
                  exact V_iret hE dX13_value_89
              · have hf := if_f hf hc36
                refine V_bipush dX13_value_75 ckb_6 ?_
                cases some_ex hf
                exact V_iret hE dX13_value_77
            · have hf := if_f hf hc31
              refine V_iconst dX13_value_64 ckc_5 ?_
              cases some_ex hf
              exact V_iret hE dX13_value_65
          · have hf := if_f hf hc26
            refine V_iconst dX13_value_53 ckc_4 ?_
            cases some_ex hf
            exact V_iret hE dX13_value_54
        · have hf := if_f hf hc21
          refine V_iconst dX13_value_42 ckc_3 ?_
          cases some_ex hf
          exact V_iret hE dX13_value_43
      · have hf := if_f hf hc16
        refine V_iconst dX13_value_31 ckc_2 ?_
        cases some_ex hf
        exact V_iret hE dX13_value_32
    · have hf := if_f hf hc11
      refine V_iconst dX13_value_20 ckc_1 ?_
      cases some_ex hf
      exact V_iret hE dX13_value_21
  · have hf := if_f hf hc6
    refine V_iconst dX13_value_9 ckc_0 ?_
    cases some_ex hf
    exact V_iret hE dX13_value_10
set_option maxHeartbeats 4000000 in
theorem mC_X18_init_ok (l : Launch) (D : DD) (w : AH) (a : Nat) (p0 : Int32) (w' : AH) (hf : mC_X18_init a p0 w = some w') : MA l D yX18_init cX18_init 2 none 2 [.ref a, .int p0] w (.returned none) w' := by
  refine MA.introH (own := RX18) (nm := "<init>") (ls := [some (.ref a), some (.int p0)]) (by decide) rfl rfl (Nat.le_of_ble_eq_true rfl) rfl (fun X hl hD hE hH => ?_)
  subst hl hD
  unfold mC_X18_init at hf
  refine V_aload_n dX18_init_0 rfl ?_
  obtain ⟨r2, hc1, hf⟩ := bd1_ex hf
  refine V_nI (av := []) (rest := []) (st' := []) (mC_X16_init_ok _ _ _ _ hc1) ni_X18_1 (by decide) rfl rfl (Nat.le_of_ble_eq_true rfl) dX18_init_1 rfl ?_
  refine V_aload_n dX18_init_4 rfl ?_
  refine V_iload_n dX18_init_5 rfl ?_
  obtain ⟨h3, hf⟩ := ck_ex hf
  obtain ⟨w4, hs5, hf⟩ := st1_ex hf
  refine VE_putIF ff_X18_7 h3 hE.ini rfl rfl rfl hs5 dX18_init_6 ?_
  cases some_ex hf
  exact V_vret hE dX18_init_9
set_option maxHeartbeats 4000000 in
theorem mB_X13_test_34_v {X : CX} {w0 : AH} {dR : Nat} {r : Nat ⊕ Nat} {w' : AH}  (r_X13_test : Nat → AH → Option ((Nat ⊕ Nat) × AH)) (r_X13_both : Nat → AH → Option ((Nat ⊕ Nat) × AH)) (r_X13_plain : Nat → AH → Option ((Nat ⊕ Nat) × AH)) (r_X13_positive : Nat → AH → Option ((Nat ⊕ Nat) × AH)) (r_X13_sum : Nat → AH → Option ((Nat ⊕ Nat) × AH)) (r_X13_term : Nat → AH → Option ((Nat ⊕ Nat) × AH)) (r_X13_part : Nat → AH → Option ((Nat ⊕ Nat) × AH)) (hr_X13_test : ∀ (w : AH) (a : Nat) (r : Nat ⊕ Nat) (w' : AH) , r_X13_test a w = some (r, w') → MA (xl X) (xD X) yX13_test cX13_test 3 (some (.object "FirstPolls$Test")) dR [.ref a] w (oN r) w') (hr_X13_both : ∀ (w : AH) (a : Nat) (r : Nat ⊕ Nat) (w' : AH) , r_X13_both a w = some (r, w') → MA (xl X) (xD X) yX13_both cX13_both 3 (some (.object "FirstPolls$Test")) dR [.ref a] w (oN r) w') (hr_X13_plain : ∀ (w : AH) (a : Nat) (r : Nat ⊕ Nat) (w' : AH) , r_X13_plain a w = some (r, w') → MA (xl X) (xD X) yX13_plain cX13_plain 3 (some (.object "FirstPolls$Test")) dR [.ref a] w (oN r) w') (hr_X13_positive : ∀ (w : AH) (a : Nat) (r : Nat ⊕ Nat) (w' : AH) , r_X13_positive a w = some (r, w') → MA (xl X) (xD X) yX13_positive cX13_positive 4 (some (.object "FirstPolls$Test")) dR [.ref a] w (oN r) w') (hr_X13_sum : ∀ (w : AH) (a : Nat) (r : Nat ⊕ Nat) (w' : AH) , r_X13_sum a w = some (r, w') → MA (xl X) (xD X) yX13_sum cX13_sum 3 (some (.object "FirstPolls$Sum")) dR [.ref a] w (oN r) w') (hr_X13_term : ∀ (w : AH) (a : Nat) (r : Nat ⊕ Nat) (w' : AH) , r_X13_term a w = some (r, w') → MA (xl X) (xD X) yX13_term cX13_term 3 (some (.object "FirstPolls$Sum")) dR [.ref a] w (oN r) w') (hr_X13_part : ∀ (w : AH) (a : Nat) (r : Nat ⊕ Nat) (w' : AH) , r_X13_part a w = some (r, w') → MA (xl X) (xD X) yX13_part cX13_part 2 (some (.object "FirstPolls$Sum")) dR [.ref a] w (oN r) w') (hext : 7 ≤ dR) (hE : XE X w0 (dR + 1) (some (.object "FirstPolls$Test")) "test" (oN r) w') (hH : XH X []) (k34 : Nat → Nat → AH → Option ((Nat ⊕ Nat) × AH)) (hk34 : ∀ (v0 : Nat) (v2 : Nat) (w : AH), k34 v0 v2 w = some (r, w') → V X cX13_test RX13 3 (dR + 1) w 34 [some (.ref v0), none, some (.ref v2)] []) (v0 : Nat) (v2 : Nat) (w : AH) (hf : mB_X13_test_34 r_X13_test r_X13_both r_X13_plain r_X13_positive r_X13_sum r_X13_term r_X13_part k34 v0 v2 w = some (r, w')) : V X cX13_test RX13 3 (dR + 1) w 34 [some (.ref v0), none, some (.ref v2)] [] := by
  unfold mB_X13_test_34 at hf
  refine V_aload_n dX13_test_34 rfl ?_
  obtain ⟨b1, ha2, hf⟩ := bd1_ex hf
  refine V_ldcS (key := 126) st_126 ha2 dX13_test_35 ?_
  obtain ⟨h3, hf⟩ := ck_ex hf
  obtain ⟨r5, w6, hc4, hf⟩ := bd2_ex hf
  refine V_cV (av := [.ref b1]) (rest := []) (st' := [.int r5]) (mC_X13_takes_ok _ _ _ _ _ _ _ hc4) vc_X13_55 (kIn1 h3) (by omega) rfl rfl (Nat.le_of_ble_eq_true rfl) dX13_test_37 rfl ?_
  refine V_if_eq (tgt := 58) dX13_test_40 (by decide) (fun hc7 => ?_) (fun hc7 => ?_)
  · have hf := if_t hf hc7
    refine V_aload_n dX13_test_58 rfl ?_
    cases some_ex hf
    exact V_aret (r := some _) hE (by first | exact Or.inl ⟨_, rfl⟩ | exact Or.inr ⟨_, rfl⟩) dX13_test_59
  · have hf := if_f hf hc7
    refine V_aload_n dX13_test_43 rfl ?_
    obtain ⟨h8, hf⟩ := ck_ex hf
    obtain ⟨b9, hb10, hf⟩ := bd1_ex hf
    refine VP_getR (x := some b9) fa_X13_133 h8 rfl rfl hb10 dX13_test_44 ?_
    refine V_aload_n dX13_test_47 rfl ?_
    obtain ⟨h11, hf⟩ := ck_ex hf
    obtain ⟨x14, w15, hc12, hf⟩ | ⟨r13, w15, hc12, hf⟩ := (bdT_ex hf).symm
    · refine V_xV (av := []) (rest := [.ref b9]) (hr_X13_both _ _ _ _ hc12) vx_X13_123 q1297 q160 (by decide) (kIn1 h11) (by omega) rfl rfl (Nat.le_of_ble_eq_true rfl) dX13_test_48 ?_
      cases some_ex hf
      exact VO_t (VT_out hE hH (by decide))
    refine V_xV (av := []) (rest := [.ref b9]) (hr_X13_both _ _ _ _ hc12) vx_X13_123 q1297 q160 (by decide) (kIn1 h11) (by omega) rfl rfl (Nat.le_of_ble_eq_true rfl) dX13_test_48 ?_
    refine VO_r (v := some (.ref r13)) (st' := [.ref r13, .ref b9]) rfl ?_
    obtain ⟨h16, hf⟩ := ck_ex hf
    obtain ⟨r18, w19, hc17, hf⟩ := bd2_ex hf
    refine V_cV (av := [.ref r13]) (rest := []) (st' := [.int r18]) (mC_J2_add_ok _ _ _ _ _ _ _ hc17) vc_X13_84 (kIn1 h16) (by omega) rfl rfl (Nat.le_of_ble_eq_true rfl) dX13_test_51 rfl ?_
    refine V_pop dX13_test_54 rfl ?_
    refine V_goto (tgt := 34) dX13_test_55 (by decide) ?_
    exact hk34 v0 v2 w19 hf
set_option maxHeartbeats 4000000 in
theorem mB_X13_test_ok (l : Launch) (D : DD) (dR : Nat) (r_X13_test : Nat → AH → Option ((Nat ⊕ Nat) × AH)) (r_X13_both : Nat → AH → Option ((Nat ⊕ Nat) × AH)) (r_X13_plain : Nat → AH → Option ((Nat ⊕ Nat) × AH)) (r_X13_positive : Nat → AH → Option ((Nat ⊕ Nat) × AH)) (r_X13_sum : Nat → AH → Option ((Nat ⊕ Nat) × AH)) (r_X13_term : Nat → AH → Option ((Nat ⊕ Nat) × AH)) (r_X13_part : Nat → AH → Option ((Nat ⊕ Nat) × AH)) (hr_X13_test : ∀ (w : AH) (a : Nat) (r : Nat ⊕ Nat) (w' : AH) , r_X13_test a w = some (r, w') → MA l D yX13_test cX13_test 3 (some (.object "FirstPolls$Test")) dR [.ref a] w (oN r) w') (hr_X13_both : ∀ (w : AH) (a : Nat) (r : Nat ⊕ Nat) (w' : AH) , r_X13_both a w = some (r, w') → MA l D yX13_both cX13_both 3 (some (.object "FirstPolls$Test")) dR [.ref a] w (oN r) w') (hr_X13_plain : ∀ (w : AH) (a : Nat) (r : Nat ⊕ Nat) (w' : AH) , r_X13_plain a w = some (r, w') → MA l D yX13_plain cX13_plain 3 (some (.object "FirstPolls$Test")) dR [.ref a] w (oN r) w') (hr_X13_positive : ∀ (w : AH) (a : Nat) (r : Nat ⊕ Nat) (w' : AH) , r_X13_positive a w = some (r, w') → MA l D yX13_positive cX13_positive 4 (some (.object "FirstPolls$Test")) dR [.ref a] w (oN r) w') (hr_X13_sum : ∀ (w : AH) (a : Nat) (r : Nat ⊕ Nat) (w' : AH) , r_X13_sum a w = some (r, w') → MA l D yX13_sum cX13_sum 3 (some (.object "FirstPolls$Sum")) dR [.ref a] w (oN r) w') (hr_X13_term : ∀ (w : AH) (a : Nat) (r : Nat ⊕ Nat) (w' : AH) , r_X13_term a w = some (r, w') → MA l D yX13_term cX13_term 3 (some (.object "FirstPolls$Sum")) dR [.ref a] w (oN r) w') (hr_X13_part : ∀ (w : AH) (a : Nat) (r : Nat ⊕ Nat) (w' : AH) , r_X13_part a w = some (r, w') → MA l D yX13_part cX13_part 2 (some (.object "FirstPolls$Sum")) dR [.ref a] w (oN r) w') (hext : 7 ≤ dR) (w : AH) (a : Nat) (r : Nat ⊕ Nat) (w' : AH) (hf : mB_X13_test r_X13_test r_X13_both r_X13_plain r_X13_positive r_X13_sum r_X13_term r_X13_part a w = some (r, w')) : MA l D yX13_test cX13_test 3 (some (.object "FirstPolls$Test")) (dR + 1) [.ref a] w (oN r) w' := by
  refine MA.introH (own := RX13) (nm := "test") (ls := [some (.ref a), none, none]) (by decide) rfl rfl (Nat.le_of_ble_eq_true rfl) rfl (fun X hl hD hE hH => ?_)
  subst hl hD
  unfold mB_X13_test at hf
  refine V_aload_n dX13_test_0 rfl ?_
  obtain ⟨h1, hf⟩ := ck_ex hf
  obtain ⟨x4, w5, hc2, hf⟩ | ⟨r3, w5, hc2, hf⟩ := (bdT_ex hf).symm
  · refine V_xV (av := []) (rest := []) (hr_X13_both _ _ _ _ hc2) vx_X13_123 q1297 q160 (by decide) (kIn1 h1) (by omega) rfl rfl (Nat.le_of_ble_eq_true rfl) dX13_test_1 ?_
    cases some_ex hf
    exact VO_t (VT_out hE hH (by decide))
  refine V_xV (av := []) (rest := []) (hr_X13_both _ _ _ _ hc2) vx_X13_123 q1297 q160 (by decide) (kIn1 h1) (by omega) rfl rfl (Nat.le_of_ble_eq_true rfl) dX13_test_1 ?_
  refine VO_r (v := some (.ref r3)) (st' := [.ref r3]) rfl ?_
  refine V_astore_n (ls' := [some (.ref a), some (.ref r3), none]) dX13_test_4 (by decide) rfl ?_
  refine V_aload_n dX13_test_5 rfl ?_
  obtain ⟨b6, ha7, hf⟩ := bd1_ex hf
  refine V_ldcS (key := 126) st_126 ha7 dX13_test_6 ?_
  obtain ⟨h8, hf⟩ := ck_ex hf
  obtain ⟨r10, hc9, hf⟩ := bd1_ex hf
  refine V_cV (av := [.ref b6]) (rest := []) (st' := [.int r10]) (mC_X13_is_ok _ _ _ _ _ _ hc9) vc_X13_48 (kIn1 h8) (by omega) rfl rfl (Nat.le_of_ble_eq_true rfl) dX13_test_8 rfl ?_
  refine V_if_ne (tgt := 16) dX13_test_11 (by decide) (fun hc11 => ?_) (fun hc11 => ?_)
  · have hf := if_f hf hc11
    obtain ⟨h12, hf⟩ := ck_ex hf
    obtain ⟨b13, hb14, hf⟩ := st1_ex hf
    obtain ⟨w15, hs16, hf⟩ := st1_ex hf
    refine VE_new clX24 q1361 q1362 q173 ok_X24 h12 hb14 hs16 dX13_test_16 ?_
    refine V_dup dX13_test_19 rfl ?_
    refine V_iconst dX13_test_20 ckc_0 ?_
    obtain ⟨w18, hc17, hf⟩ := bd1_ex hf
    refine V_cI (av := [.int (0 : Int32)]) (rest := [.ref b13]) (st' := [.ref b13]) (mC_X24_init_ok _ _ _ _ _ _ hc17) ic_X13_130 (by omega) rfl rfl (Nat.le_of_ble_eq_true rfl) dX13_test_21 rfl ?_
    refine V_astore_n (ls' := [some (.ref a), some (.ref r3), some (.ref b13)]) dX13_test_24 (by decide) rfl ?_
    refine V_aload_n dX13_test_25 rfl ?_
    obtain ⟨h19, hf⟩ := ck_ex hf
    obtain ⟨b20, hb21, hf⟩ := bd1_ex hf
    refine VP_getR (x := some b20) fa_X13_133 h19 rfl rfl hb21 dX13_test_26 ?_
    refine V_aload_n dX13_test_29 rfl ?_
    obtain ⟨h22, hf⟩ := ck_ex hf
    obtain ⟨r24, w25, hc23, hf⟩ := bd2_ex hf
    refine V_cV (av := [.ref r3]) (rest := []) (st' := [.int r24]) (mC_J2_add_ok _ _ _ _ _ _ _ hc23) vc_X13_84 (kIn1 h22) (by omega) rfl rfl (Nat.le_of_ble_eq_true rfl) dX13_test_30 rfl ?_
    refine V_pop dX13_test_33 rfl ?_
    refine V_keep [true, false, true] rfl ?_
    exact lq3_ex (P := fun v0 v2 w => V X cX13_test RX13 3 (dR + 1) w 34 [some (.ref v0), none, some (.ref v2)] []) (fun k hk v0 v2 w hf => mB_X13_test_34_v r_X13_test r_X13_both r_X13_plain r_X13_positive r_X13_sum r_X13_term r_X13_part hr_X13_test hr_X13_both hr_X13_plain hr_X13_positive hr_X13_sum hr_X13_term hr_X13_part hext hE hH k hk v0 v2 w hf) LF a b13 w25 hf
  · have hf := if_t hf hc11
    refine V_aload_n dX13_test_14 rfl ?_
    cases some_ex hf
    exact V_aret (r := some _) hE (by first | exact Or.inl ⟨_, rfl⟩ | exact Or.inr ⟨_, rfl⟩) dX13_test_15
set_option maxHeartbeats 4000000 in
theorem mB_X13_both_34_v {X : CX} {w0 : AH} {dR : Nat} {r : Nat ⊕ Nat} {w' : AH}  (r_X13_test : Nat → AH → Option ((Nat ⊕ Nat) × AH)) (r_X13_both : Nat → AH → Option ((Nat ⊕ Nat) × AH)) (r_X13_plain : Nat → AH → Option ((Nat ⊕ Nat) × AH)) (r_X13_positive : Nat → AH → Option ((Nat ⊕ Nat) × AH)) (r_X13_sum : Nat → AH → Option ((Nat ⊕ Nat) × AH)) (r_X13_term : Nat → AH → Option ((Nat ⊕ Nat) × AH)) (r_X13_part : Nat → AH → Option ((Nat ⊕ Nat) × AH)) (hr_X13_test : ∀ (w : AH) (a : Nat) (r : Nat ⊕ Nat) (w' : AH) , r_X13_test a w = some (r, w') → MA (xl X) (xD X) yX13_test cX13_test 3 (some (.object "FirstPolls$Test")) dR [.ref a] w (oN r) w') (hr_X13_both : ∀ (w : AH) (a : Nat) (r : Nat ⊕ Nat) (w' : AH) , r_X13_both a w = some (r, w') → MA (xl X) (xD X) yX13_both cX13_both 3 (some (.object "FirstPolls$Test")) dR [.ref a] w (oN r) w') (hr_X13_plain : ∀ (w : AH) (a : Nat) (r : Nat ⊕ Nat) (w' : AH) , r_X13_plain a w = some (r, w') → MA (xl X) (xD X) yX13_plain cX13_plain 3 (some (.object "FirstPolls$Test")) dR [.ref a] w (oN r) w') (hr_X13_positive : ∀ (w : AH) (a : Nat) (r : Nat ⊕ Nat) (w' : AH) , r_X13_positive a w = some (r, w') → MA (xl X) (xD X) yX13_positive cX13_positive 4 (some (.object "FirstPolls$Test")) dR [.ref a] w (oN r) w') (hr_X13_sum : ∀ (w : AH) (a : Nat) (r : Nat ⊕ Nat) (w' : AH) , r_X13_sum a w = some (r, w') → MA (xl X) (xD X) yX13_sum cX13_sum 3 (some (.object "FirstPolls$Sum")) dR [.ref a] w (oN r) w') (hr_X13_term : ∀ (w : AH) (a : Nat) (r : Nat ⊕ Nat) (w' : AH) , r_X13_term a w = some (r, w') → MA (xl X) (xD X) yX13_term cX13_term 3 (some (.object "FirstPolls$Sum")) dR [.ref a] w (oN r) w') (hr_X13_part : ∀ (w : AH) (a : Nat) (r : Nat ⊕ Nat) (w' : AH) , r_X13_part a w = some (r, w') → MA (xl X) (xD X) yX13_part cX13_part 2 (some (.object "FirstPolls$Sum")) dR [.ref a] w (oN r) w') (hext : 7 ≤ dR) (hE : XE X w0 (dR + 1) (some (.object "FirstPolls$Test")) "both" (oN r) w') (hH : XH X []) (k34 : Nat → Nat → AH → Option ((Nat ⊕ Nat) × AH)) (hk34 : ∀ (v0 : Nat) (v2 : Nat) (w : AH), k34 v0 v2 w = some (r, w') → V X cX13_both RX13 3 (dR + 1) w 34 [some (.ref v0), none, some (.ref v2)] []) (v0 : Nat) (v2 : Nat) (w : AH) (hf : mB_X13_both_34 r_X13_test r_X13_both r_X13_plain r_X13_positive r_X13_sum r_X13_term r_X13_part k34 v0 v2 w = some (r, w')) : V X cX13_both RX13 3 (dR + 1) w 34 [some (.ref v0), none, some (.ref v2)] [] := by
  unfold mB_X13_both_34 at hf
  refine V_aload_n dX13_both_34 rfl ?_
  obtain ⟨b1, ha2, hf⟩ := bd1_ex hf
  refine V_ldcS (key := 139) st_139 ha2 dX13_both_35 ?_
  obtain ⟨h3, hf⟩ := ck_ex hf
  obtain ⟨r5, w6, hc4, hf⟩ := bd2_ex hf
  refine V_cV (av := [.ref b1]) (rest := []) (st' := [.int r5]) (mC_X13_takes_ok _ _ _ _ _ _ _ hc4) vc_X13_55 (kIn1 h3) (by omega) rfl rfl (Nat.le_of_ble_eq_true rfl) dX13_both_37 rfl ?_
  refine V_if_eq (tgt := 58) dX13_both_40 (by decide) (fun hc7 => ?_) (fun hc7 => ?_)
  · have hf := if_t hf hc7
    refine V_aload_n dX13_both_58 rfl ?_
    cases some_ex hf
    exact V_aret (r := some _) hE (by first | exact Or.inl ⟨_, rfl⟩ | exact Or.inr ⟨_, rfl⟩) dX13_both_59
  · have hf := if_f hf hc7
    refine V_aload_n dX13_both_43 rfl ?_
    obtain ⟨h8, hf⟩ := ck_ex hf
    obtain ⟨b9, hb10, hf⟩ := bd1_ex hf
    refine VP_getR (x := some b9) fa_X13_133 h8 rfl rfl hb10 dX13_both_44 ?_
    refine V_aload_n dX13_both_47 rfl ?_
    obtain ⟨h11, hf⟩ := ck_ex hf
    obtain ⟨x14, w15, hc12, hf⟩ | ⟨r13, w15, hc12, hf⟩ := (bdT_ex hf).symm
    · refine V_xV (av := []) (rest := [.ref b9]) (hr_X13_plain _ _ _ _ hc12) vx_X13_136 q1301 q160 (by decide) (kIn1 h11) (by omega) rfl rfl (Nat.le_of_ble_eq_true rfl) dX13_both_48 ?_
      cases some_ex hf
      exact VO_t (VT_out hE hH (by decide))
    refine V_xV (av := []) (rest := [.ref b9]) (hr_X13_plain _ _ _ _ hc12) vx_X13_136 q1301 q160 (by decide) (kIn1 h11) (by omega) rfl rfl (Nat.le_of_ble_eq_true rfl) dX13_both_48 ?_
    refine VO_r (v := some (.ref r13)) (st' := [.ref r13, .ref b9]) rfl ?_
    obtain ⟨h16, hf⟩ := ck_ex hf
    obtain ⟨r18, w19, hc17, hf⟩ := bd2_ex hf
    refine V_cV (av := [.ref r13]) (rest := []) (st' := [.int r18]) (mC_J2_add_ok _ _ _ _ _ _ _ hc17) vc_X13_84 (kIn1 h16) (by omega) rfl rfl (Nat.le_of_ble_eq_true rfl) dX13_both_51 rfl ?_
    refine V_pop dX13_both_54 rfl ?_
    refine V_goto (tgt := 34) dX13_both_55 (by decide) ?_
    exact hk34 v0 v2 w19 hf
set_option maxHeartbeats 4000000 in
theorem mB_X13_both_ok (l : Launch) (D : DD) (dR : Nat) (r_X13_test : Nat → AH → Option ((Nat ⊕ Nat) × AH)) (r_X13_both : Nat → AH → Option ((Nat ⊕ Nat) × AH)) (r_X13_plain : Nat → AH → Option ((Nat ⊕ Nat) × AH)) (r_X13_positive : Nat → AH → Option ((Nat ⊕ Nat) × AH)) (r_X13_sum : Nat → AH → Option ((Nat ⊕ Nat) × AH)) (r_X13_term : Nat → AH → Option ((Nat ⊕ Nat) × AH)) (r_X13_part : Nat → AH → Option ((Nat ⊕ Nat) × AH)) (hr_X13_test : ∀ (w : AH) (a : Nat) (r : Nat ⊕ Nat) (w' : AH) , r_X13_test a w = some (r, w') → MA l D yX13_test cX13_test 3 (some (.object "FirstPolls$Test")) dR [.ref a] w (oN r) w') (hr_X13_both : ∀ (w : AH) (a : Nat) (r : Nat ⊕ Nat) (w' : AH) , r_X13_both a w = some (r, w') → MA l D yX13_both cX13_both 3 (some (.object "FirstPolls$Test")) dR [.ref a] w (oN r) w') (hr_X13_plain : ∀ (w : AH) (a : Nat) (r : Nat ⊕ Nat) (w' : AH) , r_X13_plain a w = some (r, w') → MA l D yX13_plain cX13_plain 3 (some (.object "FirstPolls$Test")) dR [.ref a] w (oN r) w') (hr_X13_positive : ∀ (w : AH) (a : Nat) (r : Nat ⊕ Nat) (w' : AH) , r_X13_positive a w = some (r, w') → MA l D yX13_positive cX13_positive 4 (some (.object "FirstPolls$Test")) dR [.ref a] w (oN r) w') (hr_X13_sum : ∀ (w : AH) (a : Nat) (r : Nat ⊕ Nat) (w' : AH) , r_X13_sum a w = some (r, w') → MA l D yX13_sum cX13_sum 3 (some (.object "FirstPolls$Sum")) dR [.ref a] w (oN r) w') (hr_X13_term : ∀ (w : AH) (a : Nat) (r : Nat ⊕ Nat) (w' : AH) , r_X13_term a w = some (r, w') → MA l D yX13_term cX13_term 3 (some (.object "FirstPolls$Sum")) dR [.ref a] w (oN r) w') (hr_X13_part : ∀ (w : AH) (a : Nat) (r : Nat ⊕ Nat) (w' : AH) , r_X13_part a w = some (r, w') → MA l D yX13_part cX13_part 2 (some (.object "FirstPolls$Sum")) dR [.ref a] w (oN r) w') (hext : 7 ≤ dR) (w : AH) (a : Nat) (r : Nat ⊕ Nat) (w' : AH) (hf : mB_X13_both r_X13_test r_X13_both r_X13_plain r_X13_positive r_X13_sum r_X13_term r_X13_part a w = some (r, w')) : MA l D yX13_both cX13_both 3 (some (.object "FirstPolls$Test")) (dR + 1) [.ref a] w (oN r) w' := by
  refine MA.introH (own := RX13) (nm := "both") (ls := [some (.ref a), none, none]) (by decide) rfl rfl (Nat.le_of_ble_eq_true rfl) rfl (fun X hl hD hE hH => ?_)
  subst hl hD
  unfold mB_X13_both at hf
  refine V_aload_n dX13_both_0 rfl ?_
  obtain ⟨h1, hf⟩ := ck_ex hf
  obtain ⟨x4, w5, hc2, hf⟩ | ⟨r3, w5, hc2, hf⟩ := (bdT_ex hf).symm
  · refine V_xV (av := []) (rest := []) (hr_X13_plain _ _ _ _ hc2) vx_X13_136 q1301 q160 (by decide) (kIn1 h1) (by omega) rfl rfl (Nat.le_of_ble_eq_true rfl) dX13_both_1 ?_
    cases some_ex hf
    exact VO_t (VT_out hE hH (by decide))
  refine V_xV (av := []) (rest := []) (hr_X13_plain _ _ _ _ hc2) vx_X13_136 q1301 q160 (by decide) (kIn1 h1) (by omega) rfl rfl (Nat.le_of_ble_eq_true rfl) dX13_both_1 ?_
  refine VO_r (v := some (.ref r3)) (st' := [.ref r3]) rfl ?_
  refine V_astore_n (ls' := [some (.ref a), some (.ref r3), none]) dX13_both_4 (by decide) rfl ?_
  refine V_aload_n dX13_both_5 rfl ?_
  obtain ⟨b6, ha7, hf⟩ := bd1_ex hf
  refine V_ldcS (key := 139) st_139 ha7 dX13_both_6 ?_
  obtain ⟨h8, hf⟩ := ck_ex hf
  obtain ⟨r10, hc9, hf⟩ := bd1_ex hf
  refine V_cV (av := [.ref b6]) (rest := []) (st' := [.int r10]) (mC_X13_is_ok _ _ _ _ _ _ hc9) vc_X13_48 (kIn1 h8) (by omega) rfl rfl (Nat.le_of_ble_eq_true rfl) dX13_both_8 rfl ?_
  refine V_if_ne (tgt := 16) dX13_both_11 (by decide) (fun hc11 => ?_) (fun hc11 => ?_)
  · have hf := if_f hf hc11
    obtain ⟨h12, hf⟩ := ck_ex hf
    obtain ⟨b13, hb14, hf⟩ := st1_ex hf
    obtain ⟨w15, hs16, hf⟩ := st1_ex hf
    refine VE_new clX24 q1361 q1362 q173 ok_X24 h12 hb14 hs16 dX13_both_16 ?_
    refine V_dup dX13_both_19 rfl ?_
    refine V_iconst dX13_both_20 ckc_1 ?_
    obtain ⟨w18, hc17, hf⟩ := bd1_ex hf
    refine V_cI (av := [.int (1 : Int32)]) (rest := [.ref b13]) (st' := [.ref b13]) (mC_X24_init_ok _ _ _ _ _ _ hc17) ic_X13_130 (by omega) rfl rfl (Nat.le_of_ble_eq_true rfl) dX13_both_21 rfl ?_
    refine V_astore_n (ls' := [some (.ref a), some (.ref r3), some (.ref b13)]) dX13_both_24 (by decide) rfl ?_
    refine V_aload_n dX13_both_25 rfl ?_
    obtain ⟨h19, hf⟩ := ck_ex hf
    obtain ⟨b20, hb21, hf⟩ := bd1_ex hf
    refine VP_getR (x := some b20) fa_X13_133 h19 rfl rfl hb21 dX13_both_26 ?_
    refine V_aload_n dX13_both_29 rfl ?_
    obtain ⟨h22, hf⟩ := ck_ex hf
    obtain ⟨r24, w25, hc23, hf⟩ := bd2_ex hf
    refine V_cV (av := [.ref r3]) (rest := []) (st' := [.int r24]) (mC_J2_add_ok _ _ _ _ _ _ _ hc23) vc_X13_84 (kIn1 h22) (by omega) rfl rfl (Nat.le_of_ble_eq_true rfl) dX13_both_30 rfl ?_
    refine V_pop dX13_both_33 rfl ?_
    refine V_keep [true, false, true] rfl ?_
    exact lq3_ex (P := fun v0 v2 w => V X cX13_both RX13 3 (dR + 1) w 34 [some (.ref v0), none, some (.ref v2)] []) (fun k hk v0 v2 w hf => mB_X13_both_34_v r_X13_test r_X13_both r_X13_plain r_X13_positive r_X13_sum r_X13_term r_X13_part hr_X13_test hr_X13_both hr_X13_plain hr_X13_positive hr_X13_sum hr_X13_term hr_X13_part hext hE hH k hk v0 v2 w hf) LF a b13 w25 hf
  · have hf := if_t hf hc11
    refine V_aload_n dX13_both_14 rfl ?_
    cases some_ex hf
    exact V_aret (r := some _) hE (by first | exact Or.inl ⟨_, rfl⟩ | exact Or.inr ⟨_, rfl⟩) dX13_both_15
set_option maxHeartbeats 4000000 in
theorem mB_X13_plain_20_v {X : CX} {w0 : AH} {dR : Nat} {r : Nat ⊕ Nat} {w' : AH}  (r_X13_test : Nat → AH → Option ((Nat ⊕ Nat) × AH)) (r_X13_both : Nat → AH → Option ((Nat ⊕ Nat) × AH)) (r_X13_plain : Nat → AH → Option ((Nat ⊕ Nat) × AH)) (r_X13_positive : Nat → AH → Option ((Nat ⊕ Nat) × AH)) (r_X13_sum : Nat → AH → Option ((Nat ⊕ Nat) × AH)) (r_X13_term : Nat → AH → Option ((Nat ⊕ Nat) × AH)) (r_X13_part : Nat → AH → Option ((Nat ⊕ Nat) × AH)) (hr_X13_test : ∀ (w : AH) (a : Nat) (r : Nat ⊕ Nat) (w' : AH) , r_X13_test a w = some (r, w') → MA (xl X) (xD X) yX13_test cX13_test 3 (some (.object "FirstPolls$Test")) dR [.ref a] w (oN r) w') (hr_X13_both : ∀ (w : AH) (a : Nat) (r : Nat ⊕ Nat) (w' : AH) , r_X13_both a w = some (r, w') → MA (xl X) (xD X) yX13_both cX13_both 3 (some (.object "FirstPolls$Test")) dR [.ref a] w (oN r) w') (hr_X13_plain : ∀ (w : AH) (a : Nat) (r : Nat ⊕ Nat) (w' : AH) , r_X13_plain a w = some (r, w') → MA (xl X) (xD X) yX13_plain cX13_plain 3 (some (.object "FirstPolls$Test")) dR [.ref a] w (oN r) w') (hr_X13_positive : ∀ (w : AH) (a : Nat) (r : Nat ⊕ Nat) (w' : AH) , r_X13_positive a w = some (r, w') → MA (xl X) (xD X) yX13_positive cX13_positive 4 (some (.object "FirstPolls$Test")) dR [.ref a] w (oN r) w') (hr_X13_sum : ∀ (w : AH) (a : Nat) (r : Nat ⊕ Nat) (w' : AH) , r_X13_sum a w = some (r, w') → MA (xl X) (xD X) yX13_sum cX13_sum 3 (some (.object "FirstPolls$Sum")) dR [.ref a] w (oN r) w') (hr_X13_term : ∀ (w : AH) (a : Nat) (r : Nat ⊕ Nat) (w' : AH) , r_X13_term a w = some (r, w') → MA (xl X) (xD X) yX13_term cX13_term 3 (some (.object "FirstPolls$Sum")) dR [.ref a] w (oN r) w') (hr_X13_part : ∀ (w : AH) (a : Nat) (r : Nat ⊕ Nat) (w' : AH) , r_X13_part a w = some (r, w') → MA (xl X) (xD X) yX13_part cX13_part 2 (some (.object "FirstPolls$Sum")) dR [.ref a] w (oN r) w') (hext : 7 ≤ dR) (hE : XE X w0 (dR + 1) (some (.object "FirstPolls$Test")) "plain" (oN r) w') (hH : XH X []) (k2 : Nat → Int32 → AH → Option ((Nat ⊕ Nat) × AH)) (hk2 : ∀ (v0 : Nat) (v1 : Int32) (w : AH), k2 v0 v1 w = some (r, w') → V X cX13_plain RX13 3 (dR + 1) w 2 [some (.ref v0), some (.int v1), none] []) (v0 : Nat) (t0 : Int32) (w : AH) (hf : mB_X13_plain_20 r_X13_test r_X13_both r_X13_plain r_X13_positive r_X13_sum r_X13_term r_X13_part k2 v0 t0 w = some (r, w')) : V X cX13_plain RX13 3 (dR + 1) w 20 [some (.ref v0), none, none] [.int t0] := by
  unfold mB_X13_plain_20 at hf
  refine V_istore_n (ls' := [some (.ref v0), some (.int t0), none]) dX13_plain_20 (by decide) rfl ?_
  refine V_goto (tgt := 2) dX13_plain_21 (by decide) ?_
  exact hk2 v0 t0 w hf
set_option maxHeartbeats 4000000 in
theorem mB_X13_plain_2_v {X : CX} {w0 : AH} {dR : Nat} {r : Nat ⊕ Nat} {w' : AH}  (r_X13_test : Nat → AH → Option ((Nat ⊕ Nat) × AH)) (r_X13_both : Nat → AH → Option ((Nat ⊕ Nat) × AH)) (r_X13_plain : Nat → AH → Option ((Nat ⊕ Nat) × AH)) (r_X13_positive : Nat → AH → Option ((Nat ⊕ Nat) × AH)) (r_X13_sum : Nat → AH → Option ((Nat ⊕ Nat) × AH)) (r_X13_term : Nat → AH → Option ((Nat ⊕ Nat) × AH)) (r_X13_part : Nat → AH → Option ((Nat ⊕ Nat) × AH)) (hr_X13_test : ∀ (w : AH) (a : Nat) (r : Nat ⊕ Nat) (w' : AH) , r_X13_test a w = some (r, w') → MA (xl X) (xD X) yX13_test cX13_test 3 (some (.object "FirstPolls$Test")) dR [.ref a] w (oN r) w') (hr_X13_both : ∀ (w : AH) (a : Nat) (r : Nat ⊕ Nat) (w' : AH) , r_X13_both a w = some (r, w') → MA (xl X) (xD X) yX13_both cX13_both 3 (some (.object "FirstPolls$Test")) dR [.ref a] w (oN r) w') (hr_X13_plain : ∀ (w : AH) (a : Nat) (r : Nat ⊕ Nat) (w' : AH) , r_X13_plain a w = some (r, w') → MA (xl X) (xD X) yX13_plain cX13_plain 3 (some (.object "FirstPolls$Test")) dR [.ref a] w (oN r) w') (hr_X13_positive : ∀ (w : AH) (a : Nat) (r : Nat ⊕ Nat) (w' : AH) , r_X13_positive a w = some (r, w') → MA (xl X) (xD X) yX13_positive cX13_positive 4 (some (.object "FirstPolls$Test")) dR [.ref a] w (oN r) w') (hr_X13_sum : ∀ (w : AH) (a : Nat) (r : Nat ⊕ Nat) (w' : AH) , r_X13_sum a w = some (r, w') → MA (xl X) (xD X) yX13_sum cX13_sum 3 (some (.object "FirstPolls$Sum")) dR [.ref a] w (oN r) w') (hr_X13_term : ∀ (w : AH) (a : Nat) (r : Nat ⊕ Nat) (w' : AH) , r_X13_term a w = some (r, w') → MA (xl X) (xD X) yX13_term cX13_term 3 (some (.object "FirstPolls$Sum")) dR [.ref a] w (oN r) w') (hr_X13_part : ∀ (w : AH) (a : Nat) (r : Nat ⊕ Nat) (w' : AH) , r_X13_part a w = some (r, w') → MA (xl X) (xD X) yX13_part cX13_part 2 (some (.object "FirstPolls$Sum")) dR [.ref a] w (oN r) w') (hext : 7 ≤ dR) (hE : XE X w0 (dR + 1) (some (.object "FirstPolls$Test")) "plain" (oN r) w') (hH : XH X []) (k2 : Nat → Int32 → AH → Option ((Nat ⊕ Nat) × AH)) (hk2 : ∀ (v0 : Nat) (v1 : Int32) (w : AH), k2 v0 v1 w = some (r, w') → V X cX13_plain RX13 3 (dR + 1) w 2 [some (.ref v0), some (.int v1), none] []) (v0 : Nat) (v1 : Int32) (w : AH) (hf : mB_X13_plain_2 r_X13_test r_X13_both r_X13_plain r_X13_positive r_X13_sum r_X13_term r_X13_part k2 v0 v1 w = some (r, w')) : V X cX13_plain RX13 3 (dR + 1) w 2 [some (.ref v0), some (.int v1), none] [] := by
  unfold mB_X13_plain_2 at hf
  refine V_aload_n dX13_plain_2 rfl ?_
  obtain ⟨b1, ha2, hf⟩ := bd1_ex hf
  refine V_ldcS (key := 144) st_144 ha2 dX13_plain_3 ?_
  obtain ⟨h3, hf⟩ := ck_ex hf
  obtain ⟨r5, w6, hc4, hf⟩ := bd2_ex hf
  refine V_cV (av := [.ref b1]) (rest := []) (st' := [.int r5]) (mC_X13_takes_ok _ _ _ _ _ _ _ hc4) vc_X13_55 (kIn1 h3) (by omega) rfl rfl (Nat.le_of_ble_eq_true rfl) dX13_plain_5 rfl ?_
  refine V_if_eq (tgt := 24) dX13_plain_8 (by decide) (fun hc7 => ?_) (fun hc7 => ?_)
  · have hf := if_t hf hc7
    refine V_aload_n dX13_plain_24 rfl ?_
    obtain ⟨h8, hf⟩ := ck_ex hf
    obtain ⟨x11, w12, hc9, hf⟩ | ⟨r10, w12, hc9, hf⟩ := (bdT_ex hf).symm
    · refine V_xV (av := []) (rest := []) (hr_X13_positive _ _ _ _ hc9) vx_X13_146 q1306 q160 (by decide) (kIn1 h8) (by omega) rfl rfl (Nat.le_of_ble_eq_true rfl) dX13_plain_25 ?_
      cases some_ex hf
      exact VO_t (VT_out hE hH (by decide))
    refine V_xV (av := []) (rest := []) (hr_X13_positive _ _ _ _ hc9) vx_X13_146 q1306 q160 (by decide) (kIn1 h8) (by omega) rfl rfl (Nat.le_of_ble_eq_true rfl) dX13_plain_25 ?_
    refine VO_r (v := some (.ref r10)) (st' := [.ref r10]) rfl ?_
    refine V_astore_n (ls' := [some (.ref v0), some (.int v1), some (.ref r10)]) dX13_plain_28 (by decide) rfl ?_
    refine V_iload_n dX13_plain_29 rfl ?_
    refine V_if_eq (tgt := 44) dX13_plain_30 (by decide) (fun hc13 => ?_) (fun hc13 => ?_)
    · have hf := if_t hf hc13
      refine V_aload_n dX13_plain_44 rfl ?_
      cases some_ex hf
      exact V_aret (r := some _) hE (by first | exact Or.inl ⟨_, rfl⟩ | exact Or.inr ⟨_, rfl⟩) dX13_plain_45
    · have hf := if_f hf hc13
      obtain ⟨h14, hf⟩ := ck_ex hf
      obtain ⟨b15, hb16, hf⟩ := st1_ex hf
      obtain ⟨w17, hs18, hf⟩ := st1_ex hf
      refine VE_new clX23 q1350 q1351 q172 ok_X23 h14 hb16 hs18 dX13_plain_33 ?_
      refine V_dup dX13_plain_36 rfl ?_
      refine V_aload_n dX13_plain_37 rfl ?_
      obtain ⟨w20, hc19, hf⟩ := bd1_ex hf
      refine V_cI (av := [.ref r10]) (rest := [.ref b15]) (st' := [.ref b15]) (mC_X23_init_ok _ _ _ _ _ _ hc19) ic_X13_151 (by omega) rfl rfl (Nat.le_of_ble_eq_true rfl) dX13_plain_38 rfl ?_
      refine V_goto (tgt := 45) dX13_plain_41 (by decide) ?_
      cases some_ex hf
      exact V_aret (r := some _) hE (by first | exact Or.inl ⟨_, rfl⟩ | exact Or.inr ⟨_, rfl⟩) dX13_plain_45
  · have hf := if_f hf hc7
    refine V_iload_n dX13_plain_11 rfl ?_
    refine V_if_ne (tgt := 19) dX13_plain_12 (by decide) (fun hc21 => ?_) (fun hc21 => ?_)
    · have hf := if_f hf hc21
      refine V_iconst dX13_plain_19 ckc_0 ?_
      refine V_keep [true, false, true] rfl ?_
      exact mB_X13_plain_20_v r_X13_test r_X13_both r_X13_plain r_X13_positive r_X13_sum r_X13_term r_X13_part hr_X13_test hr_X13_both hr_X13_plain hr_X13_positive hr_X13_sum hr_X13_term hr_X13_part hext hE hH k2 hk2 v0 (0 : Int32) w6 hf
    · have hf := if_t hf hc21
      refine V_iconst dX13_plain_15 ckc_1 ?_
      refine V_goto (tgt := 20) dX13_plain_16 (by decide) ?_
      refine V_keep [true, false, true] rfl ?_
      exact mB_X13_plain_20_v r_X13_test r_X13_both r_X13_plain r_X13_positive r_X13_sum r_X13_term r_X13_part hr_X13_test hr_X13_both hr_X13_plain hr_X13_positive hr_X13_sum hr_X13_term hr_X13_part hext hE hH k2 hk2 v0 (1 : Int32) w6 hf
set_option maxHeartbeats 4000000 in
theorem mB_X13_plain_ok (l : Launch) (D : DD) (dR : Nat) (r_X13_test : Nat → AH → Option ((Nat ⊕ Nat) × AH)) (r_X13_both : Nat → AH → Option ((Nat ⊕ Nat) × AH)) (r_X13_plain : Nat → AH → Option ((Nat ⊕ Nat) × AH)) (r_X13_positive : Nat → AH → Option ((Nat ⊕ Nat) × AH)) (r_X13_sum : Nat → AH → Option ((Nat ⊕ Nat) × AH)) (r_X13_term : Nat → AH → Option ((Nat ⊕ Nat) × AH)) (r_X13_part : Nat → AH → Option ((Nat ⊕ Nat) × AH)) (hr_X13_test : ∀ (w : AH) (a : Nat) (r : Nat ⊕ Nat) (w' : AH) , r_X13_test a w = some (r, w') → MA l D yX13_test cX13_test 3 (some (.object "FirstPolls$Test")) dR [.ref a] w (oN r) w') (hr_X13_both : ∀ (w : AH) (a : Nat) (r : Nat ⊕ Nat) (w' : AH) , r_X13_both a w = some (r, w') → MA l D yX13_both cX13_both 3 (some (.object "FirstPolls$Test")) dR [.ref a] w (oN r) w') (hr_X13_plain : ∀ (w : AH) (a : Nat) (r : Nat ⊕ Nat) (w' : AH) , r_X13_plain a w = some (r, w') → MA l D yX13_plain cX13_plain 3 (some (.object "FirstPolls$Test")) dR [.ref a] w (oN r) w') (hr_X13_positive : ∀ (w : AH) (a : Nat) (r : Nat ⊕ Nat) (w' : AH) , r_X13_positive a w = some (r, w') → MA l D yX13_positive cX13_positive 4 (some (.object "FirstPolls$Test")) dR [.ref a] w (oN r) w') (hr_X13_sum : ∀ (w : AH) (a : Nat) (r : Nat ⊕ Nat) (w' : AH) , r_X13_sum a w = some (r, w') → MA l D yX13_sum cX13_sum 3 (some (.object "FirstPolls$Sum")) dR [.ref a] w (oN r) w') (hr_X13_term : ∀ (w : AH) (a : Nat) (r : Nat ⊕ Nat) (w' : AH) , r_X13_term a w = some (r, w') → MA l D yX13_term cX13_term 3 (some (.object "FirstPolls$Sum")) dR [.ref a] w (oN r) w') (hr_X13_part : ∀ (w : AH) (a : Nat) (r : Nat ⊕ Nat) (w' : AH) , r_X13_part a w = some (r, w') → MA l D yX13_part cX13_part 2 (some (.object "FirstPolls$Sum")) dR [.ref a] w (oN r) w') (hext : 7 ≤ dR) (w : AH) (a : Nat) (r : Nat ⊕ Nat) (w' : AH) (hf : mB_X13_plain r_X13_test r_X13_both r_X13_plain r_X13_positive r_X13_sum r_X13_term r_X13_part a w = some (r, w')) : MA l D yX13_plain cX13_plain 3 (some (.object "FirstPolls$Test")) (dR + 1) [.ref a] w (oN r) w' := by
  refine MA.introH (own := RX13) (nm := "plain") (ls := [some (.ref a), none, none]) (by decide) rfl rfl (Nat.le_of_ble_eq_true rfl) rfl (fun X hl hD hE hH => ?_)
  subst hl hD
  unfold mB_X13_plain at hf
  refine V_iconst dX13_plain_0 ckc_0 ?_
  refine V_istore_n (ls' := [some (.ref a), some (.int (0 : Int32)), none]) dX13_plain_1 (by decide) rfl ?_
  exact lq3_ex (P := fun v0 v1 w => V X cX13_plain RX13 3 (dR + 1) w 2 [some (.ref v0), some (.int v1), none] []) (fun k hk v0 v1 w hf => mB_X13_plain_2_v r_X13_test r_X13_both r_X13_plain r_X13_positive r_X13_sum r_X13_term r_X13_part hr_X13_test hr_X13_both hr_X13_plain hr_X13_positive hr_X13_sum hr_X13_term hr_X13_part hext hE hH k hk v0 v1 w hf) LF a (0 : Int32) w hf
set_option maxHeartbeats 4000000 in
theorem mB_X13_positive_107_v {X : CX} {w0 : AH} {dR : Nat} {r : Nat ⊕ Nat} {w' : AH}  (r_X13_test : Nat → AH → Option ((Nat ⊕ Nat) × AH)) (r_X13_both : Nat → AH → Option ((Nat ⊕ Nat) × AH)) (r_X13_plain : Nat → AH → Option ((Nat ⊕ Nat) × AH)) (r_X13_positive : Nat → AH → Option ((Nat ⊕ Nat) × AH)) (r_X13_sum : Nat → AH → Option ((Nat ⊕ Nat) × AH)) (r_X13_term : Nat → AH → Option ((Nat ⊕ Nat) × AH)) (r_X13_part : Nat → AH → Option ((Nat ⊕ Nat) × AH)) (hr_X13_test : ∀ (w : AH) (a : Nat) (r : Nat ⊕ Nat) (w' : AH) , r_X13_test a w = some (r, w') → MA (xl X) (xD X) yX13_test cX13_test 3 (some (.object "FirstPolls$Test")) dR [.ref a] w (oN r) w') (hr_X13_both : ∀ (w : AH) (a : Nat) (r : Nat ⊕ Nat) (w' : AH) , r_X13_both a w = some (r, w') → MA (xl X) (xD X) yX13_both cX13_both 3 (some (.object "FirstPolls$Test")) dR [.ref a] w (oN r) w') (hr_X13_plain : ∀ (w : AH) (a : Nat) (r : Nat ⊕ Nat) (w' : AH) , r_X13_plain a w = some (r, w') → MA (xl X) (xD X) yX13_plain cX13_plain 3 (some (.object "FirstPolls$Test")) dR [.ref a] w (oN r) w') (hr_X13_positive : ∀ (w : AH) (a : Nat) (r : Nat ⊕ Nat) (w' : AH) , r_X13_positive a w = some (r, w') → MA (xl X) (xD X) yX13_positive cX13_positive 4 (some (.object "FirstPolls$Test")) dR [.ref a] w (oN r) w') (hr_X13_sum : ∀ (w : AH) (a : Nat) (r : Nat ⊕ Nat) (w' : AH) , r_X13_sum a w = some (r, w') → MA (xl X) (xD X) yX13_sum cX13_sum 3 (some (.object "FirstPolls$Sum")) dR [.ref a] w (oN r) w') (hr_X13_term : ∀ (w : AH) (a : Nat) (r : Nat ⊕ Nat) (w' : AH) , r_X13_term a w = some (r, w') → MA (xl X) (xD X) yX13_term cX13_term 3 (some (.object "FirstPolls$Sum")) dR [.ref a] w (oN r) w') (hr_X13_part : ∀ (w : AH) (a : Nat) (r : Nat ⊕ Nat) (w' : AH) , r_X13_part a w = some (r, w') → MA (xl X) (xD X) yX13_part cX13_part 2 (some (.object "FirstPolls$Sum")) dR [.ref a] w (oN r) w') (hext : 7 ≤ dR) (hE : XE X w0 (dR + 1) (some (.object "FirstPolls$Test")) "positive" (oN r) w') (hH : XH X []) (v0 : Nat) (v2 : Nat) (w : AH) (hf : mB_X13_positive_107 r_X13_test r_X13_both r_X13_plain r_X13_positive r_X13_sum r_X13_term r_X13_part v0 v2 w = some (r, w')) : V X cX13_positive RX13 4 (dR + 1) w 107 [some (.ref v0), none, some (.ref v2), none] [] := by
  unfold mB_X13_positive_107 at hf
  refine V_aload_n dX13_positive_107 rfl ?_
  obtain ⟨h1, hf⟩ := ck_ex hf
  obtain ⟨b2, hb3, hf⟩ := bd1_ex hf
  refine VP_getR (x := some b2) fa_X13_20 h1 rfl rfl hb3 dX13_positive_108 ?_
  refine V_aload_n dX13_positive_111 rfl ?_
  refine VP_getI fa_X13_31 h1 rfl dX13_positive_112 ?_
  obtain ⟨h4, hf⟩ := ck_ex hf
  refine VE_bald h4 rfl dX13_positive_115 ?_
  refine V_i2c dX13_positive_116 ?_
  refine V_istore_n (ls' := [some (.ref v0), none, some (.ref v2), some (.int (((hvi w b2 ((hvi w v0 3).toNatClampNeg)).toUInt32 % 65536).toInt32))]) dX13_positive_117 (by decide) rfl ?_
  refine V_aload_n dX13_positive_118 rfl ?_
  obtain ⟨w6, hc5, hf⟩ := bd1_ex hf
  refine V_cV (av := []) (rest := []) (st' := []) (mC_X13_next_ok _ _ _ _ _ hc5) vc_X13_52 (kIn1 h1) (by omega) rfl rfl (Nat.le_of_ble_eq_true rfl) dX13_positive_119 rfl ?_
  obtain ⟨h7, hf⟩ := ck_ex hf
  obtain ⟨b8, hb9, hf⟩ := st1_ex hf
  obtain ⟨w10, hs11, hf⟩ := st1_ex hf
  refine VE_new clX22 q1334 q1335 q171 ok_X22 h7 hb9 hs11 dX13_positive_122 ?_
  refine V_dup dX13_positive_125 rfl ?_
  refine V_iload_n dX13_positive_126 rfl ?_
  refine V_aload_n dX13_positive_127 rfl ?_
  refine V_aload_n dX13_positive_128 rfl ?_
  obtain ⟨h12, hf⟩ := ck_ex hf
  obtain ⟨x15, w16, hc13, hf⟩ | ⟨r14, w16, hc13, hf⟩ := (bdT_ex hf).symm
  · refine V_xV (av := []) (rest := [.ref v2, .int (((hvi w b2 ((hvi w v0 3).toNatClampNeg)).toUInt32 % 65536).toInt32), .ref b8, .ref b8]) (hr_X13_sum _ _ _ _ hc13) vx_X13_116 q1211 q160 (by decide) (kIn1 h12) (by omega) rfl rfl (Nat.le_of_ble_eq_true rfl) dX13_positive_129 ?_
    cases some_ex hf
    exact VO_t (VT_out hE hH (by decide))
  refine V_xV (av := []) (rest := [.ref v2, .int (((hvi w b2 ((hvi w v0 3).toNatClampNeg)).toUInt32 % 65536).toInt32), .ref b8, .ref b8]) (hr_X13_sum _ _ _ _ hc13) vx_X13_116 q1211 q160 (by decide) (kIn1 h12) (by omega) rfl rfl (Nat.le_of_ble_eq_true rfl) dX13_positive_129 ?_
  refine VO_r (v := some (.ref r14)) (st' := [.ref r14, .ref v2, .int (((hvi w b2 ((hvi w v0 3).toNatClampNeg)).toUInt32 % 65536).toInt32), .ref b8, .ref b8]) rfl ?_
  obtain ⟨w18, hc17, hf⟩ := bd1_ex hf
  refine V_cI (av := [.int (((hvi w b2 ((hvi w v0 3).toNatClampNeg)).toUInt32 % 65536).toInt32), .ref v2, .ref r14]) (rest := [.ref b8]) (st' := [.ref b8]) (mC_X22_init_ok _ _ _ _ _ _ _ _ hc17) ic_X13_188 (by omega) rfl rfl (Nat.le_of_ble_eq_true rfl) dX13_positive_132 rfl ?_
  cases some_ex hf
  exact V_aret (r := some _) hE (by first | exact Or.inl ⟨_, rfl⟩ | exact Or.inr ⟨_, rfl⟩) dX13_positive_135
set_option maxHeartbeats 4000000 in
theorem mB_X13_positive_ok (l : Launch) (D : DD) (dR : Nat) (r_X13_test : Nat → AH → Option ((Nat ⊕ Nat) × AH)) (r_X13_both : Nat → AH → Option ((Nat ⊕ Nat) × AH)) (r_X13_plain : Nat → AH → Option ((Nat ⊕ Nat) × AH)) (r_X13_positive : Nat → AH → Option ((Nat ⊕ Nat) × AH)) (r_X13_sum : Nat → AH → Option ((Nat ⊕ Nat) × AH)) (r_X13_term : Nat → AH → Option ((Nat ⊕ Nat) × AH)) (r_X13_part : Nat → AH → Option ((Nat ⊕ Nat) × AH)) (hr_X13_test : ∀ (w : AH) (a : Nat) (r : Nat ⊕ Nat) (w' : AH) , r_X13_test a w = some (r, w') → MA l D yX13_test cX13_test 3 (some (.object "FirstPolls$Test")) dR [.ref a] w (oN r) w') (hr_X13_both : ∀ (w : AH) (a : Nat) (r : Nat ⊕ Nat) (w' : AH) , r_X13_both a w = some (r, w') → MA l D yX13_both cX13_both 3 (some (.object "FirstPolls$Test")) dR [.ref a] w (oN r) w') (hr_X13_plain : ∀ (w : AH) (a : Nat) (r : Nat ⊕ Nat) (w' : AH) , r_X13_plain a w = some (r, w') → MA l D yX13_plain cX13_plain 3 (some (.object "FirstPolls$Test")) dR [.ref a] w (oN r) w') (hr_X13_positive : ∀ (w : AH) (a : Nat) (r : Nat ⊕ Nat) (w' : AH) , r_X13_positive a w = some (r, w') → MA l D yX13_positive cX13_positive 4 (some (.object "FirstPolls$Test")) dR [.ref a] w (oN r) w') (hr_X13_sum : ∀ (w : AH) (a : Nat) (r : Nat ⊕ Nat) (w' : AH) , r_X13_sum a w = some (r, w') → MA l D yX13_sum cX13_sum 3 (some (.object "FirstPolls$Sum")) dR [.ref a] w (oN r) w') (hr_X13_term : ∀ (w : AH) (a : Nat) (r : Nat ⊕ Nat) (w' : AH) , r_X13_term a w = some (r, w') → MA l D yX13_term cX13_term 3 (some (.object "FirstPolls$Sum")) dR [.ref a] w (oN r) w') (hr_X13_part : ∀ (w : AH) (a : Nat) (r : Nat ⊕ Nat) (w' : AH) , r_X13_part a w = some (r, w') → MA l D yX13_part cX13_part 2 (some (.object "FirstPolls$Sum")) dR [.ref a] w (oN r) w') (hext : 7 ≤ dR) (w : AH) (a : Nat) (r : Nat ⊕ Nat) (w' : AH) (hf : mB_X13_positive r_X13_test r_X13_both r_X13_plain r_X13_positive r_X13_sum r_X13_term r_X13_part a w = some (r, w')) : MA l D yX13_positive cX13_positive 4 (some (.object "FirstPolls$Test")) (dR + 1) [.ref a] w (oN r) w' := by
  refine MA.introH (own := RX13) (nm := "positive") (ls := [some (.ref a), none, none, none]) (by decide) rfl rfl (Nat.le_of_ble_eq_true rfl) rfl (fun X hl hD hE hH => ?_)
  subst hl hD
  unfold mB_X13_positive at hf
  refine V_aload_n dX13_positive_0 rfl ?_
  obtain ⟨b1, ha2, hf⟩ := bd1_ex hf
  refine V_ldcS (key := 164) st_164 ha2 dX13_positive_1 ?_
  obtain ⟨h3, hf⟩ := ck_ex hf
  obtain ⟨r5, hc4, hf⟩ := bd1_ex hf
  refine V_cV (av := [.ref b1]) (rest := []) (st' := [.int r5]) (mC_X13_is_ok _ _ _ _ _ _ hc4) vc_X13_48 (kIn1 h3) (by omega) rfl rfl (Nat.le_of_ble_eq_true rfl) dX13_positive_3 rfl ?_
  refine V_if_eq (tgt := 36) dX13_positive_6 (by decide) (fun hc6 => ?_) (fun hc6 => ?_)
  · have hf := if_t hf hc6
    refine V_aload_n dX13_positive_36 rfl ?_
    obtain ⟨r8, hc7, hf⟩ := bd1_ex hf
    refine V_cV (av := []) (rest := []) (st' := [.int r8]) (mC_X13_flag_ok _ _ _ _ _ hc7) vc_X13_171 (kIn1 h3) (by omega) rfl rfl (Nat.le_of_ble_eq_true rfl) dX13_positive_37 rfl ?_
    refine V_istore_n (ls' := [some (.ref a), some (.int r8), none, none]) dX13_positive_40 (by decide) rfl ?_
    refine V_iload_n dX13_positive_41 rfl ?_
    refine V_iconst dX13_positive_42 ckc_m1 ?_
    refine V_icmp_eq (tgt := 63) dX13_positive_43 (by decide) (fun hc9 => ?_) (fun hc9 => ?_)
    · have hf := if_t hf hc9
      refine V_aload_n dX13_positive_63 rfl ?_
      obtain ⟨x12, w13, hc10, hf⟩ | ⟨r11, w13, hc10, hf⟩ := (bdT_ex hf).symm
      · refine V_xV (av := []) (rest := []) (hr_X13_sum _ _ _ _ hc10) vx_X13_116 q1211 q160 (by decide) (kIn1 h3) (by omega) rfl rfl (Nat.le_of_ble_eq_true rfl) dX13_positive_64 ?_
        cases some_ex hf
        exact VO_t (VT_out hE hH (by decide))
      refine V_xV (av := []) (rest := []) (hr_X13_sum _ _ _ _ hc10) vx_X13_116 q1211 q160 (by decide) (kIn1 h3) (by omega) rfl rfl (Nat.le_of_ble_eq_true rfl) dX13_positive_64 ?_
      refine VO_r (v := some (.ref r11)) (st' := [.ref r11]) rfl ?_
      refine V_astore_n (ls' := [some (.ref a), some (.int r8), some (.ref r11), none]) dX13_positive_67 (by decide) rfl ?_
      refine V_aload_n dX13_positive_68 rfl ?_
      obtain ⟨b14, ha15, hf⟩ := bd1_ex hf
      refine V_ldcS (key := 180) st_180 ha15 dX13_positive_69 ?_
      obtain ⟨h16, hf⟩ := ck_ex hf
      obtain ⟨r18, hc17, hf⟩ := bd1_ex hf
      refine V_cV (av := [.ref b14]) (rest := []) (st' := [.int r18]) (mC_X13_is_ok _ _ _ _ _ _ hc17) vc_X13_48 (kIn1 h16) (by omega) rfl rfl (Nat.le_of_ble_eq_true rfl) dX13_positive_71 rfl ?_
      refine V_if_ne (tgt := 107) dX13_positive_74 (by decide) (fun hc19 => ?_) (fun hc19 => ?_)
      · have hf := if_f hf hc19
        refine V_keep [true, false, true, true] rfl ?_
        exact mB_X13_positive_107_v r_X13_test r_X13_both r_X13_plain r_X13_positive r_X13_sum r_X13_term r_X13_part hr_X13_test hr_X13_both hr_X13_plain hr_X13_positive hr_X13_sum hr_X13_term hr_X13_part hext hE hH a r11 w13 hf
      · have hf := if_t hf hc19
        refine V_aload_n dX13_positive_77 rfl ?_
        obtain ⟨b20, ha21, hf⟩ := bd1_ex hf
        refine V_ldcS (key := 182) st_182 ha21 dX13_positive_78 ?_
        obtain ⟨r23, hc22, hf⟩ := bd1_ex hf
        refine V_cV (av := [.ref b20]) (rest := []) (st' := [.int r23]) (mC_X13_is_ok _ _ _ _ _ _ hc22) vc_X13_48 (kIn1 h16) (by omega) rfl rfl (Nat.le_of_ble_eq_true rfl) dX13_positive_80 rfl ?_
        refine V_if_ne (tgt := 107) dX13_positive_83 (by decide) (fun hc24 => ?_) (fun hc24 => ?_)
        · have hf := if_f hf hc24
          refine V_keep [true, false, true, true] rfl ?_
          exact mB_X13_positive_107_v r_X13_test r_X13_both r_X13_plain r_X13_positive r_X13_sum r_X13_term r_X13_part hr_X13_test hr_X13_both hr_X13_plain hr_X13_positive hr_X13_sum hr_X13_term hr_X13_part hext hE hH a r11 w13 hf
        · have hf := if_t hf hc24
          refine V_aload_n dX13_positive_86 rfl ?_
          obtain ⟨b25, ha26, hf⟩ := bd1_ex hf
          refine V_ldcS (key := 184) st_184 ha26 dX13_positive_87 ?_
          obtain ⟨r28, hc27, hf⟩ := bd1_ex hf
          refine V_cV (av := [.ref b25]) (rest := []) (st' := [.int r28]) (mC_X13_is_ok _ _ _ _ _ _ hc27) vc_X13_48 (kIn1 h16) (by omega) rfl rfl (Nat.le_of_ble_eq_true rfl) dX13_positive_89 rfl ?_
          refine V_if_ne (tgt := 107) dX13_positive_92 (by decide) (fun hc29 => ?_) (fun hc29 => ?_)
          · have hf := if_f hf hc29
            refine V_keep [true, false, true, true] rfl ?_
            exact mB_X13_positive_107_v r_X13_test r_X13_both r_X13_plain r_X13_positive r_X13_sum r_X13_term r_X13_part hr_X13_test hr_X13_both hr_X13_plain hr_X13_positive hr_X13_sum hr_X13_term hr_X13_part hext hE hH a r11 w13 hf
          · have hf := if_t hf hc29
            obtain ⟨h30, hf⟩ := ck_ex hf
            obtain ⟨b31, hb32, hf⟩ := st1_ex hf
            obtain ⟨w33, hs34, hf⟩ := st1_ex hf
            refine VE_new clX14 q1084 q1085 q161 ok_X14 h30 hb32 hs34 dX13_positive_95 ?_
            refine V_dup dX13_positive_98 rfl ?_
            refine V_aload_n dX13_positive_99 rfl ?_
            obtain ⟨h35, hf⟩ := ck_ex hf
            refine VP_getI fa_X13_31 h35 rfl dX13_positive_100 ?_
            obtain ⟨w37, hc36, hf⟩ := bd1_ex hf
            refine V_cI (av := [.int (hvi w33 a 3)]) (rest := [.ref b31]) (st' := [.ref b31]) (mC_X14_init_ok _ _ _ _ _ _ hc36) ic_X13_60 (by omega) rfl rfl (Nat.le_of_ble_eq_true rfl) dX13_positive_103 rfl ?_
            cases some_ex hf
            exact V_athrow dX13_positive_106 (VT_out hE hH (by decide))
    · have hf := if_f hf hc9
      refine V_aload_n dX13_positive_46 rfl ?_
      obtain ⟨x40, w41, hc38, hf⟩ | ⟨r39, w41, hc38, hf⟩ := (bdT_ex hf).symm
      · refine V_xV (av := []) (rest := []) (mC_X13_leaf_ok _ _ _ _ _ _ hc38) vx_X13_174 q1229 q160 (by decide) (kIn1 h3) (by omega) rfl rfl (Nat.le_of_ble_eq_true rfl) dX13_positive_47 ?_
        cases some_ex hf
        exact VO_t (VT_out hE hH (by decide))
      refine V_xV (av := []) (rest := []) (mC_X13_leaf_ok _ _ _ _ _ _ hc38) vx_X13_174 q1229 q160 (by decide) (kIn1 h3) (by omega) rfl rfl (Nat.le_of_ble_eq_true rfl) dX13_positive_47 ?_
      refine VO_r (v := none) (st' := []) rfl ?_
      refine V_aload_n dX13_positive_50 rfl ?_
      obtain ⟨h42, hf⟩ := ck_ex hf
      obtain ⟨w44, hc43, hf⟩ := bd1_ex hf
      refine V_cV (av := []) (rest := []) (st' := []) (mC_X13_next_ok _ _ _ _ _ hc43) vc_X13_52 (kIn1 h42) (by omega) rfl rfl (Nat.le_of_ble_eq_true rfl) dX13_positive_51 rfl ?_
      obtain ⟨h45, hf⟩ := ck_ex hf
      obtain ⟨b46, hb47, hf⟩ := st1_ex hf
      obtain ⟨w48, hs49, hf⟩ := st1_ex hf
      refine VE_new clX21 q1318 q1319 q170 ok_X21 h45 hb47 hs49 dX13_positive_54 ?_
      refine V_dup dX13_positive_57 rfl ?_
      refine V_iload_n dX13_positive_58 rfl ?_
      obtain ⟨w51, hc50, hf⟩ := bd1_ex hf
      refine V_cI (av := [.int r8]) (rest := [.ref b46]) (st' := [.ref b46]) (mC_X21_init_ok _ _ _ _ _ _ hc50) ic_X13_179 (by omega) rfl rfl (Nat.le_of_ble_eq_true rfl) dX13_positive_59 rfl ?_
      cases some_ex hf
      exact V_aret (r := some _) hE (by first | exact Or.inl ⟨_, rfl⟩ | exact Or.inr ⟨_, rfl⟩) dX13_positive_62
  · have hf := if_f hf hc6
    refine V_aload_n dX13_positive_9 rfl ?_
    obtain ⟨x54, w55, hc52, hf⟩ | ⟨r53, w55, hc52, hf⟩ := (bdT_ex hf).symm
    · refine V_xV (av := []) (rest := []) (mC_X13_opens_ok _ _ _ _ _ _ hc52) vx_X13_166 q1224 q160 (by decide) (kIn1 h3) (by omega) rfl rfl (Nat.le_of_ble_eq_true rfl) dX13_positive_10 ?_
      cases some_ex hf
      exact VO_t (VT_out hE hH (by decide))
    refine V_xV (av := []) (rest := []) (mC_X13_opens_ok _ _ _ _ _ _ hc52) vx_X13_166 q1224 q160 (by decide) (kIn1 h3) (by omega) rfl rfl (Nat.le_of_ble_eq_true rfl) dX13_positive_10 ?_
    refine VO_r (v := none) (st' := []) rfl ?_
    refine V_aload_n dX13_positive_13 rfl ?_
    obtain ⟨h56, hf⟩ := ck_ex hf
    obtain ⟨x59, w60, hc57, hf⟩ | ⟨r58, w60, hc57, hf⟩ := (bdT_ex hf).symm
    · refine V_xV (av := []) (rest := []) (hr_X13_test _ _ _ _ hc57) vx_X13_94 q1293 q160 (by decide) (kIn1 h56) (by omega) rfl rfl (Nat.le_of_ble_eq_true rfl) dX13_positive_14 ?_
      cases some_ex hf
      exact VO_t (VT_out hE hH (by decide))
    refine V_xV (av := []) (rest := []) (hr_X13_test _ _ _ _ hc57) vx_X13_94 q1293 q160 (by decide) (kIn1 h56) (by omega) rfl rfl (Nat.le_of_ble_eq_true rfl) dX13_positive_14 ?_
    refine VO_r (v := some (.ref r58)) (st' := [.ref r58]) rfl ?_
    refine V_astore_n (ls' := [some (.ref a), some (.ref r58), none, none]) dX13_positive_17 (by decide) rfl ?_
    refine V_aload_n dX13_positive_18 rfl ?_
    obtain ⟨b61, ha62, hf⟩ := bd1_ex hf
    refine V_ldcS (key := 169) st_169 ha62 dX13_positive_19 ?_
    obtain ⟨h63, hf⟩ := ck_ex hf
    obtain ⟨x66, w67, hc64, hf⟩ | ⟨r65, w67, hc64, hf⟩ := (bdT_ex hf).symm
    · refine V_xV (av := [.ref b61]) (rest := []) (mC_X13_need_ok _ _ _ _ _ _ _ hc64) vx_X13_75 q1166 q160 (by decide) (kIn1 h63) (by omega) rfl rfl (Nat.le_of_ble_eq_true rfl) dX13_positive_21 ?_
      cases some_ex hf
      exact VO_t (VT_out hE hH (by decide))
    refine V_xV (av := [.ref b61]) (rest := []) (mC_X13_need_ok _ _ _ _ _ _ _ hc64) vx_X13_75 q1166 q160 (by decide) (kIn1 h63) (by omega) rfl rfl (Nat.le_of_ble_eq_true rfl) dX13_positive_21 ?_
    refine VO_r (v := none) (st' := []) rfl ?_
    refine V_aload_n dX13_positive_24 rfl ?_
    refine V_dup dX13_positive_25 rfl ?_
    obtain ⟨h68, hf⟩ := ck_ex hf
    refine VP_getI fa_X13_141 h68 rfl dX13_positive_26 ?_
    refine V_iconst dX13_positive_29 ckc_1 ?_
    refine V_isub dX13_positive_30 ?_
    obtain ⟨w69, hs70, hf⟩ := st1_ex hf
    refine VE_putI fw_X13_141 h68 rfl rfl rfl hs70 dX13_positive_31 ?_
    refine V_aload_n dX13_positive_34 rfl ?_
    cases some_ex hf
    exact V_aret (r := some _) hE (by first | exact Or.inl ⟨_, rfl⟩ | exact Or.inr ⟨_, rfl⟩) dX13_positive_35
set_option maxHeartbeats 4000000 in
theorem mB_X13_sum_23_v {X : CX} {w0 : AH} {dR : Nat} {r : Nat ⊕ Nat} {w' : AH}  (r_X13_test : Nat → AH → Option ((Nat ⊕ Nat) × AH)) (r_X13_both : Nat → AH → Option ((Nat ⊕ Nat) × AH)) (r_X13_plain : Nat → AH → Option ((Nat ⊕ Nat) × AH)) (r_X13_positive : Nat → AH → Option ((Nat ⊕ Nat) × AH)) (r_X13_sum : Nat → AH → Option ((Nat ⊕ Nat) × AH)) (r_X13_term : Nat → AH → Option ((Nat ⊕ Nat) × AH)) (r_X13_part : Nat → AH → Option ((Nat ⊕ Nat) × AH)) (hr_X13_test : ∀ (w : AH) (a : Nat) (r : Nat ⊕ Nat) (w' : AH) , r_X13_test a w = some (r, w') → MA (xl X) (xD X) yX13_test cX13_test 3 (some (.object "FirstPolls$Test")) dR [.ref a] w (oN r) w') (hr_X13_both : ∀ (w : AH) (a : Nat) (r : Nat ⊕ Nat) (w' : AH) , r_X13_both a w = some (r, w') → MA (xl X) (xD X) yX13_both cX13_both 3 (some (.object "FirstPolls$Test")) dR [.ref a] w (oN r) w') (hr_X13_plain : ∀ (w : AH) (a : Nat) (r : Nat ⊕ Nat) (w' : AH) , r_X13_plain a w = some (r, w') → MA (xl X) (xD X) yX13_plain cX13_plain 3 (some (.object "FirstPolls$Test")) dR [.ref a] w (oN r) w') (hr_X13_positive : ∀ (w : AH) (a : Nat) (r : Nat ⊕ Nat) (w' : AH) , r_X13_positive a w = some (r, w') → MA (xl X) (xD X) yX13_positive cX13_positive 4 (some (.object "FirstPolls$Test")) dR [.ref a] w (oN r) w') (hr_X13_sum : ∀ (w : AH) (a : Nat) (r : Nat ⊕ Nat) (w' : AH) , r_X13_sum a w = some (r, w') → MA (xl X) (xD X) yX13_sum cX13_sum 3 (some (.object "FirstPolls$Sum")) dR [.ref a] w (oN r) w') (hr_X13_term : ∀ (w : AH) (a : Nat) (r : Nat ⊕ Nat) (w' : AH) , r_X13_term a w = some (r, w') → MA (xl X) (xD X) yX13_term cX13_term 3 (some (.object "FirstPolls$Sum")) dR [.ref a] w (oN r) w') (hr_X13_part : ∀ (w : AH) (a : Nat) (r : Nat ⊕ Nat) (w' : AH) , r_X13_part a w = some (r, w') → MA (xl X) (xD X) yX13_part cX13_part 2 (some (.object "FirstPolls$Sum")) dR [.ref a] w (oN r) w') (hext : 7 ≤ dR) (hE : XE X w0 (dR + 1) (some (.object "FirstPolls$Sum")) "sum" (oN r) w') (hH : XH X []) (k5 : Nat → Nat → AH → Option ((Nat ⊕ Nat) × AH)) (hk5 : ∀ (v0 : Nat) (v1 : Nat) (w : AH), k5 v0 v1 w = some (r, w') → V X cX13_sum RX13 3 (dR + 1) w 5 [some (.ref v0), some (.ref v1), none] []) (v0 : Nat) (v1 : Nat) (w : AH) (hf : mB_X13_sum_23 r_X13_test r_X13_both r_X13_plain r_X13_positive r_X13_sum r_X13_term r_X13_part k5 v0 v1 w = some (r, w')) : V X cX13_sum RX13 3 (dR + 1) w 23 [some (.ref v0), some (.ref v1), none] [] := by
  unfold mB_X13_sum_23 at hf
  refine V_aload_n dX13_sum_23 rfl ?_
  obtain ⟨h1, hf⟩ := ck_ex hf
  obtain ⟨b2, hb3, hf⟩ := bd1_ex hf
  refine VP_getR (x := some b2) fa_X13_20 h1 rfl rfl hb3 dX13_sum_24 ?_
  refine V_aload_n dX13_sum_27 rfl ?_
  refine VP_getI fa_X13_31 h1 rfl dX13_sum_28 ?_
  obtain ⟨h4, hf⟩ := ck_ex hf
  refine VE_bald h4 rfl dX13_sum_31 ?_
  refine V_i2c dX13_sum_32 ?_
  refine V_istore_n (ls' := [some (.ref v0), some (.ref v1), some (.int (((hvi w b2 ((hvi w v0 3).toNatClampNeg)).toUInt32 % 65536).toInt32))]) dX13_sum_33 (by decide) rfl ?_
  refine V_aload_n dX13_sum_34 rfl ?_
  obtain ⟨w6, hc5, hf⟩ := bd1_ex hf
  refine V_cV (av := []) (rest := []) (st' := []) (mC_X13_next_ok _ _ _ _ _ hc5) vc_X13_52 (kIn1 h1) (by omega) rfl rfl (Nat.le_of_ble_eq_true rfl) dX13_sum_35 rfl ?_
  obtain ⟨h7, hf⟩ := ck_ex hf
  obtain ⟨b8, hb9, hf⟩ := st1_ex hf
  obtain ⟨w10, hs11, hf⟩ := st1_ex hf
  refine VE_new clX19 q1271 q1272 q168 ok_X19 h7 hb9 hs11 dX13_sum_38 ?_
  refine V_dup dX13_sum_41 rfl ?_
  refine V_iload_n dX13_sum_42 rfl ?_
  refine V_aload_n dX13_sum_43 rfl ?_
  refine V_aload_n dX13_sum_44 rfl ?_
  obtain ⟨h12, hf⟩ := ck_ex hf
  obtain ⟨x15, w16, hc13, hf⟩ | ⟨r14, w16, hc13, hf⟩ := (bdT_ex hf).symm
  · refine V_xV (av := []) (rest := [.ref v1, .int (((hvi w b2 ((hvi w v0 3).toNatClampNeg)).toUInt32 % 65536).toInt32), .ref b8, .ref b8]) (hr_X13_term _ _ _ _ hc13) vx_X13_191 q1215 q160 (by decide) (kIn1 h12) (by omega) rfl rfl (Nat.le_of_ble_eq_true rfl) dX13_sum_45 ?_
    cases some_ex hf
    exact VO_t (VT_out hE hH (by decide))
  refine V_xV (av := []) (rest := [.ref v1, .int (((hvi w b2 ((hvi w v0 3).toNatClampNeg)).toUInt32 % 65536).toInt32), .ref b8, .ref b8]) (hr_X13_term _ _ _ _ hc13) vx_X13_191 q1215 q160 (by decide) (kIn1 h12) (by omega) rfl rfl (Nat.le_of_ble_eq_true rfl) dX13_sum_45 ?_
  refine VO_r (v := some (.ref r14)) (st' := [.ref r14, .ref v1, .int (((hvi w b2 ((hvi w v0 3).toNatClampNeg)).toUInt32 % 65536).toInt32), .ref b8, .ref b8]) rfl ?_
  obtain ⟨w18, hc17, hf⟩ := bd1_ex hf
  refine V_cI (av := [.int (((hvi w b2 ((hvi w v0 3).toNatClampNeg)).toUInt32 % 65536).toInt32), .ref v1, .ref r14]) (rest := [.ref b8]) (st' := [.ref b8]) (mC_X19_init_ok _ _ _ _ _ _ _ _ hc17) ic_X13_200 (by omega) rfl rfl (Nat.le_of_ble_eq_true rfl) dX13_sum_48 rfl ?_
  refine V_astore_n (ls' := [some (.ref v0), some (.ref b8), some (.int (((hvi w b2 ((hvi w v0 3).toNatClampNeg)).toUInt32 % 65536).toInt32))]) dX13_sum_51 (by decide) rfl ?_
  refine V_goto (tgt := 5) dX13_sum_52 (by decide) ?_
  refine V_keep [true, true, false] rfl ?_
  exact hk5 v0 b8 w18 hf
set_option maxHeartbeats 4000000 in
theorem mB_X13_sum_5_v {X : CX} {w0 : AH} {dR : Nat} {r : Nat ⊕ Nat} {w' : AH}  (r_X13_test : Nat → AH → Option ((Nat ⊕ Nat) × AH)) (r_X13_both : Nat → AH → Option ((Nat ⊕ Nat) × AH)) (r_X13_plain : Nat → AH → Option ((Nat ⊕ Nat) × AH)) (r_X13_positive : Nat → AH → Option ((Nat ⊕ Nat) × AH)) (r_X13_sum : Nat → AH → Option ((Nat ⊕ Nat) × AH)) (r_X13_term : Nat → AH → Option ((Nat ⊕ Nat) × AH)) (r_X13_part : Nat → AH → Option ((Nat ⊕ Nat) × AH)) (hr_X13_test : ∀ (w : AH) (a : Nat) (r : Nat ⊕ Nat) (w' : AH) , r_X13_test a w = some (r, w') → MA (xl X) (xD X) yX13_test cX13_test 3 (some (.object "FirstPolls$Test")) dR [.ref a] w (oN r) w') (hr_X13_both : ∀ (w : AH) (a : Nat) (r : Nat ⊕ Nat) (w' : AH) , r_X13_both a w = some (r, w') → MA (xl X) (xD X) yX13_both cX13_both 3 (some (.object "FirstPolls$Test")) dR [.ref a] w (oN r) w') (hr_X13_plain : ∀ (w : AH) (a : Nat) (r : Nat ⊕ Nat) (w' : AH) , r_X13_plain a w = some (r, w') → MA (xl X) (xD X) yX13_plain cX13_plain 3 (some (.object "FirstPolls$Test")) dR [.ref a] w (oN r) w') (hr_X13_positive : ∀ (w : AH) (a : Nat) (r : Nat ⊕ Nat) (w' : AH) , r_X13_positive a w = some (r, w') → MA (xl X) (xD X) yX13_positive cX13_positive 4 (some (.object "FirstPolls$Test")) dR [.ref a] w (oN r) w') (hr_X13_sum : ∀ (w : AH) (a : Nat) (r : Nat ⊕ Nat) (w' : AH) , r_X13_sum a w = some (r, w') → MA (xl X) (xD X) yX13_sum cX13_sum 3 (some (.object "FirstPolls$Sum")) dR [.ref a] w (oN r) w') (hr_X13_term : ∀ (w : AH) (a : Nat) (r : Nat ⊕ Nat) (w' : AH) , r_X13_term a w = some (r, w') → MA (xl X) (xD X) yX13_term cX13_term 3 (some (.object "FirstPolls$Sum")) dR [.ref a] w (oN r) w') (hr_X13_part : ∀ (w : AH) (a : Nat) (r : Nat ⊕ Nat) (w' : AH) , r_X13_part a w = some (r, w') → MA (xl X) (xD X) yX13_part cX13_part 2 (some (.object "FirstPolls$Sum")) dR [.ref a] w (oN r) w') (hext : 7 ≤ dR) (hE : XE X w0 (dR + 1) (some (.object "FirstPolls$Sum")) "sum" (oN r) w') (hH : XH X []) (k5 : Nat → Nat → AH → Option ((Nat ⊕ Nat) × AH)) (hk5 : ∀ (v0 : Nat) (v1 : Nat) (w : AH), k5 v0 v1 w = some (r, w') → V X cX13_sum RX13 3 (dR + 1) w 5 [some (.ref v0), some (.ref v1), none] []) (v0 : Nat) (v1 : Nat) (w : AH) (hf : mB_X13_sum_5 r_X13_test r_X13_both r_X13_plain r_X13_positive r_X13_sum r_X13_term r_X13_part k5 v0 v1 w = some (r, w')) : V X cX13_sum RX13 3 (dR + 1) w 5 [some (.ref v0), some (.ref v1), none] [] := by
  unfold mB_X13_sum_5 at hf
  refine V_aload_n dX13_sum_5 rfl ?_
  obtain ⟨b1, ha2, hf⟩ := bd1_ex hf
  refine V_ldcS (key := 194) st_194 ha2 dX13_sum_6 ?_
  obtain ⟨h3, hf⟩ := ck_ex hf
  obtain ⟨r5, hc4, hf⟩ := bd1_ex hf
  refine V_cV (av := [.ref b1]) (rest := []) (st' := [.int r5]) (mC_X13_is_ok _ _ _ _ _ _ hc4) vc_X13_48 (kIn1 h3) (by omega) rfl rfl (Nat.le_of_ble_eq_true rfl) dX13_sum_8 rfl ?_
  refine V_if_ne (tgt := 23) dX13_sum_11 (by decide) (fun hc6 => ?_) (fun hc6 => ?_)
  · have hf := if_f hf hc6
    exact mB_X13_sum_23_v r_X13_test r_X13_both r_X13_plain r_X13_positive r_X13_sum r_X13_term r_X13_part hr_X13_test hr_X13_both hr_X13_plain hr_X13_positive hr_X13_sum hr_X13_term hr_X13_part hext hE hH k5 hk5 v0 v1 w hf
  · have hf := if_t hf hc6
    refine V_aload_n dX13_sum_14 rfl ?_
    obtain ⟨b7, ha8, hf⟩ := bd1_ex hf
    refine V_ldcS (key := 196) st_196 ha8 dX13_sum_15 ?_
    obtain ⟨r10, hc9, hf⟩ := bd1_ex hf
    refine V_cV (av := [.ref b7]) (rest := []) (st' := [.int r10]) (mC_X13_is_ok _ _ _ _ _ _ hc9) vc_X13_48 (kIn1 h3) (by omega) rfl rfl (Nat.le_of_ble_eq_true rfl) dX13_sum_17 rfl ?_
    refine V_if_eq (tgt := 55) dX13_sum_20 (by decide) (fun hc11 => ?_) (fun hc11 => ?_)
    · have hf := if_t hf hc11
      refine V_aload_n dX13_sum_55 rfl ?_
      cases some_ex hf
      exact V_aret (r := some _) hE (by first | exact Or.inl ⟨_, rfl⟩ | exact Or.inr ⟨_, rfl⟩) dX13_sum_56
    · have hf := if_f hf hc11
      exact mB_X13_sum_23_v r_X13_test r_X13_both r_X13_plain r_X13_positive r_X13_sum r_X13_term r_X13_part hr_X13_test hr_X13_both hr_X13_plain hr_X13_positive hr_X13_sum hr_X13_term hr_X13_part hext hE hH k5 hk5 v0 v1 w hf
set_option maxHeartbeats 4000000 in
theorem mB_X13_sum_ok (l : Launch) (D : DD) (dR : Nat) (r_X13_test : Nat → AH → Option ((Nat ⊕ Nat) × AH)) (r_X13_both : Nat → AH → Option ((Nat ⊕ Nat) × AH)) (r_X13_plain : Nat → AH → Option ((Nat ⊕ Nat) × AH)) (r_X13_positive : Nat → AH → Option ((Nat ⊕ Nat) × AH)) (r_X13_sum : Nat → AH → Option ((Nat ⊕ Nat) × AH)) (r_X13_term : Nat → AH → Option ((Nat ⊕ Nat) × AH)) (r_X13_part : Nat → AH → Option ((Nat ⊕ Nat) × AH)) (hr_X13_test : ∀ (w : AH) (a : Nat) (r : Nat ⊕ Nat) (w' : AH) , r_X13_test a w = some (r, w') → MA l D yX13_test cX13_test 3 (some (.object "FirstPolls$Test")) dR [.ref a] w (oN r) w') (hr_X13_both : ∀ (w : AH) (a : Nat) (r : Nat ⊕ Nat) (w' : AH) , r_X13_both a w = some (r, w') → MA l D yX13_both cX13_both 3 (some (.object "FirstPolls$Test")) dR [.ref a] w (oN r) w') (hr_X13_plain : ∀ (w : AH) (a : Nat) (r : Nat ⊕ Nat) (w' : AH) , r_X13_plain a w = some (r, w') → MA l D yX13_plain cX13_plain 3 (some (.object "FirstPolls$Test")) dR [.ref a] w (oN r) w') (hr_X13_positive : ∀ (w : AH) (a : Nat) (r : Nat ⊕ Nat) (w' : AH) , r_X13_positive a w = some (r, w') → MA l D yX13_positive cX13_positive 4 (some (.object "FirstPolls$Test")) dR [.ref a] w (oN r) w') (hr_X13_sum : ∀ (w : AH) (a : Nat) (r : Nat ⊕ Nat) (w' : AH) , r_X13_sum a w = some (r, w') → MA l D yX13_sum cX13_sum 3 (some (.object "FirstPolls$Sum")) dR [.ref a] w (oN r) w') (hr_X13_term : ∀ (w : AH) (a : Nat) (r : Nat ⊕ Nat) (w' : AH) , r_X13_term a w = some (r, w') → MA l D yX13_term cX13_term 3 (some (.object "FirstPolls$Sum")) dR [.ref a] w (oN r) w') (hr_X13_part : ∀ (w : AH) (a : Nat) (r : Nat ⊕ Nat) (w' : AH) , r_X13_part a w = some (r, w') → MA l D yX13_part cX13_part 2 (some (.object "FirstPolls$Sum")) dR [.ref a] w (oN r) w') (hext : 7 ≤ dR) (w : AH) (a : Nat) (r : Nat ⊕ Nat) (w' : AH) (hf : mB_X13_sum r_X13_test r_X13_both r_X13_plain r_X13_positive r_X13_sum r_X13_term r_X13_part a w = some (r, w')) : MA l D yX13_sum cX13_sum 3 (some (.object "FirstPolls$Sum")) (dR + 1) [.ref a] w (oN r) w' := by
  refine MA.introH (own := RX13) (nm := "sum") (ls := [some (.ref a), none, none]) (by decide) rfl rfl (Nat.le_of_ble_eq_true rfl) rfl (fun X hl hD hE hH => ?_)
  subst hl hD
  unfold mB_X13_sum at hf
  refine V_aload_n dX13_sum_0 rfl ?_
  obtain ⟨h1, hf⟩ := ck_ex hf
  obtain ⟨x4, w5, hc2, hf⟩ | ⟨r3, w5, hc2, hf⟩ := (bdT_ex hf).symm
  · refine V_xV (av := []) (rest := []) (hr_X13_term _ _ _ _ hc2) vx_X13_191 q1215 q160 (by decide) (kIn1 h1) (by omega) rfl rfl (Nat.le_of_ble_eq_true rfl) dX13_sum_1 ?_
    cases some_ex hf
    exact VO_t (VT_out hE hH (by decide))
  refine V_xV (av := []) (rest := []) (hr_X13_term _ _ _ _ hc2) vx_X13_191 q1215 q160 (by decide) (kIn1 h1) (by omega) rfl rfl (Nat.le_of_ble_eq_true rfl) dX13_sum_1 ?_
  refine VO_r (v := some (.ref r3)) (st' := [.ref r3]) rfl ?_
  refine V_astore_n (ls' := [some (.ref a), some (.ref r3), none]) dX13_sum_4 (by decide) rfl ?_
  exact lq3_ex (P := fun v0 v1 w => V X cX13_sum RX13 3 (dR + 1) w 5 [some (.ref v0), some (.ref v1), none] []) (fun k hk v0 v1 w hf => mB_X13_sum_5_v r_X13_test r_X13_both r_X13_plain r_X13_positive r_X13_sum r_X13_term r_X13_part hr_X13_test hr_X13_both hr_X13_plain hr_X13_positive hr_X13_sum hr_X13_term hr_X13_part hext hE hH k hk v0 v1 w hf) LF a r3 w5 hf
set_option maxHeartbeats 4000000 in
theorem mB_X13_term_23_v {X : CX} {w0 : AH} {dR : Nat} {r : Nat ⊕ Nat} {w' : AH}  (r_X13_test : Nat → AH → Option ((Nat ⊕ Nat) × AH)) (r_X13_both : Nat → AH → Option ((Nat ⊕ Nat) × AH)) (r_X13_plain : Nat → AH → Option ((Nat ⊕ Nat) × AH)) (r_X13_positive : Nat → AH → Option ((Nat ⊕ Nat) × AH)) (r_X13_sum : Nat → AH → Option ((Nat ⊕ Nat) × AH)) (r_X13_term : Nat → AH → Option ((Nat ⊕ Nat) × AH)) (r_X13_part : Nat → AH → Option ((Nat ⊕ Nat) × AH)) (hr_X13_test : ∀ (w : AH) (a : Nat) (r : Nat ⊕ Nat) (w' : AH) , r_X13_test a w = some (r, w') → MA (xl X) (xD X) yX13_test cX13_test 3 (some (.object "FirstPolls$Test")) dR [.ref a] w (oN r) w') (hr_X13_both : ∀ (w : AH) (a : Nat) (r : Nat ⊕ Nat) (w' : AH) , r_X13_both a w = some (r, w') → MA (xl X) (xD X) yX13_both cX13_both 3 (some (.object "FirstPolls$Test")) dR [.ref a] w (oN r) w') (hr_X13_plain : ∀ (w : AH) (a : Nat) (r : Nat ⊕ Nat) (w' : AH) , r_X13_plain a w = some (r, w') → MA (xl X) (xD X) yX13_plain cX13_plain 3 (some (.object "FirstPolls$Test")) dR [.ref a] w (oN r) w') (hr_X13_positive : ∀ (w : AH) (a : Nat) (r : Nat ⊕ Nat) (w' : AH) , r_X13_positive a w = some (r, w') → MA (xl X) (xD X) yX13_positive cX13_positive 4 (some (.object "FirstPolls$Test")) dR [.ref a] w (oN r) w') (hr_X13_sum : ∀ (w : AH) (a : Nat) (r : Nat ⊕ Nat) (w' : AH) , r_X13_sum a w = some (r, w') → MA (xl X) (xD X) yX13_sum cX13_sum 3 (some (.object "FirstPolls$Sum")) dR [.ref a] w (oN r) w') (hr_X13_term : ∀ (w : AH) (a : Nat) (r : Nat ⊕ Nat) (w' : AH) , r_X13_term a w = some (r, w') → MA (xl X) (xD X) yX13_term cX13_term 3 (some (.object "FirstPolls$Sum")) dR [.ref a] w (oN r) w') (hr_X13_part : ∀ (w : AH) (a : Nat) (r : Nat ⊕ Nat) (w' : AH) , r_X13_part a w = some (r, w') → MA (xl X) (xD X) yX13_part cX13_part 2 (some (.object "FirstPolls$Sum")) dR [.ref a] w (oN r) w') (hext : 7 ≤ dR) (hE : XE X w0 (dR + 1) (some (.object "FirstPolls$Sum")) "term" (oN r) w') (hH : XH X []) (k5 : Nat → Nat → AH → Option ((Nat ⊕ Nat) × AH)) (hk5 : ∀ (v0 : Nat) (v1 : Nat) (w : AH), k5 v0 v1 w = some (r, w') → V X cX13_term RX13 3 (dR + 1) w 5 [some (.ref v0), some (.ref v1), none] []) (v0 : Nat) (v1 : Nat) (w : AH) (hf : mB_X13_term_23 r_X13_test r_X13_both r_X13_plain r_X13_positive r_X13_sum r_X13_term r_X13_part k5 v0 v1 w = some (r, w')) : V X cX13_term RX13 3 (dR + 1) w 23 [some (.ref v0), some (.ref v1), none] [] := by
  unfold mB_X13_term_23 at hf
  refine V_aload_n dX13_term_23 rfl ?_
  obtain ⟨h1, hf⟩ := ck_ex hf
  obtain ⟨b2, hb3, hf⟩ := bd1_ex hf
  refine VP_getR (x := some b2) fa_X13_20 h1 rfl rfl hb3 dX13_term_24 ?_
  refine V_aload_n dX13_term_27 rfl ?_
  refine VP_getI fa_X13_31 h1 rfl dX13_term_28 ?_
  obtain ⟨h4, hf⟩ := ck_ex hf
  refine VE_bald h4 rfl dX13_term_31 ?_
  refine V_i2c dX13_term_32 ?_
  refine V_istore_n (ls' := [some (.ref v0), some (.ref v1), some (.int (((hvi w b2 ((hvi w v0 3).toNatClampNeg)).toUInt32 % 65536).toInt32))]) dX13_term_33 (by decide) rfl ?_
  refine V_aload_n dX13_term_34 rfl ?_
  obtain ⟨w6, hc5, hf⟩ := bd1_ex hf
  refine V_cV (av := []) (rest := []) (st' := []) (mC_X13_next_ok _ _ _ _ _ hc5) vc_X13_52 (kIn1 h1) (by omega) rfl rfl (Nat.le_of_ble_eq_true rfl) dX13_term_35 rfl ?_
  obtain ⟨h7, hf⟩ := ck_ex hf
  obtain ⟨b8, hb9, hf⟩ := st1_ex hf
  obtain ⟨w10, hs11, hf⟩ := st1_ex hf
  refine VE_new clX19 q1271 q1272 q168 ok_X19 h7 hb9 hs11 dX13_term_38 ?_
  refine V_dup dX13_term_41 rfl ?_
  refine V_iload_n dX13_term_42 rfl ?_
  refine V_aload_n dX13_term_43 rfl ?_
  refine V_aload_n dX13_term_44 rfl ?_
  obtain ⟨h12, hf⟩ := ck_ex hf
  obtain ⟨x15, w16, hc13, hf⟩ | ⟨r14, w16, hc13, hf⟩ := (bdT_ex hf).symm
  · refine V_xV (av := []) (rest := [.ref v1, .int (((hvi w b2 ((hvi w v0 3).toNatClampNeg)).toUInt32 % 65536).toInt32), .ref b8, .ref b8]) (hr_X13_part _ _ _ _ hc13) vx_X13_201 q1219 q160 (by decide) (kIn1 h12) (by omega) rfl rfl (Nat.le_of_ble_eq_true rfl) dX13_term_45 ?_
    cases some_ex hf
    exact VO_t (VT_out hE hH (by decide))
  refine V_xV (av := []) (rest := [.ref v1, .int (((hvi w b2 ((hvi w v0 3).toNatClampNeg)).toUInt32 % 65536).toInt32), .ref b8, .ref b8]) (hr_X13_part _ _ _ _ hc13) vx_X13_201 q1219 q160 (by decide) (kIn1 h12) (by omega) rfl rfl (Nat.le_of_ble_eq_true rfl) dX13_term_45 ?_
  refine VO_r (v := some (.ref r14)) (st' := [.ref r14, .ref v1, .int (((hvi w b2 ((hvi w v0 3).toNatClampNeg)).toUInt32 % 65536).toInt32), .ref b8, .ref b8]) rfl ?_
  obtain ⟨w18, hc17, hf⟩ := bd1_ex hf
  refine V_cI (av := [.int (((hvi w b2 ((hvi w v0 3).toNatClampNeg)).toUInt32 % 65536).toInt32), .ref v1, .ref r14]) (rest := [.ref b8]) (st' := [.ref b8]) (mC_X19_init_ok _ _ _ _ _ _ _ _ hc17) ic_X13_200 (by omega) rfl rfl (Nat.le_of_ble_eq_true rfl) dX13_term_48 rfl ?_
  refine V_astore_n (ls' := [some (.ref v0), some (.ref b8), some (.int (((hvi w b2 ((hvi w v0 3).toNatClampNeg)).toUInt32 % 65536).toInt32))]) dX13_term_51 (by decide) rfl ?_
  refine V_goto (tgt := 5) dX13_term_52 (by decide) ?_
  refine V_keep [true, true, false] rfl ?_
  exact hk5 v0 b8 w18 hf
