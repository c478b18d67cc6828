set_option maxRecDepth 100000
set_option maxHeartbeats 4000000 in
theorem mC_X0_hides_58_v {X : CX} {w0 : AH} {w' : AH}  (hE : XE X w0 2 none "hides" (.returned none) w') (hH : XH X []) (k11 : Nat → Int32 → Int32 → Int32 → Int32 → Int32 → Int32 → AH → Option (AH)) (hk11 : ∀ (v0 : Nat) (v1 : Int32) (v2 : Int32) (v3 : Int32) (v4 : Int32) (v5 : Int32) (v6 : Int32) (w : AH), k11 v0 v1 v2 v3 v4 v5 v6 w = some w' → V X cX0_hides RX0 8 2 w 11 [some (.ref v0), some (.int v1), some (.int v2), some (.int v3), some (.int v4), some (.int v5), some (.int v6), none] []) (k58 : Nat → Int32 → Int32 → Int32 → Int32 → Int32 → Int32 → Int32 → AH → Option (AH)) (hk58 : ∀ (v0 : Nat) (v1 : Int32) (v2 : Int32) (v3 : Int32) (v4 : Int32) (v5 : Int32) (v6 : Int32) (v7 : Int32) (w : AH), k58 v0 v1 v2 v3 v4 v5 v6 v7 w = some w' → V X cX0_hides RX0 8 2 w 58 [some (.ref v0), some (.int v1), some (.int v2), some (.int v3), some (.int v4), some (.int v5), some (.int v6), some (.int v7)] []) (v0 : Nat) (v1 : Int32) (v2 : Int32) (v3 : Int32) (v4 : Int32) (v5 : Int32) (v6 : Int32) (v7 : Int32) (w : AH) (hf : mC_X0_hides_58 k11 k58 v0 v1 v2 v3 v4 v5 v6 v7 w = some w') : V X cX0_hides RX0 8 2 w 58 [some (.ref v0), some (.int v1), some (.int v2), some (.int v3), some (.int v4), some (.int v5), some (.int v6), some (.int v7)] [] := by
  unfold mC_X0_hides_58 at hf
  refine V_iload dX0_hides_58 rfl ?_
  refine V_bipush dX0_hides_60 ckb_8 ?_
  refine V_icmp_ge (tgt := 79) dX0_hides_62 (by decide) (fun hc1 => ?_) (fun hc1 => ?_)
  · have hf := if_t hf hc1
    refine V_keep [true, true, true, true, true, true, true, false] rfl ?_
    exact mC_X0_hides_79_v hE hH k11 hk11 v0 v1 v2 v3 v4 v5 v6 w hf
  · have hf := if_f hf hc1
    refine V_aload_n dX0_hides_65 rfl ?_
    obtain ⟨h2, hf⟩ := ck_ex hf
    obtain ⟨b3, hb4, hf⟩ := bd1_ex hf
    refine VP_getR (x := some b3) fa_X0_95 h2 rfl rfl hb4 dX0_hides_66 ?_
    refine V_iload dX0_hides_69 rfl ?_
    refine V_iconst dX0_hides_71 ckc_0 ?_
    obtain ⟨h5, hf⟩ := ck_ex hf
    obtain ⟨w6, hs7, hf⟩ := st1_ex hf
    refine VE_iast h5 rfl hs7 dX0_hides_72 ?_
    refine V_inc (ls' := [some (.ref v0), some (.int v1), some (.int v2), some (.int v3), some (.int v4), some (.int v5), some (.int v6), some (.int (v7 + (1 : Int32)))]) dX0_hides_73 rfl ckc_1 (by decide) rfl ?_
    refine V_goto (tgt := 58) dX0_hides_76 (by decide) ?_
    exact hk58 v0 v1 v2 v3 v4 v5 v6 (v7 + (1 : Int32)) w6 hf
set_option maxHeartbeats 4000000 in
theorem mC_X0_hides_11_v {X : CX} {w0 : AH} {w' : AH}  (hE : XE X w0 2 none "hides" (.returned none) w') (hH : XH X []) (k11 : Nat → Int32 → Int32 → Int32 → Int32 → Int32 → Int32 → AH → Option (AH)) (hk11 : ∀ (v0 : Nat) (v1 : Int32) (v2 : Int32) (v3 : Int32) (v4 : Int32) (v5 : Int32) (v6 : Int32) (w : AH), k11 v0 v1 v2 v3 v4 v5 v6 w = some w' → V X cX0_hides RX0 8 2 w 11 [some (.ref v0), some (.int v1), some (.int v2), some (.int v3), some (.int v4), some (.int v5), some (.int v6), none] []) (v0 : Nat) (v1 : Int32) (v2 : Int32) (v3 : Int32) (v4 : Int32) (v5 : Int32) (v6 : Int32) (w : AH) (hf : mC_X0_hides_11 k11 v0 v1 v2 v3 v4 v5 v6 w = some w') : V X cX0_hides RX0 8 2 w 11 [some (.ref v0), some (.int v1), some (.int v2), some (.int v3), some (.int v4), some (.int v5), some (.int v6), none] [] := by
  unfold mC_X0_hides_11 at hf
  refine V_iload dX0_hides_11 rfl ?_
  refine V_aload_n dX0_hides_13 rfl ?_
  obtain ⟨h1, hf⟩ := ck_ex hf
  obtain ⟨b2, hb3, hf⟩ := bd1_ex hf
  refine VP_getR (x := some b2) fa_X0_10 h1 rfl rfl hb3 dX0_hides_14 ?_
  obtain ⟨h4, hf⟩ := ck_ex hf
  refine VP_getI fa_X0_154 h4 rfl dX0_hides_17 ?_
  refine V_icmp_ge (tgt := 168) dX0_hides_20 (by decide) (fun hc5 => ?_) (fun hc5 => ?_)
  · have hf := if_t hf hc5
    refine V_iload_n dX0_hides_168 rfl ?_
    refine V_iconst dX0_hides_169 ckc_m1 ?_
    refine V_icmp_eq (tgt := 179) dX0_hides_170 (by decide) (fun hc6 => ?_) (fun hc6 => ?_)
    · have hf := if_t hf hc6
      cases some_ex hf
      exact V_vret hE dX0_hides_179
    · have hf := if_f hf hc6
      refine V_iload dX0_hides_173 rfl ?_
      refine V_iconst dX0_hides_175 ckc_m1 ?_
      refine V_icmp_ne (tgt := 180) dX0_hides_176 (by decide) (fun hc7 => ?_) (fun hc7 => ?_)
      · have hf := if_f hf hc7
        refine V_iconst dX0_hides_180 ckc_0 ?_
        refine V_istore (ls' := [some (.ref v0), some (.int v1), some (.int v2), some (.int v3), some (.int v4), some (.int v5), some (.int (0 : Int32)), none]) dX0_hides_181 (by decide) rfl ?_
        refine V_keep [true, false, false, true, true, false, true, true] rfl ?_
        exact lq5_ex (P := fun v0 v3 v4 v6 w => V X cX0_hides RX0 8 2 w 183 [some (.ref v0), none, none, some (.int v3), some (.int v4), none, some (.int v6), none] []) (fun k hk v0 v3 v4 v6 w hf => mC_X0_hides_183_v hE hH k hk v0 v3 v4 v6 w hf) LF v0 v3 v4 (0 : Int32) w hf
      · have hf := if_t hf hc7
        cases some_ex hf
        exact V_vret hE dX0_hides_179
  · have hf := if_f hf hc5
    refine V_aload_n dX0_hides_23 rfl ?_
    obtain ⟨b8, hb9, hf⟩ := bd1_ex hf
    refine VP_getR (x := some b8) fa_X0_92 h1 rfl rfl hb9 dX0_hides_24 ?_
    refine V_iload dX0_hides_27 rfl ?_
    refine V_iconst dX0_hides_29 ckc_m1 ?_
    obtain ⟨h10, hf⟩ := ck_ex hf
    obtain ⟨w11, hs12, hf⟩ := st1_ex hf
    refine VE_iast h10 rfl hs12 dX0_hides_30 ?_
    refine V_aload_n dX0_hides_31 rfl ?_
    refine V_iload dX0_hides_32 rfl ?_
    obtain ⟨h13, hf⟩ := ck_ex hf
    obtain ⟨r15, hc14, hf⟩ := bd1_ex hf
    refine V_cV (av := [.int v6]) (rest := []) (st' := [.int r15]) (mC_X0_seatOf_ok _ _ _ _ _ _ hc14) vc_X0_476 (kIn1 h13) (by decide) rfl rfl (Nat.le_of_ble_eq_true rfl) dX0_hides_34 rfl ?_
    refine V_iload_n dX0_hides_37 rfl ?_
    refine V_icmp_eq (tgt := 44) dX0_hides_38 (by decide) (fun hc16 => ?_) (fun hc16 => ?_)
    · have hf := if_t hf hc16
      refine V_iload_n dX0_hides_44 rfl ?_
      refine V_iconst dX0_hides_45 ckc_m1 ?_
      refine V_icmp_ne (tgt := 79) dX0_hides_46 (by decide) (fun hc17 => ?_) (fun hc17 => ?_)
      · have hf := if_f hf hc17
        exact mC_X0_hides_79_v hE hH k11 hk11 v0 v1 v2 v3 v4 v5 v6 w11 hf
      · have hf := if_t hf hc17
        refine V_iload dX0_hides_49 rfl ?_
        refine V_istore_n (ls' := [some (.ref v0), some (.int v1), some (.int v2), some (.int v6), some (.int v4), some (.int v5), some (.int v6), none]) dX0_hides_51 (by decide) rfl ?_
        refine V_iconst dX0_hides_52 ckc_0 ?_
        refine V_istore (ls' := [some (.ref v0), some (.int v1), some (.int v2), some (.int v6), some (.int v4), some (.int (0 : Int32)), some (.int v6), none]) dX0_hides_53 (by decide) rfl ?_
        refine V_iconst dX0_hides_55 ckc_0 ?_
        refine V_istore (ls' := [some (.ref v0), some (.int v1), some (.int v2), some (.int v6), some (.int v4), some (.int (0 : Int32)), some (.int v6), some (.int (0 : Int32))]) dX0_hides_56 (by decide) rfl ?_
        exact lq9_ex (P := fun v0 v1 v2 v3 v4 v5 v6 v7 w => V X cX0_hides RX0 8 2 w 58 [some (.ref v0), some (.int v1), some (.int v2), some (.int v3), some (.int v4), some (.int v5), some (.int v6), some (.int v7)] []) (fun k hk v0 v1 v2 v3 v4 v5 v6 v7 w hf => mC_X0_hides_58_v hE hH k11 hk11 k hk v0 v1 v2 v3 v4 v5 v6 v7 w hf) LF v0 v1 v2 v6 v4 (0 : Int32) v6 (0 : Int32) w11 hf
    · have hf := if_f hf hc16
      refine V_goto (tgt := 162) dX0_hides_41 (by decide) ?_
      exact mC_X0_hides_162_v hE hH k11 hk11 v0 v1 v2 v3 v4 v5 v6 w11 hf
set_option maxHeartbeats 4000000 in
theorem mC_X0_hides_ok (l : Launch) (D : DD) (w : AH) (a : Nat) (p0 : Int32) (p1 : Int32) (w' : AH) (hf : mC_X0_hides a p0 p1 w = some w') : MA l D yX0_hides cX0_hides 8 none 2 [.ref a, .int p0, .int p1] w (.returned none) w' := by
  refine MA.introH (own := RX0) (nm := "hides") (ls := [some (.ref a), some (.int p0), some (.int p1), none, none, none, none, none]) (by decide) rfl rfl (Nat.le_of_ble_eq_true rfl) rfl (fun X hl hD hE hH => ?_)
  subst hl hD
  unfold mC_X0_hides at hf
  refine V_iconst dX0_hides_0 ckc_m1 ?_
  refine V_istore_n (ls' := [some (.ref a), some (.int p0), some (.int p1), some (.int (-1 : Int32)), none, none, none, none]) dX0_hides_1 (by decide) rfl ?_
  refine V_iconst dX0_hides_2 ckc_m1 ?_
  refine V_istore (ls' := [some (.ref a), some (.int p0), some (.int p1), some (.int (-1 : Int32)), some (.int (-1 : Int32)), none, none, none]) dX0_hides_3 (by decide) rfl ?_
  refine V_iconst dX0_hides_5 ckc_0 ?_
  refine V_istore (ls' := [some (.ref a), some (.int p0), some (.int p1), some (.int (-1 : Int32)), some (.int (-1 : Int32)), some (.int (0 : Int32)), none, none]) dX0_hides_6 (by decide) rfl ?_
  refine V_iconst dX0_hides_8 ckc_0 ?_
  refine V_istore (ls' := [some (.ref a), some (.int p0), some (.int p1), some (.int (-1 : Int32)), some (.int (-1 : Int32)), some (.int (0 : Int32)), some (.int (0 : Int32)), none]) dX0_hides_9 (by decide) rfl ?_
  exact lq8_ex (P := fun v0 v1 v2 v3 v4 v5 v6 w => V X cX0_hides RX0 8 2 w 11 [some (.ref v0), some (.int v1), some (.int v2), some (.int v3), some (.int v4), some (.int v5), some (.int v6), none] []) (fun k hk v0 v1 v2 v3 v4 v5 v6 w hf => mC_X0_hides_11_v hE hH k hk v0 v1 v2 v3 v4 v5 v6 w hf) LF a p0 p1 (-1 : Int32) (-1 : Int32) (0 : Int32) (0 : Int32) w hf
set_option maxHeartbeats 4000000 in
theorem mC_X0_hidden_143_v {X : CX} {w0 : AH} {r : Int32} {w' : AH}  (hE : XE X w0 408 (some (.int)) "hidden" (.returned (some (.int r))) w') (hH : XH X []) (k75 : Nat → Int32 → Int32 → Int32 → Int32 → Int32 → AH → Option (Int32 × AH)) (hk75 : ∀ (v0 : Nat) (v1 : Int32) (v2 : Int32) (v5 : Int32) (v6 : Int32) (v7 : Int32) (w : AH), k75 v0 v1 v2 v5 v6 v7 w = some (r, w') → V X cX0_hidden RX0 8 408 w 75 [some (.ref v0), some (.int v1), some (.int v2), none, none, some (.int v5), some (.int v6), some (.int v7)] []) (v0 : Nat) (v1 : Int32) (v2 : Int32) (v5 : Int32) (v6 : Int32) (v7 : Int32) (w : AH) (hf : mC_X0_hidden_143 k75 v0 v1 v2 v5 v6 v7 w = some (r, w')) : V X cX0_hidden RX0 8 408 w 143 [some (.ref v0), some (.int v1), some (.int v2), none, none, some (.int v5), some (.int v6), some (.int v7)] [] := by
  unfold mC_X0_hidden_143 at hf
  refine V_inc (ls' := [some (.ref v0), some (.int v1), some (.int v2), none, none, some (.int v5), some (.int v6), some (.int (v7 + (1 : Int32)))]) dX0_hidden_143 rfl ckc_1 (by decide) rfl ?_
  refine V_goto (tgt := 75) dX0_hidden_146 (by decide) ?_
  exact hk75 v0 v1 v2 v5 v6 (v7 + (1 : Int32)) w hf
set_option maxHeartbeats 4000000 in
theorem mC_X0_hidden_140_v {X : CX} {w0 : AH} {r : Int32} {w' : AH}  (hE : XE X w0 408 (some (.int)) "hidden" (.returned (some (.int r))) w') (hH : XH X []) (k75 : Nat → Int32 → Int32 → Int32 → Int32 → Int32 → AH → Option (Int32 × AH)) (hk75 : ∀ (v0 : Nat) (v1 : Int32) (v2 : Int32) (v5 : Int32) (v6 : Int32) (v7 : Int32) (w : AH), k75 v0 v1 v2 v5 v6 v7 w = some (r, w') → V X cX0_hidden RX0 8 408 w 75 [some (.ref v0), some (.int v1), some (.int v2), none, none, some (.int v5), some (.int v6), some (.int v7)] []) (v0 : Nat) (v1 : Int32) (v2 : Int32) (v5 : Int32) (v7 : Int32) (t0 : Int32) (t1 : Int32) (w : AH) (hf : mC_X0_hidden_140 k75 v0 v1 v2 v5 v7 t0 t1 w = some (r, w')) : V X cX0_hidden RX0 8 408 w 140 [some (.ref v0), some (.int v1), some (.int v2), none, none, some (.int v5), none, some (.int v7)] [.int t0, .int t1] := by
  unfold mC_X0_hidden_140 at hf
  refine V_iadd dX0_hidden_140 ?_
  refine V_istore (ls' := [some (.ref v0), some (.int v1), some (.int v2), none, none, some (.int v5), some (.int (t1 + t0)), some (.int v7)]) dX0_hidden_141 (by decide) rfl ?_
  exact mC_X0_hidden_143_v hE hH k75 hk75 v0 v1 v2 v5 (t1 + t0) v7 w hf
set_option maxHeartbeats 4000000 in
theorem mC_X0_hidden_75_v {X : CX} {w0 : AH} {r : Int32} {w' : AH}  (hE : XE X w0 408 (some (.int)) "hidden" (.returned (some (.int r))) w') (hH : XH X []) (k75 : Nat → Int32 → Int32 → Int32 → Int32 → Int32 → AH → Option (Int32 × AH)) (hk75 : ∀ (v0 : Nat) (v1 : Int32) (v2 : Int32) (v5 : Int32) (v6 : Int32) (v7 : Int32) (w : AH), k75 v0 v1 v2 v5 v6 v7 w = some (r, w') → V X cX0_hidden RX0 8 408 w 75 [some (.ref v0), some (.int v1), some (.int v2), none, none, some (.int v5), some (.int v6), some (.int v7)] []) (v0 : Nat) (v1 : Int32) (v2 : Int32) (v5 : Int32) (v6 : Int32) (v7 : Int32) (w : AH) (hf : mC_X0_hidden_75 k75 v0 v1 v2 v5 v6 v7 w = some (r, w')) : V X cX0_hidden RX0 8 408 w 75 [some (.ref v0), some (.int v1), some (.int v2), none, none, some (.int v5), some (.int v6), some (.int v7)] [] := by
  unfold mC_X0_hidden_75 at hf
  refine V_iload dX0_hidden_75 rfl ?_
  refine V_aload_n dX0_hidden_77 rfl ?_
  obtain ⟨h1, hf⟩ := ck_ex hf
  obtain ⟨b2, hb3, hf⟩ := bd1_ex hf
  refine VP_getR (x := some b2) fa_X0_10 h1 rfl rfl hb3 dX0_hidden_78 ?_
  obtain ⟨h4, hf⟩ := ck_ex hf
  refine VP_getI fa_X0_154 h4 rfl dX0_hidden_81 ?_
  refine V_icmp_ge (tgt := 149) dX0_hidden_84 (by decide) (fun hc5 => ?_) (fun hc5 => ?_)
  · have hf := if_t hf hc5
    refine V_iload dX0_hidden_149 rfl ?_
    cases some_ex hf
    exact V_iret hE dX0_hidden_151
  · have hf := if_f hf hc5
    refine V_aload_n dX0_hidden_87 rfl ?_
    obtain ⟨b6, hb7, hf⟩ := bd1_ex hf
    refine VP_getR (x := some b6) fa_X0_92 h1 rfl rfl hb7 dX0_hidden_88 ?_
    refine V_iload dX0_hidden_91 rfl ?_
    obtain ⟨h8, hf⟩ := ck_ex hf
    refine VE_iald h8 rfl dX0_hidden_93 ?_
    refine V_iconst dX0_hidden_94 ckc_m1 ?_
    refine V_icmp_eq (tgt := 143) dX0_hidden_95 (by decide) (fun hc9 => ?_) (fun hc9 => ?_)
    · have hf := if_t hf hc9
      exact mC_X0_hidden_143_v hE hH k75 hk75 v0 v1 v2 v5 v6 v7 w hf
    · have hf := if_f hf hc9
      refine V_aload_n dX0_hidden_98 rfl ?_
      refine VP_getR (x := some b6) fa_X0_92 h1 rfl rfl hb7 dX0_hidden_99 ?_
      refine V_iload dX0_hidden_102 rfl ?_
      refine VE_iald h8 rfl dX0_hidden_104 ?_
      refine V_aload_n dX0_hidden_105 rfl ?_
      refine VP_getR (x := some b6) fa_X0_92 h1 rfl rfl hb7 dX0_hidden_106 ?_
      refine V_iload_n dX0_hidden_109 rfl ?_
      obtain ⟨h10, hf⟩ := ck_ex hf
      refine VE_iald h10 rfl dX0_hidden_110 ?_
      refine V_icmp_ne (tgt := 143) dX0_hidden_111 (by decide) (fun hc11 => ?_) (fun hc11 => ?_)
      · have hf := if_f hf hc11
        exact mC_X0_hidden_143_v hE hH k75 hk75 v0 v1 v2 v5 v6 v7 w hf
      · have hf := if_t hf hc11
        refine V_iload dX0_hidden_114 rfl ?_
        refine V_iload dX0_hidden_116 rfl ?_
        refine V_if_ne (tgt := 139) dX0_hidden_118 (by decide) (fun hc12 => ?_) (fun hc12 => ?_)
        · have hf := if_f hf hc12
          refine V_iconst dX0_hidden_139 ckc_1 ?_
          refine V_keep [true, true, true, true, true, true, false, true] rfl ?_
          exact mC_X0_hidden_140_v hE hH k75 hk75 v0 v1 v2 v5 v7 (1 : Int32) v6 w hf
        · have hf := if_t hf hc12
          refine V_aload_n dX0_hidden_121 rfl ?_
          obtain ⟨b13, hb14, hf⟩ := bd1_ex hf
          refine VP_getR (x := some b13) fa_X0_85 h1 rfl rfl hb14 dX0_hidden_122 ?_
          obtain ⟨h15, hf⟩ := ck_ex hf
          obtain ⟨b16, hb17, hf⟩ := bd1_ex hf
          refine VP_getR (x := some b16) fa_X0_479 h15 rfl rfl hb17 dX0_hidden_125 ?_
          refine V_bipush dX0_hidden_128 ckb_8 ?_
          refine V_iload dX0_hidden_130 rfl ?_
          refine V_imul dX0_hidden_132 ?_
          refine V_iload_n dX0_hidden_133 rfl ?_
          refine V_iadd dX0_hidden_134 ?_
          obtain ⟨h18, hf⟩ := ck_ex hf
          refine VE_iald h18 rfl dX0_hidden_135 ?_
          refine V_goto (tgt := 140) dX0_hidden_136 (by decide) ?_
          refine V_keep [true, true, true, true, true, true, false, true] rfl ?_
          exact mC_X0_hidden_140_v hE hH k75 hk75 v0 v1 v2 v5 v7 (hvi w b16 ((((8 : Int32) * v7) + v2).toNatClampNeg)) v6 w hf
set_option maxHeartbeats 4000000 in
theorem mC_X0_hidden_ok (l : Launch) (D : DD) (w : AH) (a : Nat) (p0 : Int32) (p1 : Int32) (p2 : Int32) (p3 : Int32) (p4 : Int32) (r : Int32) (w' : AH) (hf : mC_X0_hidden a p0 p1 p2 p3 p4 w = some (r, w')) : MA l D yX0_hidden cX0_hidden 8 (some (.int)) 408 [.ref a, .int p0, .int p1, .int p2, .int p3, .int p4] w (.returned (some (.int r))) w' := by
  refine MA.introH (own := RX0) (nm := "hidden") (ls := [some (.ref a), some (.int p0), some (.int p1), some (.int p2), some (.int p3), some (.int p4), none, none]) (by decide) rfl rfl (Nat.le_of_ble_eq_true rfl) rfl (fun X hl hD hE hH => ?_)
  subst hl hD
  unfold mC_X0_hidden at hf
  refine V_aload_n dX0_hidden_0 rfl ?_
  refine V_iload_n dX0_hidden_1 rfl ?_
  obtain ⟨h1, hf⟩ := ck_ex hf
  obtain ⟨r3, hc2, hf⟩ := bd1_ex hf
  refine V_cV (av := [.int p0]) (rest := []) (st' := [.int r3]) (mC_X0_isBooth_ok _ _ _ _ _ _ hc2) vc_X0_416 (kIn1 h1) (by decide) rfl rfl (Nat.le_of_ble_eq_true rfl) dX0_hidden_2 rfl ?_
  refine V_if_eq (tgt := 43) dX0_hidden_5 (by decide) (fun hc4 => ?_) (fun hc4 => ?_)
  · have hf := if_t hf hc4
    refine V_iconst dX0_hidden_43 ckc_m1 ?_
    cases some_ex hf
    exact V_iret hE dX0_hidden_44
  · have hf := if_f hf hc4
    refine V_iload_n dX0_hidden_8 rfl ?_
    refine V_iconst dX0_hidden_9 ckc_0 ?_
    refine V_bipush dX0_hidden_10 ckb_7 ?_
    obtain ⟨r6, hc5, hf⟩ := bd1_ex hf
    refine V_cS (rest := []) (st' := [.int r6]) (mC_X0_in_ok _ _ _ _ _ _ _ hc5) sc_X0_127 (by decide) rfl rfl (Nat.le_of_ble_eq_true rfl) dX0_hidden_12 rfl ?_
    refine V_if_eq (tgt := 43) dX0_hidden_15 (by decide) (fun hc7 => ?_) (fun hc7 => ?_)
    · have hf := if_t hf hc7
      refine V_iconst dX0_hidden_43 ckc_m1 ?_
      cases some_ex hf
      exact V_iret hE dX0_hidden_44
    · have hf := if_f hf hc7
      refine V_iload_n dX0_hidden_18 rfl ?_
      obtain ⟨r9, hc8, hf⟩ := bd1_ex hf
      refine V_cS (rest := []) (st' := [.int r9]) (mC_X0_isDay_ok _ _ _ _ _ hc8) sc_X0_201 (by decide) rfl rfl (Nat.le_of_ble_eq_true rfl) dX0_hidden_19 rfl ?_
      refine V_if_eq (tgt := 43) dX0_hidden_22 (by decide) (fun hc10 => ?_) (fun hc10 => ?_)
      · have hf := if_t hf hc10
        refine V_iconst dX0_hidden_43 ckc_m1 ?_
        cases some_ex hf
        exact V_iret hE dX0_hidden_44
      · have hf := if_f hf hc10
        refine V_iload dX0_hidden_25 rfl ?_
        obtain ⟨r12, hc11, hf⟩ := bd1_ex hf
        refine V_cS (rest := []) (st' := [.int r12]) (mC_X0_isDay_ok _ _ _ _ _ hc11) sc_X0_201 (by decide) rfl rfl (Nat.le_of_ble_eq_true rfl) dX0_hidden_27 rfl ?_
        refine V_if_eq (tgt := 43) dX0_hidden_30 (by decide) (fun hc13 => ?_) (fun hc13 => ?_)
        · have hf := if_t hf hc13
          refine V_iconst dX0_hidden_43 ckc_m1 ?_
          cases some_ex hf
          exact V_iret hE dX0_hidden_44
        · have hf := if_f hf hc13
          refine V_iload dX0_hidden_33 rfl ?_
          refine V_iconst dX0_hidden_35 ckc_0 ?_
          refine V_iconst dX0_hidden_36 ckc_1 ?_
          obtain ⟨r15, hc14, hf⟩ := bd1_ex hf
          refine V_cS (rest := []) (st' := [.int r15]) (mC_X0_in_ok _ _ _ _ _ _ _ hc14) sc_X0_127 (by decide) rfl rfl (Nat.le_of_ble_eq_true rfl) dX0_hidden_37 rfl ?_
          refine V_if_ne (tgt := 45) dX0_hidden_40 (by decide) (fun hc16 => ?_) (fun hc16 => ?_)
          · have hf := if_f hf hc16
            refine V_aload_n dX0_hidden_45 rfl ?_
            obtain ⟨b17, hb18, hf⟩ := bd1_ex hf
            refine VP_getR (x := some b17) fa_X0_85 h1 rfl rfl hb18 dX0_hidden_46 ?_
            refine V_iload_n dX0_hidden_49 rfl ?_
            refine V_iload dX0_hidden_50 rfl ?_
            obtain ⟨h19, hf⟩ := ck_ex hf
            obtain ⟨w21, hc20, hf⟩ := bd1_ex hf
            refine V_cV (av := [.int p2, .int p3]) (rest := []) (st' := []) (mC_X6_looks_ok _ _ _ _ _ _ _ hc20) vc_X0_458 (kIn1 h19) (by decide) rfl rfl (Nat.le_of_ble_eq_true rfl) dX0_hidden_52 rfl ?_
            refine V_aload_n dX0_hidden_55 rfl ?_
            refine V_aload_n dX0_hidden_56 rfl ?_
            refine V_iload_n dX0_hidden_57 rfl ?_
            obtain ⟨h22, hf⟩ := ck_ex hf
            obtain ⟨r24, hc23, hf⟩ := bd1_ex hf
            refine V_cV (av := [.int p0]) (rest := [.ref a]) (st' := [.int r24, .ref a]) (mC_X0_seatOf_ok _ _ _ _ _ _ hc23) vc_X0_476 (kIn1 h22) (by decide) rfl rfl (Nat.le_of_ble_eq_true rfl) dX0_hidden_58 rfl ?_
            refine V_aload_n dX0_hidden_61 rfl ?_
            refine V_iload_n dX0_hidden_62 rfl ?_
            obtain ⟨r26, w27, hc25, hf⟩ := bd2_ex hf
            refine V_cV (av := [.int p2]) (rest := [.int r24, .ref a]) (st' := [.int r26, .int r24, .ref a]) (mC_X0_fewOn_ok _ _ _ _ _ _ _ hc25) vc_X0_372 (kIn1 h22) (by decide) rfl rfl (Nat.le_of_ble_eq_true rfl) dX0_hidden_63 rfl ?_
            obtain ⟨h28, hf⟩ := ck_ex hf
            obtain ⟨w30, hc29, hf⟩ := bd1_ex hf
            refine V_cV (av := [.int r24, .int r26]) (rest := []) (st' := []) (mC_X0_hides_ok _ _ _ _ _ _ _ hc29) vc_X0_499 (kIn1 h28) (by decide) rfl rfl (Nat.le_of_ble_eq_true rfl) dX0_hidden_66 rfl ?_
            refine V_iconst dX0_hidden_69 ckc_0 ?_
            refine V_istore (ls' := [some (.ref a), some (.int p0), some (.int p1), some (.int p2), some (.int p3), some (.int p4), some (.int (0 : Int32)), none]) dX0_hidden_70 (by decide) rfl ?_
            refine V_iconst dX0_hidden_72 ckc_0 ?_
            refine V_istore (ls' := [some (.ref a), some (.int p0), some (.int p1), some (.int p2), some (.int p3), some (.int p4), some (.int (0 : Int32)), some (.int (0 : Int32))]) dX0_hidden_73 (by decide) rfl ?_
            refine V_keep [true, true, true, false, false, true, true, true] rfl ?_
            exact lq7_ex (P := fun v0 v1 v2 v5 v6 v7 w => V X cX0_hidden RX0 8 408 w 75 [some (.ref v0), some (.int v1), some (.int v2), none, none, some (.int v5), some (.int v6), some (.int v7)] []) (fun k hk v0 v1 v2 v5 v6 v7 w hf => mC_X0_hidden_75_v hE hH k hk v0 v1 v2 v5 v6 v7 w hf) LF a p0 p1 p4 (0 : Int32) (0 : Int32) w30 hf
          · have hf := if_t hf hc16
            refine V_iconst dX0_hidden_43 ckc_m1 ?_
            cases some_ex hf
            exact V_iret hE dX0_hidden_44
set_option maxHeartbeats 4000000 in
theorem mC_X0_shares_296_v {X : CX} {w0 : AH} {r : Int32} {w' : AH}  (hE : XE X w0 408 (some (.int)) "shares" (.returned (some (.int r))) w') (hH : XH X []) (k227 : Nat → Int32 → Int32 → Int32 → AH → Option (Int32 × AH)) (hk227 : ∀ (v0 : Nat) (v2 : Int32) (v7 : Int32) (v8 : Int32) (w : AH), k227 v0 v2 v7 v8 w = some (r, w') → V X cX0_shares RX0 11 408 w 227 [some (.ref v0), none, some (.int v2), none, none, none, none, some (.int v7), some (.int v8), none, none] []) (v0 : Nat) (v2 : Int32) (v7 : Int32) (t0 : Int32) (t1 : Int32) (w : AH) (hf : mC_X0_shares_296 k227 v0 v2 v7 t0 t1 w = some (r, w')) : V X cX0_shares RX0 11 408 w 296 [some (.ref v0), none, some (.int v2), none, none, none, none, some (.int v7), none, none, none] [.int t0, .int t1] := by
  unfold mC_X0_shares_296 at hf
  refine V_iadd dX0_shares_296 ?_
  refine V_istore (ls' := [some (.ref v0), none, some (.int v2), none, none, none, none, some (.int v7), some (.int (t1 + t0)), none, none]) dX0_shares_297 (by decide) rfl ?_
  refine V_inc (ls' := [some (.ref v0), none, some (.int v2), none, none, none, none, some (.int (v7 + (-1 : Int32))), some (.int (t1 + t0)), none, none]) dX0_shares_299 rfl ckc_m1 (by decide) rfl ?_
  refine V_goto (tgt := 227) dX0_shares_302 (by decide) ?_
  exact hk227 v0 v2 (v7 + (-1 : Int32)) (t1 + t0) w hf
set_option maxHeartbeats 4000000 in
theorem mC_X0_shares_267_v {X : CX} {w0 : AH} {r : Int32} {w' : AH}  (hE : XE X w0 408 (some (.int)) "shares" (.returned (some (.int r))) w') (hH : XH X []) (k238 : Nat → Int32 → Int32 → Int32 → Int32 → Int32 → AH → Option (Int32 × AH)) (hk238 : ∀ (v0 : Nat) (v2 : Int32) (v7 : Int32) (v8 : Int32) (v9 : Int32) (v10 : Int32) (w : AH), k238 v0 v2 v7 v8 v9 v10 w = some (r, w') → V X cX0_shares RX0 11 408 w 238 [some (.ref v0), none, some (.int v2), none, none, none, none, some (.int v7), some (.int v8), some (.int v9), some (.int v10)] []) (v0 : Nat) (v2 : Int32) (v7 : Int32) (v8 : Int32) (v9 : Int32) (v10 : Int32) (w : AH) (hf : mC_X0_shares_267 k238 v0 v2 v7 v8 v9 v10 w = some (r, w')) : V X cX0_shares RX0 11 408 w 267 [some (.ref v0), none, some (.int v2), none, none, none, none, some (.int v7), some (.int v8), some (.int v9), some (.int v10)] [] := by
  unfold mC_X0_shares_267 at hf
  refine V_inc (ls' := [some (.ref v0), none, some (.int v2), none, none, none, none, some (.int v7), some (.int v8), some (.int v9), some (.int (v10 + (1 : Int32)))]) dX0_shares_267 rfl ckc_1 (by decide) rfl ?_
  refine V_goto (tgt := 238) dX0_shares_270 (by decide) ?_
  exact hk238 v0 v2 v7 v8 v9 (v10 + (1 : Int32)) w hf
set_option maxHeartbeats 4000000 in
theorem mC_X0_shares_238_v {X : CX} {w0 : AH} {r : Int32} {w' : AH}  (hE : XE X w0 408 (some (.int)) "shares" (.returned (some (.int r))) w') (hH : XH X []) (k227 : Nat → Int32 → Int32 → Int32 → AH → Option (Int32 × AH)) (hk227 : ∀ (v0 : Nat) (v2 : Int32) (v7 : Int32) (v8 : Int32) (w : AH), k227 v0 v2 v7 v8 w = some (r, w') → V X cX0_shares RX0 11 408 w 227 [some (.ref v0), none, some (.int v2), none, none, none, none, some (.int v7), some (.int v8), none, none] []) (k238 : Nat → Int32 → Int32 → Int32 → Int32 → Int32 → AH → Option (Int32 × AH)) (hk238 : ∀ (v0 : Nat) (v2 : Int32) (v7 : Int32) (v8 : Int32) (v9 : Int32) (v10 : Int32) (w : AH), k238 v0 v2 v7 v8 v9 v10 w = some (r, w') → V X cX0_shares RX0 11 408 w 238 [some (.ref v0), none, some (.int v2), none, none, none, none, some (.int v7), some (.int v8), some (.int v9), some (.int v10)] []) (v0 : Nat) (v2 : Int32) (v7 : Int32) (v8 : Int32) (v9 : Int32) (v10 : Int32) (w : AH) (hf : mC_X0_shares_238 k227 k238 v0 v2 v7 v8 v9 v10 w = some (r, w')) : V X cX0_shares RX0 11 408 w 238 [some (.ref v0), none, some (.int v2), none, none, none, none, some (.int v7), some (.int v8), some (.int v9), some (.int v10)] [] := by
  unfold mC_X0_shares_238 at hf
  refine V_iload dX0_shares_238 rfl ?_
  refine V_bipush dX0_shares_240 ckb_8 ?_
  refine V_icmp_ge (tgt := 273) dX0_shares_242 (by decide) (fun hc1 => ?_) (fun hc1 => ?_)
  · have hf := if_t hf hc1
    refine V_aload_n dX0_shares_273 rfl ?_
    obtain ⟨h2, hf⟩ := ck_ex hf
    obtain ⟨b3, hb4, hf⟩ := bd1_ex hf
    refine VP_getR (x := some b3) fa_X0_98 h2 rfl rfl hb4 dX0_shares_274 ?_
    refine V_iload dX0_shares_277 rfl ?_
    refine V_ldc2 q1698 dX0_shares_279 ?_
    obtain ⟨h5, hf⟩ := ck_ex hf
    obtain ⟨w6, hs7, hf⟩ := st1_ex hf
    refine VE_last h5 rfl hs7 dX0_shares_282 ?_
    refine V_iload dX0_shares_283 rfl ?_
    refine V_iload dX0_shares_285 rfl ?_
    refine V_iload_n dX0_shares_287 rfl ?_
    refine V_icmp_ne (tgt := 295) dX0_shares_288 (by decide) (fun hc8 => ?_) (fun hc8 => ?_)
    · have hf := if_f hf hc8
      refine V_iconst dX0_shares_295 ckc_0 ?_
      refine V_keep [true, true, true, true, true, true, true, true, false, false, false] rfl ?_
      exact mC_X0_shares_296_v hE hH k227 hk227 v0 v2 v7 (0 : Int32) v8 w6 hf
    · have hf := if_t hf hc8
      refine V_iconst dX0_shares_291 ckc_1 ?_
      refine V_goto (tgt := 296) dX0_shares_292 (by decide) ?_
      refine V_keep [true, true, true, true, true, true, true, true, false, false, false] rfl ?_
      exact mC_X0_shares_296_v hE hH k227 hk227 v0 v2 v7 (1 : Int32) v8 w6 hf
  · have hf := if_f hf hc1
    refine V_aload_n dX0_shares_245 rfl ?_
    obtain ⟨h9, hf⟩ := ck_ex hf
    obtain ⟨b10, hb11, hf⟩ := bd1_ex hf
    refine VP_getR (x := some b10) fa_X0_98 h9 rfl rfl hb11 dX0_shares_246 ?_
    refine V_iload dX0_shares_249 rfl ?_
    obtain ⟨h12, hf⟩ := ck_ex hf
    refine VE_lald h12 rfl dX0_shares_251 ?_
    refine V_aload_n dX0_shares_252 rfl ?_
    refine VP_getR (x := some b10) fa_X0_98 h9 rfl rfl hb11 dX0_shares_253 ?_
    refine V_iload dX0_shares_256 rfl ?_
    obtain ⟨h13, hf⟩ := ck_ex hf
    refine VE_lald h13 rfl dX0_shares_258 ?_
    refine V_lif_le (tgt := 267) dX0_shares_259 dX0_shares_260 (by decide) (fun hc14 => ?_) (fun hc14 => ?_)
    · have hf := if_t hf hc14
      exact mC_X0_shares_267_v hE hH k238 hk238 v0 v2 v7 v8 v9 v10 w hf
    · have hf := if_f hf hc14
      refine V_iload dX0_shares_263 rfl ?_
      refine V_istore (ls' := [some (.ref v0), none, some (.int v2), none, none, none, none, some (.int v7), some (.int v8), some (.int v10), some (.int v10)]) dX0_shares_265 (by decide) rfl ?_
      exact mC_X0_shares_267_v hE hH k238 hk238 v0 v2 v7 v8 v10 v10 w hf
set_option maxHeartbeats 4000000 in
theorem mC_X0_shares_227_v {X : CX} {w0 : AH} {r : Int32} {w' : AH}  (hE : XE X w0 408 (some (.int)) "shares" (.returned (some (.int r))) w') (hH : XH X []) (k227 : Nat → Int32 → Int32 → Int32 → AH → Option (Int32 × AH)) (hk227 : ∀ (v0 : Nat) (v2 : Int32) (v7 : Int32) (v8 : Int32) (w : AH), k227 v0 v2 v7 v8 w = some (r, w') → V X cX0_shares RX0 11 408 w 227 [some (.ref v0), none, some (.int v2), none, none, none, none, some (.int v7), some (.int v8), none, none] []) (v0 : Nat) (v2 : Int32) (v7 : Int32) (v8 : Int32) (w : AH) (hf : mC_X0_shares_227 k227 v0 v2 v7 v8 w = some (r, w')) : V X cX0_shares RX0 11 408 w 227 [some (.ref v0), none, some (.int v2), none, none, none, none, some (.int v7), some (.int v8), none, none] [] := by
  unfold mC_X0_shares_227 at hf
  refine V_iload dX0_shares_227 rfl ?_
  refine V_if_le (tgt := 305) dX0_shares_229 (by decide) (fun hc1 => ?_) (fun hc1 => ?_)
  · have hf := if_t hf hc1
    refine V_iload dX0_shares_305 rfl ?_
    cases some_ex hf
    exact V_iret hE dX0_shares_307
  · have hf := if_f hf hc1
    refine V_iconst dX0_shares_232 ckc_0 ?_
    refine V_istore (ls' := [some (.ref v0), none, some (.int v2), none, none, none, none, some (.int v7), some (.int v8), some (.int (0 : Int32)), none]) dX0_shares_233 (by decide) rfl ?_
    refine V_iconst dX0_shares_235 ckc_1 ?_
    refine V_istore (ls' := [some (.ref v0), none, some (.int v2), none, none, none, none, some (.int v7), some (.int v8), some (.int (0 : Int32)), some (.int (1 : Int32))]) dX0_shares_236 (by decide) rfl ?_
    exact lq7_ex (P := fun v0 v2 v7 v8 v9 v10 w => V X cX0_shares RX0 11 408 w 238 [some (.ref v0), none, some (.int v2), none, none, none, none, some (.int v7), some (.int v8), some (.int v9), some (.int v10)] []) (fun k hk v0 v2 v7 v8 v9 v10 w hf => mC_X0_shares_238_v hE hH k227 hk227 k hk v0 v2 v7 v8 v9 v10 w hf) LF v0 v2 v7 v8 (0 : Int32) (1 : Int32) w hf
set_option maxHeartbeats 4000000 in
theorem mC_X0_shares_218_v {X : CX} {w0 : AH} {r : Int32} {w' : AH}  (hE : XE X w0 408 (some (.int)) "shares" (.returned (some (.int r))) w') (hH : XH X []) (k152 : Nat → Int32 → Int32 → Int64 → Int32 → Int32 → Int32 → AH → Option (Int32 × AH)) (hk152 : ∀ (v0 : Nat) (v1 : Int32) (v2 : Int32) (v5 : Int64) (v7 : Int32) (v8 : Int32) (v9 : Int32) (w : AH), k152 v0 v1 v2 v5 v7 v8 v9 w = some (r, w') → V X cX0_shares RX0 11 408 w 152 [some (.ref v0), some (.int v1), some (.int v2), none, none, some (.long v5), none, some (.int v7), some (.int v8), some (.int v9), none] []) (v0 : Nat) (v1 : Int32) (v2 : Int32) (v5 : Int64) (v7 : Int32) (v9 : Int32) (t0 : Int32) (t1 : Int32) (w : AH) (hf : mC_X0_shares_218 k152 v0 v1 v2 v5 v7 v9 t0 t1 w = some (r, w')) : V X cX0_shares RX0 11 408 w 218 [some (.ref v0), some (.int v1), some (.int v2), none, none, some (.long v5), none, some (.int v7), none, some (.int v9), none] [.int t0, .int t1] := by
  unfold mC_X0_shares_218 at hf
  refine V_iadd dX0_shares_218 ?_
  refine V_istore (ls' := [some (.ref v0), some (.int v1), some (.int v2), none, none, some (.long v5), none, some (.int v7), some (.int (t1 + t0)), some (.int v9), none]) dX0_shares_219 (by decide) rfl ?_
  refine V_inc (ls' := [some (.ref v0), some (.int v1), some (.int v2), none, none, some (.long v5), none, some (.int v7), some (.int (t1 + t0)), some (.int (v9 + (1 : Int32))), none]) dX0_shares_221 rfl ckc_1 (by decide) rfl ?_
  refine V_goto (tgt := 152) dX0_shares_224 (by decide) ?_
  exact hk152 v0 v1 v2 v5 v7 (t1 + t0) (v9 + (1 : Int32)) w hf
set_option maxHeartbeats 4000000 in
theorem mC_X0_shares_152_v {X : CX} {w0 : AH} {r : Int32} {w' : AH}  (hE : XE X w0 408 (some (.int)) "shares" (.returned (some (.int r))) w') (hH : XH X []) (k152 : Nat → Int32 → Int32 → Int64 → Int32 → Int32 → Int32 → AH → Option (Int32 × AH)) (hk152 : ∀ (v0 : Nat) (v1 : Int32) (v2 : Int32) (v5 : Int64) (v7 : Int32) (v8 : Int32) (v9 : Int32) (w : AH), k152 v0 v1 v2 v5 v7 v8 v9 w = some (r, w') → V X cX0_shares RX0 11 408 w 152 [some (.ref v0), some (.int v1), some (.int v2), none, none, some (.long v5), none, some (.int v7), some (.int v8), some (.int v9), none] []) (v0 : Nat) (v1 : Int32) (v2 : Int32) (v5 : Int64) (v7 : Int32) (v8 : Int32) (v9 : Int32) (w : AH) (hf : mC_X0_shares_152 k152 v0 v1 v2 v5 v7 v8 v9 w = some (r, w')) : V X cX0_shares RX0 11 408 w 152 [some (.ref v0), some (.int v1), some (.int v2), none, none, some (.long v5), none, some (.int v7), some (.int v8), some (.int v9), none] [] := by
  unfold mC_X0_shares_152 at hf
  refine V_iload dX0_shares_152 rfl ?_
  refine V_bipush dX0_shares_154 ckb_8 ?_
  refine V_icmp_ge (tgt := 227) dX0_shares_156 (by decide) (fun hc1 => ?_) (fun hc1 => ?_)
  · have hf := if_t hf hc1
    refine V_keep [true, false, true, true, true, false, true, true, true, false, true] rfl ?_
    exact lq5_ex (P := fun v0 v2 v7 v8 w => V X cX0_shares RX0 11 408 w 227 [some (.ref v0), none, some (.int v2), none, none, none, none, some (.int v7), some (.int v8), none, none] []) (fun k hk v0 v2 v7 v8 w hf => mC_X0_shares_227_v hE hH k hk v0 v2 v7 v8 w hf) LF v0 v2 v7 v8 w hf
  · have hf := if_f hf hc1
    refine V_iload_n dX0_shares_159 rfl ?_
    refine V_i2l dX0_shares_160 ?_
    refine V_aload_n dX0_shares_161 rfl ?_
    obtain ⟨h2, hf⟩ := ck_ex hf
    obtain ⟨b3, hb4, hf⟩ := bd1_ex hf
    refine VP_getR (x := some b3) fa_X0_89 h2 rfl rfl hb4 dX0_shares_162 ?_
    refine V_iload dX0_shares_165 rfl ?_
    obtain ⟨h5, hf⟩ := ck_ex hf
    refine VE_iald h5 rfl dX0_shares_167 ?_
    refine V_i2l dX0_shares_168 ?_
    refine V_lmul dX0_shares_169 ?_
    refine V_lload dX0_shares_170 rfl ?_
    obtain ⟨hz6, hf⟩ := nzL_ex hf
    refine V_ldiv dX0_shares_172 hz6 ?_
    refine V_l2i dX0_shares_173 ?_
    refine V_istore (ls' := [some (.ref v0), some (.int v1), some (.int v2), none, none, some (.long v5), none, some (.int v7), some (.int v8), some (.int v9), some (.int (((v1.toInt64 * (hvi w b3 (v9.toNatClampNeg)).toInt64) / v5).toInt32))]) dX0_shares_174 (by decide) rfl ?_
    refine V_aload_n dX0_shares_176 rfl ?_
    obtain ⟨b7, hb8, hf⟩ := bd1_ex hf
    refine VP_getR (x := some b7) fa_X0_98 h2 rfl rfl hb8 dX0_shares_177 ?_
    refine V_iload dX0_shares_180 rfl ?_
    refine V_iload_n dX0_shares_182 rfl ?_
    refine V_i2l dX0_shares_183 ?_
    refine V_aload_n dX0_shares_184 rfl ?_
    refine VP_getR (x := some b3) fa_X0_89 h2 rfl rfl hb4 dX0_shares_185 ?_
    refine V_iload dX0_shares_188 rfl ?_
    refine VE_iald h5 rfl dX0_shares_190 ?_
    refine V_i2l dX0_shares_191 ?_
    refine V_lmul dX0_shares_192 ?_
    refine V_lload dX0_shares_193 rfl ?_
    obtain ⟨hz9, hf⟩ := nzL_ex hf
    refine V_lrem dX0_shares_195 hz9 ?_
    obtain ⟨h10, hf⟩ := ck_ex hf
    obtain ⟨w11, hs12, hf⟩ := st1_ex hf
    refine VE_last h10 rfl hs12 dX0_shares_196 ?_
    refine V_iload dX0_shares_197 rfl ?_
    refine V_iload dX0_shares_199 rfl ?_
    refine V_isub dX0_shares_201 ?_
    refine V_istore (ls' := [some (.ref v0), some (.int v1), some (.int v2), none, none, some (.long v5), none, some (.int (v7 - ((v1.toInt64 * (hvi w b3 (v9.toNatClampNeg)).toInt64) / v5).toInt32)), some (.int v8), some (.int v9), some (.int (((v1.toInt64 * (hvi w b3 (v9.toNatClampNeg)).toInt64) / v5).toInt32))]) dX0_shares_202 (by decide) rfl ?_
    refine V_iload dX0_shares_204 rfl ?_
    refine V_iload dX0_shares_206 rfl ?_
    refine V_iload_n dX0_shares_208 rfl ?_
    refine V_icmp_ne (tgt := 217) dX0_shares_209 (by decide) (fun hc13 => ?_) (fun hc13 => ?_)
    · have hf := if_f hf hc13
      refine V_iconst dX0_shares_217 ckc_0 ?_
      refine V_keep [true, true, true, true, true, true, true, true, false, true, false] rfl ?_
      exact mC_X0_shares_218_v hE hH k152 hk152 v0 v1 v2 v5 (v7 - ((v1.toInt64 * (hvi w b3 (v9.toNatClampNeg)).toInt64) / v5).toInt32) v9 (0 : Int32) v8 w11 hf
    · have hf := if_t hf hc13
      refine V_iload dX0_shares_212 rfl ?_
      refine V_goto (tgt := 218) dX0_shares_214 (by decide) ?_
      refine V_keep [true, true, true, true, true, true, true, true, false, true, false] rfl ?_
      exact mC_X0_shares_218_v hE hH k152 hk152 v0 v1 v2 v5 (v7 - ((v1.toInt64 * (hvi w b3 (v9.toNatClampNeg)).toInt64) / v5).toInt32) v9 (((v1.toInt64 * (hvi w b3 (v9.toNatClampNeg)).toInt64) / v5).toInt32) v8 w11 hf
set_option maxHeartbeats 4000000 in
theorem mC_X0_shares_71_v {X : CX} {w0 : AH} {r : Int32} {w' : AH}  (hE : XE X w0 408 (some (.int)) "shares" (.returned (some (.int r))) w') (hH : XH X []) (k53 : Nat → Int32 → Int32 → Int64 → Int32 → AH → Option (Int32 × AH)) (hk53 : ∀ (v0 : Nat) (v1 : Int32) (v2 : Int32) (v5 : Int64) (v7 : Int32) (w : AH), k53 v0 v1 v2 v5 v7 w = some (r, w') → V X cX0_shares RX0 11 408 w 53 [some (.ref v0), some (.int v1), some (.int v2), none, none, some (.long v5), none, some (.int v7), none, none, none] []) (k71 : Nat → Int32 → Int32 → Int64 → Int32 → Int32 → AH → Option (Int32 × AH)) (hk71 : ∀ (v0 : Nat) (v1 : Int32) (v2 : Int32) (v5 : Int64) (v7 : Int32) (v8 : Int32) (w : AH), k71 v0 v1 v2 v5 v7 v8 w = some (r, w') → V X cX0_shares RX0 11 408 w 71 [some (.ref v0), some (.int v1), some (.int v2), none, none, some (.long v5), none, some (.int v7), some (.int v8), none, none] []) (v0 : Nat) (v1 : Int32) (v2 : Int32) (v5 : Int64) (v7 : Int32) (v8 : Int32) (w : AH) (hf : mC_X0_shares_71 k53 k71 v0 v1 v2 v5 v7 v8 w = some (r, w')) : V X cX0_shares RX0 11 408 w 71 [some (.ref v0), some (.int v1), some (.int v2), none, none, some (.long v5), none, some (.int v7), some (.int v8), none, none] [] := by
  unfold mC_X0_shares_71 at hf
  refine V_iload dX0_shares_71 rfl ?_
  refine V_aload_n dX0_shares_73 rfl ?_
  obtain ⟨h1, hf⟩ := ck_ex hf
  obtain ⟨b2, hb3, hf⟩ := bd1_ex hf
  refine VP_getR (x := some b2) fa_X0_10 h1 rfl rfl hb3 dX0_shares_74 ?_
  obtain ⟨h4, hf⟩ := ck_ex hf
  refine VP_getI fa_X0_154 h4 rfl dX0_shares_77 ?_
  refine V_icmp_ge (tgt := 115) dX0_shares_80 (by decide) (fun hc5 => ?_) (fun hc5 => ?_)
  · have hf := if_t hf hc5
    refine V_lload dX0_shares_115 rfl ?_
    refine V_aload_n dX0_shares_117 rfl ?_
    obtain ⟨b6, hb7, hf⟩ := bd1_ex hf
    refine VP_getR (x := some b6) fa_X0_89 h1 rfl rfl hb7 dX0_shares_118 ?_
    refine V_iload dX0_shares_121 rfl ?_
    obtain ⟨h8, hf⟩ := ck_ex hf
    refine VE_iald h8 rfl dX0_shares_123 ?_
    refine V_i2l dX0_shares_124 ?_
    refine V_ladd dX0_shares_125 ?_
    refine V_lstore (ls' := [some (.ref v0), some (.int v1), some (.int v2), none, none, some (.long (v5 + (hvi w b6 (v7.toNatClampNeg)).toInt64)), none, some (.int v7), some (.int v8), none, none]) dX0_shares_126 (by decide) rfl ?_
    refine V_inc (ls' := [some (.ref v0), some (.int v1), some (.int v2), none, none, some (.long (v5 + (hvi w b6 (v7.toNatClampNeg)).toInt64)), none, some (.int (v7 + (1 : Int32))), some (.int v8), none, none]) dX0_shares_128 rfl ckc_1 (by decide) rfl ?_
    refine V_goto (tgt := 53) dX0_shares_131 (by decide) ?_
    refine V_keep [true, true, true, true, true, true, true, true, false, true, true] rfl ?_
    exact hk53 v0 v1 v2 (v5 + (hvi w b6 (v7.toNatClampNeg)).toInt64) (v7 + (1 : Int32)) w hf
  · have hf := if_f hf hc5
    refine V_aload_n dX0_shares_83 rfl ?_
    obtain ⟨b9, hb10, hf⟩ := bd1_ex hf
    refine VP_getR (x := some b9) fa_X0_89 h1 rfl rfl hb10 dX0_shares_84 ?_
    refine V_iload dX0_shares_87 rfl ?_
    refine V_dup2 dX0_shares_89 rfl rfl ?_
    obtain ⟨h11, hf⟩ := ck_ex hf
    refine VE_iald h11 rfl dX0_shares_90 ?_
    refine V_aload_n dX0_shares_91 rfl ?_
    obtain ⟨b12, hb13, hf⟩ := bd1_ex hf
    refine VP_getR (x := some b12) fa_X0_85 h1 rfl rfl hb13 dX0_shares_92 ?_
    obtain ⟨h14, hf⟩ := ck_ex hf
    obtain ⟨b15, hb16, hf⟩ := bd1_ex hf
    refine VP_getR (x := some b15) fa_X0_479 h14 rfl rfl hb16 dX0_shares_95 ?_
    refine V_bipush dX0_shares_98 ckb_8 ?_
    refine V_iload dX0_shares_100 rfl ?_
    refine V_imul dX0_shares_102 ?_
    refine V_iload dX0_shares_103 rfl ?_
    refine V_iadd dX0_shares_105 ?_
    obtain ⟨h17, hf⟩ := ck_ex hf
    refine VE_iald h17 rfl dX0_shares_106 ?_
    refine V_iadd dX0_shares_107 ?_
    obtain ⟨w18, hs19, hf⟩ := st1_ex hf
    refine VE_iast h11 rfl hs19 dX0_shares_108 ?_
    refine V_inc (ls' := [some (.ref v0), some (.int v1), some (.int v2), none, none, some (.long v5), none, some (.int v7), some (.int (v8 + (1 : Int32))), none, none]) dX0_shares_109 rfl ckc_1 (by decide) rfl ?_
    refine V_goto (tgt := 71) dX0_shares_112 (by decide) ?_
    exact hk71 v0 v1 v2 v5 v7 (v8 + (1 : Int32)) w18 hf
set_option maxHeartbeats 4000000 in
theorem mC_X0_shares_53_v {X : CX} {w0 : AH} {r : Int32} {w' : AH}  (hE : XE X w0 408 (some (.int)) "shares" (.returned (some (.int r))) w') (hH : XH X []) (k53 : Nat → Int32 → Int32 → Int64 → Int32 → AH → Option (Int32 × AH)) (hk53 : ∀ (v0 : Nat) (v1 : Int32) (v2 : Int32) (v5 : Int64) (v7 : Int32) (w : AH), k53 v0 v1 v2 v5 v7 w = some (r, w') → V X cX0_shares RX0 11 408 w 53 [some (.ref v0), some (.int v1), some (.int v2), none, none, some (.long v5), none, some (.int v7), none, none, none] []) (v0 : Nat) (v1 : Int32) (v2 : Int32) (v5 : Int64) (v7 : Int32) (w : AH) (hf : mC_X0_shares_53 k53 v0 v1 v2 v5 v7 w = some (r, w')) : V X cX0_shares RX0 11 408 w 53 [some (.ref v0), some (.int v1), some (.int v2), none, none, some (.long v5), none, some (.int v7), none, none, none] [] := by
  unfold mC_X0_shares_53 at hf
  refine V_iload dX0_shares_53 rfl ?_
  refine V_bipush dX0_shares_55 ckb_8 ?_
  refine V_icmp_ge (tgt := 134) dX0_shares_57 (by decide) (fun hc1 => ?_) (fun hc1 => ?_)
  · have hf := if_t hf hc1
    refine V_lload dX0_shares_134 rfl ?_
    refine V_lconst dX0_shares_136 ckl_0 ?_
    refine V_lif_ne (tgt := 143) dX0_shares_137 dX0_shares_138 (by decide) (fun hc2 => ?_) (fun hc2 => ?_)
    · have hf := if_f hf hc2
      refine V_iload_n dX0_shares_143 rfl ?_
      refine V_istore (ls' := [some (.ref v0), some (.int v1), some (.int v2), none, none, some (.long v5), none, some (.int v1), none, none, none]) dX0_shares_144 (by decide) rfl ?_
      refine V_iconst dX0_shares_146 ckc_0 ?_
      refine V_istore (ls' := [some (.ref v0), some (.int v1), some (.int v2), none, none, some (.long v5), none, some (.int v1), some (.int (0 : Int32)), none, none]) dX0_shares_147 (by decide) rfl ?_
      refine V_iconst dX0_shares_149 ckc_0 ?_
      refine V_istore (ls' := [some (.ref v0), some (.int v1), some (.int v2), none, none, some (.long v5), none, some (.int v1), some (.int (0 : Int32)), some (.int (0 : Int32)), none]) dX0_shares_150 (by decide) rfl ?_
      exact lq8_ex (P := fun v0 v1 v2 v5 v7 v8 v9 w => V X cX0_shares RX0 11 408 w 152 [some (.ref v0), some (.int v1), some (.int v2), none, none, some (.long v5), none, some (.int v7), some (.int v8), some (.int v9), none] []) (fun k hk v0 v1 v2 v5 v7 v8 v9 w hf => mC_X0_shares_152_v hE hH k hk v0 v1 v2 v5 v7 v8 v9 w hf) LF v0 v1 v2 v5 v1 (0 : Int32) (0 : Int32) w hf
    · have hf := if_t hf hc2
      refine V_iconst dX0_shares_141 ckc_m1 ?_
      cases some_ex hf
      exact V_iret hE dX0_shares_142
  · have hf := if_f hf hc1
    refine V_aload_n dX0_shares_60 rfl ?_
    obtain ⟨h3, hf⟩ := ck_ex hf
    obtain ⟨b4, hb5, hf⟩ := bd1_ex hf
    refine VP_getR (x := some b4) fa_X0_89 h3 rfl rfl hb5 dX0_shares_61 ?_
    refine V_iload dX0_shares_64 rfl ?_
    refine V_iconst dX0_shares_66 ckc_0 ?_
    obtain ⟨h6, hf⟩ := ck_ex hf
    obtain ⟨w7, hs8, hf⟩ := st1_ex hf
    refine VE_iast h6 rfl hs8 dX0_shares_67 ?_
    refine V_iconst dX0_shares_68 ckc_0 ?_
    refine V_istore (ls' := [some (.ref v0), some (.int v1), some (.int v2), none, none, some (.long v5), none, some (.int v7), some (.int (0 : Int32)), none, none]) dX0_shares_69 (by decide) rfl ?_
    exact lq7_ex (P := fun v0 v1 v2 v5 v7 v8 w => V X cX0_shares RX0 11 408 w 71 [some (.ref v0), some (.int v1), some (.int v2), none, none, some (.long v5), none, some (.int v7), some (.int v8), none, none] []) (fun k hk v0 v1 v2 v5 v7 v8 w hf => mC_X0_shares_71_v hE hH k53 hk53 k hk v0 v1 v2 v5 v7 v8 w hf) LF v0 v1 v2 v5 v7 (0 : Int32) w7 hf
set_option maxHeartbeats 4000000 in
theorem mC_X0_shares_ok (l : Launch) (D : DD) (w : AH) (a : Nat) (p0 : Int32) (p1 : Int32) (p2 : Int32) (p3 : Int32) (r : Int32) (w' : AH) (hf : mC_X0_shares a p0 p1 p2 p3 w = some (r, w')) : MA l D yX0_shares cX0_shares 11 (some (.int)) 408 [.ref a, .int p0, .int p1, .int p2, .int p3] w (.returned (some (.int r))) w' := by
  refine MA.introH (own := RX0) (nm := "shares") (ls := [some (.ref a), some (.int p0), some (.int p1), some (.int p2), some (.int p3), none, none, none, none, none, none]) (by decide) rfl rfl (Nat.le_of_ble_eq_true rfl) rfl (fun X hl hD hE hH => ?_)
  subst hl hD
  unfold mC_X0_shares at hf
  refine V_iload_n dX0_shares_0 rfl ?_
  refine V_iconst dX0_shares_1 ckc_1 ?_
  refine V_bipush dX0_shares_2 ckb_20 ?_
  obtain ⟨r2, hc1, hf⟩ := bd1_ex hf
  refine V_cS (rest := []) (st' := [.int r2]) (mC_X0_in_ok _ _ _ _ _ _ _ hc1) sc_X0_127 (by decide) rfl rfl (Nat.le_of_ble_eq_true rfl) dX0_shares_4 rfl ?_
  refine V_if_eq (tgt := 35) dX0_shares_7 (by decide) (fun hc3 => ?_) (fun hc3 => ?_)
  · have hf := if_t hf hc3
    refine V_iconst dX0_shares_35 ckc_m1 ?_
    cases some_ex hf
    exact V_iret hE dX0_shares_36
  · have hf := if_f hf hc3
    refine V_iload_n dX0_shares_10 rfl ?_
    refine V_iconst dX0_shares_11 ckc_0 ?_
    refine V_bipush dX0_shares_12 ckb_7 ?_
    obtain ⟨r5, hc4, hf⟩ := bd1_ex hf
    refine V_cS (rest := []) (st' := [.int r5]) (mC_X0_in_ok _ _ _ _ _ _ _ hc4) sc_X0_127 (by decide) rfl rfl (Nat.le_of_ble_eq_true rfl) dX0_shares_14 rfl ?_
    refine V_if_eq (tgt := 35) dX0_shares_17 (by decide) (fun hc6 => ?_) (fun hc6 => ?_)
    · have hf := if_t hf hc6
      refine V_iconst dX0_shares_35 ckc_m1 ?_
      cases some_ex hf
      exact V_iret hE dX0_shares_36
    · have hf := if_f hf hc6
      refine V_iload_n dX0_shares_20 rfl ?_
      obtain ⟨r8, hc7, hf⟩ := bd1_ex hf
      refine V_cS (rest := []) (st' := [.int r8]) (mC_X0_isDay_ok _ _ _ _ _ hc7) sc_X0_201 (by decide) rfl rfl (Nat.le_of_ble_eq_true rfl) dX0_shares_21 rfl ?_
      refine V_if_eq (tgt := 35) dX0_shares_24 (by decide) (fun hc9 => ?_) (fun hc9 => ?_)
      · have hf := if_t hf hc9
        refine V_iconst dX0_shares_35 ckc_m1 ?_
        cases some_ex hf
        exact V_iret hE dX0_shares_36
      · have hf := if_f hf hc9
        refine V_iload dX0_shares_27 rfl ?_
        obtain ⟨r11, hc10, hf⟩ := bd1_ex hf
        refine V_cS (rest := []) (st' := [.int r11]) (mC_X0_isDay_ok _ _ _ _ _ hc10) sc_X0_201 (by decide) rfl rfl (Nat.le_of_ble_eq_true rfl) dX0_shares_29 rfl ?_
        refine V_if_ne (tgt := 37) dX0_shares_32 (by decide) (fun hc12 => ?_) (fun hc12 => ?_)
        · have hf := if_f hf hc12
          refine V_aload_n dX0_shares_37 rfl ?_
          obtain ⟨h13, hf⟩ := ck_ex hf
          obtain ⟨b14, hb15, hf⟩ := bd1_ex hf
          refine VP_getR (x := some b14) fa_X0_85 h13 rfl rfl hb15 dX0_shares_38 ?_
          refine V_iload_n dX0_shares_41 rfl ?_
          refine V_iload dX0_shares_42 rfl ?_
          obtain ⟨h16, hf⟩ := ck_ex hf
          obtain ⟨w18, hc17, hf⟩ := bd1_ex hf
          refine V_cV (av := [.int p2, .int p3]) (rest := []) (st' := []) (mC_X6_looks_ok _ _ _ _ _ _ _ hc17) vc_X0_458 (kIn1 h16) (by decide) rfl rfl (Nat.le_of_ble_eq_true rfl) dX0_shares_44 rfl ?_
          refine V_lconst dX0_shares_47 ckl_0 ?_
          refine V_lstore (ls' := [some (.ref a), some (.int p0), some (.int p1), some (.int p2), some (.int p3), some (.long (0 : Int64)), none, none, none, none, none]) dX0_shares_48 (by decide) rfl ?_
          refine V_iconst dX0_shares_50 ckc_0 ?_
          refine V_istore (ls' := [some (.ref a), some (.int p0), some (.int p1), some (.int p2), some (.int p3), some (.long (0 : Int64)), none, some (.int (0 : Int32)), none, none, none]) dX0_shares_51 (by decide) rfl ?_
          refine V_keep [true, true, true, false, false, true, true, true, true, true, true] rfl ?_
          exact lq6_ex (P := fun v0 v1 v2 v5 v7 w => V X cX0_shares RX0 11 408 w 53 [some (.ref v0), some (.int v1), some (.int v2), none, none, some (.long v5), none, some (.int v7), none, none, none] []) (fun k hk v0 v1 v2 v5 v7 w hf => mC_X0_shares_53_v hE hH k hk v0 v1 v2 v5 v7 w hf) LF a p0 p1 (0 : Int64) (0 : Int32) w18 hf
        · have hf := if_t hf hc12
          refine V_iconst dX0_shares_35 ckc_m1 ?_
          cases some_ex hf
          exact V_iret hE dX0_shares_36
set_option maxHeartbeats 4000000 in
theorem mC_X0_terms_20_v {X : CX} {w0 : AH} {r : Int32} {w' : AH}  (hE : XE X w0 2 (some (.int)) "terms" (.returned (some (.int r))) w') (hH : XH X []) (v0 : Nat) (w : AH) (hf : mC_X0_terms_20 v0 w = some (r, w')) : V X cX0_terms RX0 3 2 w 20 [some (.ref v0), none, none] [] := by
  unfold mC_X0_terms_20 at hf
  refine V_aload_n dX0_terms_20 rfl ?_
  refine V_iconst dX0_terms_21 ckc_m1 ?_
  obtain ⟨h1, hf⟩ := ck_ex hf
  obtain ⟨r3, w4, hc2, hf⟩ := bd2_ex hf
  refine V_cV (av := [.int (-1 : Int32)]) (rest := []) (st' := [.int r3]) (mC_X0_refuse_ok _ _ _ _ _ _ _ hc2) vc_X0_131 (kIn1 h1) (by decide) rfl rfl (Nat.le_of_ble_eq_true rfl) dX0_terms_22 rfl ?_
  cases some_ex hf
  exact V_iret hE dX0_terms_25
set_option maxHeartbeats 4000000 in
theorem mC_X0_terms_ok (l : Launch) (D : DD) (w : AH) (a : Nat) (p0 : Int32) (p1 : Int32) (r : Int32) (w' : AH) (hf : mC_X0_terms a p0 p1 w = some (r, w')) : MA l D yX0_terms cX0_terms 3 (some (.int)) 2 [.ref a, .int p0, .int p1] w (.returned (some (.int r))) w' := by
  refine MA.introH (own := RX0) (nm := "terms") (ls := [some (.ref a), some (.int p0), some (.int p1)]) (by decide) rfl rfl (Nat.le_of_ble_eq_true rfl) rfl (fun X hl hD hE hH => ?_)
  subst hl hD
  unfold mC_X0_terms at hf
  refine V_iload_n dX0_terms_0 rfl ?_
  refine V_iconst dX0_terms_1 ckc_1 ?_
  refine V_bipush dX0_terms_2 ckb_50 ?_
  obtain ⟨r2, hc1, hf⟩ := bd1_ex hf
  refine V_cS (rest := []) (st' := [.int r2]) (mC_X0_in_ok _ _ _ _ _ _ _ hc1) sc_X0_127 (by decide) rfl rfl (Nat.le_of_ble_eq_true rfl) dX0_terms_4 rfl ?_
  refine V_if_eq (tgt := 20) dX0_terms_7 (by decide) (fun hc3 => ?_) (fun hc3 => ?_)
  · have hf := if_t hf hc3
    refine V_keep [true, false, false] rfl ?_
    exact mC_X0_terms_20_v hE hH a w hf
  · have hf := if_f hf hc3
    refine V_iload_n dX0_terms_10 rfl ?_
    refine V_iconst dX0_terms_11 ckc_0 ?_
    refine V_bipush dX0_terms_12 ckb_9 ?_
    obtain ⟨r5, hc4, hf⟩ := bd1_ex hf
    refine V_cS (rest := []) (st' := [.int r5]) (mC_X0_in_ok _ _ _ _ _ _ _ hc4) sc_X0_127 (by decide) rfl rfl (Nat.le_of_ble_eq_true rfl) dX0_terms_14 rfl ?_
    refine V_if_ne (tgt := 26) dX0_terms_17 (by decide) (fun hc6 => ?_) (fun hc6 => ?_)
    · have hf := if_f hf hc6
      refine V_aload_n dX0_terms_26 rfl ?_
      obtain ⟨h7, hf⟩ := ck_ex hf
      obtain ⟨b8, hb9, hf⟩ := bd1_ex hf
      refine VP_getR (x := some b8) fa_X0_10 h7 rfl rfl hb9 dX0_terms_27 ?_
      refine V_iload_n dX0_terms_30 rfl ?_
      obtain ⟨h10, hf⟩ := ck_ex hf
      obtain ⟨w11, hs12, hf⟩ := st1_ex hf
      refine VE_putI fw_X0_504 h10 rfl rfl rfl hs12 dX0_terms_31 ?_
      refine V_aload_n dX0_terms_34 rfl ?_
      obtain ⟨h13, hf⟩ := ck_ex hf
      obtain ⟨b14, hb15, hf⟩ := bd1_ex hf
      refine VP_getR (x := some b14) fa_X0_10 h13 rfl rfl hb15 dX0_terms_35 ?_
      refine V_iload_n dX0_terms_38 rfl ?_
      obtain ⟨h16, hf⟩ := ck_ex hf
      obtain ⟨w17, hs18, hf⟩ := st1_ex hf
      refine VE_putI fw_X0_507 h16 rfl rfl rfl hs18 dX0_terms_39 ?_
      refine V_aload_n dX0_terms_42 rfl ?_
      refine V_iconst dX0_terms_43 ckc_0 ?_
      obtain ⟨h19, hf⟩ := ck_ex hf
      obtain ⟨r21, w22, hc20, hf⟩ := bd2_ex hf
      refine V_cV (av := [.int (0 : Int32)]) (rest := []) (st' := [.int r21]) (mC_X0_done_ok _ _ _ _ _ _ _ hc20) vc_X0_123 (kIn1 h19) (by decide) rfl rfl (Nat.le_of_ble_eq_true rfl) dX0_terms_44 rfl ?_
      cases some_ex hf
      exact V_iret hE dX0_terms_47
    · have hf := if_t hf hc6
      refine V_keep [true, false, false] rfl ?_
      exact mC_X0_terms_20_v hE hH a w hf
set_option maxHeartbeats 4000000 in
theorem mC_X0_span_18_v {X : CX} {w0 : AH} {r : Int32} {w' : AH}  (hE : XE X w0 3 (some (.int)) "span" (.returned (some (.int r))) w') (hH : XH X []) (v0 : Nat) (w : AH) (hf : mC_X0_span_18 v0 w = some (r, w')) : V X cX0_span RX0 4 3 w 18 [some (.ref v0), none, none, none] [] := by
  unfold mC_X0_span_18 at hf
  refine V_aload_n dX0_span_18 rfl ?_
  refine V_iconst dX0_span_19 ckc_m1 ?_
  obtain ⟨h1, hf⟩ := ck_ex hf
  obtain ⟨r3, w4, hc2, hf⟩ := bd2_ex hf
  refine V_cV (av := [.int (-1 : Int32)]) (rest := []) (st' := [.int r3]) (mC_X0_refuse_ok _ _ _ _ _ _ _ hc2) vc_X0_131 (kIn1 h1) (by decide) rfl rfl (Nat.le_of_ble_eq_true rfl) dX0_span_20 rfl ?_
  cases some_ex hf
  exact V_iret hE dX0_span_23
set_option maxHeartbeats 4000000 in
theorem mC_X0_span_ok (l : Launch) (D : DD) (w : AH) (a : Nat) (p0 : Int32) (p1 : Int32) (p2 : Int32) (r : Int32) (w' : AH) (hf : mC_X0_span a p0 p1 p2 w = some (r, w')) : MA l D yX0_span cX0_span 4 (some (.int)) 3 [.ref a, .int p0, .int p1, .int p2] w (.returned (some (.int r))) w' := by
  refine MA.introH (own := RX0) (nm := "span") (ls := [some (.ref a), some (.int p0), some (.int p1), some (.int p2)]) (by decide) rfl rfl (Nat.le_of_ble_eq_true rfl) rfl (fun X hl hD hE hH => ?_)
  subst hl hD
  unfold mC_X0_span at hf
  refine V_iload_n dX0_span_0 rfl ?_
  obtain ⟨r2, hc1, hf⟩ := bd1_ex hf
  refine V_cS (rest := []) (st' := [.int r2]) (mC_X0_isDay_ok _ _ _ _ _ hc1) sc_X0_201 (by decide) rfl rfl (Nat.le_of_ble_eq_true rfl) dX0_span_1 rfl ?_
  refine V_if_eq (tgt := 18) dX0_span_4 (by decide) (fun hc3 => ?_) (fun hc3 => ?_)
  · have hf := if_t hf hc3
    refine V_keep [true, false, false, false] rfl ?_
    exact mC_X0_span_18_v hE hH a w hf
  · have hf := if_f hf hc3
    refine V_iload_n dX0_span_7 rfl ?_
    refine V_iload_n dX0_span_8 rfl ?_
    refine V_sipush dX0_span_9 cks_399 ?_
    obtain ⟨r5, hc4, hf⟩ := bd1_ex hf
    refine V_cS (rest := []) (st' := [.int r5]) (mC_X0_in_ok _ _ _ _ _ _ _ hc4) sc_X0_127 (by decide) rfl rfl (Nat.le_of_ble_eq_true rfl) dX0_span_12 rfl ?_
    refine V_if_ne (tgt := 24) dX0_span_15 (by decide) (fun hc6 => ?_) (fun hc6 => ?_)
    · have hf := if_f hf hc6
      refine V_iload_n dX0_span_24 rfl ?_
      refine V_iconst dX0_span_25 ckc_0 ?_
      refine V_aload_n dX0_span_26 rfl ?_
      obtain ⟨h7, hf⟩ := ck_ex hf
      refine VP_getI fa_X0_379 h7 rfl dX0_span_27 ?_
      refine V_iconst dX0_span_30 ckc_1 ?_
      refine V_isub dX0_span_31 ?_
      obtain ⟨r9, hc8, hf⟩ := bd1_ex hf
      refine V_cS (rest := []) (st' := [.int r9]) (mC_X0_in_ok _ _ _ _ _ _ _ hc8) sc_X0_127 (by decide) rfl rfl (Nat.le_of_ble_eq_true rfl) dX0_span_32 rfl ?_
      refine V_if_ne (tgt := 45) dX0_span_35 (by decide) (fun hc10 => ?_) (fun hc10 => ?_)
      · have hf := if_f hf hc10
        refine V_aload_n dX0_span_45 rfl ?_
        obtain ⟨b11, hb12, hf⟩ := bd1_ex hf
        refine VP_getR (x := some b11) fa_X0_55 h7 rfl rfl hb12 dX0_span_46 ?_
        refine V_iload_n dX0_span_49 rfl ?_
        refine V_iload_n dX0_span_50 rfl ?_
        obtain ⟨h13, hf⟩ := ck_ex hf
        obtain ⟨w14, hs15, hf⟩ := st1_ex hf
        refine VE_iast h13 rfl hs15 dX0_span_51 ?_
        refine V_aload_n dX0_span_52 rfl ?_
        obtain ⟨h16, hf⟩ := ck_ex hf
        obtain ⟨b17, hb18, hf⟩ := bd1_ex hf
        refine VP_getR (x := some b17) fa_X0_58 h16 rfl rfl hb18 dX0_span_53 ?_
        refine V_iload_n dX0_span_56 rfl ?_
        refine V_iload_n dX0_span_57 rfl ?_
        obtain ⟨h19, hf⟩ := ck_ex hf
        obtain ⟨w20, hs21, hf⟩ := st1_ex hf
        refine VE_iast h19 rfl hs21 dX0_span_58 ?_
        refine V_aload_n dX0_span_59 rfl ?_
        refine V_iconst dX0_span_60 ckc_0 ?_
        obtain ⟨h22, hf⟩ := ck_ex hf
        obtain ⟨r24, w25, hc23, hf⟩ := bd2_ex hf
        refine V_cV (av := [.int (0 : Int32)]) (rest := []) (st' := [.int r24]) (mC_X0_done_ok _ _ _ _ _ _ _ hc23) vc_X0_123 (kIn1 h22) (by decide) rfl rfl (Nat.le_of_ble_eq_true rfl) dX0_span_61 rfl ?_
        cases some_ex hf
        exact V_iret hE dX0_span_64
      · have hf := if_t hf hc10
        refine V_aload_n dX0_span_38 rfl ?_
        refine V_bipush dX0_span_39 ckb_m2 ?_
        obtain ⟨r27, w28, hc26, hf⟩ := bd2_ex hf
        refine V_cV (av := [.int (-2 : Int32)]) (rest := []) (st' := [.int r27]) (mC_X0_refuse_ok _ _ _ _ _ _ _ hc26) vc_X0_131 (kIn1 h7) (by decide) rfl rfl (Nat.le_of_ble_eq_true rfl) dX0_span_41 rfl ?_
        cases some_ex hf
        exact V_iret hE dX0_span_44
    · have hf := if_t hf hc6
      refine V_keep [true, false, false, false] rfl ?_
      exact mC_X0_span_18_v hE hH a w hf
set_option maxHeartbeats 4000000 in
theorem mC_X0_daysOf_ok (l : Launch) (D : DD) (w : AH) (a : Nat) (p0 : Int32) (p1 : Int32) (r : Int32) (hf : mC_X0_daysOf a p0 p1 w = some r) : MA l D yX0_daysOf cX0_daysOf 3 (some (.int)) 2 [.ref a, .int p0, .int p1] w (.returned (some (.int r))) w := by
  refine MA.introH (own := RX0) (nm := "daysOf") (ls := [some (.ref a), some (.int p0), some (.int p1)]) (by decide) rfl rfl (Nat.le_of_ble_eq_true rfl) rfl (fun X hl hD hE hH => ?_)
  subst hl hD
  unfold mC_X0_daysOf at hf
  refine V_aload_n dX0_daysOf_0 rfl ?_
  obtain ⟨h1, hf⟩ := ck_ex hf
  obtain ⟨b2, hb3, hf⟩ := bd1_ex hf
  refine VP_getR (x := some b2) fa_X0_10 h1 rfl rfl hb3 dX0_daysOf_1 ?_
  refine V_iload_n dX0_daysOf_4 rfl ?_
  refine V_iload_n dX0_daysOf_5 rfl ?_
  obtain ⟨h4, hf⟩ := ck_ex hf
  obtain ⟨r6, hc5, hf⟩ := bd1_ex hf
  refine V_cV (av := [.int p0, .int p1]) (rest := []) (st' := [.int r6]) (mC_X1_far_ok _ _ _ _ _ _ _ hc5) vc_X0_385 (kIn1 h4) (by decide) rfl rfl (Nat.le_of_ble_eq_true rfl) dX0_daysOf_6 rfl ?_
  refine V_aload_n dX0_daysOf_9 rfl ?_
  refine VP_getR (x := some b2) fa_X0_10 h1 rfl rfl hb3 dX0_daysOf_10 ?_
  refine VP_getI fa_X0_504 h4 rfl dX0_daysOf_13 ?_
  refine V_iadd dX0_daysOf_16 ?_
  refine V_iconst dX0_daysOf_17 ckc_1 ?_
  refine V_isub dX0_daysOf_18 ?_
  refine V_aload_n dX0_daysOf_19 rfl ?_
  refine VP_getR (x := some b2) fa_X0_10 h1 rfl rfl hb3 dX0_daysOf_20 ?_
  refine VP_getI fa_X0_504 h4 rfl dX0_daysOf_23 ?_
  obtain ⟨hz7, hf⟩ := nzI_ex hf
  refine V_idiv dX0_daysOf_26 hz7 ?_
  refine V_aload_n dX0_daysOf_27 rfl ?_
  refine VP_getR (x := some b2) fa_X0_10 h1 rfl rfl hb3 dX0_daysOf_28 ?_
  obtain ⟨b8, hb9, hf⟩ := bd1_ex hf
  refine VP_getR (x := some b8) fa_X0_160 h4 rfl rfl hb9 dX0_daysOf_31 ?_
  refine V_iload_n dX0_daysOf_34 rfl ?_
  obtain ⟨h10, hf⟩ := ck_ex hf
  refine VE_iald h10 rfl dX0_daysOf_35 ?_
  refine V_aload_n dX0_daysOf_36 rfl ?_
  refine VP_getR (x := some b2) fa_X0_10 h1 rfl rfl hb3 dX0_daysOf_37 ?_
  refine VP_getR (x := some b8) fa_X0_160 h4 rfl rfl hb9 dX0_daysOf_40 ?_
  refine V_iload_n dX0_daysOf_43 rfl ?_
  obtain ⟨h11, hf⟩ := ck_ex hf
  refine VE_iald h11 rfl dX0_daysOf_44 ?_
  refine V_icmp_ne (tgt := 52) dX0_daysOf_45 (by decide) (fun hc12 => ?_) (fun hc12 => ?_)
  · have hf := if_f hf hc12
    refine V_aload_n dX0_daysOf_52 rfl ?_
    refine VP_getR (x := some b2) fa_X0_10 h1 rfl rfl hb3 dX0_daysOf_53 ?_
    refine VP_getI fa_X0_507 h4 rfl dX0_daysOf_56 ?_
    refine V_iadd dX0_daysOf_59 ?_
    cases some_ex hf
    exact V_iret hE dX0_daysOf_60
  · have hf := if_t hf hc12
    refine V_iconst dX0_daysOf_48 ckc_0 ?_
    refine V_goto (tgt := 59) dX0_daysOf_49 (by decide) ?_
    refine V_iadd dX0_daysOf_59 ?_
    cases some_ex hf
    exact V_iret hE dX0_daysOf_60
set_option maxHeartbeats 4000000 in
theorem mB_X0_goes_187_v {X : CX} {w0 : AH} {dR : Nat} {w' : AH}  (r_X0_goes : Nat → Int32 → Int32 → Int32 → Int32 → AH → Option (AH)) (hr_X0_goes : ∀ (w : AH) (a : Nat) (p0 : Int32) (p1 : Int32) (p2 : Int32) (p3 : Int32) (w' : AH) , r_X0_goes a p0 p1 p2 p3 w = some w' → MA (xl X) (xD X) yX0_goes cX0_goes 7 none dR [.ref a, .int p0, .int p1, .int p2, .int p3] w (.returned none) w') (hext : 2 ≤ dR) (hE : XE X w0 (dR + 1) none "goes" (.returned none) w') (hH : XH X []) (k75 : Nat → Int32 → Int32 → Int32 → Int32 → Int32 → AH → Option (AH)) (hk75 : ∀ (v0 : Nat) (v1 : Int32) (v2 : Int32) (v3 : Int32) (v4 : Int32) (v5 : Int32) (w : AH), k75 v0 v1 v2 v3 v4 v5 w = some w' → V X cX0_goes RX0 7 (dR + 1) w 75 [some (.ref v0), some (.int v1), some (.int v2), some (.int v3), some (.int v4), some (.int v5), none] []) (v0 : Nat) (v1 : Int32) (v2 : Int32) (v3 : Int32) (v4 : Int32) (v5 : Int32) (w : AH) (hf : mB_X0_goes_187 r_X0_goes k75 v0 v1 v2 v3 v4 v5 w = some w') : V X cX0_goes RX0 7 (dR + 1) w 187 [some (.ref v0), some (.int v1), some (.int v2), some (.int v3), some (.int v4), some (.int v5), none] [] := by
  unfold mB_X0_goes_187 at hf
  refine V_inc (ls' := [some (.ref v0), some (.int v1), some (.int v2), some (.int v3), some (.int v4), some (.int (v5 + (1 : Int32))), none]) dX0_goes_187 rfl ckc_1 (by decide) rfl ?_
  refine V_goto (tgt := 75) dX0_goes_190 (by decide) ?_
  exact hk75 v0 v1 v2 v3 v4 (v5 + (1 : Int32)) w hf
set_option maxHeartbeats 4000000 in
theorem mB_X0_goes_75_v {X : CX} {w0 : AH} {dR : Nat} {w' : AH}  (r_X0_goes : Nat → Int32 → Int32 → Int32 → Int32 → AH → Option (AH)) (hr_X0_goes : ∀ (w : AH) (a : Nat) (p0 : Int32) (p1 : Int32) (p2 : Int32) (p3 : Int32) (w' : AH) , r_X0_goes a p0 p1 p2 p3 w = some w' → MA (xl X) (xD X) yX0_goes cX0_goes 7 none dR [.ref a, .int p0, .int p1, .int p2, .int p3] w (.returned none) w') (hext : 2 ≤ dR) (hE : XE X w0 (dR + 1) none "goes" (.returned none) w') (hH : XH X []) (k75 : Nat → Int32 → Int32 → Int32 → Int32 → Int32 → AH → Option (AH)) (hk75 : ∀ (v0 : Nat) (v1 : Int32) (v2 : Int32) (v3 : Int32) (v4 : Int32) (v5 : Int32) (w : AH), k75 v0 v1 v2 v3 v4 v5 w = some w' → V X cX0_goes RX0 7 (dR + 1) w 75 [some (.ref v0), some (.int v1), some (.int v2), some (.int v3), some (.int v4), some (.int v5), none] []) (v0 : Nat) (v1 : Int32) (v2 : Int32) (v3 : Int32) (v4 : Int32) (v5 : Int32) (w : AH) (hf : mB_X0_goes_75 r_X0_goes k75 v0 v1 v2 v3 v4 v5 w = some w') : V X cX0_goes RX0 7 (dR + 1) w 75 [some (.ref v0), some (.int v1), some (.int v2), some (.int v3), some (.int v4), some (.int v5), none] [] := by
  unfold mB_X0_goes_75 at hf
  refine V_iload dX0_goes_75 rfl ?_
  refine V_aload_n dX0_goes_77 rfl ?_
  obtain ⟨h1, hf⟩ := ck_ex hf
  refine VP_getI fa_X0_379 h1 rfl dX0_goes_78 ?_
  refine V_icmp_ge (tgt := 193) dX0_goes_81 (by decide) (fun hc2 => ?_) (fun hc2 => ?_)
  · have hf := if_t hf hc2
    cases some_ex hf
    exact V_vret hE dX0_goes_193
  · have hf := if_f hf hc2
    refine V_iload_n dX0_goes_84 rfl ?_
    refine V_iload dX0_goes_85 rfl ?_
    refine V_ishr dX0_goes_87 ?_
    refine V_iconst dX0_goes_88 ckc_1 ?_
    refine V_iand dX0_goes_89 ?_
    refine V_iconst dX0_goes_90 ckc_1 ?_
    refine V_icmp_ne (tgt := 97) dX0_goes_91 (by decide) (fun hc3 => ?_) (fun hc3 => ?_)
    · have hf := if_f hf hc3
      refine V_iload dX0_goes_97 rfl ?_
      refine V_aload_n dX0_goes_99 rfl ?_
      refine V_iload_n dX0_goes_100 rfl ?_
      refine V_aload_n dX0_goes_101 rfl ?_
      obtain ⟨b4, hb5, hf⟩ := bd1_ex hf
      refine VP_getR (x := some b4) fa_X0_51 h1 rfl rfl hb5 dX0_goes_102 ?_
      refine V_iload dX0_goes_105 rfl ?_
      obtain ⟨h6, hf⟩ := ck_ex hf
      refine VE_iald h6 rfl dX0_goes_107 ?_
      obtain ⟨r8, hc7, hf⟩ := bd1_ex hf
      refine V_cV (av := [.int v3, .int (hvi w b4 (v5.toNatClampNeg))]) (rest := [.int v4]) (st' := [.int r8, .int v4]) (mC_X0_daysOf_ok _ _ _ _ _ _ _ hc7) vc_X0_513 (kIn1 h1) (by omega) rfl rfl (Nat.le_of_ble_eq_true rfl) dX0_goes_108 rfl ?_
      refine V_iadd dX0_goes_111 ?_
      refine V_aload_n dX0_goes_112 rfl ?_
      obtain ⟨b9, hb10, hf⟩ := bd1_ex hf
      refine VP_getR (x := some b9) fa_X0_55 h1 rfl rfl hb10 dX0_goes_113 ?_
      refine V_iload dX0_goes_116 rfl ?_
      obtain ⟨h11, hf⟩ := ck_ex hf
      refine VE_iald h11 rfl dX0_goes_118 ?_
      obtain ⟨r12, hm13, hf⟩ := st1_ex hf
      refine V_mmax q1677 q741 q147 q742 (by omega) (Nat.le_of_ble_eq_true rfl) dX0_goes_119 ?_
      rw [hm13]
      refine V_istore (ls' := [some (.ref v0), some (.int v1), some (.int v2), some (.int v3), some (.int v4), some (.int v5), some (.int r12)]) dX0_goes_122 (by decide) rfl ?_
      refine V_iload dX0_goes_124 rfl ?_
      refine V_aload_n dX0_goes_126 rfl ?_
      obtain ⟨b14, hb15, hf⟩ := bd1_ex hf
      refine VP_getR (x := some b14) fa_X0_58 h1 rfl rfl hb15 dX0_goes_127 ?_
      refine V_iload dX0_goes_130 rfl ?_
      obtain ⟨h16, hf⟩ := ck_ex hf
      refine VE_iald h16 rfl dX0_goes_132 ?_
      refine V_icmp_gt (tgt := 187) dX0_goes_133 (by decide) (fun hc17 => ?_) (fun hc17 => ?_)
      · have hf := if_t hf hc17
        refine V_keep [true, true, true, true, true, true, false] rfl ?_
        exact mB_X0_goes_187_v r_X0_goes hr_X0_goes hext hE hH k75 hk75 v0 v1 v2 v3 v4 v5 w hf
      · have hf := if_f hf hc17
        refine V_iload dX0_goes_136 rfl ?_
        refine V_sipush dX0_goes_138 cks_400 ?_
        refine V_icmp_lt (tgt := 147) dX0_goes_141 (by decide) (fun hc18 => ?_) (fun hc18 => ?_)
        · have hf := if_t hf hc18
          refine V_aload_n dX0_goes_147 rfl ?_
          obtain ⟨b19, hb20, hf⟩ := bd1_ex hf
          refine VP_getR (x := some b19) fa_X0_102 h1 rfl rfl hb20 dX0_goes_148 ?_
          refine V_iload_n dX0_goes_151 rfl ?_
          refine V_iload dX0_goes_152 rfl ?_
          obtain ⟨h21, hf⟩ := ck_ex hf
          obtain ⟨w22, hs23, hf⟩ := st1_ex hf
          refine VE_iast h21 rfl hs23 dX0_goes_154 ?_
          refine V_aload_n dX0_goes_155 rfl ?_
          obtain ⟨h24, hf⟩ := ck_ex hf
          obtain ⟨b25, hb26, hf⟩ := bd1_ex hf
          refine VP_getR (x := some b25) fa_X0_105 h24 rfl rfl hb26 dX0_goes_156 ?_
          refine V_iload_n dX0_goes_159 rfl ?_
          refine V_iload dX0_goes_160 rfl ?_
          obtain ⟨h27, hf⟩ := ck_ex hf
          obtain ⟨w28, hs29, hf⟩ := st1_ex hf
          refine VE_iast h27 rfl hs29 dX0_goes_162 ?_
          refine V_aload_n dX0_goes_163 rfl ?_
          refine V_iload_n dX0_goes_164 rfl ?_
          refine V_iconst dX0_goes_165 ckc_1 ?_
          refine V_iadd dX0_goes_166 ?_
          refine V_iload_n dX0_goes_167 rfl ?_
          refine V_iconst dX0_goes_168 ckc_1 ?_
          refine V_iload dX0_goes_169 rfl ?_
          refine V_ishl dX0_goes_171 ?_
          refine V_ior dX0_goes_172 ?_
          refine V_aload_n dX0_goes_173 rfl ?_
          obtain ⟨h30, hf⟩ := ck_ex hf
          obtain ⟨b31, hb32, hf⟩ := bd1_ex hf
          refine VP_getR (x := some b31) fa_X0_51 h30 rfl rfl hb32 dX0_goes_174 ?_
          refine V_iload dX0_goes_177 rfl ?_
          obtain ⟨h33, hf⟩ := ck_ex hf
          refine VE_iald h33 rfl dX0_goes_179 ?_
          refine V_iload dX0_goes_180 rfl ?_
          refine V_iconst dX0_goes_182 ckc_1 ?_
          refine V_iadd dX0_goes_183 ?_
          obtain ⟨w35, hc34, hf⟩ := bd1_ex hf
          refine V_cV (av := [.int (v1 + (1 : Int32)), .int (v2 ||| ((1 : Int32) <<< (v5 &&& 31))), .int (hvi w28 b31 (v5.toNatClampNeg)), .int (r12 + (1 : Int32))]) (rest := []) (st' := []) (hr_X0_goes _ _ _ _ _ _ _ hc34) vc_X0_516 (kIn1 h30) (by omega) rfl rfl (Nat.le_of_ble_eq_true rfl) dX0_goes_184 rfl ?_
          refine V_keep [true, true, true, true, true, true, false] rfl ?_
          exact mB_X0_goes_187_v r_X0_goes hr_X0_goes hext hE hH k75 hk75 v0 v1 v2 v3 v4 v5 w35 hf
        · have hf := if_f hf hc18
          refine V_goto (tgt := 187) dX0_goes_144 (by decide) ?_
          refine V_keep [true, true, true, true, true, true, false] rfl ?_
          exact mB_X0_goes_187_v r_X0_goes hr_X0_goes hext hE hH k75 hk75 v0 v1 v2 v3 v4 v5 w hf
    · have hf := if_t hf hc3
      refine V_goto (tgt := 187) dX0_goes_94 (by decide) ?_
      exact mB_X0_goes_187_v r_X0_goes hr_X0_goes hext hE hH k75 hk75 v0 v1 v2 v3 v4 v5 w hf
set_option maxHeartbeats 4000000 in
theorem mB_X0_goes_72_v {X : CX} {w0 : AH} {dR : Nat} {w' : AH}  (r_X0_goes : Nat → Int32 → Int32 → Int32 → Int32 → AH → Option (AH)) (hr_X0_goes : ∀ (w : AH) (a : Nat) (p0 : Int32) (p1 : Int32) (p2 : Int32) (p3 : Int32) (w' : AH) , r_X0_goes a p0 p1 p2 p3 w = some w' → MA (xl X) (xD X) yX0_goes cX0_goes 7 none dR [.ref a, .int p0, .int p1, .int p2, .int p3] w (.returned none) w') (hext : 2 ≤ dR) (hE : XE X w0 (dR + 1) none "goes" (.returned none) w') (hH : XH X []) (v0 : Nat) (v1 : Int32) (v2 : Int32) (v3 : Int32) (v4 : Int32) (w : AH) (hf : mB_X0_goes_72 r_X0_goes v0 v1 v2 v3 v4 w = some w') : V X cX0_goes RX0 7 (dR + 1) w 72 [some (.ref v0), some (.int v1), some (.int v2), some (.int v3), some (.int v4), none, none] [] := by
  unfold mB_X0_goes_72 at hf
  refine V_iconst dX0_goes_72 ckc_0 ?_
  refine V_istore (ls' := [some (.ref v0), some (.int v1), some (.int v2), some (.int v3), some (.int v4), some (.int (0 : Int32)), none]) dX0_goes_73 (by decide) rfl ?_
  exact lq7_ex (P := fun v0 v1 v2 v3 v4 v5 w => V X cX0_goes RX0 7 (dR + 1) w 75 [some (.ref v0), some (.int v1), some (.int v2), some (.int v3), some (.int v4), some (.int v5), none] []) (fun k hk v0 v1 v2 v3 v4 v5 w hf => mB_X0_goes_75_v r_X0_goes hr_X0_goes hext hE hH k hk v0 v1 v2 v3 v4 v5 w hf) LF v0 v1 v2 v3 v4 (0 : Int32) w hf
set_option maxHeartbeats 4000000 in
theorem mB_X0_goes_39_v {X : CX} {w0 : AH} {dR : Nat} {w' : AH}  (r_X0_goes : Nat → Int32 → Int32 → Int32 → Int32 → AH → Option (AH)) (hr_X0_goes : ∀ (w : AH) (a : Nat) (p0 : Int32) (p1 : Int32) (p2 : Int32) (p3 : Int32) (w' : AH) , r_X0_goes a p0 p1 p2 p3 w = some w' → MA (xl X) (xD X) yX0_goes cX0_goes 7 none dR [.ref a, .int p0, .int p1, .int p2, .int p3] w (.returned none) w') (hext : 2 ≤ dR) (hE : XE X w0 (dR + 1) none "goes" (.returned none) w') (hH : XH X []) (v0 : Nat) (v1 : Int32) (v2 : Int32) (v3 : Int32) (v4 : Int32) (w : AH) (hf : mB_X0_goes_39 r_X0_goes v0 v1 v2 v3 v4 w = some w') : V X cX0_goes RX0 7 (dR + 1) w 39 [some (.ref v0), some (.int v1), some (.int v2), some (.int v3), some (.int v4), none, none] [] := by
  unfold mB_X0_goes_39 at hf
  refine V_aload_n dX0_goes_39 rfl ?_
  refine V_iload_n dX0_goes_40 rfl ?_
  obtain ⟨h1, hf⟩ := ck_ex hf
  obtain ⟨w2, hs3, hf⟩ := st1_ex hf
  refine VE_putI fw_X0_510 h1 rfl rfl rfl hs3 dX0_goes_41 ?_
  refine V_aload_n dX0_goes_44 rfl ?_
  obtain ⟨h4, hf⟩ := ck_ex hf
  obtain ⟨b5, hb6, hf⟩ := bd1_ex hf
  refine VP_getR (x := some b5) fa_X0_102 h4 rfl rfl hb6 dX0_goes_45 ?_
  refine V_iconst dX0_goes_48 ckc_0 ?_
  refine V_aload_n dX0_goes_49 rfl ?_
  obtain ⟨b7, hb8, hf⟩ := bd1_ex hf
  refine VP_getR (x := some b7) fa_X0_108 h4 rfl rfl hb8 dX0_goes_50 ?_
  refine V_iconst dX0_goes_53 ckc_0 ?_
  refine V_iload_n dX0_goes_54 rfl ?_
  obtain ⟨h9, hf⟩ := ck_ex hf
  obtain ⟨h10, hf⟩ := ck_ex hf
  obtain ⟨h11, hf⟩ := ck_ex hf
  obtain ⟨w12, hs13, hf⟩ := st1_ex hf
  refine VE_cpyI q876 q730 q729 q149 (hk_mk h9) (hk_mk h10) h11 hs13 (by omega) (Nat.le_of_ble_eq_true rfl) dX0_goes_55 ?_
  refine V_aload_n dX0_goes_58 rfl ?_
  obtain ⟨h14, hf⟩ := ck_ex hf
  obtain ⟨b15, hb16, hf⟩ := bd1_ex hf
  refine VP_getR (x := some b15) fa_X0_105 h14 rfl rfl hb16 dX0_goes_59 ?_
  refine V_iconst dX0_goes_62 ckc_0 ?_
  refine V_aload_n dX0_goes_63 rfl ?_
  obtain ⟨b17, hb18, hf⟩ := bd1_ex hf
  refine VP_getR (x := some b17) fa_X0_111 h14 rfl rfl hb18 dX0_goes_64 ?_
  refine V_iconst dX0_goes_67 ckc_0 ?_
  refine V_iload_n dX0_goes_68 rfl ?_
  obtain ⟨h19, hf⟩ := ck_ex hf
  obtain ⟨h20, hf⟩ := ck_ex hf
  obtain ⟨h21, hf⟩ := ck_ex hf
  obtain ⟨w22, hs23, hf⟩ := st1_ex hf
  refine VE_cpyI q876 q730 q729 q149 (hk_mk h19) (hk_mk h20) h21 hs23 (by omega) (Nat.le_of_ble_eq_true rfl) dX0_goes_69 ?_
  exact mB_X0_goes_72_v r_X0_goes hr_X0_goes hext hE hH v0 v1 v2 v3 v4 w22 hf
set_option maxHeartbeats 4000000 in
theorem mB_X0_goes_ok (l : Launch) (D : DD) (dR : Nat) (r_X0_goes : Nat → Int32 → Int32 → Int32 → Int32 → AH → Option (AH)) (hr_X0_goes : ∀ (w : AH) (a : Nat) (p0 : Int32) (p1 : Int32) (p2 : Int32) (p3 : Int32) (w' : AH) , r_X0_goes a p0 p1 p2 p3 w = some w' → MA l D yX0_goes cX0_goes 7 none dR [.ref a, .int p0, .int p1, .int p2, .int p3] w (.returned none) w') (hext : 2 ≤ dR) (w : AH) (a : Nat) (p0 : Int32) (p1 : Int32) (p2 : Int32) (p3 : Int32) (w' : AH) (hf : mB_X0_goes r_X0_goes a p0 p1 p2 p3 w = some w') : MA l D yX0_goes cX0_goes 7 none (dR + 1) [.ref a, .int p0, .int p1, .int p2, .int p3] w (.returned none) w' := by
  refine MA.introH (own := RX0) (nm := "goes") (ls := [some (.ref a), some (.int p0), some (.int p1), some (.int p2), some (.int p3), none, none]) (by decide) rfl rfl (Nat.le_of_ble_eq_true rfl) rfl (fun X hl hD hE hH => ?_)
  subst hl hD
  unfold mB_X0_goes at hf
  refine V_iload_n dX0_goes_0 rfl ?_
  refine V_aload_n dX0_goes_1 rfl ?_
  obtain ⟨h1, hf⟩ := ck_ex hf
  refine VP_getI fa_X0_510 h1 rfl dX0_goes_2 ?_
  refine V_icmp_gt (tgt := 39) dX0_goes_5 (by decide) (fun hc2 => ?_) (fun hc2 => ?_)
  · have hf := if_t hf hc2
    exact mB_X0_goes_39_v r_X0_goes hr_X0_goes hext hE hH a p0 p1 p2 p3 w hf
  · have hf := if_f hf hc2
    refine V_iload_n dX0_goes_8 rfl ?_
    refine V_aload_n dX0_goes_9 rfl ?_
    refine VP_getI fa_X0_510 h1 rfl dX0_goes_10 ?_
    refine V_icmp_ne (tgt := 72) dX0_goes_13 (by decide) (fun hc3 => ?_) (fun hc3 => ?_)
    · have hf := if_f hf hc3
      exact mB_X0_goes_72_v r_X0_goes hr_X0_goes hext hE hH a p0 p1 p2 p3 w hf
    · have hf := if_t hf hc3
      refine V_iload_n dX0_goes_16 rfl ?_
      refine V_if_le (tgt := 72) dX0_goes_17 (by decide) (fun hc4 => ?_) (fun hc4 => ?_)
      · have hf := if_t hf hc4
        exact mB_X0_goes_72_v r_X0_goes hr_X0_goes hext hE hH a p0 p1 p2 p3 w hf
      · have hf := if_f hf hc4
        refine V_aload_n dX0_goes_20 rfl ?_
        obtain ⟨b5, hb6, hf⟩ := bd1_ex hf
        refine VP_getR (x := some b5) fa_X0_105 h1 rfl rfl hb6 dX0_goes_21 ?_
        refine V_iload_n dX0_goes_24 rfl ?_
        refine V_iconst dX0_goes_25 ckc_1 ?_
        refine V_isub dX0_goes_26 ?_
        obtain ⟨h7, hf⟩ := ck_ex hf
        refine VE_iald h7 rfl dX0_goes_27 ?_
        refine V_aload_n dX0_goes_28 rfl ?_
        obtain ⟨b8, hb9, hf⟩ := bd1_ex hf
        refine VP_getR (x := some b8) fa_X0_111 h1 rfl rfl hb9 dX0_goes_29 ?_
        refine V_iload_n dX0_goes_32 rfl ?_
        refine V_iconst dX0_goes_33 ckc_1 ?_
        refine V_isub dX0_goes_34 ?_
        obtain ⟨h10, hf⟩ := ck_ex hf
        refine VE_iald h10 rfl dX0_goes_35 ?_
        refine V_icmp_ge (tgt := 72) dX0_goes_36 (by decide) (fun hc11 => ?_) (fun hc11 => ?_)
        · have hf := if_t hf hc11
          exact mB_X0_goes_72_v r_X0_goes hr_X0_goes hext hE hH a p0 p1 p2 p3 w hf
        · have hf := if_f hf hc11
          exact mB_X0_goes_39_v r_X0_goes hr_X0_goes hext hE hH a p0 p1 p2 p3 w hf
set_option maxHeartbeats 4000000 in
theorem mG_goes_ok (l : Launch) (D : DD) : ∀ n : Nat, (∀ (w : AH) (a : Nat) (p0 : Int32) (p1 : Int32) (p2 : Int32) (p3 : Int32) (w' : AH) , mC_X0_goes n a p0 p1 p2 p3 w = some w' → MA l D yX0_goes cX0_goes 7 none (2 + n) [.ref a, .int p0, .int p1, .int p2, .int p3] w (.returned none) w')
  | 0 => fun _ _ _ _ _ _ _ hf => (by cases hf)
  | n + 1 => by
    have ih := mG_goes_ok l D n
    exact fun x0 x1 x2 x3 x4 x5 x6 hf => mB_X0_goes_ok l D (2 + n) _ ih (by omega) x0 x1 x2 x3 x4 x5 x6 hf
set_option maxHeartbeats 4000000 in
theorem mC_X0_goes_ok (l : Launch) (D : DD) (n : Nat) : ∀ (w : AH) (a : Nat) (p0 : Int32) (p1 : Int32) (p2 : Int32) (p3 : Int32) (w' : AH) , mC_X0_goes n a p0 p1 p2 p3 w = some w' → MA l D yX0_goes cX0_goes 7 none (2 + n) [.ref a, .int p0, .int p1, .int p2, .int p3] w (.returned none) w' := mG_goes_ok l D n
set_option maxHeartbeats 4000000 in
theorem mC_X0_way_ok (l : Launch) (D : DD) (w : AH) (a : Nat) (p0 : Int32) (p1 : Int32) (r : Int32) (w' : AH) (hf : mC_X0_way a p0 p1 w = some (r, w')) : MA l D yX0_way cX0_way 3 (some (.int)) 203 [.ref a, .int p0, .int p1] w (.returned (some (.int r))) w' := by
  refine MA.introH (own := RX0) (nm := "way") (ls := [some (.ref a), some (.int p0), some (.int p1)]) (by decide) rfl rfl (Nat.le_of_ble_eq_true rfl) rfl (fun X hl hD hE hH => ?_)
  subst hl hD
  unfold mC_X0_way at hf
  refine V_aload_n dX0_way_0 rfl ?_
  refine V_iload_n dX0_way_1 rfl ?_
  obtain ⟨h1, hf⟩ := ck_ex hf
  obtain ⟨r3, hc2, hf⟩ := bd1_ex hf
  refine V_cV (av := [.int p0]) (rest := []) (st' := [.int r3]) (mC_X0_isPlace_ok _ _ _ _ _ _ hc2) vc_X0_204 (kIn1 h1) (by decide) rfl rfl (Nat.le_of_ble_eq_true rfl) dX0_way_2 rfl ?_
  refine V_if_eq (tgt := 22) dX0_way_5 (by decide) (fun hc4 => ?_) (fun hc4 => ?_)
  · have hf := if_t hf hc4
    refine V_iconst dX0_way_22 ckc_m1 ?_
    cases some_ex hf
    exact V_iret hE dX0_way_23
  · have hf := if_f hf hc4
    refine V_iload_n dX0_way_8 rfl ?_
    obtain ⟨r6, hc5, hf⟩ := bd1_ex hf
    refine V_cS (rest := []) (st' := [.int r6]) (mC_X0_isDay_ok _ _ _ _ _ hc5) sc_X0_201 (by decide) rfl rfl (Nat.le_of_ble_eq_true rfl) dX0_way_9 rfl ?_
    refine V_if_eq (tgt := 22) dX0_way_12 (by decide) (fun hc7 => ?_) (fun hc7 => ?_)
    · have hf := if_t hf hc7
      refine V_iconst dX0_way_22 ckc_m1 ?_
      cases some_ex hf
      exact V_iret hE dX0_way_23
    · have hf := if_f hf hc7
      refine V_aload_n dX0_way_15 rfl ?_
      obtain ⟨r9, hc8, hf⟩ := bd1_ex hf
      refine V_cV (av := []) (rest := []) (st' := [.int r9]) (mC_X0_areThere_ok _ _ _ _ _ hc8) vc_X0_391 (kIn1 h1) (by decide) rfl rfl (Nat.le_of_ble_eq_true rfl) dX0_way_16 rfl ?_
      refine V_if_ne (tgt := 24) dX0_way_19 (by decide) (fun hc10 => ?_) (fun hc10 => ?_)
      · have hf := if_f hf hc10
        refine V_aload_n dX0_way_24 rfl ?_
        refine V_iconst dX0_way_25 ckc_0 ?_
        obtain ⟨w11, hs12, hf⟩ := st1_ex hf
        refine VE_putI fw_X0_510 h1 rfl rfl rfl hs12 dX0_way_26 ?_
        refine V_aload_n dX0_way_29 rfl ?_
        refine V_iconst dX0_way_30 ckc_0 ?_
        refine V_iconst dX0_way_31 ckc_0 ?_
        refine V_iload_n dX0_way_32 rfl ?_
        refine V_iload_n dX0_way_33 rfl ?_
        obtain ⟨h13, hf⟩ := ck_ex hf
        obtain ⟨w15, hc14, hf⟩ := bd1_ex hf
        refine V_cV (av := [.int (0 : Int32), .int (0 : Int32), .int p0, .int p1]) (rest := []) (st' := []) (mC_X0_goes_ok _ _ 200 _ _ _ _ _ _ _ hc14) vc_X0_516 (kIn1 h13) (by decide) rfl rfl (Nat.le_of_ble_eq_true rfl) dX0_way_34 rfl ?_
        refine V_aload_n dX0_way_37 rfl ?_
        refine V_aload_n dX0_way_38 rfl ?_
        obtain ⟨h16, hf⟩ := ck_ex hf
        refine VP_getI fa_X0_510 h16 rfl dX0_way_39 ?_
        obtain ⟨w17, hs18, hf⟩ := st1_ex hf
        refine VE_putI fw_X0_114 h16 rfl rfl rfl hs18 dX0_way_42 ?_
        refine V_aload_n dX0_way_45 rfl ?_
        obtain ⟨h19, hf⟩ := ck_ex hf
        refine VP_getI fa_X0_510 h19 rfl dX0_way_46 ?_
        cases some_ex hf
        exact V_iret hE dX0_way_49
      · have hf := if_t hf hc10
        refine V_iconst dX0_way_22 ckc_m1 ?_
        cases some_ex hf
        exact V_iret hE dX0_way_23
set_option maxHeartbeats 4000000 in
theorem mC_X0_leg_ok (l : Launch) (D : DD) (w : AH) (a : Nat) (p0 : Int32) (p1 : Int32) (r : Int32) (hf : mC_X0_leg a p0 p1 w = some r) : MA l D yX0_leg cX0_leg 3 (some (.int)) 2 [.ref a, .int p0, .int p1] w (.returned (some (.int r))) w := by
  refine MA.introH (own := RX0) (nm := "leg") (ls := [some (.ref a), some (.int p0), some (.int p1)]) (by decide) rfl rfl (Nat.le_of_ble_eq_true rfl) rfl (fun X hl hD hE hH => ?_)
  subst hl hD
  unfold mC_X0_leg at hf
  refine V_aload_n dX0_leg_0 rfl ?_
  obtain ⟨h1, hf⟩ := ck_ex hf
  refine VP_getI fa_X0_114 h1 rfl dX0_leg_1 ?_
  refine V_iconst dX0_leg_4 ckc_m1 ?_
  refine V_icmp_eq (tgt := 31) dX0_leg_5 (by decide) (fun hc2 => ?_) (fun hc2 => ?_)
  · have hf := if_t hf hc2
    refine V_iconst dX0_leg_31 ckc_m1 ?_
    refine V_goto (tgt := 54) dX0_leg_32 (by decide) ?_
    cases some_ex hf
    exact V_iret hE dX0_leg_54
  · have hf := if_f hf hc2
    refine V_iload_n dX0_leg_8 rfl ?_
    refine V_iconst dX0_leg_9 ckc_0 ?_
    refine V_aload_n dX0_leg_10 rfl ?_
    refine VP_getI fa_X0_114 h1 rfl dX0_leg_11 ?_
    refine V_iconst dX0_leg_14 ckc_1 ?_
    refine V_isub dX0_leg_15 ?_
    obtain ⟨r4, hc3, hf⟩ := bd1_ex hf
    refine V_cS (rest := []) (st' := [.int r4]) (mC_X0_in_ok _ _ _ _ _ _ _ hc3) sc_X0_127 (by decide) rfl rfl (Nat.le_of_ble_eq_true rfl) dX0_leg_16 rfl ?_
    refine V_if_eq (tgt := 31) dX0_leg_19 (by decide) (fun hc5 => ?_) (fun hc5 => ?_)
    · have hf := if_t hf hc5
      refine V_iconst dX0_leg_31 ckc_m1 ?_
      refine V_goto (tgt := 54) dX0_leg_32 (by decide) ?_
      cases some_ex hf
      exact V_iret hE dX0_leg_54
    · have hf := if_f hf hc5
      refine V_iload_n dX0_leg_22 rfl ?_
      refine V_iconst dX0_leg_23 ckc_0 ?_
      refine V_iconst dX0_leg_24 ckc_1 ?_
      obtain ⟨r7, hc6, hf⟩ := bd1_ex hf
      refine V_cS (rest := []) (st' := [.int r7]) (mC_X0_in_ok _ _ _ _ _ _ _ hc6) sc_X0_127 (by decide) rfl rfl (Nat.le_of_ble_eq_true rfl) dX0_leg_25 rfl ?_
      refine V_if_ne (tgt := 35) dX0_leg_28 (by decide) (fun hc8 => ?_) (fun hc8 => ?_)
      · have hf := if_f hf hc8
        refine V_iload_n dX0_leg_35 rfl ?_
        refine V_if_ne (tgt := 48) dX0_leg_36 (by decide) (fun hc9 => ?_) (fun hc9 => ?_)
        · have hf := if_f hf hc9
          refine V_aload_n dX0_leg_48 rfl ?_
          obtain ⟨b10, hb11, hf⟩ := bd1_ex hf
          refine VP_getR (x := some b10) fa_X0_111 h1 rfl rfl hb11 dX0_leg_49 ?_
          refine V_iload_n dX0_leg_52 rfl ?_
          obtain ⟨h12, hf⟩ := ck_ex hf
          refine VE_iald h12 rfl dX0_leg_53 ?_
          cases some_ex hf
          exact V_iret hE dX0_leg_54
        · have hf := if_t hf hc9
          refine V_aload_n dX0_leg_39 rfl ?_
          obtain ⟨b13, hb14, hf⟩ := bd1_ex hf
          refine VP_getR (x := some b13) fa_X0_108 h1 rfl rfl hb14 dX0_leg_40 ?_
          refine V_iload_n dX0_leg_43 rfl ?_
          obtain ⟨h15, hf⟩ := ck_ex hf
          refine VE_iald h15 rfl dX0_leg_44 ?_
          refine V_goto (tgt := 54) dX0_leg_45 (by decide) ?_
          cases some_ex hf
          exact V_iret hE dX0_leg_54
      · have hf := if_t hf hc8
        refine V_iconst dX0_leg_31 ckc_m1 ?_
        refine V_goto (tgt := 54) dX0_leg_32 (by decide) ?_
        cases some_ex hf
        exact V_iret hE dX0_leg_54
set_option maxHeartbeats 4000000 in
theorem mC_X0_chosen_16_v {X : CX} {w0 : AH} {w : AH} {r : Int64}  (hE : XE X w0 1 (some (.long)) "chosen" (.returned (some (.long r))) w) (hH : XH X []) (k16 : Int32 → Int32 → Int64 → Int32 → Option (Int64)) (hk16 : ∀ (v0 : Int32) (v1 : Int32) (v2 : Int64) (v4 : Int32), k16 v0 v1 v2 v4 = some r → V X cX0_chosen RX0 5 1 w 16 [some (.int v0), some (.int v1), some (.long v2), none, some (.int v4)] []) (v0 : Int32) (v1 : Int32) (v2 : Int64) (v4 : Int32) (hf : mC_X0_chosen_16 k16 v0 v1 v2 v4 = some r) : V X cX0_chosen RX0 5 1 w 16 [some (.int v0), some (.int v1), some (.long v2), none, some (.int v4)] [] := by
  unfold mC_X0_chosen_16 at hf
  refine V_iload dX0_chosen_16 rfl ?_
  refine V_iload_n dX0_chosen_18 rfl ?_
  refine V_icmp_gt (tgt := 42) dX0_chosen_19 (by decide) (fun hc1 => ?_) (fun hc1 => ?_)
  · have hf := if_t hf hc1
    refine V_lload_n dX0_chosen_42 rfl ?_
    cases some_ex hf
    exact V_lret hE dX0_chosen_43
  · have hf := if_f hf hc1
    refine V_lload_n dX0_chosen_22 rfl ?_
    refine V_iload_n dX0_chosen_23 rfl ?_
    refine V_iload_n dX0_chosen_24 rfl ?_
    refine V_isub dX0_chosen_25 ?_
    refine V_iload dX0_chosen_26 rfl ?_
    refine V_iadd dX0_chosen_28 ?_
    refine V_i2l dX0_chosen_29 ?_
    refine V_lmul dX0_chosen_30 ?_
    refine V_iload dX0_chosen_31 rfl ?_
    refine V_i2l dX0_chosen_33 ?_
    obtain ⟨hz2, hf⟩ := nzL_ex hf
    refine V_ldiv dX0_chosen_34 hz2 ?_
    refine V_lstore_n (ls' := [some (.int v0), some (.int v1), some (.long ((v2 * ((v0 - v1) + v4).toInt64) / v4.toInt64)), none, some (.int v4)]) dX0_chosen_35 (by decide) rfl ?_
    refine V_inc (ls' := [some (.int v0), some (.int v1), some (.long ((v2 * ((v0 - v1) + v4).toInt64) / v4.toInt64)), none, some (.int (v4 + (1 : Int32)))]) dX0_chosen_36 rfl ckc_1 (by decide) rfl ?_
    refine V_goto (tgt := 16) dX0_chosen_39 (by decide) ?_
    exact hk16 v0 v1 ((v2 * ((v0 - v1) + v4).toInt64) / v4.toInt64) (v4 + (1 : Int32)) hf
set_option maxHeartbeats 4000000 in
theorem mC_X0_chosen_ok (l : Launch) (D : DD) (w : AH) (p0 : Int32) (p1 : Int32) (r : Int64) (hf : mC_X0_chosen p0 p1 = some r) : MA l D yX0_chosen cX0_chosen 5 (some (.long)) 1 [.int p0, .int p1] w (.returned (some (.long r))) w := by
  refine MA.introH (own := RX0) (nm := "chosen") (ls := [some (.int p0), some (.int p1), none, none, none]) (by decide) rfl rfl (Nat.le_of_ble_eq_true rfl) rfl (fun X hl hD hE hH => ?_)
  subst hl hD
  unfold mC_X0_chosen at hf
  refine V_iload_n dX0_chosen_0 rfl ?_
  refine V_if_lt (tgt := 9) dX0_chosen_1 (by decide) (fun hc1 => ?_) (fun hc1 => ?_)
  · have hf := if_t hf hc1
    refine V_lconst dX0_chosen_9 ckl_0 ?_
    cases some_ex hf
    exact V_lret hE dX0_chosen_10
  · have hf := if_f hf hc1
    refine V_iload_n dX0_chosen_4 rfl ?_
    refine V_iload_n dX0_chosen_5 rfl ?_
    refine V_icmp_le (tgt := 11) dX0_chosen_6 (by decide) (fun hc2 => ?_) (fun hc2 => ?_)
    · have hf := if_t hf hc2
      refine V_lconst dX0_chosen_11 ckl_1 ?_
      refine V_lstore_n (ls' := [some (.int p0), some (.int p1), some (.long (1 : Int64)), none, none]) dX0_chosen_12 (by decide) rfl ?_
      refine V_iconst dX0_chosen_13 ckc_1 ?_
      refine V_istore (ls' := [some (.int p0), some (.int p1), some (.long (1 : Int64)), none, some (.int (1 : Int32))]) dX0_chosen_14 (by decide) rfl ?_
      exact lq4_ex (P := fun v0 v1 v2 v4 => V X cX0_chosen RX0 5 1 w 16 [some (.int v0), some (.int v1), some (.long v2), none, some (.int v4)] []) (fun k hk v0 v1 v2 v4 hf => mC_X0_chosen_16_v hE hH k hk v0 v1 v2 v4 hf) LF p0 p1 (1 : Int64) (1 : Int32) hf
    · have hf := if_f hf hc2
      refine V_lconst dX0_chosen_9 ckl_0 ?_
      cases some_ex hf
      exact V_lret hE dX0_chosen_10
set_option maxHeartbeats 4000000 in
theorem mC_X0_mayBe_65_v {X : CX} {w0 : AH} {w : AH} {r : Int32}  (hE : XE X w0 2 (some (.boolean)) "mayBe" (.returned (some (.int r))) w) (hH : XH X []) (k9 : Int32 → Int32 → Int32 → Int32 → Int64 → Int64 → Int32 → Option (Int32)) (hk9 : ∀ (v0 : Int32) (v1 : Int32) (v2 : Int32) (v3 : Int32) (v4 : Int64) (v6 : Int64) (v8 : Int32), k9 v0 v1 v2 v3 v4 v6 v8 = some r → V X cX0_mayBe RX0 11 2 w 9 [some (.int v0), some (.int v1), some (.int v2), some (.int v3), some (.long v4), none, some (.long v6), none, some (.int v8), none, none] []) (v0 : Int32) (v1 : Int32) (v2 : Int32) (v3 : Int32) (v4 : Int64) (v8 : Int32) (t0 : Int64) (t1 : Int64) (hf : mC_X0_mayBe_65 k9 v0 v1 v2 v3 v4 v8 t0 t1 = some r) : V X cX0_mayBe RX0 11 2 w 65 [some (.int v0), some (.int v1), some (.int v2), some (.int v3), some (.long v4), none, none, none, some (.int v8), none, none] [.long t0, .long t1] := by
  unfold mC_X0_mayBe_65 at hf
  refine V_ladd dX0_mayBe_65 ?_
  refine V_lstore (ls' := [some (.int v0), some (.int v1), some (.int v2), some (.int v3), some (.long v4), none, some (.long (t1 + t0)), none, some (.int v8), none, none]) dX0_mayBe_66 (by decide) rfl ?_
  refine V_inc (ls' := [some (.int v0), some (.int v1), some (.int v2), some (.int v3), some (.long v4), none, some (.long (t1 + t0)), none, some (.int (v8 + (1 : Int32))), none, none]) dX0_mayBe_68 rfl ckc_1 (by decide) rfl ?_
  refine V_goto (tgt := 9) dX0_mayBe_71 (by decide) ?_
  exact hk9 v0 v1 v2 v3 v4 (t1 + t0) (v8 + (1 : Int32)) hf
set_option maxHeartbeats 4000000 in
theorem mC_X0_mayBe_48_v {X : CX} {w0 : AH} {w : AH} {r : Int32}  (hE : XE X w0 2 (some (.boolean)) "mayBe" (.returned (some (.int r))) w) (hH : XH X []) (k9 : Int32 → Int32 → Int32 → Int32 → Int64 → Int64 → Int32 → Option (Int32)) (hk9 : ∀ (v0 : Int32) (v1 : Int32) (v2 : Int32) (v3 : Int32) (v4 : Int64) (v6 : Int64) (v8 : Int32), k9 v0 v1 v2 v3 v4 v6 v8 = some r → V X cX0_mayBe RX0 11 2 w 9 [some (.int v0), some (.int v1), some (.int v2), some (.int v3), some (.long v4), none, some (.long v6), none, some (.int v8), none, none] []) (v0 : Int32) (v1 : Int32) (v2 : Int32) (v3 : Int32) (v6 : Int64) (v8 : Int32) (v9 : Int64) (t0 : Int64) (t1 : Int64) (hf : mC_X0_mayBe_48 k9 v0 v1 v2 v3 v6 v8 v9 t0 t1 = some r) : V X cX0_mayBe RX0 11 2 w 48 [some (.int v0), some (.int v1), some (.int v2), some (.int v3), none, none, some (.long v6), none, some (.int v8), some (.long v9), none] [.long t0, .long t1] := by
  unfold mC_X0_mayBe_48 at hf
  refine V_ladd dX0_mayBe_48 ?_
  refine V_lstore (ls' := [some (.int v0), some (.int v1), some (.int v2), some (.int v3), some (.long (t1 + t0)), none, some (.long v6), none, some (.int v8), some (.long v9), none]) dX0_mayBe_49 (by decide) rfl ?_
  refine V_lload dX0_mayBe_51 rfl ?_
  refine V_iload dX0_mayBe_53 rfl ?_
  refine V_iload_n dX0_mayBe_55 rfl ?_
  refine V_icmp_lt (tgt := 64) dX0_mayBe_56 (by decide) (fun hc1 => ?_) (fun hc1 => ?_)
  · have hf := if_t hf hc1
    refine V_lconst dX0_mayBe_64 ckl_0 ?_
    refine V_keep [true, true, true, true, true, true, false, true, true, false, true] rfl ?_
    exact mC_X0_mayBe_65_v hE hH k9 hk9 v0 v1 v2 v3 (t1 + t0) v8 (0 : Int64) v6 hf
  · have hf := if_f hf hc1
    refine V_lload dX0_mayBe_59 rfl ?_
    refine V_goto (tgt := 65) dX0_mayBe_61 (by decide) ?_
    refine V_keep [true, true, true, true, true, true, false, true, true, false, true] rfl ?_
    exact mC_X0_mayBe_65_v hE hH k9 hk9 v0 v1 v2 v3 (t1 + t0) v8 v9 v6 hf
set_option maxHeartbeats 4000000 in
theorem mC_X0_mayBe_9_v {X : CX} {w0 : AH} {w : AH} {r : Int32}  (hE : XE X w0 2 (some (.boolean)) "mayBe" (.returned (some (.int r))) w) (hH : XH X []) (k9 : Int32 → Int32 → Int32 → Int32 → Int64 → Int64 → Int32 → Option (Int32)) (hk9 : ∀ (v0 : Int32) (v1 : Int32) (v2 : Int32) (v3 : Int32) (v4 : Int64) (v6 : Int64) (v8 : Int32), k9 v0 v1 v2 v3 v4 v6 v8 = some r → V X cX0_mayBe RX0 11 2 w 9 [some (.int v0), some (.int v1), some (.int v2), some (.int v3), some (.long v4), none, some (.long v6), none, some (.int v8), none, none] []) (v0 : Int32) (v1 : Int32) (v2 : Int32) (v3 : Int32) (v4 : Int64) (v6 : Int64) (v8 : Int32) (hf : mC_X0_mayBe_9 k9 v0 v1 v2 v3 v4 v6 v8 = some r) : V X cX0_mayBe RX0 11 2 w 9 [some (.int v0), some (.int v1), some (.int v2), some (.int v3), some (.long v4), none, some (.long v6), none, some (.int v8), none, none] [] := by
  unfold mC_X0_mayBe_9 at hf
  refine V_iload dX0_mayBe_9 rfl ?_
  refine V_iload_n dX0_mayBe_11 rfl ?_
  refine V_icmp_gt (tgt := 74) dX0_mayBe_12 (by decide) (fun hc1 => ?_) (fun hc1 => ?_)
  · have hf := if_t hf hc1
    refine V_iload_n dX0_mayBe_74 rfl ?_
    refine V_iload_n dX0_mayBe_75 rfl ?_
    obtain ⟨r3, hc2, hf⟩ := bd1_ex hf
    refine V_cS (rest := []) (st' := [.long r3]) (mC_X0_chosen_ok _ _ _ _ _ _ hc2) sc_X0_520 (by decide) rfl rfl (Nat.le_of_ble_eq_true rfl) dX0_mayBe_76 rfl ?_
    refine V_lstore (ls' := [some (.int v0), some (.int v1), some (.int v2), some (.int v3), some (.long v4), none, some (.long v6), none, some (.long r3), none, none]) dX0_mayBe_79 (by decide) rfl ?_
    refine V_ldc2 q1734 dX0_mayBe_81 ?_
    refine V_lload dX0_mayBe_84 rfl ?_
    refine V_lmul dX0_mayBe_86 ?_
    refine V_lload dX0_mayBe_87 rfl ?_
    refine V_lif_lt (tgt := 109) dX0_mayBe_89 dX0_mayBe_90 (by decide) (fun hc4 => ?_) (fun hc4 => ?_)
    · have hf := if_t hf hc4
      refine V_iconst dX0_mayBe_109 ckc_0 ?_
      cases some_ex hf
      exact V_zret hE (by decide) dX0_mayBe_110
    · have hf := if_f hf hc4
      refine V_ldc2 q1734 dX0_mayBe_93 ?_
      refine V_lload dX0_mayBe_96 rfl ?_
      refine V_lmul dX0_mayBe_98 ?_
      refine V_lload dX0_mayBe_99 rfl ?_
      refine V_lif_lt (tgt := 109) dX0_mayBe_101 dX0_mayBe_102 (by decide) (fun hc5 => ?_) (fun hc5 => ?_)
      · have hf := if_t hf hc5
        refine V_iconst dX0_mayBe_109 ckc_0 ?_
        cases some_ex hf
        exact V_zret hE (by decide) dX0_mayBe_110
      · have hf := if_f hf hc5
        refine V_iconst dX0_mayBe_105 ckc_1 ?_
        refine V_goto (tgt := 110) dX0_mayBe_106 (by decide) ?_
        cases some_ex hf
        exact V_zret hE (by decide) dX0_mayBe_110
  · have hf := if_f hf hc1
    refine V_iload_n dX0_mayBe_15 rfl ?_
    refine V_iload dX0_mayBe_16 rfl ?_
    obtain ⟨r7, hc6, hf⟩ := bd1_ex hf
    refine V_cS (rest := []) (st' := [.long r7]) (mC_X0_chosen_ok _ _ _ _ _ _ hc6) sc_X0_520 (by decide) rfl rfl (Nat.le_of_ble_eq_true rfl) dX0_mayBe_18 rfl ?_
    refine V_iload_n dX0_mayBe_21 rfl ?_
    refine V_iload_n dX0_mayBe_22 rfl ?_
    refine V_isub dX0_mayBe_23 ?_
    refine V_iload_n dX0_mayBe_24 rfl ?_
    refine V_iload dX0_mayBe_25 rfl ?_
    refine V_isub dX0_mayBe_27 ?_
    obtain ⟨r9, hc8, hf⟩ := bd1_ex hf
    refine V_cS (rest := [.long r7]) (st' := [.long r9, .long r7]) (mC_X0_chosen_ok _ _ _ _ _ _ hc8) sc_X0_520 (by decide) rfl rfl (Nat.le_of_ble_eq_true rfl) dX0_mayBe_28 rfl ?_
    refine V_lmul dX0_mayBe_31 ?_
    refine V_lstore (ls' := [some (.int v0), some (.int v1), some (.int v2), some (.int v3), some (.long v4), none, some (.long v6), none, some (.int v8), some (.long (r7 * r9)), none]) dX0_mayBe_32 (by decide) rfl ?_
    refine V_lload dX0_mayBe_34 rfl ?_
    refine V_iload dX0_mayBe_36 rfl ?_
    refine V_iload_n dX0_mayBe_38 rfl ?_
    refine V_icmp_gt (tgt := 47) dX0_mayBe_39 (by decide) (fun hc10 => ?_) (fun hc10 => ?_)
    · have hf := if_t hf hc10
      refine V_lconst dX0_mayBe_47 ckl_0 ?_
      refine V_keep [true, true, true, true, false, true, true, true, true, true, true] rfl ?_
      exact mC_X0_mayBe_48_v hE hH k9 hk9 v0 v1 v2 v3 v6 v8 (r7 * r9) (0 : Int64) v4 hf
    · have hf := if_f hf hc10
      refine V_lload dX0_mayBe_42 rfl ?_
      refine V_goto (tgt := 48) dX0_mayBe_44 (by decide) ?_
      refine V_keep [true, true, true, true, false, true, true, true, true, true, true] rfl ?_
      exact mC_X0_mayBe_48_v hE hH k9 hk9 v0 v1 v2 v3 v6 v8 (r7 * r9) (r7 * r9) v4 hf
set_option maxHeartbeats 4000000 in
theorem mC_X0_mayBe_ok (l : Launch) (D : DD) (w : AH) (p0 : Int32) (p1 : Int32) (p2 : Int32) (p3 : Int32) (r : Int32) (hf : mC_X0_mayBe p0 p1 p2 p3 = some r) : MA l D yX0_mayBe cX0_mayBe 11 (some (.boolean)) 2 [.int p0, .int p1, .int p2, .int p3] w (.returned (some (.int r))) w := by
  refine MA.introH (own := RX0) (nm := "mayBe") (ls := [some (.int p0), some (.int p1), some (.int p2), some (.int p3), none, none, none, none, none, none, none]) (by decide) rfl rfl (Nat.le_of_ble_eq_true rfl) rfl (fun X hl hD hE hH => ?_)
  subst hl hD
  unfold mC_X0_mayBe at hf
  refine V_lconst dX0_mayBe_0 ckl_0 ?_
  refine V_lstore (ls' := [some (.int p0), some (.int p1), some (.int p2), some (.int p3), some (.long (0 : Int64)), none, none, none, none, none, none]) dX0_mayBe_1 (by decide) rfl ?_
  refine V_lconst dX0_mayBe_3 ckl_0 ?_
  refine V_lstore (ls' := [some (.int p0), some (.int p1), some (.int p2), some (.int p3), some (.long (0 : Int64)), none, some (.long (0 : Int64)), none, none, none, none]) dX0_mayBe_4 (by decide) rfl ?_
  refine V_iconst dX0_mayBe_6 ckc_0 ?_
  refine V_istore (ls' := [some (.int p0), some (.int p1), some (.int p2), some (.int p3), some (.long (0 : Int64)), none, some (.long (0 : Int64)), none, some (.int (0 : Int32)), none, none]) dX0_mayBe_7 (by decide) rfl ?_
  exact lq7_ex (P := fun v0 v1 v2 v3 v4 v6 v8 => V X cX0_mayBe RX0 11 2 w 9 [some (.int v0), some (.int v1), some (.int v2), some (.int v3), some (.long v4), none, some (.long v6), none, some (.int v8), none, none] []) (fun k hk v0 v1 v2 v3 v4 v6 v8 hf => mC_X0_mayBe_9_v hE hH k hk v0 v1 v2 v3 v4 v6 v8 hf) LF p0 p1 p2 p3 (0 : Int64) (0 : Int64) (0 : Int32) hf
set_option maxHeartbeats 4000000 in
theorem mC_X0_doors_83_v {X : CX} {w0 : AH} {r : Int32}  (w : AH) (hE : XE X w0 3 (some (.int)) "doors" (.returned (some (.int r))) w) (hH : XH X []) (k51 : Int32 → Int32 → Int32 → Int32 → Int32 → Int32 → Option (Int32)) (hk51 : ∀ (v1 : Int32) (v2 : Int32) (v3 : Int32) (v4 : Int32) (v5 : Int32) (v6 : Int32), k51 v1 v2 v3 v4 v5 v6 = some r → V X cX0_doors RX0 7 3 w 51 [none, some (.int v1), some (.int v2), some (.int v3), some (.int v4), some (.int v5), some (.int v6)] []) (v1 : Int32) (v2 : Int32) (v3 : Int32) (v4 : Int32) (v5 : Int32) (v6 : Int32) (hf : mC_X0_doors_83 w k51 v1 v2 v3 v4 v5 v6 = some r) : V X cX0_doors RX0 7 3 w 83 [none, some (.int v1), some (.int v2), some (.int v3), some (.int v4), some (.int v5), some (.int v6)] [] := by
  unfold mC_X0_doors_83 at hf
  refine V_inc (ls' := [none, some (.int v1), some (.int v2), some (.int v3), some (.int v4), some (.int v5), some (.int (v6 + (1 : Int32)))]) dX0_doors_83 rfl ckc_1 (by decide) rfl ?_
  refine V_goto (tgt := 51) dX0_doors_86 (by decide) ?_
  exact hk51 v1 v2 v3 v4 v5 (v6 + (1 : Int32)) hf
set_option maxHeartbeats 4000000 in
theorem mC_X0_doors_51_v {X : CX} {w0 : AH} {r : Int32}  (w : AH) (hE : XE X w0 3 (some (.int)) "doors" (.returned (some (.int r))) w) (hH : XH X []) (k51 : Int32 → Int32 → Int32 → Int32 → Int32 → Int32 → Option (Int32)) (hk51 : ∀ (v1 : Int32) (v2 : Int32) (v3 : Int32) (v4 : Int32) (v5 : Int32) (v6 : Int32), k51 v1 v2 v3 v4 v5 v6 = some r → V X cX0_doors RX0 7 3 w 51 [none, some (.int v1), some (.int v2), some (.int v3), some (.int v4), some (.int v5), some (.int v6)] []) (v1 : Int32) (v2 : Int32) (v3 : Int32) (v4 : Int32) (v5 : Int32) (v6 : Int32) (hf : mC_X0_doors_51 w k51 v1 v2 v3 v4 v5 v6 = some r) : V X cX0_doors RX0 7 3 w 51 [none, some (.int v1), some (.int v2), some (.int v3), some (.int v4), some (.int v5), some (.int v6)] [] := by
  unfold mC_X0_doors_51 at hf
  refine V_iload dX0_doors_51 rfl ?_
  refine V_iload_n dX0_doors_53 rfl ?_
  refine V_icmp_gt (tgt := 89) dX0_doors_54 (by decide) (fun hc1 => ?_) (fun hc1 => ?_)
  · have hf := if_t hf hc1
    refine V_iload dX0_doors_89 rfl ?_
    cases some_ex hf
    exact V_iret hE dX0_doors_91
  · have hf := if_f hf hc1
    refine V_iload_n dX0_doors_57 rfl ?_
    refine V_iload_n dX0_doors_58 rfl ?_
    refine V_iload_n dX0_doors_59 rfl ?_
    refine V_iload dX0_doors_60 rfl ?_
    obtain ⟨r3, hc2, hf⟩ := bd1_ex hf
    refine V_cS (rest := []) (st' := [.int r3]) (mC_X0_mayBe_ok _ _ _ _ _ _ _ _ hc2) sc_X0_529 (by decide) rfl rfl (Nat.le_of_ble_eq_true rfl) dX0_doors_62 rfl ?_
    refine V_if_ne (tgt := 71) dX0_doors_65 (by decide) (fun hc4 => ?_) (fun hc4 => ?_)
    · have hf := if_f hf hc4
      refine V_iload dX0_doors_71 rfl ?_
      refine V_if_ne (tgt := 79) dX0_doors_73 (by decide) (fun hc5 => ?_) (fun hc5 => ?_)
      · have hf := if_f hf hc5
        refine V_iload dX0_doors_79 rfl ?_
        refine V_istore (ls' := [none, some (.int v1), some (.int v2), some (.int v3), some (.int v4), some (.int v6), some (.int v6)]) dX0_doors_81 (by decide) rfl ?_
        exact mC_X0_doors_83_v w hE hH k51 hk51 v1 v2 v3 v4 v6 v6 hf
      · have hf := if_t hf hc5
        refine V_iload dX0_doors_76 rfl ?_
        cases some_ex hf
        exact V_iret hE dX0_doors_78
    · have hf := if_t hf hc4
      refine V_goto (tgt := 83) dX0_doors_68 (by decide) ?_
      exact mC_X0_doors_83_v w hE hH k51 hk51 v1 v2 v3 v4 v5 v6 hf
set_option maxHeartbeats 4000000 in
theorem mC_X0_doors_ok (l : Launch) (D : DD) (w : AH) (a : Nat) (p0 : Int32) (p1 : Int32) (p2 : Int32) (p3 : Int32) (r : Int32) (hf : mC_X0_doors a p0 p1 p2 p3 w = some r) : MA l D yX0_doors cX0_doors 7 (some (.int)) 3 [.ref a, .int p0, .int p1, .int p2, .int p3] w (.returned (some (.int r))) w := by
  refine MA.introH (own := RX0) (nm := "doors") (ls := [some (.ref a), some (.int p0), some (.int p1), some (.int p2), some (.int p3), none, none]) (by decide) rfl rfl (Nat.le_of_ble_eq_true rfl) rfl (fun X hl hD hE hH => ?_)
  subst hl hD
  unfold mC_X0_doors at hf
  refine V_iload_n dX0_doors_0 rfl ?_
  refine V_iconst dX0_doors_1 ckc_1 ?_
  refine V_bipush dX0_doors_2 ckb_60 ?_
  obtain ⟨r2, hc1, hf⟩ := bd1_ex hf
  refine V_cS (rest := []) (st' := [.int r2]) (mC_X0_in_ok _ _ _ _ _ _ _ hc1) sc_X0_127 (by decide) rfl rfl (Nat.le_of_ble_eq_true rfl) dX0_doors_4 rfl ?_
  refine V_if_eq (tgt := 43) dX0_doors_7 (by decide) (fun hc3 => ?_) (fun hc3 => ?_)
  · have hf := if_t hf hc3
    refine V_iconst dX0_doors_43 ckc_m1 ?_
    cases some_ex hf
    exact V_iret hE dX0_doors_44
  · have hf := if_f hf hc3
    refine V_iload_n dX0_doors_10 rfl ?_
    refine V_iconst dX0_doors_11 ckc_1 ?_
    refine V_bipush dX0_doors_12 ckb_12 ?_
    refine V_iload_n dX0_doors_14 rfl ?_
    obtain ⟨r4, hm5, hf⟩ := st1_ex hf
    refine V_mmin q1727 q726 q147 q727 (by decide) (Nat.le_of_ble_eq_true rfl) dX0_doors_15 ?_
    rw [hm5]
    obtain ⟨r7, hc6, hf⟩ := bd1_ex hf
    refine V_cS (rest := []) (st' := [.int r7]) (mC_X0_in_ok _ _ _ _ _ _ _ hc6) sc_X0_127 (by decide) rfl rfl (Nat.le_of_ble_eq_true rfl) dX0_doors_18 rfl ?_
    refine V_if_eq (tgt := 43) dX0_doors_21 (by decide) (fun hc8 => ?_) (fun hc8 => ?_)
    · have hf := if_t hf hc8
      refine V_iconst dX0_doors_43 ckc_m1 ?_
      cases some_ex hf
      exact V_iret hE dX0_doors_44
    · have hf := if_f hf hc8
      refine V_iload_n dX0_doors_24 rfl ?_
      refine V_iconst dX0_doors_25 ckc_0 ?_
      refine V_iload_n dX0_doors_26 rfl ?_
      obtain ⟨r10, hc9, hf⟩ := bd1_ex hf
      refine V_cS (rest := []) (st' := [.int r10]) (mC_X0_in_ok _ _ _ _ _ _ _ hc9) sc_X0_127 (by decide) rfl rfl (Nat.le_of_ble_eq_true rfl) dX0_doors_27 rfl ?_
      refine V_if_eq (tgt := 43) dX0_doors_30 (by decide) (fun hc11 => ?_) (fun hc11 => ?_)
      · have hf := if_t hf hc11
        refine V_iconst dX0_doors_43 ckc_m1 ?_
        cases some_ex hf
        exact V_iret hE dX0_doors_44
      · have hf := if_f hf hc11
        refine V_iload dX0_doors_33 rfl ?_
        refine V_iconst dX0_doors_35 ckc_0 ?_
        refine V_iconst dX0_doors_36 ckc_1 ?_
        obtain ⟨r13, hc12, hf⟩ := bd1_ex hf
        refine V_cS (rest := []) (st' := [.int r13]) (mC_X0_in_ok _ _ _ _ _ _ _ hc12) sc_X0_127 (by decide) rfl rfl (Nat.le_of_ble_eq_true rfl) dX0_doors_37 rfl ?_
        refine V_if_ne (tgt := 45) dX0_doors_40 (by decide) (fun hc14 => ?_) (fun hc14 => ?_)
        · have hf := if_f hf hc14
          refine V_iconst dX0_doors_45 ckc_m1 ?_
          refine V_istore (ls' := [some (.ref a), some (.int p0), some (.int p1), some (.int p2), some (.int p3), some (.int (-1 : Int32)), none]) dX0_doors_46 (by decide) rfl ?_
          refine V_iconst dX0_doors_48 ckc_0 ?_
          refine V_istore (ls' := [some (.ref a), some (.int p0), some (.int p1), some (.int p2), some (.int p3), some (.int (-1 : Int32)), some (.int (0 : Int32))]) dX0_doors_49 (by decide) rfl ?_
          refine V_keep [false, true, true, true, true, true, true] rfl ?_
          exact lq6_ex (P := fun v1 v2 v3 v4 v5 v6 => V X cX0_doors RX0 7 3 w 51 [none, some (.int v1), some (.int v2), some (.int v3), some (.int v4), some (.int v5), some (.int v6)] []) (fun k hk v1 v2 v3 v4 v5 v6 hf => mC_X0_doors_51_v w hE hH k hk v1 v2 v3 v4 v5 v6 hf) LF p0 p1 p2 p3 (-1 : Int32) (0 : Int32) hf
        · have hf := if_t hf hc14
          refine V_iconst dX0_doors_43 ckc_m1 ?_
          cases some_ex hf
          exact V_iret hE dX0_doors_44
set_option maxHeartbeats 4000000 in
theorem mC_X0_isOf_ok (l : Launch) (D : DD) (w : AH) (a : Nat) (p0 : Int32) (p1 : Int32) (r : Int32) (hf : mC_X0_isOf a p0 p1 w = some r) : MA l D yX0_isOf cX0_isOf 3 (some (.boolean)) 4 [.ref a, .int p0, .int p1] w (.returned (some (.int r))) w := by
  refine MA.introH (own := RX0) (nm := "isOf") (ls := [some (.ref a), some (.int p0), some (.int p1)]) (by decide) rfl rfl (Nat.le_of_ble_eq_true rfl) rfl (fun X hl hD hE hH => ?_)
  subst hl hD
  unfold mC_X0_isOf at hf
  refine V_aload_n dX0_isOf_0 rfl ?_
  obtain ⟨h1, hf⟩ := ck_ex hf
  obtain ⟨b2, hb3, hf⟩ := bd1_ex hf
  refine VP_getR (x := some b2) fa_X0_10 h1 rfl rfl hb3 dX0_isOf_1 ?_
  obtain ⟨h4, hf⟩ := ck_ex hf
  obtain ⟨b5, hb6, hf⟩ := bd1_ex hf
  refine VP_getR (x := some b5) fa_X0_419 h4 rfl rfl hb6 dX0_isOf_4 ?_
  refine V_aload_n dX0_isOf_7 rfl ?_
  refine VP_getR (x := some b2) fa_X0_10 h1 rfl rfl hb3 dX0_isOf_8 ?_
  obtain ⟨b7, hb8, hf⟩ := bd1_ex hf
  refine VP_getR (x := some b7) fa_X0_451 h4 rfl rfl hb8 dX0_isOf_11 ?_
  refine V_iload_n dX0_isOf_14 rfl ?_
  obtain ⟨h9, hf⟩ := ck_ex hf
  obtain ⟨r11, hc10, hf⟩ := bd1_ex hf
  refine V_cV (av := [.int p0]) (rest := [.ref b5]) (st' := [.ref r11, .ref b5]) (mC_J2_get_ok _ _ _ _ _ _ hc10) vc_X0_232 (kIn1 h9) (by decide) rfl rfl (Nat.le_of_ble_eq_true rfl) dX0_isOf_15 rfl ?_
  obtain ⟨h12, hf⟩ := ck_ex hf
  refine VE_cast cc_X0_279 h12 dX0_isOf_18 ?_
  refine VP_getI fa_X0_282 h12 rfl dX0_isOf_21 ?_
  obtain ⟨h13, hf⟩ := ck_ex hf
  refine VE_iald h13 rfl dX0_isOf_24 ?_
  refine V_iload_n dX0_isOf_25 rfl ?_
  refine V_icmp_ne (tgt := 33) dX0_isOf_26 (by decide) (fun hc14 => ?_) (fun hc14 => ?_)
  · have hf := if_f hf hc14
    refine V_iconst dX0_isOf_33 ckc_0 ?_
    cases some_ex hf
    exact V_zret hE (by decide) dX0_isOf_34
  · have hf := if_t hf hc14
    refine V_iconst dX0_isOf_29 ckc_1 ?_
    refine V_goto (tgt := 34) dX0_isOf_30 (by decide) ?_
    cases some_ex hf
    exact V_zret hE (by decide) dX0_isOf_34
set_option maxHeartbeats 4000000 in
theorem mC_X0_adds_2_97_v {X : CX} {w0 : AH} {w' : AH}  (hE : XE X w0 5 none "adds" (.returned none) w') (hH : XH X []) (k17 : Nat → Int32 → Int32 → AH → Option (AH)) (hk17 : ∀ (v0 : Nat) (v1 : Int32) (v2 : Int32) (w : AH), k17 v0 v1 v2 w = some w' → V X cX0_adds_2 RX0 3 5 w 17 [some (.ref v0), some (.int v1), some (.int v2)] []) (v0 : Nat) (v1 : Int32) (v2 : Int32) (w : AH) (hf : mC_X0_adds_2_97 k17 v0 v1 v2 w = some w') : V X cX0_adds_2 RX0 3 5 w 97 [some (.ref v0), some (.int v1), some (.int v2)] [] := by
  unfold mC_X0_adds_2_97 at hf
  refine V_inc (ls' := [some (.ref v0), some (.int v1), some (.int (v2 + (1 : Int32)))]) dX0_adds_2_97 rfl ckc_1 (by decide) rfl ?_
  refine V_goto (tgt := 17) dX0_adds_2_100 (by decide) ?_
  exact hk17 v0 v1 (v2 + (1 : Int32)) w hf
set_option maxHeartbeats 4000000 in
theorem mC_X0_adds_2_17_v {X : CX} {w0 : AH} {w' : AH}  (hE : XE X w0 5 none "adds" (.returned none) w') (hH : XH X []) (k17 : Nat → Int32 → Int32 → AH → Option (AH)) (hk17 : ∀ (v0 : Nat) (v1 : Int32) (v2 : Int32) (w : AH), k17 v0 v1 v2 w = some w' → V X cX0_adds_2 RX0 3 5 w 17 [some (.ref v0), some (.int v1), some (.int v2)] []) (v0 : Nat) (v1 : Int32) (v2 : Int32) (w : AH) (hf : mC_X0_adds_2_17 k17 v0 v1 v2 w = some w') : V X cX0_adds_2 RX0 3 5 w 17 [some (.ref v0), some (.int v1), some (.int v2)] [] := by
  unfold mC_X0_adds_2_17 at hf
  refine V_iload_n dX0_adds_2_17 rfl ?_
  refine V_aload_n dX0_adds_2_18 rfl ?_
  obtain ⟨h1, hf⟩ := ck_ex hf
  obtain ⟨b2, hb3, hf⟩ := bd1_ex hf
  refine VP_getR (x := some b2) fa_X0_10 h1 rfl rfl hb3 dX0_adds_2_19 ?_
  obtain ⟨h4, hf⟩ := ck_ex hf
  obtain ⟨b5, hb6, hf⟩ := bd1_ex hf
  refine VP_getR (x := some b5) fa_X0_451 h4 rfl rfl hb6 dX0_adds_2_22 ?_
  obtain ⟨h7, hf⟩ := ck_ex hf
  obtain ⟨r9, hc8, hf⟩ := bd1_ex hf
  refine V_cV (av := []) (rest := [.int v2]) (st' := [.int r9, .int v2]) (mC_J2_size_ok _ _ _ _ _ hc8) vc_X0_148 (kIn1 h7) (by decide) rfl rfl (Nat.le_of_ble_eq_true rfl) dX0_adds_2_25 rfl ?_
  refine V_icmp_ge (tgt := 103) dX0_adds_2_28 (by decide) (fun hc10 => ?_) (fun hc10 => ?_)
  · have hf := if_t hf hc10
    cases some_ex hf
    exact V_vret hE dX0_adds_2_103
  · have hf := if_f hf hc10
    refine V_aload_n dX0_adds_2_31 rfl ?_
    refine V_iload_n dX0_adds_2_32 rfl ?_
    refine V_iload_n dX0_adds_2_33 rfl ?_
    obtain ⟨r12, hc11, hf⟩ := bd1_ex hf
    refine V_cV (av := [.int v2, .int v1]) (rest := []) (st' := [.int r12]) (mC_X0_isOf_ok _ _ _ _ _ _ _ hc11) vc_X0_542 (kIn1 h1) (by decide) rfl rfl (Nat.le_of_ble_eq_true rfl) dX0_adds_2_34 rfl ?_
    refine V_if_ne (tgt := 43) dX0_adds_2_37 (by decide) (fun hc13 => ?_) (fun hc13 => ?_)
    · have hf := if_f hf hc13
      refine V_aload_n dX0_adds_2_43 rfl ?_
      refine V_dup dX0_adds_2_44 rfl ?_
      refine VP_getI fa_X0_539 h1 rfl dX0_adds_2_45 ?_
      refine V_iconst dX0_adds_2_48 ckc_1 ?_
      refine V_iadd dX0_adds_2_49 ?_
      obtain ⟨w14, hs15, hf⟩ := st1_ex hf
      refine VE_putI fw_X0_539 h1 rfl rfl rfl hs15 dX0_adds_2_50 ?_
      refine V_aload_n dX0_adds_2_53 rfl ?_
      refine V_dup dX0_adds_2_54 rfl ?_
      obtain ⟨h16, hf⟩ := ck_ex hf
      refine VP_getL fa_X0_532 h16 dX0_adds_2_55 ?_
      refine V_aload_n dX0_adds_2_58 rfl ?_
      obtain ⟨b17, hb18, hf⟩ := bd1_ex hf
      refine VP_getR (x := some b17) fa_X0_10 h16 rfl rfl hb18 dX0_adds_2_59 ?_
      obtain ⟨h19, hf⟩ := ck_ex hf
      obtain ⟨b20, hb21, hf⟩ := bd1_ex hf
      refine VP_getR (x := some b20) fa_X0_454 h19 rfl rfl hb21 dX0_adds_2_62 ?_
      refine V_iload_n dX0_adds_2_65 rfl ?_
      obtain ⟨h22, hf⟩ := ck_ex hf
      refine VE_iald h22 rfl dX0_adds_2_66 ?_
      refine V_i2l dX0_adds_2_67 ?_
      refine V_ladd dX0_adds_2_68 ?_
      obtain ⟨w23, hs24, hf⟩ := st1_ex hf
      refine VE_putL fw_X0_532 h16 hs24 dX0_adds_2_69 ?_
      refine V_aload_n dX0_adds_2_72 rfl ?_
      refine V_dup dX0_adds_2_73 rfl ?_
      obtain ⟨h25, hf⟩ := ck_ex hf
      refine VP_getL fa_X0_536 h25 dX0_adds_2_74 ?_
      refine V_aload_n dX0_adds_2_77 rfl ?_
      refine VP_getI fa_X0_539 h25 rfl dX0_adds_2_78 ?_
      refine V_i2l dX0_adds_2_81 ?_
      refine V_aload_n dX0_adds_2_82 rfl ?_
      obtain ⟨b26, hb27, hf⟩ := bd1_ex hf
      refine VP_getR (x := some b26) fa_X0_10 h25 rfl rfl hb27 dX0_adds_2_83 ?_
      obtain ⟨h28, hf⟩ := ck_ex hf
      obtain ⟨b29, hb30, hf⟩ := bd1_ex hf
      refine VP_getR (x := some b29) fa_X0_454 h28 rfl rfl hb30 dX0_adds_2_86 ?_
      refine V_iload_n dX0_adds_2_89 rfl ?_
      obtain ⟨h31, hf⟩ := ck_ex hf
      refine VE_iald h31 rfl dX0_adds_2_90 ?_
      refine V_i2l dX0_adds_2_91 ?_
      refine V_lmul dX0_adds_2_92 ?_
      refine V_ladd dX0_adds_2_93 ?_
      obtain ⟨w32, hs33, hf⟩ := st1_ex hf
      refine VE_putL fw_X0_536 h25 hs33 dX0_adds_2_94 ?_
      exact mC_X0_adds_2_97_v hE hH k17 hk17 v0 v1 v2 w32 hf
    · have hf := if_t hf hc13
      refine V_goto (tgt := 97) dX0_adds_2_40 (by decide) ?_
      exact mC_X0_adds_2_97_v hE hH k17 hk17 v0 v1 v2 w hf
set_option maxHeartbeats 4000000 in
theorem mC_X0_adds_2_ok (l : Launch) (D : DD) (w : AH) (a : Nat) (p0 : Int32) (w' : AH) (hf : mC_X0_adds_2 a p0 w = some w') : MA l D yX0_adds_2 cX0_adds_2 3 none 5 [.ref a, .int p0] w (.returned none) w' := by
  refine MA.introH (own := RX0) (nm := "adds") (ls := [some (.ref a), some (.int p0), none]) (by decide) rfl rfl (Nat.le_of_ble_eq_true rfl) rfl (fun X hl hD hE hH => ?_)
  subst hl hD
  unfold mC_X0_adds_2 at hf
  refine V_aload_n dX0_adds_2_0 rfl ?_
  refine V_lconst dX0_adds_2_1 ckl_0 ?_
  obtain ⟨h1, hf⟩ := ck_ex hf
  obtain ⟨w2, hs3, hf⟩ := st1_ex hf
  refine VE_putL fw_X0_532 h1 hs3 dX0_adds_2_2 ?_
  refine V_aload_n dX0_adds_2_5 rfl ?_
  refine V_lconst dX0_adds_2_6 ckl_0 ?_
  obtain ⟨h4, hf⟩ := ck_ex hf
  obtain ⟨w5, hs6, hf⟩ := st1_ex hf
  refine VE_putL fw_X0_536 h4 hs6 dX0_adds_2_7 ?_
  refine V_aload_n dX0_adds_2_10 rfl ?_
  refine V_iconst dX0_adds_2_11 ckc_0 ?_
  obtain ⟨h7, hf⟩ := ck_ex hf
  obtain ⟨w8, hs9, hf⟩ := st1_ex hf
  refine VE_putI fw_X0_539 h7 rfl rfl rfl hs9 dX0_adds_2_12 ?_
  refine V_iconst dX0_adds_2_15 ckc_0 ?_
  refine V_istore_n (ls' := [some (.ref a), some (.int p0), some (.int (0 : Int32))]) dX0_adds_2_16 (by decide) rfl ?_
  exact lq4_ex (P := fun v0 v1 v2 w => V X cX0_adds_2 RX0 3 5 w 17 [some (.ref v0), some (.int v1), some (.int v2)] []) (fun k hk v0 v1 v2 w hf => mC_X0_adds_2_17_v hE hH k hk v0 v1 v2 w hf) LF a p0 (0 : Int32) w8 hf
set_option maxHeartbeats 4000000 in
theorem mC_X0_seal_ok (l : Launch) (D : DD) (w : AH) (a : Nat) (p0 : Int32) (r : Int32) (w' : AH) (hf : mC_X0_seal a p0 w = some (r, w')) : MA l D yX0_seal cX0_seal 2 (some (.int)) 6 [.ref a, .int p0] w (.returned (some (.int r))) w' := by
  refine MA.introH (own := RX0) (nm := "seal") (ls := [some (.ref a), some (.int p0)]) (by decide) rfl rfl (Nat.le_of_ble_eq_true rfl) rfl (fun X hl hD hE hH => ?_)
  subst hl hD
  unfold mC_X0_seal at hf
  refine V_aload_n dX0_seal_0 rfl ?_
  refine V_iload_n dX0_seal_1 rfl ?_
  obtain ⟨h1, hf⟩ := ck_ex hf
  obtain ⟨r3, hc2, hf⟩ := bd1_ex hf
  refine V_cV (av := [.int p0]) (rest := []) (st' := [.int r3]) (mC_X0_isBooth_ok _ _ _ _ _ _ hc2) vc_X0_416 (kIn1 h1) (by decide) rfl rfl (Nat.le_of_ble_eq_true rfl) dX0_seal_2 rfl ?_
  refine V_if_ne (tgt := 15) dX0_seal_5 (by decide) (fun hc4 => ?_) (fun hc4 => ?_)
  · have hf := if_f hf hc4
    refine V_aload_n dX0_seal_15 rfl ?_
    refine V_iload_n dX0_seal_16 rfl ?_
    obtain ⟨w6, hc5, hf⟩ := bd1_ex hf
    refine V_cV (av := [.int p0]) (rest := []) (st' := []) (mC_X0_adds_2_ok _ _ _ _ _ _ hc5) vc_X0_545 (kIn1 h1) (by decide) rfl rfl (Nat.le_of_ble_eq_true rfl) dX0_seal_17 rfl ?_
    refine V_aload_n dX0_seal_20 rfl ?_
    obtain ⟨h7, hf⟩ := ck_ex hf
    obtain ⟨b8, hb9, hf⟩ := bd1_ex hf
    refine VP_getR (x := some b8) fa_X0_10 h7 rfl rfl hb9 dX0_seal_21 ?_
    obtain ⟨h10, hf⟩ := ck_ex hf
    obtain ⟨b11, hb12, hf⟩ := bd1_ex hf
    refine VP_getR (x := some b11) fa_X0_412 h10 rfl rfl hb12 dX0_seal_24 ?_
    refine V_iload_n dX0_seal_27 rfl ?_
    refine V_aload_n dX0_seal_28 rfl ?_
    refine VP_getI fa_X0_539 h7 rfl dX0_seal_29 ?_
    obtain ⟨h13, hf⟩ := ck_ex hf
    obtain ⟨w14, hs15, hf⟩ := st1_ex hf
    refine VE_iast h13 rfl hs15 dX0_seal_32 ?_
    refine V_aload_n dX0_seal_33 rfl ?_
    obtain ⟨h16, hf⟩ := ck_ex hf
    obtain ⟨b17, hb18, hf⟩ := bd1_ex hf
    refine VP_getR (x := some b17) fa_X0_10 h16 rfl rfl hb18 dX0_seal_34 ?_
    obtain ⟨h19, hf⟩ := ck_ex hf
    obtain ⟨b20, hb21, hf⟩ := bd1_ex hf
    refine VP_getR (x := some b20) fa_X0_547 h19 rfl rfl hb21 dX0_seal_37 ?_
    refine V_iload_n dX0_seal_40 rfl ?_
    refine V_aload_n dX0_seal_41 rfl ?_
    refine VP_getL fa_X0_532 h16 dX0_seal_42 ?_
    obtain ⟨h22, hf⟩ := ck_ex hf
    obtain ⟨w23, hs24, hf⟩ := st1_ex hf
    refine VE_last h22 rfl hs24 dX0_seal_45 ?_
    refine V_aload_n dX0_seal_46 rfl ?_
    obtain ⟨h25, hf⟩ := ck_ex hf
    obtain ⟨b26, hb27, hf⟩ := bd1_ex hf
    refine VP_getR (x := some b26) fa_X0_10 h25 rfl rfl hb27 dX0_seal_47 ?_
    obtain ⟨h28, hf⟩ := ck_ex hf
    obtain ⟨b29, hb30, hf⟩ := bd1_ex hf
    refine VP_getR (x := some b29) fa_X0_549 h28 rfl rfl hb30 dX0_seal_50 ?_
    refine V_iload_n dX0_seal_53 rfl ?_
    refine V_aload_n dX0_seal_54 rfl ?_
    refine VP_getL fa_X0_536 h25 dX0_seal_55 ?_
    obtain ⟨h31, hf⟩ := ck_ex hf
    obtain ⟨w32, hs33, hf⟩ := st1_ex hf
    refine VE_last h31 rfl hs33 dX0_seal_58 ?_
    refine V_aload_n dX0_seal_59 rfl ?_
    refine V_aload_n dX0_seal_60 rfl ?_
    obtain ⟨h34, hf⟩ := ck_ex hf
    refine VP_getI fa_X0_539 h34 rfl dX0_seal_61 ?_
    obtain ⟨r36, w37, hc35, hf⟩ := bd2_ex hf
    refine V_cV (av := [.int (hvi w32 a 38)]) (rest := []) (st' := [.int r36]) (mC_X0_done_ok _ _ _ _ _ _ _ hc35) vc_X0_123 (kIn1 h34) (by decide) rfl rfl (Nat.le_of_ble_eq_true rfl) dX0_seal_64 rfl ?_
    cases some_ex hf
    exact V_iret hE dX0_seal_67
  · have hf := if_t hf hc4
    refine V_aload_n dX0_seal_8 rfl ?_
    refine V_bipush dX0_seal_9 ckb_m2 ?_
    obtain ⟨r39, w40, hc38, hf⟩ := bd2_ex hf
    refine V_cV (av := [.int (-2 : Int32)]) (rest := []) (st' := [.int r39]) (mC_X0_refuse_ok _ _ _ _ _ _ _ hc38) vc_X0_131 (kIn1 h1) (by decide) rfl rfl (Nat.le_of_ble_eq_true rfl) dX0_seal_11 rfl ?_
    cases some_ex hf
    exact V_iret hE dX0_seal_14
set_option maxHeartbeats 4000000 in
theorem mC_X0_alter_35_v {X : CX} {w0 : AH} {r : Int32} {w' : AH}  (hE : XE X w0 3 (some (.int)) "alter" (.returned (some (.int r))) w') (hH : XH X []) (v0 : Nat) (w : AH) (hf : mC_X0_alter_35 v0 w = some (r, w')) : V X cX0_alter RX0 3 3 w 35 [some (.ref v0), none, none] [] := by
  unfold mC_X0_alter_35 at hf
  refine V_aload_n dX0_alter_35 rfl ?_
  refine V_bipush dX0_alter_36 ckb_m2 ?_
  obtain ⟨h1, hf⟩ := ck_ex hf
  obtain ⟨r3, w4, hc2, hf⟩ := bd2_ex hf
  refine V_cV (av := [.int (-2 : Int32)]) (rest := []) (st' := [.int r3]) (mC_X0_refuse_ok _ _ _ _ _ _ _ hc2) vc_X0_131 (kIn1 h1) (by decide) rfl rfl (Nat.le_of_ble_eq_true rfl) dX0_alter_38 rfl ?_
  cases some_ex hf
  exact V_iret hE dX0_alter_41
set_option maxHeartbeats 4000000 in
theorem mC_X0_alter_ok (l : Launch) (D : DD) (w : AH) (a : Nat) (p0 : Int32) (p1 : Int32) (r : Int32) (w' : AH) (hf : mC_X0_alter a p0 p1 w = some (r, w')) : MA l D yX0_alter cX0_alter 3 (some (.int)) 3 [.ref a, .int p0, .int p1] w (.returned (some (.int r))) w' := by
  refine MA.introH (own := RX0) (nm := "alter") (ls := [some (.ref a), some (.int p0), some (.int p1)]) (by decide) rfl rfl (Nat.le_of_ble_eq_true rfl) rfl (fun X hl hD hE hH => ?_)
  subst hl hD
  unfold mC_X0_alter at hf
  refine V_iload_n dX0_alter_0 rfl ?_
  refine V_iconst dX0_alter_1 ckc_1 ?_
  refine V_sipush dX0_alter_2 cks_255 ?_
  obtain ⟨r2, hc1, hf⟩ := bd1_ex hf
  refine V_cS (rest := []) (st' := [.int r2]) (mC_X0_in_ok _ _ _ _ _ _ _ hc1) sc_X0_127 (by decide) rfl rfl (Nat.le_of_ble_eq_true rfl) dX0_alter_5 rfl ?_
  refine V_if_ne (tgt := 17) dX0_alter_8 (by decide) (fun hc3 => ?_) (fun hc3 => ?_)
  · have hf := if_f hf hc3
    refine V_iload_n dX0_alter_17 rfl ?_
    refine V_if_lt (tgt := 35) dX0_alter_18 (by decide) (fun hc4 => ?_) (fun hc4 => ?_)
    · have hf := if_t hf hc4
      refine V_keep [true, false, false] rfl ?_
      exact mC_X0_alter_35_v hE hH a w hf
    · have hf := if_f hf hc4
      refine V_iload_n dX0_alter_21 rfl ?_
      refine V_aload_n dX0_alter_22 rfl ?_
      obtain ⟨h5, hf⟩ := ck_ex hf
      obtain ⟨b6, hb7, hf⟩ := bd1_ex hf
      refine VP_getR (x := some b6) fa_X0_10 h5 rfl rfl hb7 dX0_alter_23 ?_
      obtain ⟨h8, hf⟩ := ck_ex hf
      obtain ⟨b9, hb10, hf⟩ := bd1_ex hf
      refine VP_getR (x := some b9) fa_X0_451 h8 rfl rfl hb10 dX0_alter_26 ?_
      obtain ⟨h11, hf⟩ := ck_ex hf
      obtain ⟨r13, hc12, hf⟩ := bd1_ex hf
      refine V_cV (av := []) (rest := [.int p0]) (st' := [.int r13, .int p0]) (mC_J2_size_ok _ _ _ _ _ hc12) vc_X0_148 (kIn1 h11) (by decide) rfl rfl (Nat.le_of_ble_eq_true rfl) dX0_alter_29 rfl ?_
      refine V_icmp_lt (tgt := 42) dX0_alter_32 (by decide) (fun hc14 => ?_) (fun hc14 => ?_)
      · have hf := if_t hf hc14
        refine V_aload_n dX0_alter_42 rfl ?_
        refine VP_getR (x := some b6) fa_X0_10 h5 rfl rfl hb7 dX0_alter_43 ?_
        obtain ⟨b15, hb16, hf⟩ := bd1_ex hf
        refine VP_getR (x := some b15) fa_X0_454 h8 rfl rfl hb16 dX0_alter_46 ?_
        refine V_iload_n dX0_alter_49 rfl ?_
        refine V_dup2 dX0_alter_50 rfl rfl ?_
        obtain ⟨h17, hf⟩ := ck_ex hf
        refine VE_iald h17 rfl dX0_alter_51 ?_
        refine V_iload_n dX0_alter_52 rfl ?_
        refine V_ixor dX0_alter_53 ?_
        obtain ⟨w18, hs19, hf⟩ := st1_ex hf
        refine VE_iast h17 rfl hs19 dX0_alter_54 ?_
        refine V_aload_n dX0_alter_55 rfl ?_
        refine V_aload_n dX0_alter_56 rfl ?_
        obtain ⟨h20, hf⟩ := ck_ex hf
        obtain ⟨b21, hb22, hf⟩ := bd1_ex hf
        refine VP_getR (x := some b21) fa_X0_10 h20 rfl rfl hb22 dX0_alter_57 ?_
        obtain ⟨h23, hf⟩ := ck_ex hf
        obtain ⟨b24, hb25, hf⟩ := bd1_ex hf
        refine VP_getR (x := some b24) fa_X0_454 h23 rfl rfl hb25 dX0_alter_60 ?_
        refine V_iload_n dX0_alter_63 rfl ?_
        obtain ⟨h26, hf⟩ := ck_ex hf
        refine VE_iald h26 rfl dX0_alter_64 ?_
        obtain ⟨r28, w29, hc27, hf⟩ := bd2_ex hf
        refine V_cV (av := [.int (hvi w18 b24 (p0.toNatClampNeg))]) (rest := []) (st' := [.int r28]) (mC_X0_told_ok _ _ _ _ _ _ _ hc27) vc_X0_138 (kIn1 h20) (by decide) rfl rfl (Nat.le_of_ble_eq_true rfl) dX0_alter_65 rfl ?_
        cases some_ex hf
        exact V_iret hE dX0_alter_68
      · have hf := if_f hf hc14
        refine V_keep [true, false, false] rfl ?_
        exact mC_X0_alter_35_v hE hH a w hf
  · have hf := if_t hf hc3
    refine V_aload_n dX0_alter_11 rfl ?_
    refine V_iconst dX0_alter_12 ckc_m1 ?_
    obtain ⟨h30, hf⟩ := ck_ex hf
    obtain ⟨r32, w33, hc31, hf⟩ := bd2_ex hf
    refine V_cV (av := [.int (-1 : Int32)]) (rest := []) (st' := [.int r32]) (mC_X0_refuse_ok _ _ _ _ _ _ _ hc31) vc_X0_131 (kIn1 h30) (by decide) rfl rfl (Nat.le_of_ble_eq_true rfl) dX0_alter_13 rfl ?_
    cases some_ex hf
    exact V_iret hE dX0_alter_16
set_option maxHeartbeats 4000000 in
theorem mC_X0_found_151_v {X : CX} {w0 : AH} {r : Int32} {w' : AH}  (hE : XE X w0 6 (some (.int)) "found" (.returned (some (.int r))) w') (hH : XH X []) (k100 : Nat → Int32 → Int64 → Int64 → Int32 → Int32 → AH → Option (Int32 × AH)) (hk100 : ∀ (v0 : Nat) (v1 : Int32) (v2 : Int64) (v4 : Int64) (v6 : Int32) (v7 : Int32) (w : AH), k100 v0 v1 v2 v4 v6 v7 w = some (r, w') → V X cX0_found RX0 8 6 w 100 [some (.ref v0), some (.int v1), some (.long v2), none, some (.long v4), none, some (.int v6), some (.int v7)] []) (v0 : Nat) (v1 : Int32) (v2 : Int64) (v4 : Int64) (v6 : Int32) (v7 : Int32) (w : AH) (hf : mC_X0_found_151 k100 v0 v1 v2 v4 v6 v7 w = some (r, w')) : V X cX0_found RX0 8 6 w 151 [some (.ref v0), some (.int v1), some (.long v2), none, some (.long v4), none, some (.int v6), some (.int v7)] [] := by
  unfold mC_X0_found_151 at hf
  refine V_inc (ls' := [some (.ref v0), some (.int v1), some (.long v2), none, some (.long v4), none, some (.int v6), some (.int (v7 + (1 : Int32)))]) dX0_found_151 rfl ckc_1 (by decide) rfl ?_
  refine V_goto (tgt := 100) dX0_found_154 (by decide) ?_
  exact hk100 v0 v1 v2 v4 v6 (v7 + (1 : Int32)) w hf
set_option maxHeartbeats 4000000 in
theorem mC_X0_found_100_v {X : CX} {w0 : AH} {r : Int32} {w' : AH}  (hE : XE X w0 6 (some (.int)) "found" (.returned (some (.int r))) w') (hH : XH X []) (k100 : Nat → Int32 → Int64 → Int64 → Int32 → Int32 → AH → Option (Int32 × AH)) (hk100 : ∀ (v0 : Nat) (v1 : Int32) (v2 : Int64) (v4 : Int64) (v6 : Int32) (v7 : Int32) (w : AH), k100 v0 v1 v2 v4 v6 v7 w = some (r, w') → V X cX0_found RX0 8 6 w 100 [some (.ref v0), some (.int v1), some (.long v2), none, some (.long v4), none, some (.int v6), some (.int v7)] []) (v0 : Nat) (v1 : Int32) (v2 : Int64) (v4 : Int64) (v6 : Int32) (v7 : Int32) (w : AH) (hf : mC_X0_found_100 k100 v0 v1 v2 v4 v6 v7 w = some (r, w')) : V X cX0_found RX0 8 6 w 100 [some (.ref v0), some (.int v1), some (.long v2), none, some (.long v4), none, some (.int v6), some (.int v7)] [] := by
  unfold mC_X0_found_100 at hf
  refine V_iload dX0_found_100 rfl ?_
  refine V_aload_n dX0_found_102 rfl ?_
  obtain ⟨h1, hf⟩ := ck_ex hf
  obtain ⟨b2, hb3, hf⟩ := bd1_ex hf
  refine VP_getR (x := some b2) fa_X0_10 h1 rfl rfl hb3 dX0_found_103 ?_
  obtain ⟨h4, hf⟩ := ck_ex hf
  obtain ⟨b5, hb6, hf⟩ := bd1_ex hf
  refine VP_getR (x := some b5) fa_X0_451 h4 rfl rfl hb6 dX0_found_106 ?_
  obtain ⟨h7, hf⟩ := ck_ex hf
  obtain ⟨r9, hc8, hf⟩ := bd1_ex hf
  refine V_cV (av := []) (rest := [.int v7]) (st' := [.int r9, .int v7]) (mC_J2_size_ok _ _ _ _ _ hc8) vc_X0_148 (kIn1 h7) (by decide) rfl rfl (Nat.le_of_ble_eq_true rfl) dX0_found_109 rfl ?_
  refine V_icmp_ge (tgt := 157) dX0_found_112 (by decide) (fun hc10 => ?_) (fun hc10 => ?_)
  · have hf := if_t hf hc10
    refine V_bipush dX0_found_157 ckb_m2 ?_
    cases some_ex hf
    exact V_iret hE dX0_found_159
  · have hf := if_f hf hc10
    refine V_lload_n dX0_found_115 rfl ?_
    refine V_lconst dX0_found_116 ckl_0 ?_
    refine V_lif_eq (tgt := 157) dX0_found_117 dX0_found_118 (by decide) (fun hc11 => ?_) (fun hc11 => ?_)
    · have hf := if_t hf hc11
      refine V_bipush dX0_found_157 ckb_m2 ?_
      cases some_ex hf
      exact V_iret hE dX0_found_159
    · have hf := if_f hf hc11
      refine V_aload_n dX0_found_121 rfl ?_
      refine V_iload dX0_found_122 rfl ?_
      refine V_iload_n dX0_found_124 rfl ?_
      obtain ⟨r13, hc12, hf⟩ := bd1_ex hf
      refine V_cV (av := [.int v7, .int v1]) (rest := []) (st' := [.int r13]) (mC_X0_isOf_ok _ _ _ _ _ _ _ hc12) vc_X0_542 (kIn1 h1) (by decide) rfl rfl (Nat.le_of_ble_eq_true rfl) dX0_found_125 rfl ?_
      refine V_if_ne (tgt := 134) dX0_found_128 (by decide) (fun hc14 => ?_) (fun hc14 => ?_)
      · have hf := if_f hf hc14
        refine V_inc (ls' := [some (.ref v0), some (.int v1), some (.long v2), none, some (.long v4), none, some (.int (v6 + (1 : Int32))), some (.int v7)]) dX0_found_134 rfl ckc_1 (by decide) rfl ?_
        refine V_iload dX0_found_137 rfl ?_
        refine V_i2l dX0_found_139 ?_
        refine V_lload_n dX0_found_140 rfl ?_
        refine V_lmul dX0_found_141 ?_
        refine V_lload dX0_found_142 rfl ?_
        refine V_lif_ne (tgt := 151) dX0_found_144 dX0_found_145 (by decide) (fun hc15 => ?_) (fun hc15 => ?_)
        · have hf := if_f hf hc15
          exact mC_X0_found_151_v hE hH k100 hk100 v0 v1 v2 v4 (v6 + (1 : Int32)) v7 w hf
        · have hf := if_t hf hc15
          refine V_iload dX0_found_148 rfl ?_
          cases some_ex hf
          exact V_iret hE dX0_found_150
      · have hf := if_t hf hc14
        refine V_goto (tgt := 151) dX0_found_131 (by decide) ?_
        exact mC_X0_found_151_v hE hH k100 hk100 v0 v1 v2 v4 v6 v7 w hf
set_option maxHeartbeats 4000000 in
theorem mC_X0_found_94_v {X : CX} {w0 : AH} {r : Int32} {w' : AH}  (hE : XE X w0 6 (some (.int)) "found" (.returned (some (.int r))) w') (hH : XH X []) (v0 : Nat) (v1 : Int32) (v2 : Int64) (v4 : Int64) (w : AH) (hf : mC_X0_found_94 v0 v1 v2 v4 w = some (r, w')) : V X cX0_found RX0 8 6 w 94 [some (.ref v0), some (.int v1), some (.long v2), none, some (.long v4), none, none, none] [] := by
  unfold mC_X0_found_94 at hf
  refine V_iconst dX0_found_94 ckc_0 ?_
  refine V_istore (ls' := [some (.ref v0), some (.int v1), some (.long v2), none, some (.long v4), none, some (.int (0 : Int32)), none]) dX0_found_95 (by decide) rfl ?_
  refine V_iconst dX0_found_97 ckc_0 ?_
  refine V_istore (ls' := [some (.ref v0), some (.int v1), some (.long v2), none, some (.long v4), none, some (.int (0 : Int32)), some (.int (0 : Int32))]) dX0_found_98 (by decide) rfl ?_
  exact lq7_ex (P := fun v0 v1 v2 v4 v6 v7 w => V X cX0_found RX0 8 6 w 100 [some (.ref v0), some (.int v1), some (.long v2), none, some (.long v4), none, some (.int v6), some (.int v7)] []) (fun k hk v0 v1 v2 v4 v6 v7 w hf => mC_X0_found_100_v hE hH k hk v0 v1 v2 v4 v6 v7 w hf) LF v0 v1 v2 v4 (0 : Int32) (0 : Int32) w hf
set_option maxHeartbeats 4000000 in
theorem mC_X0_found_ok (l : Launch) (D : DD) (w : AH) (a : Nat) (p0 : Int32) (r : Int32) (w' : AH) (hf : mC_X0_found a p0 w = some (r, w')) : MA l D yX0_found cX0_found 8 (some (.int)) 6 [.ref a, .int p0] w (.returned (some (.int r))) w' := by
  refine MA.introH (own := RX0) (nm := "found") (ls := [some (.ref a), some (.int p0), none, none, none, none, none, none]) (by decide) rfl rfl (Nat.le_of_ble_eq_true rfl) rfl (fun X hl hD hE hH => ?_)
  subst hl hD
  unfold mC_X0_found at hf
  refine V_aload_n dX0_found_0 rfl ?_
  refine V_iload_n dX0_found_1 rfl ?_
  obtain ⟨h1, hf⟩ := ck_ex hf
  obtain ⟨r3, hc2, hf⟩ := bd1_ex hf
  refine V_cV (av := [.int p0]) (rest := []) (st' := [.int r3]) (mC_X0_isBooth_ok _ _ _ _ _ _ hc2) vc_X0_416 (kIn1 h1) (by decide) rfl rfl (Nat.le_of_ble_eq_true rfl) dX0_found_2 rfl ?_
  refine V_if_eq (tgt := 21) dX0_found_5 (by decide) (fun hc4 => ?_) (fun hc4 => ?_)
  · have hf := if_t hf hc4
    refine V_bipush dX0_found_21 ckb_m3 ?_
    cases some_ex hf
    exact V_iret hE dX0_found_23
  · have hf := if_f hf hc4
    refine V_aload_n dX0_found_8 rfl ?_
    obtain ⟨b5, hb6, hf⟩ := bd1_ex hf
    refine VP_getR (x := some b5) fa_X0_10 h1 rfl rfl hb6 dX0_found_9 ?_
    obtain ⟨h7, hf⟩ := ck_ex hf
    obtain ⟨b8, hb9, hf⟩ := bd1_ex hf
    refine VP_getR (x := some b8) fa_X0_412 h7 rfl rfl hb9 dX0_found_12 ?_
    refine V_iload_n dX0_found_15 rfl ?_
    obtain ⟨h10, hf⟩ := ck_ex hf
    refine VE_iald h10 rfl dX0_found_16 ?_
    refine V_iconst dX0_found_17 ckc_m1 ?_
    refine V_icmp_ne (tgt := 24) dX0_found_18 (by decide) (fun hc11 => ?_) (fun hc11 => ?_)
    · have hf := if_f hf hc11
      refine V_aload_n dX0_found_24 rfl ?_
      refine V_iload_n dX0_found_25 rfl ?_
      obtain ⟨w13, hc12, hf⟩ := bd1_ex hf
      refine V_cV (av := [.int p0]) (rest := []) (st' := []) (mC_X0_adds_2_ok _ _ _ _ _ _ hc12) vc_X0_545 (kIn1 h1) (by decide) rfl rfl (Nat.le_of_ble_eq_true rfl) dX0_found_26 rfl ?_
      refine V_aload_n dX0_found_29 rfl ?_
      obtain ⟨h14, hf⟩ := ck_ex hf
      refine VP_getI fa_X0_539 h14 rfl dX0_found_30 ?_
      refine V_aload_n dX0_found_33 rfl ?_
      obtain ⟨b15, hb16, hf⟩ := bd1_ex hf
      refine VP_getR (x := some b15) fa_X0_10 h14 rfl rfl hb16 dX0_found_34 ?_
      obtain ⟨h17, hf⟩ := ck_ex hf
      obtain ⟨b18, hb19, hf⟩ := bd1_ex hf
      refine VP_getR (x := some b18) fa_X0_412 h17 rfl rfl hb19 dX0_found_37 ?_
      refine V_iload_n dX0_found_40 rfl ?_
      obtain ⟨h20, hf⟩ := ck_ex hf
      refine VE_iald h20 rfl dX0_found_41 ?_
      refine V_icmp_eq (tgt := 48) dX0_found_42 (by decide) (fun hc21 => ?_) (fun hc21 => ?_)
      · have hf := if_t hf hc21
        refine V_aload_n dX0_found_48 rfl ?_
        refine VP_getL fa_X0_532 h14 dX0_found_49 ?_
        refine V_aload_n dX0_found_52 rfl ?_
        refine VP_getR (x := some b15) fa_X0_10 h14 rfl rfl hb16 dX0_found_53 ?_
        obtain ⟨b22, hb23, hf⟩ := bd1_ex hf
        refine VP_getR (x := some b22) fa_X0_547 h17 rfl rfl hb23 dX0_found_56 ?_
        refine V_iload_n dX0_found_59 rfl ?_
        obtain ⟨h24, hf⟩ := ck_ex hf
        refine VE_lald h24 rfl dX0_found_60 ?_
        refine V_lsub dX0_found_61 ?_
        refine V_lstore_n (ls' := [some (.ref a), some (.int p0), some (.long ((hvl w13 a 36) - (hvl w13 b22 (p0.toNatClampNeg)))), none, none, none, none, none]) dX0_found_62 (by decide) rfl ?_
        refine V_aload_n dX0_found_63 rfl ?_
        refine VP_getL fa_X0_536 h14 dX0_found_64 ?_
        refine V_aload_n dX0_found_67 rfl ?_
        refine VP_getR (x := some b15) fa_X0_10 h14 rfl rfl hb16 dX0_found_68 ?_
        obtain ⟨b25, hb26, hf⟩ := bd1_ex hf
        refine VP_getR (x := some b25) fa_X0_549 h17 rfl rfl hb26 dX0_found_71 ?_
        refine V_iload_n dX0_found_74 rfl ?_
        obtain ⟨h27, hf⟩ := ck_ex hf
        refine VE_lald h27 rfl dX0_found_75 ?_
        refine V_lsub dX0_found_76 ?_
        refine V_lstore (ls' := [some (.ref a), some (.int p0), some (.long ((hvl w13 a 36) - (hvl w13 b22 (p0.toNatClampNeg)))), none, some (.long ((hvl w13 a 37) - (hvl w13 b25 (p0.toNatClampNeg)))), none, none, none]) dX0_found_77 (by decide) rfl ?_
        refine V_lload_n dX0_found_79 rfl ?_
        refine V_lconst dX0_found_80 ckl_0 ?_
        refine V_lif_ne (tgt := 94) dX0_found_81 dX0_found_82 (by decide) (fun hc28 => ?_) (fun hc28 => ?_)
        · have hf := if_f hf hc28
          exact mC_X0_found_94_v hE hH a p0 ((hvl w13 a 36) - (hvl w13 b22 (p0.toNatClampNeg))) ((hvl w13 a 37) - (hvl w13 b25 (p0.toNatClampNeg))) w13 hf
        · have hf := if_t hf hc28
          refine V_lload dX0_found_85 rfl ?_
          refine V_lconst dX0_found_87 ckl_0 ?_
          refine V_lif_ne (tgt := 94) dX0_found_88 dX0_found_89 (by decide) (fun hc29 => ?_) (fun hc29 => ?_)
          · have hf := if_f hf hc29
            exact mC_X0_found_94_v hE hH a p0 ((hvl w13 a 36) - (hvl w13 b22 (p0.toNatClampNeg))) ((hvl w13 a 37) - (hvl w13 b25 (p0.toNatClampNeg))) w13 hf
          · have hf := if_t hf hc29
            refine V_iconst dX0_found_92 ckc_m1 ?_
            cases some_ex hf
            exact V_iret hE dX0_found_93
      · have hf := if_f hf hc21
        refine V_bipush dX0_found_45 ckb_m2 ?_
        cases some_ex hf
        exact V_iret hE dX0_found_47
    · have hf := if_t hf hc11
      refine V_bipush dX0_found_21 ckb_m3 ?_
      cases some_ex hf
      exact V_iret hE dX0_found_23
set_option maxHeartbeats 4000000 in
theorem mC_X0_all_ok (l : Launch) (D : DD) (w : AH) (a : Nat) (p0 : Int32) (r : Int32) (hf : mC_X0_all a p0 w = some r) : MA l D yX0_all cX0_all 2 (some (.int)) 2 [.ref a, .int p0] w (.returned (some (.int r))) w := by
  refine MA.introH (own := RX0) (nm := "all") (ls := [some (.ref a), some (.int p0)]) (by decide) rfl rfl (Nat.le_of_ble_eq_true rfl) rfl (fun X hl hD hE hH => ?_)
  subst hl hD
  unfold mC_X0_all at hf
  refine V_iload_n dX0_all_0 rfl ?_
  by_cases hw0 : p0 = (0 : Int32)
  · have hf := if_t hf hw0
    refine V_tableIn (off := 51) (tgt := 52) dX0_all_1 (by rw [hw0]; decide) (by rw [hw0]; decide) (by rw [hw0]; rfl) (by decide) ?_
    refine V_aload_n dX0_all_52 rfl ?_
    obtain ⟨h1, hf⟩ := ck_ex hf
    obtain ⟨b2, hb3, hf⟩ := bd1_ex hf
    refine VP_getR (x := some b2) fa_X0_10 h1 rfl rfl hb3 dX0_all_53 ?_
    obtain ⟨h4, hf⟩ := ck_ex hf
    refine VP_getI fa_X0_141 h4 rfl dX0_all_56 ?_
    cases some_ex hf
    exact V_iret hE dX0_all_59
  replace hf := if_f hf hw0
  by_cases hw1 : p0 = (1 : Int32)
  · have hf := if_t hf hw1
    refine V_tableIn (off := 59) (tgt := 60) dX0_all_1 (by rw [hw1]; decide) (by rw [hw1]; decide) (by rw [hw1]; rfl) (by decide) ?_
    refine V_aload_n dX0_all_60 rfl ?_
    obtain ⟨h5, hf⟩ := ck_ex hf
    obtain ⟨b6, hb7, hf⟩ := bd1_ex hf
    refine VP_getR (x := some b6) fa_X0_10 h5 rfl rfl hb7 dX0_all_61 ?_
    obtain ⟨h8, hf⟩ := ck_ex hf
    obtain ⟨b9, hb10, hf⟩ := bd1_ex hf
    refine VP_getR (x := some b9) fa_X0_144 h8 rfl rfl hb10 dX0_all_64 ?_
    obtain ⟨h11, hf⟩ := ck_ex hf
    obtain ⟨r13, hc12, hf⟩ := bd1_ex hf
    refine V_cV (av := []) (rest := []) (st' := [.int r13]) (mC_J2_size_ok _ _ _ _ _ hc12) vc_X0_148 (kIn1 h11) (by decide) rfl rfl (Nat.le_of_ble_eq_true rfl) dX0_all_67 rfl ?_
    cases some_ex hf
    exact V_iret hE dX0_all_70
  replace hf := if_f hf hw1
  by_cases hw2 : p0 = (2 : Int32)
  · have hf := if_t hf hw2
    refine V_tableIn (off := 70) (tgt := 71) dX0_all_1 (by rw [hw2]; decide) (by rw [hw2]; decide) (by rw [hw2]; rfl) (by decide) ?_
    refine V_aload_n dX0_all_71 rfl ?_
    obtain ⟨h14, hf⟩ := ck_ex hf
    obtain ⟨b15, hb16, hf⟩ := bd1_ex hf
    refine VP_getR (x := some b15) fa_X0_10 h14 rfl rfl hb16 dX0_all_72 ?_
    obtain ⟨h17, hf⟩ := ck_ex hf
    obtain ⟨b18, hb19, hf⟩ := bd1_ex hf
    refine VP_getR (x := some b18) fa_X0_292 h17 rfl rfl hb19 dX0_all_75 ?_
    obtain ⟨h20, hf⟩ := ck_ex hf
    obtain ⟨r22, hc21, hf⟩ := bd1_ex hf
    refine V_cV (av := []) (rest := []) (st' := [.int r22]) (mC_J2_size_ok _ _ _ _ _ hc21) vc_X0_148 (kIn1 h20) (by decide) rfl rfl (Nat.le_of_ble_eq_true rfl) dX0_all_78 rfl ?_
    cases some_ex hf
    exact V_iret hE dX0_all_81
  replace hf := if_f hf hw2
  by_cases hw3 : p0 = (3 : Int32)
  · have hf := if_t hf hw3
    refine V_tableIn (off := 81) (tgt := 82) dX0_all_1 (by rw [hw3]; decide) (by rw [hw3]; decide) (by rw [hw3]; rfl) (by decide) ?_
    refine V_aload_n dX0_all_82 rfl ?_
    obtain ⟨h23, hf⟩ := ck_ex hf
    obtain ⟨b24, hb25, hf⟩ := bd1_ex hf
    refine VP_getR (x := some b24) fa_X0_10 h23 rfl rfl hb25 dX0_all_83 ?_
    obtain ⟨h26, hf⟩ := ck_ex hf
    refine VP_getI fa_X0_154 h26 rfl dX0_all_86 ?_
    cases some_ex hf
    exact V_iret hE dX0_all_89
  replace hf := if_f hf hw3
  by_cases hw4 : p0 = (4 : Int32)
  · have hf := if_t hf hw4
    refine V_tableIn (off := 89) (tgt := 90) dX0_all_1 (by rw [hw4]; decide) (by rw [hw4]; decide) (by rw [hw4]; rfl) (by decide) ?_
    refine V_aload_n dX0_all_90 rfl ?_
    obtain ⟨h27, hf⟩ := ck_ex hf
    obtain ⟨b28, hb29, hf⟩ := bd1_ex hf
    refine VP_getR (x := some b28) fa_X0_10 h27 rfl rfl hb29 dX0_all_91 ?_
    obtain ⟨h30, hf⟩ := ck_ex hf
    refine VP_getI fa_X0_157 h30 rfl dX0_all_94 ?_
    cases some_ex hf
    exact V_iret hE dX0_all_97
  replace hf := if_f hf hw4
  by_cases hw5 : p0 = (5 : Int32)
  · have hf := if_t hf hw5
    refine V_tableIn (off := 97) (tgt := 98) dX0_all_1 (by rw [hw5]; decide) (by rw [hw5]; decide) (by rw [hw5]; rfl) (by decide) ?_
    refine V_aload_n dX0_all_98 rfl ?_
    obtain ⟨h31, hf⟩ := ck_ex hf
    obtain ⟨b32, hb33, hf⟩ := bd1_ex hf
    refine VP_getR (x := some b32) fa_X0_10 h31 rfl rfl hb33 dX0_all_99 ?_
    obtain ⟨h34, hf⟩ := ck_ex hf
    obtain ⟨b35, hb36, hf⟩ := bd1_ex hf
    refine VP_getR (x := some b35) fa_X0_428 h34 rfl rfl hb36 dX0_all_102 ?_
    obtain ⟨h37, hf⟩ := ck_ex hf
    obtain ⟨r39, hc38, hf⟩ := bd1_ex hf
    refine V_cV (av := []) (rest := []) (st' := [.int r39]) (mC_J2_size_ok _ _ _ _ _ hc38) vc_X0_148 (kIn1 h37) (by decide) rfl rfl (Nat.le_of_ble_eq_true rfl) dX0_all_105 rfl ?_
    cases some_ex hf
    exact V_iret hE dX0_all_108
  replace hf := if_f hf hw5
  by_cases hw6 : p0 = (6 : Int32)
  · have hf := if_t hf hw6
    refine V_tableIn (off := 108) (tgt := 109) dX0_all_1 (by rw [hw6]; decide) (by rw [hw6]; decide) (by rw [hw6]; rfl) (by decide) ?_
    refine V_aload_n dX0_all_109 rfl ?_
    obtain ⟨h40, hf⟩ := ck_ex hf
    obtain ⟨b41, hb42, hf⟩ := bd1_ex hf
    refine VP_getR (x := some b41) fa_X0_10 h40 rfl rfl hb42 dX0_all_110 ?_
    obtain ⟨h43, hf⟩ := ck_ex hf
    obtain ⟨b44, hb45, hf⟩ := bd1_ex hf
    refine VP_getR (x := some b44) fa_X0_451 h43 rfl rfl hb45 dX0_all_113 ?_
    obtain ⟨h46, hf⟩ := ck_ex hf
    obtain ⟨r48, hc47, hf⟩ := bd1_ex hf
    refine V_cV (av := []) (rest := []) (st' := [.int r48]) (mC_J2_size_ok _ _ _ _ _ hc47) vc_X0_148 (kIn1 h46) (by decide) rfl rfl (Nat.le_of_ble_eq_true rfl) dX0_all_116 rfl ?_
    cases some_ex hf
    exact V_iret hE dX0_all_119
  replace hf := if_f hf hw6
  by_cases hw7 : p0 = (7 : Int32)
  · have hf := if_t hf hw7
    refine V_tableIn (off := 119) (tgt := 120) dX0_all_1 (by rw [hw7]; decide) (by rw [hw7]; decide) (by rw [hw7]; rfl) (by decide) ?_
    refine V_aload_n dX0_all_120 rfl ?_
    obtain ⟨h49, hf⟩ := ck_ex hf
    refine VP_getI fa_X0_379 h49 rfl dX0_all_121 ?_
    cases some_ex hf
    exact V_iret hE dX0_all_124
  replace hf := if_f hf hw7
  by_cases hw8 : p0 = (8 : Int32)
  · have hf := if_t hf hw8
    refine V_tableIn (off := 124) (tgt := 125) dX0_all_1 (by rw [hw8]; decide) (by rw [hw8]; decide) (by rw [hw8]; rfl) (by decide) ?_
    refine V_aload_n dX0_all_125 rfl ?_
    obtain ⟨h50, hf⟩ := ck_ex hf
    refine VP_getI fa_X0_213 h50 rfl dX0_all_126 ?_
    cases some_ex hf
    exact V_iret hE dX0_all_129
  replace hf := if_f hf hw8
  have hw0' := lv_neT hw0 (show (0 : Int32).toInt = 0 from by decide)
  have hw1' := lv_neT hw1 (show (1 : Int32).toInt = 1 from by decide)
  have hw2' := lv_neT hw2 (show (2 : Int32).toInt = 2 from by decide)
  have hw3' := lv_neT hw3 (show (3 : Int32).toInt = 3 from by decide)
  have hw4' := lv_neT hw4 (show (4 : Int32).toInt = 4 from by decide)
  have hw5' := lv_neT hw5 (show (5 : Int32).toInt = 5 from by decide)
  have hw6' := lv_neT hw6 (show (6 : Int32).toInt = 6 from by decide)
  have hw7' := lv_neT hw7 (show (7 : Int32).toInt = 7 from by decide)
  have hw8' := lv_neT hw8 (show (8 : Int32).toInt = 8 from by decide)
  refine V_tableOut (tgt := 130) dX0_all_1 (by omega) (by decide) ?_
  refine V_iconst dX0_all_130 ckc_m1 ?_
  cases some_ex hf
  exact V_iret hE dX0_all_131
set_option maxHeartbeats 4000000 in
theorem mC_X0_status_ok (l : Launch) (D : DD) (w : AH) (a : Nat) (r : Int32) (hf : mC_X0_status a w = some r) : MA l D yX0_status cX0_status 1 (some (.int)) 1 [.ref a] w (.returned (some (.int r))) w := by
  refine MA.introH (own := RX0) (nm := "status") (ls := [some (.ref a)]) (by decide) rfl rfl (Nat.le_of_ble_eq_true rfl) rfl (fun X hl hD hE hH => ?_)
  subst hl hD
  unfold mC_X0_status at hf
  refine V_aload_n dX0_status_0 rfl ?_
  obtain ⟨h1, hf⟩ := ck_ex hf
  refine VP_getI fa_X0_117 h1 rfl dX0_status_1 ?_
  cases some_ex hf
  exact V_iret hE dX0_status_4
set_option maxHeartbeats 4000000 in
theorem mC_X7_init_ok (l : Launch) (D : DD) (w : AH) (a : Nat) (w' : AH) (hf : mC_X7_init a w = some w') : MA l D yX7_init cX7_init 1 none 1 [.ref a] w (.returned none) w' := by
  refine MA.introH (own := RX7) (nm := "<init>") (ls := [some (.ref a)]) (by decide) rfl rfl (Nat.le_of_ble_eq_true rfl) rfl (fun X hl hD hE hH => ?_)
  subst hl hD
  unfold mC_X7_init at hf
  refine V_aload_n dX7_init_0 rfl ?_
  refine V_objInit q1768 q182 q183 (by decide) (Nat.le_of_ble_eq_true rfl) dX7_init_1 ?_
  refine V_aload_n dX7_init_4 rfl ?_
  refine V_sipush dX7_init_5 cks_23016 ?_
  obtain ⟨h1, hf⟩ := ck_ex hf
  obtain ⟨b2, hb3, hf⟩ := st1_ex hf
  obtain ⟨w4, hs5, hf⟩ := st1_ex hf
  refine VE_newa (k := 1) rfl (by decide) (by decide) ac_1 rfl h1 (by decide) hb3 hs5 dX7_init_8 ?_
  obtain ⟨h6, hf⟩ := ck_ex hf
  obtain ⟨w7, hs8, hf⟩ := st1_ex hf
  refine VE_putRF (x := (some b2)) ff_X7_7 h6 hE.ini rfl hs8 dX7_init_10 ?_
  refine V_aload_n dX7_init_13 rfl ?_
  refine V_ldc q1769 dX7_init_14 ?_
  obtain ⟨h9, hf⟩ := ck_ex hf
  obtain ⟨b10, hb11, hf⟩ := st1_ex hf
  obtain ⟨w12, hs13, hf⟩ := st1_ex hf
  refine VE_newa (k := 1) rfl (by decide) (by decide) ac_1 rfl h9 (by decide) hb11 hs13 dX7_init_16 ?_
  obtain ⟨h14, hf⟩ := ck_ex hf
  obtain ⟨w15, hs16, hf⟩ := st1_ex hf
  refine VE_putRF (x := (some b10)) ff_X7_14 h14 hE.ini rfl hs16 dX7_init_18 ?_
  refine V_aload_n dX7_init_21 rfl ?_
  refine V_iconst dX7_init_22 ckc_2 ?_
  obtain ⟨h17, hf⟩ := ck_ex hf
  obtain ⟨b18, hb19, hf⟩ := st1_ex hf
  obtain ⟨w20, hs21, hf⟩ := st1_ex hf
  refine VE_newa (k := 3) rfl (by decide) (by decide) ac_3 rfl h17 (by decide) hb19 hs21 dX7_init_23 ?_
  obtain ⟨h22, hf⟩ := ck_ex hf
  obtain ⟨w23, hs24, hf⟩ := st1_ex hf
  refine VE_putRF (x := (some b18)) ff_X7_17 h22 hE.ini rfl hs24 dX7_init_25 ?_
  refine V_aload_n dX7_init_28 rfl ?_
  refine V_sipush dX7_init_29 cks_200 ?_
  obtain ⟨h25, hf⟩ := ck_ex hf
  obtain ⟨b26, hb27, hf⟩ := st1_ex hf
  obtain ⟨w28, hs29, hf⟩ := st1_ex hf
  refine VE_newa (k := 3) rfl (by decide) (by decide) ac_3 rfl h25 (by decide) hb27 hs29 dX7_init_32 ?_
  obtain ⟨h30, hf⟩ := ck_ex hf
  obtain ⟨w31, hs32, hf⟩ := st1_ex hf
  refine VE_putRF (x := (some b26)) ff_X7_21 h30 hE.ini rfl hs32 dX7_init_34 ?_
  refine V_aload_n dX7_init_37 rfl ?_
  refine V_bipush dX7_init_38 ckb_16 ?_
  obtain ⟨h33, hf⟩ := ck_ex hf
  obtain ⟨b34, hb35, hf⟩ := st1_ex hf
  obtain ⟨w36, hs37, hf⟩ := st1_ex hf
  refine VE_newa (k := 1) rfl (by decide) (by decide) ac_1 rfl h33 (by decide) hb35 hs37 dX7_init_40 ?_
  obtain ⟨h38, hf⟩ := ck_ex hf
  obtain ⟨w39, hs40, hf⟩ := st1_ex hf
  refine VE_putRF (x := (some b34)) ff_X7_24 h38 hE.ini rfl hs40 dX7_init_42 ?_
  refine V_aload_n dX7_init_45 rfl ?_
  refine V_sipush dX7_init_46 cks_400 ?_
  obtain ⟨h41, hf⟩ := ck_ex hf
  obtain ⟨b42, hb43, hf⟩ := st1_ex hf
  obtain ⟨w44, hs45, hf⟩ := st1_ex hf
  refine VE_newa (k := 1) rfl (by decide) (by decide) ac_1 rfl h41 (by decide) hb43 hs45 dX7_init_49 ?_
  obtain ⟨h46, hf⟩ := ck_ex hf
  obtain ⟨w47, hs48, hf⟩ := st1_ex hf
  refine VE_putRF (x := (some b42)) ff_X7_27 h46 hE.ini rfl hs48 dX7_init_51 ?_
  refine V_aload_n dX7_init_54 rfl ?_
  refine V_iconst dX7_init_55 ckc_m1 ?_
  obtain ⟨h49, hf⟩ := ck_ex hf
  obtain ⟨w50, hs51, hf⟩ := st1_ex hf
  refine VE_putI fw_X7_30 h49 rfl rfl rfl hs51 dX7_init_56 ?_
  refine V_aload_n dX7_init_59 rfl ?_
  refine V_bipush dX7_init_60 ckb_96 ?_
  obtain ⟨h52, hf⟩ := ck_ex hf
  obtain ⟨b53, hb54, hf⟩ := st1_ex hf
  obtain ⟨w55, hs56, hf⟩ := st1_ex hf
  refine VE_newa (k := 1) rfl (by decide) (by decide) ac_1 rfl h52 (by decide) hb54 hs56 dX7_init_62 ?_
  obtain ⟨h57, hf⟩ := ck_ex hf
  obtain ⟨w58, hs59, hf⟩ := st1_ex hf
  refine VE_putRF (x := (some b53)) ff_X7_34 h57 hE.ini rfl hs59 dX7_init_64 ?_
  refine V_aload_n dX7_init_67 rfl ?_
  refine V_sipush dX7_init_68 cks_400 ?_
  obtain ⟨h60, hf⟩ := ck_ex hf
  obtain ⟨b61, hb62, hf⟩ := st1_ex hf
  obtain ⟨w63, hs64, hf⟩ := st1_ex hf
  refine VE_newa (k := 1) rfl (by decide) (by decide) ac_1 rfl h60 (by decide) hb62 hs64 dX7_init_71 ?_
  obtain ⟨h65, hf⟩ := ck_ex hf
  obtain ⟨w66, hs67, hf⟩ := st1_ex hf
  refine VE_putRF (x := (some b61)) ff_X7_37 h65 hE.ini rfl hs67 dX7_init_73 ?_
  refine V_aload_n dX7_init_76 rfl ?_
  refine V_sipush dX7_init_77 cks_400 ?_
  obtain ⟨h68, hf⟩ := ck_ex hf
  obtain ⟨b69, hb70, hf⟩ := st1_ex hf
  obtain ⟨w71, hs72, hf⟩ := st1_ex hf
  refine VE_newa (k := 1) rfl (by decide) (by decide) ac_1 rfl h68 (by decide) hb70 hs72 dX7_init_80 ?_
  obtain ⟨h73, hf⟩ := ck_ex hf
  obtain ⟨w74, hs75, hf⟩ := st1_ex hf
  refine VE_putRF (x := (some b69)) ff_X7_40 h73 hE.ini rfl hs75 dX7_init_82 ?_
  refine V_aload_n dX7_init_85 rfl ?_
  refine V_sipush dX7_init_86 cks_400 ?_
  obtain ⟨h76, hf⟩ := ck_ex hf
  obtain ⟨b77, hb78, hf⟩ := st1_ex hf
  obtain ⟨w79, hs80, hf⟩ := st1_ex hf
  refine VE_newa (k := 1) rfl (by decide) (by decide) ac_1 rfl h76 (by decide) hb78 hs80 dX7_init_89 ?_
  obtain ⟨h81, hf⟩ := ck_ex hf
  obtain ⟨w82, hs83, hf⟩ := st1_ex hf
  refine VE_putRF (x := (some b77)) ff_X7_43 h81 hE.ini rfl hs83 dX7_init_91 ?_
  refine V_aload_n dX7_init_94 rfl ?_
  refine V_sipush dX7_init_95 cks_400 ?_
  obtain ⟨h84, hf⟩ := ck_ex hf
  obtain ⟨b85, hb86, hf⟩ := st1_ex hf
  obtain ⟨w87, hs88, hf⟩ := st1_ex hf
  refine VE_newa (k := 1) rfl (by decide) (by decide) ac_1 rfl h84 (by decide) hb86 hs88 dX7_init_98 ?_
  obtain ⟨h89, hf⟩ := ck_ex hf
  obtain ⟨w90, hs91, hf⟩ := st1_ex hf
  refine VE_putRF (x := (some b85)) ff_X7_46 h89 hE.ini rfl hs91 dX7_init_100 ?_
  refine V_aload_n dX7_init_103 rfl ?_
  refine V_bipush dX7_init_104 ckb_20 ?_
  obtain ⟨h92, hf⟩ := ck_ex hf
  obtain ⟨b93, hb94, hf⟩ := st1_ex hf
  obtain ⟨w95, hs96, hf⟩ := st1_ex hf
  refine VE_newa (k := 3) rfl (by decide) (by decide) ac_3 rfl h92 (by decide) hb94 hs96 dX7_init_106 ?_
  obtain ⟨h97, hf⟩ := ck_ex hf
  obtain ⟨w98, hs99, hf⟩ := st1_ex hf
  refine VE_putRF (x := (some b93)) ff_X7_49 h97 hE.ini rfl hs99 dX7_init_108 ?_
  refine V_aload_n dX7_init_111 rfl ?_
  refine V_sipush dX7_init_112 cks_240 ?_
  obtain ⟨h100, hf⟩ := ck_ex hf
  obtain ⟨b101, hb102, hf⟩ := st1_ex hf
  obtain ⟨w103, hs104, hf⟩ := st1_ex hf
  refine VE_newa (k := 3) rfl (by decide) (by decide) ac_3 rfl h100 (by decide) hb102 hs104 dX7_init_115 ?_
  obtain ⟨h105, hf⟩ := ck_ex hf
  obtain ⟨w106, hs107, hf⟩ := st1_ex hf
  refine VE_putRF (x := (some b101)) ff_X7_52 h105 hE.ini rfl hs107 dX7_init_117 ?_
  refine V_aload_n dX7_init_120 rfl ?_
  refine V_bipush dX7_init_121 ckb_17 ?_
  obtain ⟨h108, hf⟩ := ck_ex hf
  obtain ⟨b109, hb110, hf⟩ := st1_ex hf
  obtain ⟨w111, hs112, hf⟩ := st1_ex hf
  refine VE_newa (k := 2) rfl (by decide) (by decide) ac_2 rfl h108 (by decide) hb110 hs112 dX7_init_123 ?_
  obtain ⟨h113, hf⟩ := ck_ex hf
  obtain ⟨w114, hs115, hf⟩ := st1_ex hf
  refine VE_putRF (x := (some b109)) ff_X7_55 h113 hE.ini rfl hs115 dX7_init_125 ?_
  refine V_aload_n dX7_init_128 rfl ?_
  refine V_sipush dX7_init_129 cks_400 ?_
  obtain ⟨h116, hf⟩ := ck_ex hf
  obtain ⟨b117, hb118, hf⟩ := st1_ex hf
  obtain ⟨w119, hs120, hf⟩ := st1_ex hf
  refine VE_newa (k := 2) rfl (by decide) (by decide) ac_2 rfl h116 (by decide) hb118 hs120 dX7_init_132 ?_
  obtain ⟨h121, hf⟩ := ck_ex hf
  obtain ⟨w122, hs123, hf⟩ := st1_ex hf
  refine VE_putRF (x := (some b117)) ff_X7_59 h121 hE.ini rfl hs123 dX7_init_134 ?_
  refine V_aload_n dX7_init_137 rfl ?_
  refine V_bipush dX7_init_138 ckb_7 ?_
  obtain ⟨h124, hf⟩ := ck_ex hf
  obtain ⟨b125, hb126, hf⟩ := st1_ex hf
  obtain ⟨w127, hs128, hf⟩ := st1_ex hf
  refine VE_newa (k := 1) rfl (by decide) (by decide) ac_1 rfl h124 (by decide) hb126 hs128 dX7_init_140 ?_
  obtain ⟨h129, hf⟩ := ck_ex hf
  obtain ⟨w130, hs131, hf⟩ := st1_ex hf
  refine VE_putRF (x := (some b125)) ff_X7_62 h129 hE.ini rfl hs131 dX7_init_142 ?_
  refine V_aload_n dX7_init_145 rfl ?_
  refine V_bipush dX7_init_146 ckb_7 ?_
  obtain ⟨h132, hf⟩ := ck_ex hf
  obtain ⟨b133, hb134, hf⟩ := st1_ex hf
  obtain ⟨w135, hs136, hf⟩ := st1_ex hf
  refine VE_newa (k := 1) rfl (by decide) (by decide) ac_1 rfl h132 (by decide) hb134 hs136 dX7_init_148 ?_
  obtain ⟨h137, hf⟩ := ck_ex hf
  obtain ⟨w138, hs139, hf⟩ := st1_ex hf
  refine VE_putRF (x := (some b133)) ff_X7_65 h137 hE.ini rfl hs139 dX7_init_150 ?_
  refine V_aload_n dX7_init_153 rfl ?_
  refine V_bipush dX7_init_154 ckb_7 ?_
  obtain ⟨h140, hf⟩ := ck_ex hf
  obtain ⟨b141, hb142, hf⟩ := st1_ex hf
  obtain ⟨w143, hs144, hf⟩ := st1_ex hf
  refine VE_newa (k := 1) rfl (by decide) (by decide) ac_1 rfl h140 (by decide) hb142 hs144 dX7_init_156 ?_
  obtain ⟨h145, hf⟩ := ck_ex hf
  obtain ⟨w146, hs147, hf⟩ := st1_ex hf
  refine VE_putRF (x := (some b141)) ff_X7_68 h145 hE.ini rfl hs147 dX7_init_158 ?_
  refine V_aload_n dX7_init_161 rfl ?_
  refine V_bipush dX7_init_162 ckb_7 ?_
  obtain ⟨h148, hf⟩ := ck_ex hf
  obtain ⟨b149, hb150, hf⟩ := st1_ex hf
  obtain ⟨w151, hs152, hf⟩ := st1_ex hf
  refine VE_newa (k := 1) rfl (by decide) (by decide) ac_1 rfl h148 (by decide) hb150 hs152 dX7_init_164 ?_
  obtain ⟨h153, hf⟩ := ck_ex hf
  obtain ⟨w154, hs155, hf⟩ := st1_ex hf
  refine VE_putRF (x := (some b149)) ff_X7_71 h153 hE.ini rfl hs155 dX7_init_166 ?_
  refine V_aload_n dX7_init_169 rfl ?_
  refine V_bipush dX7_init_170 ckb_7 ?_
  obtain ⟨h156, hf⟩ := ck_ex hf
  obtain ⟨b157, hb158, hf⟩ := st1_ex hf
  obtain ⟨w159, hs160, hf⟩ := st1_ex hf
  refine VE_newa (k := 1) rfl (by decide) (by decide) ac_1 rfl h156 (by decide) hb158 hs160 dX7_init_172 ?_
  obtain ⟨h161, hf⟩ := ck_ex hf
  obtain ⟨w162, hs163, hf⟩ := st1_ex hf
  refine VE_putRF (x := (some b157)) ff_X7_74 h161 hE.ini rfl hs163 dX7_init_174 ?_
  refine V_aload_n dX7_init_177 rfl ?_
  refine V_bipush dX7_init_178 ckb_7 ?_
  obtain ⟨h164, hf⟩ := ck_ex hf
  obtain ⟨b165, hb166, hf⟩ := st1_ex hf
  obtain ⟨w167, hs168, hf⟩ := st1_ex hf
  refine VE_newa (k := 1) rfl (by decide) (by decide) ac_1 rfl h164 (by decide) hb166 hs168 dX7_init_180 ?_
  obtain ⟨h169, hf⟩ := ck_ex hf
  obtain ⟨w170, hs171, hf⟩ := st1_ex hf
  refine VE_putRF (x := (some b165)) ff_X7_77 h169 hE.ini rfl hs171 dX7_init_182 ?_
  refine V_aload_n dX7_init_185 rfl ?_
  refine V_bipush dX7_init_186 ckb_7 ?_
  obtain ⟨h172, hf⟩ := ck_ex hf
  obtain ⟨b173, hb174, hf⟩ := st1_ex hf
  obtain ⟨w175, hs176, hf⟩ := st1_ex hf
  refine VE_newa (k := 1) rfl (by decide) (by decide) ac_1 rfl h172 (by decide) hb174 hs176 dX7_init_188 ?_
  obtain ⟨h177, hf⟩ := ck_ex hf
  obtain ⟨w178, hs179, hf⟩ := st1_ex hf
  refine VE_putRF (x := (some b173)) ff_X7_80 h177 hE.ini rfl hs179 dX7_init_190 ?_
  refine V_aload_n dX7_init_193 rfl ?_
  refine V_bipush dX7_init_194 ckb_7 ?_
  obtain ⟨h180, hf⟩ := ck_ex hf
  obtain ⟨b181, hb182, hf⟩ := st1_ex hf
  obtain ⟨w183, hs184, hf⟩ := st1_ex hf
  refine VE_newa (k := 1) rfl (by decide) (by decide) ac_1 rfl h180 (by decide) hb182 hs184 dX7_init_196 ?_
  obtain ⟨h185, hf⟩ := ck_ex hf
  obtain ⟨w186, hs187, hf⟩ := st1_ex hf
  refine VE_putRF (x := (some b181)) ff_X7_83 h185 hE.ini rfl hs187 dX7_init_198 ?_
  refine V_aload_n dX7_init_201 rfl ?_
  refine V_bipush dX7_init_202 ckb_7 ?_
  obtain ⟨h188, hf⟩ := ck_ex hf
  obtain ⟨b189, hb190, hf⟩ := st1_ex hf
  obtain ⟨w191, hs192, hf⟩ := st1_ex hf
  refine VE_newa (k := 1) rfl (by decide) (by decide) ac_1 rfl h188 (by decide) hb190 hs192 dX7_init_204 ?_
  obtain ⟨h193, hf⟩ := ck_ex hf
  obtain ⟨w194, hs195, hf⟩ := st1_ex hf
  refine VE_putRF (x := (some b189)) ff_X7_86 h193 hE.ini rfl hs195 dX7_init_206 ?_
  refine V_aload_n dX7_init_209 rfl ?_
  refine V_bipush dX7_init_210 ckb_10 ?_
  obtain ⟨h196, hf⟩ := ck_ex hf
  obtain ⟨b197, hb198, hf⟩ := st1_ex hf
  obtain ⟨w199, hs200, hf⟩ := st1_ex hf
  refine VE_newa (k := 3) rfl (by decide) (by decide) ac_3 rfl h196 (by decide) hb198 hs200 dX7_init_212 ?_
  obtain ⟨h201, hf⟩ := ck_ex hf
  obtain ⟨w202, hs203, hf⟩ := st1_ex hf
  refine VE_putRF (x := (some b197)) ff_X7_89 h201 hE.ini rfl hs203 dX7_init_214 ?_
  refine V_aload_n dX7_init_217 rfl ?_
  refine V_bipush dX7_init_218 ckb_8 ?_
  obtain ⟨h204, hf⟩ := ck_ex hf
  obtain ⟨b205, hb206, hf⟩ := st1_ex hf
  obtain ⟨w207, hs208, hf⟩ := st1_ex hf
  refine VE_newa (k := 1) rfl (by decide) (by decide) ac_1 rfl h204 (by decide) hb206 hs208 dX7_init_220 ?_
  obtain ⟨h209, hf⟩ := ck_ex hf
  obtain ⟨w210, hs211, hf⟩ := st1_ex hf
  refine VE_putRF (x := (some b205)) ff_X7_92 h209 hE.ini rfl hs211 dX7_init_222 ?_
  refine V_aload_n dX7_init_225 rfl ?_
  refine V_bipush dX7_init_226 ckb_8 ?_
  obtain ⟨h212, hf⟩ := ck_ex hf
  obtain ⟨b213, hb214, hf⟩ := st1_ex hf
  obtain ⟨w215, hs216, hf⟩ := st1_ex hf
  refine VE_newa (k := 1) rfl (by decide) (by decide) ac_1 rfl h212 (by decide) hb214 hs216 dX7_init_228 ?_
  obtain ⟨h217, hf⟩ := ck_ex hf
  obtain ⟨w218, hs219, hf⟩ := st1_ex hf
  refine VE_putRF (x := (some b213)) ff_X7_95 h217 hE.ini rfl hs219 dX7_init_230 ?_
  refine V_aload_n dX7_init_233 rfl ?_
  refine V_bipush dX7_init_234 ckb_20 ?_
  obtain ⟨h220, hf⟩ := ck_ex hf
  obtain ⟨b221, hb222, hf⟩ := st1_ex hf
  obtain ⟨w223, hs224, hf⟩ := st1_ex hf
  refine VE_newa (k := 1) rfl (by decide) (by decide) ac_1 rfl h220 (by decide) hb222 hs224 dX7_init_236 ?_
  obtain ⟨h225, hf⟩ := ck_ex hf
  obtain ⟨w226, hs227, hf⟩ := st1_ex hf
  refine VE_putRF (x := (some b221)) ff_X7_98 h225 hE.ini rfl hs227 dX7_init_238 ?_
  refine V_aload_n dX7_init_241 rfl ?_
  refine V_bipush dX7_init_242 ckb_7 ?_
  obtain ⟨h228, hf⟩ := ck_ex hf
  obtain ⟨b229, hb230, hf⟩ := st1_ex hf
  obtain ⟨w231, hs232, hf⟩ := st1_ex hf
  refine VE_newa (k := 1) rfl (by decide) (by decide) ac_1 rfl h228 (by decide) hb230 hs232 dX7_init_244 ?_
  obtain ⟨h233, hf⟩ := ck_ex hf
  obtain ⟨w234, hs235, hf⟩ := st1_ex hf
  refine VE_putRF (x := (some b229)) ff_X7_101 h233 hE.ini rfl hs235 dX7_init_246 ?_
  refine V_aload_n dX7_init_249 rfl ?_
  refine V_bipush dX7_init_250 ckb_7 ?_
  obtain ⟨h236, hf⟩ := ck_ex hf
  obtain ⟨b237, hb238, hf⟩ := st1_ex hf
  obtain ⟨w239, hs240, hf⟩ := st1_ex hf
  refine VE_newa (k := 1) rfl (by decide) (by decide) ac_1 rfl h236 (by decide) hb238 hs240 dX7_init_252 ?_
  obtain ⟨h241, hf⟩ := ck_ex hf
  obtain ⟨w242, hs243, hf⟩ := st1_ex hf
  refine VE_putRF (x := (some b237)) ff_X7_104 h241 hE.ini rfl hs243 dX7_init_254 ?_
  refine V_aload_n dX7_init_257 rfl ?_
  refine V_bipush dX7_init_258 ckb_7 ?_
  obtain ⟨h244, hf⟩ := ck_ex hf
  obtain ⟨b245, hb246, hf⟩ := st1_ex hf
  obtain ⟨w247, hs248, hf⟩ := st1_ex hf
  refine VE_newa (k := 1) rfl (by decide) (by decide) ac_1 rfl h244 (by decide) hb246 hs248 dX7_init_260 ?_
  obtain ⟨h249, hf⟩ := ck_ex hf
  obtain ⟨w250, hs251, hf⟩ := st1_ex hf
  refine VE_putRF (x := (some b245)) ff_X7_107 h249 hE.ini rfl hs251 dX7_init_262 ?_
  refine V_aload_n dX7_init_265 rfl ?_
  refine V_bipush dX7_init_266 ckb_7 ?_
  obtain ⟨h252, hf⟩ := ck_ex hf
  obtain ⟨b253, hb254, hf⟩ := st1_ex hf
  obtain ⟨w255, hs256, hf⟩ := st1_ex hf
  refine VE_newa (k := 1) rfl (by decide) (by decide) ac_1 rfl h252 (by decide) hb254 hs256 dX7_init_268 ?_
  obtain ⟨h257, hf⟩ := ck_ex hf
  obtain ⟨w258, hs259, hf⟩ := st1_ex hf
  refine VE_putRF (x := (some b253)) ff_X7_110 h257 hE.ini rfl hs259 dX7_init_270 ?_
  refine V_aload_n dX7_init_273 rfl ?_
  obtain ⟨h260, hf⟩ := ck_ex hf
  obtain ⟨b261, hb262, hf⟩ := bd1_ex hf
  refine VP_getR (x := some b261) fa_X7_7 h260 rfl rfl hb262 dX7_init_274 ?_
  refine V_bipush dX7_init_277 ckb_9 ?_
  refine V_bipush dX7_init_279 ckb_20 ?_
  obtain ⟨h263, hf⟩ := ck_ex hf
  obtain ⟨w264, hs265, hf⟩ := st1_ex hf
  refine VE_iast h263 (by decide) hs265 dX7_init_281 ?_
  cases some_ex hf
  exact V_vret hE dX7_init_282
