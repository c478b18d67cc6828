set_option maxRecDepth 100000
set_option maxHeartbeats 4000000 in
theorem mC_X0_reads_119_v {X : CX} {w0 : AH} {r : Int32} {w' : AH}  (hT : (xl X).stackTraces = false) (hE : XE X w0 170 (some (.int)) "reads" (.returned (some (.int r))) w') (hH : XH X [(3, 125, 128, 211)]) (k6 : Nat → Nat → Int32 → Int32 → Int32 → Int32 → AH → Option (Int32 × AH)) (hk6 : ∀ (v0 : Nat) (v1 : Nat) (v2 : Int32) (v3 : Int32) (v4 : Int32) (v5 : Int32) (w : AH), k6 v0 v1 v2 v3 v4 v5 w = some (r, w') → V X cX0_reads RX0 7 170 w 6 [some (.ref v0), some (.ref v1), some (.int v2), some (.int v3), some (.int v4), some (.int v5), none] []) (v0 : Nat) (v1 : Nat) (v2 : Int32) (v3 : Int32) (v4 : Int32) (v5 : Int32) (w : AH) (hf : mC_X0_reads_119 k6 v0 v1 v2 v3 v4 v5 w = some (r, w')) : V X cX0_reads RX0 7 170 w 119 [some (.ref v0), some (.ref v1), some (.int v2), some (.int v3), some (.int v4), some (.int v5), none] [] := by
  unfold mC_X0_reads_119 at hf
  refine V_inc (ls' := [some (.ref v0), some (.ref v1), some (.int v2), some (.int v3), some (.int v4), some (.int (v5 + (7 : Int32))), none]) dX0_reads_119 rfl ckc_7 (by decide) rfl ?_
  refine V_goto (tgt := 6) dX0_reads_122 (by decide) ?_
  exact hk6 v0 v1 v2 v3 v4 (v5 + (7 : Int32)) w hf
set_option maxHeartbeats 4000000 in
theorem mC_X0_reads_128_v {X : CX} {w0 : AH} {r : Int32} {w' : AH}  (hT : (xl X).stackTraces = false) (hE : XE X w0 170 (some (.int)) "reads" (.returned (some (.int r))) w') (hH : XH X [(3, 125, 128, 211)]) (v4 : Int32) (t0 : Nat) (w : AH) (hf : mC_X0_reads_128 v4 t0 w = some (r, w')) : V X cX0_reads RX0 7 170 w 128 [none, none, none, none, some (.int v4), none, none] [.ref t0] := by
  unfold mC_X0_reads_128 at hf
  refine V_astore (ls' := [none, none, none, none, some (.int v4), some (.ref t0), none]) dX0_reads_128 (by decide) rfl ?_
  refine V_iload dX0_reads_130 rfl ?_
  cases some_ex hf
  exact V_iret hE dX0_reads_132
set_option maxHeartbeats 4000000 in
theorem mC_X0_reads_6_v {X : CX} {w0 : AH} {r : Int32} {w' : AH}  (hT : (xl X).stackTraces = false) (hE : XE X w0 170 (some (.int)) "reads" (.returned (some (.int r))) w') (hH : XH X [(3, 125, 128, 211)]) (k6 : Nat → Nat → Int32 → Int32 → Int32 → Int32 → AH → Option (Int32 × AH)) (hk6 : ∀ (v0 : Nat) (v1 : Nat) (v2 : Int32) (v3 : Int32) (v4 : Int32) (v5 : Int32) (w : AH), k6 v0 v1 v2 v3 v4 v5 w = some (r, w') → V X cX0_reads RX0 7 170 w 6 [some (.ref v0), some (.ref v1), some (.int v2), some (.int v3), some (.int v4), some (.int v5), none] []) (v0 : Nat) (v1 : Nat) (v2 : Int32) (v3 : Int32) (v4 : Int32) (v5 : Int32) (w : AH) (hf : mC_X0_reads_6 k6 v0 v1 v2 v3 v4 v5 w = some (r, w')) : V X cX0_reads RX0 7 170 w 6 [some (.ref v0), some (.ref v1), some (.int v2), some (.int v3), some (.int v4), some (.int v5), none] [] := by
  unfold mC_X0_reads_6 at hf
  refine V_iload dX0_reads_6 rfl ?_
  refine V_aload_n dX0_reads_8 rfl ?_
  obtain ⟨h1, hf⟩ := ck_ex hf
  refine VE_alen h1 dX0_reads_9 ?_
  refine V_icmp_ge (tgt := 125) dX0_reads_10 (by decide) (fun hc2 => ?_) (fun hc2 => ?_)
  · have hf := if_t hf hc2
    refine V_goto (tgt := 133) dX0_reads_125 (by decide) ?_
    refine V_iload dX0_reads_133 rfl ?_
    cases some_ex hf
    exact V_iret hE dX0_reads_135
  · have hf := if_f hf hc2
    refine V_aload_n dX0_reads_13 rfl ?_
    refine V_iload dX0_reads_14 rfl ?_
    refine V_iconst dX0_reads_16 ckc_3 ?_
    refine V_iadd dX0_reads_17 ?_
    obtain ⟨h3, hf⟩ := ck_ex hf
    by_cases hc4 : bnd (v5 + (3 : Int32)) (hkd w v1).2 = true
    · have hf := if_t hf hc4
      refine VE_bald (arB_mk (beq_iff_eq.mp h3) hc4) rfl dX0_reads_18 ?_
      refine V_bipush dX0_reads_19 ckb_24 ?_
      refine V_ishl dX0_reads_21 ?_
      refine V_aload_n dX0_reads_22 rfl ?_
      refine V_iload dX0_reads_23 rfl ?_
      refine V_iconst dX0_reads_25 ckc_4 ?_
      refine V_iadd dX0_reads_26 ?_
      by_cases hc5 : bnd (v5 + (4 : Int32)) (hkd w v1).2 = true
      · have hf := if_t hf hc5
        refine VE_bald (arB_mk (beq_iff_eq.mp h3) hc5) rfl dX0_reads_27 ?_
        refine V_sipush dX0_reads_28 cks_255 ?_
        refine V_iand dX0_reads_31 ?_
        refine V_bipush dX0_reads_32 ckb_16 ?_
        refine V_ishl dX0_reads_34 ?_
        refine V_ior dX0_reads_35 ?_
        refine V_aload_n dX0_reads_36 rfl ?_
        refine V_iload dX0_reads_37 rfl ?_
        refine V_iconst dX0_reads_39 ckc_5 ?_
        refine V_iadd dX0_reads_40 ?_
        by_cases hc6 : bnd (v5 + (5 : Int32)) (hkd w v1).2 = true
        · have hf := if_t hf hc6
          refine VE_bald (arB_mk (beq_iff_eq.mp h3) hc6) rfl dX0_reads_41 ?_
          refine V_sipush dX0_reads_42 cks_255 ?_
          refine V_iand dX0_reads_45 ?_
          refine V_bipush dX0_reads_46 ckb_8 ?_
          refine V_ishl dX0_reads_48 ?_
          refine V_ior dX0_reads_49 ?_
          refine V_aload_n dX0_reads_50 rfl ?_
          refine V_iload dX0_reads_51 rfl ?_
          refine V_bipush dX0_reads_53 ckb_6 ?_
          refine V_iadd dX0_reads_55 ?_
          by_cases hc7 : bnd (v5 + (6 : Int32)) (hkd w v1).2 = true
          · have hf := if_t hf hc7
            refine VE_bald (arB_mk (beq_iff_eq.mp h3) hc7) rfl dX0_reads_56 ?_
            refine V_sipush dX0_reads_57 cks_255 ?_
            refine V_iand dX0_reads_60 ?_
            refine V_ior dX0_reads_61 ?_
            refine V_istore (ls' := [some (.ref v0), some (.ref v1), some (.int v2), some (.int v3), some (.int v4), some (.int v5), some (.int (((((hvi w v1 ((v5 + (3 : Int32)).toNatClampNeg)) <<< ((24 : Int32) &&& 31)) ||| (((hvi w v1 ((v5 + (4 : Int32)).toNatClampNeg)) &&& (255 : Int32)) <<< ((16 : Int32) &&& 31))) ||| (((hvi w v1 ((v5 + (5 : Int32)).toNatClampNeg)) &&& (255 : Int32)) <<< ((8 : Int32) &&& 31))) ||| ((hvi w v1 ((v5 + (6 : Int32)).toNatClampNeg)) &&& (255 : Int32))))]) dX0_reads_62 (by decide) rfl ?_
            refine V_aload_n dX0_reads_64 rfl ?_
            refine V_iload dX0_reads_65 rfl ?_
            by_cases hc8 : bnd v5 (hkd w v1).2 = true
            · have hf := if_t hf hc8
              refine VE_bald (arB_mk (beq_iff_eq.mp h3) hc8) rfl dX0_reads_67 ?_
              refine V_aload_n dX0_reads_68 rfl ?_
              refine V_iload dX0_reads_69 rfl ?_
              refine V_iconst dX0_reads_71 ckc_1 ?_
              refine V_iadd dX0_reads_72 ?_
              by_cases hc9 : bnd (v5 + (1 : Int32)) (hkd w v1).2 = true
              · have hf := if_t hf hc9
                refine VE_bald (arB_mk (beq_iff_eq.mp h3) hc9) rfl dX0_reads_73 ?_
                refine V_aload_n dX0_reads_74 rfl ?_
                refine V_iload dX0_reads_75 rfl ?_
                refine V_iconst dX0_reads_77 ckc_2 ?_
                refine V_iadd dX0_reads_78 ?_
                by_cases hc10 : bnd (v5 + (2 : Int32)) (hkd w v1).2 = true
                · have hf := if_t hf hc10
                  refine VE_bald (arB_mk (beq_iff_eq.mp h3) hc10) rfl dX0_reads_79 ?_
                  refine V_iload dX0_reads_80 rfl ?_
                  obtain ⟨r12, hc11, hf⟩ := bd1_ex hf
                  refine V_cS (rest := []) (st' := [.int r12]) (mC_X0_isOne_ok _ _ _ _ _ _ _ _ hc11) sc_X0_197 (by decide) rfl rfl (Nat.le_of_ble_eq_true rfl) dX0_reads_82 rfl ?_
                  refine V_if_ne (tgt := 91) dX0_reads_85 (by decide) (fun hc13 => ?_) (fun hc13 => ?_)
                  · have hf := if_f hf hc13
                    refine V_aload_n dX0_reads_91 rfl ?_
                    refine V_iload_n dX0_reads_92 rfl ?_
                    refine V_aload_n dX0_reads_93 rfl ?_
                    refine V_iload dX0_reads_94 rfl ?_
                    by_cases hc14 : bnd v5 (hkd w v1).2 = true
                    · have hf := if_t hf hc14
                      refine VE_bald (arB_mk (beq_iff_eq.mp h3) hc14) rfl dX0_reads_96 ?_
                      refine V_aload_n dX0_reads_97 rfl ?_
                      refine V_iload dX0_reads_98 rfl ?_
                      refine V_iconst dX0_reads_100 ckc_1 ?_
                      refine V_iadd dX0_reads_101 ?_
                      by_cases hc15 : bnd (v5 + (1 : Int32)) (hkd w v1).2 = true
                      · have hf := if_t hf hc15
                        refine VE_bald (arB_mk (beq_iff_eq.mp h3) hc15) rfl dX0_reads_102 ?_
                        refine V_aload_n dX0_reads_103 rfl ?_
                        refine V_iload dX0_reads_104 rfl ?_
                        refine V_iconst dX0_reads_106 ckc_2 ?_
                        refine V_iadd dX0_reads_107 ?_
                        by_cases hc16 : bnd (v5 + (2 : Int32)) (hkd w v1).2 = true
                        · have hf := if_t hf hc16
                          refine VE_bald (arB_mk (beq_iff_eq.mp h3) hc16) rfl dX0_reads_108 ?_
                          refine V_iload dX0_reads_109 rfl ?_
                          refine V_iload_n dX0_reads_111 rfl ?_
                          obtain ⟨h17, hf⟩ := ck_ex hf
                          obtain ⟨r19, w20, hc18, hf⟩ := bd2_ex hf
                          refine V_cV (av := [.int v2, .int (hvi w v1 (v5.toNatClampNeg)), .int (hvi w v1 ((v5 + (1 : Int32)).toNatClampNeg)), .int (hvi w v1 ((v5 + (2 : Int32)).toNatClampNeg)), .int (((((hvi w v1 ((v5 + (3 : Int32)).toNatClampNeg)) <<< ((24 : Int32) &&& 31)) ||| (((hvi w v1 ((v5 + (4 : Int32)).toNatClampNeg)) &&& (255 : Int32)) <<< ((16 : Int32) &&& 31))) ||| (((hvi w v1 ((v5 + (5 : Int32)).toNatClampNeg)) &&& (255 : Int32)) <<< ((8 : Int32) &&& 31))) ||| ((hvi w v1 ((v5 + (6 : Int32)).toNatClampNeg)) &&& (255 : Int32))), .int v3]) (rest := []) (st' := [.int r19]) (mC_X0_adds_ok _ _ _ _ _ _ _ _ _ _ _ _ hc18) vc_X0_207 (kIn1 h17) (by decide) rfl rfl (Nat.le_of_ble_eq_true rfl) dX0_reads_112 rfl ?_
                          refine V_pop dX0_reads_115 rfl ?_
                          refine V_inc (ls' := [some (.ref v0), some (.ref v1), some (.int v2), some (.int v3), some (.int (v4 + (1 : Int32))), some (.int v5), some (.int (((((hvi w v1 ((v5 + (3 : Int32)).toNatClampNeg)) <<< ((24 : Int32) &&& 31)) ||| (((hvi w v1 ((v5 + (4 : Int32)).toNatClampNeg)) &&& (255 : Int32)) <<< ((16 : Int32) &&& 31))) ||| (((hvi w v1 ((v5 + (5 : Int32)).toNatClampNeg)) &&& (255 : Int32)) <<< ((8 : Int32) &&& 31))) ||| ((hvi w v1 ((v5 + (6 : Int32)).toNatClampNeg)) &&& (255 : Int32))))]) dX0_reads_116 rfl ckc_1 (by decide) rfl ?_
                          refine V_keep [true, true, true, true, true, true, false] rfl ?_
                          exact mC_X0_reads_119_v hT hE hH k6 hk6 v0 v1 v2 v3 (v4 + (1 : Int32)) v5 w20 hf
                        · have hf := if_f hf hc16
                          obtain ⟨hn26, hf⟩ := ck_ex hf
                          obtain ⟨h21, hf⟩ := ck_ex hf
                          obtain ⟨b22, hb23, hf⟩ := st1_ex hf
                          obtain ⟨w24, hs25, hf⟩ := st1_ex hf
                          refine V_oob hT hE hH (beq_iff_eq.mp h3) hc16 h21 (of_decide_eq_true hn26) hb23 hs25 (by decide) (by decide) q881 (Nat.le_of_ble_eq_true rfl) dX0_reads_108 ?_
                          refine V_keep [false, false, false, false, true, false, false] rfl ?_
                          exact mC_X0_reads_128_v hT hE hH v4 b22 w24 hf
                      · have hf := if_f hf hc15
                        obtain ⟨hn32, hf⟩ := ck_ex hf
                        obtain ⟨h27, hf⟩ := ck_ex hf
                        obtain ⟨b28, hb29, hf⟩ := st1_ex hf
                        obtain ⟨w30, hs31, hf⟩ := st1_ex hf
                        refine V_oob hT hE hH (beq_iff_eq.mp h3) hc15 h27 (of_decide_eq_true hn32) hb29 hs31 (by decide) (by decide) q881 (Nat.le_of_ble_eq_true rfl) dX0_reads_102 ?_
                        refine V_keep [false, false, false, false, true, false, false] rfl ?_
                        exact mC_X0_reads_128_v hT hE hH v4 b28 w30 hf
                    · have hf := if_f hf hc14
                      obtain ⟨hn38, hf⟩ := ck_ex hf
                      obtain ⟨h33, hf⟩ := ck_ex hf
                      obtain ⟨b34, hb35, hf⟩ := st1_ex hf
                      obtain ⟨w36, hs37, hf⟩ := st1_ex hf
                      refine V_oob hT hE hH (beq_iff_eq.mp h3) hc14 h33 (of_decide_eq_true hn38) hb35 hs37 (by decide) (by decide) q881 (Nat.le_of_ble_eq_true rfl) dX0_reads_96 ?_
                      refine V_keep [false, false, false, false, true, false, false] rfl ?_
                      exact mC_X0_reads_128_v hT hE hH v4 b34 w36 hf
                  · have hf := if_t hf hc13
                    refine V_goto (tgt := 119) dX0_reads_88 (by decide) ?_
                    refine V_keep [true, true, true, true, true, true, false] rfl ?_
                    exact mC_X0_reads_119_v hT hE hH k6 hk6 v0 v1 v2 v3 v4 v5 w hf
                · have hf := if_f hf hc10
                  obtain ⟨hn44, hf⟩ := ck_ex hf
                  obtain ⟨h39, hf⟩ := ck_ex hf
                  obtain ⟨b40, hb41, hf⟩ := st1_ex hf
                  obtain ⟨w42, hs43, hf⟩ := st1_ex hf
                  refine V_oob hT hE hH (beq_iff_eq.mp h3) hc10 h39 (of_decide_eq_true hn44) hb41 hs43 (by decide) (by decide) q881 (Nat.le_of_ble_eq_true rfl) dX0_reads_79 ?_
                  refine V_keep [false, false, false, false, true, false, false] rfl ?_
                  exact mC_X0_reads_128_v hT hE hH v4 b40 w42 hf
              · have hf := if_f hf hc9
                obtain ⟨hn50, hf⟩ := ck_ex hf
                obtain ⟨h45, hf⟩ := ck_ex hf
                obtain ⟨b46, hb47, hf⟩ := st1_ex hf
                obtain ⟨w48, hs49, hf⟩ := st1_ex hf
                refine V_oob hT hE hH (beq_iff_eq.mp h3) hc9 h45 (of_decide_eq_true hn50) hb47 hs49 (by decide) (by decide) q881 (Nat.le_of_ble_eq_true rfl) dX0_reads_73 ?_
                refine V_keep [false, false, false, false, true, false, false] rfl ?_
                exact mC_X0_reads_128_v hT hE hH v4 b46 w48 hf
            · have hf := if_f hf hc8
              obtain ⟨hn56, hf⟩ := ck_ex hf
              obtain ⟨h51, hf⟩ := ck_ex hf
              obtain ⟨b52, hb53, hf⟩ := st1_ex hf
              obtain ⟨w54, hs55, hf⟩ := st1_ex hf
              refine V_oob hT hE hH (beq_iff_eq.mp h3) hc8 h51 (of_decide_eq_true hn56) hb53 hs55 (by decide) (by decide) q881 (Nat.le_of_ble_eq_true rfl) dX0_reads_67 ?_
              refine V_keep [false, false, false, false, true, false, false] rfl ?_
              exact mC_X0_reads_128_v hT hE hH v4 b52 w54 hf
          · have hf := if_f hf hc7
            obtain ⟨hn62, hf⟩ := ck_ex hf
            obtain ⟨h57, hf⟩ := ck_ex hf
            obtain ⟨b58, hb59, hf⟩ := st1_ex hf
            obtain ⟨w60, hs61, hf⟩ := st1_ex hf
            refine V_oob hT hE hH (beq_iff_eq.mp h3) hc7 h57 (of_decide_eq_true hn62) hb59 hs61 (by decide) (by decide) q881 (Nat.le_of_ble_eq_true rfl) dX0_reads_56 ?_
            refine V_keep [false, false, false, false, true, false, true] rfl ?_
            exact mC_X0_reads_128_v hT hE hH v4 b58 w60 hf
        · have hf := if_f hf hc6
          obtain ⟨hn68, hf⟩ := ck_ex hf
          obtain ⟨h63, hf⟩ := ck_ex hf
          obtain ⟨b64, hb65, hf⟩ := st1_ex hf
          obtain ⟨w66, hs67, hf⟩ := st1_ex hf
          refine V_oob hT hE hH (beq_iff_eq.mp h3) hc6 h63 (of_decide_eq_true hn68) hb65 hs67 (by decide) (by decide) q881 (Nat.le_of_ble_eq_true rfl) dX0_reads_41 ?_
          refine V_keep [false, false, false, false, true, false, true] rfl ?_
          exact mC_X0_reads_128_v hT hE hH v4 b64 w66 hf
      · have hf := if_f hf hc5
        obtain ⟨hn74, hf⟩ := ck_ex hf
        obtain ⟨h69, hf⟩ := ck_ex hf
        obtain ⟨b70, hb71, hf⟩ := st1_ex hf
        obtain ⟨w72, hs73, hf⟩ := st1_ex hf
        refine V_oob hT hE hH (beq_iff_eq.mp h3) hc5 h69 (of_decide_eq_true hn74) hb71 hs73 (by decide) (by decide) q881 (Nat.le_of_ble_eq_true rfl) dX0_reads_27 ?_
        refine V_keep [false, false, false, false, true, false, true] rfl ?_
        exact mC_X0_reads_128_v hT hE hH v4 b70 w72 hf
    · have hf := if_f hf hc4
      obtain ⟨hn80, hf⟩ := ck_ex hf
      obtain ⟨h75, hf⟩ := ck_ex hf
      obtain ⟨b76, hb77, hf⟩ := st1_ex hf
      obtain ⟨w78, hs79, hf⟩ := st1_ex hf
      refine V_oob hT hE hH (beq_iff_eq.mp h3) hc4 h75 (of_decide_eq_true hn80) hb77 hs79 (by decide) (by decide) q881 (Nat.le_of_ble_eq_true rfl) dX0_reads_18 ?_
      refine V_keep [false, false, false, false, true, false, true] rfl ?_
      exact mC_X0_reads_128_v hT hE hH v4 b76 w78 hf
set_option maxHeartbeats 4000000 in
theorem mC_X0_reads_ok (l : Launch) (D : DD) (hT : l.stackTraces = false) (w : AH) (a : Nat) (p0 : Nat) (p1 : Int32) (p2 : Int32) (r : Int32) (w' : AH) (hf : mC_X0_reads a p0 p1 p2 w = some (r, w')) : MAW l D yX0_reads cX0_reads 7 (some (.int)) [(3, 125, 128, 211)] 170 [.ref a, .ref p0, .int p1, .int p2] w (.returned (some (.int r))) w' := by
  refine MAW.intro (own := RX0) (nm := "reads") (ls := [some (.ref a), some (.ref p0), some (.int p1), some (.int p2), none, none, none]) (by decide) rfl rfl (Nat.le_of_ble_eq_true rfl) rfl (fun X hl hD hE hH => ?_)
  subst hl hD
  unfold mC_X0_reads at hf
  refine V_iconst dX0_reads_0 ckc_0 ?_
  refine V_istore (ls' := [some (.ref a), some (.ref p0), some (.int p1), some (.int p2), some (.int (0 : Int32)), none, none]) dX0_reads_1 (by decide) rfl ?_
  refine V_iconst dX0_reads_3 ckc_0 ?_
  refine V_istore (ls' := [some (.ref a), some (.ref p0), some (.int p1), some (.int p2), some (.int (0 : Int32)), some (.int (0 : Int32)), none]) dX0_reads_4 (by decide) rfl ?_
  exact lq7_ex (P := fun v0 v1 v2 v3 v4 v5 w => V X cX0_reads RX0 7 170 w 6 [some (.ref v0), some (.ref v1), some (.int v2), some (.int v3), some (.int v4), some (.int v5), none] []) (fun k hk v0 v1 v2 v3 v4 v5 w hf => mC_X0_reads_6_v hT hE hH k hk v0 v1 v2 v3 v4 v5 w hf) LF a p0 p1 p2 (0 : Int32) (0 : Int32) w hf
set_option maxHeartbeats 4000000 in
theorem mC_X0_row_ok (l : Launch) (D : DD) (hT : l.stackTraces = false) (w : AH) (a : Nat) (p0 : Int32) (p1 : Int32) (r : Int32) (w' : AH) (hf : mC_X0_row a p0 p1 w = some (r, w')) : MA l D yX0_row cX0_row 5 (some (.int)) 171 [.ref a, .int p0, .int p1] w (.returned (some (.int r))) w' := by
  refine MA.introH (own := RX0) (nm := "row") (ls := [some (.ref a), some (.int p0), some (.int p1), none, none]) (by decide) rfl rfl (Nat.le_of_ble_eq_true rfl) rfl (fun X hl hD hE hH => ?_)
  subst hl hD
  unfold mC_X0_row at hf
  refine V_aload_n dX0_row_0 rfl ?_
  obtain ⟨h1, hf⟩ := ck_ex hf
  refine VP_getI fa_X0_213 h1 rfl dX0_row_1 ?_
  refine V_istore_n (ls' := [some (.ref a), some (.int p0), some (.int p1), some (.int (hvi w a 5)), none]) dX0_row_4 (by decide) rfl ?_
  refine V_aload_n dX0_row_5 rfl ?_
  refine V_iconst dX0_row_6 ckc_0 ?_
  obtain ⟨w2, hs3, hf⟩ := st1_ex hf
  refine VE_putI fw_X0_213 h1 rfl rfl rfl hs3 dX0_row_7 ?_
  refine V_iload_n dX0_row_10 rfl ?_
  obtain ⟨r5, hc4, hf⟩ := bd1_ex hf
  refine V_cS (rest := []) (st' := [.int r5]) (mC_X0_isDay_ok _ _ _ _ _ hc4) sc_X0_201 (by decide) rfl rfl (Nat.le_of_ble_eq_true rfl) dX0_row_11 rfl ?_
  refine V_if_ne (tgt := 23) dX0_row_14 (by decide) (fun hc6 => ?_) (fun hc6 => ?_)
  · have hf := if_f hf hc6
    refine V_aload_n dX0_row_23 rfl ?_
    refine V_iload_n dX0_row_24 rfl ?_
    obtain ⟨h7, hf⟩ := ck_ex hf
    obtain ⟨r9, hc8, hf⟩ := bd1_ex hf
    refine V_cV (av := [.int p0]) (rest := []) (st' := [.int r9]) (mC_X0_isPlace_ok _ _ _ _ _ _ hc8) vc_X0_204 (kIn1 h7) (by decide) rfl rfl (Nat.le_of_ble_eq_true rfl) dX0_row_25 rfl ?_
    refine V_if_ne (tgt := 38) dX0_row_28 (by decide) (fun hc10 => ?_) (fun hc10 => ?_)
    · have hf := if_f hf hc10
      refine V_aload_n dX0_row_38 rfl ?_
      obtain ⟨b11, hb12, hf⟩ := bd1_ex hf
      refine VP_getR (x := some b11) fa_X0_10 h7 rfl rfl hb12 dX0_row_39 ?_
      obtain ⟨h13, hf⟩ := ck_ex hf
      obtain ⟨b14, hb15, hf⟩ := bd1_ex hf
      refine VP_getR (x := some b14) fa_X0_144 h13 rfl rfl hb15 dX0_row_42 ?_
      obtain ⟨h16, hf⟩ := ck_ex hf
      obtain ⟨r18, hc17, hf⟩ := bd1_ex hf
      refine V_cV (av := []) (rest := []) (st' := [.int r18]) (mC_J2_size_ok _ _ _ _ _ hc17) vc_X0_148 (kIn1 h16) (by decide) rfl rfl (Nat.le_of_ble_eq_true rfl) dX0_row_45 rfl ?_
      refine V_iload_n dX0_row_48 rfl ?_
      refine V_bipush dX0_row_49 ckb_7 ?_
      refine V_idiv dX0_row_51 (by decide) ?_
      refine V_iadd dX0_row_52 ?_
      refine V_sipush dX0_row_53 cks_200 ?_
      refine V_icmp_le (tgt := 66) dX0_row_56 (by decide) (fun hc19 => ?_) (fun hc19 => ?_)
      · have hf := if_t hf hc19
        refine V_iload_n dX0_row_66 rfl ?_
        refine V_if_ne (tgt := 77) dX0_row_67 (by decide) (fun hc20 => ?_) (fun hc20 => ?_)
        · have hf := if_f hf hc20
          refine V_iload_n dX0_row_77 rfl ?_
          obtain ⟨h21, hf⟩ := ck_ex hf
          obtain ⟨b22, hb23, hf⟩ := st1_ex hf
          obtain ⟨w24, hs25, hf⟩ := st1_ex hf
          refine VE_newa (k := 4) rfl (by decide) (by decide) ac_4 rfl h21 rfl hb23 hs25 dX0_row_78 ?_
          refine V_astore (ls' := [some (.ref a), some (.int p0), some (.int p1), some (.int (hvi w a 5)), some (.ref b22)]) dX0_row_80 (by decide) rfl ?_
          refine V_aload_n dX0_row_82 rfl ?_
          obtain ⟨h26, hf⟩ := ck_ex hf
          obtain ⟨b27, hb28, hf⟩ := bd1_ex hf
          refine VP_getR (x := some b27) fa_X0_20 h26 rfl rfl hb28 dX0_row_83 ?_
          refine V_iconst dX0_row_86 ckc_0 ?_
          refine V_aload dX0_row_87 rfl ?_
          refine V_iconst dX0_row_89 ckc_0 ?_
          refine V_iload_n dX0_row_90 rfl ?_
          obtain ⟨h29, hf⟩ := ck_ex hf
          obtain ⟨h30, hf⟩ := ck_ex hf
          obtain ⟨h31, hf⟩ := ck_ex hf
          obtain ⟨h32, hf⟩ := ck_ex hf
          obtain ⟨w33, hs34, hf⟩ := st1_ex hf
          refine VE_cpyB q876 q730 q729 q149 (hk_mk h29) (hk_mk h30) h31 h32 hs34 (by decide) (Nat.le_of_ble_eq_true rfl) dX0_row_91 ?_
          refine V_aload_n dX0_row_94 rfl ?_
          refine V_aload_n dX0_row_95 rfl ?_
          refine V_aload dX0_row_96 rfl ?_
          refine V_iload_n dX0_row_98 rfl ?_
          refine V_iload_n dX0_row_99 rfl ?_
          obtain ⟨h35, hf⟩ := ck_ex hf
          obtain ⟨r37, w38, hc36, hf⟩ := bd2_ex hf
          refine V_xW (av := [.ref b22, .int p0, .int p1]) (rest := [.ref a]) (mC_X0_reads_ok _ _ hT _ _ _ _ _ _ _ hc36) vx_X0_222 q880 q132 (by decide) (kIn1 h35) (by decide) rfl rfl (Nat.le_of_ble_eq_true rfl) dX0_row_100 ?_
          refine VO_r (v := some (.int r37)) (st' := [.int r37, .ref a]) rfl ?_
          obtain ⟨h39, hf⟩ := ck_ex hf
          obtain ⟨r41, w42, hc40, hf⟩ := bd2_ex hf
          refine V_cV (av := [.int r37]) (rest := []) (st' := [.int r41]) (mC_X0_told_ok _ _ _ _ _ _ _ hc40) vc_X0_138 (kIn1 h39) (by decide) rfl rfl (Nat.le_of_ble_eq_true rfl) dX0_row_103 rfl ?_
          cases some_ex hf
          exact V_iret hE dX0_row_106
        · have hf := if_t hf hc20
          refine V_aload_n dX0_row_70 rfl ?_
          refine V_bipush dX0_row_71 ckb_m6 ?_
          obtain ⟨r44, w45, hc43, hf⟩ := bd2_ex hf
          refine V_cV (av := [.int (-6 : Int32)]) (rest := []) (st' := [.int r44]) (mC_X0_refuse_ok _ _ _ _ _ _ _ hc43) vc_X0_131 (kIn1 h7) (by decide) rfl rfl (Nat.le_of_ble_eq_true rfl) dX0_row_73 rfl ?_
          cases some_ex hf
          exact V_iret hE dX0_row_76
      · have hf := if_f hf hc19
        refine V_aload_n dX0_row_59 rfl ?_
        refine V_bipush dX0_row_60 ckb_m5 ?_
        obtain ⟨r47, w48, hc46, hf⟩ := bd2_ex hf
        refine V_cV (av := [.int (-5 : Int32)]) (rest := []) (st' := [.int r47]) (mC_X0_refuse_ok _ _ _ _ _ _ _ hc46) vc_X0_131 (kIn1 h7) (by decide) rfl rfl (Nat.le_of_ble_eq_true rfl) dX0_row_62 rfl ?_
        cases some_ex hf
        exact V_iret hE dX0_row_65
    · have hf := if_t hf hc10
      refine V_aload_n dX0_row_31 rfl ?_
      refine V_bipush dX0_row_32 ckb_m2 ?_
      obtain ⟨r50, w51, hc49, hf⟩ := bd2_ex hf
      refine V_cV (av := [.int (-2 : Int32)]) (rest := []) (st' := [.int r50]) (mC_X0_refuse_ok _ _ _ _ _ _ _ hc49) vc_X0_131 (kIn1 h7) (by decide) rfl rfl (Nat.le_of_ble_eq_true rfl) dX0_row_34 rfl ?_
      cases some_ex hf
      exact V_iret hE dX0_row_37
  · have hf := if_t hf hc6
    refine V_aload_n dX0_row_17 rfl ?_
    refine V_iconst dX0_row_18 ckc_m1 ?_
    obtain ⟨h52, hf⟩ := ck_ex hf
    obtain ⟨r54, w55, hc53, hf⟩ := bd2_ex hf
    refine V_cV (av := [.int (-1 : Int32)]) (rest := []) (st' := [.int r54]) (mC_X0_refuse_ok _ _ _ _ _ _ _ hc53) vc_X0_131 (kIn1 h52) (by decide) rfl rfl (Nat.le_of_ble_eq_true rfl) dX0_row_19 rfl ?_
    cases some_ex hf
    exact V_iret hE dX0_row_22
