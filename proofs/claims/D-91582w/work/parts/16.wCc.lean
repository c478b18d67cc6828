set_option maxRecDepth 100000
set_option maxHeartbeats 4000000 in
theorem mB_X13_term_5_v {X : CX} {w0 : AH} {dR : Nat} {r : Nat ⊕ Nat} {w' : AH}  (r_X13_test : Nat → AH → Option ((Nat ⊕ Nat) × AH)) (r_X13_both : Nat → AH → Option ((Nat ⊕ Nat) × AH)) (r_X13_plain : Nat → AH → Option ((Nat ⊕ Nat) × AH)) (r_X13_positive : Nat → AH → Option ((Nat ⊕ Nat) × AH)) (r_X13_sum : Nat → AH → Option ((Nat ⊕ Nat) × AH)) (r_X13_term : Nat → AH → Option ((Nat ⊕ Nat) × AH)) (r_X13_part : Nat → AH → Option ((Nat ⊕ Nat) × AH)) (hr_X13_test : ∀ (w : AH) (a : Nat) (r : Nat ⊕ Nat) (w' : AH) , r_X13_test a w = some (r, w') → MA (xl X) (xD X) yX13_test cX13_test 3 (some (.object "FirstPolls$Test")) dR [.ref a] w (oN r) w') (hr_X13_both : ∀ (w : AH) (a : Nat) (r : Nat ⊕ Nat) (w' : AH) , r_X13_both a w = some (r, w') → MA (xl X) (xD X) yX13_both cX13_both 3 (some (.object "FirstPolls$Test")) dR [.ref a] w (oN r) w') (hr_X13_plain : ∀ (w : AH) (a : Nat) (r : Nat ⊕ Nat) (w' : AH) , r_X13_plain a w = some (r, w') → MA (xl X) (xD X) yX13_plain cX13_plain 3 (some (.object "FirstPolls$Test")) dR [.ref a] w (oN r) w') (hr_X13_positive : ∀ (w : AH) (a : Nat) (r : Nat ⊕ Nat) (w' : AH) , r_X13_positive a w = some (r, w') → MA (xl X) (xD X) yX13_positive cX13_positive 4 (some (.object "FirstPolls$Test")) dR [.ref a] w (oN r) w') (hr_X13_sum : ∀ (w : AH) (a : Nat) (r : Nat ⊕ Nat) (w' : AH) , r_X13_sum a w = some (r, w') → MA (xl X) (xD X) yX13_sum cX13_sum 3 (some (.object "FirstPolls$Sum")) dR [.ref a] w (oN r) w') (hr_X13_term : ∀ (w : AH) (a : Nat) (r : Nat ⊕ Nat) (w' : AH) , r_X13_term a w = some (r, w') → MA (xl X) (xD X) yX13_term cX13_term 3 (some (.object "FirstPolls$Sum")) dR [.ref a] w (oN r) w') (hr_X13_part : ∀ (w : AH) (a : Nat) (r : Nat ⊕ Nat) (w' : AH) , r_X13_part a w = some (r, w') → MA (xl X) (xD X) yX13_part cX13_part 2 (some (.object "FirstPolls$Sum")) dR [.ref a] w (oN r) w') (hext : 7 ≤ dR) (hE : XE X w0 (dR + 1) (some (.object "FirstPolls$Sum")) "term" (oN r) w') (hH : XH X []) (k5 : Nat → Nat → AH → Option ((Nat ⊕ Nat) × AH)) (hk5 : ∀ (v0 : Nat) (v1 : Nat) (w : AH), k5 v0 v1 w = some (r, w') → V X cX13_term RX13 3 (dR + 1) w 5 [some (.ref v0), some (.ref v1), none] []) (v0 : Nat) (v1 : Nat) (w : AH) (hf : mB_X13_term_5 r_X13_test r_X13_both r_X13_plain r_X13_positive r_X13_sum r_X13_term r_X13_part k5 v0 v1 w = some (r, w')) : V X cX13_term RX13 3 (dR + 1) w 5 [some (.ref v0), some (.ref v1), none] [] := by
  unfold mB_X13_term_5 at hf
  refine V_aload_n dX13_term_5 rfl ?_
  obtain ⟨b1, ha2, hf⟩ := bd1_ex hf
  refine V_ldcS (key := 204) st_204 ha2 dX13_term_6 ?_
  obtain ⟨h3, hf⟩ := ck_ex hf
  obtain ⟨r5, hc4, hf⟩ := bd1_ex hf
  refine V_cV (av := [.ref b1]) (rest := []) (st' := [.int r5]) (mC_X13_is_ok _ _ _ _ _ _ hc4) vc_X13_48 (kIn1 h3) (by omega) rfl rfl (Nat.le_of_ble_eq_true rfl) dX13_term_8 rfl ?_
  refine V_if_ne (tgt := 23) dX13_term_11 (by decide) (fun hc6 => ?_) (fun hc6 => ?_)
  · have hf := if_f hf hc6
    exact mB_X13_term_23_v r_X13_test r_X13_both r_X13_plain r_X13_positive r_X13_sum r_X13_term r_X13_part hr_X13_test hr_X13_both hr_X13_plain hr_X13_positive hr_X13_sum hr_X13_term hr_X13_part hext hE hH k5 hk5 v0 v1 w hf
  · have hf := if_t hf hc6
    refine V_aload_n dX13_term_14 rfl ?_
    obtain ⟨b7, ha8, hf⟩ := bd1_ex hf
    refine V_ldcS (key := 206) st_206 ha8 dX13_term_15 ?_
    obtain ⟨r10, hc9, hf⟩ := bd1_ex hf
    refine V_cV (av := [.ref b7]) (rest := []) (st' := [.int r10]) (mC_X13_is_ok _ _ _ _ _ _ hc9) vc_X13_48 (kIn1 h3) (by omega) rfl rfl (Nat.le_of_ble_eq_true rfl) dX13_term_17 rfl ?_
    refine V_if_eq (tgt := 55) dX13_term_20 (by decide) (fun hc11 => ?_) (fun hc11 => ?_)
    · have hf := if_t hf hc11
      refine V_aload_n dX13_term_55 rfl ?_
      cases some_ex hf
      exact V_aret (r := some _) hE (by first | exact Or.inl ⟨_, rfl⟩ | exact Or.inr ⟨_, rfl⟩) dX13_term_56
    · have hf := if_f hf hc11
      exact mB_X13_term_23_v r_X13_test r_X13_both r_X13_plain r_X13_positive r_X13_sum r_X13_term r_X13_part hr_X13_test hr_X13_both hr_X13_plain hr_X13_positive hr_X13_sum hr_X13_term hr_X13_part hext hE hH k5 hk5 v0 v1 w hf
set_option maxHeartbeats 4000000 in
theorem mB_X13_term_ok (l : Launch) (D : DD) (dR : Nat) (r_X13_test : Nat → AH → Option ((Nat ⊕ Nat) × AH)) (r_X13_both : Nat → AH → Option ((Nat ⊕ Nat) × AH)) (r_X13_plain : Nat → AH → Option ((Nat ⊕ Nat) × AH)) (r_X13_positive : Nat → AH → Option ((Nat ⊕ Nat) × AH)) (r_X13_sum : Nat → AH → Option ((Nat ⊕ Nat) × AH)) (r_X13_term : Nat → AH → Option ((Nat ⊕ Nat) × AH)) (r_X13_part : Nat → AH → Option ((Nat ⊕ Nat) × AH)) (hr_X13_test : ∀ (w : AH) (a : Nat) (r : Nat ⊕ Nat) (w' : AH) , r_X13_test a w = some (r, w') → MA l D yX13_test cX13_test 3 (some (.object "FirstPolls$Test")) dR [.ref a] w (oN r) w') (hr_X13_both : ∀ (w : AH) (a : Nat) (r : Nat ⊕ Nat) (w' : AH) , r_X13_both a w = some (r, w') → MA l D yX13_both cX13_both 3 (some (.object "FirstPolls$Test")) dR [.ref a] w (oN r) w') (hr_X13_plain : ∀ (w : AH) (a : Nat) (r : Nat ⊕ Nat) (w' : AH) , r_X13_plain a w = some (r, w') → MA l D yX13_plain cX13_plain 3 (some (.object "FirstPolls$Test")) dR [.ref a] w (oN r) w') (hr_X13_positive : ∀ (w : AH) (a : Nat) (r : Nat ⊕ Nat) (w' : AH) , r_X13_positive a w = some (r, w') → MA l D yX13_positive cX13_positive 4 (some (.object "FirstPolls$Test")) dR [.ref a] w (oN r) w') (hr_X13_sum : ∀ (w : AH) (a : Nat) (r : Nat ⊕ Nat) (w' : AH) , r_X13_sum a w = some (r, w') → MA l D yX13_sum cX13_sum 3 (some (.object "FirstPolls$Sum")) dR [.ref a] w (oN r) w') (hr_X13_term : ∀ (w : AH) (a : Nat) (r : Nat ⊕ Nat) (w' : AH) , r_X13_term a w = some (r, w') → MA l D yX13_term cX13_term 3 (some (.object "FirstPolls$Sum")) dR [.ref a] w (oN r) w') (hr_X13_part : ∀ (w : AH) (a : Nat) (r : Nat ⊕ Nat) (w' : AH) , r_X13_part a w = some (r, w') → MA l D yX13_part cX13_part 2 (some (.object "FirstPolls$Sum")) dR [.ref a] w (oN r) w') (hext : 7 ≤ dR) (w : AH) (a : Nat) (r : Nat ⊕ Nat) (w' : AH) (hf : mB_X13_term r_X13_test r_X13_both r_X13_plain r_X13_positive r_X13_sum r_X13_term r_X13_part a w = some (r, w')) : MA l D yX13_term cX13_term 3 (some (.object "FirstPolls$Sum")) (dR + 1) [.ref a] w (oN r) w' := by
  refine MA.introH (own := RX13) (nm := "term") (ls := [some (.ref a), none, none]) (by decide) rfl rfl (Nat.le_of_ble_eq_true rfl) rfl (fun X hl hD hE hH => ?_)
  subst hl hD
  unfold mB_X13_term at hf
  refine V_aload_n dX13_term_0 rfl ?_
  obtain ⟨h1, hf⟩ := ck_ex hf
  obtain ⟨x4, w5, hc2, hf⟩ | ⟨r3, w5, hc2, hf⟩ := (bdT_ex hf).symm
  · refine V_xV (av := []) (rest := []) (hr_X13_part _ _ _ _ hc2) vx_X13_201 q1219 q160 (by decide) (kIn1 h1) (by omega) rfl rfl (Nat.le_of_ble_eq_true rfl) dX13_term_1 ?_
    cases some_ex hf
    exact VO_t (VT_out hE hH (by decide))
  refine V_xV (av := []) (rest := []) (hr_X13_part _ _ _ _ hc2) vx_X13_201 q1219 q160 (by decide) (kIn1 h1) (by omega) rfl rfl (Nat.le_of_ble_eq_true rfl) dX13_term_1 ?_
  refine VO_r (v := some (.ref r3)) (st' := [.ref r3]) rfl ?_
  refine V_astore_n (ls' := [some (.ref a), some (.ref r3), none]) dX13_term_4 (by decide) rfl ?_
  exact lq3_ex (P := fun v0 v1 w => V X cX13_term RX13 3 (dR + 1) w 5 [some (.ref v0), some (.ref v1), none] []) (fun k hk v0 v1 w hf => mB_X13_term_5_v r_X13_test r_X13_both r_X13_plain r_X13_positive r_X13_sum r_X13_term r_X13_part hr_X13_test hr_X13_both hr_X13_plain hr_X13_positive hr_X13_sum hr_X13_term hr_X13_part hext hE hH k hk v0 v1 w hf) LF a r3 w5 hf
set_option maxHeartbeats 4000000 in
theorem mB_X13_part_ok (l : Launch) (D : DD) (dR : Nat) (r_X13_test : Nat → AH → Option ((Nat ⊕ Nat) × AH)) (r_X13_both : Nat → AH → Option ((Nat ⊕ Nat) × AH)) (r_X13_plain : Nat → AH → Option ((Nat ⊕ Nat) × AH)) (r_X13_positive : Nat → AH → Option ((Nat ⊕ Nat) × AH)) (r_X13_sum : Nat → AH → Option ((Nat ⊕ Nat) × AH)) (r_X13_term : Nat → AH → Option ((Nat ⊕ Nat) × AH)) (r_X13_part : Nat → AH → Option ((Nat ⊕ Nat) × AH)) (hr_X13_test : ∀ (w : AH) (a : Nat) (r : Nat ⊕ Nat) (w' : AH) , r_X13_test a w = some (r, w') → MA l D yX13_test cX13_test 3 (some (.object "FirstPolls$Test")) dR [.ref a] w (oN r) w') (hr_X13_both : ∀ (w : AH) (a : Nat) (r : Nat ⊕ Nat) (w' : AH) , r_X13_both a w = some (r, w') → MA l D yX13_both cX13_both 3 (some (.object "FirstPolls$Test")) dR [.ref a] w (oN r) w') (hr_X13_plain : ∀ (w : AH) (a : Nat) (r : Nat ⊕ Nat) (w' : AH) , r_X13_plain a w = some (r, w') → MA l D yX13_plain cX13_plain 3 (some (.object "FirstPolls$Test")) dR [.ref a] w (oN r) w') (hr_X13_positive : ∀ (w : AH) (a : Nat) (r : Nat ⊕ Nat) (w' : AH) , r_X13_positive a w = some (r, w') → MA l D yX13_positive cX13_positive 4 (some (.object "FirstPolls$Test")) dR [.ref a] w (oN r) w') (hr_X13_sum : ∀ (w : AH) (a : Nat) (r : Nat ⊕ Nat) (w' : AH) , r_X13_sum a w = some (r, w') → MA l D yX13_sum cX13_sum 3 (some (.object "FirstPolls$Sum")) dR [.ref a] w (oN r) w') (hr_X13_term : ∀ (w : AH) (a : Nat) (r : Nat ⊕ Nat) (w' : AH) , r_X13_term a w = some (r, w') → MA l D yX13_term cX13_term 3 (some (.object "FirstPolls$Sum")) dR [.ref a] w (oN r) w') (hr_X13_part : ∀ (w : AH) (a : Nat) (r : Nat ⊕ Nat) (w' : AH) , r_X13_part a w = some (r, w') → MA l D yX13_part cX13_part 2 (some (.object "FirstPolls$Sum")) dR [.ref a] w (oN r) w') (hext : 7 ≤ dR) (w : AH) (a : Nat) (r : Nat ⊕ Nat) (w' : AH) (hf : mB_X13_part r_X13_test r_X13_both r_X13_plain r_X13_positive r_X13_sum r_X13_term r_X13_part a w = some (r, w')) : MA l D yX13_part cX13_part 2 (some (.object "FirstPolls$Sum")) (dR + 1) [.ref a] w (oN r) w' := by
  refine MA.introH (own := RX13) (nm := "part") (ls := [some (.ref a), none]) (by decide) rfl rfl (Nat.le_of_ble_eq_true rfl) rfl (fun X hl hD hE hH => ?_)
  subst hl hD
  unfold mB_X13_part at hf
  refine V_aload_n dX13_part_0 rfl ?_
  obtain ⟨b1, ha2, hf⟩ := bd1_ex hf
  refine V_ldcS (key := 233) st_233 ha2 dX13_part_1 ?_
  obtain ⟨h3, hf⟩ := ck_ex hf
  obtain ⟨r5, hc4, hf⟩ := bd1_ex hf
  refine V_cV (av := [.ref b1]) (rest := []) (st' := [.int r5]) (mC_X13_is_ok _ _ _ _ _ _ hc4) vc_X13_48 (kIn1 h3) (by omega) rfl rfl (Nat.le_of_ble_eq_true rfl) dX13_part_3 rfl ?_
  refine V_if_eq (tgt := 36) dX13_part_6 (by decide) (fun hc6 => ?_) (fun hc6 => ?_)
  · have hf := if_t hf hc6
    refine V_aload_n dX13_part_36 rfl ?_
    refine V_aload_n dX13_part_37 rfl ?_
    refine VP_getI fa_X13_31 h3 rfl dX13_part_38 ?_
    refine V_bipush dX13_part_41 ckb_48 ?_
    refine V_bipush dX13_part_43 ckb_57 ?_
    obtain ⟨r8, hc7, hf⟩ := bd1_ex hf
    refine V_cV (av := [.int (hvi w a 3), .int (48 : Int32), .int (57 : Int32)]) (rest := []) (st' := [.int r8]) (mC_X13_isIn_ok _ _ _ _ _ _ _ _ hc7) vc_X13_34 (kIn1 h3) (by omega) rfl rfl (Nat.le_of_ble_eq_true rfl) dX13_part_45 rfl ?_
    refine V_if_eq (tgt := 70) dX13_part_48 (by decide) (fun hc9 => ?_) (fun hc9 => ?_)
    · have hf := if_t hf hc9
      refine V_aload_n dX13_part_70 rfl ?_
      obtain ⟨r11, hc10, hf⟩ := bd1_ex hf
      refine V_cV (av := []) (rest := []) (st' := [.int r11]) (mC_X13_value_ok _ _ _ _ _ hc10) vc_X13_241 (kIn1 h3) (by omega) rfl rfl (Nat.le_of_ble_eq_true rfl) dX13_part_71 rfl ?_
      refine V_istore_n (ls' := [some (.ref a), some (.int r11)]) dX13_part_74 (by decide) rfl ?_
      refine V_iload_n dX13_part_75 rfl ?_
      refine V_iconst dX13_part_76 ckc_m1 ?_
      refine V_icmp_ne (tgt := 92) dX13_part_77 (by decide) (fun hc12 => ?_) (fun hc12 => ?_)
      · have hf := if_f hf hc12
        refine V_aload_n dX13_part_92 rfl ?_
        obtain ⟨x15, w16, hc13, hf⟩ | ⟨r14, w16, hc13, hf⟩ := (bdT_ex hf).symm
        · refine V_xV (av := []) (rest := []) (mC_X13_leaf_ok _ _ _ _ _ _ hc13) vx_X13_174 q1229 q160 (by decide) (kIn1 h3) (by omega) rfl rfl (Nat.le_of_ble_eq_true rfl) dX13_part_93 ?_
          cases some_ex hf
          exact VO_t (VT_out hE hH (by decide))
        refine V_xV (av := []) (rest := []) (mC_X13_leaf_ok _ _ _ _ _ _ hc13) vx_X13_174 q1229 q160 (by decide) (kIn1 h3) (by omega) rfl rfl (Nat.le_of_ble_eq_true rfl) dX13_part_93 ?_
        refine VO_r (v := none) (st' := []) rfl ?_
        refine V_aload_n dX13_part_96 rfl ?_
        obtain ⟨h17, hf⟩ := ck_ex hf
        obtain ⟨w19, hc18, hf⟩ := bd1_ex hf
        refine V_cV (av := []) (rest := []) (st' := []) (mC_X13_next_ok _ _ _ _ _ hc18) vc_X13_52 (kIn1 h17) (by omega) rfl rfl (Nat.le_of_ble_eq_true rfl) dX13_part_97 rfl ?_
        obtain ⟨h20, hf⟩ := ck_ex hf
        obtain ⟨b21, hb22, hf⟩ := st1_ex hf
        obtain ⟨w23, hs24, hf⟩ := st1_ex hf
        refine VE_new clX18 q1259 q1260 q167 ok_X18 h20 hb22 hs24 dX13_part_100 ?_
        refine V_dup dX13_part_103 rfl ?_
        refine V_iload_n dX13_part_104 rfl ?_
        obtain ⟨w26, hc25, hf⟩ := bd1_ex hf
        refine V_cI (av := [.int r11]) (rest := [.ref b21]) (st' := [.ref b21]) (mC_X18_init_ok _ _ _ _ _ _ hc25) ic_X13_246 (by omega) rfl rfl (Nat.le_of_ble_eq_true rfl) dX13_part_105 rfl ?_
        cases some_ex hf
        exact V_aret (r := some _) hE (by first | exact Or.inl ⟨_, rfl⟩ | exact Or.inr ⟨_, rfl⟩) dX13_part_108
      · have hf := if_t hf hc12
        obtain ⟨h27, hf⟩ := ck_ex hf
        obtain ⟨b28, hb29, hf⟩ := st1_ex hf
        obtain ⟨w30, hs31, hf⟩ := st1_ex hf
        refine VE_new clX14 q1084 q1085 q161 ok_X14 h27 hb29 hs31 dX13_part_80 ?_
        refine V_dup dX13_part_83 rfl ?_
        refine V_aload_n dX13_part_84 rfl ?_
        obtain ⟨h32, hf⟩ := ck_ex hf
        refine VP_getI fa_X13_31 h32 rfl dX13_part_85 ?_
        obtain ⟨w34, hc33, hf⟩ := bd1_ex hf
        refine V_cI (av := [.int (hvi w30 a 3)]) (rest := [.ref b28]) (st' := [.ref b28]) (mC_X14_init_ok _ _ _ _ _ _ hc33) ic_X13_60 (by omega) rfl rfl (Nat.le_of_ble_eq_true rfl) dX13_part_88 rfl ?_
        cases some_ex hf
        exact V_athrow dX13_part_91 (VT_out hE hH (by decide))
    · have hf := if_f hf hc9
      refine V_aload_n dX13_part_51 rfl ?_
      obtain ⟨x37, w38, hc35, hf⟩ | ⟨r36, w38, hc35, hf⟩ := (bdT_ex hf).symm
      · refine V_xV (av := []) (rest := []) (mC_X13_leaf_ok _ _ _ _ _ _ hc35) vx_X13_174 q1229 q160 (by decide) (kIn1 h3) (by omega) rfl rfl (Nat.le_of_ble_eq_true rfl) dX13_part_52 ?_
        cases some_ex hf
        exact VO_t (VT_out hE hH (by decide))
      refine V_xV (av := []) (rest := []) (mC_X13_leaf_ok _ _ _ _ _ _ hc35) vx_X13_174 q1229 q160 (by decide) (kIn1 h3) (by omega) rfl rfl (Nat.le_of_ble_eq_true rfl) dX13_part_52 ?_
      refine VO_r (v := none) (st' := []) rfl ?_
      obtain ⟨h39, hf⟩ := ck_ex hf
      obtain ⟨b40, hb41, hf⟩ := st1_ex hf
      obtain ⟨w42, hs43, hf⟩ := st1_ex hf
      refine VE_new clX17 q1230 q1231 q166 ok_X17 h39 hb41 hs43 dX13_part_55 ?_
      refine V_dup dX13_part_58 rfl ?_
      refine V_aload_n dX13_part_59 rfl ?_
      refine V_iconst dX13_part_60 ckc_0 ?_
      refine V_ldc q1232 dX13_part_61 ?_
      obtain ⟨h44, hf⟩ := ck_ex hf
      obtain ⟨x47, w48, hc45, hf⟩ | ⟨r46, w48, hc45, hf⟩ := (bdT_ex hf).symm
      · refine V_xV (av := [.int (0 : Int32), .int (100000 : Int32)]) (rest := [.ref b40, .ref b40]) (mC_X13_number_ok _ _ _ _ _ _ _ _ hc45) vx_X13_70 q1161 q160 (by decide) (kIn1 h44) (by omega) rfl rfl (Nat.le_of_ble_eq_true rfl) dX13_part_63 ?_
        cases some_ex hf
        exact VO_t (VT_out hE hH (by decide))
      refine V_xV (av := [.int (0 : Int32), .int (100000 : Int32)]) (rest := [.ref b40, .ref b40]) (mC_X13_number_ok _ _ _ _ _ _ _ _ hc45) vx_X13_70 q1161 q160 (by decide) (kIn1 h44) (by omega) rfl rfl (Nat.le_of_ble_eq_true rfl) dX13_part_63 ?_
      refine VO_r (v := some (.int r46)) (st' := [.int r46, .ref b40, .ref b40]) rfl ?_
      obtain ⟨w50, hc49, hf⟩ := bd1_ex hf
      refine V_cI (av := [.int r46]) (rest := [.ref b40]) (st' := [.ref b40]) (mC_X17_init_ok _ _ _ _ _ _ hc49) ic_X13_240 (by omega) rfl rfl (Nat.le_of_ble_eq_true rfl) dX13_part_66 rfl ?_
      cases some_ex hf
      exact V_aret (r := some _) hE (by first | exact Or.inl ⟨_, rfl⟩ | exact Or.inr ⟨_, rfl⟩) dX13_part_69
  · have hf := if_f hf hc6
    refine V_aload_n dX13_part_9 rfl ?_
    obtain ⟨x53, w54, hc51, hf⟩ | ⟨r52, w54, hc51, hf⟩ := (bdT_ex hf).symm
    · refine V_xV (av := []) (rest := []) (mC_X13_opens_ok _ _ _ _ _ _ hc51) vx_X13_166 q1224 q160 (by decide) (kIn1 h3) (by omega) rfl rfl (Nat.le_of_ble_eq_true rfl) dX13_part_10 ?_
      cases some_ex hf
      exact VO_t (VT_out hE hH (by decide))
    refine V_xV (av := []) (rest := []) (mC_X13_opens_ok _ _ _ _ _ _ hc51) vx_X13_166 q1224 q160 (by decide) (kIn1 h3) (by omega) rfl rfl (Nat.le_of_ble_eq_true rfl) dX13_part_10 ?_
    refine VO_r (v := none) (st' := []) rfl ?_
    refine V_aload_n dX13_part_13 rfl ?_
    obtain ⟨h55, hf⟩ := ck_ex hf
    obtain ⟨x58, w59, hc56, hf⟩ | ⟨r57, w59, hc56, hf⟩ := (bdT_ex hf).symm
    · refine V_xV (av := []) (rest := []) (hr_X13_sum _ _ _ _ hc56) vx_X13_116 q1211 q160 (by decide) (kIn1 h55) (by omega) rfl rfl (Nat.le_of_ble_eq_true rfl) dX13_part_14 ?_
      cases some_ex hf
      exact VO_t (VT_out hE hH (by decide))
    refine V_xV (av := []) (rest := []) (hr_X13_sum _ _ _ _ hc56) vx_X13_116 q1211 q160 (by decide) (kIn1 h55) (by omega) rfl rfl (Nat.le_of_ble_eq_true rfl) dX13_part_14 ?_
    refine VO_r (v := some (.ref r57)) (st' := [.ref r57]) rfl ?_
    refine V_astore_n (ls' := [some (.ref a), some (.ref r57)]) dX13_part_17 (by decide) rfl ?_
    refine V_aload_n dX13_part_18 rfl ?_
    obtain ⟨b60, ha61, hf⟩ := bd1_ex hf
    refine V_ldcS (key := 235) st_235 ha61 dX13_part_19 ?_
    obtain ⟨h62, hf⟩ := ck_ex hf
    obtain ⟨x65, w66, hc63, hf⟩ | ⟨r64, w66, hc63, hf⟩ := (bdT_ex hf).symm
    · refine V_xV (av := [.ref b60]) (rest := []) (mC_X13_need_ok _ _ _ _ _ _ _ hc63) vx_X13_75 q1166 q160 (by decide) (kIn1 h62) (by omega) rfl rfl (Nat.le_of_ble_eq_true rfl) dX13_part_21 ?_
      cases some_ex hf
      exact VO_t (VT_out hE hH (by decide))
    refine V_xV (av := [.ref b60]) (rest := []) (mC_X13_need_ok _ _ _ _ _ _ _ hc63) vx_X13_75 q1166 q160 (by decide) (kIn1 h62) (by omega) rfl rfl (Nat.le_of_ble_eq_true rfl) dX13_part_21 ?_
    refine VO_r (v := none) (st' := []) rfl ?_
    refine V_aload_n dX13_part_24 rfl ?_
    refine V_dup dX13_part_25 rfl ?_
    obtain ⟨h67, hf⟩ := ck_ex hf
    refine VP_getI fa_X13_141 h67 rfl dX13_part_26 ?_
    refine V_iconst dX13_part_29 ckc_1 ?_
    refine V_isub dX13_part_30 ?_
    obtain ⟨w68, hs69, hf⟩ := st1_ex hf
    refine VE_putI fw_X13_141 h67 rfl rfl rfl hs69 dX13_part_31 ?_
    refine V_aload_n dX13_part_34 rfl ?_
    cases some_ex hf
    exact V_aret (r := some _) hE (by first | exact Or.inl ⟨_, rfl⟩ | exact Or.inr ⟨_, rfl⟩) dX13_part_35
set_option maxHeartbeats 4000000 in
theorem mG_rd_ok (l : Launch) (D : DD) : ∀ n : Nat, (∀ (w : AH) (a : Nat) (r : Nat ⊕ Nat) (w' : AH) , mC_X13_test n a w = some (r, w') → MA l D yX13_test cX13_test 3 (some (.object "FirstPolls$Test")) (7 + n) [.ref a] w (oN r) w') ∧ (∀ (w : AH) (a : Nat) (r : Nat ⊕ Nat) (w' : AH) , mC_X13_both n a w = some (r, w') → MA l D yX13_both cX13_both 3 (some (.object "FirstPolls$Test")) (7 + n) [.ref a] w (oN r) w') ∧ (∀ (w : AH) (a : Nat) (r : Nat ⊕ Nat) (w' : AH) , mC_X13_plain n a w = some (r, w') → MA l D yX13_plain cX13_plain 3 (some (.object "FirstPolls$Test")) (7 + n) [.ref a] w (oN r) w') ∧ (∀ (w : AH) (a : Nat) (r : Nat ⊕ Nat) (w' : AH) , mC_X13_positive n a w = some (r, w') → MA l D yX13_positive cX13_positive 4 (some (.object "FirstPolls$Test")) (7 + n) [.ref a] w (oN r) w') ∧ (∀ (w : AH) (a : Nat) (r : Nat ⊕ Nat) (w' : AH) , mC_X13_sum n a w = some (r, w') → MA l D yX13_sum cX13_sum 3 (some (.object "FirstPolls$Sum")) (7 + n) [.ref a] w (oN r) w') ∧ (∀ (w : AH) (a : Nat) (r : Nat ⊕ Nat) (w' : AH) , mC_X13_term n a w = some (r, w') → MA l D yX13_term cX13_term 3 (some (.object "FirstPolls$Sum")) (7 + n) [.ref a] w (oN r) w') ∧ (∀ (w : AH) (a : Nat) (r : Nat ⊕ Nat) (w' : AH) , mC_X13_part n a w = some (r, w') → MA l D yX13_part cX13_part 2 (some (.object "FirstPolls$Sum")) (7 + n) [.ref a] w (oN r) w')
  | 0 => ⟨fun _ _ _ _ hf => (by cases hf), fun _ _ _ _ hf => (by cases hf), fun _ _ _ _ hf => (by cases hf), fun _ _ _ _ hf => (by cases hf), fun _ _ _ _ hf => (by cases hf), fun _ _ _ _ hf => (by cases hf), fun _ _ _ _ hf => (by cases hf)⟩
  | n + 1 => by
    have ih := mG_rd_ok l D n
    exact ⟨fun x0 x1 x2 x3 hf => mB_X13_test_ok l D (7 + n) _ _ _ _ _ _ _ ih.1 ih.2.1 ih.2.2.1 ih.2.2.2.1 ih.2.2.2.2.1 ih.2.2.2.2.2.1 ih.2.2.2.2.2.2 (by omega) x0 x1 x2 x3 hf, fun x0 x1 x2 x3 hf => mB_X13_both_ok l D (7 + n) _ _ _ _ _ _ _ ih.1 ih.2.1 ih.2.2.1 ih.2.2.2.1 ih.2.2.2.2.1 ih.2.2.2.2.2.1 ih.2.2.2.2.2.2 (by omega) x0 x1 x2 x3 hf, fun x0 x1 x2 x3 hf => mB_X13_plain_ok l D (7 + n) _ _ _ _ _ _ _ ih.1 ih.2.1 ih.2.2.1 ih.2.2.2.1 ih.2.2.2.2.1 ih.2.2.2.2.2.1 ih.2.2.2.2.2.2 (by omega) x0 x1 x2 x3 hf, fun x0 x1 x2 x3 hf => mB_X13_positive_ok l D (7 + n) _ _ _ _ _ _ _ ih.1 ih.2.1 ih.2.2.1 ih.2.2.2.1 ih.2.2.2.2.1 ih.2.2.2.2.2.1 ih.2.2.2.2.2.2 (by omega) x0 x1 x2 x3 hf, fun x0 x1 x2 x3 hf => mB_X13_sum_ok l D (7 + n) _ _ _ _ _ _ _ ih.1 ih.2.1 ih.2.2.1 ih.2.2.2.1 ih.2.2.2.2.1 ih.2.2.2.2.2.1 ih.2.2.2.2.2.2 (by omega) x0 x1 x2 x3 hf, fun x0 x1 x2 x3 hf => mB_X13_term_ok l D (7 + n) _ _ _ _ _ _ _ ih.1 ih.2.1 ih.2.2.1 ih.2.2.2.1 ih.2.2.2.2.1 ih.2.2.2.2.2.1 ih.2.2.2.2.2.2 (by omega) x0 x1 x2 x3 hf, fun x0 x1 x2 x3 hf => mB_X13_part_ok l D (7 + n) _ _ _ _ _ _ _ ih.1 ih.2.1 ih.2.2.1 ih.2.2.2.1 ih.2.2.2.2.1 ih.2.2.2.2.2.1 ih.2.2.2.2.2.2 (by omega) x0 x1 x2 x3 hf⟩
set_option maxHeartbeats 4000000 in
theorem mC_X13_test_ok (l : Launch) (D : DD) (n : Nat) : ∀ (w : AH) (a : Nat) (r : Nat ⊕ Nat) (w' : AH) , mC_X13_test n a w = some (r, w') → MA l D yX13_test cX13_test 3 (some (.object "FirstPolls$Test")) (7 + n) [.ref a] w (oN r) w' := (mG_rd_ok l D n).1
set_option maxHeartbeats 4000000 in
theorem mC_X13_both_ok (l : Launch) (D : DD) (n : Nat) : ∀ (w : AH) (a : Nat) (r : Nat ⊕ Nat) (w' : AH) , mC_X13_both n a w = some (r, w') → MA l D yX13_both cX13_both 3 (some (.object "FirstPolls$Test")) (7 + n) [.ref a] w (oN r) w' := (mG_rd_ok l D n).2.1
set_option maxHeartbeats 4000000 in
theorem mC_X13_plain_ok (l : Launch) (D : DD) (n : Nat) : ∀ (w : AH) (a : Nat) (r : Nat ⊕ Nat) (w' : AH) , mC_X13_plain n a w = some (r, w') → MA l D yX13_plain cX13_plain 3 (some (.object "FirstPolls$Test")) (7 + n) [.ref a] w (oN r) w' := (mG_rd_ok l D n).2.2.1
set_option maxHeartbeats 4000000 in
theorem mC_X13_positive_ok (l : Launch) (D : DD) (n : Nat) : ∀ (w : AH) (a : Nat) (r : Nat ⊕ Nat) (w' : AH) , mC_X13_positive n a w = some (r, w') → MA l D yX13_positive cX13_positive 4 (some (.object "FirstPolls$Test")) (7 + n) [.ref a] w (oN r) w' := (mG_rd_ok l D n).2.2.2.1
set_option maxHeartbeats 4000000 in
theorem mC_X13_sum_ok (l : Launch) (D : DD) (n : Nat) : ∀ (w : AH) (a : Nat) (r : Nat ⊕ Nat) (w' : AH) , mC_X13_sum n a w = some (r, w') → MA l D yX13_sum cX13_sum 3 (some (.object "FirstPolls$Sum")) (7 + n) [.ref a] w (oN r) w' := (mG_rd_ok l D n).2.2.2.2.1
set_option maxHeartbeats 4000000 in
theorem mC_X13_term_ok (l : Launch) (D : DD) (n : Nat) : ∀ (w : AH) (a : Nat) (r : Nat ⊕ Nat) (w' : AH) , mC_X13_term n a w = some (r, w') → MA l D yX13_term cX13_term 3 (some (.object "FirstPolls$Sum")) (7 + n) [.ref a] w (oN r) w' := (mG_rd_ok l D n).2.2.2.2.2.1
set_option maxHeartbeats 4000000 in
theorem mC_X13_part_ok (l : Launch) (D : DD) (n : Nat) : ∀ (w : AH) (a : Nat) (r : Nat ⊕ Nat) (w' : AH) , mC_X13_part n a w = some (r, w') → MA l D yX13_part cX13_part 2 (some (.object "FirstPolls$Sum")) (7 + n) [.ref a] w (oN r) w' := (mG_rd_ok l D n).2.2.2.2.2.2
set_option maxHeartbeats 4000000 in
theorem mC_X13_head_151_v {X : CX} {w0 : AH} {r : Nat ⊕ Nat} {w' : AH}  (hE : XE X w0 208 (some (.object "FirstPolls$Clause")) "head" (oN r) w') (hH : XH X []) (v0 : Nat) (v1 : Nat) (w : AH) (hf : mC_X13_head_151 v0 v1 w = some (r, w')) : V X cX13_head RX13 2 208 w 151 [some (.ref v0), some (.ref v1)] [] := by
  unfold mC_X13_head_151 at hf
  refine V_aload_n dX13_head_151 rfl ?_
  refine V_aload_n dX13_head_152 rfl ?_
  obtain ⟨h1, hf⟩ := ck_ex hf
  obtain ⟨x4, w5, hc2, hf⟩ | ⟨r3, w5, hc2, hf⟩ := (bdT_ex hf).symm
  · refine V_xV (av := []) (rest := [.ref v1]) (mC_X13_sum_ok _ _ 200 _ _ _ _ hc2) vx_X13_116 q1211 q160 (by decide) (kIn1 h1) (by decide) rfl rfl (Nat.le_of_ble_eq_true rfl) dX13_head_153 ?_
    cases some_ex hf
    exact VO_t (VT_out hE hH (by decide))
  refine V_xV (av := []) (rest := [.ref v1]) (mC_X13_sum_ok _ _ 200 _ _ _ _ hc2) vx_X13_116 q1211 q160 (by decide) (kIn1 h1) (by decide) rfl rfl (Nat.le_of_ble_eq_true rfl) dX13_head_153 ?_
  refine VO_r (v := some (.ref r3)) (st' := [.ref r3, .ref v1]) rfl ?_
  obtain ⟨h6, hf⟩ := ck_ex hf
  obtain ⟨w7, hs8, hf⟩ := st1_ex hf
  refine VE_putR (x := (some r3)) fw_X13_120 h6 rfl hs8 dX13_head_156 ?_
  refine V_aload_n dX13_head_159 rfl ?_
  cases some_ex hf
  exact V_aret (r := some _) hE (by first | exact Or.inl ⟨_, rfl⟩ | exact Or.inr ⟨_, rfl⟩) dX13_head_160
set_option maxHeartbeats 4000000 in
theorem mC_X13_head_ok (l : Launch) (D : DD) (w : AH) (a : Nat) (r : Nat ⊕ Nat) (w' : AH) (hf : mC_X13_head a w = some (r, w')) : MA l D yX13_head cX13_head 2 (some (.object "FirstPolls$Clause")) 208 [.ref a] w (oN r) w' := by
  refine MA.introH (own := RX13) (nm := "head") (ls := [some (.ref a), none]) (by decide) rfl rfl (Nat.le_of_ble_eq_true rfl) rfl (fun X hl hD hE hH => ?_)
  subst hl hD
  unfold mC_X13_head at hf
  refine V_aload_n dX13_head_0 rfl ?_
  obtain ⟨b1, ha2, hf⟩ := bd1_ex hf
  refine V_ldcS (key := 102) st_102 ha2 dX13_head_1 ?_
  obtain ⟨h3, hf⟩ := ck_ex hf
  obtain ⟨r5, w6, hc4, hf⟩ := bd2_ex hf
  refine V_cV (av := [.ref b1]) (rest := []) (st' := [.int r5]) (mC_X13_takes_ok _ _ _ _ _ _ _ hc4) vc_X13_55 (kIn1 h3) (by decide) rfl rfl (Nat.le_of_ble_eq_true rfl) dX13_head_3 rfl ?_
  refine V_if_eq (tgt := 20) dX13_head_6 (by decide) (fun hc7 => ?_) (fun hc7 => ?_)
  · have hf := if_t hf hc7
    refine V_aload_n dX13_head_20 rfl ?_
    obtain ⟨b8, ha9, hf⟩ := bd1_ex hf
    refine V_ldcS (key := 104) st_104 ha9 dX13_head_21 ?_
    obtain ⟨h10, hf⟩ := ck_ex hf
    obtain ⟨r12, w13, hc11, hf⟩ := bd2_ex hf
    refine V_cV (av := [.ref b8]) (rest := []) (st' := [.int r12]) (mC_X13_takes_ok _ _ _ _ _ _ _ hc11) vc_X13_55 (kIn1 h10) (by decide) rfl rfl (Nat.le_of_ble_eq_true rfl) dX13_head_23 rfl ?_
    refine V_if_eq (tgt := 40) dX13_head_26 (by decide) (fun hc14 => ?_) (fun hc14 => ?_)
    · have hf := if_t hf hc14
      refine V_aload_n dX13_head_40 rfl ?_
      obtain ⟨b15, ha16, hf⟩ := bd1_ex hf
      refine V_ldcS (key := 106) st_106 ha16 dX13_head_41 ?_
      obtain ⟨h17, hf⟩ := ck_ex hf
      obtain ⟨r19, w20, hc18, hf⟩ := bd2_ex hf
      refine V_cV (av := [.ref b15]) (rest := []) (st' := [.int r19]) (mC_X13_takes_ok _ _ _ _ _ _ _ hc18) vc_X13_55 (kIn1 h17) (by decide) rfl rfl (Nat.le_of_ble_eq_true rfl) dX13_head_43 rfl ?_
      refine V_if_eq (tgt := 60) dX13_head_46 (by decide) (fun hc21 => ?_) (fun hc21 => ?_)
      · have hf := if_t hf hc21
        refine V_aload_n dX13_head_60 rfl ?_
        obtain ⟨b22, ha23, hf⟩ := bd1_ex hf
        refine V_ldcS (key := 108) st_108 ha23 dX13_head_61 ?_
        obtain ⟨h24, hf⟩ := ck_ex hf
        obtain ⟨r26, w27, hc25, hf⟩ := bd2_ex hf
        refine V_cV (av := [.ref b22]) (rest := []) (st' := [.int r26]) (mC_X13_takes_ok _ _ _ _ _ _ _ hc25) vc_X13_55 (kIn1 h24) (by decide) rfl rfl (Nat.le_of_ble_eq_true rfl) dX13_head_63 rfl ?_
        refine V_if_eq (tgt := 86) dX13_head_66 (by decide) (fun hc28 => ?_) (fun hc28 => ?_)
        · have hf := if_t hf hc28
          refine V_aload_n dX13_head_86 rfl ?_
          obtain ⟨b29, ha30, hf⟩ := bd1_ex hf
          refine V_ldcS (key := 110) st_110 ha30 dX13_head_87 ?_
          obtain ⟨h31, hf⟩ := ck_ex hf
          obtain ⟨r33, w34, hc32, hf⟩ := bd2_ex hf
          refine V_cV (av := [.ref b29]) (rest := []) (st' := [.int r33]) (mC_X13_takes_ok _ _ _ _ _ _ _ hc32) vc_X13_55 (kIn1 h31) (by decide) rfl rfl (Nat.le_of_ble_eq_true rfl) dX13_head_89 rfl ?_
          refine V_if_eq (tgt := 109) dX13_head_92 (by decide) (fun hc35 => ?_) (fun hc35 => ?_)
          · have hf := if_t hf hc35
            refine V_aload_n dX13_head_109 rfl ?_
            obtain ⟨b36, ha37, hf⟩ := bd1_ex hf
            refine V_ldcS (key := 112) st_112 ha37 dX13_head_110 ?_
            obtain ⟨h38, hf⟩ := ck_ex hf
            obtain ⟨r40, w41, hc39, hf⟩ := bd2_ex hf
            refine V_cV (av := [.ref b36]) (rest := []) (st' := [.int r40]) (mC_X13_takes_ok _ _ _ _ _ _ _ hc39) vc_X13_55 (kIn1 h38) (by decide) rfl rfl (Nat.le_of_ble_eq_true rfl) dX13_head_112 rfl ?_
            refine V_if_eq (tgt := 133) dX13_head_115 (by decide) (fun hc42 => ?_) (fun hc42 => ?_)
            · have hf := if_t hf hc42
              refine V_aload_n dX13_head_133 rfl ?_
              obtain ⟨b43, ha44, hf⟩ := bd1_ex hf
              refine V_ldcS (key := 114) st_114 ha44 dX13_head_134 ?_
              obtain ⟨h45, hf⟩ := ck_ex hf
              obtain ⟨x48, w49, hc46, hf⟩ | ⟨r47, w49, hc46, hf⟩ := (bdT_ex hf).symm
              · refine V_xV (av := [.ref b43]) (rest := []) (mC_X13_need_ok _ _ _ _ _ _ _ hc46) vx_X13_75 q1166 q160 (by decide) (kIn1 h45) (by decide) rfl rfl (Nat.le_of_ble_eq_true rfl) dX13_head_136 ?_
                cases some_ex hf
                exact VO_t (VT_out hE hH (by decide))
              refine V_xV (av := [.ref b43]) (rest := []) (mC_X13_need_ok _ _ _ _ _ _ _ hc46) vx_X13_75 q1166 q160 (by decide) (kIn1 h45) (by decide) rfl rfl (Nat.le_of_ble_eq_true rfl) dX13_head_136 ?_
              refine VO_r (v := none) (st' := []) rfl ?_
              obtain ⟨h50, hf⟩ := ck_ex hf
              obtain ⟨b51, hb52, hf⟩ := st1_ex hf
              obtain ⟨w53, hs54, hf⟩ := st1_ex hf
              refine VE_new clX15 q1167 q1168 q164 ok_X15 h50 hb52 hs54 dX13_head_139 ?_
              refine V_dup dX13_head_142 rfl ?_
              refine V_bipush dX13_head_143 ckb_7 ?_
              refine V_iconst dX13_head_145 ckc_0 ?_
              refine V_iconst dX13_head_146 ckc_0 ?_
              obtain ⟨w56, hc55, hf⟩ := bd1_ex hf
              refine V_cI (av := [.int (7 : Int32), .int (0 : Int32), .int (0 : Int32)]) (rest := [.ref b51]) (st' := [.ref b51]) (mC_X15_init_ok _ _ _ _ _ _ _ _ hc55) ic_X13_81 (by decide) rfl rfl (Nat.le_of_ble_eq_true rfl) dX13_head_147 rfl ?_
              refine V_astore_n (ls' := [some (.ref a), some (.ref b51)]) dX13_head_150 (by decide) rfl ?_
              exact mC_X13_head_151_v hE hH a b51 w56 hf
            · have hf := if_f hf hc42
              obtain ⟨h57, hf⟩ := ck_ex hf
              obtain ⟨b58, hb59, hf⟩ := st1_ex hf
              obtain ⟨w60, hs61, hf⟩ := st1_ex hf
              refine VE_new clX15 q1167 q1168 q164 ok_X15 h57 hb59 hs61 dX13_head_118 ?_
              refine V_dup dX13_head_121 rfl ?_
              refine V_bipush dX13_head_122 ckb_6 ?_
              refine V_iconst dX13_head_124 ckc_0 ?_
              refine V_iconst dX13_head_125 ckc_0 ?_
              obtain ⟨w63, hc62, hf⟩ := bd1_ex hf
              refine V_cI (av := [.int (6 : Int32), .int (0 : Int32), .int (0 : Int32)]) (rest := [.ref b58]) (st' := [.ref b58]) (mC_X15_init_ok _ _ _ _ _ _ _ _ hc62) ic_X13_81 (by decide) rfl rfl (Nat.le_of_ble_eq_true rfl) dX13_head_126 rfl ?_
              refine V_astore_n (ls' := [some (.ref a), some (.ref b58)]) dX13_head_129 (by decide) rfl ?_
              refine V_goto (tgt := 151) dX13_head_130 (by decide) ?_
              exact mC_X13_head_151_v hE hH a b58 w63 hf
          · have hf := if_f hf hc35
            obtain ⟨h64, hf⟩ := ck_ex hf
            obtain ⟨b65, hb66, hf⟩ := st1_ex hf
            obtain ⟨w67, hs68, hf⟩ := st1_ex hf
            refine VE_new clX15 q1167 q1168 q164 ok_X15 h64 hb66 hs68 dX13_head_95 ?_
            refine V_dup dX13_head_98 rfl ?_
            refine V_iconst dX13_head_99 ckc_5 ?_
            refine V_iconst dX13_head_100 ckc_0 ?_
            refine V_iconst dX13_head_101 ckc_0 ?_
            obtain ⟨w70, hc69, hf⟩ := bd1_ex hf
            refine V_cI (av := [.int (5 : Int32), .int (0 : Int32), .int (0 : Int32)]) (rest := [.ref b65]) (st' := [.ref b65]) (mC_X15_init_ok _ _ _ _ _ _ _ _ hc69) ic_X13_81 (by decide) rfl rfl (Nat.le_of_ble_eq_true rfl) dX13_head_102 rfl ?_
            refine V_astore_n (ls' := [some (.ref a), some (.ref b65)]) dX13_head_105 (by decide) rfl ?_
            refine V_goto (tgt := 151) dX13_head_106 (by decide) ?_
            exact mC_X13_head_151_v hE hH a b65 w70 hf
        · have hf := if_f hf hc28
          obtain ⟨h71, hf⟩ := ck_ex hf
          obtain ⟨b72, hb73, hf⟩ := st1_ex hf
          obtain ⟨w74, hs75, hf⟩ := st1_ex hf
          refine VE_new clX15 q1167 q1168 q164 ok_X15 h71 hb73 hs75 dX13_head_69 ?_
          refine V_dup dX13_head_72 rfl ?_
          refine V_iconst dX13_head_73 ckc_3 ?_
          refine V_aload_n dX13_head_74 rfl ?_
          refine V_iconst dX13_head_75 ckc_0 ?_
          refine V_bipush dX13_head_76 ckb_9 ?_
          obtain ⟨h76, hf⟩ := ck_ex hf
          obtain ⟨x79, w80, hc77, hf⟩ | ⟨r78, w80, hc77, hf⟩ := (bdT_ex hf).symm
          · refine V_xV (av := [.int (0 : Int32), .int (9 : Int32)]) (rest := [.int (3 : Int32), .ref b72, .ref b72]) (mC_X13_number_ok _ _ _ _ _ _ _ _ hc77) vx_X13_70 q1161 q160 (by decide) (kIn1 h76) (by decide) rfl rfl (Nat.le_of_ble_eq_true rfl) dX13_head_78 ?_
            cases some_ex hf
            exact VO_t (VT_out hE hH (by decide))
          refine V_xV (av := [.int (0 : Int32), .int (9 : Int32)]) (rest := [.int (3 : Int32), .ref b72, .ref b72]) (mC_X13_number_ok _ _ _ _ _ _ _ _ hc77) vx_X13_70 q1161 q160 (by decide) (kIn1 h76) (by decide) rfl rfl (Nat.le_of_ble_eq_true rfl) dX13_head_78 ?_
          refine VO_r (v := some (.int r78)) (st' := [.int r78, .int (3 : Int32), .ref b72, .ref b72]) rfl ?_
          refine V_iconst dX13_head_81 ckc_0 ?_
          obtain ⟨w82, hc81, hf⟩ := bd1_ex hf
          refine V_cI (av := [.int (3 : Int32), .int r78, .int (0 : Int32)]) (rest := [.ref b72]) (st' := [.ref b72]) (mC_X15_init_ok _ _ _ _ _ _ _ _ hc81) ic_X13_81 (by decide) rfl rfl (Nat.le_of_ble_eq_true rfl) dX13_head_82 rfl ?_
          cases some_ex hf
          exact V_aret (r := some _) hE (by first | exact Or.inl ⟨_, rfl⟩ | exact Or.inr ⟨_, rfl⟩) dX13_head_85
      · have hf := if_f hf hc21
        obtain ⟨h83, hf⟩ := ck_ex hf
        obtain ⟨b84, hb85, hf⟩ := st1_ex hf
        obtain ⟨w86, hs87, hf⟩ := st1_ex hf
        refine VE_new clX15 q1167 q1168 q164 ok_X15 h83 hb85 hs87 dX13_head_49 ?_
        refine V_dup dX13_head_52 rfl ?_
        refine V_iconst dX13_head_53 ckc_4 ?_
        refine V_iconst dX13_head_54 ckc_0 ?_
        refine V_iconst dX13_head_55 ckc_0 ?_
        obtain ⟨w89, hc88, hf⟩ := bd1_ex hf
        refine V_cI (av := [.int (4 : Int32), .int (0 : Int32), .int (0 : Int32)]) (rest := [.ref b84]) (st' := [.ref b84]) (mC_X15_init_ok _ _ _ _ _ _ _ _ hc88) ic_X13_81 (by decide) rfl rfl (Nat.le_of_ble_eq_true rfl) dX13_head_56 rfl ?_
        cases some_ex hf
        exact V_aret (r := some _) hE (by first | exact Or.inl ⟨_, rfl⟩ | exact Or.inr ⟨_, rfl⟩) dX13_head_59
    · have hf := if_f hf hc14
      obtain ⟨h90, hf⟩ := ck_ex hf
      obtain ⟨b91, hb92, hf⟩ := st1_ex hf
      obtain ⟨w93, hs94, hf⟩ := st1_ex hf
      refine VE_new clX15 q1167 q1168 q164 ok_X15 h90 hb92 hs94 dX13_head_29 ?_
      refine V_dup dX13_head_32 rfl ?_
      refine V_iconst dX13_head_33 ckc_2 ?_
      refine V_iconst dX13_head_34 ckc_0 ?_
      refine V_iconst dX13_head_35 ckc_0 ?_
      obtain ⟨w96, hc95, hf⟩ := bd1_ex hf
      refine V_cI (av := [.int (2 : Int32), .int (0 : Int32), .int (0 : Int32)]) (rest := [.ref b91]) (st' := [.ref b91]) (mC_X15_init_ok _ _ _ _ _ _ _ _ hc95) ic_X13_81 (by decide) rfl rfl (Nat.le_of_ble_eq_true rfl) dX13_head_36 rfl ?_
      cases some_ex hf
      exact V_aret (r := some _) hE (by first | exact Or.inl ⟨_, rfl⟩ | exact Or.inr ⟨_, rfl⟩) dX13_head_39
  · have hf := if_f hf hc7
    obtain ⟨h97, hf⟩ := ck_ex hf
    obtain ⟨b98, hb99, hf⟩ := st1_ex hf
    obtain ⟨w100, hs101, hf⟩ := st1_ex hf
    refine VE_new clX15 q1167 q1168 q164 ok_X15 h97 hb99 hs101 dX13_head_9 ?_
    refine V_dup dX13_head_12 rfl ?_
    refine V_iconst dX13_head_13 ckc_1 ?_
    refine V_iconst dX13_head_14 ckc_0 ?_
    refine V_iconst dX13_head_15 ckc_0 ?_
    obtain ⟨w103, hc102, hf⟩ := bd1_ex hf
    refine V_cI (av := [.int (1 : Int32), .int (0 : Int32), .int (0 : Int32)]) (rest := [.ref b98]) (st' := [.ref b98]) (mC_X15_init_ok _ _ _ _ _ _ _ _ hc102) ic_X13_81 (by decide) rfl rfl (Nat.le_of_ble_eq_true rfl) dX13_head_16 rfl ?_
    cases some_ex hf
    exact V_aret (r := some _) hE (by first | exact Or.inl ⟨_, rfl⟩ | exact Or.inr ⟨_, rfl⟩) dX13_head_19
set_option maxHeartbeats 4000000 in
theorem mC_X13_clause_94_v {X : CX} {w0 : AH} {r : Unit ⊕ Nat} {w' : AH}  (hE : XE X w0 209 none "clause" (oV r) w') (hH : XH X []) (v0 : Nat) (v1 : Nat) (w : AH) (hf : mC_X13_clause_94 v0 v1 w = some (r, w')) : V X cX13_clause RX13 2 209 w 94 [some (.ref v0), some (.ref v1)] [] := by
  unfold mC_X13_clause_94 at hf
  refine V_aload_n dX13_clause_94 rfl ?_
  obtain ⟨h1, hf⟩ := ck_ex hf
  obtain ⟨b2, hb3, hf⟩ := bd1_ex hf
  refine VP_getR (x := some b2) fa_X13_14 h1 rfl rfl hb3 dX13_clause_95 ?_
  refine V_aload_n dX13_clause_98 rfl ?_
  obtain ⟨h4, hf⟩ := ck_ex hf
  obtain ⟨r6, w7, hc5, hf⟩ := bd2_ex hf
  refine V_cV (av := [.ref v1]) (rest := []) (st' := [.int r6]) (mC_J2_add_ok _ _ _ _ _ _ _ hc5) vc_X13_84 (kIn1 h4) (by decide) rfl rfl (Nat.le_of_ble_eq_true rfl) dX13_clause_99 rfl ?_
  refine V_pop dX13_clause_102 rfl ?_
  cases some_ex hf
  exact V_vret hE dX13_clause_103
set_option maxHeartbeats 4000000 in
theorem mC_X13_clause_ok (l : Launch) (D : DD) (w : AH) (a : Nat) (r : Unit ⊕ Nat) (w' : AH) (hf : mC_X13_clause a w = some (r, w')) : MA l D yX13_clause cX13_clause 2 none 209 [.ref a] w (oV r) w' := by
  refine MA.introH (own := RX13) (nm := "clause") (ls := [some (.ref a), none]) (by decide) rfl rfl (Nat.le_of_ble_eq_true rfl) rfl (fun X hl hD hE hH => ?_)
  subst hl hD
  unfold mC_X13_clause at hf
  refine V_aload_n dX13_clause_0 rfl ?_
  obtain ⟨h1, hf⟩ := ck_ex hf
  obtain ⟨b2, hb3, hf⟩ := bd1_ex hf
  refine VP_getR (x := some b2) fa_X13_14 h1 rfl rfl hb3 dX13_clause_1 ?_
  obtain ⟨h4, hf⟩ := ck_ex hf
  obtain ⟨r6, hc5, hf⟩ := bd1_ex hf
  refine V_cV (av := []) (rest := []) (st' := [.int r6]) (mC_J2_size_ok _ _ _ _ _ hc5) vc_X13_66 (kIn1 h4) (by decide) rfl rfl (Nat.le_of_ble_eq_true rfl) dX13_clause_4 rfl ?_
  refine V_bipush dX13_clause_7 ckb_12 ?_
  refine V_icmp_ne (tgt := 24) dX13_clause_9 (by decide) (fun hc7 => ?_) (fun hc7 => ?_)
  · have hf := if_f hf hc7
    refine V_aload_n dX13_clause_24 rfl ?_
    obtain ⟨b8, ha9, hf⟩ := bd1_ex hf
    refine V_ldcS (key := 68) st_68 ha9 dX13_clause_25 ?_
    obtain ⟨r11, w12, hc10, hf⟩ := bd2_ex hf
    refine V_cV (av := [.ref b8]) (rest := []) (st' := [.int r11]) (mC_X13_takes_ok _ _ _ _ _ _ _ hc10) vc_X13_55 (kIn1 h1) (by decide) rfl rfl (Nat.le_of_ble_eq_true rfl) dX13_clause_27 rfl ?_
    refine V_if_eq (tgt := 72) dX13_clause_30 (by decide) (fun hc13 => ?_) (fun hc13 => ?_)
    · have hf := if_t hf hc13
      refine V_aload_n dX13_clause_72 rfl ?_
      obtain ⟨h14, hf⟩ := ck_ex hf
      obtain ⟨x17, w18, hc15, hf⟩ | ⟨r16, w18, hc15, hf⟩ := (bdT_ex hf).symm
      · refine V_xV (av := []) (rest := []) (mC_X13_head_ok _ _ _ _ _ _ hc15) vx_X13_88 q1200 q160 (by decide) (kIn1 h14) (by decide) rfl rfl (Nat.le_of_ble_eq_true rfl) dX13_clause_73 ?_
        cases some_ex hf
        exact VO_t (VT_out hE hH (by decide))
      refine V_xV (av := []) (rest := []) (mC_X13_head_ok _ _ _ _ _ _ hc15) vx_X13_88 q1200 q160 (by decide) (kIn1 h14) (by decide) rfl rfl (Nat.le_of_ble_eq_true rfl) dX13_clause_73 ?_
      refine VO_r (v := some (.ref r16)) (st' := [.ref r16]) rfl ?_
      refine V_astore_n (ls' := [some (.ref a), some (.ref r16)]) dX13_clause_76 (by decide) rfl ?_
      refine V_aload_n dX13_clause_77 rfl ?_
      obtain ⟨b19, ha20, hf⟩ := bd1_ex hf
      refine V_ldcS (key := 92) st_92 ha20 dX13_clause_78 ?_
      obtain ⟨h21, hf⟩ := ck_ex hf
      obtain ⟨r23, w24, hc22, hf⟩ := bd2_ex hf
      refine V_cV (av := [.ref b19]) (rest := []) (st' := [.int r23]) (mC_X13_takes_ok _ _ _ _ _ _ _ hc22) vc_X13_55 (kIn1 h21) (by decide) rfl rfl (Nat.le_of_ble_eq_true rfl) dX13_clause_80 rfl ?_
      refine V_if_eq (tgt := 94) dX13_clause_83 (by decide) (fun hc25 => ?_) (fun hc25 => ?_)
      · have hf := if_t hf hc25
        exact mC_X13_clause_94_v hE hH a r16 w24 hf
      · have hf := if_f hf hc25
        refine V_aload_n dX13_clause_86 rfl ?_
        refine V_aload_n dX13_clause_87 rfl ?_
        obtain ⟨h26, hf⟩ := ck_ex hf
        obtain ⟨x29, w30, hc27, hf⟩ | ⟨r28, w30, hc27, hf⟩ := (bdT_ex hf).symm
        · refine V_xV (av := []) (rest := [.ref r16]) (mC_X13_test_ok _ _ 200 _ _ _ _ hc27) vx_X13_94 q1293 q160 (by decide) (kIn1 h26) (by decide) rfl rfl (Nat.le_of_ble_eq_true rfl) dX13_clause_88 ?_
          cases some_ex hf
          exact VO_t (VT_out hE hH (by decide))
        refine V_xV (av := []) (rest := [.ref r16]) (mC_X13_test_ok _ _ 200 _ _ _ _ hc27) vx_X13_94 q1293 q160 (by decide) (kIn1 h26) (by decide) rfl rfl (Nat.le_of_ble_eq_true rfl) dX13_clause_88 ?_
        refine VO_r (v := some (.ref r28)) (st' := [.ref r28, .ref r16]) rfl ?_
        obtain ⟨h31, hf⟩ := ck_ex hf
        obtain ⟨w32, hs33, hf⟩ := st1_ex hf
        refine VE_putR (x := (some r28)) fw_X13_98 h31 rfl hs33 dX13_clause_91 ?_
        exact mC_X13_clause_94_v hE hH a r16 w32 hf
    · have hf := if_f hf hc13
      refine V_aload_n dX13_clause_33 rfl ?_
      refine V_iconst dX13_clause_34 ckc_0 ?_
      refine V_bipush dX13_clause_35 ckb_19 ?_
      obtain ⟨h34, hf⟩ := ck_ex hf
      obtain ⟨x37, w38, hc35, hf⟩ | ⟨r36, w38, hc35, hf⟩ := (bdT_ex hf).symm
      · refine V_xV (av := [.int (0 : Int32), .int (19 : Int32)]) (rest := []) (mC_X13_number_ok _ _ _ _ _ _ _ _ hc35) vx_X13_70 q1161 q160 (by decide) (kIn1 h34) (by decide) rfl rfl (Nat.le_of_ble_eq_true rfl) dX13_clause_37 ?_
        cases some_ex hf
        exact VO_t (VT_out hE hH (by decide))
      refine V_xV (av := [.int (0 : Int32), .int (19 : Int32)]) (rest := []) (mC_X13_number_ok _ _ _ _ _ _ _ _ hc35) vx_X13_70 q1161 q160 (by decide) (kIn1 h34) (by decide) rfl rfl (Nat.le_of_ble_eq_true rfl) dX13_clause_37 ?_
      refine VO_r (v := some (.int r36)) (st' := [.int r36]) rfl ?_
      refine V_istore_n (ls' := [some (.ref a), some (.int r36)]) dX13_clause_40 (by decide) rfl ?_
      refine V_aload_n dX13_clause_41 rfl ?_
      obtain ⟨b39, ha40, hf⟩ := bd1_ex hf
      refine V_ldcS (key := 74) st_74 ha40 dX13_clause_42 ?_
      obtain ⟨h41, hf⟩ := ck_ex hf
      obtain ⟨x44, w45, hc42, hf⟩ | ⟨r43, w45, hc42, hf⟩ := (bdT_ex hf).symm
      · refine V_xV (av := [.ref b39]) (rest := []) (mC_X13_need_ok _ _ _ _ _ _ _ hc42) vx_X13_75 q1166 q160 (by decide) (kIn1 h41) (by decide) rfl rfl (Nat.le_of_ble_eq_true rfl) dX13_clause_44 ?_
        cases some_ex hf
        exact VO_t (VT_out hE hH (by decide))
      refine V_xV (av := [.ref b39]) (rest := []) (mC_X13_need_ok _ _ _ _ _ _ _ hc42) vx_X13_75 q1166 q160 (by decide) (kIn1 h41) (by decide) rfl rfl (Nat.le_of_ble_eq_true rfl) dX13_clause_44 ?_
      refine VO_r (v := none) (st' := []) rfl ?_
      refine V_aload_n dX13_clause_47 rfl ?_
      obtain ⟨h46, hf⟩ := ck_ex hf
      obtain ⟨b47, hb48, hf⟩ := bd1_ex hf
      refine VP_getR (x := some b47) fa_X13_14 h46 rfl rfl hb48 dX13_clause_48 ?_
      obtain ⟨h49, hf⟩ := ck_ex hf
      obtain ⟨b50, hb51, hf⟩ := st1_ex hf
      obtain ⟨w52, hs53, hf⟩ := st1_ex hf
      refine VE_new clX15 q1167 q1168 q164 ok_X15 h49 hb51 hs53 dX13_clause_51 ?_
      refine V_dup dX13_clause_54 rfl ?_
      refine V_iconst dX13_clause_55 ckc_0 ?_
      refine V_iload_n dX13_clause_56 rfl ?_
      refine V_aload_n dX13_clause_57 rfl ?_
      refine V_iconst dX13_clause_58 ckc_0 ?_
      refine V_bipush dX13_clause_59 ckb_11 ?_
      obtain ⟨h54, hf⟩ := ck_ex hf
      obtain ⟨x57, w58, hc55, hf⟩ | ⟨r56, w58, hc55, hf⟩ := (bdT_ex hf).symm
      · refine V_xV (av := [.int (0 : Int32), .int (11 : Int32)]) (rest := [.int r36, .int (0 : Int32), .ref b50, .ref b50, .ref b47]) (mC_X13_number_ok _ _ _ _ _ _ _ _ hc55) vx_X13_70 q1161 q160 (by decide) (kIn1 h54) (by decide) rfl rfl (Nat.le_of_ble_eq_true rfl) dX13_clause_61 ?_
        cases some_ex hf
        exact VO_t (VT_out hE hH (by decide))
      refine V_xV (av := [.int (0 : Int32), .int (11 : Int32)]) (rest := [.int r36, .int (0 : Int32), .ref b50, .ref b50, .ref b47]) (mC_X13_number_ok _ _ _ _ _ _ _ _ hc55) vx_X13_70 q1161 q160 (by decide) (kIn1 h54) (by decide) rfl rfl (Nat.le_of_ble_eq_true rfl) dX13_clause_61 ?_
      refine VO_r (v := some (.int r56)) (st' := [.int r56, .int r36, .int (0 : Int32), .ref b50, .ref b50, .ref b47]) rfl ?_
      obtain ⟨w60, hc59, hf⟩ := bd1_ex hf
      refine V_cI (av := [.int (0 : Int32), .int r36, .int r56]) (rest := [.ref b50, .ref b47]) (st' := [.ref b50, .ref b47]) (mC_X15_init_ok _ _ _ _ _ _ _ _ hc59) ic_X13_81 (by decide) rfl rfl (Nat.le_of_ble_eq_true rfl) dX13_clause_64 rfl ?_
      obtain ⟨h61, hf⟩ := ck_ex hf
      obtain ⟨r63, w64, hc62, hf⟩ := bd2_ex hf
      refine V_cV (av := [.ref b50]) (rest := []) (st' := [.int r63]) (mC_J2_add_ok _ _ _ _ _ _ _ hc62) vc_X13_84 (kIn1 h61) (by decide) rfl rfl (Nat.le_of_ble_eq_true rfl) dX13_clause_67 rfl ?_
      refine V_pop dX13_clause_70 rfl ?_
      cases some_ex hf
      exact V_vret hE dX13_clause_71
  · have hf := if_t hf hc7
    obtain ⟨h65, hf⟩ := ck_ex hf
    obtain ⟨b66, hb67, hf⟩ := st1_ex hf
    obtain ⟨w68, hs69, hf⟩ := st1_ex hf
    refine VE_new clX14 q1084 q1085 q161 ok_X14 h65 hb67 hs69 dX13_clause_12 ?_
    refine V_dup dX13_clause_15 rfl ?_
    refine V_aload_n dX13_clause_16 rfl ?_
    obtain ⟨h70, hf⟩ := ck_ex hf
    refine VP_getI fa_X13_31 h70 rfl dX13_clause_17 ?_
    obtain ⟨w72, hc71, hf⟩ := bd1_ex hf
    refine V_cI (av := [.int (hvi w68 a 3)]) (rest := [.ref b66]) (st' := [.ref b66]) (mC_X14_init_ok _ _ _ _ _ _ hc71) ic_X13_60 (by decide) rfl rfl (Nat.le_of_ble_eq_true rfl) dX13_clause_20 rfl ?_
    cases some_ex hf
    exact V_athrow dX13_clause_23 (VT_out hE hH (by decide))
set_option maxHeartbeats 4000000 in
theorem mC_X13_read_8_v {X : CX} {w0 : AH} {r : Unit ⊕ Nat} {w' : AH}  (hE : XE X w0 210 none "read" (oV r) w') (hH : XH X []) (k8 : Nat → AH → Option ((Unit ⊕ Nat) × AH)) (hk8 : ∀ (v0 : Nat) (w : AH), k8 v0 w = some (r, w') → V X cX13_read RX13 1 210 w 8 [some (.ref v0)] []) (v0 : Nat) (w : AH) (hf : mC_X13_read_8 k8 v0 w = some (r, w')) : V X cX13_read RX13 1 210 w 8 [some (.ref v0)] [] := by
  unfold mC_X13_read_8 at hf
  refine V_aload_n dX13_read_8 rfl ?_
  obtain ⟨b1, ha2, hf⟩ := bd1_ex hf
  refine V_ldcS (key := 64) st_64 ha2 dX13_read_9 ?_
  obtain ⟨h3, hf⟩ := ck_ex hf
  obtain ⟨r5, w6, hc4, hf⟩ := bd2_ex hf
  refine V_cV (av := [.ref b1]) (rest := []) (st' := [.int r5]) (mC_X13_takes_ok _ _ _ _ _ _ _ hc4) vc_X13_55 (kIn1 h3) (by decide) rfl rfl (Nat.le_of_ble_eq_true rfl) dX13_read_11 rfl ?_
  refine V_if_eq (tgt := 24) dX13_read_14 (by decide) (fun hc7 => ?_) (fun hc7 => ?_)
  · have hf := if_t hf hc7
    refine V_aload_n dX13_read_24 rfl ?_
    obtain ⟨h8, hf⟩ := ck_ex hf
    refine VP_getI fa_X13_31 h8 rfl dX13_read_25 ?_
    refine V_aload_n dX13_read_28 rfl ?_
    refine VP_getI fa_X13_24 h8 rfl dX13_read_29 ?_
    refine V_icmp_ge (tgt := 47) dX13_read_32 (by decide) (fun hc9 => ?_) (fun hc9 => ?_)
    · have hf := if_t hf hc9
      cases some_ex hf
      exact V_vret hE dX13_read_47
    · have hf := if_f hf hc9
      obtain ⟨h10, hf⟩ := ck_ex hf
      obtain ⟨b11, hb12, hf⟩ := st1_ex hf
      obtain ⟨w13, hs14, hf⟩ := st1_ex hf
      refine VE_new clX14 q1084 q1085 q161 ok_X14 h10 hb12 hs14 dX13_read_35 ?_
      refine V_dup dX13_read_38 rfl ?_
      refine V_aload_n dX13_read_39 rfl ?_
      obtain ⟨h15, hf⟩ := ck_ex hf
      refine VP_getI fa_X13_31 h15 rfl dX13_read_40 ?_
      obtain ⟨w17, hc16, hf⟩ := bd1_ex hf
      refine V_cI (av := [.int (hvi w13 v0 3)]) (rest := [.ref b11]) (st' := [.ref b11]) (mC_X14_init_ok _ _ _ _ _ _ hc16) ic_X13_60 (by decide) rfl rfl (Nat.le_of_ble_eq_true rfl) dX13_read_43 rfl ?_
      cases some_ex hf
      exact V_athrow dX13_read_46 (VT_out hE hH (by decide))
  · have hf := if_f hf hc7
    refine V_aload_n dX13_read_17 rfl ?_
    obtain ⟨h18, hf⟩ := ck_ex hf
    obtain ⟨x21, w22, hc19, hf⟩ | ⟨r20, w22, hc19, hf⟩ := (bdT_ex hf).symm
    · refine V_xV (av := []) (rest := []) (mC_X13_clause_ok _ _ _ _ _ _ hc19) vx_X13_61 q1082 q160 (by decide) (kIn1 h18) (by decide) rfl rfl (Nat.le_of_ble_eq_true rfl) dX13_read_18 ?_
      cases some_ex hf
      exact VO_t (VT_out hE hH (by decide))
    refine V_xV (av := []) (rest := []) (mC_X13_clause_ok _ _ _ _ _ _ hc19) vx_X13_61 q1082 q160 (by decide) (kIn1 h18) (by decide) rfl rfl (Nat.le_of_ble_eq_true rfl) dX13_read_18 ?_
    refine VO_r (v := none) (st' := []) rfl ?_
    refine V_goto (tgt := 8) dX13_read_21 (by decide) ?_
    exact hk8 v0 w22 hf
set_option maxHeartbeats 4000000 in
theorem mC_X13_read_ok (l : Launch) (D : DD) (w : AH) (a : Nat) (r : Unit ⊕ Nat) (w' : AH) (hf : mC_X13_read a w = some (r, w')) : MA l D yX13_read cX13_read 1 none 210 [.ref a] w (oV r) w' := by
  refine MA.introH (own := RX13) (nm := "read") (ls := [some (.ref a)]) (by decide) rfl rfl (Nat.le_of_ble_eq_true rfl) rfl (fun X hl hD hE hH => ?_)
  subst hl hD
  unfold mC_X13_read at hf
  refine V_aload_n dX13_read_0 rfl ?_
  obtain ⟨h1, hf⟩ := ck_ex hf
  obtain ⟨w3, hc2, hf⟩ := bd1_ex hf
  refine V_cV (av := []) (rest := []) (st' := []) (mC_X13_next_ok _ _ _ _ _ hc2) vc_X13_52 (kIn1 h1) (by decide) rfl rfl (Nat.le_of_ble_eq_true rfl) dX13_read_1 rfl ?_
  refine V_aload_n dX13_read_4 rfl ?_
  obtain ⟨h4, hf⟩ := ck_ex hf
  obtain ⟨x7, w8, hc5, hf⟩ | ⟨r6, w8, hc5, hf⟩ := (bdT_ex hf).symm
  · refine V_xV (av := []) (rest := []) (mC_X13_clause_ok _ _ _ _ _ _ hc5) vx_X13_61 q1082 q160 (by decide) (kIn1 h4) (by decide) rfl rfl (Nat.le_of_ble_eq_true rfl) dX13_read_5 ?_
    cases some_ex hf
    exact VO_t (VT_out hE hH (by decide))
  refine V_xV (av := []) (rest := []) (mC_X13_clause_ok _ _ _ _ _ _ hc5) vx_X13_61 q1082 q160 (by decide) (kIn1 h4) (by decide) rfl rfl (Nat.le_of_ble_eq_true rfl) dX13_read_5 ?_
  refine VO_r (v := none) (st' := []) rfl ?_
  exact lq2_ex (P := fun v0 w => V X cX13_read RX13 1 210 w 8 [some (.ref v0)] []) (fun k hk v0 w hf => mC_X13_read_8_v hE hH k hk v0 w hf) LF a w8 hf
set_option maxHeartbeats 4000000 in
theorem mC_X25_init_ok (l : Launch) (D : DD) (w : AH) (a : Nat) (p0 : Int32) (p1 : Int32) (p2 : Nat) (w' : AH) (hf : mC_X25_init a p0 p1 p2 w = some w') : MA l D yX25_init cX25_init 4 none 1 [.ref a, .int p0, .int p1, .ref p2] w (.returned none) w' := by
  refine MA.introH (own := RX25) (nm := "<init>") (ls := [some (.ref a), some (.int p0), some (.int p1), some (.ref p2)]) (by decide) rfl rfl (Nat.le_of_ble_eq_true rfl) rfl (fun X hl hD hE hH => ?_)
  subst hl hD
  unfold mC_X25_init at hf
  refine V_aload_n dX25_init_0 rfl ?_
  refine V_objInit q1384 q182 q183 (by decide) (Nat.le_of_ble_eq_true rfl) dX25_init_1 ?_
  refine V_aload_n dX25_init_4 rfl ?_
  refine V_iload_n dX25_init_5 rfl ?_
  obtain ⟨h1, hf⟩ := ck_ex hf
  obtain ⟨w2, hs3, hf⟩ := st1_ex hf
  refine VE_putIF ff_X25_7 h1 hE.ini rfl rfl rfl hs3 dX25_init_6 ?_
  refine V_aload_n dX25_init_9 rfl ?_
  refine V_iload_n dX25_init_10 rfl ?_
  obtain ⟨h4, hf⟩ := ck_ex hf
  obtain ⟨w5, hs6, hf⟩ := st1_ex hf
  refine VE_putIF ff_X25_13 h4 hE.ini rfl rfl rfl hs6 dX25_init_11 ?_
  refine V_aload_n dX25_init_14 rfl ?_
  refine V_aload_n dX25_init_15 rfl ?_
  obtain ⟨h7, hf⟩ := ck_ex hf
  obtain ⟨w8, hs9, hf⟩ := st1_ex hf
  refine VE_putRF (x := (some p2)) ff_X25_16 h7 hE.ini rfl hs9 dX25_init_16 ?_
  cases some_ex hf
  exact V_vret hE dX25_init_19
set_option maxHeartbeats 4000000 in
theorem mC_X0_order_65_v {X : CX} {w0 : AH} {r : Int32} {w' : AH}  (hE : XE X w0 211 (some (.int)) "order" (.returned (some (.int r))) w') (hH : XH X [(58, 62, 65, 303)]) (v0 : Nat) (t0 : Nat) (w : AH) (hf : mC_X0_order_65 v0 t0 w = some (r, w')) : V X cX0_order RX0 5 211 w 65 [some (.ref v0), none, none, none, none] [.ref t0] := by
  unfold mC_X0_order_65 at hf
  refine V_astore (ls' := [some (.ref v0), none, none, none, some (.ref t0)]) dX0_order_65 (by decide) rfl ?_
  refine V_aload_n dX0_order_67 rfl ?_
  refine V_aload dX0_order_68 rfl ?_
  obtain ⟨h1, hf⟩ := ck_ex hf
  refine VP_getI fa_X0_305 h1 rfl dX0_order_70 ?_
  obtain ⟨h2, hf⟩ := ck_ex hf
  obtain ⟨w3, hs4, hf⟩ := st1_ex hf
  refine VE_putI fw_X0_24 h2 rfl rfl rfl hs4 dX0_order_73 ?_
  refine V_aload_n dX0_order_76 rfl ?_
  refine V_bipush dX0_order_77 ckb_m6 ?_
  obtain ⟨h5, hf⟩ := ck_ex hf
  obtain ⟨r7, w8, hc6, hf⟩ := bd2_ex hf
  refine V_cV (av := [.int (-6 : Int32)]) (rest := []) (st' := [.int r7]) (mC_X0_refuse_ok _ _ _ _ _ _ _ hc6) vc_X0_131 (kIn1 h5) (by decide) rfl rfl (Nat.le_of_ble_eq_true rfl) dX0_order_79 rfl ?_
  cases some_ex hf
  exact V_iret hE dX0_order_82
set_option maxHeartbeats 4000000 in
theorem mC_X0_order_ok (l : Launch) (D : DD) (w : AH) (a : Nat) (p0 : Int32) (r : Int32) (w' : AH) (hf : mC_X0_order a p0 w = some (r, w')) : MAW l D yX0_order cX0_order 5 (some (.int)) [(58, 62, 65, 303)] 211 [.ref a, .int p0] w (.returned (some (.int r))) w' := by
  refine MAW.intro (own := RX0) (nm := "order") (ls := [some (.ref a), some (.int p0), none, none, none]) (by decide) rfl rfl (Nat.le_of_ble_eq_true rfl) rfl (fun X hl hD hE hH => ?_)
  subst hl hD
  unfold mC_X0_order at hf
  refine V_aload_n dX0_order_0 rfl ?_
  obtain ⟨h1, hf⟩ := ck_ex hf
  refine VP_getI fa_X0_213 h1 rfl dX0_order_1 ?_
  refine V_istore_n (ls' := [some (.ref a), some (.int p0), some (.int (hvi w a 5)), none, none]) dX0_order_4 (by decide) rfl ?_
  refine V_aload_n dX0_order_5 rfl ?_
  refine V_iconst dX0_order_6 ckc_0 ?_
  obtain ⟨w2, hs3, hf⟩ := st1_ex hf
  refine VE_putI fw_X0_213 h1 rfl rfl rfl hs3 dX0_order_7 ?_
  refine V_iload_n dX0_order_10 rfl ?_
  obtain ⟨r5, hc4, hf⟩ := bd1_ex hf
  refine V_cS (rest := []) (st' := [.int r5]) (mC_X0_isDay_ok _ _ _ _ _ hc4) sc_X0_201 (by decide) rfl rfl (Nat.le_of_ble_eq_true rfl) dX0_order_11 rfl ?_
  refine V_if_ne (tgt := 23) dX0_order_14 (by decide) (fun hc6 => ?_) (fun hc6 => ?_)
  · have hf := if_f hf hc6
    refine V_aload_n dX0_order_23 rfl ?_
    obtain ⟨h7, hf⟩ := ck_ex hf
    obtain ⟨b8, hb9, hf⟩ := bd1_ex hf
    refine VP_getR (x := some b8) fa_X0_10 h7 rfl rfl hb9 dX0_order_24 ?_
    obtain ⟨h10, hf⟩ := ck_ex hf
    obtain ⟨b11, hb12, hf⟩ := bd1_ex hf
    refine VP_getR (x := some b11) fa_X0_292 h10 rfl rfl hb12 dX0_order_27 ?_
    obtain ⟨h13, hf⟩ := ck_ex hf
    obtain ⟨r15, hc14, hf⟩ := bd1_ex hf
    refine V_cV (av := []) (rest := []) (st' := [.int r15]) (mC_J2_size_ok _ _ _ _ _ hc14) vc_X0_148 (kIn1 h13) (by decide) rfl rfl (Nat.le_of_ble_eq_true rfl) dX0_order_30 rfl ?_
    refine V_bipush dX0_order_33 ckb_20 ?_
    refine V_icmp_ne (tgt := 45) dX0_order_35 (by decide) (fun hc16 => ?_) (fun hc16 => ?_)
    · have hf := if_f hf hc16
      obtain ⟨h17, hf⟩ := ck_ex hf
      obtain ⟨b18, hb19, hf⟩ := st1_ex hf
      obtain ⟨w20, hs21, hf⟩ := st1_ex hf
      refine VE_new clX13 q1036 q1037 q160 ok_X13 h17 hb19 hs21 dX0_order_45 ?_
      refine V_dup dX0_order_48 rfl ?_
      refine V_aload_n dX0_order_49 rfl ?_
      obtain ⟨h22, hf⟩ := ck_ex hf
      obtain ⟨b23, hb24, hf⟩ := bd1_ex hf
      refine VP_getR (x := some b23) fa_X0_20 h22 rfl rfl hb24 dX0_order_50 ?_
      refine V_iload_n dX0_order_53 rfl ?_
      obtain ⟨w26, hc25, hf⟩ := bd1_ex hf
      refine V_cI (av := [.ref b23, .int (hvi w a 5)]) (rest := [.ref b18]) (st' := [.ref b18]) (mC_X13_init_ok _ _ _ _ _ _ _ hc25) ic_X0_297 (by decide) rfl rfl (Nat.le_of_ble_eq_true rfl) dX0_order_54 rfl ?_
      refine V_astore_n (ls' := [some (.ref a), some (.int p0), some (.int (hvi w a 5)), some (.ref b18), none]) dX0_order_57 (by decide) rfl ?_
      refine V_aload_n dX0_order_58 rfl ?_
      obtain ⟨h27, hf⟩ := ck_ex hf
      obtain ⟨x30, w31, hc28, hf⟩ | ⟨r29, w31, hc28, hf⟩ := (bdT_ex hf).symm
      · refine V_xV (av := []) (rest := []) (mC_X13_read_ok _ _ _ _ _ _ hc28) vx_X0_300 q1070 q160 (by decide) (kIn1 h27) (by decide) rfl rfl (Nat.le_of_ble_eq_true rfl) dX0_order_59 ?_
        obtain ⟨h32, hf⟩ := ck_ex hf
        refine VO_t (VT_catch (pre := []) (post := []) hH (by decide) (by decide) (by decide) (by decide) q1035 rfl (kIn1 h32) ?_)
        refine V_keep [true, false, false, false, true] rfl ?_
        exact mC_X0_order_65_v hE hH a x30 w31 hf
      refine V_xV (av := []) (rest := []) (mC_X13_read_ok _ _ _ _ _ _ hc28) vx_X0_300 q1070 q160 (by decide) (kIn1 h27) (by decide) rfl rfl (Nat.le_of_ble_eq_true rfl) dX0_order_59 ?_
      refine VO_r (v := none) (st' := []) rfl ?_
      refine V_goto (tgt := 83) dX0_order_62 (by decide) ?_
      refine V_aload_n dX0_order_83 rfl ?_
      refine V_iconst dX0_order_84 ckc_m1 ?_
      obtain ⟨h33, hf⟩ := ck_ex hf
      obtain ⟨w34, hs35, hf⟩ := st1_ex hf
      refine VE_putI fw_X0_24 h33 rfl rfl rfl hs35 dX0_order_85 ?_
      refine V_aload_n dX0_order_88 rfl ?_
      obtain ⟨h36, hf⟩ := ck_ex hf
      obtain ⟨b37, hb38, hf⟩ := bd1_ex hf
      refine VP_getR (x := some b37) fa_X0_10 h36 rfl rfl hb38 dX0_order_89 ?_
      obtain ⟨h39, hf⟩ := ck_ex hf
      obtain ⟨b40, hb41, hf⟩ := bd1_ex hf
      refine VP_getR (x := some b40) fa_X0_292 h39 rfl rfl hb41 dX0_order_92 ?_
      obtain ⟨h42, hf⟩ := ck_ex hf
      obtain ⟨b43, hb44, hf⟩ := st1_ex hf
      obtain ⟨w45, hs46, hf⟩ := st1_ex hf
      refine VE_new clX25 q1379 q1380 q174 ok_X25 h42 hb44 hs46 dX0_order_95 ?_
      refine V_dup dX0_order_98 rfl ?_
      refine V_aload_n dX0_order_99 rfl ?_
      obtain ⟨h47, hf⟩ := ck_ex hf
      obtain ⟨b48, hb49, hf⟩ := bd1_ex hf
      refine VP_getR (x := some b48) fa_X0_10 h47 rfl rfl hb49 dX0_order_100 ?_
      obtain ⟨h50, hf⟩ := ck_ex hf
      obtain ⟨b51, hb52, hf⟩ := bd1_ex hf
      refine VP_getR (x := some b51) fa_X0_292 h50 rfl rfl hb52 dX0_order_103 ?_
      obtain ⟨h53, hf⟩ := ck_ex hf
      obtain ⟨r55, hc54, hf⟩ := bd1_ex hf
      refine V_cV (av := []) (rest := [.ref b43, .ref b43, .ref b40]) (st' := [.int r55, .ref b43, .ref b43, .ref b40]) (mC_J2_size_ok _ _ _ _ _ hc54) vc_X0_148 (kIn1 h53) (by decide) rfl rfl (Nat.le_of_ble_eq_true rfl) dX0_order_106 rfl ?_
      refine V_iload_n dX0_order_109 rfl ?_
      refine V_aload_n dX0_order_110 rfl ?_
      obtain ⟨h56, hf⟩ := ck_ex hf
      obtain ⟨b57, hb58, hf⟩ := bd1_ex hf
      refine VP_getR (x := some b57) fa_X0_308 h56 rfl rfl hb58 dX0_order_111 ?_
      obtain ⟨w60, hc59, hf⟩ := bd1_ex hf
      refine V_cI (av := [.int r55, .int p0, .ref b57]) (rest := [.ref b43, .ref b40]) (st' := [.ref b43, .ref b40]) (mC_X25_init_ok _ _ _ _ _ _ _ _ hc59) ic_X0_311 (by decide) rfl rfl (Nat.le_of_ble_eq_true rfl) dX0_order_114 rfl ?_
      obtain ⟨h61, hf⟩ := ck_ex hf
      obtain ⟨r63, w64, hc62, hf⟩ := bd2_ex hf
      refine V_cV (av := [.ref b43]) (rest := []) (st' := [.int r63]) (mC_J2_add_ok _ _ _ _ _ _ _ hc62) vc_X0_178 (kIn1 h61) (by decide) rfl rfl (Nat.le_of_ble_eq_true rfl) dX0_order_117 rfl ?_
      refine V_pop dX0_order_120 rfl ?_
      refine V_aload_n dX0_order_121 rfl ?_
      refine V_aload_n dX0_order_122 rfl ?_
      obtain ⟨h65, hf⟩ := ck_ex hf
      obtain ⟨b66, hb67, hf⟩ := bd1_ex hf
      refine VP_getR (x := some b66) fa_X0_10 h65 rfl rfl hb67 dX0_order_123 ?_
      obtain ⟨h68, hf⟩ := ck_ex hf
      obtain ⟨b69, hb70, hf⟩ := bd1_ex hf
      refine VP_getR (x := some b69) fa_X0_292 h68 rfl rfl hb70 dX0_order_126 ?_
      obtain ⟨h71, hf⟩ := ck_ex hf
      obtain ⟨r73, hc72, hf⟩ := bd1_ex hf
      refine V_cV (av := []) (rest := [.ref a]) (st' := [.int r73, .ref a]) (mC_J2_size_ok _ _ _ _ _ hc72) vc_X0_148 (kIn1 h71) (by decide) rfl rfl (Nat.le_of_ble_eq_true rfl) dX0_order_129 rfl ?_
      refine V_iconst dX0_order_132 ckc_1 ?_
      refine V_isub dX0_order_133 ?_
      obtain ⟨r75, w76, hc74, hf⟩ := bd2_ex hf
      refine V_cV (av := [.int (r73 - (1 : Int32))]) (rest := []) (st' := [.int r75]) (mC_X0_told_ok _ _ _ _ _ _ _ hc74) vc_X0_138 (kIn1 h65) (by decide) rfl rfl (Nat.le_of_ble_eq_true rfl) dX0_order_134 rfl ?_
      cases some_ex hf
      exact V_iret hE dX0_order_137
    · have hf := if_t hf hc16
      refine V_aload_n dX0_order_38 rfl ?_
      refine V_bipush dX0_order_39 ckb_m5 ?_
      obtain ⟨r78, w79, hc77, hf⟩ := bd2_ex hf
      refine V_cV (av := [.int (-5 : Int32)]) (rest := []) (st' := [.int r78]) (mC_X0_refuse_ok _ _ _ _ _ _ _ hc77) vc_X0_131 (kIn1 h7) (by decide) rfl rfl (Nat.le_of_ble_eq_true rfl) dX0_order_41 rfl ?_
      cases some_ex hf
      exact V_iret hE dX0_order_44
  · have hf := if_t hf hc6
    refine V_aload_n dX0_order_17 rfl ?_
    refine V_iconst dX0_order_18 ckc_m1 ?_
    obtain ⟨h80, hf⟩ := ck_ex hf
    obtain ⟨r82, w83, hc81, hf⟩ := bd2_ex hf
    refine V_cV (av := [.int (-1 : Int32)]) (rest := []) (st' := [.int r82]) (mC_X0_refuse_ok _ _ _ _ _ _ _ hc81) vc_X0_131 (kIn1 h80) (by decide) rfl rfl (Nat.le_of_ble_eq_true rfl) dX0_order_19 rfl ?_
    cases some_ex hf
    exact V_iret hE dX0_order_22
set_option maxHeartbeats 4000000 in
theorem mC_X0_fault_ok (l : Launch) (D : DD) (w : AH) (a : Nat) (r : Int32) (hf : mC_X0_fault a w = some r) : MA l D yX0_fault cX0_fault 1 (some (.int)) 1 [.ref a] w (.returned (some (.int r))) w := by
  refine MA.introH (own := RX0) (nm := "fault") (ls := [some (.ref a)]) (by decide) rfl rfl (Nat.le_of_ble_eq_true rfl) rfl (fun X hl hD hE hH => ?_)
  subst hl hD
  unfold mC_X0_fault at hf
  refine V_aload_n dX0_fault_0 rfl ?_
  obtain ⟨h1, hf⟩ := ck_ex hf
  refine VP_getI fa_X0_24 h1 rfl dX0_fault_1 ?_
  cases some_ex hf
  exact V_iret hE dX0_fault_4
set_option maxHeartbeats 4000000 in
theorem mC_X2_goes_105_v {X : CX} {w0 : AH} {w' : AH}  (hE : XE X w0 4 none "goes" (.returned none) w') (hH : XH X []) (k2 : Nat → Nat → Int32 → AH → Option (AH)) (hk2 : ∀ (v0 : Nat) (v1 : Nat) (v2 : Int32) (w : AH), k2 v0 v1 v2 w = some w' → V X cX2_goes RX2 5 4 w 2 [some (.ref v0), some (.ref v1), some (.int v2), none, none] []) (v0 : Nat) (v1 : Nat) (v2 : Int32) (w : AH) (hf : mC_X2_goes_105 k2 v0 v1 v2 w = some w') : V X cX2_goes RX2 5 4 w 105 [some (.ref v0), some (.ref v1), some (.int v2), none, none] [] := by
  unfold mC_X2_goes_105 at hf
  refine V_inc (ls' := [some (.ref v0), some (.ref v1), some (.int (v2 + (1 : Int32))), none, none]) dX2_goes_105 rfl ckc_1 (by decide) rfl ?_
  refine V_goto (tgt := 2) dX2_goes_108 (by decide) ?_
  exact hk2 v0 v1 (v2 + (1 : Int32)) w hf
set_option maxHeartbeats 4000000 in
theorem mC_X2_goes_42_v {X : CX} {w0 : AH} {w' : AH}  (hE : XE X w0 4 none "goes" (.returned none) w') (hH : XH X []) (k2 : Nat → Nat → Int32 → AH → Option (AH)) (hk2 : ∀ (v0 : Nat) (v1 : Nat) (v2 : Int32) (w : AH), k2 v0 v1 v2 w = some w' → V X cX2_goes RX2 5 4 w 2 [some (.ref v0), some (.ref v1), some (.int v2), none, none] []) (v0 : Nat) (v1 : Nat) (v2 : Int32) (v3 : Int32) (t0 : Int32) (t1 : Int32) (t2 : Nat) (w : AH) (hf : mC_X2_goes_42 k2 v0 v1 v2 v3 t0 t1 t2 w = some w') : V X cX2_goes RX2 5 4 w 42 [some (.ref v0), some (.ref v1), some (.int v2), some (.int v3), none] [.int t0, .int t1, .ref t2] := by
  unfold mC_X2_goes_42 at hf
  obtain ⟨h1, hf⟩ := ck_ex hf
  obtain ⟨h2, hf⟩ := ck_ex hf
  obtain ⟨w3, hs4, hf⟩ := st1_ex hf
  refine VE_zast h2 h1 rfl hs4 dX2_goes_42 ?_
  refine V_aload_n dX2_goes_43 rfl ?_
  obtain ⟨h5, hf⟩ := ck_ex hf
  obtain ⟨b6, hb7, hf⟩ := bd1_ex hf
  refine VP_getR (x := some b6) fa_X2_59 h5 rfl rfl hb7 dX2_goes_44 ?_
  refine V_iload_n dX2_goes_47 rfl ?_
  obtain ⟨h8, hf⟩ := ck_ex hf
  obtain ⟨r10, hc9, hf⟩ := bd1_ex hf
  refine V_cV (av := [.int v2]) (rest := []) (st' := [.ref r10]) (mC_J2_get_ok _ _ _ _ _ _ hc9) vc_X2_46 (kIn1 h8) (by decide) rfl rfl (Nat.le_of_ble_eq_true rfl) dX2_goes_48 rfl ?_
  obtain ⟨h11, hf⟩ := ck_ex hf
  refine VE_cast cc_X2_65 h11 dX2_goes_51 ?_
  refine V_astore (ls' := [some (.ref v0), some (.ref v1), some (.int v2), some (.int v3), some (.ref r10)]) dX2_goes_54 (by decide) rfl ?_
  refine V_aload_n dX2_goes_56 rfl ?_
  obtain ⟨h12, hf⟩ := ck_ex hf
  obtain ⟨b13, hb14, hf⟩ := bd1_ex hf
  refine VP_getR (x := some b13) fa_X2_15 h12 rfl rfl hb14 dX2_goes_57 ?_
  refine V_iload_n dX2_goes_60 rfl ?_
  obtain ⟨h15, hf⟩ := ck_ex hf
  refine VE_zald h15 rfl dX2_goes_61 ?_
  refine V_if_eq (tgt := 105) dX2_goes_62 (by decide) (fun hc16 => ?_) (fun hc16 => ?_)
  · have hf := if_t hf hc16
    refine V_keep [true, true, true, false, false] rfl ?_
    exact mC_X2_goes_105_v hE hH k2 hk2 v0 v1 v2 w3 hf
  · have hf := if_f hf hc16
    refine V_aload dX2_goes_65 rfl ?_
    refine VP_getI fa_X2_67 h11 rfl dX2_goes_67 ?_
    refine V_if_ne (tgt := 105) dX2_goes_70 (by decide) (fun hc17 => ?_) (fun hc17 => ?_)
    · have hf := if_f hf hc17
      refine V_keep [true, true, true, false, false] rfl ?_
      exact mC_X2_goes_105_v hE hH k2 hk2 v0 v1 v2 w3 hf
    · have hf := if_t hf hc17
      refine V_aload dX2_goes_73 rfl ?_
      refine VP_getI fa_X2_70 h11 rfl dX2_goes_75 ?_
      refine V_aload_n dX2_goes_78 rfl ?_
      refine VP_getI fa_X2_62 h5 rfl dX2_goes_79 ?_
      refine V_icmp_ge (tgt := 105) dX2_goes_82 (by decide) (fun hc18 => ?_) (fun hc18 => ?_)
      · have hf := if_t hf hc18
        refine V_keep [true, true, true, false, false] rfl ?_
        exact mC_X2_goes_105_v hE hH k2 hk2 v0 v1 v2 w3 hf
      · have hf := if_f hf hc18
        refine V_aload_n dX2_goes_85 rfl ?_
        obtain ⟨b19, hb20, hf⟩ := bd1_ex hf
        refine VP_getR (x := some b19) fa_X2_19 h12 rfl rfl hb20 dX2_goes_86 ?_
        refine V_bipush dX2_goes_89 ckb_12 ?_
        refine V_aload dX2_goes_91 rfl ?_
        refine VP_getI fa_X2_70 h11 rfl dX2_goes_93 ?_
        refine V_imul dX2_goes_96 ?_
        refine V_aload dX2_goes_97 rfl ?_
        refine VP_getI fa_X2_73 h11 rfl dX2_goes_99 ?_
        refine V_iadd dX2_goes_102 ?_
        refine V_iconst dX2_goes_103 ckc_1 ?_
        obtain ⟨h21, hf⟩ := ck_ex hf
        obtain ⟨w22, hs23, hf⟩ := st1_ex hf
        refine VE_zast (by decide) h21 rfl hs23 dX2_goes_104 ?_
        refine V_keep [true, true, true, false, false] rfl ?_
        exact mC_X2_goes_105_v hE hH k2 hk2 v0 v1 v2 w22 hf
set_option maxHeartbeats 4000000 in
theorem mC_X2_goes_2_v {X : CX} {w0 : AH} {w' : AH}  (hE : XE X w0 4 none "goes" (.returned none) w') (hH : XH X []) (k2 : Nat → Nat → Int32 → AH → Option (AH)) (hk2 : ∀ (v0 : Nat) (v1 : Nat) (v2 : Int32) (w : AH), k2 v0 v1 v2 w = some w' → V X cX2_goes RX2 5 4 w 2 [some (.ref v0), some (.ref v1), some (.int v2), none, none] []) (v0 : Nat) (v1 : Nat) (v2 : Int32) (w : AH) (hf : mC_X2_goes_2 k2 v0 v1 v2 w = some w') : V X cX2_goes RX2 5 4 w 2 [some (.ref v0), some (.ref v1), some (.int v2), none, none] [] := by
  unfold mC_X2_goes_2 at hf
  refine V_iload_n dX2_goes_2 rfl ?_
  refine V_aload_n dX2_goes_3 rfl ?_
  obtain ⟨h1, hf⟩ := ck_ex hf
  obtain ⟨b2, hb3, hf⟩ := bd1_ex hf
  refine VP_getR (x := some b2) fa_X2_59 h1 rfl rfl hb3 dX2_goes_4 ?_
  obtain ⟨h4, hf⟩ := ck_ex hf
  obtain ⟨r6, hc5, hf⟩ := bd1_ex hf
  refine V_cV (av := []) (rest := [.int v2]) (st' := [.int r6, .int v2]) (mC_J2_size_ok _ _ _ _ _ hc5) vc_X2_40 (kIn1 h4) (by decide) rfl rfl (Nat.le_of_ble_eq_true rfl) dX2_goes_7 rfl ?_
  refine V_icmp_ge (tgt := 111) dX2_goes_10 (by decide) (fun hc7 => ?_) (fun hc7 => ?_)
  · have hf := if_t hf hc7
    cases some_ex hf
    exact V_vret hE dX2_goes_111
  · have hf := if_f hf hc7
    refine V_bipush dX2_goes_13 ckb_12 ?_
    refine V_aload_n dX2_goes_15 rfl ?_
    refine VP_getI fa_X2_62 h1 rfl dX2_goes_16 ?_
    refine V_imul dX2_goes_19 ?_
    refine V_iload_n dX2_goes_20 rfl ?_
    refine V_iadd dX2_goes_21 ?_
    refine V_istore_n (ls' := [some (.ref v0), some (.ref v1), some (.int v2), some (.int (((12 : Int32) * (hvi w v1 0)) + v2)), none]) dX2_goes_22 (by decide) rfl ?_
    refine V_aload_n dX2_goes_23 rfl ?_
    obtain ⟨h8, hf⟩ := ck_ex hf
    obtain ⟨b9, hb10, hf⟩ := bd1_ex hf
    refine VP_getR (x := some b9) fa_X2_15 h8 rfl rfl hb10 dX2_goes_24 ?_
    refine V_iload_n dX2_goes_27 rfl ?_
    refine V_aload_n dX2_goes_28 rfl ?_
    obtain ⟨b11, hb12, hf⟩ := bd1_ex hf
    refine VP_getR (x := some b11) fa_X2_19 h8 rfl rfl hb12 dX2_goes_29 ?_
    refine V_iload_n dX2_goes_32 rfl ?_
    obtain ⟨h13, hf⟩ := ck_ex hf
    refine VE_zald h13 rfl dX2_goes_33 ?_
    refine V_if_ne (tgt := 41) dX2_goes_34 (by decide) (fun hc14 => ?_) (fun hc14 => ?_)
    · have hf := if_f hf hc14
      refine V_iconst dX2_goes_41 ckc_0 ?_
      exact mC_X2_goes_42_v hE hH k2 hk2 v0 v1 v2 (((12 : Int32) * (hvi w v1 0)) + v2) (0 : Int32) (((12 : Int32) * (hvi w v1 0)) + v2) b9 w hf
    · have hf := if_t hf hc14
      refine V_iconst dX2_goes_37 ckc_1 ?_
      refine V_goto (tgt := 42) dX2_goes_38 (by decide) ?_
      exact mC_X2_goes_42_v hE hH k2 hk2 v0 v1 v2 (((12 : Int32) * (hvi w v1 0)) + v2) (1 : Int32) (((12 : Int32) * (hvi w v1 0)) + v2) b9 w hf
set_option maxHeartbeats 4000000 in
theorem mC_X2_goes_ok (l : Launch) (D : DD) (w : AH) (a : Nat) (p0 : Nat) (w' : AH) (hf : mC_X2_goes a p0 w = some w') : MA l D yX2_goes cX2_goes 5 none 4 [.ref a, .ref p0] w (.returned none) w' := by
  refine MA.introH (own := RX2) (nm := "goes") (ls := [some (.ref a), some (.ref p0), none, none, none]) (by decide) rfl rfl (Nat.le_of_ble_eq_true rfl) rfl (fun X hl hD hE hH => ?_)
  subst hl hD
  unfold mC_X2_goes at hf
  refine V_iconst dX2_goes_0 ckc_0 ?_
  refine V_istore_n (ls' := [some (.ref a), some (.ref p0), some (.int (0 : Int32)), none, none]) dX2_goes_1 (by decide) rfl ?_
  exact lq4_ex (P := fun v0 v1 v2 w => V X cX2_goes RX2 5 4 w 2 [some (.ref v0), some (.ref v1), some (.int v2), none, none] []) (fun k hk v0 v1 v2 w hf => mC_X2_goes_2_v hE hH k hk v0 v1 v2 w hf) LF a p0 (0 : Int32) w hf
set_option maxHeartbeats 4000000 in
theorem mC_X2_looks_133_v {X : CX} {w0 : AH} {w' : AH}  (hE : XE X w0 5 none "looks" (.returned none) w') (hH : XH X []) (k84 : Nat → Int32 → Int32 → AH → Option (AH)) (hk84 : ∀ (v0 : Nat) (v1 : Int32) (v2 : Int32) (w : AH), k84 v0 v1 v2 w = some w' → V X cX2_looks RX2 3 5 w 84 [some (.ref v0), some (.int v1), some (.int v2)] []) (v0 : Nat) (v1 : Int32) (v2 : Int32) (w : AH) (hf : mC_X2_looks_133 k84 v0 v1 v2 w = some w') : V X cX2_looks RX2 3 5 w 133 [some (.ref v0), some (.int v1), some (.int v2)] [] := by
  unfold mC_X2_looks_133 at hf
  refine V_inc (ls' := [some (.ref v0), some (.int v1), some (.int (v2 + (-1 : Int32)))]) dX2_looks_133 rfl ckc_m1 (by decide) rfl ?_
  refine V_goto (tgt := 84) dX2_looks_136 (by decide) ?_
  exact hk84 v0 v1 (v2 + (-1 : Int32)) w hf
set_option maxHeartbeats 4000000 in
theorem mC_X2_looks_84_v {X : CX} {w0 : AH} {w' : AH}  (hE : XE X w0 5 none "looks" (.returned none) w') (hH : XH X []) (k84 : Nat → Int32 → Int32 → AH → Option (AH)) (hk84 : ∀ (v0 : Nat) (v1 : Int32) (v2 : Int32) (w : AH), k84 v0 v1 v2 w = some w' → V X cX2_looks RX2 3 5 w 84 [some (.ref v0), some (.int v1), some (.int v2)] []) (v0 : Nat) (v1 : Int32) (v2 : Int32) (w : AH) (hf : mC_X2_looks_84 k84 v0 v1 v2 w = some w') : V X cX2_looks RX2 3 5 w 84 [some (.ref v0), some (.int v1), some (.int v2)] [] := by
  unfold mC_X2_looks_84 at hf
  refine V_iload_n dX2_looks_84 rfl ?_
  refine V_if_lt (tgt := 139) dX2_looks_85 (by decide) (fun hc1 => ?_) (fun hc1 => ?_)
  · have hf := if_t hf hc1
    cases some_ex hf
    exact V_vret hE dX2_looks_139
  · have hf := if_f hf hc1
    refine V_aload_n dX2_looks_88 rfl ?_
    obtain ⟨h2, hf⟩ := ck_ex hf
    obtain ⟨b3, hb4, hf⟩ := bd1_ex hf
    refine VP_getR (x := some b3) fa_X2_3 h2 rfl rfl hb4 dX2_looks_89 ?_
    obtain ⟨h5, hf⟩ := ck_ex hf
    obtain ⟨b6, hb7, hf⟩ := bd1_ex hf
    refine VP_getR (x := some b6) fa_X2_30 h5 rfl rfl hb7 dX2_looks_92 ?_
    obtain ⟨h8, hf⟩ := ck_ex hf
    obtain ⟨b9, hb10, hf⟩ := bd1_ex hf
    refine VP_getR (x := some b9) fa_X2_34 h8 rfl rfl hb10 dX2_looks_95 ?_
    refine V_iload_n dX2_looks_98 rfl ?_
    obtain ⟨h11, hf⟩ := ck_ex hf
    obtain ⟨r13, hc12, hf⟩ := bd1_ex hf
    refine V_cV (av := [.int v2]) (rest := []) (st' := [.ref r13]) (mC_J2_get_ok _ _ _ _ _ _ hc12) vc_X2_46 (kIn1 h11) (by decide) rfl rfl (Nat.le_of_ble_eq_true rfl) dX2_looks_99 rfl ?_
    obtain ⟨h14, hf⟩ := ck_ex hf
    refine VE_cast cc_X2_50 h14 dX2_looks_102 ?_
    refine VP_getI fa_X2_52 h14 rfl dX2_looks_105 ?_
    refine V_iload_n dX2_looks_108 rfl ?_
    refine V_icmp_gt (tgt := 133) dX2_looks_109 (by decide) (fun hc15 => ?_) (fun hc15 => ?_)
    · have hf := if_t hf hc15
      exact mC_X2_looks_133_v hE hH k84 hk84 v0 v1 v2 w hf
    · have hf := if_f hf hc15
      refine V_aload_n dX2_looks_112 rfl ?_
      refine V_aload_n dX2_looks_113 rfl ?_
      refine VP_getR (x := some b3) fa_X2_3 h2 rfl rfl hb4 dX2_looks_114 ?_
      refine VP_getR (x := some b6) fa_X2_30 h5 rfl rfl hb7 dX2_looks_117 ?_
      refine VP_getR (x := some b9) fa_X2_34 h8 rfl rfl hb10 dX2_looks_120 ?_
      refine V_iload_n dX2_looks_123 rfl ?_
      obtain ⟨r17, hc16, hf⟩ := bd1_ex hf
      refine V_cV (av := [.int v2]) (rest := [.ref v0]) (st' := [.ref r17, .ref v0]) (mC_J2_get_ok _ _ _ _ _ _ hc16) vc_X2_46 (kIn1 h11) (by decide) rfl rfl (Nat.le_of_ble_eq_true rfl) dX2_looks_124 rfl ?_
      obtain ⟨h18, hf⟩ := ck_ex hf
      refine VE_cast cc_X2_50 h18 dX2_looks_127 ?_
      obtain ⟨w20, hc19, hf⟩ := bd1_ex hf
      refine V_cV (av := [.ref r17]) (rest := []) (st' := []) (mC_X2_goes_ok _ _ _ _ _ _ hc19) vc_X2_55 (kIn1 h2) (by decide) rfl rfl (Nat.le_of_ble_eq_true rfl) dX2_looks_130 rfl ?_
      exact mC_X2_looks_133_v hE hH k84 hk84 v0 v1 v2 w20 hf
set_option maxHeartbeats 4000000 in
theorem mC_X2_looks_41_v {X : CX} {w0 : AH} {w' : AH}  (hE : XE X w0 5 none "looks" (.returned none) w') (hH : XH X []) (k41 : Nat → Int32 → Int32 → AH → Option (AH)) (hk41 : ∀ (v0 : Nat) (v1 : Int32) (v2 : Int32) (w : AH), k41 v0 v1 v2 w = some w' → V X cX2_looks RX2 3 5 w 41 [some (.ref v0), some (.int v1), some (.int v2)] []) (v0 : Nat) (v1 : Int32) (v2 : Int32) (w : AH) (hf : mC_X2_looks_41 k41 v0 v1 v2 w = some w') : V X cX2_looks RX2 3 5 w 41 [some (.ref v0), some (.int v1), some (.int v2)] [] := by
  unfold mC_X2_looks_41 at hf
  refine V_iload_n dX2_looks_41 rfl ?_
  refine V_sipush dX2_looks_42 cks_240 ?_
  refine V_icmp_ge (tgt := 68) dX2_looks_45 (by decide) (fun hc1 => ?_) (fun hc1 => ?_)
  · have hf := if_t hf hc1
    refine V_aload_n dX2_looks_68 rfl ?_
    obtain ⟨h2, hf⟩ := ck_ex hf
    obtain ⟨b3, hb4, hf⟩ := bd1_ex hf
    refine VP_getR (x := some b3) fa_X2_3 h2 rfl rfl hb4 dX2_looks_69 ?_
    obtain ⟨h5, hf⟩ := ck_ex hf
    obtain ⟨b6, hb7, hf⟩ := bd1_ex hf
    refine VP_getR (x := some b6) fa_X2_30 h5 rfl rfl hb7 dX2_looks_72 ?_
    obtain ⟨h8, hf⟩ := ck_ex hf
    obtain ⟨b9, hb10, hf⟩ := bd1_ex hf
    refine VP_getR (x := some b9) fa_X2_34 h8 rfl rfl hb10 dX2_looks_75 ?_
    obtain ⟨h11, hf⟩ := ck_ex hf
    obtain ⟨r13, hc12, hf⟩ := bd1_ex hf
    refine V_cV (av := []) (rest := []) (st' := [.int r13]) (mC_J2_size_ok _ _ _ _ _ hc12) vc_X2_40 (kIn1 h11) (by decide) rfl rfl (Nat.le_of_ble_eq_true rfl) dX2_looks_78 rfl ?_
    refine V_iconst dX2_looks_81 ckc_1 ?_
    refine V_isub dX2_looks_82 ?_
    refine V_istore_n (ls' := [some (.ref v0), some (.int v1), some (.int (r13 - (1 : Int32)))]) dX2_looks_83 (by decide) rfl ?_
    exact lq4_ex (P := fun v0 v1 v2 w => V X cX2_looks RX2 3 5 w 84 [some (.ref v0), some (.int v1), some (.int v2)] []) (fun k hk v0 v1 v2 w hf => mC_X2_looks_84_v hE hH k hk v0 v1 v2 w hf) LF v0 v1 (r13 - (1 : Int32)) w hf
  · have hf := if_f hf hc1
    refine V_aload_n dX2_looks_48 rfl ?_
    obtain ⟨h14, hf⟩ := ck_ex hf
    obtain ⟨b15, hb16, hf⟩ := bd1_ex hf
    refine VP_getR (x := some b15) fa_X2_15 h14 rfl rfl hb16 dX2_looks_49 ?_
    refine V_iload_n dX2_looks_52 rfl ?_
    refine V_iconst dX2_looks_53 ckc_0 ?_
    obtain ⟨h17, hf⟩ := ck_ex hf
    obtain ⟨w18, hs19, hf⟩ := st1_ex hf
    refine VE_zast (by decide) h17 rfl hs19 dX2_looks_54 ?_
    refine V_aload_n dX2_looks_55 rfl ?_
    obtain ⟨h20, hf⟩ := ck_ex hf
    obtain ⟨b21, hb22, hf⟩ := bd1_ex hf
    refine VP_getR (x := some b21) fa_X2_19 h20 rfl rfl hb22 dX2_looks_56 ?_
    refine V_iload_n dX2_looks_59 rfl ?_
    refine V_iconst dX2_looks_60 ckc_0 ?_
    obtain ⟨h23, hf⟩ := ck_ex hf
    obtain ⟨w24, hs25, hf⟩ := st1_ex hf
    refine VE_zast (by decide) h23 rfl hs25 dX2_looks_61 ?_
    refine V_inc (ls' := [some (.ref v0), some (.int v1), some (.int (v2 + (1 : Int32)))]) dX2_looks_62 rfl ckc_1 (by decide) rfl ?_
    refine V_goto (tgt := 41) dX2_looks_65 (by decide) ?_
    exact hk41 v0 v1 (v2 + (1 : Int32)) w24 hf
set_option maxHeartbeats 4000000 in
theorem mC_X2_looks_23_v {X : CX} {w0 : AH} {w' : AH}  (hE : XE X w0 5 none "looks" (.returned none) w') (hH : XH X []) (v0 : Nat) (v1 : Int32) (w : AH) (hf : mC_X2_looks_23 v0 v1 w = some w') : V X cX2_looks RX2 3 5 w 23 [some (.ref v0), some (.int v1), none] [] := by
  unfold mC_X2_looks_23 at hf
  refine V_aload_n dX2_looks_23 rfl ?_
  refine V_iload_n dX2_looks_24 rfl ?_
  obtain ⟨h1, hf⟩ := ck_ex hf
  obtain ⟨w2, hs3, hf⟩ := st1_ex hf
  refine VE_putI fw_X2_22 h1 rfl rfl rfl hs3 dX2_looks_25 ?_
  refine V_aload_n dX2_looks_28 rfl ?_
  refine V_aload_n dX2_looks_29 rfl ?_
  obtain ⟨h4, hf⟩ := ck_ex hf
  obtain ⟨b5, hb6, hf⟩ := bd1_ex hf
  refine VP_getR (x := some b5) fa_X2_3 h4 rfl rfl hb6 dX2_looks_30 ?_
  obtain ⟨h7, hf⟩ := ck_ex hf
  refine VP_getI fa_X2_29 h7 rfl dX2_looks_33 ?_
  obtain ⟨w8, hs9, hf⟩ := st1_ex hf
  refine VE_putI fw_X2_26 h4 rfl rfl rfl hs9 dX2_looks_36 ?_
  refine V_iconst dX2_looks_39 ckc_0 ?_
  refine V_istore_n (ls' := [some (.ref v0), some (.int v1), some (.int (0 : Int32))]) dX2_looks_40 (by decide) rfl ?_
  exact lq4_ex (P := fun v0 v1 v2 w => V X cX2_looks RX2 3 5 w 41 [some (.ref v0), some (.int v1), some (.int v2)] []) (fun k hk v0 v1 v2 w hf => mC_X2_looks_41_v hE hH k hk v0 v1 v2 w hf) LF v0 v1 (0 : Int32) w8 hf
set_option maxHeartbeats 4000000 in
theorem mC_X2_looks_ok (l : Launch) (D : DD) (w : AH) (a : Nat) (p0 : Int32) (w' : AH) (hf : mC_X2_looks a p0 w = some w') : MA l D yX2_looks cX2_looks 3 none 5 [.ref a, .int p0] w (.returned none) w' := by
  refine MA.introH (own := RX2) (nm := "looks") (ls := [some (.ref a), some (.int p0), none]) (by decide) rfl rfl (Nat.le_of_ble_eq_true rfl) rfl (fun X hl hD hE hH => ?_)
  subst hl hD
  unfold mC_X2_looks at hf
  refine V_aload_n dX2_looks_0 rfl ?_
  obtain ⟨h1, hf⟩ := ck_ex hf
  refine VP_getI fa_X2_22 h1 rfl dX2_looks_1 ?_
  refine V_iload_n dX2_looks_4 rfl ?_
  refine V_icmp_ne (tgt := 23) dX2_looks_5 (by decide) (fun hc2 => ?_) (fun hc2 => ?_)
  · have hf := if_f hf hc2
    exact mC_X2_looks_23_v hE hH a p0 w hf
  · have hf := if_t hf hc2
    refine V_aload_n dX2_looks_8 rfl ?_
    refine VP_getI fa_X2_26 h1 rfl dX2_looks_9 ?_
    refine V_aload_n dX2_looks_12 rfl ?_
    obtain ⟨b3, hb4, hf⟩ := bd1_ex hf
    refine VP_getR (x := some b3) fa_X2_3 h1 rfl rfl hb4 dX2_looks_13 ?_
    obtain ⟨h5, hf⟩ := ck_ex hf
    refine VP_getI fa_X2_29 h5 rfl dX2_looks_16 ?_
    refine V_icmp_ne (tgt := 23) dX2_looks_19 (by decide) (fun hc6 => ?_) (fun hc6 => ?_)
    · have hf := if_f hf hc6
      exact mC_X2_looks_23_v hE hH a p0 w hf
    · have hf := if_t hf hc6
      cases some_ex hf
      exact V_vret hE dX2_looks_22
set_option maxHeartbeats 4000000 in
theorem mC_X0_force_ok (l : Launch) (D : DD) (w : AH) (a : Nat) (p0 : Int32) (p1 : Int32) (p2 : Int32) (r : Int32) (w' : AH) (hf : mC_X0_force a p0 p1 p2 w = some (r, w')) : MA l D yX0_force cX0_force 4 (some (.int)) 6 [.ref a, .int p0, .int p1, .int p2] w (.returned (some (.int r))) w' := by
  refine MA.introH (own := RX0) (nm := "force") (ls := [some (.ref a), some (.int p0), some (.int p1), some (.int p2)]) (by decide) rfl rfl (Nat.le_of_ble_eq_true rfl) rfl (fun X hl hD hE hH => ?_)
  subst hl hD
  unfold mC_X0_force at hf
  refine V_iload_n dX0_force_0 rfl ?_
  refine V_iconst dX0_force_1 ckc_0 ?_
  refine V_aload_n dX0_force_2 rfl ?_
  obtain ⟨h1, hf⟩ := ck_ex hf
  obtain ⟨b2, hb3, hf⟩ := bd1_ex hf
  refine VP_getR (x := some b2) fa_X0_10 h1 rfl rfl hb3 dX0_force_3 ?_
  obtain ⟨h4, hf⟩ := ck_ex hf
  obtain ⟨b5, hb6, hf⟩ := bd1_ex hf
  refine VP_getR (x := some b5) fa_X0_292 h4 rfl rfl hb6 dX0_force_6 ?_
  obtain ⟨h7, hf⟩ := ck_ex hf
  obtain ⟨r9, hc8, hf⟩ := bd1_ex hf
  refine V_cV (av := []) (rest := [.int (0 : Int32), .int p0]) (st' := [.int r9, .int (0 : Int32), .int p0]) (mC_J2_size_ok _ _ _ _ _ hc8) vc_X0_148 (kIn1 h7) (by decide) rfl rfl (Nat.le_of_ble_eq_true rfl) dX0_force_9 rfl ?_
  refine V_iconst dX0_force_12 ckc_1 ?_
  refine V_isub dX0_force_13 ?_
  obtain ⟨r11, hc10, hf⟩ := bd1_ex hf
  refine V_cS (rest := []) (st' := [.int r11]) (mC_X0_in_ok _ _ _ _ _ _ _ hc10) sc_X0_127 (by decide) rfl rfl (Nat.le_of_ble_eq_true rfl) dX0_force_14 rfl ?_
  refine V_if_eq (tgt := 57) dX0_force_17 (by decide) (fun hc12 => ?_) (fun hc12 => ?_)
  · have hf := if_t hf hc12
    refine V_iconst dX0_force_57 ckc_m1 ?_
    cases some_ex hf
    exact V_iret hE dX0_force_58
  · have hf := if_f hf hc12
    refine V_iload_n dX0_force_20 rfl ?_
    refine V_iconst dX0_force_21 ckc_0 ?_
    refine V_aload_n dX0_force_22 rfl ?_
    refine VP_getR (x := some b2) fa_X0_10 h1 rfl rfl hb3 dX0_force_23 ?_
    refine VP_getR (x := some b5) fa_X0_292 h4 rfl rfl hb6 dX0_force_26 ?_
    refine V_iload_n dX0_force_29 rfl ?_
    obtain ⟨r14, hc13, hf⟩ := bd1_ex hf
    refine V_cV (av := [.int p0]) (rest := [.int (0 : Int32), .int p1]) (st' := [.ref r14, .int (0 : Int32), .int p1]) (mC_J2_get_ok _ _ _ _ _ _ hc13) vc_X0_232 (kIn1 h7) (by decide) rfl rfl (Nat.le_of_ble_eq_true rfl) dX0_force_30 rfl ?_
    obtain ⟨h15, hf⟩ := ck_ex hf
    refine VE_cast cc_X0_306 h15 dX0_force_33 ?_
    obtain ⟨b16, hb17, hf⟩ := bd1_ex hf
    refine VP_getR (x := some b16) fa_X0_314 h15 rfl rfl hb17 dX0_force_36 ?_
    obtain ⟨h18, hf⟩ := ck_ex hf
    obtain ⟨r20, hc19, hf⟩ := bd1_ex hf
    refine V_cV (av := []) (rest := [.int (0 : Int32), .int p1]) (st' := [.int r20, .int (0 : Int32), .int p1]) (mC_J2_size_ok _ _ _ _ _ hc19) vc_X0_148 (kIn1 h18) (by decide) rfl rfl (Nat.le_of_ble_eq_true rfl) dX0_force_39 rfl ?_
    refine V_iconst dX0_force_42 ckc_1 ?_
    refine V_isub dX0_force_43 ?_
    obtain ⟨r22, hc21, hf⟩ := bd1_ex hf
    refine V_cS (rest := []) (st' := [.int r22]) (mC_X0_in_ok _ _ _ _ _ _ _ hc21) sc_X0_127 (by decide) rfl rfl (Nat.le_of_ble_eq_true rfl) dX0_force_44 rfl ?_
    refine V_if_eq (tgt := 57) dX0_force_47 (by decide) (fun hc23 => ?_) (fun hc23 => ?_)
    · have hf := if_t hf hc23
      refine V_iconst dX0_force_57 ckc_m1 ?_
      cases some_ex hf
      exact V_iret hE dX0_force_58
    · have hf := if_f hf hc23
      refine V_iload_n dX0_force_50 rfl ?_
      obtain ⟨r25, hc24, hf⟩ := bd1_ex hf
      refine V_cS (rest := []) (st' := [.int r25]) (mC_X0_isDay_ok _ _ _ _ _ hc24) sc_X0_201 (by decide) rfl rfl (Nat.le_of_ble_eq_true rfl) dX0_force_51 rfl ?_
      refine V_if_ne (tgt := 59) dX0_force_54 (by decide) (fun hc26 => ?_) (fun hc26 => ?_)
      · have hf := if_f hf hc26
        refine V_aload_n dX0_force_59 rfl ?_
        obtain ⟨b27, hb28, hf⟩ := bd1_ex hf
        refine VP_getR (x := some b27) fa_X0_33 h1 rfl rfl hb28 dX0_force_60 ?_
        refine V_iload_n dX0_force_63 rfl ?_
        obtain ⟨h29, hf⟩ := ck_ex hf
        obtain ⟨w31, hc30, hf⟩ := bd1_ex hf
        refine V_cV (av := [.int p2]) (rest := []) (st' := []) (mC_X2_looks_ok _ _ _ _ _ _ hc30) vc_X0_317 (kIn1 h29) (by decide) rfl rfl (Nat.le_of_ble_eq_true rfl) dX0_force_64 rfl ?_
        refine V_aload_n dX0_force_67 rfl ?_
        obtain ⟨h32, hf⟩ := ck_ex hf
        obtain ⟨b33, hb34, hf⟩ := bd1_ex hf
        refine VP_getR (x := some b33) fa_X0_33 h32 rfl rfl hb34 dX0_force_68 ?_
        obtain ⟨h35, hf⟩ := ck_ex hf
        obtain ⟨b36, hb37, hf⟩ := bd1_ex hf
        refine VP_getR (x := some b36) fa_X0_320 h35 rfl rfl hb37 dX0_force_71 ?_
        refine V_bipush dX0_force_74 ckb_12 ?_
        refine V_iload_n dX0_force_76 rfl ?_
        refine V_imul dX0_force_77 ?_
        refine V_iload_n dX0_force_78 rfl ?_
        refine V_iadd dX0_force_79 ?_
        obtain ⟨h38, hf⟩ := ck_ex hf
        refine VE_zald h38 rfl dX0_force_80 ?_
        refine V_if_eq (tgt := 88) dX0_force_81 (by decide) (fun hc39 => ?_) (fun hc39 => ?_)
        · have hf := if_t hf hc39
          refine V_iconst dX0_force_88 ckc_0 ?_
          cases some_ex hf
          exact V_iret hE dX0_force_89
        · have hf := if_f hf hc39
          refine V_iconst dX0_force_84 ckc_1 ?_
          refine V_goto (tgt := 89) dX0_force_85 (by decide) ?_
          cases some_ex hf
          exact V_iret hE dX0_force_89
      · have hf := if_t hf hc26
        refine V_iconst dX0_force_57 ckc_m1 ?_
        cases some_ex hf
        exact V_iret hE dX0_force_58
set_option maxHeartbeats 4000000 in
theorem mC_X3_empties_26_v {X : CX} {w0 : AH} {w' : AH}  (hE : XE X w0 1 none "empties" (.returned none) w') (hH : XH X []) (k26 : Nat → Int32 → AH → Option (AH)) (hk26 : ∀ (v0 : Nat) (v1 : Int32) (w : AH), k26 v0 v1 w = some w' → V X cX3_empties RX3 2 1 w 26 [some (.ref v0), some (.int v1)] []) (v0 : Nat) (v1 : Int32) (w : AH) (hf : mC_X3_empties_26 k26 v0 v1 w = some w') : V X cX3_empties RX3 2 1 w 26 [some (.ref v0), some (.int v1)] [] := by
  unfold mC_X3_empties_26 at hf
  refine V_iload_n dX3_empties_26 rfl ?_
  refine V_aload_n dX3_empties_27 rfl ?_
  obtain ⟨h1, hf⟩ := ck_ex hf
  obtain ⟨b2, hb3, hf⟩ := bd1_ex hf
  refine VP_getR (x := some b2) fa_X3_20 h1 rfl rfl hb3 dX3_empties_28 ?_
  obtain ⟨h4, hf⟩ := ck_ex hf
  refine VE_alen h4 dX3_empties_31 ?_
  refine V_icmp_ge (tgt := 48) dX3_empties_32 (by decide) (fun hc5 => ?_) (fun hc5 => ?_)
  · have hf := if_t hf hc5
    cases some_ex hf
    exact V_vret hE dX3_empties_48
  · have hf := if_f hf hc5
    refine V_aload_n dX3_empties_35 rfl ?_
    refine VP_getR (x := some b2) fa_X3_20 h1 rfl rfl hb3 dX3_empties_36 ?_
    refine V_iload_n dX3_empties_39 rfl ?_
    refine V_iconst dX3_empties_40 ckc_0 ?_
    obtain ⟨h6, hf⟩ := ck_ex hf
    obtain ⟨w7, hs8, hf⟩ := st1_ex hf
    refine VE_zast (by decide) h6 rfl hs8 dX3_empties_41 ?_
    refine V_inc (ls' := [some (.ref v0), some (.int (v1 + (1 : Int32)))]) dX3_empties_42 rfl ckc_1 (by decide) rfl ?_
    refine V_goto (tgt := 26) dX3_empties_45 (by decide) ?_
    exact hk26 v0 (v1 + (1 : Int32)) w7 hf
set_option maxHeartbeats 4000000 in
theorem mC_X3_empties_2_v {X : CX} {w0 : AH} {w' : AH}  (hE : XE X w0 1 none "empties" (.returned none) w') (hH : XH X []) (k2 : Nat → Int32 → AH → Option (AH)) (hk2 : ∀ (v0 : Nat) (v1 : Int32) (w : AH), k2 v0 v1 w = some w' → V X cX3_empties RX3 2 1 w 2 [some (.ref v0), some (.int v1)] []) (v0 : Nat) (v1 : Int32) (w : AH) (hf : mC_X3_empties_2 k2 v0 v1 w = some w') : V X cX3_empties RX3 2 1 w 2 [some (.ref v0), some (.int v1)] [] := by
  unfold mC_X3_empties_2 at hf
  refine V_iload_n dX3_empties_2 rfl ?_
  refine V_aload_n dX3_empties_3 rfl ?_
  obtain ⟨h1, hf⟩ := ck_ex hf
  obtain ⟨b2, hb3, hf⟩ := bd1_ex hf
  refine VP_getR (x := some b2) fa_X3_16 h1 rfl rfl hb3 dX3_empties_4 ?_
  obtain ⟨h4, hf⟩ := ck_ex hf
  refine VE_alen h4 dX3_empties_7 ?_
  refine V_icmp_ge (tgt := 24) dX3_empties_8 (by decide) (fun hc5 => ?_) (fun hc5 => ?_)
  · have hf := if_t hf hc5
    refine V_iconst dX3_empties_24 ckc_0 ?_
    refine V_istore_n (ls' := [some (.ref v0), some (.int (0 : Int32))]) dX3_empties_25 (by decide) rfl ?_
    exact lq3_ex (P := fun v0 v1 w => V X cX3_empties RX3 2 1 w 26 [some (.ref v0), some (.int v1)] []) (fun k hk v0 v1 w hf => mC_X3_empties_26_v hE hH k hk v0 v1 w hf) LF v0 (0 : Int32) w hf
  · have hf := if_f hf hc5
    refine V_aload_n dX3_empties_11 rfl ?_
    refine VP_getR (x := some b2) fa_X3_16 h1 rfl rfl hb3 dX3_empties_12 ?_
    refine V_iload_n dX3_empties_15 rfl ?_
    refine V_lconst dX3_empties_16 ckl_0 ?_
    obtain ⟨h6, hf⟩ := ck_ex hf
    obtain ⟨w7, hs8, hf⟩ := st1_ex hf
    refine VE_last h6 rfl hs8 dX3_empties_17 ?_
    refine V_inc (ls' := [some (.ref v0), some (.int (v1 + (1 : Int32)))]) dX3_empties_18 rfl ckc_1 (by decide) rfl ?_
    refine V_goto (tgt := 2) dX3_empties_21 (by decide) ?_
    exact hk2 v0 (v1 + (1 : Int32)) w7 hf
set_option maxHeartbeats 4000000 in
theorem mC_X3_empties_ok (l : Launch) (D : DD) (w : AH) (a : Nat) (w' : AH) (hf : mC_X3_empties a w = some w') : MA l D yX3_empties cX3_empties 2 none 1 [.ref a] w (.returned none) w' := by
  refine MA.introH (own := RX3) (nm := "empties") (ls := [some (.ref a), none]) (by decide) rfl rfl (Nat.le_of_ble_eq_true rfl) rfl (fun X hl hD hE hH => ?_)
  subst hl hD
  unfold mC_X3_empties at hf
  refine V_iconst dX3_empties_0 ckc_0 ?_
  refine V_istore_n (ls' := [some (.ref a), some (.int (0 : Int32))]) dX3_empties_1 (by decide) rfl ?_
  exact lq3_ex (P := fun v0 v1 w => V X cX3_empties RX3 2 1 w 2 [some (.ref v0), some (.int v1)] []) (fun k hk v0 v1 w hf => mC_X3_empties_2_v hE hH k hk v0 v1 w hf) LF a (0 : Int32) w hf
set_option maxHeartbeats 4000000 in
theorem mC_X0_asks_ok (l : Launch) (D : DD) (w : AH) (a : Nat) (p0 : Int32) (w' : AH) (hf : mC_X0_asks a p0 w = some w') : MA l D yX0_asks cX0_asks 2 none 2 [.ref a, .int p0] w (.returned none) w' := by
  refine MA.introH (own := RX0) (nm := "asks") (ls := [some (.ref a), some (.int p0)]) (by decide) rfl rfl (Nat.le_of_ble_eq_true rfl) rfl (fun X hl hD hE hH => ?_)
  subst hl hD
  unfold mC_X0_asks at hf
  refine V_aload_n dX0_asks_0 rfl ?_
  obtain ⟨h1, hf⟩ := ck_ex hf
  obtain ⟨b2, hb3, hf⟩ := bd1_ex hf
  refine VP_getR (x := some b2) fa_X0_40 h1 rfl rfl hb3 dX0_asks_1 ?_
  obtain ⟨h4, hf⟩ := ck_ex hf
  obtain ⟨w6, hc5, hf⟩ := bd1_ex hf
  refine V_cV (av := []) (rest := []) (st' := []) (mC_X3_empties_ok _ _ _ _ _ hc5) vc_X0_335 (kIn1 h4) (by decide) rfl rfl (Nat.le_of_ble_eq_true rfl) dX0_asks_4 rfl ?_
  refine V_aload_n dX0_asks_7 rfl ?_
  obtain ⟨h7, hf⟩ := ck_ex hf
  obtain ⟨b8, hb9, hf⟩ := bd1_ex hf
  refine VP_getR (x := some b8) fa_X0_40 h7 rfl rfl hb9 dX0_asks_8 ?_
  obtain ⟨h10, hf⟩ := ck_ex hf
  obtain ⟨b11, hb12, hf⟩ := bd1_ex hf
  refine VP_getR (x := some b11) fa_X0_338 h10 rfl rfl hb12 dX0_asks_11 ?_
  refine V_iconst dX0_asks_14 ckc_4 ?_
  refine V_iload_n dX0_asks_15 rfl ?_
  refine V_i2l dX0_asks_16 ?_
  obtain ⟨h13, hf⟩ := ck_ex hf
  obtain ⟨w14, hs15, hf⟩ := st1_ex hf
  refine VE_last h13 (by decide) hs15 dX0_asks_17 ?_
  cases some_ex hf
  exact V_vret hE dX0_asks_18
set_option maxHeartbeats 4000000 in
theorem mC_X21_is_ok (l : Launch) (D : DD) (w : AH) (a : Nat) (p0 : Nat) (r : Int32) (hf : mC_X21_is a p0 w = some r) : MA l D yX21_is cX21_is 2 (some (.boolean)) 1 [.ref a, .ref p0] w (.returned (some (.int r))) w := by
  refine MA.introH (own := RX21) (nm := "is") (ls := [some (.ref a), some (.ref p0)]) (by decide) rfl rfl (Nat.le_of_ble_eq_true rfl) rfl (fun X hl hD hE hH => ?_)
  subst hl hD
  unfold mC_X21_is at hf
  refine V_aload_n dX21_is_0 rfl ?_
  obtain ⟨h1, hf⟩ := ck_ex hf
  obtain ⟨b2, hb3, hf⟩ := bd1_ex hf
  refine VP_getR (x := some b2) fa_X21_13 h1 rfl rfl hb3 dX21_is_1 ?_
  refine V_aload_n dX21_is_4 rfl ?_
  obtain ⟨h4, hf⟩ := ck_ex hf
  refine VP_getI fa_X21_7 h4 rfl dX21_is_5 ?_
  obtain ⟨h5, hf⟩ := ck_ex hf
  refine VE_zald h5 rfl dX21_is_8 ?_
  obtain ⟨h6, hf⟩ := ck_ex hf
  cases some_ex hf
  exact V_zret hE (isZ_nar h6) dX21_is_9
set_option maxHeartbeats 4000000 in
theorem mC_X17_of_ok (l : Launch) (D : DD) (w : AH) (a : Nat) (p0 : Nat) (r : Int64) (hf : mC_X17_of a p0 w = some r) : MA l D yX17_of cX17_of 2 (some (.long)) 1 [.ref a, .ref p0] w (.returned (some (.long r))) w := by
  refine MA.introH (own := RX17) (nm := "of") (ls := [some (.ref a), some (.ref p0)]) (by decide) rfl rfl (Nat.le_of_ble_eq_true rfl) rfl (fun X hl hD hE hH => ?_)
  subst hl hD
  unfold mC_X17_of at hf
  refine V_aload_n dX17_of_0 rfl ?_
  obtain ⟨h1, hf⟩ := ck_ex hf
  refine VP_getI fa_X17_7 h1 rfl dX17_of_1 ?_
  refine V_i2l dX17_of_4 ?_
  cases some_ex hf
  exact V_lret hE dX17_of_5
set_option maxHeartbeats 4000000 in
theorem mC_X18_of_ok (l : Launch) (D : DD) (w : AH) (a : Nat) (p0 : Nat) (r : Int64) (hf : mC_X18_of a p0 w = some r) : MA l D yX18_of cX18_of 2 (some (.long)) 1 [.ref a, .ref p0] w (.returned (some (.long r))) w := by
  refine MA.introH (own := RX18) (nm := "of") (ls := [some (.ref a), some (.ref p0)]) (by decide) rfl rfl (Nat.le_of_ble_eq_true rfl) rfl (fun X hl hD hE hH => ?_)
  subst hl hD
  unfold mC_X18_of at hf
  refine V_aload_n dX18_of_0 rfl ?_
  obtain ⟨h1, hf⟩ := ck_ex hf
  obtain ⟨b2, hb3, hf⟩ := bd1_ex hf
  refine VP_getR (x := some b2) fa_X18_13 h1 rfl rfl hb3 dX18_of_1 ?_
  refine V_aload_n dX18_of_4 rfl ?_
  obtain ⟨h4, hf⟩ := ck_ex hf
  refine VP_getI fa_X18_7 h4 rfl dX18_of_5 ?_
  obtain ⟨h5, hf⟩ := ck_ex hf
  refine VE_lald h5 rfl dX18_of_8 ?_
  cases some_ex hf
  exact V_lret hE dX18_of_9
set_option maxHeartbeats 4000000 in
theorem ps_X19_22 {X : CX} {cc : ByteArray} {nL d pc : Nat} {w : AH} {ls : List (Option Value)} {st rest : List Value} {b s0 : Nat} {r : Int64 ⊕ Nat} {dR : Nat} (r_X19_of : Nat → Nat → AH → Option (Int64 ⊕ Nat)) (hr_X19_of : ∀ (w : AH) (a : Nat) (p0 : Nat) (r : Int64 ⊕ Nat) , r_X19_of a p0 w = some r → MA (xl X) (xD X) yX19_of cX19_of 8 (some (.long)) dR [.ref a, .ref p0] w (oL r) w) (hext : 1 ≤ dR) (hc : dSum r_X19_of b s0 w = some r) (hdd : dR + 1 ≤ d) (hst : st = .ref s0 :: .ref b :: rest) (hcat : (rest.map fun v => v.category).sum ≤ 8) (hd : decode cc pc = .ok (.invokevirtual 22, 3)) (kk : VO X cc RX19 nL d w pc 3 ls rest (oL r)) : V X cc RX19 nL d w pc ls st := by
  unfold dSum at hc
  by_cases hk : (hkd w b).1 = 28
  · replace hc := if_t hc hk
    obtain ⟨v, hv, hc⟩ := bd1_ex hc
    cases some_ex hc
    exact V_xU (av := [.ref s0]) (mC_X17_of_ok _ _ _ _ _ _ hv) uc_X19_22_18 q1467 q166 (by decide) hk (by omega) rfl hst hcat hd kk
  replace hc := if_f hc hk
  clear hk
  by_cases hk : (hkd w b).1 = 29
  · replace hc := if_t hc hk
    obtain ⟨v, hv, hc⟩ := bd1_ex hc
    cases some_ex hc
    exact V_xU (av := [.ref s0]) (mC_X18_of_ok _ _ _ _ _ _ hv) uc_X19_22_19 q1473 q167 (by decide) hk (by omega) rfl hst hcat hd kk
  replace hc := if_f hc hk
  clear hk
  by_cases hk : (hkd w b).1 = 30
  · replace hc := if_t hc hk
    exact V_xU (av := [.ref s0]) (hr_X19_of _ _ _ _ hc) uc_X19_22_20 q1470 q168 (by decide) hk (by omega) rfl hst hcat hd kk
  replace hc := if_f hc hk
  clear hk
  cases hc
set_option maxHeartbeats 4000000 in
theorem mB_X19_of_112_v {X : CX} {w0 : AH} {dR : Nat} {r : Int64 ⊕ Nat}  (r_X19_of : Nat → Nat → AH → Option (Int64 ⊕ Nat)) (w : AH) (hr_X19_of : ∀ (w : AH) (a : Nat) (p0 : Nat) (r : Int64 ⊕ Nat) , r_X19_of a p0 w = some r → MA (xl X) (xD X) yX19_of cX19_of 8 (some (.long)) dR [.ref a, .ref p0] w (oL r) w) (hext : 1 ≤ dR) (hE : XE X w0 (dR + 1) (some (.long)) "of" (oL r) w) (hH : XH X []) (v1 : Nat) (hf : mB_X19_of_112 r_X19_of w v1 = some r) : V X cX19_of RX19 8 (dR + 1) w 112 [none, some (.ref v1), none, none, none, none, none, none] [] := by
  unfold mB_X19_of_112 at hf
  refine V_aload_n dX19_of_112 rfl ?_
  obtain ⟨h1, hf⟩ := ck_ex hf
  obtain ⟨b2, hb3, hf⟩ := bd1_ex hf
  refine VP_getR (x := some b2) fa_X19_26 h1 rfl rfl hb3 dX19_of_113 ?_
  cases some_ex hf
  exact V_athrow dX19_of_116 (VT_out hE hH (by decide))
set_option maxHeartbeats 4000000 in
theorem mB_X19_of_92_v {X : CX} {w0 : AH} {dR : Nat} {r : Int64 ⊕ Nat}  (r_X19_of : Nat → Nat → AH → Option (Int64 ⊕ Nat)) (w : AH) (hr_X19_of : ∀ (w : AH) (a : Nat) (p0 : Nat) (r : Int64 ⊕ Nat) , r_X19_of a p0 w = some r → MA (xl X) (xD X) yX19_of cX19_of 8 (some (.long)) dR [.ref a, .ref p0] w (oL r) w) (hext : 1 ≤ dR) (hE : XE X w0 (dR + 1) (some (.long)) "of" (oL r) w) (hH : XH X []) (v1 : Nat) (t0 : Int64) (hf : mB_X19_of_92 r_X19_of w v1 t0 = some r) : V X cX19_of RX19 8 (dR + 1) w 92 [none, some (.ref v1), none, none, none, none, none, none] [.long t0] := by
  unfold mB_X19_of_92 at hf
  refine V_lstore (ls' := [none, some (.ref v1), none, none, none, none, some (.long t0), none]) dX19_of_92 (by decide) rfl ?_
  refine V_lload dX19_of_94 rfl ?_
  refine V_ldc2 q1474 dX19_of_96 ?_
  refine V_lif_gt (tgt := 112) dX19_of_99 dX19_of_100 (by decide) (fun hc1 => ?_) (fun hc1 => ?_)
  · have hf := if_t hf hc1
    refine V_keep [true, true, true, true, true, true, false, true] rfl ?_
    exact mB_X19_of_112_v r_X19_of w hr_X19_of hext hE hH v1 hf
  · have hf := if_f hf hc1
    refine V_lload dX19_of_103 rfl ?_
    refine V_ldc2 q1475 dX19_of_105 ?_
    refine V_lif_ge (tgt := 117) dX19_of_108 dX19_of_109 (by decide) (fun hc2 => ?_) (fun hc2 => ?_)
    · have hf := if_t hf hc2
      refine V_lload dX19_of_117 rfl ?_
      cases some_ex hf
      exact V_lret hE dX19_of_119
    · have hf := if_f hf hc2
      refine V_keep [true, true, true, true, true, true, false, true] rfl ?_
      exact mB_X19_of_112_v r_X19_of w hr_X19_of hext hE hH v1 hf
set_option maxHeartbeats 4000000 in
theorem mB_X19_of_40_v {X : CX} {w0 : AH} {dR : Nat} {r : Int64 ⊕ Nat}  (r_X19_of : Nat → Nat → AH → Option (Int64 ⊕ Nat)) (w : AH) (hr_X19_of : ∀ (w : AH) (a : Nat) (p0 : Nat) (r : Int64 ⊕ Nat) , r_X19_of a p0 w = some r → MA (xl X) (xD X) yX19_of cX19_of 8 (some (.long)) dR [.ref a, .ref p0] w (oL r) w) (hext : 1 ≤ dR) (hE : XE X w0 (dR + 1) (some (.long)) "of" (oL r) w) (hH : XH X []) (v0 : Nat) (v1 : Nat) (v2 : Int64) (v4 : Int64) (hf : mB_X19_of_40 r_X19_of w v0 v1 v2 v4 = some r) : V X cX19_of RX19 8 (dR + 1) w 40 [some (.ref v0), some (.ref v1), some (.long v2), none, some (.long v4), none, none, none] [] := by
  unfold mB_X19_of_40 at hf
  refine V_aload_n dX19_of_40 rfl ?_
  obtain ⟨h1, hf⟩ := ck_ex hf
  refine VP_getI fa_X19_9 h1 rfl dX19_of_41 ?_
  refine V_bipush dX19_of_44 ckb_43 ?_
  refine V_icmp_ne (tgt := 56) dX19_of_46 (by decide) (fun hc2 => ?_) (fun hc2 => ?_)
  · have hf := if_f hf hc2
    refine V_aload_n dX19_of_56 rfl ?_
    refine VP_getI fa_X19_9 h1 rfl dX19_of_57 ?_
    refine V_bipush dX19_of_60 ckb_45 ?_
    refine V_icmp_ne (tgt := 72) dX19_of_62 (by decide) (fun hc3 => ?_) (fun hc3 => ?_)
    · have hf := if_f hf hc3
      refine V_aload_n dX19_of_72 rfl ?_
      refine VP_getI fa_X19_9 h1 rfl dX19_of_73 ?_
      refine V_bipush dX19_of_76 ckb_42 ?_
      refine V_icmp_ne (tgt := 88) dX19_of_78 (by decide) (fun hc4 => ?_) (fun hc4 => ?_)
      · have hf := if_f hf hc4
        refine V_lload_n dX19_of_88 rfl ?_
        refine V_lload dX19_of_89 rfl ?_
        obtain ⟨hz5, hf⟩ := nzL_ex hf
        refine V_ldiv dX19_of_91 hz5 ?_
        refine V_keep [false, true, false, true, false, true, true, true] rfl ?_
        exact mB_X19_of_92_v r_X19_of w hr_X19_of hext hE hH v1 (v2 / v4) hf
      · have hf := if_t hf hc4
        refine V_lload_n dX19_of_81 rfl ?_
        refine V_lload dX19_of_82 rfl ?_
        refine V_lmul dX19_of_84 ?_
        refine V_goto (tgt := 92) dX19_of_85 (by decide) ?_
        refine V_keep [false, true, false, true, false, true, true, true] rfl ?_
        exact mB_X19_of_92_v r_X19_of w hr_X19_of hext hE hH v1 (v2 * v4) hf
    · have hf := if_t hf hc3
      refine V_lload_n dX19_of_65 rfl ?_
      refine V_lload dX19_of_66 rfl ?_
      refine V_lsub dX19_of_68 ?_
      refine V_goto (tgt := 92) dX19_of_69 (by decide) ?_
      refine V_keep [false, true, false, true, false, true, true, true] rfl ?_
      exact mB_X19_of_92_v r_X19_of w hr_X19_of hext hE hH v1 (v2 - v4) hf
  · have hf := if_t hf hc2
    refine V_lload_n dX19_of_49 rfl ?_
    refine V_lload dX19_of_50 rfl ?_
    refine V_ladd dX19_of_52 ?_
    refine V_goto (tgt := 92) dX19_of_53 (by decide) ?_
    refine V_keep [false, true, false, true, false, true, true, true] rfl ?_
    exact mB_X19_of_92_v r_X19_of w hr_X19_of hext hE hH v1 (v2 + v4) hf
set_option maxHeartbeats 4000000 in
theorem mB_X19_of_ok (l : Launch) (D : DD) (dR : Nat) (r_X19_of : Nat → Nat → AH → Option (Int64 ⊕ Nat)) (hr_X19_of : ∀ (w : AH) (a : Nat) (p0 : Nat) (r : Int64 ⊕ Nat) , r_X19_of a p0 w = some r → MA l D yX19_of cX19_of 8 (some (.long)) dR [.ref a, .ref p0] w (oL r) w) (hext : 1 ≤ dR) (w : AH) (a : Nat) (p0 : Nat) (r : Int64 ⊕ Nat) (hf : mB_X19_of r_X19_of a p0 w = some r) : MA l D yX19_of cX19_of 8 (some (.long)) (dR + 1) [.ref a, .ref p0] w (oL r) w := by
  refine MA.introH (own := RX19) (nm := "of") (ls := [some (.ref a), some (.ref p0), none, none, none, none, none, none]) (by decide) rfl rfl (Nat.le_of_ble_eq_true rfl) rfl (fun X hl hD hE hH => ?_)
  subst hl hD
  unfold mB_X19_of at hf
  refine V_aload_n dX19_of_0 rfl ?_
  obtain ⟨h1, hf⟩ := ck_ex hf
  obtain ⟨b2, hb3, hf⟩ := bd1_ex hf
  refine VP_getR (x := some b2) fa_X19_15 h1 rfl rfl hb3 dX19_of_1 ?_
  refine V_aload_n dX19_of_4 rfl ?_
  obtain ⟨x6, hc4, hf⟩ | ⟨r5, hc4, hf⟩ := (bdU_ex hf).symm
  · refine ps_X19_22 r_X19_of hr_X19_of hext hc4 (by omega) rfl (Nat.le_of_ble_eq_true rfl) dX19_of_5 ?_
    cases some_ex hf
    exact VO_t (VT_out hE hH (by decide))
  refine ps_X19_22 r_X19_of hr_X19_of hext hc4 (by omega) rfl (Nat.le_of_ble_eq_true rfl) dX19_of_5 ?_
  refine VO_r (v := some (.long r5)) (st' := [.long r5]) rfl ?_
  refine V_lstore_n (ls' := [some (.ref a), some (.ref p0), some (.long r5), none, none, none, none, none]) dX19_of_8 (by decide) rfl ?_
  refine V_aload_n dX19_of_9 rfl ?_
  obtain ⟨b7, hb8, hf⟩ := bd1_ex hf
  refine VP_getR (x := some b7) fa_X19_19 h1 rfl rfl hb8 dX19_of_10 ?_
  refine V_aload_n dX19_of_13 rfl ?_
  obtain ⟨x11, hc9, hf⟩ | ⟨r10, hc9, hf⟩ := (bdU_ex hf).symm
  · refine ps_X19_22 r_X19_of hr_X19_of hext hc9 (by omega) rfl (Nat.le_of_ble_eq_true rfl) dX19_of_14 ?_
    cases some_ex hf
    exact VO_t (VT_out hE hH (by decide))
  refine ps_X19_22 r_X19_of hr_X19_of hext hc9 (by omega) rfl (Nat.le_of_ble_eq_true rfl) dX19_of_14 ?_
  refine VO_r (v := some (.long r10)) (st' := [.long r10]) rfl ?_
  refine V_lstore (ls' := [some (.ref a), some (.ref p0), some (.long r5), none, some (.long r10), none, none, none]) dX19_of_17 (by decide) rfl ?_
  refine V_aload_n dX19_of_19 rfl ?_
  refine VP_getI fa_X19_9 h1 rfl dX19_of_20 ?_
  refine V_bipush dX19_of_23 ckb_47 ?_
  refine V_icmp_ne (tgt := 40) dX19_of_25 (by decide) (fun hc12 => ?_) (fun hc12 => ?_)
  · have hf := if_f hf hc12
    exact mB_X19_of_40_v r_X19_of w hr_X19_of hext hE hH a p0 r5 r10 hf
  · have hf := if_t hf hc12
    refine V_lload dX19_of_28 rfl ?_
    refine V_lconst dX19_of_30 ckl_0 ?_
    refine V_lif_ne (tgt := 40) dX19_of_31 dX19_of_32 (by decide) (fun hc13 => ?_) (fun hc13 => ?_)
    · have hf := if_f hf hc13
      exact mB_X19_of_40_v r_X19_of w hr_X19_of hext hE hH a p0 r5 r10 hf
    · have hf := if_t hf hc13
      refine V_aload_n dX19_of_35 rfl ?_
      obtain ⟨h14, hf⟩ := ck_ex hf
      obtain ⟨b15, hb16, hf⟩ := bd1_ex hf
      refine VP_getR (x := some b15) fa_X19_26 h14 rfl rfl hb16 dX19_of_36 ?_
      cases some_ex hf
      exact V_athrow dX19_of_39 (VT_out hE hH (by decide))
set_option maxHeartbeats 4000000 in
theorem mG_sum_ok (l : Launch) (D : DD) : ∀ n : Nat, (∀ (w : AH) (a : Nat) (p0 : Nat) (r : Int64 ⊕ Nat) , mC_X19_of n a p0 w = some r → MA l D yX19_of cX19_of 8 (some (.long)) (1 + n) [.ref a, .ref p0] w (oL r) w)
  | 0 => fun _ _ _ _ hf => (by cases hf)
  | n + 1 => by
    have ih := mG_sum_ok l D n
    exact fun x0 x1 x2 x3 hf => mB_X19_of_ok l D (1 + n) _ ih (by omega) x0 x1 x2 x3 hf
set_option maxHeartbeats 4000000 in
theorem mC_X19_of_ok (l : Launch) (D : DD) (n : Nat) : ∀ (w : AH) (a : Nat) (p0 : Nat) (r : Int64 ⊕ Nat) , mC_X19_of n a p0 w = some r → MA l D yX19_of cX19_of 8 (some (.long)) (1 + n) [.ref a, .ref p0] w (oL r) w := mG_sum_ok l D n
set_option maxHeartbeats 4000000 in
theorem ps_X22_20 {X : CX} {cc : ByteArray} {nL d pc : Nat} {w : AH} {ls : List (Option Value)} {st rest : List Value} {b s0 : Nat} {r : Int64 ⊕ Nat} {dR : Nat} (r_X19_of : Nat → Nat → AH → Option (Int64 ⊕ Nat)) (hr_X19_of : ∀ (w : AH) (a : Nat) (p0 : Nat) (r : Int64 ⊕ Nat) , r_X19_of a p0 w = some r → MA (xl X) (xD X) yX19_of cX19_of 8 (some (.long)) dR [.ref a, .ref p0] w (oL r) w) (hext : 1 ≤ dR) (hc : dSum r_X19_of b s0 w = some r) (hdd : dR + 1 ≤ d) (hst : st = .ref s0 :: .ref b :: rest) (hcat : (rest.map fun v => v.category).sum ≤ 8) (hd : decode cc pc = .ok (.invokevirtual 20, 3)) (kk : VO X cc RX22 nL d w pc 3 ls rest (oL r)) : V X cc RX22 nL d w pc ls st := by
  unfold dSum at hc
  by_cases hk : (hkd w b).1 = 28
  · replace hc := if_t hc hk
    obtain ⟨v, hv, hc⟩ := bd1_ex hc
    cases some_ex hc
    exact V_xU (av := [.ref s0]) (mC_X17_of_ok _ _ _ _ _ _ hv) uc_X22_20_18 q1467 q166 (by decide) hk (by omega) rfl hst hcat hd kk
  replace hc := if_f hc hk
  clear hk
  by_cases hk : (hkd w b).1 = 29
  · replace hc := if_t hc hk
    obtain ⟨v, hv, hc⟩ := bd1_ex hc
    cases some_ex hc
    exact V_xU (av := [.ref s0]) (mC_X18_of_ok _ _ _ _ _ _ hv) uc_X22_20_19 q1473 q167 (by decide) hk (by omega) rfl hst hcat hd kk
  replace hc := if_f hc hk
  clear hk
  by_cases hk : (hkd w b).1 = 30
  · replace hc := if_t hc hk
    exact V_xU (av := [.ref s0]) (hr_X19_of _ _ _ _ hc) uc_X22_20_20 q1470 q168 (by decide) hk (by omega) rfl hst hcat hd kk
  replace hc := if_f hc hk
  clear hk
  cases hc
set_option maxHeartbeats 4000000 in
theorem mC_X22_is_ok (l : Launch) (D : DD) (w : AH) (a : Nat) (p0 : Nat) (r : Int32 ⊕ Nat) (hf : mC_X22_is a p0 w = some r) : MA l D yX22_is cX22_is 6 (some (.boolean)) 202 [.ref a, .ref p0] w (oI r) w := by
  refine MA.introH (own := RX22) (nm := "is") (ls := [some (.ref a), some (.ref p0), none, none, none, none]) (by decide) rfl rfl (Nat.le_of_ble_eq_true rfl) rfl (fun X hl hD hE hH => ?_)
  subst hl hD
  unfold mC_X22_is at hf
  refine V_aload_n dX22_is_0 rfl ?_
  obtain ⟨h1, hf⟩ := ck_ex hf
  obtain ⟨b2, hb3, hf⟩ := bd1_ex hf
  refine VP_getR (x := some b2) fa_X22_13 h1 rfl rfl hb3 dX22_is_1 ?_
  refine V_aload_n dX22_is_4 rfl ?_
  obtain ⟨x6, hc4, hf⟩ | ⟨r5, hc4, hf⟩ := (bdU_ex hf).symm
  · refine ps_X22_20 (mC_X19_of 200) (mC_X19_of_ok _ _ 200) (by decide) hc4 (by decide) rfl (Nat.le_of_ble_eq_true rfl) dX22_is_5 ?_
    cases some_ex hf
    exact VO_t (VT_out hE hH (by decide))
  refine ps_X22_20 (mC_X19_of 200) (mC_X19_of_ok _ _ 200) (by decide) hc4 (by decide) rfl (Nat.le_of_ble_eq_true rfl) dX22_is_5 ?_
  refine VO_r (v := some (.long r5)) (st' := [.long r5]) rfl ?_
  refine V_lstore_n (ls' := [some (.ref a), some (.ref p0), some (.long r5), none, none, none]) dX22_is_8 (by decide) rfl ?_
  refine V_aload_n dX22_is_9 rfl ?_
  obtain ⟨b7, hb8, hf⟩ := bd1_ex hf
  refine VP_getR (x := some b7) fa_X22_17 h1 rfl rfl hb8 dX22_is_10 ?_
  refine V_aload_n dX22_is_13 rfl ?_
  obtain ⟨x11, hc9, hf⟩ | ⟨r10, hc9, hf⟩ := (bdU_ex hf).symm
  · refine ps_X22_20 (mC_X19_of 200) (mC_X19_of_ok _ _ 200) (by decide) hc9 (by decide) rfl (Nat.le_of_ble_eq_true rfl) dX22_is_14 ?_
    cases some_ex hf
    exact VO_t (VT_out hE hH (by decide))
  refine ps_X22_20 (mC_X19_of 200) (mC_X19_of_ok _ _ 200) (by decide) hc9 (by decide) rfl (Nat.le_of_ble_eq_true rfl) dX22_is_14 ?_
  refine VO_r (v := some (.long r10)) (st' := [.long r10]) rfl ?_
  refine V_lstore (ls' := [some (.ref a), some (.ref p0), some (.long r5), none, some (.long r10), none]) dX22_is_17 (by decide) rfl ?_
  refine V_aload_n dX22_is_19 rfl ?_
  refine VP_getI fa_X22_7 h1 rfl dX22_is_20 ?_
  refine V_bipush dX22_is_23 ckb_60 ?_
  refine V_icmp_ne (tgt := 43) dX22_is_25 (by decide) (fun hc12 => ?_) (fun hc12 => ?_)
  · have hf := if_f hf hc12
    refine V_aload_n dX22_is_43 rfl ?_
    refine VP_getI fa_X22_7 h1 rfl dX22_is_44 ?_
    refine V_bipush dX22_is_47 ckb_62 ?_
    refine V_icmp_ne (tgt := 67) dX22_is_49 (by decide) (fun hc13 => ?_) (fun hc13 => ?_)
    · have hf := if_f hf hc13
      refine V_lload_n dX22_is_67 rfl ?_
      refine V_lload dX22_is_68 rfl ?_
      refine V_lif_ne (tgt := 78) dX22_is_70 dX22_is_71 (by decide) (fun hc14 => ?_) (fun hc14 => ?_)
      · have hf := if_f hf hc14
        refine V_iconst dX22_is_78 ckc_0 ?_
        cases some_ex hf
        exact V_zret hE (by decide) dX22_is_79
      · have hf := if_t hf hc14
        refine V_iconst dX22_is_74 ckc_1 ?_
        refine V_goto (tgt := 79) dX22_is_75 (by decide) ?_
        cases some_ex hf
        exact V_zret hE (by decide) dX22_is_79
    · have hf := if_t hf hc13
      refine V_lload_n dX22_is_52 rfl ?_
      refine V_lload dX22_is_53 rfl ?_
      refine V_lif_le (tgt := 63) dX22_is_55 dX22_is_56 (by decide) (fun hc15 => ?_) (fun hc15 => ?_)
      · have hf := if_t hf hc15
        refine V_iconst dX22_is_63 ckc_0 ?_
        refine V_goto (tgt := 79) dX22_is_64 (by decide) ?_
        cases some_ex hf
        exact V_zret hE (by decide) dX22_is_79
      · have hf := if_f hf hc15
        refine V_iconst dX22_is_59 ckc_1 ?_
        refine V_goto (tgt := 79) dX22_is_60 (by decide) ?_
        cases some_ex hf
        exact V_zret hE (by decide) dX22_is_79
  · have hf := if_t hf hc12
    refine V_lload_n dX22_is_28 rfl ?_
    refine V_lload dX22_is_29 rfl ?_
    refine V_lif_ge (tgt := 39) dX22_is_31 dX22_is_32 (by decide) (fun hc16 => ?_) (fun hc16 => ?_)
    · have hf := if_t hf hc16
      refine V_iconst dX22_is_39 ckc_0 ?_
      refine V_goto (tgt := 79) dX22_is_40 (by decide) ?_
      cases some_ex hf
      exact V_zret hE (by decide) dX22_is_79
    · have hf := if_f hf hc16
      refine V_iconst dX22_is_35 ckc_1 ?_
      refine V_goto (tgt := 79) dX22_is_36 (by decide) ?_
      cases some_ex hf
      exact V_zret hE (by decide) dX22_is_79
set_option maxHeartbeats 4000000 in
theorem ps_X23_13 {X : CX} {cc : ByteArray} {nL d pc : Nat} {w : AH} {ls : List (Option Value)} {st rest : List Value} {b s0 : Nat} {r : Int32 ⊕ Nat} {dR : Nat} (r_X23_is : Nat → Nat → AH → Option (Int32 ⊕ Nat)) (r_X24_is : Nat → Nat → AH → Option (Int32 ⊕ Nat)) (hr_X23_is : ∀ (w : AH) (a : Nat) (p0 : Nat) (r : Int32 ⊕ Nat) , r_X23_is a p0 w = some r → MA (xl X) (xD X) yX23_is cX23_is 2 (some (.boolean)) dR [.ref a, .ref p0] w (oI r) w) (hr_X24_is : ∀ (w : AH) (a : Nat) (p0 : Nat) (r : Int32 ⊕ Nat) , r_X24_is a p0 w = some r → MA (xl X) (xD X) yX24_is cX24_is 3 (some (.boolean)) dR [.ref a, .ref p0] w (oI r) w) (hext : 202 ≤ dR) (hc : dTest r_X23_is r_X24_is b s0 w = some r) (hdd : dR + 1 ≤ d) (hst : st = .ref s0 :: .ref b :: rest) (hcat : (rest.map fun v => v.category).sum ≤ 8) (hd : decode cc pc = .ok (.invokevirtual 13, 3)) (kk : VO X cc RX23 nL d w pc 3 ls rest (oI r)) : V X cc RX23 nL d w pc ls st := by
  unfold dTest at hc
  by_cases hk : (hkd w b).1 = 31
  · replace hc := if_t hc hk
    obtain ⟨v, hv, hc⟩ := bd1_ex hc
    cases some_ex hc
    exact V_xU (av := [.ref s0]) (mC_X21_is_ok _ _ _ _ _ _ hv) uc_X23_13_21 q1479 q170 (by decide) hk (by omega) rfl hst hcat hd kk
  replace hc := if_f hc hk
  clear hk
  by_cases hk : (hkd w b).1 = 32
  · replace hc := if_t hc hk
    exact V_xU (av := [.ref s0]) (mC_X22_is_ok _ _ _ _ _ _ hc) uc_X23_13_22 q1461 q171 (by decide) hk (by omega) rfl hst hcat hd kk
  replace hc := if_f hc hk
  clear hk
  by_cases hk : (hkd w b).1 = 33
  · replace hc := if_t hc hk
    exact V_xU (av := [.ref s0]) (hr_X23_is _ _ _ _ hc) uc_X23_13_23 q1482 q172 (by decide) hk (by omega) rfl hst hcat hd kk
  replace hc := if_f hc hk
  clear hk
  by_cases hk : (hkd w b).1 = 34
  · replace hc := if_t hc hk
    exact V_xU (av := [.ref s0]) (hr_X24_is _ _ _ _ hc) uc_X23_13_24 q1485 q173 (by decide) hk (by omega) rfl hst hcat hd kk
  replace hc := if_f hc hk
  clear hk
  cases hc
set_option maxHeartbeats 4000000 in
theorem mB_X23_is_ok (l : Launch) (D : DD) (dR : Nat) (r_X23_is : Nat → Nat → AH → Option (Int32 ⊕ Nat)) (r_X24_is : Nat → Nat → AH → Option (Int32 ⊕ Nat)) (hr_X23_is : ∀ (w : AH) (a : Nat) (p0 : Nat) (r : Int32 ⊕ Nat) , r_X23_is a p0 w = some r → MA l D yX23_is cX23_is 2 (some (.boolean)) dR [.ref a, .ref p0] w (oI r) w) (hr_X24_is : ∀ (w : AH) (a : Nat) (p0 : Nat) (r : Int32 ⊕ Nat) , r_X24_is a p0 w = some r → MA l D yX24_is cX24_is 3 (some (.boolean)) dR [.ref a, .ref p0] w (oI r) w) (hext : 202 ≤ dR) (w : AH) (a : Nat) (p0 : Nat) (r : Int32 ⊕ Nat) (hf : mB_X23_is r_X23_is r_X24_is a p0 w = some r) : MA l D yX23_is cX23_is 2 (some (.boolean)) (dR + 1) [.ref a, .ref p0] w (oI r) w := by
  refine MA.introH (own := RX23) (nm := "is") (ls := [some (.ref a), some (.ref p0)]) (by decide) rfl rfl (Nat.le_of_ble_eq_true rfl) rfl (fun X hl hD hE hH => ?_)
  subst hl hD
  unfold mB_X23_is at hf
  refine V_aload_n dX23_is_0 rfl ?_
  obtain ⟨h1, hf⟩ := ck_ex hf
  obtain ⟨b2, hb3, hf⟩ := bd1_ex hf
  refine VP_getR (x := some b2) fa_X23_7 h1 rfl rfl hb3 dX23_is_1 ?_
  refine V_aload_n dX23_is_4 rfl ?_
  obtain ⟨x6, hc4, hf⟩ | ⟨r5, hc4, hf⟩ := (bdU_ex hf).symm
  · refine ps_X23_13 r_X23_is r_X24_is hr_X23_is hr_X24_is hext hc4 (by omega) rfl (Nat.le_of_ble_eq_true rfl) dX23_is_5 ?_
    cases some_ex hf
    exact VO_t (VT_out hE hH (by decide))
  refine ps_X23_13 r_X23_is r_X24_is hr_X23_is hr_X24_is hext hc4 (by omega) rfl (Nat.le_of_ble_eq_true rfl) dX23_is_5 ?_
  refine VO_r (v := some (.int r5)) (st' := [.int r5]) rfl ?_
  refine V_if_ne (tgt := 15) dX23_is_8 (by decide) (fun hc7 => ?_) (fun hc7 => ?_)
  · have hf := if_f hf hc7
    refine V_iconst dX23_is_15 ckc_0 ?_
    cases some_ex hf
    exact V_zret hE (by decide) dX23_is_16
  · have hf := if_t hf hc7
    refine V_iconst dX23_is_11 ckc_1 ?_
    refine V_goto (tgt := 16) dX23_is_12 (by decide) ?_
    cases some_ex hf
    exact V_zret hE (by decide) dX23_is_16
set_option maxHeartbeats 4000000 in
theorem ps_X24_30 {X : CX} {cc : ByteArray} {nL d pc : Nat} {w : AH} {ls : List (Option Value)} {st rest : List Value} {b s0 : Nat} {r : Int32 ⊕ Nat} {dR : Nat} (r_X23_is : Nat → Nat → AH → Option (Int32 ⊕ Nat)) (r_X24_is : Nat → Nat → AH → Option (Int32 ⊕ Nat)) (hr_X23_is : ∀ (w : AH) (a : Nat) (p0 : Nat) (r : Int32 ⊕ Nat) , r_X23_is a p0 w = some r → MA (xl X) (xD X) yX23_is cX23_is 2 (some (.boolean)) dR [.ref a, .ref p0] w (oI r) w) (hr_X24_is : ∀ (w : AH) (a : Nat) (p0 : Nat) (r : Int32 ⊕ Nat) , r_X24_is a p0 w = some r → MA (xl X) (xD X) yX24_is cX24_is 3 (some (.boolean)) dR [.ref a, .ref p0] w (oI r) w) (hext : 202 ≤ dR) (hc : dTest r_X23_is r_X24_is b s0 w = some r) (hdd : dR + 1 ≤ d) (hst : st = .ref s0 :: .ref b :: rest) (hcat : (rest.map fun v => v.category).sum ≤ 8) (hd : decode cc pc = .ok (.invokevirtual 30, 3)) (kk : VO X cc RX24 nL d w pc 3 ls rest (oI r)) : V X cc RX24 nL d w pc ls st := by
  unfold dTest at hc
  by_cases hk : (hkd w b).1 = 31
  · replace hc := if_t hc hk
    obtain ⟨v, hv, hc⟩ := bd1_ex hc
    cases some_ex hc
    exact V_xU (av := [.ref s0]) (mC_X21_is_ok _ _ _ _ _ _ hv) uc_X24_30_21 q1479 q170 (by decide) hk (by omega) rfl hst hcat hd kk
  replace hc := if_f hc hk
  clear hk
  by_cases hk : (hkd w b).1 = 32
  · replace hc := if_t hc hk
    exact V_xU (av := [.ref s0]) (mC_X22_is_ok _ _ _ _ _ _ hc) uc_X24_30_22 q1461 q171 (by decide) hk (by omega) rfl hst hcat hd kk
  replace hc := if_f hc hk
  clear hk
  by_cases hk : (hkd w b).1 = 33
  · replace hc := if_t hc hk
    exact V_xU (av := [.ref s0]) (hr_X23_is _ _ _ _ hc) uc_X24_30_23 q1482 q172 (by decide) hk (by omega) rfl hst hcat hd kk
  replace hc := if_f hc hk
  clear hk
  by_cases hk : (hkd w b).1 = 34
  · replace hc := if_t hc hk
    exact V_xU (av := [.ref s0]) (hr_X24_is _ _ _ _ hc) uc_X24_30_24 q1485 q173 (by decide) hk (by omega) rfl hst hcat hd kk
  replace hc := if_f hc hk
  clear hk
  cases hc
set_option maxHeartbeats 4000000 in
theorem mB_X24_is_2_v {X : CX} {w0 : AH} {dR : Nat} {r : Int32 ⊕ Nat}  (r_X23_is : Nat → Nat → AH → Option (Int32 ⊕ Nat)) (r_X24_is : Nat → Nat → AH → Option (Int32 ⊕ Nat)) (w : AH) (hr_X23_is : ∀ (w : AH) (a : Nat) (p0 : Nat) (r : Int32 ⊕ Nat) , r_X23_is a p0 w = some r → MA (xl X) (xD X) yX23_is cX23_is 2 (some (.boolean)) dR [.ref a, .ref p0] w (oI r) w) (hr_X24_is : ∀ (w : AH) (a : Nat) (p0 : Nat) (r : Int32 ⊕ Nat) , r_X24_is a p0 w = some r → MA (xl X) (xD X) yX24_is cX24_is 3 (some (.boolean)) dR [.ref a, .ref p0] w (oI r) w) (hext : 202 ≤ dR) (hE : XE X w0 (dR + 1) (some (.boolean)) "is" (oI r) w) (hH : XH X []) (k2 : Nat → Nat → Int32 → Option (Int32 ⊕ Nat)) (hk2 : ∀ (v0 : Nat) (v1 : Nat) (v2 : Int32), k2 v0 v1 v2 = some r → V X cX24_is RX24 3 (dR + 1) w 2 [some (.ref v0), some (.ref v1), some (.int v2)] []) (v0 : Nat) (v1 : Nat) (v2 : Int32) (hf : mB_X24_is_2 r_X23_is r_X24_is w k2 v0 v1 v2 = some r) : V X cX24_is RX24 3 (dR + 1) w 2 [some (.ref v0), some (.ref v1), some (.int v2)] [] := by
  unfold mB_X24_is_2 at hf
  refine V_iload_n dX24_is_2 rfl ?_
  refine V_aload_n dX24_is_3 rfl ?_
  obtain ⟨h1, hf⟩ := ck_ex hf
  obtain ⟨b2, hb3, hf⟩ := bd1_ex hf
  refine VP_getR (x := some b2) fa_X24_12 h1 rfl rfl hb3 dX24_is_4 ?_
  obtain ⟨h4, hf⟩ := ck_ex hf
  obtain ⟨r6, hc5, hf⟩ := bd1_ex hf
  refine V_cV (av := []) (rest := [.int v2]) (st' := [.int r6, .int v2]) (mC_J2_size_ok _ _ _ _ _ hc5) vc_X24_22 (kIn1 h4) (by omega) rfl rfl (Nat.le_of_ble_eq_true rfl) dX24_is_7 rfl ?_
  refine V_icmp_ge (tgt := 54) dX24_is_10 (by decide) (fun hc7 => ?_) (fun hc7 => ?_)
  · have hf := if_t hf hc7
    refine V_aload_n dX24_is_54 rfl ?_
    refine VP_getI fa_X24_18 h1 rfl dX24_is_55 ?_
    obtain ⟨h8, hf⟩ := ck_ex hf
    cases some_ex hf
    exact V_zret hE (isZ_nar h8) dX24_is_58
  · have hf := if_f hf hc7
    refine V_aload_n dX24_is_13 rfl ?_
    refine VP_getR (x := some b2) fa_X24_12 h1 rfl rfl hb3 dX24_is_14 ?_
    refine V_iload_n dX24_is_17 rfl ?_
    obtain ⟨r10, hc9, hf⟩ := bd1_ex hf
    refine V_cV (av := [.int v2]) (rest := []) (st' := [.ref r10]) (mC_J2_get_ok _ _ _ _ _ _ hc9) vc_X24_26 (kIn1 h4) (by omega) rfl rfl (Nat.le_of_ble_eq_true rfl) dX24_is_18 rfl ?_
    obtain ⟨h11, hf⟩ := ck_ex hf
    refine VE_cast cc_X24_2 h11 dX24_is_21 ?_
    refine V_aload_n dX24_is_24 rfl ?_
    obtain ⟨x14, hc12, hf⟩ | ⟨r13, hc12, hf⟩ := (bdU_ex hf).symm
    · refine ps_X24_30 r_X23_is r_X24_is hr_X23_is hr_X24_is hext hc12 (by omega) rfl (Nat.le_of_ble_eq_true rfl) dX24_is_25 ?_
      cases some_ex hf
      exact VO_t (VT_out hE hH (by decide))
    refine ps_X24_30 r_X23_is r_X24_is hr_X23_is hr_X24_is hext hc12 (by omega) rfl (Nat.le_of_ble_eq_true rfl) dX24_is_25 ?_
    refine VO_r (v := some (.int r13)) (st' := [.int r13]) rfl ?_
    refine V_aload_n dX24_is_28 rfl ?_
    refine VP_getI fa_X24_18 h1 rfl dX24_is_29 ?_
    refine V_icmp_eq (tgt := 48) dX24_is_32 (by decide) (fun hc15 => ?_) (fun hc15 => ?_)
    · have hf := if_t hf hc15
      refine V_inc (ls' := [some (.ref v0), some (.ref v1), some (.int (v2 + (1 : Int32)))]) dX24_is_48 rfl ckc_1 (by decide) rfl ?_
      refine V_goto (tgt := 2) dX24_is_51 (by decide) ?_
      exact hk2 v0 v1 (v2 + (1 : Int32)) hf
    · have hf := if_f hf hc15
      refine V_aload_n dX24_is_35 rfl ?_
      refine VP_getI fa_X24_18 h1 rfl dX24_is_36 ?_
      refine V_if_ne (tgt := 46) dX24_is_39 (by decide) (fun hc16 => ?_) (fun hc16 => ?_)
      · have hf := if_f hf hc16
        refine V_iconst dX24_is_46 ckc_0 ?_
        cases some_ex hf
        exact V_zret hE (by decide) dX24_is_47
      · have hf := if_t hf hc16
        refine V_iconst dX24_is_42 ckc_1 ?_
        refine V_goto (tgt := 47) dX24_is_43 (by decide) ?_
        cases some_ex hf
        exact V_zret hE (by decide) dX24_is_47
set_option maxHeartbeats 4000000 in
theorem mB_X24_is_ok (l : Launch) (D : DD) (dR : Nat) (r_X23_is : Nat → Nat → AH → Option (Int32 ⊕ Nat)) (r_X24_is : Nat → Nat → AH → Option (Int32 ⊕ Nat)) (hr_X23_is : ∀ (w : AH) (a : Nat) (p0 : Nat) (r : Int32 ⊕ Nat) , r_X23_is a p0 w = some r → MA l D yX23_is cX23_is 2 (some (.boolean)) dR [.ref a, .ref p0] w (oI r) w) (hr_X24_is : ∀ (w : AH) (a : Nat) (p0 : Nat) (r : Int32 ⊕ Nat) , r_X24_is a p0 w = some r → MA l D yX24_is cX24_is 3 (some (.boolean)) dR [.ref a, .ref p0] w (oI r) w) (hext : 202 ≤ dR) (w : AH) (a : Nat) (p0 : Nat) (r : Int32 ⊕ Nat) (hf : mB_X24_is r_X23_is r_X24_is a p0 w = some r) : MA l D yX24_is cX24_is 3 (some (.boolean)) (dR + 1) [.ref a, .ref p0] w (oI r) w := by
  refine MA.introH (own := RX24) (nm := "is") (ls := [some (.ref a), some (.ref p0), none]) (by decide) rfl rfl (Nat.le_of_ble_eq_true rfl) rfl (fun X hl hD hE hH => ?_)
  subst hl hD
  unfold mB_X24_is at hf
  refine V_iconst dX24_is_0 ckc_0 ?_
  refine V_istore_n (ls' := [some (.ref a), some (.ref p0), some (.int (0 : Int32))]) dX24_is_1 (by decide) rfl ?_
  exact lq3_ex (P := fun v0 v1 v2 => V X cX24_is RX24 3 (dR + 1) w 2 [some (.ref v0), some (.ref v1), some (.int v2)] []) (fun k hk v0 v1 v2 hf => mB_X24_is_2_v r_X23_is r_X24_is w hr_X23_is hr_X24_is hext hE hH k hk v0 v1 v2 hf) LF a p0 (0 : Int32) hf
set_option maxHeartbeats 4000000 in
theorem mG_tst_ok (l : Launch) (D : DD) : ∀ n : Nat, (∀ (w : AH) (a : Nat) (p0 : Nat) (r : Int32 ⊕ Nat) , mC_X23_is n a p0 w = some r → MA l D yX23_is cX23_is 2 (some (.boolean)) (202 + n) [.ref a, .ref p0] w (oI r) w) ∧ (∀ (w : AH) (a : Nat) (p0 : Nat) (r : Int32 ⊕ Nat) , mC_X24_is n a p0 w = some r → MA l D yX24_is cX24_is 3 (some (.boolean)) (202 + n) [.ref a, .ref p0] w (oI r) w)
  | 0 => ⟨fun _ _ _ _ hf => (by cases hf), fun _ _ _ _ hf => (by cases hf)⟩
  | n + 1 => by
    have ih := mG_tst_ok l D n
    exact ⟨fun x0 x1 x2 x3 hf => mB_X23_is_ok l D (202 + n) _ _ ih.1 ih.2 (by omega) x0 x1 x2 x3 hf, fun x0 x1 x2 x3 hf => mB_X24_is_ok l D (202 + n) _ _ ih.1 ih.2 (by omega) x0 x1 x2 x3 hf⟩
set_option maxHeartbeats 4000000 in
theorem mC_X23_is_ok (l : Launch) (D : DD) (n : Nat) : ∀ (w : AH) (a : Nat) (p0 : Nat) (r : Int32 ⊕ Nat) , mC_X23_is n a p0 w = some r → MA l D yX23_is cX23_is 2 (some (.boolean)) (202 + n) [.ref a, .ref p0] w (oI r) w := (mG_tst_ok l D n).1
set_option maxHeartbeats 4000000 in
theorem mC_X24_is_ok (l : Launch) (D : DD) (n : Nat) : ∀ (w : AH) (a : Nat) (p0 : Nat) (r : Int32 ⊕ Nat) , mC_X24_is n a p0 w = some r → MA l D yX24_is cX24_is 3 (some (.boolean)) (202 + n) [.ref a, .ref p0] w (oI r) w := (mG_tst_ok l D n).2
set_option maxHeartbeats 4000000 in
theorem ps_X15_37 {X : CX} {cc : ByteArray} {nL d pc : Nat} {w : AH} {ls : List (Option Value)} {st rest : List Value} {b s0 : Nat} {r : Int64 ⊕ Nat} {dR : Nat} (r_X19_of : Nat → Nat → AH → Option (Int64 ⊕ Nat)) (hr_X19_of : ∀ (w : AH) (a : Nat) (p0 : Nat) (r : Int64 ⊕ Nat) , r_X19_of a p0 w = some r → MA (xl X) (xD X) yX19_of cX19_of 8 (some (.long)) dR [.ref a, .ref p0] w (oL r) w) (hext : 1 ≤ dR) (hc : dSum r_X19_of b s0 w = some r) (hdd : dR + 1 ≤ d) (hst : st = .ref s0 :: .ref b :: rest) (hcat : (rest.map fun v => v.category).sum ≤ 8) (hd : decode cc pc = .ok (.invokevirtual 37, 3)) (kk : VO X cc RX15 nL d w pc 3 ls rest (oL r)) : V X cc RX15 nL d w pc ls st := by
  unfold dSum at hc
  by_cases hk : (hkd w b).1 = 28
  · replace hc := if_t hc hk
    obtain ⟨v, hv, hc⟩ := bd1_ex hc
    cases some_ex hc
    exact V_xU (av := [.ref s0]) (mC_X17_of_ok _ _ _ _ _ _ hv) uc_X15_37_18 q1467 q166 (by decide) hk (by omega) rfl hst hcat hd kk
  replace hc := if_f hc hk
  clear hk
  by_cases hk : (hkd w b).1 = 29
  · replace hc := if_t hc hk
    obtain ⟨v, hv, hc⟩ := bd1_ex hc
    cases some_ex hc
    exact V_xU (av := [.ref s0]) (mC_X18_of_ok _ _ _ _ _ _ hv) uc_X15_37_19 q1473 q167 (by decide) hk (by omega) rfl hst hcat hd kk
  replace hc := if_f hc hk
  clear hk
  by_cases hk : (hkd w b).1 = 30
  · replace hc := if_t hc hk
    exact V_xU (av := [.ref s0]) (hr_X19_of _ _ _ _ hc) uc_X15_37_20 q1470 q168 (by decide) hk (by omega) rfl hst hcat hd kk
  replace hc := if_f hc hk
  clear hk
  cases hc
set_option maxHeartbeats 4000000 in
theorem ps_X15_25 {X : CX} {cc : ByteArray} {nL d pc : Nat} {w : AH} {ls : List (Option Value)} {st rest : List Value} {b s0 : Nat} {r : Int32 ⊕ Nat} {dR : Nat} (r_X23_is : Nat → Nat → AH → Option (Int32 ⊕ Nat)) (r_X24_is : Nat → Nat → AH → Option (Int32 ⊕ Nat)) (hr_X23_is : ∀ (w : AH) (a : Nat) (p0 : Nat) (r : Int32 ⊕ Nat) , r_X23_is a p0 w = some r → MA (xl X) (xD X) yX23_is cX23_is 2 (some (.boolean)) dR [.ref a, .ref p0] w (oI r) w) (hr_X24_is : ∀ (w : AH) (a : Nat) (p0 : Nat) (r : Int32 ⊕ Nat) , r_X24_is a p0 w = some r → MA (xl X) (xD X) yX24_is cX24_is 3 (some (.boolean)) dR [.ref a, .ref p0] w (oI r) w) (hext : 202 ≤ dR) (hc : dTest r_X23_is r_X24_is b s0 w = some r) (hdd : dR + 1 ≤ d) (hst : st = .ref s0 :: .ref b :: rest) (hcat : (rest.map fun v => v.category).sum ≤ 8) (hd : decode cc pc = .ok (.invokevirtual 25, 3)) (kk : VO X cc RX15 nL d w pc 3 ls rest (oI r)) : V X cc RX15 nL d w pc ls st := by
  unfold dTest at hc
  by_cases hk : (hkd w b).1 = 31
  · replace hc := if_t hc hk
    obtain ⟨v, hv, hc⟩ := bd1_ex hc
    cases some_ex hc
    exact V_xU (av := [.ref s0]) (mC_X21_is_ok _ _ _ _ _ _ hv) uc_X15_25_21 q1479 q170 (by decide) hk (by omega) rfl hst hcat hd kk
  replace hc := if_f hc hk
  clear hk
  by_cases hk : (hkd w b).1 = 32
  · replace hc := if_t hc hk
    exact V_xU (av := [.ref s0]) (mC_X22_is_ok _ _ _ _ _ _ hc) uc_X15_25_22 q1461 q171 (by decide) hk (by omega) rfl hst hcat hd kk
  replace hc := if_f hc hk
  clear hk
  by_cases hk : (hkd w b).1 = 33
  · replace hc := if_t hc hk
    exact V_xU (av := [.ref s0]) (hr_X23_is _ _ _ _ hc) uc_X15_25_23 q1482 q172 (by decide) hk (by omega) rfl hst hcat hd kk
  replace hc := if_f hc hk
  clear hk
  by_cases hk : (hkd w b).1 = 34
  · replace hc := if_t hc hk
    exact V_xU (av := [.ref s0]) (hr_X24_is _ _ _ _ hc) uc_X15_25_24 q1485 q173 (by decide) hk (by omega) rfl hst hcat hd kk
  replace hc := if_f hc hk
  clear hk
  cases hc
set_option maxHeartbeats 4000000 in
theorem mC_X15_tells_42_v {X : CX} {w0 : AH} {r : Int64}  (w : AH) (hE : XE X w0 403 (some (.long)) "tells" (.returned (some (.long r))) w) (hH : XH X [(0, 21, 42, 43), (22, 41, 42, 43)]) (t0 : Nat) (hf : mC_X15_tells_42 w t0 = some r) : V X cX15_tells RX15 3 403 w 42 [none, none, none] [.ref t0] := by
  unfold mC_X15_tells_42 at hf
  refine V_astore_n (ls' := [none, none, some (.ref t0)]) dX15_tells_42 (by decide) rfl ?_
  refine V_ldc2 q1491 dX15_tells_43 ?_
  cases some_ex hf
  exact V_lret hE dX15_tells_46
set_option maxHeartbeats 4000000 in
theorem mC_X15_tells_22_v {X : CX} {w0 : AH} {r : Int64}  (w : AH) (hE : XE X w0 403 (some (.long)) "tells" (.returned (some (.long r))) w) (hH : XH X [(0, 21, 42, 43), (22, 41, 42, 43)]) (v0 : Nat) (v1 : Nat) (hf : mC_X15_tells_22 w v0 v1 = some r) : V X cX15_tells RX15 3 403 w 22 [some (.ref v0), some (.ref v1), none] [] := by
  unfold mC_X15_tells_22 at hf
  refine V_aload_n dX15_tells_22 rfl ?_
  obtain ⟨h1, hf⟩ := ck_ex hf
  obtain ⟨x2, hx3, hf⟩ := st1_ex hf
  refine VP_getR (x := x2) fa_X15_33 h1 rfl rfl hx3 dX15_tells_23 ?_
  refine V_ifnonnull (r := x2) (tgt := 33) dX15_tells_26 (by decide) (fun hc4 => ?_) (fun hc4 => ?_)
  · have hf := if_f hf hc4
    refine V_aload_n dX15_tells_33 rfl ?_
    obtain ⟨x5, hx6, hf⟩ := st1_ex hf
    refine VP_getR (x := x5) fa_X15_33 h1 rfl rfl hx6 dX15_tells_34 ?_
    refine V_aload_n dX15_tells_37 rfl ?_
    obtain ⟨b7, rfl, hf⟩ := bd1_ex hf
    obtain ⟨x10, hc8, hf⟩ | ⟨r9, hc8, hf⟩ := (bdU_ex hf).symm
    · refine ps_X15_37 (mC_X19_of 200) (mC_X19_of_ok _ _ 200) (by decide) hc8 (by decide) rfl (Nat.le_of_ble_eq_true rfl) dX15_tells_38 ?_
      obtain ⟨h11, hf⟩ := ck_ex hf
      refine VO_t (VT_catch (pre := [(0, 21, 42, 43)]) (post := []) hH (by decide) (by decide) (by decide) (by decide) q1455 rfl (kIn1 h11) ?_)
      refine V_keep [false, false, true] rfl ?_
      exact mC_X15_tells_42_v w hE hH x10 hf
    refine ps_X15_37 (mC_X19_of 200) (mC_X19_of_ok _ _ 200) (by decide) hc8 (by decide) rfl (Nat.le_of_ble_eq_true rfl) dX15_tells_38 ?_
    refine VO_r (v := some (.long r9)) (st' := [.long r9]) rfl ?_
    cases some_ex hf
    exact V_lret hE dX15_tells_41
  · have hf := if_t hf hc4
    refine V_lconst dX15_tells_29 ckl_0 ?_
    refine V_goto (tgt := 41) dX15_tells_30 (by decide) ?_
    cases some_ex hf
    exact V_lret hE dX15_tells_41
set_option maxHeartbeats 4000000 in
theorem mC_X15_tells_ok (l : Launch) (D : DD) (w : AH) (a : Nat) (p0 : Nat) (r : Int64) (hf : mC_X15_tells a p0 w = some r) : MAW l D yX15_tells cX15_tells 3 (some (.long)) [(0, 21, 42, 43), (22, 41, 42, 43)] 403 [.ref a, .ref p0] w (.returned (some (.long r))) w := by
  refine MAW.intro (own := RX15) (nm := "tells") (ls := [some (.ref a), some (.ref p0), none]) (by decide) rfl rfl (Nat.le_of_ble_eq_true rfl) rfl (fun X hl hD hE hH => ?_)
  subst hl hD
  unfold mC_X15_tells at hf
  refine V_aload_n dX15_tells_0 rfl ?_
  obtain ⟨h1, hf⟩ := ck_ex hf
  obtain ⟨x2, hx3, hf⟩ := st1_ex hf
  refine VP_getR (x := x2) fa_X15_21 h1 rfl rfl hx3 dX15_tells_1 ?_
  refine V_ifnull (r := x2) (tgt := 22) dX15_tells_4 (by decide) (fun hc4 => ?_) (fun hc4 => ?_)
  · have hf := if_t hf hc4
    exact mC_X15_tells_22_v w hE hH a p0 hf
  · have hf := if_f hf hc4
    refine V_aload_n dX15_tells_7 rfl ?_
    obtain ⟨x5, hx6, hf⟩ := st1_ex hf
    refine VP_getR (x := x5) fa_X15_21 h1 rfl rfl hx6 dX15_tells_8 ?_
    refine V_aload_n dX15_tells_11 rfl ?_
    obtain ⟨b7, rfl, hf⟩ := bd1_ex hf
    obtain ⟨x10, hc8, hf⟩ | ⟨r9, hc8, hf⟩ := (bdU_ex hf).symm
    · refine ps_X15_25 (mC_X23_is 200) (mC_X24_is 200) (mC_X23_is_ok _ _ 200) (mC_X24_is_ok _ _ 200) (by decide) hc8 (by decide) rfl (Nat.le_of_ble_eq_true rfl) dX15_tells_12 ?_
      obtain ⟨h11, hf⟩ := ck_ex hf
      refine VO_t (VT_catch (pre := []) (post := [(22, 41, 42, 43)]) hH (by decide) (by decide) (by decide) (by decide) q1455 rfl (kIn1 h11) ?_)
      refine V_keep [false, false, true] rfl ?_
      exact mC_X15_tells_42_v w hE hH x10 hf
    refine ps_X15_25 (mC_X23_is 200) (mC_X24_is 200) (mC_X23_is_ok _ _ 200) (mC_X24_is_ok _ _ 200) (by decide) hc8 (by decide) rfl (Nat.le_of_ble_eq_true rfl) dX15_tells_12 ?_
    refine VO_r (v := some (.int r9)) (st' := [.int r9]) rfl ?_
    refine V_if_ne (tgt := 22) dX15_tells_15 (by decide) (fun hc12 => ?_) (fun hc12 => ?_)
    · have hf := if_f hf hc12
      exact mC_X15_tells_22_v w hE hH a p0 hf
    · have hf := if_t hf hc12
      refine V_ldc2 q1491 dX15_tells_18 ?_
      cases some_ex hf
      exact V_lret hE dX15_tells_21
set_option maxHeartbeats 4000000 in
theorem mC_X0_last_152_v {X : CX} {w0 : AH} {r : Int64} {w' : AH}  (hE : XE X w0 404 (some (.long)) "last" (.returned (some (.long r))) w') (hH : XH X []) (k54 : Nat → Int32 → Int32 → Int64 → Int32 → Nat → Int32 → AH → Option (Int64 × AH)) (hk54 : ∀ (v0 : Nat) (v1 : Int32) (v2 : Int32) (v4 : Int64) (v6 : Int32) (v7 : Nat) (v8 : Int32) (w : AH), k54 v0 v1 v2 v4 v6 v7 v8 w = some (r, w') → V X cX0_last RX0 11 404 w 54 [some (.ref v0), some (.int v1), some (.int v2), none, some (.long v4), none, some (.int v6), some (.ref v7), some (.int v8), none, none] []) (v0 : Nat) (v1 : Int32) (v2 : Int32) (v4 : Int64) (v6 : Int32) (v7 : Nat) (v8 : Int32) (w : AH) (hf : mC_X0_last_152 k54 v0 v1 v2 v4 v6 v7 v8 w = some (r, w')) : V X cX0_last RX0 11 404 w 152 [some (.ref v0), some (.int v1), some (.int v2), none, some (.long v4), none, some (.int v6), some (.ref v7), some (.int v8), none, none] [] := by
  unfold mC_X0_last_152 at hf
  refine V_inc (ls' := [some (.ref v0), some (.int v1), some (.int v2), none, some (.long v4), none, some (.int v6), some (.ref v7), some (.int (v8 + (1 : Int32))), none, none]) dX0_last_152 rfl ckc_1 (by decide) rfl ?_
  refine V_goto (tgt := 54) dX0_last_155 (by decide) ?_
  exact hk54 v0 v1 v2 v4 v6 v7 (v8 + (1 : Int32)) w hf
set_option maxHeartbeats 4000000 in
theorem mC_X0_last_54_v {X : CX} {w0 : AH} {r : Int64} {w' : AH}  (hE : XE X w0 404 (some (.long)) "last" (.returned (some (.long r))) w') (hH : XH X []) (k16 : Nat → Int32 → Int32 → Int64 → Int32 → AH → Option (Int64 × AH)) (hk16 : ∀ (v0 : Nat) (v1 : Int32) (v2 : Int32) (v4 : Int64) (v6 : Int32) (w : AH), k16 v0 v1 v2 v4 v6 w = some (r, w') → V X cX0_last RX0 11 404 w 16 [some (.ref v0), some (.int v1), some (.int v2), none, some (.long v4), none, some (.int v6), none, none, none, none] []) (k54 : Nat → Int32 → Int32 → Int64 → Int32 → Nat → Int32 → AH → Option (Int64 × AH)) (hk54 : ∀ (v0 : Nat) (v1 : Int32) (v2 : Int32) (v4 : Int64) (v6 : Int32) (v7 : Nat) (v8 : Int32) (w : AH), k54 v0 v1 v2 v4 v6 v7 v8 w = some (r, w') → V X cX0_last RX0 11 404 w 54 [some (.ref v0), some (.int v1), some (.int v2), none, some (.long v4), none, some (.int v6), some (.ref v7), some (.int v8), none, none] []) (v0 : Nat) (v1 : Int32) (v2 : Int32) (v4 : Int64) (v6 : Int32) (v7 : Nat) (v8 : Int32) (w : AH) (hf : mC_X0_last_54 k16 k54 v0 v1 v2 v4 v6 v7 v8 w = some (r, w')) : V X cX0_last RX0 11 404 w 54 [some (.ref v0), some (.int v1), some (.int v2), none, some (.long v4), none, some (.int v6), some (.ref v7), some (.int v8), none, none] [] := by
  unfold mC_X0_last_54 at hf
  refine V_iload dX0_last_54 rfl ?_
  refine V_aload dX0_last_56 rfl ?_
  obtain ⟨h1, hf⟩ := ck_ex hf
  obtain ⟨r3, hc2, hf⟩ := bd1_ex hf
  refine V_cV (av := []) (rest := [.int v8]) (st' := [.int r3, .int v8]) (mC_J2_size_ok _ _ _ _ _ hc2) vc_X0_148 (kIn1 h1) (by decide) rfl rfl (Nat.le_of_ble_eq_true rfl) dX0_last_58 rfl ?_
  refine V_icmp_ge (tgt := 158) dX0_last_61 (by decide) (fun hc4 => ?_) (fun hc4 => ?_)
  · have hf := if_t hf hc4
    refine V_inc (ls' := [some (.ref v0), some (.int v1), some (.int v2), none, some (.long v4), none, some (.int (v6 + (1 : Int32))), some (.ref v7), some (.int v8), none, none]) dX0_last_158 rfl ckc_1 (by decide) rfl ?_
    refine V_goto (tgt := 16) dX0_last_161 (by decide) ?_
    refine V_keep [true, true, true, true, true, true, true, false, false, true, true] rfl ?_
    exact hk16 v0 v1 v2 v4 (v6 + (1 : Int32)) w hf
  · have hf := if_f hf hc4
    refine V_aload_n dX0_last_64 rfl ?_
    obtain ⟨h5, hf⟩ := ck_ex hf
    obtain ⟨b6, hb7, hf⟩ := bd1_ex hf
    refine VP_getR (x := some b6) fa_X0_33 h5 rfl rfl hb7 dX0_last_65 ?_
    obtain ⟨h8, hf⟩ := ck_ex hf
    obtain ⟨b9, hb10, hf⟩ := bd1_ex hf
    refine VP_getR (x := some b9) fa_X0_320 h8 rfl rfl hb10 dX0_last_68 ?_
    refine V_bipush dX0_last_71 ckb_12 ?_
    refine V_iload dX0_last_73 rfl ?_
    refine V_imul dX0_last_75 ?_
    refine V_iload dX0_last_76 rfl ?_
    refine V_iadd dX0_last_78 ?_
    obtain ⟨h11, hf⟩ := ck_ex hf
    refine VE_zald h11 rfl dX0_last_79 ?_
    refine V_if_eq (tgt := 152) dX0_last_80 (by decide) (fun hc12 => ?_) (fun hc12 => ?_)
    · have hf := if_t hf hc12
      exact mC_X0_last_152_v hE hH k54 hk54 v0 v1 v2 v4 v6 v7 v8 w hf
    · have hf := if_f hf hc12
      refine V_aload dX0_last_83 rfl ?_
      refine V_iload dX0_last_85 rfl ?_
      obtain ⟨r14, hc13, hf⟩ := bd1_ex hf
      refine V_cV (av := [.int v8]) (rest := []) (st' := [.ref r14]) (mC_J2_get_ok _ _ _ _ _ _ hc13) vc_X0_232 (kIn1 h1) (by decide) rfl rfl (Nat.le_of_ble_eq_true rfl) dX0_last_87 rfl ?_
      obtain ⟨h15, hf⟩ := ck_ex hf
      refine VE_cast cc_X0_326 h15 dX0_last_90 ?_
      refine VP_getI fa_X0_328 h15 rfl dX0_last_93 ?_
      refine V_iload_n dX0_last_96 rfl ?_
      refine V_icmp_ne (tgt := 152) dX0_last_97 (by decide) (fun hc16 => ?_) (fun hc16 => ?_)
      · have hf := if_f hf hc16
        exact mC_X0_last_152_v hE hH k54 hk54 v0 v1 v2 v4 v6 v7 v8 w hf
      · have hf := if_t hf hc16
        refine V_aload dX0_last_100 rfl ?_
        refine V_iload dX0_last_102 rfl ?_
        obtain ⟨r18, hc17, hf⟩ := bd1_ex hf
        refine V_cV (av := [.int v8]) (rest := []) (st' := [.ref r18]) (mC_J2_get_ok _ _ _ _ _ _ hc17) vc_X0_232 (kIn1 h1) (by decide) rfl rfl (Nat.le_of_ble_eq_true rfl) dX0_last_104 rfl ?_
        obtain ⟨h19, hf⟩ := ck_ex hf
        refine VE_cast cc_X0_326 h19 dX0_last_107 ?_
        refine VP_getI fa_X0_330 h19 rfl dX0_last_110 ?_
        refine V_iload_n dX0_last_113 rfl ?_
        refine V_icmp_eq (tgt := 120) dX0_last_114 (by decide) (fun hc20 => ?_) (fun hc20 => ?_)
        · have hf := if_t hf hc20
          refine V_aload dX0_last_120 rfl ?_
          refine V_iload dX0_last_122 rfl ?_
          obtain ⟨r22, hc21, hf⟩ := bd1_ex hf
          refine V_cV (av := [.int v8]) (rest := []) (st' := [.ref r22]) (mC_J2_get_ok _ _ _ _ _ _ hc21) vc_X0_232 (kIn1 h1) (by decide) rfl rfl (Nat.le_of_ble_eq_true rfl) dX0_last_124 rfl ?_
          obtain ⟨h23, hf⟩ := ck_ex hf
          refine VE_cast cc_X0_326 h23 dX0_last_127 ?_
          refine V_aload_n dX0_last_130 rfl ?_
          obtain ⟨b24, hb25, hf⟩ := bd1_ex hf
          refine VP_getR (x := some b24) fa_X0_40 h5 rfl rfl hb25 dX0_last_131 ?_
          obtain ⟨r27, hc26, hf⟩ := bd1_ex hf
          refine V_xW (av := [.ref b24]) (rest := []) (mC_X15_tells_ok _ _ _ _ _ _ hc26) vx_X0_331 q1454 q164 (by decide) (kIn1 h23) (by decide) rfl rfl (Nat.le_of_ble_eq_true rfl) dX0_last_134 ?_
          refine VO_r (v := some (.long r27)) (st' := [.long r27]) rfl ?_
          refine V_lstore (ls' := [some (.ref v0), some (.int v1), some (.int v2), none, some (.long v4), none, some (.int v6), some (.ref v7), some (.int v8), some (.long r27), none]) dX0_last_137 (by decide) rfl ?_
          refine V_lload dX0_last_139 rfl ?_
          refine V_ldc2 q1449 dX0_last_141 ?_
          refine V_lif_eq (tgt := 152) dX0_last_144 dX0_last_145 (by decide) (fun hc28 => ?_) (fun hc28 => ?_)
          · have hf := if_t hf hc28
            refine V_keep [true, true, true, true, true, true, true, true, true, false, true] rfl ?_
            exact mC_X0_last_152_v hE hH k54 hk54 v0 v1 v2 v4 v6 v7 v8 w hf
          · have hf := if_f hf hc28
            refine V_lload dX0_last_148 rfl ?_
            refine V_lstore (ls' := [some (.ref v0), some (.int v1), some (.int v2), none, some (.long r27), none, some (.int v6), some (.ref v7), some (.int v8), some (.long r27), none]) dX0_last_150 (by decide) rfl ?_
            refine V_keep [true, true, true, true, true, true, true, true, true, false, true] rfl ?_
            exact mC_X0_last_152_v hE hH k54 hk54 v0 v1 v2 r27 v6 v7 v8 w hf
        · have hf := if_f hf hc20
          refine V_goto (tgt := 152) dX0_last_117 (by decide) ?_
          exact mC_X0_last_152_v hE hH k54 hk54 v0 v1 v2 v4 v6 v7 v8 w hf
set_option maxHeartbeats 4000000 in
theorem mC_X0_last_16_v {X : CX} {w0 : AH} {r : Int64} {w' : AH}  (hE : XE X w0 404 (some (.long)) "last" (.returned (some (.long r))) w') (hH : XH X []) (k16 : Nat → Int32 → Int32 → Int64 → Int32 → AH → Option (Int64 × AH)) (hk16 : ∀ (v0 : Nat) (v1 : Int32) (v2 : Int32) (v4 : Int64) (v6 : Int32) (w : AH), k16 v0 v1 v2 v4 v6 w = some (r, w') → V X cX0_last RX0 11 404 w 16 [some (.ref v0), some (.int v1), some (.int v2), none, some (.long v4), none, some (.int v6), none, none, none, none] []) (v0 : Nat) (v1 : Int32) (v2 : Int32) (v4 : Int64) (v6 : Int32) (w : AH) (hf : mC_X0_last_16 k16 v0 v1 v2 v4 v6 w = some (r, w')) : V X cX0_last RX0 11 404 w 16 [some (.ref v0), some (.int v1), some (.int v2), none, some (.long v4), none, some (.int v6), none, none, none, none] [] := by
  unfold mC_X0_last_16 at hf
  refine V_iload dX0_last_16 rfl ?_
  refine V_aload_n dX0_last_18 rfl ?_
  obtain ⟨h1, hf⟩ := ck_ex hf
  obtain ⟨b2, hb3, hf⟩ := bd1_ex hf
  refine VP_getR (x := some b2) fa_X0_10 h1 rfl rfl hb3 dX0_last_19 ?_
  obtain ⟨h4, hf⟩ := ck_ex hf
  obtain ⟨b5, hb6, hf⟩ := bd1_ex hf
  refine VP_getR (x := some b5) fa_X0_292 h4 rfl rfl hb6 dX0_last_22 ?_
  obtain ⟨h7, hf⟩ := ck_ex hf
  obtain ⟨r9, hc8, hf⟩ := bd1_ex hf
  refine V_cV (av := []) (rest := [.int v6]) (st' := [.int r9, .int v6]) (mC_J2_size_ok _ _ _ _ _ hc8) vc_X0_148 (kIn1 h7) (by decide) rfl rfl (Nat.le_of_ble_eq_true rfl) dX0_last_25 rfl ?_
  refine V_icmp_ge (tgt := 164) dX0_last_28 (by decide) (fun hc10 => ?_) (fun hc10 => ?_)
  · have hf := if_t hf hc10
    refine V_lload dX0_last_164 rfl ?_
    cases some_ex hf
    exact V_lret hE dX0_last_166
  · have hf := if_f hf hc10
    refine V_aload_n dX0_last_31 rfl ?_
    refine VP_getR (x := some b2) fa_X0_10 h1 rfl rfl hb3 dX0_last_32 ?_
    refine VP_getR (x := some b5) fa_X0_292 h4 rfl rfl hb6 dX0_last_35 ?_
    refine V_iload dX0_last_38 rfl ?_
    obtain ⟨r12, hc11, hf⟩ := bd1_ex hf
    refine V_cV (av := [.int v6]) (rest := []) (st' := [.ref r12]) (mC_J2_get_ok _ _ _ _ _ _ hc11) vc_X0_232 (kIn1 h7) (by decide) rfl rfl (Nat.le_of_ble_eq_true rfl) dX0_last_40 rfl ?_
    obtain ⟨h13, hf⟩ := ck_ex hf
    refine VE_cast cc_X0_306 h13 dX0_last_43 ?_
    obtain ⟨b14, hb15, hf⟩ := bd1_ex hf
    refine VP_getR (x := some b14) fa_X0_314 h13 rfl rfl hb15 dX0_last_46 ?_
    refine V_astore (ls' := [some (.ref v0), some (.int v1), some (.int v2), none, some (.long v4), none, some (.int v6), some (.ref b14), none, none, none]) dX0_last_49 (by decide) rfl ?_
    refine V_iconst dX0_last_51 ckc_0 ?_
    refine V_istore (ls' := [some (.ref v0), some (.int v1), some (.int v2), none, some (.long v4), none, some (.int v6), some (.ref b14), some (.int (0 : Int32)), none, none]) dX0_last_52 (by decide) rfl ?_
    exact lq8_ex (P := fun v0 v1 v2 v4 v6 v7 v8 w => V X cX0_last RX0 11 404 w 54 [some (.ref v0), some (.int v1), some (.int v2), none, some (.long v4), none, some (.int v6), some (.ref v7), some (.int v8), none, none] []) (fun k hk v0 v1 v2 v4 v6 v7 v8 w hf => mC_X0_last_54_v hE hH k16 hk16 k hk v0 v1 v2 v4 v6 v7 v8 w hf) LF v0 v1 v2 v4 v6 b14 (0 : Int32) w hf
set_option maxHeartbeats 4000000 in
theorem mC_X0_last_ok (l : Launch) (D : DD) (w : AH) (a : Nat) (p0 : Int32) (p1 : Int32) (p2 : Int32) (r : Int64) (w' : AH) (hf : mC_X0_last a p0 p1 p2 w = some (r, w')) : MA l D yX0_last cX0_last 11 (some (.long)) 404 [.ref a, .int p0, .int p1, .int p2] w (.returned (some (.long r))) w' := by
  refine MA.introH (own := RX0) (nm := "last") (ls := [some (.ref a), some (.int p0), some (.int p1), some (.int p2), none, none, none, none, none, none, none]) (by decide) rfl rfl (Nat.le_of_ble_eq_true rfl) rfl (fun X hl hD hE hH => ?_)
  subst hl hD
  unfold mC_X0_last at hf
  refine V_aload_n dX0_last_0 rfl ?_
  obtain ⟨h1, hf⟩ := ck_ex hf
  obtain ⟨b2, hb3, hf⟩ := bd1_ex hf
  refine VP_getR (x := some b2) fa_X0_33 h1 rfl rfl hb3 dX0_last_1 ?_
  refine V_iload_n dX0_last_4 rfl ?_
  obtain ⟨h4, hf⟩ := ck_ex hf
  obtain ⟨w6, hc5, hf⟩ := bd1_ex hf
  refine V_cV (av := [.int p2]) (rest := []) (st' := []) (mC_X2_looks_ok _ _ _ _ _ _ hc5) vc_X0_317 (kIn1 h4) (by decide) rfl rfl (Nat.le_of_ble_eq_true rfl) dX0_last_5 rfl ?_
  refine V_ldc2 q1449 dX0_last_8 ?_
  refine V_lstore (ls' := [some (.ref a), some (.int p0), some (.int p1), some (.int p2), some (.long (-4000000000 : Int64)), none, none, none, none, none, none]) dX0_last_11 (by decide) rfl ?_
  refine V_iconst dX0_last_13 ckc_0 ?_
  refine V_istore (ls' := [some (.ref a), some (.int p0), some (.int p1), some (.int p2), some (.long (-4000000000 : Int64)), none, some (.int (0 : Int32)), none, none, none, none]) dX0_last_14 (by decide) rfl ?_
  refine V_keep [true, true, true, false, true, true, true, true, true, true, true] rfl ?_
  exact lq6_ex (P := fun v0 v1 v2 v4 v6 w => V X cX0_last RX0 11 404 w 16 [some (.ref v0), some (.int v1), some (.int v2), none, some (.long v4), none, some (.int v6), none, none, none, none] []) (fun k hk v0 v1 v2 v4 v6 w hf => mC_X0_last_16_v hE hH k hk v0 v1 v2 v4 v6 w hf) LF a p0 p1 (-4000000000 : Int64) (0 : Int32) w6 hf
set_option maxHeartbeats 4000000 in
theorem ps_X5_100 {X : CX} {cc : ByteArray} {nL d pc : Nat} {w : AH} {ls : List (Option Value)} {st rest : List Value} {b : Nat} {r : Int32} (hc : dKind b w = some r) (hdd : 2 + 1 ≤ d) (hst : st = .ref b :: rest) (hcat : (rest.map fun v => v.category).sum ≤ 8) (hd : decode cc pc = .ok (.invokevirtual 100, 3)) (kk : V X cc RX5 nL d w (pc + 3) ls (.int r :: rest)) : V X cc RX5 nL d w pc ls st := by
  unfold dKind at hc
  by_cases hk : (hkd w b).1 = 19
  · replace hc := if_t hc hk
    exact V_xU (av := []) (mC_X8_kind_ok _ _ _ _ _ hc) uc_X5_100_9 q960 q145 (by decide) hk (by omega) rfl hst hcat hd kk
  replace hc := if_f hc hk
  clear hk
  by_cases hk : (hkd w b).1 = 20
  · replace hc := if_t hc hk
    exact V_xU (av := []) (mC_X9_kind_ok _ _ _ _ _ hc) uc_X5_100_10 q958 q150 (by decide) hk (by omega) rfl hst hcat hd kk
  replace hc := if_f hc hk
  clear hk
  by_cases hk : (hkd w b).1 = 21
  · replace hc := if_t hc hk
    exact V_xU (av := []) (mC_X10_kind_ok _ _ _ _ _ hc) uc_X5_100_11 q951 q151 (by decide) hk (by omega) rfl hst hcat hd kk
  replace hc := if_f hc hk
  clear hk
  by_cases hk : (hkd w b).1 = 22
  · replace hc := if_t hc hk
    exact V_xU (av := []) (mC_X11_kind_ok _ _ _ _ _ hc) uc_X5_100_12 q954 q152 (by decide) hk (by omega) rfl hst hcat hd kk
  replace hc := if_f hc hk
  clear hk
  cases hc
set_option maxHeartbeats 4000000 in
theorem mC_X5_isOn_248_v {X : CX} {w0 : AH} {r : Int32} {w' : AH}  (hE : XE X w0 405 (some (.boolean)) "isOn" (.returned (some (.int r))) w') (hH : XH X []) (v0 : Nat) (v1 : Int32) (v2 : Int32) (v3 : Int32) (t0 : Int32) (t1 : Int32) (t2 : Nat) (w : AH) (hf : mC_X5_isOn_248 v0 v1 v2 v3 t0 t1 t2 w = some (r, w')) : V X cX5_isOn RX5 5 405 w 248 [some (.ref v0), some (.int v1), some (.int v2), some (.int v3), none] [.int t0, .int t1, .ref t2] := by
  unfold mC_X5_isOn_248 at hf
  obtain ⟨h1, hf⟩ := ck_ex hf
  obtain ⟨h2, hf⟩ := ck_ex hf
  obtain ⟨w3, hs4, hf⟩ := st1_ex hf
  refine VE_zast h2 h1 rfl hs4 dX5_isOn_248 ?_
  refine V_aload_n dX5_isOn_249 rfl ?_
  obtain ⟨h5, hf⟩ := ck_ex hf
  obtain ⟨b6, hb7, hf⟩ := bd1_ex hf
  refine VP_getR (x := some b6) fa_X5_3 h5 rfl rfl hb7 dX5_isOn_250 ?_
  obtain ⟨h8, hf⟩ := ck_ex hf
  obtain ⟨b9, hb10, hf⟩ := bd1_ex hf
  refine VP_getR (x := some b9) fa_X5_78 h8 rfl rfl hb10 dX5_isOn_253 ?_
  obtain ⟨h11, hf⟩ := ck_ex hf
  obtain ⟨b12, hb13, hf⟩ := bd1_ex hf
  refine VP_getR (x := some b12) fa_X5_97 h11 rfl rfl hb13 dX5_isOn_256 ?_
  refine V_iconst dX5_isOn_259 ckc_3 ?_
  refine V_aload_n dX5_isOn_260 rfl ?_
  refine VP_getR (x := some b6) fa_X5_3 h5 rfl rfl hb7 dX5_isOn_261 ?_
  refine V_iload_n dX5_isOn_264 rfl ?_
  refine V_iload_n dX5_isOn_265 rfl ?_
  refine V_iload_n dX5_isOn_266 rfl ?_
  obtain ⟨r15, hc14, hf⟩ := bd1_ex hf
  refine V_nV (av := [.int v1, .int v2, .int v3]) (rest := [.int (3 : Int32), .ref b12]) (st' := [.int r15, .int (3 : Int32), .ref b12]) (mC_X0_hasMoved_ok _ _ _ _ _ _ _ _ hc14) nv_X5_103 (kIn1 h8) (by decide) rfl rfl (Nat.le_of_ble_eq_true rfl) dX5_isOn_267 rfl ?_
  obtain ⟨h16, hf⟩ := ck_ex hf
  obtain ⟨h17, hf⟩ := ck_ex hf
  obtain ⟨w18, hs19, hf⟩ := st1_ex hf
  refine VE_zast h17 h16 (by decide) hs19 dX5_isOn_270 ?_
  refine V_aload_n dX5_isOn_271 rfl ?_
  obtain ⟨h20, hf⟩ := ck_ex hf
  obtain ⟨b21, hb22, hf⟩ := bd1_ex hf
  refine VP_getR (x := some b21) fa_X5_3 h20 rfl rfl hb22 dX5_isOn_272 ?_
  refine V_iconst dX5_isOn_275 ckc_1 ?_
  refine V_iconst dX5_isOn_276 ckc_0 ?_
  refine V_iload_n dX5_isOn_277 rfl ?_
  obtain ⟨h23, hf⟩ := ck_ex hf
  obtain ⟨r25, w26, hc24, hf⟩ := bd2_ex hf
  refine V_nV (av := [.int (1 : Int32), .int (0 : Int32), .int v2]) (rest := []) (st' := [.long r25]) (mC_X0_last_ok _ _ _ _ _ _ _ _ _ hc24) nv_X5_106 (kIn1 h23) (by decide) rfl rfl (Nat.le_of_ble_eq_true rfl) dX5_isOn_278 rfl ?_
  refine V_ldc2 q1493 dX5_isOn_281 ?_
  refine V_lif_eq (tgt := 309) dX5_isOn_284 dX5_isOn_285 (by decide) (fun hc27 => ?_) (fun hc27 => ?_)
  · have hf := if_t hf hc27
    refine V_iconst dX5_isOn_309 ckc_0 ?_
    cases some_ex hf
    exact V_zret hE (by decide) dX5_isOn_310
  · have hf := if_f hf hc27
    refine V_aload_n dX5_isOn_288 rfl ?_
    obtain ⟨h28, hf⟩ := ck_ex hf
    obtain ⟨b29, hb30, hf⟩ := bd1_ex hf
    refine VP_getR (x := some b29) fa_X5_3 h28 rfl rfl hb30 dX5_isOn_289 ?_
    refine V_iconst dX5_isOn_292 ckc_2 ?_
    refine V_iconst dX5_isOn_293 ckc_0 ?_
    refine V_iload_n dX5_isOn_294 rfl ?_
    obtain ⟨h31, hf⟩ := ck_ex hf
    obtain ⟨r33, w34, hc32, hf⟩ := bd2_ex hf
    refine V_nV (av := [.int (2 : Int32), .int (0 : Int32), .int v2]) (rest := []) (st' := [.long r33]) (mC_X0_last_ok _ _ _ _ _ _ _ _ _ hc32) nv_X5_106 (kIn1 h31) (by decide) rfl rfl (Nat.le_of_ble_eq_true rfl) dX5_isOn_295 rfl ?_
    refine V_ldc2 q1493 dX5_isOn_298 ?_
    refine V_lif_ne (tgt := 309) dX5_isOn_301 dX5_isOn_302 (by decide) (fun hc35 => ?_) (fun hc35 => ?_)
    · have hf := if_f hf hc35
      refine V_iconst dX5_isOn_309 ckc_0 ?_
      cases some_ex hf
      exact V_zret hE (by decide) dX5_isOn_310
    · have hf := if_t hf hc35
      refine V_iconst dX5_isOn_305 ckc_1 ?_
      refine V_goto (tgt := 310) dX5_isOn_306 (by decide) ?_
      cases some_ex hf
      exact V_zret hE (by decide) dX5_isOn_310
set_option maxHeartbeats 4000000 in
theorem mC_X5_isOn_222_v {X : CX} {w0 : AH} {r : Int32} {w' : AH}  (hE : XE X w0 405 (some (.boolean)) "isOn" (.returned (some (.int r))) w') (hH : XH X []) (v0 : Nat) (v1 : Int32) (v2 : Int32) (v3 : Int32) (v4 : Nat) (t0 : Int32) (t1 : Int32) (t2 : Nat) (w : AH) (hf : mC_X5_isOn_222 v0 v1 v2 v3 v4 t0 t1 t2 w = some (r, w')) : V X cX5_isOn RX5 5 405 w 222 [some (.ref v0), some (.int v1), some (.int v2), some (.int v3), some (.ref v4)] [.int t0, .int t1, .ref t2] := by
  unfold mC_X5_isOn_222 at hf
  obtain ⟨h1, hf⟩ := ck_ex hf
  obtain ⟨h2, hf⟩ := ck_ex hf
  obtain ⟨w3, hs4, hf⟩ := st1_ex hf
  refine VE_zast h2 h1 rfl hs4 dX5_isOn_222 ?_
  refine V_aload_n dX5_isOn_223 rfl ?_
  obtain ⟨h5, hf⟩ := ck_ex hf
  obtain ⟨b6, hb7, hf⟩ := bd1_ex hf
  refine VP_getR (x := some b6) fa_X5_3 h5 rfl rfl hb7 dX5_isOn_224 ?_
  obtain ⟨h8, hf⟩ := ck_ex hf
  obtain ⟨b9, hb10, hf⟩ := bd1_ex hf
  refine VP_getR (x := some b9) fa_X5_78 h8 rfl rfl hb10 dX5_isOn_227 ?_
  obtain ⟨h11, hf⟩ := ck_ex hf
  obtain ⟨b12, hb13, hf⟩ := bd1_ex hf
  refine VP_getR (x := some b12) fa_X5_97 h11 rfl rfl hb13 dX5_isOn_230 ?_
  refine V_iconst dX5_isOn_233 ckc_2 ?_
  refine V_aload dX5_isOn_234 rfl ?_
  obtain ⟨r15, hc14, hf⟩ := bd1_ex hf
  refine ps_X5_100 hc14 (by decide) rfl (Nat.le_of_ble_eq_true rfl) dX5_isOn_236 ?_
  refine V_iconst dX5_isOn_239 ckc_3 ?_
  refine V_icmp_ne (tgt := 247) dX5_isOn_240 (by decide) (fun hc16 => ?_) (fun hc16 => ?_)
  · have hf := if_f hf hc16
    refine V_iconst dX5_isOn_247 ckc_0 ?_
    refine V_keep [true, true, true, true, false] rfl ?_
    exact mC_X5_isOn_248_v hE hH v0 v1 v2 v3 (0 : Int32) (2 : Int32) b12 w3 hf
  · have hf := if_t hf hc16
    refine V_iconst dX5_isOn_243 ckc_1 ?_
    refine V_goto (tgt := 248) dX5_isOn_244 (by decide) ?_
    refine V_keep [true, true, true, true, false] rfl ?_
    exact mC_X5_isOn_248_v hE hH v0 v1 v2 v3 (1 : Int32) (2 : Int32) b12 w3 hf
set_option maxHeartbeats 4000000 in
theorem mC_X5_isOn_196_v {X : CX} {w0 : AH} {r : Int32} {w' : AH}  (hE : XE X w0 405 (some (.boolean)) "isOn" (.returned (some (.int r))) w') (hH : XH X []) (v0 : Nat) (v1 : Int32) (v2 : Int32) (v3 : Int32) (v4 : Nat) (t0 : Int32) (t1 : Int32) (t2 : Nat) (w : AH) (hf : mC_X5_isOn_196 v0 v1 v2 v3 v4 t0 t1 t2 w = some (r, w')) : V X cX5_isOn RX5 5 405 w 196 [some (.ref v0), some (.int v1), some (.int v2), some (.int v3), some (.ref v4)] [.int t0, .int t1, .ref t2] := by
  unfold mC_X5_isOn_196 at hf
  obtain ⟨h1, hf⟩ := ck_ex hf
  obtain ⟨h2, hf⟩ := ck_ex hf
  obtain ⟨w3, hs4, hf⟩ := st1_ex hf
  refine VE_zast h2 h1 rfl hs4 dX5_isOn_196 ?_
  refine V_aload_n dX5_isOn_197 rfl ?_
  obtain ⟨h5, hf⟩ := ck_ex hf
  obtain ⟨b6, hb7, hf⟩ := bd1_ex hf
  refine VP_getR (x := some b6) fa_X5_3 h5 rfl rfl hb7 dX5_isOn_198 ?_
  obtain ⟨h8, hf⟩ := ck_ex hf
  obtain ⟨b9, hb10, hf⟩ := bd1_ex hf
  refine VP_getR (x := some b9) fa_X5_78 h8 rfl rfl hb10 dX5_isOn_201 ?_
  obtain ⟨h11, hf⟩ := ck_ex hf
  obtain ⟨b12, hb13, hf⟩ := bd1_ex hf
  refine VP_getR (x := some b12) fa_X5_97 h11 rfl rfl hb13 dX5_isOn_204 ?_
  refine V_iconst dX5_isOn_207 ckc_1 ?_
  refine V_aload dX5_isOn_208 rfl ?_
  obtain ⟨r15, hc14, hf⟩ := bd1_ex hf
  refine ps_X5_100 hc14 (by decide) rfl (Nat.le_of_ble_eq_true rfl) dX5_isOn_210 ?_
  refine V_iconst dX5_isOn_213 ckc_2 ?_
  refine V_icmp_ne (tgt := 221) dX5_isOn_214 (by decide) (fun hc16 => ?_) (fun hc16 => ?_)
  · have hf := if_f hf hc16
    refine V_iconst dX5_isOn_221 ckc_0 ?_
    exact mC_X5_isOn_222_v hE hH v0 v1 v2 v3 v4 (0 : Int32) (1 : Int32) b12 w3 hf
  · have hf := if_t hf hc16
    refine V_iconst dX5_isOn_217 ckc_1 ?_
    refine V_goto (tgt := 222) dX5_isOn_218 (by decide) ?_
    exact mC_X5_isOn_222_v hE hH v0 v1 v2 v3 v4 (1 : Int32) (1 : Int32) b12 w3 hf
set_option maxHeartbeats 4000000 in
theorem mC_X5_isOn_78_v {X : CX} {w0 : AH} {r : Int32} {w' : AH}  (hE : XE X w0 405 (some (.boolean)) "isOn" (.returned (some (.int r))) w') (hH : XH X []) (v0 : Nat) (v1 : Int32) (v2 : Int32) (v3 : Int32) (v4 : Nat) (w : AH) (hf : mC_X5_isOn_78 v0 v1 v2 v3 v4 w = some (r, w')) : V X cX5_isOn RX5 5 405 w 78 [some (.ref v0), some (.int v1), some (.int v2), some (.int v3), some (.ref v4)] [] := by
  unfold mC_X5_isOn_78 at hf
  refine V_aload_n dX5_isOn_78 rfl ?_
  obtain ⟨h1, hf⟩ := ck_ex hf
  obtain ⟨b2, hb3, hf⟩ := bd1_ex hf
  refine VP_getR (x := some b2) fa_X5_3 h1 rfl rfl hb3 dX5_isOn_79 ?_
  refine V_iload_n dX5_isOn_82 rfl ?_
  obtain ⟨h4, hf⟩ := ck_ex hf
  obtain ⟨w6, hc5, hf⟩ := bd1_ex hf
  refine V_nV (av := [.int v2]) (rest := []) (st' := []) (mC_X0_asks_ok _ _ _ _ _ _ hc5) nv_X5_74 (kIn1 h4) (by decide) rfl rfl (Nat.le_of_ble_eq_true rfl) dX5_isOn_83 rfl ?_
  refine V_aload_n dX5_isOn_86 rfl ?_
  obtain ⟨h7, hf⟩ := ck_ex hf
  obtain ⟨b8, hb9, hf⟩ := bd1_ex hf
  refine VP_getR (x := some b8) fa_X5_3 h7 rfl rfl hb9 dX5_isOn_87 ?_
  obtain ⟨h10, hf⟩ := ck_ex hf
  obtain ⟨b11, hb12, hf⟩ := bd1_ex hf
  refine VP_getR (x := some b11) fa_X5_78 h10 rfl rfl hb12 dX5_isOn_90 ?_
  obtain ⟨h13, hf⟩ := ck_ex hf
  obtain ⟨b14, hb15, hf⟩ := bd1_ex hf
  refine VP_getR (x := some b14) fa_X5_82 h13 rfl rfl hb15 dX5_isOn_93 ?_
  refine V_iconst dX5_isOn_96 ckc_0 ?_
  refine V_aload dX5_isOn_97 rfl ?_
  obtain ⟨h16, hf⟩ := ck_ex hf
  refine VP_getI fa_X5_88 h16 rfl dX5_isOn_99 ?_
  refine V_i2l dX5_isOn_102 ?_
  obtain ⟨h17, hf⟩ := ck_ex hf
  obtain ⟨w18, hs19, hf⟩ := st1_ex hf
  refine VE_last h17 (by decide) hs19 dX5_isOn_103 ?_
  refine V_aload_n dX5_isOn_104 rfl ?_
  obtain ⟨h20, hf⟩ := ck_ex hf
  obtain ⟨b21, hb22, hf⟩ := bd1_ex hf
  refine VP_getR (x := some b21) fa_X5_3 h20 rfl rfl hb22 dX5_isOn_105 ?_
  obtain ⟨h23, hf⟩ := ck_ex hf
  obtain ⟨b24, hb25, hf⟩ := bd1_ex hf
  refine VP_getR (x := some b24) fa_X5_78 h23 rfl rfl hb25 dX5_isOn_108 ?_
  obtain ⟨h26, hf⟩ := ck_ex hf
  obtain ⟨b27, hb28, hf⟩ := bd1_ex hf
  refine VP_getR (x := some b27) fa_X5_82 h26 rfl rfl hb28 dX5_isOn_111 ?_
  refine V_iconst dX5_isOn_114 ckc_1 ?_
  refine V_aload dX5_isOn_115 rfl ?_
  obtain ⟨h29, hf⟩ := ck_ex hf
  refine VP_getI fa_X5_91 h29 rfl dX5_isOn_117 ?_
  refine V_i2l dX5_isOn_120 ?_
  obtain ⟨h30, hf⟩ := ck_ex hf
  obtain ⟨w31, hs32, hf⟩ := st1_ex hf
  refine VE_last h30 (by decide) hs32 dX5_isOn_121 ?_
  refine V_aload_n dX5_isOn_122 rfl ?_
  obtain ⟨h33, hf⟩ := ck_ex hf
  obtain ⟨b34, hb35, hf⟩ := bd1_ex hf
  refine VP_getR (x := some b34) fa_X5_3 h33 rfl rfl hb35 dX5_isOn_123 ?_
  obtain ⟨h36, hf⟩ := ck_ex hf
  obtain ⟨b37, hb38, hf⟩ := bd1_ex hf
  refine VP_getR (x := some b37) fa_X5_78 h36 rfl rfl hb38 dX5_isOn_126 ?_
  obtain ⟨h39, hf⟩ := ck_ex hf
  obtain ⟨b40, hb41, hf⟩ := bd1_ex hf
  refine VP_getR (x := some b40) fa_X5_82 h39 rfl rfl hb41 dX5_isOn_129 ?_
  refine V_iconst dX5_isOn_132 ckc_2 ?_
  refine V_aload_n dX5_isOn_133 rfl ?_
  obtain ⟨b42, hb43, hf⟩ := bd1_ex hf
  refine VP_getR (x := some b42) fa_X5_19 h33 rfl rfl hb43 dX5_isOn_134 ?_
  refine V_iload_n dX5_isOn_137 rfl ?_
  obtain ⟨h44, hf⟩ := ck_ex hf
  refine VE_iald h44 rfl dX5_isOn_138 ?_
  refine V_i2l dX5_isOn_139 ?_
  obtain ⟨h45, hf⟩ := ck_ex hf
  obtain ⟨w46, hs47, hf⟩ := st1_ex hf
  refine VE_last h45 (by decide) hs47 dX5_isOn_140 ?_
  refine V_aload_n dX5_isOn_141 rfl ?_
  obtain ⟨h48, hf⟩ := ck_ex hf
  obtain ⟨b49, hb50, hf⟩ := bd1_ex hf
  refine VP_getR (x := some b49) fa_X5_3 h48 rfl rfl hb50 dX5_isOn_142 ?_
  obtain ⟨h51, hf⟩ := ck_ex hf
  obtain ⟨b52, hb53, hf⟩ := bd1_ex hf
  refine VP_getR (x := some b52) fa_X5_78 h51 rfl rfl hb53 dX5_isOn_145 ?_
  obtain ⟨h54, hf⟩ := ck_ex hf
  obtain ⟨b55, hb56, hf⟩ := bd1_ex hf
  refine VP_getR (x := some b55) fa_X5_82 h54 rfl rfl hb56 dX5_isOn_148 ?_
  refine V_iconst dX5_isOn_151 ckc_3 ?_
  refine V_aload_n dX5_isOn_152 rfl ?_
  refine VP_getR (x := some b49) fa_X5_3 h48 rfl rfl hb50 dX5_isOn_153 ?_
  obtain ⟨b57, hb58, hf⟩ := bd1_ex hf
  refine VP_getR (x := some b57) fa_X5_37 h51 rfl rfl hb58 dX5_isOn_156 ?_
  obtain ⟨h59, hf⟩ := ck_ex hf
  obtain ⟨b60, hb61, hf⟩ := bd1_ex hf
  refine VP_getR (x := some b60) fa_X5_94 h59 rfl rfl hb61 dX5_isOn_159 ?_
  refine V_aload_n dX5_isOn_162 rfl ?_
  obtain ⟨b62, hb63, hf⟩ := bd1_ex hf
  refine VP_getR (x := some b62) fa_X5_19 h48 rfl rfl hb63 dX5_isOn_163 ?_
  refine V_iload_n dX5_isOn_166 rfl ?_
  obtain ⟨h64, hf⟩ := ck_ex hf
  refine VE_iald h64 rfl dX5_isOn_167 ?_
  obtain ⟨h65, hf⟩ := ck_ex hf
  refine VE_iald h65 rfl dX5_isOn_168 ?_
  refine V_i2l dX5_isOn_169 ?_
  obtain ⟨h66, hf⟩ := ck_ex hf
  obtain ⟨w67, hs68, hf⟩ := st1_ex hf
  refine VE_last h66 (by decide) hs68 dX5_isOn_170 ?_
  refine V_aload_n dX5_isOn_171 rfl ?_
  obtain ⟨h69, hf⟩ := ck_ex hf
  obtain ⟨b70, hb71, hf⟩ := bd1_ex hf
  refine VP_getR (x := some b70) fa_X5_3 h69 rfl rfl hb71 dX5_isOn_172 ?_
  obtain ⟨h72, hf⟩ := ck_ex hf
  obtain ⟨b73, hb74, hf⟩ := bd1_ex hf
  refine VP_getR (x := some b73) fa_X5_78 h72 rfl rfl hb74 dX5_isOn_175 ?_
  obtain ⟨h75, hf⟩ := ck_ex hf
  obtain ⟨b76, hb77, hf⟩ := bd1_ex hf
  refine VP_getR (x := some b76) fa_X5_97 h75 rfl rfl hb77 dX5_isOn_178 ?_
  refine V_iconst dX5_isOn_181 ckc_0 ?_
  refine V_aload dX5_isOn_182 rfl ?_
  obtain ⟨r79, hc78, hf⟩ := bd1_ex hf
  refine ps_X5_100 hc78 (by decide) rfl (Nat.le_of_ble_eq_true rfl) dX5_isOn_184 ?_
  refine V_iconst dX5_isOn_187 ckc_1 ?_
  refine V_icmp_ne (tgt := 195) dX5_isOn_188 (by decide) (fun hc80 => ?_) (fun hc80 => ?_)
  · have hf := if_f hf hc80
    refine V_iconst dX5_isOn_195 ckc_0 ?_
    exact mC_X5_isOn_196_v hE hH v0 v1 v2 v3 v4 (0 : Int32) (0 : Int32) b76 w67 hf
  · have hf := if_t hf hc80
    refine V_iconst dX5_isOn_191 ckc_1 ?_
    refine V_goto (tgt := 196) dX5_isOn_192 (by decide) ?_
    exact mC_X5_isOn_196_v hE hH v0 v1 v2 v3 v4 (1 : Int32) (0 : Int32) b76 w67 hf
set_option maxHeartbeats 4000000 in
theorem mC_X5_isOn_ok (l : Launch) (D : DD) (w : AH) (a : Nat) (p0 : Int32) (p1 : Int32) (p2 : Int32) (r : Int32) (w' : AH) (hf : mC_X5_isOn a p0 p1 p2 w = some (r, w')) : MA l D yX5_isOn cX5_isOn 5 (some (.boolean)) 405 [.ref a, .int p0, .int p1, .int p2] w (.returned (some (.int r))) w' := by
  refine MA.introH (own := RX5) (nm := "isOn") (ls := [some (.ref a), some (.int p0), some (.int p1), some (.int p2), none]) (by decide) rfl rfl (Nat.le_of_ble_eq_true rfl) rfl (fun X hl hD hE hH => ?_)
  subst hl hD
  unfold mC_X5_isOn at hf
  refine V_aload_n dX5_isOn_0 rfl ?_
  obtain ⟨h1, hf⟩ := ck_ex hf
  obtain ⟨b2, hb3, hf⟩ := bd1_ex hf
  refine VP_getR (x := some b2) fa_X5_3 h1 rfl rfl hb3 dX5_isOn_1 ?_
  obtain ⟨h4, hf⟩ := ck_ex hf
  obtain ⟨b5, hb6, hf⟩ := bd1_ex hf
  refine VP_getR (x := some b5) fa_X5_37 h4 rfl rfl hb6 dX5_isOn_4 ?_
  obtain ⟨h7, hf⟩ := ck_ex hf
  obtain ⟨b8, hb9, hf⟩ := bd1_ex hf
  refine VP_getR (x := some b8) fa_X5_41 h7 rfl rfl hb9 dX5_isOn_7 ?_
  refine V_iload_n dX5_isOn_10 rfl ?_
  obtain ⟨h10, hf⟩ := ck_ex hf
  obtain ⟨r12, hc11, hf⟩ := bd1_ex hf
  refine V_cV (av := [.int p0]) (rest := []) (st' := [.ref r12]) (mC_J2_get_ok _ _ _ _ _ _ hc11) vc_X5_61 (kIn1 h10) (by decide) rfl rfl (Nat.le_of_ble_eq_true rfl) dX5_isOn_11 rfl ?_
  obtain ⟨h13, hf⟩ := ck_ex hf
  refine VE_cast cc_X5_65 h13 dX5_isOn_14 ?_
  refine V_astore (ls' := [some (.ref a), some (.int p0), some (.int p1), some (.int p2), some (.ref r12)]) dX5_isOn_17 (by decide) rfl ?_
  refine V_aload dX5_isOn_19 rfl ?_
  refine VP_getI fa_X5_67 h13 rfl dX5_isOn_21 ?_
  refine V_iload_n dX5_isOn_24 rfl ?_
  refine V_icmp_gt (tgt := 76) dX5_isOn_25 (by decide) (fun hc14 => ?_) (fun hc14 => ?_)
  · have hf := if_t hf hc14
    refine V_iconst dX5_isOn_76 ckc_0 ?_
    cases some_ex hf
    exact V_zret hE (by decide) dX5_isOn_77
  · have hf := if_f hf hc14
    refine V_aload_n dX5_isOn_28 rfl ?_
    refine VP_getR (x := some b2) fa_X5_3 h1 rfl rfl hb3 dX5_isOn_29 ?_
    refine VP_getR (x := some b5) fa_X5_37 h4 rfl rfl hb6 dX5_isOn_32 ?_
    obtain ⟨b15, hb16, hf⟩ := bd1_ex hf
    refine VP_getR (x := some b15) fa_X5_68 h7 rfl rfl hb16 dX5_isOn_35 ?_
    refine V_iload_n dX5_isOn_38 rfl ?_
    obtain ⟨h17, hf⟩ := ck_ex hf
    refine VE_iald h17 rfl dX5_isOn_39 ?_
    refine V_iconst dX5_isOn_40 ckc_m1 ?_
    refine V_icmp_eq (tgt := 78) dX5_isOn_41 (by decide) (fun hc18 => ?_) (fun hc18 => ?_)
    · have hf := if_t hf hc18
      exact mC_X5_isOn_78_v hE hH a p0 p1 p2 r12 w hf
    · have hf := if_f hf hc18
      refine V_aload_n dX5_isOn_44 rfl ?_
      refine VP_getR (x := some b2) fa_X5_3 h1 rfl rfl hb3 dX5_isOn_45 ?_
      refine VP_getR (x := some b5) fa_X5_37 h4 rfl rfl hb6 dX5_isOn_48 ?_
      refine VP_getR (x := some b15) fa_X5_68 h7 rfl rfl hb16 dX5_isOn_51 ?_
      refine V_iload_n dX5_isOn_54 rfl ?_
      refine VE_iald h17 rfl dX5_isOn_55 ?_
      refine V_iload_n dX5_isOn_56 rfl ?_
      refine V_icmp_gt (tgt := 78) dX5_isOn_57 (by decide) (fun hc19 => ?_) (fun hc19 => ?_)
      · have hf := if_t hf hc19
        exact mC_X5_isOn_78_v hE hH a p0 p1 p2 r12 w hf
      · have hf := if_f hf hc19
        refine V_aload_n dX5_isOn_60 rfl ?_
        refine VP_getR (x := some b2) fa_X5_3 h1 rfl rfl hb3 dX5_isOn_61 ?_
        refine VP_getR (x := some b5) fa_X5_37 h4 rfl rfl hb6 dX5_isOn_64 ?_
        obtain ⟨b20, hb21, hf⟩ := bd1_ex hf
        refine VP_getR (x := some b20) fa_X5_71 h7 rfl rfl hb21 dX5_isOn_67 ?_
        refine V_iload_n dX5_isOn_70 rfl ?_
        obtain ⟨h22, hf⟩ := ck_ex hf
        refine VE_iald h22 rfl dX5_isOn_71 ?_
        refine V_iload_n dX5_isOn_72 rfl ?_
        refine V_icmp_gt (tgt := 78) dX5_isOn_73 (by decide) (fun hc23 => ?_) (fun hc23 => ?_)
        · have hf := if_t hf hc23
          exact mC_X5_isOn_78_v hE hH a p0 p1 p2 r12 w hf
        · have hf := if_f hf hc23
          refine V_iconst dX5_isOn_76 ckc_0 ?_
          cases some_ex hf
          exact V_zret hE (by decide) dX5_isOn_77
set_option maxHeartbeats 4000000 in
theorem mC_X5_looks_145_v {X : CX} {w0 : AH} {w' : AH}  (hE : XE X w0 406 none "looks" (.returned none) w') (hH : XH X []) (k75 : Nat → Int32 → Int32 → Int32 → AH → Option (AH)) (hk75 : ∀ (v0 : Nat) (v1 : Int32) (v2 : Int32) (v3 : Int32) (w : AH), k75 v0 v1 v2 v3 w = some w' → V X cX5_looks RX5 4 406 w 75 [some (.ref v0), some (.int v1), some (.int v2), some (.int v3)] []) (v0 : Nat) (v1 : Int32) (v2 : Int32) (v3 : Int32) (w : AH) (hf : mC_X5_looks_145 k75 v0 v1 v2 v3 w = some w') : V X cX5_looks RX5 4 406 w 145 [some (.ref v0), some (.int v1), some (.int v2), some (.int v3)] [] := by
  unfold mC_X5_looks_145 at hf
  refine V_inc (ls' := [some (.ref v0), some (.int v1), some (.int v2), some (.int (v3 + (1 : Int32)))]) dX5_looks_145 rfl ckc_1 (by decide) rfl ?_
  refine V_goto (tgt := 75) dX5_looks_148 (by decide) ?_
  exact hk75 v0 v1 v2 (v3 + (1 : Int32)) w hf
