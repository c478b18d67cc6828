set_option maxRecDepth 100000
set_option maxHeartbeats 4000000 in
theorem mM_in_ok (l : Launch) (D : DD) (w : AH) (p0 : Int64) (p1 : Int64) (p2 : Int64) (r : Int32) (hf : mM_in p0 p1 p2 = some r) : MA l D yX7_in cX7_in 6 (some .boolean) 1 [.long p0, .long p1, .long p2] w (.returned (some (.int r))) w := by
  refine MA.intro (own := RX7) (nm := "in") (ls := [some (.long p0), none, some (.long p1), none, some (.long p2), none]) (by decide) rfl rfl (Nat.le_of_ble_eq_true rfl) rfl (fun X hl hD hE => ?_)
  subst hl hD
  unfold mM_in at hf
  refine V_lload_n dX7_in_0 rfl ?_
  refine V_lload_n dX7_in_1 rfl ?_
  refine V_lif_lt (tgt := 17) dX7_in_2 dX7_in_3 (by decide) (fun hc1 => ?_) (fun hc1 => ?_)
  · have hf := if_t hf hc1
    refine V_iconst dX7_in_17 kc_0 ?_
    cases some_ex hf
    exact V_zret hE (by decide) dX7_in_18
  · have hf := if_f hf hc1
    refine V_lload_n dX7_in_6 rfl ?_
    refine V_lload dX7_in_7 rfl ?_
    refine V_lif_gt (tgt := 17) dX7_in_9 dX7_in_10 (by decide) (fun hc2 => ?_) (fun hc2 => ?_)
    · have hf := if_t hf hc2
      refine V_iconst dX7_in_17 kc_0 ?_
      cases some_ex hf
      exact V_zret hE (by decide) dX7_in_18
    · have hf := if_f hf hc2
      refine V_iconst dX7_in_13 kc_1 ?_
      refine V_goto (tgt := 18) dX7_in_14 (by decide) ?_
      cases some_ex hf
      exact V_zret hE (by decide) dX7_in_18
set_option maxHeartbeats 4000000 in
theorem mM_told_ok (l : Launch) (D : DD) (z : ZZ) (h : Nat) (p0 : Int32) (σ : SM) (r : Int32) (σ' : SM) (hf : mM_told p0 σ = some (r, σ')) : MA l D yX7_told cX7_told 2 (some .int) 1 [.ref h, .int p0] (wM z h σ) (.returned (some (.int r))) (wM z h σ') := by
  refine MA.intro (own := RX7) (nm := "told") (ls := [some (.ref h), some (.int p0)]) (by decide) rfl rfl (Nat.le_of_ble_eq_true rfl) rfl (fun X hl hD hE => ?_)
  subst hl hD
  unfold mM_told at hf
  refine V_aload_n dX7_told_0 rfl ?_
  refine V_iload_n dX7_told_1 rfl ?_
  refine V_if_ge (tgt := 9) dX7_told_2 (by decide) (fun hc1 => ?_) (fun hc1 => ?_)
  · have hf := if_t hf hc1
    refine V_iconst dX7_told_9 kc_0 ?_
    obtain ⟨σ2, hs3, hf⟩ := st1_ex hf
    refine VM_putI fwX7_116 hs3 dX7_told_10 ?_
    refine V_iload_n dX7_told_13 rfl ?_
    cases some_ex hf
    exact V_iret hE dX7_told_14
  · have hf := if_f hf hc1
    refine V_iload_n dX7_told_5 rfl ?_
    refine V_goto (tgt := 10) dX7_told_6 (by decide) ?_
    obtain ⟨σ4, hs5, hf⟩ := st1_ex hf
    refine VM_putI fwX7_116 hs5 dX7_told_10 ?_
    refine V_iload_n dX7_told_13 rfl ?_
    cases some_ex hf
    exact V_iret hE dX7_told_14
set_option maxHeartbeats 4000000 in
theorem mM_image_23_v {X : CX} {w0 : AH} {z : ZZ} {h : Nat} {r : Int32} {σ' : SM} (hE : XE X w0 2 (some .int) "image" (.returned (some (.int r))) (wM z h σ')) (k23 : Int32 → Int32 → SM → Option (Int32 × SM)) (hk23 : ∀ (v1 : Int32) (v2 : Int32) (σ : SM), k23 v1 v2 σ = some (r, σ') → V X cX7_image RX7 3 2 (wM z h σ) 23 [some (.ref h), some (.int v1), some (.int v2)] []) (v1 : Int32) (v2 : Int32) (σ : SM) (hf : mM_image_23 k23 v1 v2 σ = some (r, σ')) : V X cX7_image RX7 3 2 (wM z h σ) 23 [some (.ref h), some (.int v1), some (.int v2)] [] := by
  unfold mM_image_23 at hf
  refine V_iload_n dX7_image_23 rfl ?_
  refine V_sipush dX7_image_24 ks_23016 ?_
  refine V_icmp_ge (tgt := 54) dX7_image_27 (by decide) (fun hc1 => ?_) (fun hc1 => ?_)
  · have hf := if_t hf hc1
    refine V_aload_n dX7_image_54 rfl ?_
    refine VM_getR fX7_17 ⟨rfl, rfl⟩ rfl dX7_image_55 ?_
    refine V_iload_n dX7_image_58 rfl ?_
    refine V_iconst dX7_image_59 kc_1 ?_
    obtain ⟨hb2, hf⟩ := ck_ex hf
    obtain ⟨σ3, hs4, hf⟩ := st1_ex hf
    refine VM_stZ (n := 2) (k := v1.toNatClampNeg) rfl hb2 rfl (by decide) hs4 dX7_image_60 ?_
    refine V_aload_n dX7_image_61 rfl ?_
    refine V_iconst dX7_image_62 kc_0 ?_
    obtain ⟨r6, σ7, hc5, hf⟩ := bd2_ex hf
    refine V_cV (av := [.int (0 : Int32)]) (rest := []) (st' := [.int r6]) (mM_told_ok _ _ _ _ _ _ _ _ hc5) vcX7_125 (wM_k0 _ _ _) (by decide) rfl rfl (Nat.le_of_ble_eq_true rfl) dX7_image_63 rfl ?_
    cases some_ex hf
    exact V_iret hE dX7_image_66
  · have hf := if_f hf hc1
    refine V_aload_n dX7_image_30 rfl ?_
    refine VM_getR fX7_14 ⟨rfl, rfl⟩ rfl dX7_image_31 ?_
    refine V_sipush dX7_image_34 ks_23016 ?_
    refine V_iload_n dX7_image_37 rfl ?_
    refine V_imul dX7_image_38 ?_
    refine V_iload_n dX7_image_39 rfl ?_
    refine V_iadd dX7_image_40 ?_
    refine V_aload_n dX7_image_41 rfl ?_
    refine VM_getR fX7_7 ⟨rfl, rfl⟩ rfl dX7_image_42 ?_
    refine V_iload_n dX7_image_45 rfl ?_
    obtain ⟨hb8, hf⟩ := ck_ex hf
    refine VM_ldI (n := 23016) (k := v2.toNatClampNeg) rfl hb8 rfl dX7_image_46 ?_
    obtain ⟨hb9, hf⟩ := ck_ex hf
    obtain ⟨σ10, hs11, hf⟩ := st1_ex hf
    refine VM_stI (n := 46032) (k := (((23016 : Int32) * v1) + v2).toNatClampNeg) rfl hb9 rfl hs11 dX7_image_47 ?_
    refine V_inc (ls' := [some (.ref h), some (.int v1), some (.int (v2 + (1 : Int32)))]) dX7_image_48 rfl kc_1 (by decide) rfl ?_
    refine V_goto (tgt := 23) dX7_image_51 (by decide) ?_
    exact hk23 v1 (v2 + (1 : Int32)) σ10 hf
set_option maxHeartbeats 4000000 in
theorem mM_image_ok (l : Launch) (D : DD) (z : ZZ) (h : Nat) (p0 : Int32) (σ : SM) (r : Int32) (σ' : SM) (hf : mM_image p0 σ = some (r, σ')) : MA l D yX7_image cX7_image 3 (some .int) 2 [.ref h, .int p0] (wM z h σ) (.returned (some (.int r))) (wM z h σ') := by
  refine MA.intro (own := RX7) (nm := "image") (ls := [some (.ref h), some (.int p0), none]) (by decide) rfl rfl (Nat.le_of_ble_eq_true rfl) rfl (fun X hl hD hE => ?_)
  subst hl hD
  unfold mM_image at hf
  refine V_aload_n dX7_image_0 rfl ?_
  refine V_iconst dX7_image_1 kc_0 ?_
  obtain ⟨σ1, hs2, hf⟩ := st1_ex hf
  refine VM_putI fwX7_113 hs2 dX7_image_2 ?_
  refine V_iload_n dX7_image_5 rfl ?_
  refine V_i2l dX7_image_6 ?_
  refine V_lconst dX7_image_7 kl_0 ?_
  refine V_lconst dX7_image_8 kl_1 ?_
  obtain ⟨r4, hc3, hf⟩ := bd1_ex hf
  refine V_cS (rest := []) (st' := [.int r4]) (mM_in_ok _ _ _ _ _ _ _ hc3) scX7_121 (by decide) rfl rfl (Nat.le_of_ble_eq_true rfl) dX7_image_9 rfl ?_
  refine V_if_ne (tgt := 21) dX7_image_12 (by decide) (fun hc5 => ?_) (fun hc5 => ?_)
  · have hf := if_f hf hc5
    refine V_iconst dX7_image_21 kc_0 ?_
    refine V_istore_n (ls' := [some (.ref h), some (.int p0), some (.int (0 : Int32))]) dX7_image_22 (by decide) rfl ?_
    exact lq3_ex (P := fun v1 v2 σ => V X cX7_image RX7 3 2 (wM z h σ) 23 [some (.ref h), some (.int v1), some (.int v2)] []) (fun k hk v1 v2 σ hf => mM_image_23_v hE k hk v1 v2 σ hf) LF p0 (0 : Int32) σ1 hf
  · have hf := if_t hf hc5
    refine V_aload_n dX7_image_15 rfl ?_
    refine V_iconst dX7_image_16 kc_m1 ?_
    obtain ⟨r7, σ8, hc6, hf⟩ := bd2_ex hf
    refine V_cV (av := [.int (-1 : Int32)]) (rest := []) (st' := [.int r7]) (mM_told_ok _ _ _ _ _ _ _ _ hc6) vcX7_125 (wM_k0 _ _ _) (by decide) rfl rfl (Nat.le_of_ble_eq_true rfl) dX7_image_17 rfl ?_
    cases some_ex hf
    exact V_iret hE dX7_image_20
set_option maxHeartbeats 4000000 in
theorem mM_back_39_v {X : CX} {w0 : AH} {z : ZZ} {h : Nat} {r : Int32} {σ' : SM} (hE : XE X w0 2 (some .int) "back" (.returned (some (.int r))) (wM z h σ')) (k39 : Int32 → Int32 → SM → Option (Int32 × SM)) (hk39 : ∀ (v1 : Int32) (v2 : Int32) (σ : SM), k39 v1 v2 σ = some (r, σ') → V X cX7_back RX7 3 2 (wM z h σ) 39 [some (.ref h), some (.int v1), some (.int v2)] []) (v1 : Int32) (v2 : Int32) (σ : SM) (hf : mM_back_39 k39 v1 v2 σ = some (r, σ')) : V X cX7_back RX7 3 2 (wM z h σ) 39 [some (.ref h), some (.int v1), some (.int v2)] [] := by
  unfold mM_back_39 at hf
  refine V_iload_n dX7_back_39 rfl ?_
  refine V_sipush dX7_back_40 ks_23016 ?_
  refine V_icmp_ge (tgt := 70) dX7_back_43 (by decide) (fun hc1 => ?_) (fun hc1 => ?_)
  · have hf := if_t hf hc1
    refine V_aload_n dX7_back_70 rfl ?_
    refine V_iconst dX7_back_71 kc_0 ?_
    obtain ⟨r3, σ4, hc2, hf⟩ := bd2_ex hf
    refine V_cV (av := [.int (0 : Int32)]) (rest := []) (st' := [.int r3]) (mM_told_ok _ _ _ _ _ _ _ _ hc2) vcX7_125 (wM_k0 _ _ _) (by decide) rfl rfl (Nat.le_of_ble_eq_true rfl) dX7_back_72 rfl ?_
    cases some_ex hf
    exact V_iret hE dX7_back_75
  · have hf := if_f hf hc1
    refine V_aload_n dX7_back_46 rfl ?_
    refine VM_getR fX7_7 ⟨rfl, rfl⟩ rfl dX7_back_47 ?_
    refine V_iload_n dX7_back_50 rfl ?_
    refine V_aload_n dX7_back_51 rfl ?_
    refine VM_getR fX7_14 ⟨rfl, rfl⟩ rfl dX7_back_52 ?_
    refine V_sipush dX7_back_55 ks_23016 ?_
    refine V_iload_n dX7_back_58 rfl ?_
    refine V_imul dX7_back_59 ?_
    refine V_iload_n dX7_back_60 rfl ?_
    refine V_iadd dX7_back_61 ?_
    obtain ⟨hb5, hf⟩ := ck_ex hf
    refine VM_ldI (n := 46032) (k := (((23016 : Int32) * v1) + v2).toNatClampNeg) rfl hb5 rfl dX7_back_62 ?_
    obtain ⟨hb6, hf⟩ := ck_ex hf
    obtain ⟨σ7, hs8, hf⟩ := st1_ex hf
    refine VM_stI (n := 23016) (k := v2.toNatClampNeg) rfl hb6 rfl hs8 dX7_back_63 ?_
    refine V_inc (ls' := [some (.ref h), some (.int v1), some (.int (v2 + (1 : Int32)))]) dX7_back_64 rfl kc_1 (by decide) rfl ?_
    refine V_goto (tgt := 39) dX7_back_67 (by decide) ?_
    exact hk39 v1 (v2 + (1 : Int32)) σ7 hf
set_option maxHeartbeats 4000000 in
theorem mM_back_ok (l : Launch) (D : DD) (z : ZZ) (h : Nat) (p0 : Int32) (σ : SM) (r : Int32) (σ' : SM) (hf : mM_back p0 σ = some (r, σ')) : MA l D yX7_back cX7_back 3 (some .int) 2 [.ref h, .int p0] (wM z h σ) (.returned (some (.int r))) (wM z h σ') := by
  refine MA.intro (own := RX7) (nm := "back") (ls := [some (.ref h), some (.int p0), none]) (by decide) rfl rfl (Nat.le_of_ble_eq_true rfl) rfl (fun X hl hD hE => ?_)
  subst hl hD
  unfold mM_back at hf
  refine V_aload_n dX7_back_0 rfl ?_
  refine V_iconst dX7_back_1 kc_0 ?_
  obtain ⟨σ1, hs2, hf⟩ := st1_ex hf
  refine VM_putI fwX7_113 hs2 dX7_back_2 ?_
  refine V_iload_n dX7_back_5 rfl ?_
  refine V_i2l dX7_back_6 ?_
  refine V_lconst dX7_back_7 kl_0 ?_
  refine V_lconst dX7_back_8 kl_1 ?_
  obtain ⟨r4, hc3, hf⟩ := bd1_ex hf
  refine V_cS (rest := []) (st' := [.int r4]) (mM_in_ok _ _ _ _ _ _ _ hc3) scX7_121 (by decide) rfl rfl (Nat.le_of_ble_eq_true rfl) dX7_back_9 rfl ?_
  refine V_if_ne (tgt := 21) dX7_back_12 (by decide) (fun hc5 => ?_) (fun hc5 => ?_)
  · have hf := if_f hf hc5
    refine V_aload_n dX7_back_21 rfl ?_
    refine VM_getR fX7_17 ⟨rfl, rfl⟩ rfl dX7_back_22 ?_
    refine V_iload_n dX7_back_25 rfl ?_
    obtain ⟨hb6, hf⟩ := ck_ex hf
    refine VM_ldZ (n := 2) (k := p0.toNatClampNeg) rfl hb6 rfl dX7_back_26 ?_
    refine V_if_ne (tgt := 37) dX7_back_27 (by decide) (fun hc7 => ?_) (fun hc7 => ?_)
    · have hf := if_f hf hc7
      refine V_iconst dX7_back_37 kc_0 ?_
      refine V_istore_n (ls' := [some (.ref h), some (.int p0), some (.int (0 : Int32))]) dX7_back_38 (by decide) rfl ?_
      exact lq3_ex (P := fun v1 v2 σ => V X cX7_back RX7 3 2 (wM z h σ) 39 [some (.ref h), some (.int v1), some (.int v2)] []) (fun k hk v1 v2 σ hf => mM_back_39_v hE k hk v1 v2 σ hf) LF p0 (0 : Int32) σ1 hf
    · have hf := if_t hf hc7
      refine V_aload_n dX7_back_30 rfl ?_
      refine V_bipush dX7_back_31 kb_m2 ?_
      obtain ⟨r9, σ10, hc8, hf⟩ := bd2_ex hf
      refine V_cV (av := [.int (-2 : Int32)]) (rest := []) (st' := [.int r9]) (mM_told_ok _ _ _ _ _ _ _ _ hc8) vcX7_125 (wM_k0 _ _ _) (by decide) rfl rfl (Nat.le_of_ble_eq_true rfl) dX7_back_33 rfl ?_
      cases some_ex hf
      exact V_iret hE dX7_back_36
  · have hf := if_t hf hc5
    refine V_aload_n dX7_back_15 rfl ?_
    refine V_iconst dX7_back_16 kc_m1 ?_
    obtain ⟨r12, σ13, hc11, hf⟩ := bd2_ex hf
    refine V_cV (av := [.int (-1 : Int32)]) (rest := []) (st' := [.int r12]) (mM_told_ok _ _ _ _ _ _ _ _ hc11) vcX7_125 (wM_k0 _ _ _) (by decide) rfl rfl (Nat.le_of_ble_eq_true rfl) dX7_back_17 rfl ?_
    cases some_ex hf
    exact V_iret hE dX7_back_20
set_option maxHeartbeats 4000000 in
theorem mM_placeAt_ok (l : Launch) (D : DD) (w : AH) (p0 : Int32) (r : Int32) (hf : mM_placeAt p0 = some r) : MA l D yX7_placeAt cX7_placeAt 1 (some .int) 1 [.int p0] w (.returned (some (.int r))) w := by
  refine MA.intro (own := RX7) (nm := "placeAt") (ls := [some (.int p0)]) (by decide) rfl rfl (Nat.le_of_ble_eq_true rfl) rfl (fun X hl hD hE => ?_)
  subst hl hD
  unfold mM_placeAt at hf
  refine V_bipush dX7_placeAt_0 kb_20 ?_
  refine V_iconst dX7_placeAt_2 kc_3 ?_
  refine V_iload_n dX7_placeAt_3 rfl ?_
  refine V_imul dX7_placeAt_4 ?_
  refine V_iadd dX7_placeAt_5 ?_
  cases some_ex hf
  exact V_iret hE dX7_placeAt_6
set_option maxHeartbeats 4000000 in
theorem mM_place_41_v {X : CX} {w0 : AH} {z : ZZ} {h : Nat} {r : Int32} {σ' : SM} (hE : XE X w0 2 (some .int) "place" (.returned (some (.int r))) (wM z h σ')) (σ : SM) (hf : mM_place_41 σ = some (r, σ')) : V X cX7_place RX7 5 2 (wM z h σ) 41 [some (.ref h), none, none, none, none] [] := by
  unfold mM_place_41 at hf
  refine V_aload_n dX7_place_41 rfl ?_
  refine V_iconst dX7_place_42 kc_m1 ?_
  obtain ⟨r2, σ3, hc1, hf⟩ := bd2_ex hf
  refine V_cV (av := [.int (-1 : Int32)]) (rest := []) (st' := [.int r2]) (mM_told_ok _ _ _ _ _ _ _ _ hc1) vcX7_125 (wM_k0 _ _ _) (by decide) rfl rfl (Nat.le_of_ble_eq_true rfl) dX7_place_43 rfl ?_
  cases some_ex hf
  exact V_iret hE dX7_place_46
set_option maxHeartbeats 4000000 in
theorem mM_place_ok (l : Launch) (D : DD) (z : ZZ) (h : Nat) (p0 : Int32) (p1 : Int32) (p2 : Int32) (σ : SM) (r : Int32) (σ' : SM) (hf : mM_place p0 p1 p2 σ = some (r, σ')) : MA l D yX7_place cX7_place 5 (some .int) 2 [.ref h, .int p0, .int p1, .int p2] (wM z h σ) (.returned (some (.int r))) (wM z h σ') := by
  refine MA.intro (own := RX7) (nm := "place") (ls := [some (.ref h), some (.int p0), some (.int p1), some (.int p2), none]) (by decide) rfl rfl (Nat.le_of_ble_eq_true rfl) rfl (fun X hl hD hE => ?_)
  subst hl hD
  unfold mM_place at hf
  refine V_aload_n dX7_place_0 rfl ?_
  refine V_iconst dX7_place_1 kc_0 ?_
  obtain ⟨σ1, hs2, hf⟩ := st1_ex hf
  refine VM_putI fwX7_113 hs2 dX7_place_2 ?_
  refine V_iload_n dX7_place_5 rfl ?_
  refine V_i2l dX7_place_6 ?_
  refine V_lconst dX7_place_7 kl_0 ?_
  refine V_ldc2 q1976 dX7_place_8 ?_
  obtain ⟨r4, hc3, hf⟩ := bd1_ex hf
  refine V_cS (rest := []) (st' := [.int r4]) (mM_in_ok _ _ _ _ _ _ _ hc3) scX7_121 (by decide) rfl rfl (Nat.le_of_ble_eq_true rfl) dX7_place_11 rfl ?_
  refine V_if_eq (tgt := 41) dX7_place_14 (by decide) (fun hc5 => ?_) (fun hc5 => ?_)
  · have hf := if_t hf hc5
    refine V_keep [true, false, false, false, true] rfl ?_
    exact mM_place_41_v hE σ1 hf
  · have hf := if_f hf hc5
    refine V_iload_n dX7_place_17 rfl ?_
    refine V_i2l dX7_place_18 ?_
    refine V_lconst dX7_place_19 kl_0 ?_
    refine V_ldc2 q1977 dX7_place_20 ?_
    obtain ⟨r7, hc6, hf⟩ := bd1_ex hf
    refine V_cS (rest := []) (st' := [.int r7]) (mM_in_ok _ _ _ _ _ _ _ hc6) scX7_121 (by decide) rfl rfl (Nat.le_of_ble_eq_true rfl) dX7_place_23 rfl ?_
    refine V_if_eq (tgt := 41) dX7_place_26 (by decide) (fun hc8 => ?_) (fun hc8 => ?_)
    · have hf := if_t hf hc8
      refine V_keep [true, false, false, false, true] rfl ?_
      exact mM_place_41_v hE σ1 hf
    · have hf := if_f hf hc8
      refine V_iload_n dX7_place_29 rfl ?_
      refine V_i2l dX7_place_30 ?_
      refine V_lconst dX7_place_31 kl_0 ?_
      refine V_ldc2 q1977 dX7_place_32 ?_
      obtain ⟨r10, hc9, hf⟩ := bd1_ex hf
      refine V_cS (rest := []) (st' := [.int r10]) (mM_in_ok _ _ _ _ _ _ _ hc9) scX7_121 (by decide) rfl rfl (Nat.le_of_ble_eq_true rfl) dX7_place_35 rfl ?_
      refine V_if_ne (tgt := 47) dX7_place_38 (by decide) (fun hc11 => ?_) (fun hc11 => ?_)
      · have hf := if_f hf hc11
        refine V_aload_n dX7_place_47 rfl ?_
        refine VM_getR fX7_7 ⟨rfl, rfl⟩ rfl dX7_place_48 ?_
        refine V_iconst dX7_place_51 kc_0 ?_
        refine VM_ldI (n := 23016) (k := 0) rfl (by decide) (by decide) dX7_place_52 ?_
        refine V_bipush dX7_place_53 kb_16 ?_
        refine V_icmp_ne (tgt := 65) dX7_place_55 (by decide) (fun hc12 => ?_) (fun hc12 => ?_)
        · have hf := if_f hf hc12
          refine V_aload_n dX7_place_65 rfl ?_
          refine VM_getR fX7_7 ⟨rfl, rfl⟩ rfl dX7_place_66 ?_
          refine V_iconst dX7_place_69 kc_0 ?_
          refine VM_ldI (n := 23016) (k := 0) rfl (by decide) (by decide) dX7_place_70 ?_
          obtain ⟨r14, hc13, hf⟩ := bd1_ex hf
          refine V_cS (rest := []) (st' := [.int r14]) (mM_placeAt_ok _ _ _ _ _ hc13) scX7_133 (by decide) rfl rfl (Nat.le_of_ble_eq_true rfl) dX7_place_71 rfl ?_
          refine V_istore (ls' := [some (.ref h), some (.int p0), some (.int p1), some (.int p2), some (.int r14)]) dX7_place_74 (by decide) rfl ?_
          refine V_aload_n dX7_place_76 rfl ?_
          refine VM_getR fX7_7 ⟨rfl, rfl⟩ rfl dX7_place_77 ?_
          refine V_iload dX7_place_80 rfl ?_
          refine V_iload_n dX7_place_82 rfl ?_
          obtain ⟨hb15, hf⟩ := ck_ex hf
          obtain ⟨σ16, hs17, hf⟩ := st1_ex hf
          refine VM_stI (n := 23016) (k := r14.toNatClampNeg) rfl hb15 rfl hs17 dX7_place_83 ?_
          refine V_aload_n dX7_place_84 rfl ?_
          refine VM_getR fX7_7 ⟨rfl, rfl⟩ rfl dX7_place_85 ?_
          refine V_iload dX7_place_88 rfl ?_
          refine V_iconst dX7_place_90 kc_1 ?_
          refine V_iadd dX7_place_91 ?_
          refine V_iload_n dX7_place_92 rfl ?_
          obtain ⟨hb18, hf⟩ := ck_ex hf
          obtain ⟨σ19, hs20, hf⟩ := st1_ex hf
          refine VM_stI (n := 23016) (k := (r14 + (1 : Int32)).toNatClampNeg) rfl hb18 rfl hs20 dX7_place_93 ?_
          refine V_aload_n dX7_place_94 rfl ?_
          refine VM_getR fX7_7 ⟨rfl, rfl⟩ rfl dX7_place_95 ?_
          refine V_iload dX7_place_98 rfl ?_
          refine V_iconst dX7_place_100 kc_2 ?_
          refine V_iadd dX7_place_101 ?_
          refine V_iload_n dX7_place_102 rfl ?_
          obtain ⟨hb21, hf⟩ := ck_ex hf
          obtain ⟨σ22, hs23, hf⟩ := st1_ex hf
          refine VM_stI (n := 23016) (k := (r14 + (2 : Int32)).toNatClampNeg) rfl hb21 rfl hs23 dX7_place_103 ?_
          refine V_aload_n dX7_place_104 rfl ?_
          refine VM_getR fX7_7 ⟨rfl, rfl⟩ rfl dX7_place_105 ?_
          refine V_iconst dX7_place_108 kc_0 ?_
          refine V_dup2 dX7_place_109 rfl rfl ?_
          refine VM_ldI (n := 23016) (k := 0) rfl (by decide) (by decide) dX7_place_110 ?_
          refine V_iconst dX7_place_111 kc_1 ?_
          refine V_iadd dX7_place_112 ?_
          obtain ⟨σ24, hs25, hf⟩ := st1_ex hf
          refine VM_stI (n := 23016) (k := 0) rfl (by decide) (by decide) hs25 dX7_place_113 ?_
          refine V_aload_n dX7_place_114 rfl ?_
          refine V_aload_n dX7_place_115 rfl ?_
          refine VM_getR fX7_7 ⟨rfl, rfl⟩ rfl dX7_place_116 ?_
          refine V_iconst dX7_place_119 kc_0 ?_
          refine VM_ldI (n := 23016) (k := 0) rfl (by decide) (by decide) dX7_place_120 ?_
          refine V_iconst dX7_place_121 kc_1 ?_
          refine V_isub dX7_place_122 ?_
          obtain ⟨r27, σ28, hc26, hf⟩ := bd2_ex hf
          refine V_cV (av := [.int ((gI σ24 1 0) - (1 : Int32))]) (rest := []) (st' := [.int r27]) (mM_told_ok _ _ _ _ _ _ _ _ hc26) vcX7_125 (wM_k0 _ _ _) (by decide) rfl rfl (Nat.le_of_ble_eq_true rfl) dX7_place_123 rfl ?_
          cases some_ex hf
          exact V_iret hE dX7_place_126
        · have hf := if_t hf hc12
          refine V_aload_n dX7_place_58 rfl ?_
          refine V_bipush dX7_place_59 kb_m5 ?_
          obtain ⟨r30, σ31, hc29, hf⟩ := bd2_ex hf
          refine V_cV (av := [.int (-5 : Int32)]) (rest := []) (st' := [.int r30]) (mM_told_ok _ _ _ _ _ _ _ _ hc29) vcX7_125 (wM_k0 _ _ _) (by decide) rfl rfl (Nat.le_of_ble_eq_true rfl) dX7_place_61 rfl ?_
          cases some_ex hf
          exact V_iret hE dX7_place_64
      · have hf := if_t hf hc11
        refine V_keep [true, false, false, false, true] rfl ?_
        exact mM_place_41_v hE σ1 hf
set_option maxHeartbeats 4000000 in
theorem mM_areLetters_38_v {X : CX} {w0 : AH} {w : AH} {r : Int32} (hE : XE X w0 2 (some .boolean) "areLetters" (.returned (some (.int r))) w) (k5 : Int32 → Int32 → Int32 → Option (Int32)) (hk5 : ∀ (v0 : Int32) (v1 : Int32) (v2 : Int32), k5 v0 v1 v2 = some r → V X cX7_areLetters RX7 3 2 w 5 [some (.int v0), some (.int v1), some (.int v2)] []) (v0 : Int32) (v2 : Int32) (t0 : Int32) (hf : mM_areLetters_38 k5 v0 v2 t0 = some r) : V X cX7_areLetters RX7 3 2 w 38 [some (.int v0), none, some (.int v2)] [.int t0] := by
  unfold mM_areLetters_38 at hf
  refine V_istore_n (ls' := [some (.int v0), some (.int t0), some (.int v2)]) dX7_areLetters_38 (by decide) rfl ?_
  refine V_inc (ls' := [some (.int v0), some (.int t0), some (.int (v2 + (-8 : Int32)))]) dX7_areLetters_39 rfl kc_m8 (by decide) rfl ?_
  refine V_goto (tgt := 5) dX7_areLetters_42 (by decide) ?_
  exact hk5 v0 t0 (v2 + (-8 : Int32)) hf
set_option maxHeartbeats 4000000 in
theorem mM_areLetters_37_v {X : CX} {w0 : AH} {w : AH} {r : Int32} (hE : XE X w0 2 (some .boolean) "areLetters" (.returned (some (.int r))) w) (k5 : Int32 → Int32 → Int32 → Option (Int32)) (hk5 : ∀ (v0 : Int32) (v1 : Int32) (v2 : Int32), k5 v0 v1 v2 = some r → V X cX7_areLetters RX7 3 2 w 5 [some (.int v0), some (.int v1), some (.int v2)] []) (v0 : Int32) (v2 : Int32) (hf : mM_areLetters_37 k5 v0 v2 = some r) : V X cX7_areLetters RX7 3 2 w 37 [some (.int v0), none, some (.int v2)] [] := by
  unfold mM_areLetters_37 at hf
  refine V_iconst dX7_areLetters_37 kc_0 ?_
  exact mM_areLetters_38_v hE k5 hk5 v0 v2 (0 : Int32) hf
set_option maxHeartbeats 4000000 in
theorem mM_areLetters_5_v {X : CX} {w0 : AH} {w : AH} {r : Int32} (hE : XE X w0 2 (some .boolean) "areLetters" (.returned (some (.int r))) w) (k5 : Int32 → Int32 → Int32 → Option (Int32)) (hk5 : ∀ (v0 : Int32) (v1 : Int32) (v2 : Int32), k5 v0 v1 v2 = some r → V X cX7_areLetters RX7 3 2 w 5 [some (.int v0), some (.int v1), some (.int v2)] []) (v0 : Int32) (v1 : Int32) (v2 : Int32) (hf : mM_areLetters_5 k5 v0 v1 v2 = some r) : V X cX7_areLetters RX7 3 2 w 5 [some (.int v0), some (.int v1), some (.int v2)] [] := by
  unfold mM_areLetters_5 at hf
  refine V_iload_n dX7_areLetters_5 rfl ?_
  refine V_if_lt (tgt := 45) dX7_areLetters_6 (by decide) (fun hc1 => ?_) (fun hc1 => ?_)
  · have hf := if_t hf hc1
    refine V_iload_n dX7_areLetters_45 rfl ?_
    obtain ⟨hb2, hf⟩ := ck_ex hf
    cases some_ex hf
    exact V_zret hE (isZ_nar hb2) dX7_areLetters_46
  · have hf := if_f hf hc1
    refine V_iload_n dX7_areLetters_9 rfl ?_
    refine V_if_eq (tgt := 37) dX7_areLetters_10 (by decide) (fun hc3 => ?_) (fun hc3 => ?_)
    · have hf := if_t hf hc3
      refine V_keep [true, false, true] rfl ?_
      exact mM_areLetters_37_v hE k5 hk5 v0 v2 hf
    · have hf := if_f hf hc3
      refine V_iload_n dX7_areLetters_13 rfl ?_
      refine V_iload_n dX7_areLetters_14 rfl ?_
      refine V_ishr dX7_areLetters_15 ?_
      refine V_sipush dX7_areLetters_16 ks_255 ?_
      refine V_iand dX7_areLetters_19 ?_
      refine V_i2l dX7_areLetters_20 ?_
      refine V_ldc2 q1993 dX7_areLetters_21 ?_
      refine V_ldc2 q1994 dX7_areLetters_24 ?_
      obtain ⟨r5, hc4, hf⟩ := bd1_ex hf
      refine V_cS (rest := []) (st' := [.int r5]) (mM_in_ok _ _ _ _ _ _ _ hc4) scX7_121 (by decide) rfl rfl (Nat.le_of_ble_eq_true rfl) dX7_areLetters_27 rfl ?_
      refine V_if_eq (tgt := 37) dX7_areLetters_30 (by decide) (fun hc6 => ?_) (fun hc6 => ?_)
      · have hf := if_t hf hc6
        refine V_keep [true, false, true] rfl ?_
        exact mM_areLetters_37_v hE k5 hk5 v0 v2 hf
      · have hf := if_f hf hc6
        refine V_iconst dX7_areLetters_33 kc_1 ?_
        refine V_goto (tgt := 38) dX7_areLetters_34 (by decide) ?_
        refine V_keep [true, false, true] rfl ?_
        exact mM_areLetters_38_v hE k5 hk5 v0 v2 (1 : Int32) hf
set_option maxHeartbeats 4000000 in
theorem mM_areLetters_ok (l : Launch) (D : DD) (w : AH) (p0 : Int32) (r : Int32) (hf : mM_areLetters p0 = some r) : MA l D yX7_areLetters cX7_areLetters 3 (some .boolean) 2 [.int p0] w (.returned (some (.int r))) w := by
  refine MA.intro (own := RX7) (nm := "areLetters") (ls := [some (.int p0), none, none]) (by decide) rfl rfl (Nat.le_of_ble_eq_true rfl) rfl (fun X hl hD hE => ?_)
  subst hl hD
  unfold mM_areLetters at hf
  refine V_iconst dX7_areLetters_0 kc_1 ?_
  refine V_istore_n (ls' := [some (.int p0), some (.int (1 : Int32)), none]) dX7_areLetters_1 (by decide) rfl ?_
  refine V_bipush dX7_areLetters_2 kb_24 ?_
  refine V_istore_n (ls' := [some (.int p0), some (.int (1 : Int32)), some (.int (24 : Int32))]) dX7_areLetters_4 (by decide) rfl ?_
  exact lq3_ex (P := fun v0 v1 v2 => V X cX7_areLetters RX7 3 2 w 5 [some (.int v0), some (.int v1), some (.int v2)] []) (fun k hk v0 v1 v2 hf => mM_areLetters_5_v hE k hk v0 v1 v2 hf) LF p0 (1 : Int32) (24 : Int32) hf
set_option maxHeartbeats 4000000 in
theorem mM_isPerson_ok (l : Launch) (D : DD) (w : AH) (p0 : Int32) (p1 : Int32) (p2 : Int32) (p3 : Int32) (r : Int32) (hf : mM_isPerson p0 p1 p2 p3 = some r) : MA l D yX7_isPerson cX7_isPerson 4 (some .boolean) 3 [.int p0, .int p1, .int p2, .int p3] w (.returned (some (.int r))) w := by
  refine MA.intro (own := RX7) (nm := "isPerson") (ls := [some (.int p0), some (.int p1), some (.int p2), some (.int p3)]) (by decide) rfl rfl (Nat.le_of_ble_eq_true rfl) rfl (fun X hl hD hE => ?_)
  subst hl hD
  unfold mM_isPerson at hf
  refine V_iload_n dX7_isPerson_0 rfl ?_
  refine V_i2l dX7_isPerson_1 ?_
  refine V_lconst dX7_isPerson_2 kl_0 ?_
  refine V_ldc2 q1977 dX7_isPerson_3 ?_
  obtain ⟨r2, hc1, hf⟩ := bd1_ex hf
  refine V_cS (rest := []) (st' := [.int r2]) (mM_in_ok _ _ _ _ _ _ _ hc1) scX7_121 (by decide) rfl rfl (Nat.le_of_ble_eq_true rfl) dX7_isPerson_6 rfl ?_
  refine V_if_eq (tgt := 47) dX7_isPerson_9 (by decide) (fun hc3 => ?_) (fun hc3 => ?_)
  · have hf := if_t hf hc3
    refine V_iconst dX7_isPerson_47 kc_0 ?_
    cases some_ex hf
    exact V_zret hE (by decide) dX7_isPerson_48
  · have hf := if_f hf hc3
    refine V_iload_n dX7_isPerson_12 rfl ?_
    refine V_i2l dX7_isPerson_13 ?_
    refine V_lconst dX7_isPerson_14 kl_0 ?_
    refine V_ldc2 q1988 dX7_isPerson_15 ?_
    obtain ⟨r5, hc4, hf⟩ := bd1_ex hf
    refine V_cS (rest := []) (st' := [.int r5]) (mM_in_ok _ _ _ _ _ _ _ hc4) scX7_121 (by decide) rfl rfl (Nat.le_of_ble_eq_true rfl) dX7_isPerson_18 rfl ?_
    refine V_if_eq (tgt := 47) dX7_isPerson_21 (by decide) (fun hc6 => ?_) (fun hc6 => ?_)
    · have hf := if_t hf hc6
      refine V_iconst dX7_isPerson_47 kc_0 ?_
      cases some_ex hf
      exact V_zret hE (by decide) dX7_isPerson_48
    · have hf := if_f hf hc6
      refine V_iload_n dX7_isPerson_24 rfl ?_
      refine V_i2l dX7_isPerson_25 ?_
      refine V_lconst dX7_isPerson_26 kl_0 ?_
      refine V_ldc2 q1989 dX7_isPerson_27 ?_
      obtain ⟨r8, hc7, hf⟩ := bd1_ex hf
      refine V_cS (rest := []) (st' := [.int r8]) (mM_in_ok _ _ _ _ _ _ _ hc7) scX7_121 (by decide) rfl rfl (Nat.le_of_ble_eq_true rfl) dX7_isPerson_30 rfl ?_
      refine V_if_eq (tgt := 47) dX7_isPerson_33 (by decide) (fun hc9 => ?_) (fun hc9 => ?_)
      · have hf := if_t hf hc9
        refine V_iconst dX7_isPerson_47 kc_0 ?_
        cases some_ex hf
        exact V_zret hE (by decide) dX7_isPerson_48
      · have hf := if_f hf hc9
        refine V_iload_n dX7_isPerson_36 rfl ?_
        obtain ⟨r11, hc10, hf⟩ := bd1_ex hf
        refine V_cS (rest := []) (st' := [.int r11]) (mM_areLetters_ok _ _ _ _ _ hc10) scX7_144 (by decide) rfl rfl (Nat.le_of_ble_eq_true rfl) dX7_isPerson_37 rfl ?_
        refine V_if_eq (tgt := 47) dX7_isPerson_40 (by decide) (fun hc12 => ?_) (fun hc12 => ?_)
        · have hf := if_t hf hc12
          refine V_iconst dX7_isPerson_47 kc_0 ?_
          cases some_ex hf
          exact V_zret hE (by decide) dX7_isPerson_48
        · have hf := if_f hf hc12
          refine V_iconst dX7_isPerson_43 kc_1 ?_
          refine V_goto (tgt := 48) dX7_isPerson_44 (by decide) ?_
          cases some_ex hf
          exact V_zret hE (by decide) dX7_isPerson_48
set_option maxHeartbeats 4000000 in
theorem mM_isDay_ok (l : Launch) (D : DD) (w : AH) (p0 : Int32) (r : Int32) (hf : mM_isDay p0 = some r) : MA l D yX7_isDay cX7_isDay 1 (some .boolean) 2 [.int p0] w (.returned (some (.int r))) w := by
  refine MA.intro (own := RX7) (nm := "isDay") (ls := [some (.int p0)]) (by decide) rfl rfl (Nat.le_of_ble_eq_true rfl) rfl (fun X hl hD hE => ?_)
  subst hl hD
  unfold mM_isDay at hf
  refine V_iload_n dX7_isDay_0 rfl ?_
  refine V_i2l dX7_isDay_1 ?_
  refine V_lconst dX7_isDay_2 kl_0 ?_
  refine V_ldc2 q1998 dX7_isDay_3 ?_
  obtain ⟨r2, hc1, hf⟩ := bd1_ex hf
  refine V_cS (rest := []) (st' := [.int r2]) (mM_in_ok _ _ _ _ _ _ _ hc1) scX7_121 (by decide) rfl rfl (Nat.le_of_ble_eq_true rfl) dX7_isDay_6 rfl ?_
  obtain ⟨hb3, hf⟩ := ck_ex hf
  cases some_ex hf
  exact V_zret hE (isZ_nar hb3) dX7_isDay_9
set_option maxHeartbeats 4000000 in
theorem mM_isPlace_ok (l : Launch) (D : DD) (z : ZZ) (h : Nat) (p0 : Int32) (σ : SM) (r : Int32) (hf : mM_isPlace p0 σ = some r) : MA l D yX7_isPlace cX7_isPlace 2 (some .boolean) 2 [.ref h, .int p0] (wM z h σ) (.returned (some (.int r))) (wM z h σ) := by
  refine MA.intro (own := RX7) (nm := "isPlace") (ls := [some (.ref h), some (.int p0)]) (by decide) rfl rfl (Nat.le_of_ble_eq_true rfl) rfl (fun X hl hD hE => ?_)
  subst hl hD
  unfold mM_isPlace at hf
  refine V_iload_n dX7_isPlace_0 rfl ?_
  refine V_i2l dX7_isPlace_1 ?_
  refine V_lconst dX7_isPlace_2 kl_0 ?_
  refine V_aload_n dX7_isPlace_3 rfl ?_
  refine VM_getR fX7_7 ⟨rfl, rfl⟩ rfl dX7_isPlace_4 ?_
  refine V_iconst dX7_isPlace_7 kc_0 ?_
  refine VM_ldI (n := 23016) (k := 0) rfl (by decide) (by decide) dX7_isPlace_8 ?_
  refine V_i2l dX7_isPlace_9 ?_
  refine V_lconst dX7_isPlace_10 kl_1 ?_
  refine V_lsub dX7_isPlace_11 ?_
  obtain ⟨r2, hc1, hf⟩ := bd1_ex hf
  refine V_cS (rest := []) (st' := [.int r2]) (mM_in_ok _ _ _ _ _ _ _ hc1) scX7_121 (by decide) rfl rfl (Nat.le_of_ble_eq_true rfl) dX7_isPlace_12 rfl ?_
  obtain ⟨hb3, hf⟩ := ck_ex hf
  cases some_ex hf
  exact V_zret hE (isZ_nar hb3) dX7_isPlace_15
set_option maxHeartbeats 4000000 in
theorem mM_nameAt_ok (l : Launch) (D : DD) (w : AH) (p0 : Int32) (r : Int32) (hf : mM_nameAt p0 = some r) : MA l D yX7_nameAt cX7_nameAt 1 (some .int) 1 [.int p0] w (.returned (some (.int r))) w := by
  refine MA.intro (own := RX7) (nm := "nameAt") (ls := [some (.int p0)]) (by decide) rfl rfl (Nat.le_of_ble_eq_true rfl) rfl (fun X hl hD hE => ?_)
  subst hl hD
  unfold mM_nameAt at hf
  refine V_bipush dX7_nameAt_0 kb_68 ?_
  refine V_bipush dX7_nameAt_2 kb_11 ?_
  refine V_iload_n dX7_nameAt_4 rfl ?_
  refine V_imul dX7_nameAt_5 ?_
  refine V_iadd dX7_nameAt_6 ?_
  cases some_ex hf
  exact V_iret hE dX7_nameAt_7
set_option maxHeartbeats 4000000 in
theorem mM_addFour_ok (l : Launch) (D : DD) (z : ZZ) (h : Nat) (p0 : Int32) (p1 : Int32) (p2 : Int32) (p3 : Int32) (p4 : Int32) (σ : SM) (σ' : SM) (hf : mM_addFour p0 p1 p2 p3 p4 σ = some σ') : MA l D yX7_addFour cX7_addFour 6 none 1 [.ref h, .int p0, .int p1, .int p2, .int p3, .int p4] (wM z h σ) (.returned none) (wM z h σ') := by
  refine MA.intro (own := RX7) (nm := "addFour") (ls := [some (.ref h), some (.int p0), some (.int p1), some (.int p2), some (.int p3), some (.int p4)]) (by decide) rfl rfl (Nat.le_of_ble_eq_true rfl) rfl (fun X hl hD hE => ?_)
  subst hl hD
  unfold mM_addFour at hf
  refine V_aload_n dX7_addFour_0 rfl ?_
  refine VM_getR fX7_7 ⟨rfl, rfl⟩ rfl dX7_addFour_1 ?_
  refine V_iload_n dX7_addFour_4 rfl ?_
  refine V_iload_n dX7_addFour_5 rfl ?_
  obtain ⟨hb1, hf⟩ := ck_ex hf
  obtain ⟨σ2, hs3, hf⟩ := st1_ex hf
  refine VM_stI (n := 23016) (k := p0.toNatClampNeg) rfl hb1 rfl hs3 dX7_addFour_6 ?_
  refine V_aload_n dX7_addFour_7 rfl ?_
  refine VM_getR fX7_7 ⟨rfl, rfl⟩ rfl dX7_addFour_8 ?_
  refine V_iload_n dX7_addFour_11 rfl ?_
  refine V_iconst dX7_addFour_12 kc_1 ?_
  refine V_iadd dX7_addFour_13 ?_
  refine V_iload_n dX7_addFour_14 rfl ?_
  obtain ⟨hb4, hf⟩ := ck_ex hf
  obtain ⟨σ5, hs6, hf⟩ := st1_ex hf
  refine VM_stI (n := 23016) (k := (p0 + (1 : Int32)).toNatClampNeg) rfl hb4 rfl hs6 dX7_addFour_15 ?_
  refine V_aload_n dX7_addFour_16 rfl ?_
  refine VM_getR fX7_7 ⟨rfl, rfl⟩ rfl dX7_addFour_17 ?_
  refine V_iload_n dX7_addFour_20 rfl ?_
  refine V_iconst dX7_addFour_21 kc_2 ?_
  refine V_iadd dX7_addFour_22 ?_
  refine V_iload dX7_addFour_23 rfl ?_
  obtain ⟨hb7, hf⟩ := ck_ex hf
  obtain ⟨σ8, hs9, hf⟩ := st1_ex hf
  refine VM_stI (n := 23016) (k := (p0 + (2 : Int32)).toNatClampNeg) rfl hb7 rfl hs9 dX7_addFour_25 ?_
  refine V_aload_n dX7_addFour_26 rfl ?_
  refine VM_getR fX7_7 ⟨rfl, rfl⟩ rfl dX7_addFour_27 ?_
  refine V_iload_n dX7_addFour_30 rfl ?_
  refine V_iconst dX7_addFour_31 kc_3 ?_
  refine V_iadd dX7_addFour_32 ?_
  refine V_iload dX7_addFour_33 rfl ?_
  obtain ⟨hb10, hf⟩ := ck_ex hf
  obtain ⟨σ11, hs12, hf⟩ := st1_ex hf
  refine VM_stI (n := 23016) (k := (p0 + (3 : Int32)).toNatClampNeg) rfl hb10 rfl hs12 dX7_addFour_35 ?_
  cases some_ex hf
  exact V_vret hE dX7_addFour_36
set_option maxHeartbeats 4000000 in
theorem mM_addName_ok (l : Launch) (D : DD) (z : ZZ) (h : Nat) (p0 : Int32) (p1 : Int32) (p2 : Int32) (p3 : Int32) (p4 : Int32) (p5 : Int32) (σ : SM) (σ' : SM) (hf : mM_addName p0 p1 p2 p3 p4 p5 σ = some σ') : MA l D yX7_addName cX7_addName 8 none 2 [.ref h, .int p0, .int p1, .int p2, .int p3, .int p4, .int p5] (wM z h σ) (.returned none) (wM z h σ') := by
  refine MA.intro (own := RX7) (nm := "addName") (ls := [some (.ref h), some (.int p0), some (.int p1), some (.int p2), some (.int p3), some (.int p4), some (.int p5), none]) (by decide) rfl rfl (Nat.le_of_ble_eq_true rfl) rfl (fun X hl hD hE => ?_)
  subst hl hD
  unfold mM_addName at hf
  refine V_aload_n dX7_addName_0 rfl ?_
  refine VM_getR fX7_7 ⟨rfl, rfl⟩ rfl dX7_addName_1 ?_
  refine V_iconst dX7_addName_4 kc_1 ?_
  refine VM_ldI (n := 23016) (k := 1) rfl (by decide) (by decide) dX7_addName_5 ?_
  obtain ⟨r2, hc1, hf⟩ := bd1_ex hf
  refine V_cS (rest := []) (st' := [.int r2]) (mM_nameAt_ok _ _ _ _ _ hc1) scX7_148 (by decide) rfl rfl (Nat.le_of_ble_eq_true rfl) dX7_addName_6 rfl ?_
  refine V_istore (ls' := [some (.ref h), some (.int p0), some (.int p1), some (.int p2), some (.int p3), some (.int p4), some (.int p5), some (.int r2)]) dX7_addName_9 (by decide) rfl ?_
  refine V_aload_n dX7_addName_11 rfl ?_
  refine V_iload dX7_addName_12 rfl ?_
  refine V_iload_n dX7_addName_14 rfl ?_
  refine V_iload_n dX7_addName_15 rfl ?_
  refine V_iload_n dX7_addName_16 rfl ?_
  refine V_iload dX7_addName_17 rfl ?_
  obtain ⟨σ4, hc3, hf⟩ := bd1_ex hf
  refine V_cV (av := [.int r2, .int p0, .int p1, .int p2, .int p3]) (rest := []) (st' := []) (mM_addFour_ok _ _ _ _ _ _ _ _ _ _ _ hc3) vcX7_151 (wM_k0 _ _ _) (by decide) rfl rfl (Nat.le_of_ble_eq_true rfl) dX7_addName_19 rfl ?_
  refine V_aload_n dX7_addName_22 rfl ?_
  refine V_iload dX7_addName_23 rfl ?_
  refine V_iconst dX7_addName_25 kc_4 ?_
  refine V_iadd dX7_addName_26 ?_
  refine V_iload dX7_addName_27 rfl ?_
  refine V_iload dX7_addName_29 rfl ?_
  refine V_iconst dX7_addName_31 kc_m1 ?_
  refine V_iconst dX7_addName_32 kc_m1 ?_
  obtain ⟨σ6, hc5, hf⟩ := bd1_ex hf
  refine V_cV (av := [.int (r2 + (4 : Int32)), .int p4, .int p5, .int (-1 : Int32), .int (-1 : Int32)]) (rest := []) (st' := []) (mM_addFour_ok _ _ _ _ _ _ _ _ _ _ _ hc5) vcX7_151 (wM_k0 _ _ _) (by decide) rfl rfl (Nat.le_of_ble_eq_true rfl) dX7_addName_33 rfl ?_
  refine V_aload_n dX7_addName_36 rfl ?_
  refine V_iload dX7_addName_37 rfl ?_
  refine V_bipush dX7_addName_39 kb_7 ?_
  refine V_iadd dX7_addName_41 ?_
  refine V_iconst dX7_addName_42 kc_m1 ?_
  refine V_iconst dX7_addName_43 kc_m1 ?_
  refine V_iconst dX7_addName_44 kc_m1 ?_
  refine V_iconst dX7_addName_45 kc_m1 ?_
  obtain ⟨σ8, hc7, hf⟩ := bd1_ex hf
  refine V_cV (av := [.int (r2 + (7 : Int32)), .int (-1 : Int32), .int (-1 : Int32), .int (-1 : Int32), .int (-1 : Int32)]) (rest := []) (st' := []) (mM_addFour_ok _ _ _ _ _ _ _ _ _ _ _ hc7) vcX7_151 (wM_k0 _ _ _) (by decide) rfl rfl (Nat.le_of_ble_eq_true rfl) dX7_addName_46 rfl ?_
  refine V_aload_n dX7_addName_49 rfl ?_
  refine VM_getR fX7_7 ⟨rfl, rfl⟩ rfl dX7_addName_50 ?_
  refine V_iconst dX7_addName_53 kc_1 ?_
  refine V_dup2 dX7_addName_54 rfl rfl ?_
  refine VM_ldI (n := 23016) (k := 1) rfl (by decide) (by decide) dX7_addName_55 ?_
  refine V_iconst dX7_addName_56 kc_1 ?_
  refine V_iadd dX7_addName_57 ?_
  obtain ⟨σ9, hs10, hf⟩ := st1_ex hf
  refine VM_stI (n := 23016) (k := 1) rfl (by decide) (by decide) hs10 dX7_addName_58 ?_
  cases some_ex hf
  exact V_vret hE dX7_addName_59
set_option maxHeartbeats 4000000 in
theorem mM_name_25_v {X : CX} {w0 : AH} {z : ZZ} {h : Nat} {r : Int32} {σ' : SM} (hE : XE X w0 4 (some .int) "name" (.returned (some (.int r))) (wM z h σ')) (σ : SM) (hf : mM_name_25 σ = some (r, σ')) : V X cX7_name RX7 7 4 (wM z h σ) 25 [some (.ref h), none, none, none, none, none, none] [] := by
  unfold mM_name_25 at hf
  refine V_aload_n dX7_name_25 rfl ?_
  refine V_iconst dX7_name_26 kc_m1 ?_
  obtain ⟨r2, σ3, hc1, hf⟩ := bd2_ex hf
  refine V_cV (av := [.int (-1 : Int32)]) (rest := []) (st' := [.int r2]) (mM_told_ok _ _ _ _ _ _ _ _ hc1) vcX7_125 (wM_k0 _ _ _) (by decide) rfl rfl (Nat.le_of_ble_eq_true rfl) dX7_name_27 rfl ?_
  cases some_ex hf
  exact V_iret hE dX7_name_30
set_option maxHeartbeats 4000000 in
theorem mM_name_ok (l : Launch) (D : DD) (z : ZZ) (h : Nat) (p0 : Int32) (p1 : Int32) (p2 : Int32) (p3 : Int32) (p4 : Int32) (p5 : Int32) (σ : SM) (r : Int32) (σ' : SM) (hf : mM_name p0 p1 p2 p3 p4 p5 σ = some (r, σ')) : MA l D yX7_name cX7_name 7 (some .int) 4 [.ref h, .int p0, .int p1, .int p2, .int p3, .int p4, .int p5] (wM z h σ) (.returned (some (.int r))) (wM z h σ') := by
  refine MA.intro (own := RX7) (nm := "name") (ls := [some (.ref h), some (.int p0), some (.int p1), some (.int p2), some (.int p3), some (.int p4), some (.int p5)]) (by decide) rfl rfl (Nat.le_of_ble_eq_true rfl) rfl (fun X hl hD hE => ?_)
  subst hl hD
  unfold mM_name at hf
  refine V_aload_n dX7_name_0 rfl ?_
  refine V_iconst dX7_name_1 kc_0 ?_
  obtain ⟨σ1, hs2, hf⟩ := st1_ex hf
  refine VM_putI fwX7_113 hs2 dX7_name_2 ?_
  refine V_iload_n dX7_name_5 rfl ?_
  refine V_iload_n dX7_name_6 rfl ?_
  refine V_iload dX7_name_7 rfl ?_
  refine V_iload dX7_name_9 rfl ?_
  obtain ⟨r4, hc3, hf⟩ := bd1_ex hf
  refine V_cS (rest := []) (st' := [.int r4]) (mM_isPerson_ok _ _ _ _ _ _ _ _ hc3) scX7_155 (by decide) rfl rfl (Nat.le_of_ble_eq_true rfl) dX7_name_11 rfl ?_
  refine V_if_eq (tgt := 25) dX7_name_14 (by decide) (fun hc5 => ?_) (fun hc5 => ?_)
  · have hf := if_t hf hc5
    refine V_keep [true, false, false, false, false, false, false] rfl ?_
    exact mM_name_25_v hE σ1 hf
  · have hf := if_f hf hc5
    refine V_iload dX7_name_17 rfl ?_
    obtain ⟨r7, hc6, hf⟩ := bd1_ex hf
    refine V_cS (rest := []) (st' := [.int r7]) (mM_isDay_ok _ _ _ _ _ hc6) scX7_159 (by decide) rfl rfl (Nat.le_of_ble_eq_true rfl) dX7_name_19 rfl ?_
    refine V_if_ne (tgt := 31) dX7_name_22 (by decide) (fun hc8 => ?_) (fun hc8 => ?_)
    · have hf := if_f hf hc8
      refine V_aload_n dX7_name_31 rfl ?_
      refine V_iload_n dX7_name_32 rfl ?_
      obtain ⟨r10, hc9, hf⟩ := bd1_ex hf
      refine V_cV (av := [.int p0]) (rest := []) (st' := [.int r10]) (mM_isPlace_ok _ _ _ _ _ _ _ hc9) vcX7_162 (wM_k0 _ _ _) (by decide) rfl rfl (Nat.le_of_ble_eq_true rfl) dX7_name_33 rfl ?_
      refine V_if_ne (tgt := 46) dX7_name_36 (by decide) (fun hc11 => ?_) (fun hc11 => ?_)
      · have hf := if_f hf hc11
        refine V_aload_n dX7_name_46 rfl ?_
        refine VM_getR fX7_7 ⟨rfl, rfl⟩ rfl dX7_name_47 ?_
        refine V_iconst dX7_name_50 kc_1 ?_
        refine VM_ldI (n := 23016) (k := 1) rfl (by decide) (by decide) dX7_name_51 ?_
        refine V_sipush dX7_name_52 ks_200 ?_
        refine V_icmp_ne (tgt := 65) dX7_name_55 (by decide) (fun hc12 => ?_) (fun hc12 => ?_)
        · have hf := if_f hf hc12
          refine V_aload_n dX7_name_65 rfl ?_
          refine V_iload_n dX7_name_66 rfl ?_
          refine V_iload_n dX7_name_67 rfl ?_
          refine V_iload_n dX7_name_68 rfl ?_
          refine V_iload dX7_name_69 rfl ?_
          refine V_iload dX7_name_71 rfl ?_
          refine V_iload dX7_name_73 rfl ?_
          obtain ⟨σ14, hc13, hf⟩ := bd1_ex hf
          refine V_cV (av := [.int p0, .int p1, .int p2, .int p3, .int p4, .int p5]) (rest := []) (st' := []) (mM_addName_ok _ _ _ _ _ _ _ _ _ _ _ _ hc13) vcX7_165 (wM_k0 _ _ _) (by decide) rfl rfl (Nat.le_of_ble_eq_true rfl) dX7_name_75 rfl ?_
          refine V_aload_n dX7_name_78 rfl ?_
          refine V_aload_n dX7_name_79 rfl ?_
          refine VM_getR fX7_7 ⟨rfl, rfl⟩ rfl dX7_name_80 ?_
          refine V_iconst dX7_name_83 kc_1 ?_
          refine VM_ldI (n := 23016) (k := 1) rfl (by decide) (by decide) dX7_name_84 ?_
          refine V_iconst dX7_name_85 kc_1 ?_
          refine V_isub dX7_name_86 ?_
          obtain ⟨r16, σ17, hc15, hf⟩ := bd2_ex hf
          refine V_cV (av := [.int ((gI σ14 1 1) - (1 : Int32))]) (rest := []) (st' := [.int r16]) (mM_told_ok _ _ _ _ _ _ _ _ hc15) vcX7_125 (wM_k0 _ _ _) (by decide) rfl rfl (Nat.le_of_ble_eq_true rfl) dX7_name_87 rfl ?_
          cases some_ex hf
          exact V_iret hE dX7_name_90
        · have hf := if_t hf hc12
          refine V_aload_n dX7_name_58 rfl ?_
          refine V_bipush dX7_name_59 kb_m5 ?_
          obtain ⟨r19, σ20, hc18, hf⟩ := bd2_ex hf
          refine V_cV (av := [.int (-5 : Int32)]) (rest := []) (st' := [.int r19]) (mM_told_ok _ _ _ _ _ _ _ _ hc18) vcX7_125 (wM_k0 _ _ _) (by decide) rfl rfl (Nat.le_of_ble_eq_true rfl) dX7_name_61 rfl ?_
          cases some_ex hf
          exact V_iret hE dX7_name_64
      · have hf := if_t hf hc11
        refine V_aload_n dX7_name_39 rfl ?_
        refine V_bipush dX7_name_40 kb_m2 ?_
        obtain ⟨r22, σ23, hc21, hf⟩ := bd2_ex hf
        refine V_cV (av := [.int (-2 : Int32)]) (rest := []) (st' := [.int r22]) (mM_told_ok _ _ _ _ _ _ _ _ hc21) vcX7_125 (wM_k0 _ _ _) (by decide) rfl rfl (Nat.le_of_ble_eq_true rfl) dX7_name_42 rfl ?_
        cases some_ex hf
        exact V_iret hE dX7_name_45
    · have hf := if_t hf hc8
      refine V_keep [true, false, false, false, false, false, false] rfl ?_
      exact mM_name_25_v hE σ1 hf
set_option maxHeartbeats 4000000 in
theorem mM_row_243_v {X : CX} {w0 : AH} {z : ZZ} {h : Nat} {r : Int32} {σ' : SM} (hE : XE X w0 4 (some .int) "row" (.returned (some (.int r))) (wM z h σ')) (k84 : Int32 → Int32 → Int32 → Int32 → Int32 → SM → Option (Int32 × SM)) (hk84 : ∀ (v1 : Int32) (v2 : Int32) (v3 : Int32) (v4 : Int32) (v5 : Int32) (σ : SM), k84 v1 v2 v3 v4 v5 σ = some (r, σ') → V X cX7_row RX7 7 4 (wM z h σ) 84 [some (.ref h), some (.int v1), some (.int v2), some (.int v3), some (.int v4), some (.int v5), none] []) (v1 : Int32) (v2 : Int32) (v3 : Int32) (v4 : Int32) (v5 : Int32) (σ : SM) (hf : mM_row_243 k84 v1 v2 v3 v4 v5 σ = some (r, σ')) : V X cX7_row RX7 7 4 (wM z h σ) 243 [some (.ref h), some (.int v1), some (.int v2), some (.int v3), some (.int v4), some (.int v5), none] [] := by
  unfold mM_row_243 at hf
  refine V_inc (ls' := [some (.ref h), some (.int v1), some (.int v2), some (.int v3), some (.int v4), some (.int (v5 + (1 : Int32))), none]) dX7_row_243 rfl kc_1 (by decide) rfl ?_
  refine V_goto (tgt := 84) dX7_row_246 (by decide) ?_
  exact hk84 v1 v2 v3 v4 (v5 + (1 : Int32)) σ hf
set_option maxHeartbeats 4000000 in
theorem mM_row_84_v {X : CX} {w0 : AH} {z : ZZ} {h : Nat} {r : Int32} {σ' : SM} (hE : XE X w0 4 (some .int) "row" (.returned (some (.int r))) (wM z h σ')) (k84 : Int32 → Int32 → Int32 → Int32 → Int32 → SM → Option (Int32 × SM)) (hk84 : ∀ (v1 : Int32) (v2 : Int32) (v3 : Int32) (v4 : Int32) (v5 : Int32) (σ : SM), k84 v1 v2 v3 v4 v5 σ = some (r, σ') → V X cX7_row RX7 7 4 (wM z h σ) 84 [some (.ref h), some (.int v1), some (.int v2), some (.int v3), some (.int v4), some (.int v5), none] []) (v1 : Int32) (v2 : Int32) (v3 : Int32) (v4 : Int32) (v5 : Int32) (σ : SM) (hf : mM_row_84 k84 v1 v2 v3 v4 v5 σ = some (r, σ')) : V X cX7_row RX7 7 4 (wM z h σ) 84 [some (.ref h), some (.int v1), some (.int v2), some (.int v3), some (.int v4), some (.int v5), none] [] := by
  unfold mM_row_84 at hf
  refine V_iload dX7_row_84 rfl ?_
  refine V_iload_n dX7_row_86 rfl ?_
  refine V_bipush dX7_row_87 kb_7 ?_
  refine V_idiv dX7_row_89 (by decide) ?_
  refine V_icmp_ge (tgt := 249) dX7_row_90 (by decide) (fun hc1 => ?_) (fun hc1 => ?_)
  · have hf := if_t hf hc1
    refine V_aload_n dX7_row_249 rfl ?_
    refine V_iload dX7_row_250 rfl ?_
    obtain ⟨r3, σ4, hc2, hf⟩ := bd2_ex hf
    refine V_cV (av := [.int v4]) (rest := []) (st' := [.int r3]) (mM_told_ok _ _ _ _ _ _ _ _ hc2) vcX7_125 (wM_k0 _ _ _) (by decide) rfl rfl (Nat.le_of_ble_eq_true rfl) dX7_row_252 rfl ?_
    cases some_ex hf
    exact V_iret hE dX7_row_255
  · have hf := if_f hf hc1
    refine V_aload_n dX7_row_93 rfl ?_
    refine VM_getR fX7_27 ⟨rfl, rfl⟩ rfl dX7_row_94 ?_
    refine V_bipush dX7_row_97 kb_7 ?_
    refine V_iload dX7_row_99 rfl ?_
    refine V_imul dX7_row_101 ?_
    refine V_iconst dX7_row_102 kc_3 ?_
    refine V_iadd dX7_row_103 ?_
    obtain ⟨hb5, hf⟩ := ck_ex hf
    refine VM_ldI (n := 400) (k := (((7 : Int32) * v5) + (3 : Int32)).toNatClampNeg) rfl hb5 rfl dX7_row_104 ?_
    refine V_bipush dX7_row_105 kb_24 ?_
    refine V_ishl dX7_row_107 ?_
    refine V_aload_n dX7_row_108 rfl ?_
    refine VM_getR fX7_27 ⟨rfl, rfl⟩ rfl dX7_row_109 ?_
    refine V_bipush dX7_row_112 kb_7 ?_
    refine V_iload dX7_row_114 rfl ?_
    refine V_imul dX7_row_116 ?_
    refine V_iconst dX7_row_117 kc_4 ?_
    refine V_iadd dX7_row_118 ?_
    obtain ⟨hb6, hf⟩ := ck_ex hf
    refine VM_ldI (n := 400) (k := (((7 : Int32) * v5) + (4 : Int32)).toNatClampNeg) rfl hb6 rfl dX7_row_119 ?_
    refine V_bipush dX7_row_120 kb_16 ?_
    refine V_ishl dX7_row_122 ?_
    refine V_ior dX7_row_123 ?_
    refine V_aload_n dX7_row_124 rfl ?_
    refine VM_getR fX7_27 ⟨rfl, rfl⟩ rfl dX7_row_125 ?_
    refine V_bipush dX7_row_128 kb_7 ?_
    refine V_iload dX7_row_130 rfl ?_
    refine V_imul dX7_row_132 ?_
    refine V_iconst dX7_row_133 kc_5 ?_
    refine V_iadd dX7_row_134 ?_
    obtain ⟨hb7, hf⟩ := ck_ex hf
    refine VM_ldI (n := 400) (k := (((7 : Int32) * v5) + (5 : Int32)).toNatClampNeg) rfl hb7 rfl dX7_row_135 ?_
    refine V_bipush dX7_row_136 kb_8 ?_
    refine V_ishl dX7_row_138 ?_
    refine V_ior dX7_row_139 ?_
    refine V_aload_n dX7_row_140 rfl ?_
    refine VM_getR fX7_27 ⟨rfl, rfl⟩ rfl dX7_row_141 ?_
    refine V_bipush dX7_row_144 kb_7 ?_
    refine V_iload dX7_row_146 rfl ?_
    refine V_imul dX7_row_148 ?_
    refine V_bipush dX7_row_149 kb_6 ?_
    refine V_iadd dX7_row_151 ?_
    obtain ⟨hb8, hf⟩ := ck_ex hf
    refine VM_ldI (n := 400) (k := (((7 : Int32) * v5) + (6 : Int32)).toNatClampNeg) rfl hb8 rfl dX7_row_152 ?_
    refine V_ior dX7_row_153 ?_
    refine V_istore (ls' := [some (.ref h), some (.int v1), some (.int v2), some (.int v3), some (.int v4), some (.int v5), some (.int (((((gI σ 6 ((((7 : Int32) * v5) + (3 : Int32)).toNatClampNeg)) <<< ((24 : Int32) &&& 31)) ||| ((gI σ 6 ((((7 : Int32) * v5) + (4 : Int32)).toNatClampNeg)) <<< ((16 : Int32) &&& 31))) ||| ((gI σ 6 ((((7 : Int32) * v5) + (5 : Int32)).toNatClampNeg)) <<< ((8 : Int32) &&& 31))) ||| (gI σ 6 ((((7 : Int32) * v5) + (6 : Int32)).toNatClampNeg))))]) dX7_row_154 (by decide) rfl ?_
    refine V_aload_n dX7_row_156 rfl ?_
    refine VM_getR fX7_27 ⟨rfl, rfl⟩ rfl dX7_row_157 ?_
    refine V_bipush dX7_row_160 kb_7 ?_
    refine V_iload dX7_row_162 rfl ?_
    refine V_imul dX7_row_164 ?_
    obtain ⟨hb9, hf⟩ := ck_ex hf
    refine VM_ldI (n := 400) (k := ((7 : Int32) * v5).toNatClampNeg) rfl hb9 rfl dX7_row_165 ?_
    refine V_aload_n dX7_row_166 rfl ?_
    refine VM_getR fX7_27 ⟨rfl, rfl⟩ rfl dX7_row_167 ?_
    refine V_bipush dX7_row_170 kb_7 ?_
    refine V_iload dX7_row_172 rfl ?_
    refine V_imul dX7_row_174 ?_
    refine V_iconst dX7_row_175 kc_1 ?_
    refine V_iadd dX7_row_176 ?_
    obtain ⟨hb10, hf⟩ := ck_ex hf
    refine VM_ldI (n := 400) (k := (((7 : Int32) * v5) + (1 : Int32)).toNatClampNeg) rfl hb10 rfl dX7_row_177 ?_
    refine V_aload_n dX7_row_178 rfl ?_
    refine VM_getR fX7_27 ⟨rfl, rfl⟩ rfl dX7_row_179 ?_
    refine V_bipush dX7_row_182 kb_7 ?_
    refine V_iload dX7_row_184 rfl ?_
    refine V_imul dX7_row_186 ?_
    refine V_iconst dX7_row_187 kc_2 ?_
    refine V_iadd dX7_row_188 ?_
    obtain ⟨hb11, hf⟩ := ck_ex hf
    refine VM_ldI (n := 400) (k := (((7 : Int32) * v5) + (2 : Int32)).toNatClampNeg) rfl hb11 rfl dX7_row_189 ?_
    refine V_iload dX7_row_190 rfl ?_
    obtain ⟨r13, hc12, hf⟩ := bd1_ex hf
    refine V_cS (rest := []) (st' := [.int r13]) (mM_isPerson_ok _ _ _ _ _ _ _ _ hc12) scX7_155 (by decide) rfl rfl (Nat.le_of_ble_eq_true rfl) dX7_row_192 rfl ?_
    refine V_if_eq (tgt := 243) dX7_row_195 (by decide) (fun hc14 => ?_) (fun hc14 => ?_)
    · have hf := if_t hf hc14
      refine V_keep [true, true, true, true, true, true, false] rfl ?_
      exact mM_row_243_v hE k84 hk84 v1 v2 v3 v4 v5 σ hf
    · have hf := if_f hf hc14
      refine V_aload_n dX7_row_198 rfl ?_
      refine V_iload_n dX7_row_199 rfl ?_
      refine V_aload_n dX7_row_200 rfl ?_
      refine VM_getR fX7_27 ⟨rfl, rfl⟩ rfl dX7_row_201 ?_
      refine V_bipush dX7_row_204 kb_7 ?_
      refine V_iload dX7_row_206 rfl ?_
      refine V_imul dX7_row_208 ?_
      obtain ⟨hb15, hf⟩ := ck_ex hf
      refine VM_ldI (n := 400) (k := ((7 : Int32) * v5).toNatClampNeg) rfl hb15 rfl dX7_row_209 ?_
      refine V_aload_n dX7_row_210 rfl ?_
      refine VM_getR fX7_27 ⟨rfl, rfl⟩ rfl dX7_row_211 ?_
      refine V_bipush dX7_row_214 kb_7 ?_
      refine V_iload dX7_row_216 rfl ?_
      refine V_imul dX7_row_218 ?_
      refine V_iconst dX7_row_219 kc_1 ?_
      refine V_iadd dX7_row_220 ?_
      obtain ⟨hb16, hf⟩ := ck_ex hf
      refine VM_ldI (n := 400) (k := (((7 : Int32) * v5) + (1 : Int32)).toNatClampNeg) rfl hb16 rfl dX7_row_221 ?_
      refine V_aload_n dX7_row_222 rfl ?_
      refine VM_getR fX7_27 ⟨rfl, rfl⟩ rfl dX7_row_223 ?_
      refine V_bipush dX7_row_226 kb_7 ?_
      refine V_iload dX7_row_228 rfl ?_
      refine V_imul dX7_row_230 ?_
      refine V_iconst dX7_row_231 kc_2 ?_
      refine V_iadd dX7_row_232 ?_
      obtain ⟨hb17, hf⟩ := ck_ex hf
      refine VM_ldI (n := 400) (k := (((7 : Int32) * v5) + (2 : Int32)).toNatClampNeg) rfl hb17 rfl dX7_row_233 ?_
      refine V_iload dX7_row_234 rfl ?_
      refine V_iload_n dX7_row_236 rfl ?_
      obtain ⟨σ19, hc18, hf⟩ := bd1_ex hf
      refine V_cV (av := [.int v1, .int (gI σ 6 (((7 : Int32) * v5).toNatClampNeg)), .int (gI σ 6 ((((7 : Int32) * v5) + (1 : Int32)).toNatClampNeg)), .int (gI σ 6 ((((7 : Int32) * v5) + (2 : Int32)).toNatClampNeg)), .int (((((gI σ 6 ((((7 : Int32) * v5) + (3 : Int32)).toNatClampNeg)) <<< ((24 : Int32) &&& 31)) ||| ((gI σ 6 ((((7 : Int32) * v5) + (4 : Int32)).toNatClampNeg)) <<< ((16 : Int32) &&& 31))) ||| ((gI σ 6 ((((7 : Int32) * v5) + (5 : Int32)).toNatClampNeg)) <<< ((8 : Int32) &&& 31))) ||| (gI σ 6 ((((7 : Int32) * v5) + (6 : Int32)).toNatClampNeg))), .int v2]) (rest := []) (st' := []) (mM_addName_ok _ _ _ _ _ _ _ _ _ _ _ _ hc18) vcX7_165 (wM_k0 _ _ _) (by decide) rfl rfl (Nat.le_of_ble_eq_true rfl) dX7_row_237 rfl ?_
      refine V_inc (ls' := [some (.ref h), some (.int v1), some (.int v2), some (.int v3), some (.int (v4 + (1 : Int32))), some (.int v5), some (.int (((((gI σ 6 ((((7 : Int32) * v5) + (3 : Int32)).toNatClampNeg)) <<< ((24 : Int32) &&& 31)) ||| ((gI σ 6 ((((7 : Int32) * v5) + (4 : Int32)).toNatClampNeg)) <<< ((16 : Int32) &&& 31))) ||| ((gI σ 6 ((((7 : Int32) * v5) + (5 : Int32)).toNatClampNeg)) <<< ((8 : Int32) &&& 31))) ||| (gI σ 6 ((((7 : Int32) * v5) + (6 : Int32)).toNatClampNeg))))]) dX7_row_240 rfl kc_1 (by decide) rfl ?_
      refine V_keep [true, true, true, true, true, true, false] rfl ?_
      exact mM_row_243_v hE k84 hk84 v1 v2 v3 (v4 + (1 : Int32)) v5 σ19 hf
set_option maxHeartbeats 4000000 in
theorem mM_row_ok (l : Launch) (D : DD) (z : ZZ) (h : Nat) (p0 : Int32) (p1 : Int32) (σ : SM) (r : Int32) (σ' : SM) (hf : mM_row p0 p1 σ = some (r, σ')) : MA l D yX7_row cX7_row 7 (some .int) 4 [.ref h, .int p0, .int p1] (wM z h σ) (.returned (some (.int r))) (wM z h σ') := by
  refine MA.intro (own := RX7) (nm := "row") (ls := [some (.ref h), some (.int p0), some (.int p1), none, none, none, none]) (by decide) rfl rfl (Nat.le_of_ble_eq_true rfl) rfl (fun X hl hD hE => ?_)
  subst hl hD
  unfold mM_row at hf
  refine V_aload_n dX7_row_0 rfl ?_
  refine V_iconst dX7_row_1 kc_0 ?_
  obtain ⟨σ1, hs2, hf⟩ := st1_ex hf
  refine VM_putI fwX7_113 hs2 dX7_row_2 ?_
  refine V_aload_n dX7_row_5 rfl ?_
  refine VM_getI fX7_169 rfl dX7_row_6 ?_
  refine V_istore_n (ls' := [some (.ref h), some (.int p0), some (.int p1), some (.int (gI σ1 0 10)), none, none, none]) dX7_row_9 (by decide) rfl ?_
  refine V_aload_n dX7_row_10 rfl ?_
  refine V_iconst dX7_row_11 kc_0 ?_
  obtain ⟨σ3, hs4, hf⟩ := st1_ex hf
  refine VM_putI fwX7_169 hs4 dX7_row_12 ?_
  refine V_iload_n dX7_row_15 rfl ?_
  obtain ⟨r6, hc5, hf⟩ := bd1_ex hf
  refine V_cS (rest := []) (st' := [.int r6]) (mM_isDay_ok _ _ _ _ _ hc5) scX7_159 (by decide) rfl rfl (Nat.le_of_ble_eq_true rfl) dX7_row_16 rfl ?_
  refine V_if_ne (tgt := 28) dX7_row_19 (by decide) (fun hc7 => ?_) (fun hc7 => ?_)
  · have hf := if_f hf hc7
    refine V_aload_n dX7_row_28 rfl ?_
    refine V_iload_n dX7_row_29 rfl ?_
    obtain ⟨r9, hc8, hf⟩ := bd1_ex hf
    refine V_cV (av := [.int p0]) (rest := []) (st' := [.int r9]) (mM_isPlace_ok _ _ _ _ _ _ _ hc8) vcX7_162 (wM_k0 _ _ _) (by decide) rfl rfl (Nat.le_of_ble_eq_true rfl) dX7_row_30 rfl ?_
    refine V_if_ne (tgt := 43) dX7_row_33 (by decide) (fun hc10 => ?_) (fun hc10 => ?_)
    · have hf := if_f hf hc10
      refine V_aload_n dX7_row_43 rfl ?_
      refine VM_getR fX7_7 ⟨rfl, rfl⟩ rfl dX7_row_44 ?_
      refine V_iconst dX7_row_47 kc_1 ?_
      refine VM_ldI (n := 23016) (k := 1) rfl (by decide) (by decide) dX7_row_48 ?_
      refine V_iload_n dX7_row_49 rfl ?_
      refine V_bipush dX7_row_50 kb_7 ?_
      refine V_idiv dX7_row_52 (by decide) ?_
      refine V_iadd dX7_row_53 ?_
      refine V_sipush dX7_row_54 ks_200 ?_
      refine V_icmp_le (tgt := 67) dX7_row_57 (by decide) (fun hc11 => ?_) (fun hc11 => ?_)
      · have hf := if_t hf hc11
        refine V_iload_n dX7_row_67 rfl ?_
        refine V_if_ne (tgt := 78) dX7_row_68 (by decide) (fun hc12 => ?_) (fun hc12 => ?_)
        · have hf := if_f hf hc12
          refine V_iconst dX7_row_78 kc_0 ?_
          refine V_istore (ls' := [some (.ref h), some (.int p0), some (.int p1), some (.int (gI σ1 0 10)), some (.int (0 : Int32)), none, none]) dX7_row_79 (by decide) rfl ?_
          refine V_iconst dX7_row_81 kc_0 ?_
          refine V_istore (ls' := [some (.ref h), some (.int p0), some (.int p1), some (.int (gI σ1 0 10)), some (.int (0 : Int32)), some (.int (0 : Int32)), none]) dX7_row_82 (by decide) rfl ?_
          exact lq6_ex (P := fun v1 v2 v3 v4 v5 σ => V X cX7_row RX7 7 4 (wM z h σ) 84 [some (.ref h), some (.int v1), some (.int v2), some (.int v3), some (.int v4), some (.int v5), none] []) (fun k hk v1 v2 v3 v4 v5 σ hf => mM_row_84_v hE k hk v1 v2 v3 v4 v5 σ hf) LF p0 p1 (gI σ1 0 10) (0 : Int32) (0 : Int32) σ3 hf
        · have hf := if_t hf hc12
          refine V_aload_n dX7_row_71 rfl ?_
          refine V_bipush dX7_row_72 kb_m6 ?_
          obtain ⟨r14, σ15, hc13, hf⟩ := bd2_ex hf
          refine V_cV (av := [.int (-6 : Int32)]) (rest := []) (st' := [.int r14]) (mM_told_ok _ _ _ _ _ _ _ _ hc13) vcX7_125 (wM_k0 _ _ _) (by decide) rfl rfl (Nat.le_of_ble_eq_true rfl) dX7_row_74 rfl ?_
          cases some_ex hf
          exact V_iret hE dX7_row_77
      · have hf := if_f hf hc11
        refine V_aload_n dX7_row_60 rfl ?_
        refine V_bipush dX7_row_61 kb_m5 ?_
        obtain ⟨r17, σ18, hc16, hf⟩ := bd2_ex hf
        refine V_cV (av := [.int (-5 : Int32)]) (rest := []) (st' := [.int r17]) (mM_told_ok _ _ _ _ _ _ _ _ hc16) vcX7_125 (wM_k0 _ _ _) (by decide) rfl rfl (Nat.le_of_ble_eq_true rfl) dX7_row_63 rfl ?_
        cases some_ex hf
        exact V_iret hE dX7_row_66
    · have hf := if_t hf hc10
      refine V_aload_n dX7_row_36 rfl ?_
      refine V_bipush dX7_row_37 kb_m2 ?_
      obtain ⟨r20, σ21, hc19, hf⟩ := bd2_ex hf
      refine V_cV (av := [.int (-2 : Int32)]) (rest := []) (st' := [.int r20]) (mM_told_ok _ _ _ _ _ _ _ _ hc19) vcX7_125 (wM_k0 _ _ _) (by decide) rfl rfl (Nat.le_of_ble_eq_true rfl) dX7_row_39 rfl ?_
      cases some_ex hf
      exact V_iret hE dX7_row_42
  · have hf := if_t hf hc7
    refine V_aload_n dX7_row_22 rfl ?_
    refine V_iconst dX7_row_23 kc_m1 ?_
    obtain ⟨r23, σ24, hc22, hf⟩ := bd2_ex hf
    refine V_cV (av := [.int (-1 : Int32)]) (rest := []) (st' := [.int r23]) (mM_told_ok _ _ _ _ _ _ _ _ hc22) vcX7_125 (wM_k0 _ _ _) (by decide) rfl rfl (Nat.le_of_ble_eq_true rfl) dX7_row_24 rfl ?_
    cases some_ex hf
    exact V_iret hE dX7_row_27
set_option maxHeartbeats 4000000 in
theorem mM_isName_ok (l : Launch) (D : DD) (z : ZZ) (h : Nat) (p0 : Int32) (σ : SM) (r : Int32) (hf : mM_isName p0 σ = some r) : MA l D yX7_isName cX7_isName 2 (some .boolean) 2 [.ref h, .int p0] (wM z h σ) (.returned (some (.int r))) (wM z h σ) := by
  refine MA.intro (own := RX7) (nm := "isName") (ls := [some (.ref h), some (.int p0)]) (by decide) rfl rfl (Nat.le_of_ble_eq_true rfl) rfl (fun X hl hD hE => ?_)
  subst hl hD
  unfold mM_isName at hf
  refine V_iload_n dX7_isName_0 rfl ?_
  refine V_i2l dX7_isName_1 ?_
  refine V_lconst dX7_isName_2 kl_0 ?_
  refine V_aload_n dX7_isName_3 rfl ?_
  refine VM_getR fX7_7 ⟨rfl, rfl⟩ rfl dX7_isName_4 ?_
  refine V_iconst dX7_isName_7 kc_1 ?_
  refine VM_ldI (n := 23016) (k := 1) rfl (by decide) (by decide) dX7_isName_8 ?_
  refine V_i2l dX7_isName_9 ?_
  refine V_lconst dX7_isName_10 kl_1 ?_
  refine V_lsub dX7_isName_11 ?_
  obtain ⟨r2, hc1, hf⟩ := bd1_ex hf
  refine V_cS (rest := []) (st' := [.int r2]) (mM_in_ok _ _ _ _ _ _ _ hc1) scX7_121 (by decide) rfl rfl (Nat.le_of_ble_eq_true rfl) dX7_isName_12 rfl ?_
  obtain ⟨hb3, hf⟩ := ck_ex hf
  cases some_ex hf
  exact V_zret hE (isZ_nar hb3) dX7_isName_15
set_option maxHeartbeats 4000000 in
theorem mM_off_19_v {X : CX} {w0 : AH} {z : ZZ} {h : Nat} {r : Int32} {σ' : SM} (hE : XE X w0 3 (some .int) "off" (.returned (some (.int r))) (wM z h σ')) (σ : SM) (hf : mM_off_19 σ = some (r, σ')) : V X cX7_off RX7 5 3 (wM z h σ) 19 [some (.ref h), none, none, none, none] [] := by
  unfold mM_off_19 at hf
  refine V_aload_n dX7_off_19 rfl ?_
  refine V_iconst dX7_off_20 kc_m1 ?_
  obtain ⟨r2, σ3, hc1, hf⟩ := bd2_ex hf
  refine V_cV (av := [.int (-1 : Int32)]) (rest := []) (st' := [.int r2]) (mM_told_ok _ _ _ _ _ _ _ _ hc1) vcX7_125 (wM_k0 _ _ _) (by decide) rfl rfl (Nat.le_of_ble_eq_true rfl) dX7_off_21 rfl ?_
  cases some_ex hf
  exact V_iret hE dX7_off_24
set_option maxHeartbeats 4000000 in
theorem mM_off_ok (l : Launch) (D : DD) (z : ZZ) (h : Nat) (p0 : Int32) (p1 : Int32) (p2 : Int32) (σ : SM) (r : Int32) (σ' : SM) (hf : mM_off p0 p1 p2 σ = some (r, σ')) : MA l D yX7_off cX7_off 5 (some .int) 3 [.ref h, .int p0, .int p1, .int p2] (wM z h σ) (.returned (some (.int r))) (wM z h σ') := by
  refine MA.intro (own := RX7) (nm := "off") (ls := [some (.ref h), some (.int p0), some (.int p1), some (.int p2), none]) (by decide) rfl rfl (Nat.le_of_ble_eq_true rfl) rfl (fun X hl hD hE => ?_)
  subst hl hD
  unfold mM_off at hf
  refine V_aload_n dX7_off_0 rfl ?_
  refine V_iconst dX7_off_1 kc_0 ?_
  obtain ⟨σ1, hs2, hf⟩ := st1_ex hf
  refine VM_putI fwX7_113 hs2 dX7_off_2 ?_
  refine V_iload_n dX7_off_5 rfl ?_
  obtain ⟨r4, hc3, hf⟩ := bd1_ex hf
  refine V_cS (rest := []) (st' := [.int r4]) (mM_isDay_ok _ _ _ _ _ hc3) scX7_159 (by decide) rfl rfl (Nat.le_of_ble_eq_true rfl) dX7_off_6 rfl ?_
  refine V_if_eq (tgt := 19) dX7_off_9 (by decide) (fun hc5 => ?_) (fun hc5 => ?_)
  · have hf := if_t hf hc5
    refine V_keep [true, false, false, false, true] rfl ?_
    exact mM_off_19_v hE σ1 hf
  · have hf := if_f hf hc5
    refine V_iload_n dX7_off_12 rfl ?_
    obtain ⟨r7, hc6, hf⟩ := bd1_ex hf
    refine V_cS (rest := []) (st' := [.int r7]) (mM_isDay_ok _ _ _ _ _ hc6) scX7_159 (by decide) rfl rfl (Nat.le_of_ble_eq_true rfl) dX7_off_13 rfl ?_
    refine V_if_ne (tgt := 25) dX7_off_16 (by decide) (fun hc8 => ?_) (fun hc8 => ?_)
    · have hf := if_f hf hc8
      refine V_aload_n dX7_off_25 rfl ?_
      refine V_iload_n dX7_off_26 rfl ?_
      obtain ⟨r10, hc9, hf⟩ := bd1_ex hf
      refine V_cV (av := [.int p0]) (rest := []) (st' := [.int r10]) (mM_isName_ok _ _ _ _ _ _ _ hc9) vcX7_172 (wM_k0 _ _ _) (by decide) rfl rfl (Nat.le_of_ble_eq_true rfl) dX7_off_27 rfl ?_
      refine V_if_ne (tgt := 40) dX7_off_30 (by decide) (fun hc11 => ?_) (fun hc11 => ?_)
      · have hf := if_f hf hc11
        refine V_iload_n dX7_off_40 rfl ?_
        obtain ⟨r13, hc12, hf⟩ := bd1_ex hf
        refine V_cS (rest := []) (st' := [.int r13]) (mM_nameAt_ok _ _ _ _ _ hc12) scX7_148 (by decide) rfl rfl (Nat.le_of_ble_eq_true rfl) dX7_off_41 rfl ?_
        refine V_bipush dX7_off_44 kb_6 ?_
        refine V_iadd dX7_off_46 ?_
        refine V_istore (ls' := [some (.ref h), some (.int p0), some (.int p1), some (.int p2), some (.int (r13 + (6 : Int32)))]) dX7_off_47 (by decide) rfl ?_
        refine V_aload_n dX7_off_49 rfl ?_
        refine VM_getR fX7_7 ⟨rfl, rfl⟩ rfl dX7_off_50 ?_
        refine V_iload dX7_off_53 rfl ?_
        obtain ⟨hb14, hf⟩ := ck_ex hf
        refine VM_ldI (n := 23016) (k := (r13 + (6 : Int32)).toNatClampNeg) rfl hb14 rfl dX7_off_55 ?_
        refine V_iconst dX7_off_56 kc_m1 ?_
        refine V_icmp_eq (tgt := 67) dX7_off_57 (by decide) (fun hc15 => ?_) (fun hc15 => ?_)
        · have hf := if_t hf hc15
          refine V_aload_n dX7_off_67 rfl ?_
          refine VM_getR fX7_7 ⟨rfl, rfl⟩ rfl dX7_off_68 ?_
          refine V_iload dX7_off_71 rfl ?_
          refine V_iload_n dX7_off_73 rfl ?_
          obtain ⟨hb16, hf⟩ := ck_ex hf
          obtain ⟨σ17, hs18, hf⟩ := st1_ex hf
          refine VM_stI (n := 23016) (k := (r13 + (6 : Int32)).toNatClampNeg) rfl hb16 rfl hs18 dX7_off_74 ?_
          refine V_aload_n dX7_off_75 rfl ?_
          refine VM_getR fX7_7 ⟨rfl, rfl⟩ rfl dX7_off_76 ?_
          refine V_iload dX7_off_79 rfl ?_
          refine V_iconst dX7_off_81 kc_1 ?_
          refine V_iadd dX7_off_82 ?_
          refine V_iload_n dX7_off_83 rfl ?_
          obtain ⟨hb19, hf⟩ := ck_ex hf
          obtain ⟨σ20, hs21, hf⟩ := st1_ex hf
          refine VM_stI (n := 23016) (k := ((r13 + (6 : Int32)) + (1 : Int32)).toNatClampNeg) rfl hb19 rfl hs21 dX7_off_84 ?_
          refine V_aload_n dX7_off_85 rfl ?_
          refine V_iconst dX7_off_86 kc_0 ?_
          obtain ⟨r23, σ24, hc22, hf⟩ := bd2_ex hf
          refine V_cV (av := [.int (0 : Int32)]) (rest := []) (st' := [.int r23]) (mM_told_ok _ _ _ _ _ _ _ _ hc22) vcX7_125 (wM_k0 _ _ _) (by decide) rfl rfl (Nat.le_of_ble_eq_true rfl) dX7_off_87 rfl ?_
          cases some_ex hf
          exact V_iret hE dX7_off_90
        · have hf := if_f hf hc15
          refine V_aload_n dX7_off_60 rfl ?_
          refine V_bipush dX7_off_61 kb_m4 ?_
          obtain ⟨r26, σ27, hc25, hf⟩ := bd2_ex hf
          refine V_cV (av := [.int (-4 : Int32)]) (rest := []) (st' := [.int r26]) (mM_told_ok _ _ _ _ _ _ _ _ hc25) vcX7_125 (wM_k0 _ _ _) (by decide) rfl rfl (Nat.le_of_ble_eq_true rfl) dX7_off_63 rfl ?_
          cases some_ex hf
          exact V_iret hE dX7_off_66
      · have hf := if_t hf hc11
        refine V_aload_n dX7_off_33 rfl ?_
        refine V_bipush dX7_off_34 kb_m2 ?_
        obtain ⟨r29, σ30, hc28, hf⟩ := bd2_ex hf
        refine V_cV (av := [.int (-2 : Int32)]) (rest := []) (st' := [.int r29]) (mM_told_ok _ _ _ _ _ _ _ _ hc28) vcX7_125 (wM_k0 _ _ _) (by decide) rfl rfl (Nat.le_of_ble_eq_true rfl) dX7_off_36 rfl ?_
        cases some_ex hf
        exact V_iret hE dX7_off_39
    · have hf := if_t hf hc8
      refine V_keep [true, false, false, false, true] rfl ?_
      exact mM_off_19_v hE σ1 hf
set_option maxHeartbeats 4000000 in
theorem mM_moved_20_v {X : CX} {w0 : AH} {z : ZZ} {h : Nat} {r : Int32} {σ' : SM} (hE : XE X w0 3 (some .int) "moved" (.returned (some (.int r))) (wM z h σ')) (σ : SM) (hf : mM_moved_20 σ = some (r, σ')) : V X cX7_moved RX7 6 3 (wM z h σ) 20 [some (.ref h), none, none, none, none, none] [] := by
  unfold mM_moved_20 at hf
  refine V_aload_n dX7_moved_20 rfl ?_
  refine V_iconst dX7_moved_21 kc_m1 ?_
  obtain ⟨r2, σ3, hc1, hf⟩ := bd2_ex hf
  refine V_cV (av := [.int (-1 : Int32)]) (rest := []) (st' := [.int r2]) (mM_told_ok _ _ _ _ _ _ _ _ hc1) vcX7_125 (wM_k0 _ _ _) (by decide) rfl rfl (Nat.le_of_ble_eq_true rfl) dX7_moved_22 rfl ?_
  cases some_ex hf
  exact V_iret hE dX7_moved_25
set_option maxHeartbeats 4000000 in
theorem mM_moved_42_v {X : CX} {w0 : AH} {z : ZZ} {h : Nat} {r : Int32} {σ' : SM} (hE : XE X w0 3 (some .int) "moved" (.returned (some (.int r))) (wM z h σ')) (σ : SM) (hf : mM_moved_42 σ = some (r, σ')) : V X cX7_moved RX7 6 3 (wM z h σ) 42 [some (.ref h), none, none, none, none, none] [] := by
  unfold mM_moved_42 at hf
  refine V_aload_n dX7_moved_42 rfl ?_
  refine V_bipush dX7_moved_43 kb_m2 ?_
  obtain ⟨r2, σ3, hc1, hf⟩ := bd2_ex hf
  refine V_cV (av := [.int (-2 : Int32)]) (rest := []) (st' := [.int r2]) (mM_told_ok _ _ _ _ _ _ _ _ hc1) vcX7_125 (wM_k0 _ _ _) (by decide) rfl rfl (Nat.le_of_ble_eq_true rfl) dX7_moved_45 rfl ?_
  cases some_ex hf
  exact V_iret hE dX7_moved_48
set_option maxHeartbeats 4000000 in
theorem mM_moved_ok (l : Launch) (D : DD) (z : ZZ) (h : Nat) (p0 : Int32) (p1 : Int32) (p2 : Int32) (p3 : Int32) (σ : SM) (r : Int32) (σ' : SM) (hf : mM_moved p0 p1 p2 p3 σ = some (r, σ')) : MA l D yX7_moved cX7_moved 6 (some .int) 3 [.ref h, .int p0, .int p1, .int p2, .int p3] (wM z h σ) (.returned (some (.int r))) (wM z h σ') := by
  refine MA.intro (own := RX7) (nm := "moved") (ls := [some (.ref h), some (.int p0), some (.int p1), some (.int p2), some (.int p3), none]) (by decide) rfl rfl (Nat.le_of_ble_eq_true rfl) rfl (fun X hl hD hE => ?_)
  subst hl hD
  unfold mM_moved at hf
  refine V_aload_n dX7_moved_0 rfl ?_
  refine V_iconst dX7_moved_1 kc_0 ?_
  obtain ⟨σ1, hs2, hf⟩ := st1_ex hf
  refine VM_putI fwX7_113 hs2 dX7_moved_2 ?_
  refine V_iload_n dX7_moved_5 rfl ?_
  obtain ⟨r4, hc3, hf⟩ := bd1_ex hf
  refine V_cS (rest := []) (st' := [.int r4]) (mM_isDay_ok _ _ _ _ _ hc3) scX7_159 (by decide) rfl rfl (Nat.le_of_ble_eq_true rfl) dX7_moved_6 rfl ?_
  refine V_if_eq (tgt := 20) dX7_moved_9 (by decide) (fun hc5 => ?_) (fun hc5 => ?_)
  · have hf := if_t hf hc5
    refine V_keep [true, false, false, false, false, true] rfl ?_
    exact mM_moved_20_v hE σ1 hf
  · have hf := if_f hf hc5
    refine V_iload dX7_moved_12 rfl ?_
    obtain ⟨r7, hc6, hf⟩ := bd1_ex hf
    refine V_cS (rest := []) (st' := [.int r7]) (mM_isDay_ok _ _ _ _ _ hc6) scX7_159 (by decide) rfl rfl (Nat.le_of_ble_eq_true rfl) dX7_moved_14 rfl ?_
    refine V_if_ne (tgt := 26) dX7_moved_17 (by decide) (fun hc8 => ?_) (fun hc8 => ?_)
    · have hf := if_f hf hc8
      refine V_aload_n dX7_moved_26 rfl ?_
      refine V_iload_n dX7_moved_27 rfl ?_
      obtain ⟨r10, hc9, hf⟩ := bd1_ex hf
      refine V_cV (av := [.int p0]) (rest := []) (st' := [.int r10]) (mM_isName_ok _ _ _ _ _ _ _ hc9) vcX7_172 (wM_k0 _ _ _) (by decide) rfl rfl (Nat.le_of_ble_eq_true rfl) dX7_moved_28 rfl ?_
      refine V_if_eq (tgt := 42) dX7_moved_31 (by decide) (fun hc11 => ?_) (fun hc11 => ?_)
      · have hf := if_t hf hc11
        refine V_keep [true, false, false, false, false, true] rfl ?_
        exact mM_moved_42_v hE σ1 hf
      · have hf := if_f hf hc11
        refine V_aload_n dX7_moved_34 rfl ?_
        refine V_iload_n dX7_moved_35 rfl ?_
        obtain ⟨r13, hc12, hf⟩ := bd1_ex hf
        refine V_cV (av := [.int p1]) (rest := []) (st' := [.int r13]) (mM_isPlace_ok _ _ _ _ _ _ _ hc12) vcX7_162 (wM_k0 _ _ _) (by decide) rfl rfl (Nat.le_of_ble_eq_true rfl) dX7_moved_36 rfl ?_
        refine V_if_ne (tgt := 49) dX7_moved_39 (by decide) (fun hc14 => ?_) (fun hc14 => ?_)
        · have hf := if_f hf hc14
          refine V_aload_n dX7_moved_49 rfl ?_
          refine VM_getR fX7_7 ⟨rfl, rfl⟩ rfl dX7_moved_50 ?_
          refine V_iload_n dX7_moved_53 rfl ?_
          obtain ⟨r16, hc15, hf⟩ := bd1_ex hf
          refine V_cS (rest := [.ref (h + 1)]) (st' := [.int r16, .ref (h + 1)]) (mM_nameAt_ok _ _ _ _ _ hc15) scX7_148 (by decide) rfl rfl (Nat.le_of_ble_eq_true rfl) dX7_moved_54 rfl ?_
          obtain ⟨hb17, hf⟩ := ck_ex hf
          refine VM_ldI (n := 23016) (k := r16.toNatClampNeg) rfl hb17 rfl dX7_moved_57 ?_
          refine V_iload_n dX7_moved_58 rfl ?_
          refine V_icmp_ne (tgt := 69) dX7_moved_59 (by decide) (fun hc18 => ?_) (fun hc18 => ?_)
          · have hf := if_f hf hc18
            refine V_iload_n dX7_moved_69 rfl ?_
            obtain ⟨r20, hc19, hf⟩ := bd1_ex hf
            refine V_cS (rest := []) (st' := [.int r20]) (mM_nameAt_ok _ _ _ _ _ hc19) scX7_148 (by decide) rfl rfl (Nat.le_of_ble_eq_true rfl) dX7_moved_70 rfl ?_
            refine V_bipush dX7_moved_73 kb_8 ?_
            refine V_iadd dX7_moved_75 ?_
            refine V_istore (ls' := [some (.ref h), some (.int p0), some (.int p1), some (.int p2), some (.int p3), some (.int (r20 + (8 : Int32)))]) dX7_moved_76 (by decide) rfl ?_
            refine V_aload_n dX7_moved_78 rfl ?_
            refine VM_getR fX7_7 ⟨rfl, rfl⟩ rfl dX7_moved_79 ?_
            refine V_iload dX7_moved_82 rfl ?_
            obtain ⟨hb21, hf⟩ := ck_ex hf
            refine VM_ldI (n := 23016) (k := (r20 + (8 : Int32)).toNatClampNeg) rfl hb21 rfl dX7_moved_84 ?_
            refine V_iconst dX7_moved_85 kc_m1 ?_
            refine V_icmp_eq (tgt := 96) dX7_moved_86 (by decide) (fun hc22 => ?_) (fun hc22 => ?_)
            · have hf := if_t hf hc22
              refine V_aload_n dX7_moved_96 rfl ?_
              refine VM_getR fX7_7 ⟨rfl, rfl⟩ rfl dX7_moved_97 ?_
              refine V_iload dX7_moved_100 rfl ?_
              refine V_iload_n dX7_moved_102 rfl ?_
              obtain ⟨hb23, hf⟩ := ck_ex hf
              obtain ⟨σ24, hs25, hf⟩ := st1_ex hf
              refine VM_stI (n := 23016) (k := (r20 + (8 : Int32)).toNatClampNeg) rfl hb23 rfl hs25 dX7_moved_103 ?_
              refine V_aload_n dX7_moved_104 rfl ?_
              refine VM_getR fX7_7 ⟨rfl, rfl⟩ rfl dX7_moved_105 ?_
              refine V_iload dX7_moved_108 rfl ?_
              refine V_iconst dX7_moved_110 kc_1 ?_
              refine V_iadd dX7_moved_111 ?_
              refine V_iload_n dX7_moved_112 rfl ?_
              obtain ⟨hb26, hf⟩ := ck_ex hf
              obtain ⟨σ27, hs28, hf⟩ := st1_ex hf
              refine VM_stI (n := 23016) (k := ((r20 + (8 : Int32)) + (1 : Int32)).toNatClampNeg) rfl hb26 rfl hs28 dX7_moved_113 ?_
              refine V_aload_n dX7_moved_114 rfl ?_
              refine VM_getR fX7_7 ⟨rfl, rfl⟩ rfl dX7_moved_115 ?_
              refine V_iload dX7_moved_118 rfl ?_
              refine V_iconst dX7_moved_120 kc_2 ?_
              refine V_iadd dX7_moved_121 ?_
              refine V_iload dX7_moved_122 rfl ?_
              obtain ⟨hb29, hf⟩ := ck_ex hf
              obtain ⟨σ30, hs31, hf⟩ := st1_ex hf
              refine VM_stI (n := 23016) (k := ((r20 + (8 : Int32)) + (2 : Int32)).toNatClampNeg) rfl hb29 rfl hs31 dX7_moved_124 ?_
              refine V_aload_n dX7_moved_125 rfl ?_
              refine V_iconst dX7_moved_126 kc_0 ?_
              obtain ⟨r33, σ34, hc32, hf⟩ := bd2_ex hf
              refine V_cV (av := [.int (0 : Int32)]) (rest := []) (st' := [.int r33]) (mM_told_ok _ _ _ _ _ _ _ _ hc32) vcX7_125 (wM_k0 _ _ _) (by decide) rfl rfl (Nat.le_of_ble_eq_true rfl) dX7_moved_127 rfl ?_
              cases some_ex hf
              exact V_iret hE dX7_moved_130
            · have hf := if_f hf hc22
              refine V_aload_n dX7_moved_89 rfl ?_
              refine V_bipush dX7_moved_90 kb_m4 ?_
              obtain ⟨r36, σ37, hc35, hf⟩ := bd2_ex hf
              refine V_cV (av := [.int (-4 : Int32)]) (rest := []) (st' := [.int r36]) (mM_told_ok _ _ _ _ _ _ _ _ hc35) vcX7_125 (wM_k0 _ _ _) (by decide) rfl rfl (Nat.le_of_ble_eq_true rfl) dX7_moved_92 rfl ?_
              cases some_ex hf
              exact V_iret hE dX7_moved_95
          · have hf := if_t hf hc18
            refine V_aload_n dX7_moved_62 rfl ?_
            refine V_bipush dX7_moved_63 kb_m3 ?_
            obtain ⟨r39, σ40, hc38, hf⟩ := bd2_ex hf
            refine V_cV (av := [.int (-3 : Int32)]) (rest := []) (st' := [.int r39]) (mM_told_ok _ _ _ _ _ _ _ _ hc38) vcX7_125 (wM_k0 _ _ _) (by decide) rfl rfl (Nat.le_of_ble_eq_true rfl) dX7_moved_65 rfl ?_
            cases some_ex hf
            exact V_iret hE dX7_moved_68
        · have hf := if_t hf hc14
          refine V_keep [true, false, false, false, false, true] rfl ?_
          exact mM_moved_42_v hE σ1 hf
    · have hf := if_t hf hc8
      refine V_keep [true, false, false, false, false, true] rfl ?_
      exact mM_moved_20_v hE σ1 hf
set_option maxHeartbeats 4000000 in
theorem mM_of_ok (l : Launch) (D : DD) (z : ZZ) (h : Nat) (p0 : Int32) (p1 : Int32) (σ : SM) (r : Int32) (σ' : SM) (hf : mM_of p0 p1 σ = some (r, σ')) : MA l D yX7_of cX7_of 3 (some .int) 3 [.ref h, .int p0, .int p1] (wM z h σ) (.returned (some (.int r))) (wM z h σ') := by
  refine MA.intro (own := RX7) (nm := "of") (ls := [some (.ref h), some (.int p0), some (.int p1)]) (by decide) rfl rfl (Nat.le_of_ble_eq_true rfl) rfl (fun X hl hD hE => ?_)
  subst hl hD
  unfold mM_of at hf
  refine V_aload_n dX7_of_0 rfl ?_
  refine V_iconst dX7_of_1 kc_0 ?_
  obtain ⟨σ1, hs2, hf⟩ := st1_ex hf
  refine VM_putI fwX7_113 hs2 dX7_of_2 ?_
  refine V_aload_n dX7_of_5 rfl ?_
  refine V_iload_n dX7_of_6 rfl ?_
  obtain ⟨r4, hc3, hf⟩ := bd1_ex hf
  refine V_cV (av := [.int p0]) (rest := []) (st' := [.int r4]) (mM_isName_ok _ _ _ _ _ _ _ hc3) vcX7_172 (wM_k0 _ _ _) (by decide) rfl rfl (Nat.le_of_ble_eq_true rfl) dX7_of_7 rfl ?_
  refine V_if_eq (tgt := 39) dX7_of_10 (by decide) (fun hc5 => ?_) (fun hc5 => ?_)
  · have hf := if_t hf hc5
    refine V_iconst dX7_of_39 kc_m1 ?_
    cases some_ex hf
    exact V_iret hE dX7_of_40
  · have hf := if_f hf hc5
    refine V_iload_n dX7_of_13 rfl ?_
    refine V_i2l dX7_of_14 ?_
    refine V_lconst dX7_of_15 kl_0 ?_
    refine V_ldc2 q2034 dX7_of_16 ?_
    obtain ⟨r7, hc6, hf⟩ := bd1_ex hf
    refine V_cS (rest := []) (st' := [.int r7]) (mM_in_ok _ _ _ _ _ _ _ hc6) scX7_121 (by decide) rfl rfl (Nat.le_of_ble_eq_true rfl) dX7_of_19 rfl ?_
    refine V_if_eq (tgt := 39) dX7_of_22 (by decide) (fun hc8 => ?_) (fun hc8 => ?_)
    · have hf := if_t hf hc8
      refine V_iconst dX7_of_39 kc_m1 ?_
      cases some_ex hf
      exact V_iret hE dX7_of_40
    · have hf := if_f hf hc8
      refine V_aload_n dX7_of_25 rfl ?_
      refine VM_getR fX7_7 ⟨rfl, rfl⟩ rfl dX7_of_26 ?_
      refine V_iload_n dX7_of_29 rfl ?_
      obtain ⟨r10, hc9, hf⟩ := bd1_ex hf
      refine V_cS (rest := [.ref (h + 1)]) (st' := [.int r10, .ref (h + 1)]) (mM_nameAt_ok _ _ _ _ _ hc9) scX7_148 (by decide) rfl rfl (Nat.le_of_ble_eq_true rfl) dX7_of_30 rfl ?_
      refine V_iload_n dX7_of_33 rfl ?_
      refine V_iadd dX7_of_34 ?_
      obtain ⟨hb11, hf⟩ := ck_ex hf
      refine VM_ldI (n := 23016) (k := (r10 + p1).toNatClampNeg) rfl hb11 rfl dX7_of_35 ?_
      refine V_goto (tgt := 40) dX7_of_36 (by decide) ?_
      cases some_ex hf
      exact V_iret hE dX7_of_40
set_option maxHeartbeats 4000000 in
theorem mM_hasMoved_ok (l : Launch) (D : DD) (z : ZZ) (h : Nat) (p0 : Int32) (p1 : Int32) (p2 : Int32) (σ : SM) (r : Int32) (hf : mM_hasMoved p0 p1 p2 σ = some r) : MA l D yX7_hasMoved cX7_hasMoved 5 (some .boolean) 2 [.ref h, .int p0, .int p1, .int p2] (wM z h σ) (.returned (some (.int r))) (wM z h σ) := by
  refine MA.intro (own := RX7) (nm := "hasMoved") (ls := [some (.ref h), some (.int p0), some (.int p1), some (.int p2), none]) (by decide) rfl rfl (Nat.le_of_ble_eq_true rfl) rfl (fun X hl hD hE => ?_)
  subst hl hD
  unfold mM_hasMoved at hf
  refine V_iload_n dX7_hasMoved_0 rfl ?_
  obtain ⟨r2, hc1, hf⟩ := bd1_ex hf
  refine V_cS (rest := []) (st' := [.int r2]) (mM_nameAt_ok _ _ _ _ _ hc1) scX7_148 (by decide) rfl rfl (Nat.le_of_ble_eq_true rfl) dX7_hasMoved_1 rfl ?_
  refine V_bipush dX7_hasMoved_4 kb_8 ?_
  refine V_iadd dX7_hasMoved_6 ?_
  refine V_istore (ls' := [some (.ref h), some (.int p0), some (.int p1), some (.int p2), some (.int (r2 + (8 : Int32)))]) dX7_hasMoved_7 (by decide) rfl ?_
  refine V_aload_n dX7_hasMoved_9 rfl ?_
  refine VM_getR fX7_7 ⟨rfl, rfl⟩ rfl dX7_hasMoved_10 ?_
  refine V_iload dX7_hasMoved_13 rfl ?_
  obtain ⟨hb3, hf⟩ := ck_ex hf
  refine VM_ldI (n := 23016) (k := (r2 + (8 : Int32)).toNatClampNeg) rfl hb3 rfl dX7_hasMoved_15 ?_
  refine V_iconst dX7_hasMoved_16 kc_m1 ?_
  refine V_icmp_eq (tgt := 50) dX7_hasMoved_17 (by decide) (fun hc4 => ?_) (fun hc4 => ?_)
  · have hf := if_t hf hc4
    refine V_iconst dX7_hasMoved_50 kc_0 ?_
    cases some_ex hf
    exact V_zret hE (by decide) dX7_hasMoved_51
  · have hf := if_f hf hc4
    refine V_aload_n dX7_hasMoved_20 rfl ?_
    refine VM_getR fX7_7 ⟨rfl, rfl⟩ rfl dX7_hasMoved_21 ?_
    refine V_iload dX7_hasMoved_24 rfl ?_
    refine V_iconst dX7_hasMoved_26 kc_1 ?_
    refine V_iadd dX7_hasMoved_27 ?_
    obtain ⟨hb5, hf⟩ := ck_ex hf
    refine VM_ldI (n := 23016) (k := ((r2 + (8 : Int32)) + (1 : Int32)).toNatClampNeg) rfl hb5 rfl dX7_hasMoved_28 ?_
    refine V_iload_n dX7_hasMoved_29 rfl ?_
    refine V_icmp_gt (tgt := 50) dX7_hasMoved_30 (by decide) (fun hc6 => ?_) (fun hc6 => ?_)
    · have hf := if_t hf hc6
      refine V_iconst dX7_hasMoved_50 kc_0 ?_
      cases some_ex hf
      exact V_zret hE (by decide) dX7_hasMoved_51
    · have hf := if_f hf hc6
      refine V_aload_n dX7_hasMoved_33 rfl ?_
      refine VM_getR fX7_7 ⟨rfl, rfl⟩ rfl dX7_hasMoved_34 ?_
      refine V_iload dX7_hasMoved_37 rfl ?_
      refine V_iconst dX7_hasMoved_39 kc_2 ?_
      refine V_iadd dX7_hasMoved_40 ?_
      obtain ⟨hb7, hf⟩ := ck_ex hf
      refine VM_ldI (n := 23016) (k := ((r2 + (8 : Int32)) + (2 : Int32)).toNatClampNeg) rfl hb7 rfl dX7_hasMoved_41 ?_
      refine V_iload_n dX7_hasMoved_42 rfl ?_
      refine V_icmp_gt (tgt := 50) dX7_hasMoved_43 (by decide) (fun hc8 => ?_) (fun hc8 => ?_)
      · have hf := if_t hf hc8
        refine V_iconst dX7_hasMoved_50 kc_0 ?_
        cases some_ex hf
        exact V_zret hE (by decide) dX7_hasMoved_51
      · have hf := if_f hf hc8
        refine V_iconst dX7_hasMoved_46 kc_1 ?_
        refine V_goto (tgt := 51) dX7_hasMoved_47 (by decide) ?_
        cases some_ex hf
        exact V_zret hE (by decide) dX7_hasMoved_51
set_option maxHeartbeats 4000000 in
theorem mM_whereOf_ok (l : Launch) (D : DD) (z : ZZ) (h : Nat) (p0 : Int32) (p1 : Int32) (p2 : Int32) (σ : SM) (r : Int32) (hf : mM_whereOf p0 p1 p2 σ = some r) : MA l D yX7_whereOf cX7_whereOf 4 (some .int) 3 [.ref h, .int p0, .int p1, .int p2] (wM z h σ) (.returned (some (.int r))) (wM z h σ) := by
  refine MA.intro (own := RX7) (nm := "whereOf") (ls := [some (.ref h), some (.int p0), some (.int p1), some (.int p2)]) (by decide) rfl rfl (Nat.le_of_ble_eq_true rfl) rfl (fun X hl hD hE => ?_)
  subst hl hD
  unfold mM_whereOf at hf
  refine V_aload_n dX7_whereOf_0 rfl ?_
  refine V_iload_n dX7_whereOf_1 rfl ?_
  refine V_iload_n dX7_whereOf_2 rfl ?_
  refine V_iload_n dX7_whereOf_3 rfl ?_
  obtain ⟨r2, hc1, hf⟩ := bd1_ex hf
  refine V_cV (av := [.int p0, .int p1, .int p2]) (rest := []) (st' := [.int r2]) (mM_hasMoved_ok _ _ _ _ _ _ _ _ _ hc1) vcX7_177 (wM_k0 _ _ _) (by decide) rfl rfl (Nat.le_of_ble_eq_true rfl) dX7_whereOf_4 rfl ?_
  refine V_if_eq (tgt := 25) dX7_whereOf_7 (by decide) (fun hc3 => ?_) (fun hc3 => ?_)
  · have hf := if_t hf hc3
    refine V_aload_n dX7_whereOf_25 rfl ?_
    refine VM_getR fX7_7 ⟨rfl, rfl⟩ rfl dX7_whereOf_26 ?_
    refine V_iload_n dX7_whereOf_29 rfl ?_
    obtain ⟨r5, hc4, hf⟩ := bd1_ex hf
    refine V_cS (rest := [.ref (h + 1)]) (st' := [.int r5, .ref (h + 1)]) (mM_nameAt_ok _ _ _ _ _ hc4) scX7_148 (by decide) rfl rfl (Nat.le_of_ble_eq_true rfl) dX7_whereOf_30 rfl ?_
    obtain ⟨hb6, hf⟩ := ck_ex hf
    refine VM_ldI (n := 23016) (k := r5.toNatClampNeg) rfl hb6 rfl dX7_whereOf_33 ?_
    cases some_ex hf
    exact V_iret hE dX7_whereOf_34
  · have hf := if_f hf hc3
    refine V_aload_n dX7_whereOf_10 rfl ?_
    refine VM_getR fX7_7 ⟨rfl, rfl⟩ rfl dX7_whereOf_11 ?_
    refine V_iload_n dX7_whereOf_14 rfl ?_
    obtain ⟨r8, hc7, hf⟩ := bd1_ex hf
    refine V_cS (rest := [.ref (h + 1)]) (st' := [.int r8, .ref (h + 1)]) (mM_nameAt_ok _ _ _ _ _ hc7) scX7_148 (by decide) rfl rfl (Nat.le_of_ble_eq_true rfl) dX7_whereOf_15 rfl ?_
    refine V_bipush dX7_whereOf_18 kb_8 ?_
    refine V_iadd dX7_whereOf_20 ?_
    obtain ⟨hb9, hf⟩ := ck_ex hf
    refine VM_ldI (n := 23016) (k := (r8 + (8 : Int32)).toNatClampNeg) rfl hb9 rfl dX7_whereOf_21 ?_
    refine V_goto (tgt := 34) dX7_whereOf_22 (by decide) ?_
    cases some_ex hf
    exact V_iret hE dX7_whereOf_34
set_option maxHeartbeats 4000000 in
theorem mM_where_ok (l : Launch) (D : DD) (z : ZZ) (h : Nat) (p0 : Int32) (p1 : Int32) (p2 : Int32) (σ : SM) (r : Int32) (σ' : SM) (hf : mM_where p0 p1 p2 σ = some (r, σ')) : MA l D yX7_where cX7_where 4 (some .int) 4 [.ref h, .int p0, .int p1, .int p2] (wM z h σ) (.returned (some (.int r))) (wM z h σ') := by
  refine MA.intro (own := RX7) (nm := "where") (ls := [some (.ref h), some (.int p0), some (.int p1), some (.int p2)]) (by decide) rfl rfl (Nat.le_of_ble_eq_true rfl) rfl (fun X hl hD hE => ?_)
  subst hl hD
  unfold mM_where at hf
  refine V_aload_n dX7_where_0 rfl ?_
  refine V_iconst dX7_where_1 kc_0 ?_
  obtain ⟨σ1, hs2, hf⟩ := st1_ex hf
  refine VM_putI fwX7_113 hs2 dX7_where_2 ?_
  refine V_aload_n dX7_where_5 rfl ?_
  refine V_iload_n dX7_where_6 rfl ?_
  obtain ⟨r4, hc3, hf⟩ := bd1_ex hf
  refine V_cV (av := [.int p0]) (rest := []) (st' := [.int r4]) (mM_isName_ok _ _ _ _ _ _ _ hc3) vcX7_172 (wM_k0 _ _ _) (by decide) rfl rfl (Nat.le_of_ble_eq_true rfl) dX7_where_7 rfl ?_
  refine V_if_eq (tgt := 52) dX7_where_10 (by decide) (fun hc5 => ?_) (fun hc5 => ?_)
  · have hf := if_t hf hc5
    refine V_iconst dX7_where_52 kc_m1 ?_
    cases some_ex hf
    exact V_iret hE dX7_where_53
  · have hf := if_f hf hc5
    refine V_iload_n dX7_where_13 rfl ?_
    obtain ⟨r7, hc6, hf⟩ := bd1_ex hf
    refine V_cS (rest := []) (st' := [.int r7]) (mM_isDay_ok _ _ _ _ _ hc6) scX7_159 (by decide) rfl rfl (Nat.le_of_ble_eq_true rfl) dX7_where_14 rfl ?_
    refine V_if_eq (tgt := 52) dX7_where_17 (by decide) (fun hc8 => ?_) (fun hc8 => ?_)
    · have hf := if_t hf hc8
      refine V_iconst dX7_where_52 kc_m1 ?_
      cases some_ex hf
      exact V_iret hE dX7_where_53
    · have hf := if_f hf hc8
      refine V_iload_n dX7_where_20 rfl ?_
      obtain ⟨r10, hc9, hf⟩ := bd1_ex hf
      refine V_cS (rest := []) (st' := [.int r10]) (mM_isDay_ok _ _ _ _ _ hc9) scX7_159 (by decide) rfl rfl (Nat.le_of_ble_eq_true rfl) dX7_where_21 rfl ?_
      refine V_if_eq (tgt := 52) dX7_where_24 (by decide) (fun hc11 => ?_) (fun hc11 => ?_)
      · have hf := if_t hf hc11
        refine V_iconst dX7_where_52 kc_m1 ?_
        cases some_ex hf
        exact V_iret hE dX7_where_53
      · have hf := if_f hf hc11
        refine V_aload_n dX7_where_27 rfl ?_
        refine VM_getR fX7_7 ⟨rfl, rfl⟩ rfl dX7_where_28 ?_
        refine V_iload_n dX7_where_31 rfl ?_
        obtain ⟨r13, hc12, hf⟩ := bd1_ex hf
        refine V_cS (rest := [.ref (h + 1)]) (st' := [.int r13, .ref (h + 1)]) (mM_nameAt_ok _ _ _ _ _ hc12) scX7_148 (by decide) rfl rfl (Nat.le_of_ble_eq_true rfl) dX7_where_32 rfl ?_
        refine V_iconst dX7_where_35 kc_5 ?_
        refine V_iadd dX7_where_36 ?_
        obtain ⟨hb14, hf⟩ := ck_ex hf
        refine VM_ldI (n := 23016) (k := (r13 + (5 : Int32)).toNatClampNeg) rfl hb14 rfl dX7_where_37 ?_
        refine V_iload_n dX7_where_38 rfl ?_
        refine V_icmp_gt (tgt := 52) dX7_where_39 (by decide) (fun hc15 => ?_) (fun hc15 => ?_)
        · have hf := if_t hf hc15
          refine V_iconst dX7_where_52 kc_m1 ?_
          cases some_ex hf
          exact V_iret hE dX7_where_53
        · have hf := if_f hf hc15
          refine V_aload_n dX7_where_42 rfl ?_
          refine V_iload_n dX7_where_43 rfl ?_
          refine V_iload_n dX7_where_44 rfl ?_
          refine V_iload_n dX7_where_45 rfl ?_
          obtain ⟨r17, hc16, hf⟩ := bd1_ex hf
          refine V_cV (av := [.int p0, .int p1, .int p2]) (rest := []) (st' := [.int r17]) (mM_whereOf_ok _ _ _ _ _ _ _ _ _ hc16) vcX7_181 (wM_k0 _ _ _) (by decide) rfl rfl (Nat.le_of_ble_eq_true rfl) dX7_where_46 rfl ?_
          refine V_goto (tgt := 53) dX7_where_49 (by decide) ?_
          cases some_ex hf
          exact V_iret hE dX7_where_53
set_option maxHeartbeats 4000000 in
theorem mM_textAt_ok (l : Launch) (D : DD) (w : AH) (p0 : Int32) (r : Int32) (hf : mM_textAt p0 = some r) : MA l D yX7_textAt cX7_textAt 1 (some .int) 1 [.int p0] w (.returned (some (.int r))) w := by
  refine MA.intro (own := RX7) (nm := "textAt") (ls := [some (.int p0)]) (by decide) rfl rfl (Nat.le_of_ble_eq_true rfl) rfl (fun X hl hD hE => ?_)
  subst hl hD
  unfold mM_textAt at hf
  refine V_sipush dX7_textAt_0 ks_5056 ?_
  refine V_sipush dX7_textAt_3 ks_898 ?_
  refine V_iload_n dX7_textAt_6 rfl ?_
  refine V_imul dX7_textAt_7 ?_
  refine V_iadd dX7_textAt_8 ?_
  cases some_ex hf
  exact V_iret hE dX7_textAt_9
set_option maxHeartbeats 4000000 in
theorem mM_clauseAt_ok (l : Launch) (D : DD) (w : AH) (p0 : Int32) (p1 : Int32) (r : Int32) (hf : mM_clauseAt p0 p1 = some r) : MA l D yX7_clauseAt cX7_clauseAt 2 (some .int) 2 [.int p0, .int p1] w (.returned (some (.int r))) w := by
  refine MA.intro (own := RX7) (nm := "clauseAt") (ls := [some (.int p0), some (.int p1)]) (by decide) rfl rfl (Nat.le_of_ble_eq_true rfl) rfl (fun X hl hD hE => ?_)
  subst hl hD
  unfold mM_clauseAt at hf
  refine V_iload_n dX7_clauseAt_0 rfl ?_
  obtain ⟨r2, hc1, hf⟩ := bd1_ex hf
  refine V_cS (rest := []) (st' := [.int r2]) (mM_textAt_ok _ _ _ _ _ hc1) scX7_423 (by decide) rfl rfl (Nat.le_of_ble_eq_true rfl) dX7_clauseAt_1 rfl ?_
  refine V_iconst dX7_clauseAt_4 kc_2 ?_
  refine V_iadd dX7_clauseAt_5 ?_
  refine V_bipush dX7_clauseAt_6 kb_8 ?_
  refine V_iload_n dX7_clauseAt_8 rfl ?_
  refine V_imul dX7_clauseAt_9 ?_
  refine V_iadd dX7_clauseAt_10 ?_
  cases some_ex hf
  exact V_iret hE dX7_clauseAt_11
set_option maxHeartbeats 4000000 in
theorem mM_findForce_163_v {X : CX} {w0 : AH} {z : ZZ} {h : Nat} {σ' : SM} (hE : XE X w0 3 none "findForce" (.returned none) (wM z h σ')) (k31 : Int32 → Int32 → SM → Option (SM)) (hk31 : ∀ (v1 : Int32) (v2 : Int32) (σ : SM), k31 v1 v2 σ = some σ' → V X cX7_findForce RX7 5 3 (wM z h σ) 31 [some (.ref h), some (.int v1), some (.int v2), none, none] []) (v1 : Int32) (v2 : Int32) (σ : SM) (hf : mM_findForce_163 k31 v1 v2 σ = some σ') : V X cX7_findForce RX7 5 3 (wM z h σ) 163 [some (.ref h), some (.int v1), some (.int v2), none, none] [] := by
  unfold mM_findForce_163 at hf
  refine V_inc (ls' := [some (.ref h), some (.int v1), some (.int (v2 + (-1 : Int32))), none, none]) dX7_findForce_163 rfl kc_m1 (by decide) rfl ?_
  refine V_goto (tgt := 31) dX7_findForce_166 (by decide) ?_
  exact hk31 v1 (v2 + (-1 : Int32)) σ hf
set_option maxHeartbeats 4000000 in
theorem mM_findForce_157_v {X : CX} {w0 : AH} {z : ZZ} {h : Nat} {σ' : SM} (hE : XE X w0 3 none "findForce" (.returned none) (wM z h σ')) (k61 : Int32 → Int32 → Int32 → SM → Option (SM)) (hk61 : ∀ (v1 : Int32) (v2 : Int32) (v3 : Int32) (σ : SM), k61 v1 v2 v3 σ = some σ' → V X cX7_findForce RX7 5 3 (wM z h σ) 61 [some (.ref h), some (.int v1), some (.int v2), some (.int v3), none] []) (v1 : Int32) (v2 : Int32) (v3 : Int32) (σ : SM) (hf : mM_findForce_157 k61 v1 v2 v3 σ = some σ') : V X cX7_findForce RX7 5 3 (wM z h σ) 157 [some (.ref h), some (.int v1), some (.int v2), some (.int v3), none] [] := by
  unfold mM_findForce_157 at hf
  refine V_inc (ls' := [some (.ref h), some (.int v1), some (.int v2), some (.int (v3 + (1 : Int32))), none]) dX7_findForce_157 rfl kc_1 (by decide) rfl ?_
  refine V_goto (tgt := 61) dX7_findForce_160 (by decide) ?_
  exact hk61 v1 v2 (v3 + (1 : Int32)) σ hf
set_option maxHeartbeats 4000000 in
theorem mM_findForce_61_v {X : CX} {w0 : AH} {z : ZZ} {h : Nat} {σ' : SM} (hE : XE X w0 3 none "findForce" (.returned none) (wM z h σ')) (k31 : Int32 → Int32 → SM → Option (SM)) (hk31 : ∀ (v1 : Int32) (v2 : Int32) (σ : SM), k31 v1 v2 σ = some σ' → V X cX7_findForce RX7 5 3 (wM z h σ) 31 [some (.ref h), some (.int v1), some (.int v2), none, none] []) (k61 : Int32 → Int32 → Int32 → SM → Option (SM)) (hk61 : ∀ (v1 : Int32) (v2 : Int32) (v3 : Int32) (σ : SM), k61 v1 v2 v3 σ = some σ' → V X cX7_findForce RX7 5 3 (wM z h σ) 61 [some (.ref h), some (.int v1), some (.int v2), some (.int v3), none] []) (v1 : Int32) (v2 : Int32) (v3 : Int32) (σ : SM) (hf : mM_findForce_61 k31 k61 v1 v2 v3 σ = some σ') : V X cX7_findForce RX7 5 3 (wM z h σ) 61 [some (.ref h), some (.int v1), some (.int v2), some (.int v3), none] [] := by
  unfold mM_findForce_61 at hf
  refine V_iload_n dX7_findForce_61 rfl ?_
  refine V_aload_n dX7_findForce_62 rfl ?_
  refine VM_getR fX7_7 ⟨rfl, rfl⟩ rfl dX7_findForce_63 ?_
  refine V_iload_n dX7_findForce_66 rfl ?_
  obtain ⟨r2, hc1, hf⟩ := bd1_ex hf
  refine V_cS (rest := [.ref (h + 1), .int v3]) (st' := [.int r2, .ref (h + 1), .int v3]) (mM_textAt_ok _ _ _ _ _ hc1) scX7_423 (by decide) rfl rfl (Nat.le_of_ble_eq_true rfl) dX7_findForce_67 rfl ?_
  refine V_iconst dX7_findForce_70 kc_1 ?_
  refine V_iadd dX7_findForce_71 ?_
  obtain ⟨hb3, hf⟩ := ck_ex hf
  refine VM_ldI (n := 23016) (k := (r2 + (1 : Int32)).toNatClampNeg) rfl hb3 rfl dX7_findForce_72 ?_
  refine V_icmp_ge (tgt := 163) dX7_findForce_73 (by decide) (fun hc4 => ?_) (fun hc4 => ?_)
  · have hf := if_t hf hc4
    refine V_keep [true, true, true, false, true] rfl ?_
    exact mM_findForce_163_v hE k31 hk31 v1 v2 σ hf
  · have hf := if_f hf hc4
    refine V_aload_n dX7_findForce_76 rfl ?_
    refine VM_getR fX7_49 ⟨rfl, rfl⟩ rfl dX7_findForce_77 ?_
    refine V_iload_n dX7_findForce_80 rfl ?_
    obtain ⟨hb5, hf⟩ := ck_ex hf
    refine VM_ldZ (n := 20) (k := v2.toNatClampNeg) rfl hb5 rfl dX7_findForce_81 ?_
    refine V_if_eq (tgt := 163) dX7_findForce_82 (by decide) (fun hc6 => ?_) (fun hc6 => ?_)
    · have hf := if_t hf hc6
      refine V_keep [true, true, true, false, true] rfl ?_
      exact mM_findForce_163_v hE k31 hk31 v1 v2 σ hf
    · have hf := if_f hf hc6
      refine V_iload_n dX7_findForce_85 rfl ?_
      refine V_iload_n dX7_findForce_86 rfl ?_
      obtain ⟨r8, hc7, hf⟩ := bd1_ex hf
      refine V_cS (rest := []) (st' := [.int r8]) (mM_clauseAt_ok _ _ _ _ _ _ hc7) scX7_426 (by decide) rfl rfl (Nat.le_of_ble_eq_true rfl) dX7_findForce_87 rfl ?_
      refine V_istore (ls' := [some (.ref h), some (.int v1), some (.int v2), some (.int v3), some (.int r8)]) dX7_findForce_90 (by decide) rfl ?_
      refine V_aload_n dX7_findForce_92 rfl ?_
      refine VM_getR fX7_7 ⟨rfl, rfl⟩ rfl dX7_findForce_93 ?_
      refine V_iload dX7_findForce_96 rfl ?_
      obtain ⟨hb9, hf⟩ := ck_ex hf
      refine VM_ldI (n := 23016) (k := r8.toNatClampNeg) rfl hb9 rfl dX7_findForce_98 ?_
      refine V_if_ne (tgt := 157) dX7_findForce_99 (by decide) (fun hc10 => ?_) (fun hc10 => ?_)
      · have hf := if_f hf hc10
        refine V_keep [true, true, true, true, false] rfl ?_
        exact mM_findForce_157_v hE k61 hk61 v1 v2 v3 σ hf
      · have hf := if_t hf hc10
        refine V_aload_n dX7_findForce_102 rfl ?_
        refine VM_getR fX7_52 ⟨rfl, rfl⟩ rfl dX7_findForce_103 ?_
        refine V_bipush dX7_findForce_106 kb_12 ?_
        refine V_iload_n dX7_findForce_108 rfl ?_
        refine V_imul dX7_findForce_109 ?_
        refine V_iload_n dX7_findForce_110 rfl ?_
        refine V_iadd dX7_findForce_111 ?_
        obtain ⟨hb11, hf⟩ := ck_ex hf
        refine VM_ldZ (n := 240) (k := (((12 : Int32) * v2) + v3).toNatClampNeg) rfl hb11 rfl dX7_findForce_112 ?_
        refine V_if_ne (tgt := 157) dX7_findForce_113 (by decide) (fun hc12 => ?_) (fun hc12 => ?_)
        · have hf := if_f hf hc12
          refine V_keep [true, true, true, true, false] rfl ?_
          exact mM_findForce_157_v hE k61 hk61 v1 v2 v3 σ hf
        · have hf := if_t hf hc12
          refine V_aload_n dX7_findForce_116 rfl ?_
          refine VM_getR fX7_7 ⟨rfl, rfl⟩ rfl dX7_findForce_117 ?_
          refine V_iload dX7_findForce_120 rfl ?_
          refine V_iconst dX7_findForce_122 kc_1 ?_
          refine V_iadd dX7_findForce_123 ?_
          obtain ⟨hb13, hf⟩ := ck_ex hf
          refine VM_ldI (n := 23016) (k := (r8 + (1 : Int32)).toNatClampNeg) rfl hb13 rfl dX7_findForce_124 ?_
          refine V_iload_n dX7_findForce_125 rfl ?_
          refine V_icmp_ge (tgt := 157) dX7_findForce_126 (by decide) (fun hc14 => ?_) (fun hc14 => ?_)
          · have hf := if_t hf hc14
            refine V_keep [true, true, true, true, false] rfl ?_
            exact mM_findForce_157_v hE k61 hk61 v1 v2 v3 σ hf
          · have hf := if_f hf hc14
            refine V_aload_n dX7_findForce_129 rfl ?_
            refine VM_getR fX7_52 ⟨rfl, rfl⟩ rfl dX7_findForce_130 ?_
            refine V_bipush dX7_findForce_133 kb_12 ?_
            refine V_aload_n dX7_findForce_135 rfl ?_
            refine VM_getR fX7_7 ⟨rfl, rfl⟩ rfl dX7_findForce_136 ?_
            refine V_iload dX7_findForce_139 rfl ?_
            refine V_iconst dX7_findForce_141 kc_1 ?_
            refine V_iadd dX7_findForce_142 ?_
            obtain ⟨hb15, hf⟩ := ck_ex hf
            refine VM_ldI (n := 23016) (k := (r8 + (1 : Int32)).toNatClampNeg) rfl hb15 rfl dX7_findForce_143 ?_
            refine V_imul dX7_findForce_144 ?_
            refine V_aload_n dX7_findForce_145 rfl ?_
            refine VM_getR fX7_7 ⟨rfl, rfl⟩ rfl dX7_findForce_146 ?_
            refine V_iload dX7_findForce_149 rfl ?_
            refine V_iconst dX7_findForce_151 kc_2 ?_
            refine V_iadd dX7_findForce_152 ?_
            obtain ⟨hb16, hf⟩ := ck_ex hf
            refine VM_ldI (n := 23016) (k := (r8 + (2 : Int32)).toNatClampNeg) rfl hb16 rfl dX7_findForce_153 ?_
            refine V_iadd dX7_findForce_154 ?_
            refine V_iconst dX7_findForce_155 kc_1 ?_
            obtain ⟨hb17, hf⟩ := ck_ex hf
            obtain ⟨σ18, hs19, hf⟩ := st1_ex hf
            refine VM_stZ (n := 240) (k := (((12 : Int32) * (gI σ 1 ((r8 + (1 : Int32)).toNatClampNeg))) + (gI σ 1 ((r8 + (2 : Int32)).toNatClampNeg))).toNatClampNeg) rfl hb17 rfl (by decide) hs19 dX7_findForce_156 ?_
            refine V_keep [true, true, true, true, false] rfl ?_
            exact mM_findForce_157_v hE k61 hk61 v1 v2 v3 σ18 hf
set_option maxHeartbeats 4000000 in
theorem mM_findForce_58_v {X : CX} {w0 : AH} {z : ZZ} {h : Nat} {σ' : SM} (hE : XE X w0 3 none "findForce" (.returned none) (wM z h σ')) (k31 : Int32 → Int32 → SM → Option (SM)) (hk31 : ∀ (v1 : Int32) (v2 : Int32) (σ : SM), k31 v1 v2 σ = some σ' → V X cX7_findForce RX7 5 3 (wM z h σ) 31 [some (.ref h), some (.int v1), some (.int v2), none, none] []) (v1 : Int32) (v2 : Int32) (t0 : Int32) (t1 : Int32) (σ : SM) (hf : mM_findForce_58 k31 v1 v2 t0 t1 σ = some σ') : V X cX7_findForce RX7 5 3 (wM z h σ) 58 [some (.ref h), some (.int v1), some (.int v2), none, none] [.int t0, .int t1, .ref (h + 12)] := by
  unfold mM_findForce_58 at hf
  obtain ⟨hb1, hf⟩ := ck_ex hf
  obtain ⟨hb2, hf⟩ := ck_ex hf
  obtain ⟨σ3, hs4, hf⟩ := st1_ex hf
  refine VM_stZ (n := 20) (k := t1.toNatClampNeg) rfl hb1 rfl hb2 hs4 dX7_findForce_58 ?_
  refine V_iconst dX7_findForce_59 kc_0 ?_
  refine V_istore_n (ls' := [some (.ref h), some (.int v1), some (.int v2), some (.int (0 : Int32)), none]) dX7_findForce_60 (by decide) rfl ?_
  exact lq4_ex (P := fun v1 v2 v3 σ => V X cX7_findForce RX7 5 3 (wM z h σ) 61 [some (.ref h), some (.int v1), some (.int v2), some (.int v3), none] []) (fun k hk v1 v2 v3 σ hf => mM_findForce_61_v hE k31 hk31 k hk v1 v2 v3 σ hf) LF v1 v2 (0 : Int32) σ3 hf
set_option maxHeartbeats 4000000 in
theorem mM_findForce_31_v {X : CX} {w0 : AH} {z : ZZ} {h : Nat} {σ' : SM} (hE : XE X w0 3 none "findForce" (.returned none) (wM z h σ')) (k31 : Int32 → Int32 → SM → Option (SM)) (hk31 : ∀ (v1 : Int32) (v2 : Int32) (σ : SM), k31 v1 v2 σ = some σ' → V X cX7_findForce RX7 5 3 (wM z h σ) 31 [some (.ref h), some (.int v1), some (.int v2), none, none] []) (v1 : Int32) (v2 : Int32) (σ : SM) (hf : mM_findForce_31 k31 v1 v2 σ = some σ') : V X cX7_findForce RX7 5 3 (wM z h σ) 31 [some (.ref h), some (.int v1), some (.int v2), none, none] [] := by
  unfold mM_findForce_31 at hf
  refine V_iload_n dX7_findForce_31 rfl ?_
  refine V_if_lt (tgt := 169) dX7_findForce_32 (by decide) (fun hc1 => ?_) (fun hc1 => ?_)
  · have hf := if_t hf hc1
    cases some_ex hf
    exact V_vret hE dX7_findForce_169
  · have hf := if_f hf hc1
    refine V_aload_n dX7_findForce_35 rfl ?_
    refine VM_getR fX7_49 ⟨rfl, rfl⟩ rfl dX7_findForce_36 ?_
    refine V_iload_n dX7_findForce_39 rfl ?_
    refine V_aload_n dX7_findForce_40 rfl ?_
    refine VM_getR fX7_7 ⟨rfl, rfl⟩ rfl dX7_findForce_41 ?_
    refine V_iload_n dX7_findForce_44 rfl ?_
    obtain ⟨r3, hc2, hf⟩ := bd1_ex hf
    refine V_cS (rest := [.ref (h + 1), .int v2, .ref (h + 12)]) (st' := [.int r3, .ref (h + 1), .int v2, .ref (h + 12)]) (mM_textAt_ok _ _ _ _ _ hc2) scX7_423 (by decide) rfl rfl (Nat.le_of_ble_eq_true rfl) dX7_findForce_45 rfl ?_
    obtain ⟨hb4, hf⟩ := ck_ex hf
    refine VM_ldI (n := 23016) (k := r3.toNatClampNeg) rfl hb4 rfl dX7_findForce_48 ?_
    refine V_iload_n dX7_findForce_49 rfl ?_
    refine V_icmp_gt (tgt := 57) dX7_findForce_50 (by decide) (fun hc5 => ?_) (fun hc5 => ?_)
    · have hf := if_t hf hc5
      refine V_iconst dX7_findForce_57 kc_0 ?_
      exact mM_findForce_58_v hE k31 hk31 v1 v2 (0 : Int32) v2 σ hf
    · have hf := if_f hf hc5
      refine V_iconst dX7_findForce_53 kc_1 ?_
      refine V_goto (tgt := 58) dX7_findForce_54 (by decide) ?_
      exact mM_findForce_58_v hE k31 hk31 v1 v2 (1 : Int32) v2 σ hf
set_option maxHeartbeats 4000000 in
theorem mM_findForce_2_v {X : CX} {w0 : AH} {z : ZZ} {h : Nat} {σ' : SM} (hE : XE X w0 3 none "findForce" (.returned none) (wM z h σ')) (k2 : Int32 → Int32 → SM → Option (SM)) (hk2 : ∀ (v1 : Int32) (v2 : Int32) (σ : SM), k2 v1 v2 σ = some σ' → V X cX7_findForce RX7 5 3 (wM z h σ) 2 [some (.ref h), some (.int v1), some (.int v2), none, none] []) (v1 : Int32) (v2 : Int32) (σ : SM) (hf : mM_findForce_2 k2 v1 v2 σ = some σ') : V X cX7_findForce RX7 5 3 (wM z h σ) 2 [some (.ref h), some (.int v1), some (.int v2), none, none] [] := by
  unfold mM_findForce_2 at hf
  refine V_iload_n dX7_findForce_2 rfl ?_
  refine V_sipush dX7_findForce_3 ks_240 ?_
  refine V_icmp_ge (tgt := 22) dX7_findForce_6 (by decide) (fun hc1 => ?_) (fun hc1 => ?_)
  · have hf := if_t hf hc1
    refine V_aload_n dX7_findForce_22 rfl ?_
    refine VM_getR fX7_7 ⟨rfl, rfl⟩ rfl dX7_findForce_23 ?_
    refine V_iconst dX7_findForce_26 kc_2 ?_
    refine VM_ldI (n := 23016) (k := 2) rfl (by decide) (by decide) dX7_findForce_27 ?_
    refine V_iconst dX7_findForce_28 kc_1 ?_
    refine V_isub dX7_findForce_29 ?_
    refine V_istore_n (ls' := [some (.ref h), some (.int v1), some (.int ((gI σ 1 2) - (1 : Int32))), none, none]) dX7_findForce_30 (by decide) rfl ?_
    exact lq3_ex (P := fun v1 v2 σ => V X cX7_findForce RX7 5 3 (wM z h σ) 31 [some (.ref h), some (.int v1), some (.int v2), none, none] []) (fun k hk v1 v2 σ hf => mM_findForce_31_v hE k hk v1 v2 σ hf) LF v1 ((gI σ 1 2) - (1 : Int32)) σ hf
  · have hf := if_f hf hc1
    refine V_aload_n dX7_findForce_9 rfl ?_
    refine VM_getR fX7_52 ⟨rfl, rfl⟩ rfl dX7_findForce_10 ?_
    refine V_iload_n dX7_findForce_13 rfl ?_
    refine V_iconst dX7_findForce_14 kc_0 ?_
    obtain ⟨hb2, hf⟩ := ck_ex hf
    obtain ⟨σ3, hs4, hf⟩ := st1_ex hf
    refine VM_stZ (n := 240) (k := v2.toNatClampNeg) rfl hb2 rfl (by decide) hs4 dX7_findForce_15 ?_
    refine V_inc (ls' := [some (.ref h), some (.int v1), some (.int (v2 + (1 : Int32))), none, none]) dX7_findForce_16 rfl kc_1 (by decide) rfl ?_
    refine V_goto (tgt := 2) dX7_findForce_19 (by decide) ?_
    exact hk2 v1 (v2 + (1 : Int32)) σ3 hf
set_option maxHeartbeats 4000000 in
theorem mM_findForce_ok (l : Launch) (D : DD) (z : ZZ) (h : Nat) (p0 : Int32) (σ : SM) (σ' : SM) (hf : mM_findForce p0 σ = some σ') : MA l D yX7_findForce cX7_findForce 5 none 3 [.ref h, .int p0] (wM z h σ) (.returned none) (wM z h σ') := by
  refine MA.intro (own := RX7) (nm := "findForce") (ls := [some (.ref h), some (.int p0), none, none, none]) (by decide) rfl rfl (Nat.le_of_ble_eq_true rfl) rfl (fun X hl hD hE => ?_)
  subst hl hD
  unfold mM_findForce at hf
  refine V_iconst dX7_findForce_0 kc_0 ?_
  refine V_istore_n (ls' := [some (.ref h), some (.int p0), some (.int (0 : Int32)), none, none]) dX7_findForce_1 (by decide) rfl ?_
  exact lq3_ex (P := fun v1 v2 σ => V X cX7_findForce RX7 5 3 (wM z h σ) 2 [some (.ref h), some (.int v1), some (.int v2), none, none] []) (fun k hk v1 v2 σ hf => mM_findForce_2_v hE k hk v1 v2 σ hf) LF p0 (0 : Int32) σ hf
set_option maxHeartbeats 4000000 in
theorem mM_setNothing_2_v {X : CX} {w0 : AH} {z : ZZ} {h : Nat} {σ' : SM} (hE : XE X w0 1 none "setNothing" (.returned none) (wM z h σ')) (k2 : Int32 → SM → Option (SM)) (hk2 : ∀ (v1 : Int32) (σ : SM), k2 v1 σ = some σ' → V X cX7_setNothing RX7 2 1 (wM z h σ) 2 [some (.ref h), some (.int v1)] []) (v1 : Int32) (σ : SM) (hf : mM_setNothing_2 k2 v1 σ = some σ') : V X cX7_setNothing RX7 2 1 (wM z h σ) 2 [some (.ref h), some (.int v1)] [] := by
  unfold mM_setNothing_2 at hf
  refine V_iload_n dX7_setNothing_2 rfl ?_
  refine V_bipush dX7_setNothing_3 kb_17 ?_
  refine V_icmp_ge (tgt := 21) dX7_setNothing_5 (by decide) (fun hc1 => ?_) (fun hc1 => ?_)
  · have hf := if_t hf hc1
    refine V_aload_n dX7_setNothing_21 rfl ?_
    refine VM_getR fX7_55 ⟨rfl, rfl⟩ rfl dX7_setNothing_22 ?_
    refine V_iconst dX7_setNothing_25 kc_5 ?_
    refine V_aload_n dX7_setNothing_26 rfl ?_
    refine VM_getI fX7_188 rfl dX7_setNothing_27 ?_
    refine V_i2l dX7_setNothing_30 ?_
    obtain ⟨σ2, hs3, hf⟩ := st1_ex hf
    refine VM_stL (n := 17) (k := 5) rfl (by decide) (by decide) hs3 dX7_setNothing_31 ?_
    cases some_ex hf
    exact V_vret hE dX7_setNothing_32
  · have hf := if_f hf hc1
    refine V_aload_n dX7_setNothing_8 rfl ?_
    refine VM_getR fX7_55 ⟨rfl, rfl⟩ rfl dX7_setNothing_9 ?_
    refine V_iload_n dX7_setNothing_12 rfl ?_
    refine V_lconst dX7_setNothing_13 kl_0 ?_
    obtain ⟨hb4, hf⟩ := ck_ex hf
    obtain ⟨σ5, hs6, hf⟩ := st1_ex hf
    refine VM_stL (n := 17) (k := v1.toNatClampNeg) rfl hb4 rfl hs6 dX7_setNothing_14 ?_
    refine V_inc (ls' := [some (.ref h), some (.int (v1 + (1 : Int32)))]) dX7_setNothing_15 rfl kc_1 (by decide) rfl ?_
    refine V_goto (tgt := 2) dX7_setNothing_18 (by decide) ?_
    exact hk2 (v1 + (1 : Int32)) σ5 hf
set_option maxHeartbeats 4000000 in
theorem mM_setNothing_ok (l : Launch) (D : DD) (z : ZZ) (h : Nat) (σ : SM) (σ' : SM) (hf : mM_setNothing  σ = some σ') : MA l D yX7_setNothing cX7_setNothing 2 none 1 [.ref h] (wM z h σ) (.returned none) (wM z h σ') := by
  refine MA.intro (own := RX7) (nm := "setNothing") (ls := [some (.ref h), none]) (by decide) rfl rfl (Nat.le_of_ble_eq_true rfl) rfl (fun X hl hD hE => ?_)
  subst hl hD
  unfold mM_setNothing at hf
  refine V_iconst dX7_setNothing_0 kc_0 ?_
  refine V_istore_n (ls' := [some (.ref h), some (.int (0 : Int32))]) dX7_setNothing_1 (by decide) rfl ?_
  exact lq2_ex (P := fun v1 σ => V X cX7_setNothing RX7 2 1 (wM z h σ) 2 [some (.ref h), some (.int v1)] []) (fun k hk v1 σ hf => mM_setNothing_2_v hE k hk v1 σ hf) LF (0 : Int32) σ hf
set_option maxHeartbeats 4000000 in
theorem mM_setName_152_v {X : CX} {w0 : AH} {z : ZZ} {h : Nat} {σ' : SM} (hE : XE X w0 4 none "setName" (.returned none) (wM z h σ')) (v1 : Int32) (t0 : Int64) (t1 : Int32) (σ : SM) (hf : mM_setName_152 v1 t0 t1 σ = some σ') : V X cX7_setName RX7 3 4 (wM z h σ) 152 [some (.ref h), some (.int v1), none] [.long t0, .int t1, .ref (h + 14)] := by
  unfold mM_setName_152 at hf
  obtain ⟨hb1, hf⟩ := ck_ex hf
  obtain ⟨σ2, hs3, hf⟩ := st1_ex hf
  refine VM_stL (n := 17) (k := t1.toNatClampNeg) rfl hb1 rfl hs3 dX7_setName_152 ?_
  refine V_aload_n dX7_setName_153 rfl ?_
  refine VM_getR fX7_55 ⟨rfl, rfl⟩ rfl dX7_setName_154 ?_
  refine V_bipush dX7_setName_157 kb_15 ?_
  refine V_aload_n dX7_setName_159 rfl ?_
  refine V_iload_n dX7_setName_160 rfl ?_
  refine V_aload_n dX7_setName_161 rfl ?_
  refine VM_getI fX7_188 rfl dX7_setName_162 ?_
  refine V_aload_n dX7_setName_165 rfl ?_
  refine VM_getI fX7_185 rfl dX7_setName_166 ?_
  obtain ⟨r5, hc4, hf⟩ := bd1_ex hf
  refine V_cV (av := [.int v1, .int (gI σ2 0 5), .int (gI σ2 0 6)]) (rest := [.int (15 : Int32), .ref (h + 14)]) (st' := [.int r5, .int (15 : Int32), .ref (h + 14)]) (mM_hasMoved_ok _ _ _ _ _ _ _ _ _ hc4) vcX7_177 (wM_k0 _ _ _) (by decide) rfl rfl (Nat.le_of_ble_eq_true rfl) dX7_setName_169 rfl ?_
  refine V_if_eq (tgt := 179) dX7_setName_172 (by decide) (fun hc6 => ?_) (fun hc6 => ?_)
  · have hf := if_t hf hc6
    refine V_lconst dX7_setName_179 kl_0 ?_
    obtain ⟨σ7, hs8, hf⟩ := st1_ex hf
    refine VM_stL (n := 17) (k := 15) rfl (by decide) (by decide) hs8 dX7_setName_180 ?_
    cases some_ex hf
    exact V_vret hE dX7_setName_181
  · have hf := if_f hf hc6
    refine V_lconst dX7_setName_175 kl_1 ?_
    refine V_goto (tgt := 180) dX7_setName_176 (by decide) ?_
    obtain ⟨σ9, hs10, hf⟩ := st1_ex hf
    refine VM_stL (n := 17) (k := 15) rfl (by decide) (by decide) hs10 dX7_setName_180 ?_
    cases some_ex hf
    exact V_vret hE dX7_setName_181
set_option maxHeartbeats 4000000 in
theorem mM_setName_128_v {X : CX} {w0 : AH} {z : ZZ} {h : Nat} {σ' : SM} (hE : XE X w0 4 none "setName" (.returned none) (wM z h σ')) (v1 : Int32) (v2 : Int32) (t0 : Int64) (t1 : Int32) (σ : SM) (hf : mM_setName_128 v1 v2 t0 t1 σ = some σ') : V X cX7_setName RX7 3 4 (wM z h σ) 128 [some (.ref h), some (.int v1), some (.int v2)] [.long t0, .int t1, .ref (h + 14)] := by
  unfold mM_setName_128 at hf
  obtain ⟨hb1, hf⟩ := ck_ex hf
  obtain ⟨σ2, hs3, hf⟩ := st1_ex hf
  refine VM_stL (n := 17) (k := t1.toNatClampNeg) rfl hb1 rfl hs3 dX7_setName_128 ?_
  refine V_aload_n dX7_setName_129 rfl ?_
  refine VM_getR fX7_55 ⟨rfl, rfl⟩ rfl dX7_setName_130 ?_
  refine V_bipush dX7_setName_133 kb_14 ?_
  refine V_aload_n dX7_setName_135 rfl ?_
  refine VM_getR fX7_7 ⟨rfl, rfl⟩ rfl dX7_setName_136 ?_
  refine V_iload_n dX7_setName_139 rfl ?_
  refine V_iconst dX7_setName_140 kc_3 ?_
  refine V_iadd dX7_setName_141 ?_
  obtain ⟨hb4, hf⟩ := ck_ex hf
  refine VM_ldI (n := 23016) (k := (v2 + (3 : Int32)).toNatClampNeg) rfl hb4 rfl dX7_setName_142 ?_
  refine V_iconst dX7_setName_143 kc_3 ?_
  refine V_icmp_ne (tgt := 151) dX7_setName_144 (by decide) (fun hc5 => ?_) (fun hc5 => ?_)
  · have hf := if_f hf hc5
    refine V_lconst dX7_setName_151 kl_0 ?_
    refine V_keep [true, true, false] rfl ?_
    exact mM_setName_152_v hE v1 (0 : Int64) (14 : Int32) σ2 hf
  · have hf := if_t hf hc5
    refine V_lconst dX7_setName_147 kl_1 ?_
    refine V_goto (tgt := 152) dX7_setName_148 (by decide) ?_
    refine V_keep [true, true, false] rfl ?_
    exact mM_setName_152_v hE v1 (1 : Int64) (14 : Int32) σ2 hf
set_option maxHeartbeats 4000000 in
theorem mM_setName_104_v {X : CX} {w0 : AH} {z : ZZ} {h : Nat} {σ' : SM} (hE : XE X w0 4 none "setName" (.returned none) (wM z h σ')) (v1 : Int32) (v2 : Int32) (t0 : Int64) (t1 : Int32) (σ : SM) (hf : mM_setName_104 v1 v2 t0 t1 σ = some σ') : V X cX7_setName RX7 3 4 (wM z h σ) 104 [some (.ref h), some (.int v1), some (.int v2)] [.long t0, .int t1, .ref (h + 14)] := by
  unfold mM_setName_104 at hf
  obtain ⟨hb1, hf⟩ := ck_ex hf
  obtain ⟨σ2, hs3, hf⟩ := st1_ex hf
  refine VM_stL (n := 17) (k := t1.toNatClampNeg) rfl hb1 rfl hs3 dX7_setName_104 ?_
  refine V_aload_n dX7_setName_105 rfl ?_
  refine VM_getR fX7_55 ⟨rfl, rfl⟩ rfl dX7_setName_106 ?_
  refine V_bipush dX7_setName_109 kb_13 ?_
  refine V_aload_n dX7_setName_111 rfl ?_
  refine VM_getR fX7_7 ⟨rfl, rfl⟩ rfl dX7_setName_112 ?_
  refine V_iload_n dX7_setName_115 rfl ?_
  refine V_iconst dX7_setName_116 kc_3 ?_
  refine V_iadd dX7_setName_117 ?_
  obtain ⟨hb4, hf⟩ := ck_ex hf
  refine VM_ldI (n := 23016) (k := (v2 + (3 : Int32)).toNatClampNeg) rfl hb4 rfl dX7_setName_118 ?_
  refine V_iconst dX7_setName_119 kc_2 ?_
  refine V_icmp_ne (tgt := 127) dX7_setName_120 (by decide) (fun hc5 => ?_) (fun hc5 => ?_)
  · have hf := if_f hf hc5
    refine V_lconst dX7_setName_127 kl_0 ?_
    exact mM_setName_128_v hE v1 v2 (0 : Int64) (13 : Int32) σ2 hf
  · have hf := if_t hf hc5
    refine V_lconst dX7_setName_123 kl_1 ?_
    refine V_goto (tgt := 128) dX7_setName_124 (by decide) ?_
    exact mM_setName_128_v hE v1 v2 (1 : Int64) (13 : Int32) σ2 hf
set_option maxHeartbeats 4000000 in
theorem mM_setName_ok (l : Launch) (D : DD) (z : ZZ) (h : Nat) (p0 : Int32) (σ : SM) (σ' : SM) (hf : mM_setName p0 σ = some σ') : MA l D yX7_setName cX7_setName 3 none 4 [.ref h, .int p0] (wM z h σ) (.returned none) (wM z h σ') := by
  refine MA.intro (own := RX7) (nm := "setName") (ls := [some (.ref h), some (.int p0), none]) (by decide) rfl rfl (Nat.le_of_ble_eq_true rfl) rfl (fun X hl hD hE => ?_)
  subst hl hD
  unfold mM_setName at hf
  refine V_iload_n dX7_setName_0 rfl ?_
  obtain ⟨r2, hc1, hf⟩ := bd1_ex hf
  refine V_cS (rest := []) (st' := [.int r2]) (mM_nameAt_ok _ _ _ _ _ hc1) scX7_148 (by decide) rfl rfl (Nat.le_of_ble_eq_true rfl) dX7_setName_1 rfl ?_
  refine V_istore_n (ls' := [some (.ref h), some (.int p0), some (.int r2)]) dX7_setName_4 (by decide) rfl ?_
  refine V_aload_n dX7_setName_5 rfl ?_
  obtain ⟨σ4, hc3, hf⟩ := bd1_ex hf
  refine V_cV (av := []) (rest := []) (st' := []) (mM_setNothing_ok _ _ _ _ _ _ hc3) vcX7_429 (wM_k0 _ _ _) (by decide) rfl rfl (Nat.le_of_ble_eq_true rfl) dX7_setName_6 rfl ?_
  refine V_aload_n dX7_setName_9 rfl ?_
  refine VM_getR fX7_55 ⟨rfl, rfl⟩ rfl dX7_setName_10 ?_
  refine V_iconst dX7_setName_13 kc_1 ?_
  refine V_aload_n dX7_setName_14 rfl ?_
  refine VM_getR fX7_7 ⟨rfl, rfl⟩ rfl dX7_setName_15 ?_
  refine V_iload_n dX7_setName_18 rfl ?_
  refine V_iconst dX7_setName_19 kc_2 ?_
  refine V_iadd dX7_setName_20 ?_
  obtain ⟨hb5, hf⟩ := ck_ex hf
  refine VM_ldI (n := 23016) (k := (r2 + (2 : Int32)).toNatClampNeg) rfl hb5 rfl dX7_setName_21 ?_
  refine V_i2l dX7_setName_22 ?_
  obtain ⟨σ6, hs7, hf⟩ := st1_ex hf
  refine VM_stL (n := 17) (k := 1) rfl (by decide) (by decide) hs7 dX7_setName_23 ?_
  refine V_aload_n dX7_setName_24 rfl ?_
  refine VM_getR fX7_55 ⟨rfl, rfl⟩ rfl dX7_setName_25 ?_
  refine V_iconst dX7_setName_28 kc_2 ?_
  refine V_aload_n dX7_setName_29 rfl ?_
  refine VM_getR fX7_7 ⟨rfl, rfl⟩ rfl dX7_setName_30 ?_
  refine V_iload_n dX7_setName_33 rfl ?_
  refine V_iconst dX7_setName_34 kc_1 ?_
  refine V_iadd dX7_setName_35 ?_
  obtain ⟨hb8, hf⟩ := ck_ex hf
  refine VM_ldI (n := 23016) (k := (r2 + (1 : Int32)).toNatClampNeg) rfl hb8 rfl dX7_setName_36 ?_
  refine V_i2l dX7_setName_37 ?_
  obtain ⟨σ9, hs10, hf⟩ := st1_ex hf
  refine VM_stL (n := 17) (k := 2) rfl (by decide) (by decide) hs10 dX7_setName_38 ?_
  refine V_aload_n dX7_setName_39 rfl ?_
  refine VM_getR fX7_55 ⟨rfl, rfl⟩ rfl dX7_setName_40 ?_
  refine V_iconst dX7_setName_43 kc_3 ?_
  refine V_aload_n dX7_setName_44 rfl ?_
  refine V_iload_n dX7_setName_45 rfl ?_
  refine V_aload_n dX7_setName_46 rfl ?_
  refine VM_getI fX7_188 rfl dX7_setName_47 ?_
  refine V_aload_n dX7_setName_50 rfl ?_
  refine VM_getI fX7_185 rfl dX7_setName_51 ?_
  obtain ⟨r12, hc11, hf⟩ := bd1_ex hf
  refine V_cV (av := [.int p0, .int (gI σ9 0 5), .int (gI σ9 0 6)]) (rest := [.int (3 : Int32), .ref (h + 14)]) (st' := [.int r12, .int (3 : Int32), .ref (h + 14)]) (mM_whereOf_ok _ _ _ _ _ _ _ _ _ hc11) vcX7_181 (wM_k0 _ _ _) (by decide) rfl rfl (Nat.le_of_ble_eq_true rfl) dX7_setName_54 rfl ?_
  refine V_i2l dX7_setName_57 ?_
  obtain ⟨σ13, hs14, hf⟩ := st1_ex hf
  refine VM_stL (n := 17) (k := 3) rfl (by decide) (by decide) hs14 dX7_setName_58 ?_
  refine V_aload_n dX7_setName_59 rfl ?_
  refine VM_getR fX7_55 ⟨rfl, rfl⟩ rfl dX7_setName_60 ?_
  refine V_iconst dX7_setName_63 kc_4 ?_
  refine V_aload_n dX7_setName_64 rfl ?_
  refine VM_getR fX7_7 ⟨rfl, rfl⟩ rfl dX7_setName_65 ?_
  refine V_aload_n dX7_setName_68 rfl ?_
  refine VM_getR fX7_55 ⟨rfl, rfl⟩ rfl dX7_setName_69 ?_
  refine V_iconst dX7_setName_72 kc_3 ?_
  refine VM_ldL (n := 17) (k := 3) rfl (by decide) (by decide) dX7_setName_73 ?_
  refine V_l2i dX7_setName_74 ?_
  obtain ⟨r16, hc15, hf⟩ := bd1_ex hf
  refine V_cS (rest := [.ref (h + 1), .int (4 : Int32), .ref (h + 14)]) (st' := [.int r16, .ref (h + 1), .int (4 : Int32), .ref (h + 14)]) (mM_placeAt_ok _ _ _ _ _ hc15) scX7_133 (by decide) rfl rfl (Nat.le_of_ble_eq_true rfl) dX7_setName_75 rfl ?_
  obtain ⟨hb17, hf⟩ := ck_ex hf
  refine VM_ldI (n := 23016) (k := r16.toNatClampNeg) rfl hb17 rfl dX7_setName_78 ?_
  refine V_i2l dX7_setName_79 ?_
  obtain ⟨σ18, hs19, hf⟩ := st1_ex hf
  refine VM_stL (n := 17) (k := 4) rfl (by decide) (by decide) hs19 dX7_setName_80 ?_
  refine V_aload_n dX7_setName_81 rfl ?_
  refine VM_getR fX7_55 ⟨rfl, rfl⟩ rfl dX7_setName_82 ?_
  refine V_bipush dX7_setName_85 kb_12 ?_
  refine V_aload_n dX7_setName_87 rfl ?_
  refine VM_getR fX7_7 ⟨rfl, rfl⟩ rfl dX7_setName_88 ?_
  refine V_iload_n dX7_setName_91 rfl ?_
  refine V_iconst dX7_setName_92 kc_3 ?_
  refine V_iadd dX7_setName_93 ?_
  obtain ⟨hb20, hf⟩ := ck_ex hf
  refine VM_ldI (n := 23016) (k := (r2 + (3 : Int32)).toNatClampNeg) rfl hb20 rfl dX7_setName_94 ?_
  refine V_iconst dX7_setName_95 kc_1 ?_
  refine V_icmp_ne (tgt := 103) dX7_setName_96 (by decide) (fun hc21 => ?_) (fun hc21 => ?_)
  · have hf := if_f hf hc21
    refine V_lconst dX7_setName_103 kl_0 ?_
    exact mM_setName_104_v hE p0 r2 (0 : Int64) (12 : Int32) σ18 hf
  · have hf := if_t hf hc21
    refine V_lconst dX7_setName_99 kl_1 ?_
    refine V_goto (tgt := 104) dX7_setName_100 (by decide) ?_
    exact mM_setName_104_v hE p0 r2 (1 : Int64) (12 : Int32) σ18 hf
set_option maxHeartbeats 4000000 in
theorem mM_reckon_68_v {X : CX} {w0 : AH} {z : ZZ} {h : Nat} {r : Int64} {σ' : SM} (hE : XE X w0 1 (some .long) "reckon" (.returned (some (.long r))) (wM z h σ')) (v2 : Int64) (v4 : Int64) (t0 : Int32) (σ : SM) (hf : mM_reckon_68 v2 v4 t0 σ = some (r, σ')) : V X cX7_reckon RX7 6 1 (wM z h σ) 68 [some (.ref h), none, some (.long v2), none, some (.long v4), none] [.int t0, .ref h] := by
  unfold mM_reckon_68 at hf
  obtain ⟨hb3, hf⟩ := ck_ex hf
  obtain ⟨σ1, hs2, hf⟩ := st1_ex hf
  refine VM_putZ fwX7_444 hb3 hs2 dX7_reckon_68 ?_
  refine V_aload_n dX7_reckon_71 rfl ?_
  refine VM_getI fX7_444 rfl dX7_reckon_72 ?_
  refine V_if_eq (tgt := 82) dX7_reckon_75 (by decide) (fun hc4 => ?_) (fun hc4 => ?_)
  · have hf := if_t hf hc4
    refine V_lload_n dX7_reckon_82 rfl ?_
    refine V_lload dX7_reckon_83 rfl ?_
    obtain ⟨hz5, hf⟩ := nzL_ex hf
    refine V_ldiv dX7_reckon_85 hz5 ?_
    cases some_ex hf
    exact V_lret hE dX7_reckon_86
  · have hf := if_f hf hc4
    refine V_lconst dX7_reckon_78 kl_0 ?_
    refine V_goto (tgt := 86) dX7_reckon_79 (by decide) ?_
    cases some_ex hf
    exact V_lret hE dX7_reckon_86
set_option maxHeartbeats 4000000 in
theorem mM_reckon_ok (l : Launch) (D : DD) (z : ZZ) (h : Nat) (p0 : Int32) (p1 : Int64) (p2 : Int64) (σ : SM) (r : Int64) (σ' : SM) (hf : mM_reckon p0 p1 p2 σ = some (r, σ')) : MA l D yX7_reckon cX7_reckon 6 (some .long) 1 [.ref h, .int p0, .long p1, .long p2] (wM z h σ) (.returned (some (.long r))) (wM z h σ') := by
  refine MA.intro (own := RX7) (nm := "reckon") (ls := [some (.ref h), some (.int p0), some (.long p1), none, some (.long p2), none]) (by decide) rfl rfl (Nat.le_of_ble_eq_true rfl) rfl (fun X hl hD hE => ?_)
  subst hl hD
  unfold mM_reckon at hf
  refine V_iload_n dX7_reckon_0 rfl ?_
  by_cases hw20 : p0 = (20 : Int32)
  · have hf := if_t hf hw20
    refine V_tableIn (off := 39) (tgt := 40) dX7_reckon_1 (by rw [hw20]; decide) (by rw [hw20]; decide) (by rw [hw20]; rfl) (by decide) ?_
    refine V_lload_n dX7_reckon_40 rfl ?_
    refine V_lload dX7_reckon_41 rfl ?_
    refine V_ladd dX7_reckon_43 ?_
    cases some_ex hf
    exact V_lret hE dX7_reckon_44
  replace hf := if_f hf hw20
  by_cases hw21 : p0 = (21 : Int32)
  · have hf := if_t hf hw21
    refine V_tableIn (off := 44) (tgt := 45) dX7_reckon_1 (by rw [hw21]; decide) (by rw [hw21]; decide) (by rw [hw21]; rfl) (by decide) ?_
    refine V_lload_n dX7_reckon_45 rfl ?_
    refine V_lload dX7_reckon_46 rfl ?_
    refine V_lsub dX7_reckon_48 ?_
    cases some_ex hf
    exact V_lret hE dX7_reckon_49
  replace hf := if_f hf hw21
  by_cases hw22 : p0 = (22 : Int32)
  · have hf := if_t hf hw22
    refine V_tableIn (off := 49) (tgt := 50) dX7_reckon_1 (by rw [hw22]; decide) (by rw [hw22]; decide) (by rw [hw22]; rfl) (by decide) ?_
    refine V_lload_n dX7_reckon_50 rfl ?_
    refine V_lload dX7_reckon_51 rfl ?_
    refine V_lmul dX7_reckon_53 ?_
    cases some_ex hf
    exact V_lret hE dX7_reckon_54
  replace hf := if_f hf hw22
  by_cases hw23 : p0 = (23 : Int32)
  · have hf := if_t hf hw23
    refine V_tableIn (off := 54) (tgt := 55) dX7_reckon_1 (by rw [hw23]; decide) (by rw [hw23]; decide) (by rw [hw23]; rfl) (by decide) ?_
    refine V_aload_n dX7_reckon_55 rfl ?_
    refine V_lload dX7_reckon_56 rfl ?_
    refine V_lconst dX7_reckon_58 kl_0 ?_
    refine V_lif_ne (tgt := 67) dX7_reckon_59 dX7_reckon_60 (by decide) (fun hc1 => ?_) (fun hc1 => ?_)
    · have hf := if_f hf hc1
      refine V_iconst dX7_reckon_67 kc_0 ?_
      refine V_keep [true, false, true, true, true, true] rfl ?_
      exact mM_reckon_68_v hE p1 p2 (0 : Int32) σ hf
    · have hf := if_t hf hc1
      refine V_iconst dX7_reckon_63 kc_1 ?_
      refine V_goto (tgt := 68) dX7_reckon_64 (by decide) ?_
      refine V_keep [true, false, true, true, true, true] rfl ?_
      exact mM_reckon_68_v hE p1 p2 (1 : Int32) σ hf
  replace hf := if_f hf hw23
  by_cases hw24 : p0 = (24 : Int32)
  · have hf := if_t hf hw24
    refine V_tableIn (off := 86) (tgt := 87) dX7_reckon_1 (by rw [hw24]; decide) (by rw [hw24]; decide) (by rw [hw24]; rfl) (by decide) ?_
    refine V_lload_n dX7_reckon_87 rfl ?_
    refine V_lload dX7_reckon_88 rfl ?_
    refine V_lif_ge (tgt := 98) dX7_reckon_90 dX7_reckon_91 (by decide) (fun hc2 => ?_) (fun hc2 => ?_)
    · have hf := if_t hf hc2
      refine V_lconst dX7_reckon_98 kl_0 ?_
      cases some_ex hf
      exact V_lret hE dX7_reckon_99
    · have hf := if_f hf hc2
      refine V_lconst dX7_reckon_94 kl_1 ?_
      refine V_goto (tgt := 99) dX7_reckon_95 (by decide) ?_
      cases some_ex hf
      exact V_lret hE dX7_reckon_99
  replace hf := if_f hf hw24
  by_cases hw25 : p0 = (25 : Int32)
  · have hf := if_t hf hw25
    refine V_tableIn (off := 99) (tgt := 100) dX7_reckon_1 (by rw [hw25]; decide) (by rw [hw25]; decide) (by rw [hw25]; rfl) (by decide) ?_
    refine V_lload_n dX7_reckon_100 rfl ?_
    refine V_lload dX7_reckon_101 rfl ?_
    refine V_lif_le (tgt := 111) dX7_reckon_103 dX7_reckon_104 (by decide) (fun hc3 => ?_) (fun hc3 => ?_)
    · have hf := if_t hf hc3
      refine V_lconst dX7_reckon_111 kl_0 ?_
      cases some_ex hf
      exact V_lret hE dX7_reckon_112
    · have hf := if_f hf hc3
      refine V_lconst dX7_reckon_107 kl_1 ?_
      refine V_goto (tgt := 112) dX7_reckon_108 (by decide) ?_
      cases some_ex hf
      exact V_lret hE dX7_reckon_112
  replace hf := if_f hf hw25
  have hw20' := lv_neT hw20 (show (20 : Int32).toInt = 20 from by decide)
  have hw21' := lv_neT hw21 (show (21 : Int32).toInt = 21 from by decide)
  have hw22' := lv_neT hw22 (show (22 : Int32).toInt = 22 from by decide)
  have hw23' := lv_neT hw23 (show (23 : Int32).toInt = 23 from by decide)
  have hw24' := lv_neT hw24 (show (24 : Int32).toInt = 24 from by decide)
  have hw25' := lv_neT hw25 (show (25 : Int32).toInt = 25 from by decide)
  refine V_tableOut (tgt := 113) dX7_reckon_1 (by omega) (by decide) ?_
  refine V_lload_n dX7_reckon_113 rfl ?_
  refine V_lload dX7_reckon_114 rfl ?_
  refine V_lif_ne (tgt := 124) dX7_reckon_116 dX7_reckon_117 (by decide) (fun hc4 => ?_) (fun hc4 => ?_)
  · have hf := if_f hf hc4
    refine V_lconst dX7_reckon_124 kl_0 ?_
    cases some_ex hf
    exact V_lret hE dX7_reckon_125
  · have hf := if_t hf hc4
    refine V_lconst dX7_reckon_120 kl_1 ?_
    refine V_goto (tgt := 125) dX7_reckon_121 (by decide) ?_
    cases some_ex hf
    exact V_lret hE dX7_reckon_125
set_option maxHeartbeats 4000000 in
theorem mM_run_254_v {X : CX} {w0 : AH} {z : ZZ} {h : Nat} {σ' : SM} (hE : XE X w0 2 none "run" (.returned none) (wM z h σ')) (v4 : Int32) (σ : SM) (hf : mM_run_254 v4 σ = some σ') : V X cX7_run RX7 8 2 (wM z h σ) 254 [some (.ref h), none, none, none, some (.int v4), none, none, none] [] := by
  unfold mM_run_254 at hf
  refine V_aload_n dX7_run_254 rfl ?_
  refine V_iload dX7_run_255 rfl ?_
  refine V_if_le (tgt := 269) dX7_run_257 (by decide) (fun hc1 => ?_) (fun hc1 => ?_)
  · have hf := if_t hf hc1
    refine V_lconst dX7_run_269 kl_0 ?_
    obtain ⟨σ2, hs3, hf⟩ := st1_ex hf
    refine VM_putL fwX7_455 hs3 dX7_run_270 ?_
    cases some_ex hf
    exact V_vret hE dX7_run_273
  · have hf := if_f hf hc1
    refine V_aload_n dX7_run_260 rfl ?_
    refine VM_getR fX7_59 ⟨rfl, rfl⟩ rfl dX7_run_261 ?_
    refine V_iconst dX7_run_264 kc_0 ?_
    refine VM_ldL (n := 400) (k := 0) rfl (by decide) (by decide) dX7_run_265 ?_
    refine V_goto (tgt := 270) dX7_run_266 (by decide) ?_
    obtain ⟨σ4, hs5, hf⟩ := st1_ex hf
    refine VM_putL fwX7_455 hs5 dX7_run_270 ?_
    cases some_ex hf
    exact V_vret hE dX7_run_273
set_option maxHeartbeats 4000000 in
theorem mM_run_251_v {X : CX} {w0 : AH} {z : ZZ} {h : Nat} {σ' : SM} (hE : XE X w0 2 none "run" (.returned none) (wM z h σ')) (k11 : Int32 → Int32 → Int32 → Int32 → SM → Option (SM)) (hk11 : ∀ (v1 : Int32) (v3 : Int32) (v4 : Int32) (v5 : Int32) (σ : SM), k11 v1 v3 v4 v5 σ = some σ' → V X cX7_run RX7 8 2 (wM z h σ) 11 [some (.ref h), some (.int v1), none, some (.int v3), some (.int v4), some (.int v5), none, none] []) (v1 : Int32) (v3 : Int32) (v4 : Int32) (v5 : Int32) (σ : SM) (hf : mM_run_251 k11 v1 v3 v4 v5 σ = some σ') : V X cX7_run RX7 8 2 (wM z h σ) 251 [some (.ref h), some (.int v1), none, some (.int v3), some (.int v4), some (.int v5), none, none] [] := by
  unfold mM_run_251 at hf
  refine V_goto (tgt := 11) dX7_run_251 (by decide) ?_
  exact hk11 v1 v3 v4 v5 σ hf
set_option maxHeartbeats 4000000 in
theorem mM_run_237_v {X : CX} {w0 : AH} {z : ZZ} {h : Nat} {σ' : SM} (hE : XE X w0 2 none "run" (.returned none) (wM z h σ')) (k11 : Int32 → Int32 → Int32 → Int32 → SM → Option (SM)) (hk11 : ∀ (v1 : Int32) (v3 : Int32) (v4 : Int32) (v5 : Int32) (σ : SM), k11 v1 v3 v4 v5 σ = some σ' → V X cX7_run RX7 8 2 (wM z h σ) 11 [some (.ref h), some (.int v1), none, some (.int v3), some (.int v4), some (.int v5), none, none] []) (v1 : Int32) (v3 : Int32) (v4 : Int32) (v5 : Int32) (v7 : Int32) (t0 : Int64) (t1 : Int64) (σ : SM) (hf : mM_run_237 k11 v1 v3 v4 v5 v7 t0 t1 σ = some σ') : V X cX7_run RX7 8 2 (wM z h σ) 237 [some (.ref h), some (.int v1), none, some (.int v3), some (.int v4), some (.int v5), none, some (.int v7)] [.long t0, .long t1] := by
  unfold mM_run_237 at hf
  refine V_lif_ne (tgt := 248) dX7_run_237 dX7_run_238 (by decide) (fun hc1 => ?_) (fun hc1 => ?_)
  · have hf := if_f hf hc1
    refine V_inc (ls' := [some (.ref h), some (.int v1), none, some (.int v3), some (.int (v4 + (-1 : Int32))), some (.int v5), none, some (.int v7)]) dX7_run_248 rfl kc_m1 (by decide) rfl ?_
    refine V_keep [true, true, true, true, true, true, true, false] rfl ?_
    exact mM_run_251_v hE k11 hk11 v1 v3 (v4 + (-1 : Int32)) v5 σ hf
  · have hf := if_t hf hc1
    refine V_iload dX7_run_241 rfl ?_
    refine V_istore (ls' := [some (.ref h), some (.int v1), none, some (.int v3), some (.int v4), some (.int v7), none, some (.int v7)]) dX7_run_243 (by decide) rfl ?_
    refine V_goto (tgt := 251) dX7_run_245 (by decide) ?_
    refine V_keep [true, true, true, true, true, true, true, false] rfl ?_
    exact mM_run_251_v hE k11 hk11 v1 v3 v4 v7 σ hf
set_option maxHeartbeats 4000000 in
theorem mM_run_180_v {X : CX} {w0 : AH} {z : ZZ} {h : Nat} {σ' : SM} (hE : XE X w0 2 none "run" (.returned none) (wM z h σ')) (k11 : Int32 → Int32 → Int32 → Int32 → SM → Option (SM)) (hk11 : ∀ (v1 : Int32) (v3 : Int32) (v4 : Int32) (v5 : Int32) (σ : SM), k11 v1 v3 v4 v5 σ = some σ' → V X cX7_run RX7 8 2 (wM z h σ) 11 [some (.ref h), some (.int v1), none, some (.int v3), some (.int v4), some (.int v5), none, none] []) (v1 : Int32) (v3 : Int32) (v4 : Int32) (v5 : Int32) (t0 : Int32) (σ : SM) (hf : mM_run_180 k11 v1 v3 v4 v5 t0 σ = some σ') : V X cX7_run RX7 8 2 (wM z h σ) 180 [some (.ref h), some (.int v1), none, some (.int v3), some (.int v4), some (.int v5), none, none] [.int t0, .ref h] := by
  unfold mM_run_180 at hf
  obtain ⟨hb3, hf⟩ := ck_ex hf
  obtain ⟨σ1, hs2, hf⟩ := st1_ex hf
  refine VM_putZ fwX7_444 hb3 hs2 dX7_run_180 ?_
  refine V_goto (tgt := 251) dX7_run_183 (by decide) ?_
  exact mM_run_251_v hE k11 hk11 v1 v3 v4 v5 σ1 hf
set_option maxHeartbeats 4000000 in
theorem mM_run_175_v {X : CX} {w0 : AH} {z : ZZ} {h : Nat} {σ' : SM} (hE : XE X w0 2 none "run" (.returned none) (wM z h σ')) (k11 : Int32 → Int32 → Int32 → Int32 → SM → Option (SM)) (hk11 : ∀ (v1 : Int32) (v3 : Int32) (v4 : Int32) (v5 : Int32) (σ : SM), k11 v1 v3 v4 v5 σ = some σ' → V X cX7_run RX7 8 2 (wM z h σ) 11 [some (.ref h), some (.int v1), none, some (.int v3), some (.int v4), some (.int v5), none, none] []) (v1 : Int32) (v3 : Int32) (v4 : Int32) (v5 : Int32) (σ : SM) (hf : mM_run_175 k11 v1 v3 v4 v5 σ = some σ') : V X cX7_run RX7 8 2 (wM z h σ) 175 [some (.ref h), some (.int v1), none, some (.int v3), some (.int v4), some (.int v5), none, none] [.ref h] := by
  unfold mM_run_175 at hf
  refine V_iconst dX7_run_175 kc_1 ?_
  refine V_goto (tgt := 180) dX7_run_176 (by decide) ?_
  exact mM_run_180_v hE k11 hk11 v1 v3 v4 v5 (1 : Int32) σ hf
set_option maxHeartbeats 4000000 in
theorem mM_run_98_v {X : CX} {w0 : AH} {z : ZZ} {h : Nat} {σ' : SM} (hE : XE X w0 2 none "run" (.returned none) (wM z h σ')) (k11 : Int32 → Int32 → Int32 → Int32 → SM → Option (SM)) (hk11 : ∀ (v1 : Int32) (v3 : Int32) (v4 : Int32) (v5 : Int32) (σ : SM), k11 v1 v3 v4 v5 σ = some σ' → V X cX7_run RX7 8 2 (wM z h σ) 11 [some (.ref h), some (.int v1), none, some (.int v3), some (.int v4), some (.int v5), none, none] []) (v1 : Int32) (v3 : Int32) (v4 : Int32) (v5 : Int32) (t0 : Int64) (t1 : Int32) (σ : SM) (hf : mM_run_98 k11 v1 v3 v4 v5 t0 t1 σ = some σ') : V X cX7_run RX7 8 2 (wM z h σ) 98 [some (.ref h), some (.int v1), none, some (.int v3), some (.int v4), some (.int v5), none, none] [.long t0, .int t1, .ref (h + 15)] := by
  unfold mM_run_98 at hf
  obtain ⟨hb1, hf⟩ := ck_ex hf
  obtain ⟨σ2, hs3, hf⟩ := st1_ex hf
  refine VM_stL (n := 400) (k := t1.toNatClampNeg) rfl hb1 rfl hs3 dX7_run_98 ?_
  refine V_inc (ls' := [some (.ref h), some (.int v1), none, some (.int v3), some (.int (v4 + (1 : Int32))), some (.int v5), none, none]) dX7_run_99 rfl kc_1 (by decide) rfl ?_
  refine V_goto (tgt := 251) dX7_run_102 (by decide) ?_
  exact mM_run_251_v hE k11 hk11 v1 v3 (v4 + (1 : Int32)) v5 σ2 hf
set_option maxHeartbeats 4000000 in
theorem mM_run_11_v {X : CX} {w0 : AH} {z : ZZ} {h : Nat} {σ' : SM} (hE : XE X w0 2 none "run" (.returned none) (wM z h σ')) (k11 : Int32 → Int32 → Int32 → Int32 → SM → Option (SM)) (hk11 : ∀ (v1 : Int32) (v3 : Int32) (v4 : Int32) (v5 : Int32) (σ : SM), k11 v1 v3 v4 v5 σ = some σ' → V X cX7_run RX7 8 2 (wM z h σ) 11 [some (.ref h), some (.int v1), none, some (.int v3), some (.int v4), some (.int v5), none, none] []) (v1 : Int32) (v3 : Int32) (v4 : Int32) (v5 : Int32) (σ : SM) (hf : mM_run_11 k11 v1 v3 v4 v5 σ = some σ') : V X cX7_run RX7 8 2 (wM z h σ) 11 [some (.ref h), some (.int v1), none, some (.int v3), some (.int v4), some (.int v5), none, none] [] := by
  unfold mM_run_11 at hf
  refine V_iload dX7_run_11 rfl ?_
  refine V_iload_n dX7_run_13 rfl ?_
  refine V_icmp_ge (tgt := 254) dX7_run_14 (by decide) (fun hc1 => ?_) (fun hc1 => ?_)
  · have hf := if_t hf hc1
    refine V_keep [true, false, true, false, true, false, true, true] rfl ?_
    exact mM_run_254_v hE v4 σ hf
  · have hf := if_f hf hc1
    refine V_aload_n dX7_run_17 rfl ?_
    refine VM_getI fX7_444 rfl dX7_run_18 ?_
    refine V_if_ne (tgt := 254) dX7_run_21 (by decide) (fun hc2 => ?_) (fun hc2 => ?_)
    · have hf := if_f hf hc2
      refine V_keep [true, false, true, false, true, false, true, true] rfl ?_
      exact mM_run_254_v hE v4 σ hf
    · have hf := if_t hf hc2
      refine V_aload_n dX7_run_24 rfl ?_
      refine VM_getR fX7_7 ⟨rfl, rfl⟩ rfl dX7_run_25 ?_
      refine V_iload_n dX7_run_28 rfl ?_
      obtain ⟨r4, hc3, hf⟩ := bd1_ex hf
      refine V_cS (rest := [.ref (h + 1)]) (st' := [.int r4, .ref (h + 1)]) (mM_textAt_ok _ _ _ _ _ hc3) scX7_423 (by decide) rfl rfl (Nat.le_of_ble_eq_true rfl) dX7_run_29 rfl ?_
      refine V_bipush dX7_run_32 kb_98 ?_
      refine V_iadd dX7_run_34 ?_
      refine V_iconst dX7_run_35 kc_2 ?_
      refine V_iload dX7_run_36 rfl ?_
      refine V_imul dX7_run_38 ?_
      refine V_iadd dX7_run_39 ?_
      obtain ⟨hb5, hf⟩ := ck_ex hf
      refine VM_ldI (n := 23016) (k := ((r4 + (98 : Int32)) + ((2 : Int32) * v5)).toNatClampNeg) rfl hb5 rfl dX7_run_40 ?_
      refine V_istore (ls' := [some (.ref h), some (.int v1), none, some (.int v3), some (.int v4), some (.int v5), some (.int (gI σ 1 (((r4 + (98 : Int32)) + ((2 : Int32) * v5)).toNatClampNeg))), none]) dX7_run_41 (by decide) rfl ?_
      refine V_aload_n dX7_run_43 rfl ?_
      refine VM_getR fX7_7 ⟨rfl, rfl⟩ rfl dX7_run_44 ?_
      refine V_iload_n dX7_run_47 rfl ?_
      obtain ⟨r7, hc6, hf⟩ := bd1_ex hf
      refine V_cS (rest := [.ref (h + 1)]) (st' := [.int r7, .ref (h + 1)]) (mM_textAt_ok _ _ _ _ _ hc6) scX7_423 (by decide) rfl rfl (Nat.le_of_ble_eq_true rfl) dX7_run_48 rfl ?_
      refine V_bipush dX7_run_51 kb_98 ?_
      refine V_iadd dX7_run_53 ?_
      refine V_iconst dX7_run_54 kc_2 ?_
      refine V_iload dX7_run_55 rfl ?_
      refine V_imul dX7_run_57 ?_
      refine V_iadd dX7_run_58 ?_
      refine V_iconst dX7_run_59 kc_1 ?_
      refine V_iadd dX7_run_60 ?_
      obtain ⟨hb8, hf⟩ := ck_ex hf
      refine VM_ldI (n := 23016) (k := (((r7 + (98 : Int32)) + ((2 : Int32) * v5)) + (1 : Int32)).toNatClampNeg) rfl hb8 rfl dX7_run_61 ?_
      refine V_istore (ls' := [some (.ref h), some (.int v1), none, some (.int v3), some (.int v4), some (.int v5), some (.int (gI σ 1 (((r4 + (98 : Int32)) + ((2 : Int32) * v5)).toNatClampNeg))), some (.int (gI σ 1 ((((r7 + (98 : Int32)) + ((2 : Int32) * v5)) + (1 : Int32)).toNatClampNeg)))]) dX7_run_62 (by decide) rfl ?_
      refine V_inc (ls' := [some (.ref h), some (.int v1), none, some (.int v3), some (.int v4), some (.int (v5 + (1 : Int32))), some (.int (gI σ 1 (((r4 + (98 : Int32)) + ((2 : Int32) * v5)).toNatClampNeg))), some (.int (gI σ 1 ((((r7 + (98 : Int32)) + ((2 : Int32) * v5)) + (1 : Int32)).toNatClampNeg)))]) dX7_run_64 rfl kc_1 (by decide) rfl ?_
      refine V_iload dX7_run_67 rfl ?_
      refine V_bipush dX7_run_69 kb_20 ?_
      refine V_icmp_ge (tgt := 105) dX7_run_71 (by decide) (fun hc9 => ?_) (fun hc9 => ?_)
      · have hf := if_t hf hc9
        refine V_iload dX7_run_105 rfl ?_
        refine V_bipush dX7_run_107 kb_27 ?_
        refine V_icmp_ge (tgt := 186) dX7_run_109 (by decide) (fun hc10 => ?_) (fun hc10 => ?_)
        · have hf := if_t hf hc10
          refine V_iload dX7_run_186 rfl ?_
          refine V_bipush dX7_run_188 kb_27 ?_
          refine V_icmp_ne (tgt := 216) dX7_run_190 (by decide) (fun hc11 => ?_) (fun hc11 => ?_)
          · have hf := if_f hf hc11
            refine V_aload_n dX7_run_216 rfl ?_
            refine VM_getR fX7_59 ⟨rfl, rfl⟩ rfl dX7_run_217 ?_
            refine V_iload dX7_run_220 rfl ?_
            refine V_iconst dX7_run_222 kc_1 ?_
            refine V_isub dX7_run_223 ?_
            obtain ⟨hb12, hf⟩ := ck_ex hf
            refine VM_ldL (n := 400) (k := (v4 - (1 : Int32)).toNatClampNeg) rfl hb12 rfl dX7_run_224 ?_
            refine V_iload dX7_run_225 rfl ?_
            refine V_bipush dX7_run_227 kb_28 ?_
            refine V_icmp_ne (tgt := 236) dX7_run_229 (by decide) (fun hc13 => ?_) (fun hc13 => ?_)
            · have hf := if_f hf hc13
              refine V_lconst dX7_run_236 kl_1 ?_
              refine V_keep [true, true, true, true, true, true, false, true] rfl ?_
              exact mM_run_237_v hE k11 hk11 v1 v3 v4 (v5 + (1 : Int32)) (gI σ 1 ((((r7 + (98 : Int32)) + ((2 : Int32) * v5)) + (1 : Int32)).toNatClampNeg)) (1 : Int64) (gL σ 15 ((v4 - (1 : Int32)).toNatClampNeg)) σ hf
            · have hf := if_t hf hc13
              refine V_lconst dX7_run_232 kl_0 ?_
              refine V_goto (tgt := 237) dX7_run_233 (by decide) ?_
              refine V_keep [true, true, true, true, true, true, false, true] rfl ?_
              exact mM_run_237_v hE k11 hk11 v1 v3 v4 (v5 + (1 : Int32)) (gI σ 1 ((((r7 + (98 : Int32)) + ((2 : Int32) * v5)) + (1 : Int32)).toNatClampNeg)) (0 : Int64) (gL σ 15 ((v4 - (1 : Int32)).toNatClampNeg)) σ hf
          · have hf := if_t hf hc11
            refine V_aload_n dX7_run_193 rfl ?_
            refine VM_getR fX7_59 ⟨rfl, rfl⟩ rfl dX7_run_194 ?_
            refine V_iload dX7_run_197 rfl ?_
            refine V_iconst dX7_run_199 kc_1 ?_
            refine V_isub dX7_run_200 ?_
            refine V_lconst dX7_run_201 kl_1 ?_
            refine V_aload_n dX7_run_202 rfl ?_
            refine VM_getR fX7_59 ⟨rfl, rfl⟩ rfl dX7_run_203 ?_
            refine V_iload dX7_run_206 rfl ?_
            refine V_iconst dX7_run_208 kc_1 ?_
            refine V_isub dX7_run_209 ?_
            obtain ⟨hb14, hf⟩ := ck_ex hf
            refine VM_ldL (n := 400) (k := (v4 - (1 : Int32)).toNatClampNeg) rfl hb14 rfl dX7_run_210 ?_
            refine V_lsub dX7_run_211 ?_
            obtain ⟨hb15, hf⟩ := ck_ex hf
            obtain ⟨σ16, hs17, hf⟩ := st1_ex hf
            refine VM_stL (n := 400) (k := (v4 - (1 : Int32)).toNatClampNeg) rfl hb15 rfl hs17 dX7_run_212 ?_
            refine V_goto (tgt := 251) dX7_run_213 (by decide) ?_
            refine V_keep [true, true, true, true, true, true, false, false] rfl ?_
            exact mM_run_251_v hE k11 hk11 v1 v3 v4 (v5 + (1 : Int32)) σ16 hf
        · have hf := if_f hf hc10
          refine V_inc (ls' := [some (.ref h), some (.int v1), none, some (.int v3), some (.int (v4 + (-1 : Int32))), some (.int (v5 + (1 : Int32))), some (.int (gI σ 1 (((r4 + (98 : Int32)) + ((2 : Int32) * v5)).toNatClampNeg))), some (.int (gI σ 1 ((((r7 + (98 : Int32)) + ((2 : Int32) * v5)) + (1 : Int32)).toNatClampNeg)))]) dX7_run_112 rfl kc_m1 (by decide) rfl ?_
          refine V_aload_n dX7_run_115 rfl ?_
          refine VM_getR fX7_59 ⟨rfl, rfl⟩ rfl dX7_run_116 ?_
          refine V_iload dX7_run_119 rfl ?_
          refine V_iconst dX7_run_121 kc_1 ?_
          refine V_isub dX7_run_122 ?_
          refine V_aload_n dX7_run_123 rfl ?_
          refine V_iload dX7_run_124 rfl ?_
          refine V_aload_n dX7_run_126 rfl ?_
          refine VM_getR fX7_59 ⟨rfl, rfl⟩ rfl dX7_run_127 ?_
          refine V_iload dX7_run_130 rfl ?_
          refine V_iconst dX7_run_132 kc_1 ?_
          refine V_isub dX7_run_133 ?_
          obtain ⟨hb18, hf⟩ := ck_ex hf
          refine VM_ldL (n := 400) (k := ((v4 + (-1 : Int32)) - (1 : Int32)).toNatClampNeg) rfl hb18 rfl dX7_run_134 ?_
          refine V_aload_n dX7_run_135 rfl ?_
          refine VM_getR fX7_59 ⟨rfl, rfl⟩ rfl dX7_run_136 ?_
          refine V_iload dX7_run_139 rfl ?_
          obtain ⟨hb19, hf⟩ := ck_ex hf
          refine VM_ldL (n := 400) (k := (v4 + (-1 : Int32)).toNatClampNeg) rfl hb19 rfl dX7_run_141 ?_
          obtain ⟨r21, σ22, hc20, hf⟩ := bd2_ex hf
          refine V_cV (av := [.int (gI σ 1 (((r4 + (98 : Int32)) + ((2 : Int32) * v5)).toNatClampNeg)), .long (gL σ 15 (((v4 + (-1 : Int32)) - (1 : Int32)).toNatClampNeg)), .long (gL σ 15 ((v4 + (-1 : Int32)).toNatClampNeg))]) (rest := [.int ((v4 + (-1 : Int32)) - (1 : Int32)), .ref (h + 15)]) (st' := [.long r21, .int ((v4 + (-1 : Int32)) - (1 : Int32)), .ref (h + 15)]) (mM_reckon_ok _ _ _ _ _ _ _ _ _ _ hc20) vcX7_447 (wM_k0 _ _ _) (by decide) rfl rfl (Nat.le_of_ble_eq_true rfl) dX7_run_142 rfl ?_
          obtain ⟨hb23, hf⟩ := ck_ex hf
          obtain ⟨σ24, hs25, hf⟩ := st1_ex hf
          refine VM_stL (n := 400) (k := ((v4 + (-1 : Int32)) - (1 : Int32)).toNatClampNeg) rfl hb23 rfl hs25 dX7_run_145 ?_
          refine V_aload_n dX7_run_146 rfl ?_
          refine V_aload_n dX7_run_147 rfl ?_
          refine VM_getI fX7_444 rfl dX7_run_148 ?_
          refine V_if_ne (tgt := 175) dX7_run_151 (by decide) (fun hc26 => ?_) (fun hc26 => ?_)
          · have hf := if_f hf hc26
            refine V_keep [true, true, true, true, true, true, false, false] rfl ?_
            exact mM_run_175_v hE k11 hk11 v1 v3 (v4 + (-1 : Int32)) (v5 + (1 : Int32)) σ24 hf
          · have hf := if_t hf hc26
            refine V_aload_n dX7_run_154 rfl ?_
            refine VM_getR fX7_59 ⟨rfl, rfl⟩ rfl dX7_run_155 ?_
            refine V_iload dX7_run_158 rfl ?_
            refine V_iconst dX7_run_160 kc_1 ?_
            refine V_isub dX7_run_161 ?_
            obtain ⟨hb27, hf⟩ := ck_ex hf
            refine VM_ldL (n := 400) (k := ((v4 + (-1 : Int32)) - (1 : Int32)).toNatClampNeg) rfl hb27 rfl dX7_run_162 ?_
            refine V_ldc2 q2089 dX7_run_163 ?_
            refine V_ldc2 q2090 dX7_run_166 ?_
            obtain ⟨r29, hc28, hf⟩ := bd1_ex hf
            refine V_cS (rest := [.ref h]) (st' := [.int r29, .ref h]) (mM_in_ok _ _ _ _ _ _ _ hc28) scX7_121 (by decide) rfl rfl (Nat.le_of_ble_eq_true rfl) dX7_run_169 rfl ?_
            refine V_if_ne (tgt := 179) dX7_run_172 (by decide) (fun hc30 => ?_) (fun hc30 => ?_)
            · have hf := if_f hf hc30
              refine V_iconst dX7_run_179 kc_0 ?_
              refine V_keep [true, true, true, true, true, true, false, false] rfl ?_
              exact mM_run_180_v hE k11 hk11 v1 v3 (v4 + (-1 : Int32)) (v5 + (1 : Int32)) (0 : Int32) σ24 hf
            · have hf := if_t hf hc30
              refine V_keep [true, true, true, true, true, true, false, false] rfl ?_
              exact mM_run_175_v hE k11 hk11 v1 v3 (v4 + (-1 : Int32)) (v5 + (1 : Int32)) σ24 hf
      · have hf := if_f hf hc9
        refine V_aload_n dX7_run_74 rfl ?_
        refine VM_getR fX7_59 ⟨rfl, rfl⟩ rfl dX7_run_75 ?_
        refine V_iload dX7_run_78 rfl ?_
        refine V_iload dX7_run_80 rfl ?_
        refine V_if_ne (tgt := 91) dX7_run_82 (by decide) (fun hc31 => ?_) (fun hc31 => ?_)
        · have hf := if_f hf hc31
          refine V_aload_n dX7_run_91 rfl ?_
          refine VM_getR fX7_55 ⟨rfl, rfl⟩ rfl dX7_run_92 ?_
          refine V_iload dX7_run_95 rfl ?_
          obtain ⟨hb32, hf⟩ := ck_ex hf
          refine VM_ldL (n := 17) (k := (gI σ 1 (((r4 + (98 : Int32)) + ((2 : Int32) * v5)).toNatClampNeg)).toNatClampNeg) rfl hb32 rfl dX7_run_97 ?_
          refine V_keep [true, true, true, true, true, true, false, false] rfl ?_
          exact mM_run_98_v hE k11 hk11 v1 v3 v4 (v5 + (1 : Int32)) (gL σ 14 ((gI σ 1 (((r4 + (98 : Int32)) + ((2 : Int32) * v5)).toNatClampNeg)).toNatClampNeg)) v4 σ hf
        · have hf := if_t hf hc31
          refine V_iload dX7_run_85 rfl ?_
          refine V_i2l dX7_run_87 ?_
          refine V_goto (tgt := 98) dX7_run_88 (by decide) ?_
          refine V_keep [true, true, true, true, true, true, false, false] rfl ?_
          exact mM_run_98_v hE k11 hk11 v1 v3 v4 (v5 + (1 : Int32)) ((gI σ 1 ((((r7 + (98 : Int32)) + ((2 : Int32) * v5)) + (1 : Int32)).toNatClampNeg)).toInt64) v4 σ hf
set_option maxHeartbeats 4000000 in
theorem mM_run_ok (l : Launch) (D : DD) (z : ZZ) (h : Nat) (p0 : Int32) (p1 : Int32) (p2 : Int32) (σ : SM) (σ' : SM) (hf : mM_run p0 p1 p2 σ = some σ') : MA l D yX7_run cX7_run 8 none 2 [.ref h, .int p0, .int p1, .int p2] (wM z h σ) (.returned none) (wM z h σ') := by
  refine MA.intro (own := RX7) (nm := "run") (ls := [some (.ref h), some (.int p0), some (.int p1), some (.int p2), none, none, none, none]) (by decide) rfl rfl (Nat.le_of_ble_eq_true rfl) rfl (fun X hl hD hE => ?_)
  subst hl hD
  unfold mM_run at hf
  refine V_aload_n dX7_run_0 rfl ?_
  refine V_iconst dX7_run_1 kc_0 ?_
  obtain ⟨σ1, hs2, hf⟩ := st1_ex hf
  refine VM_putZ fwX7_444 (by decide) hs2 dX7_run_2 ?_
  refine V_iconst dX7_run_5 kc_0 ?_
  refine V_istore (ls' := [some (.ref h), some (.int p0), some (.int p1), some (.int p2), some (.int (0 : Int32)), none, none, none]) dX7_run_6 (by decide) rfl ?_
  refine V_iload_n dX7_run_8 rfl ?_
  refine V_istore (ls' := [some (.ref h), some (.int p0), some (.int p1), some (.int p2), some (.int (0 : Int32)), some (.int p1), none, none]) dX7_run_9 (by decide) rfl ?_
  refine V_keep [true, true, false, true, true, true, true, true] rfl ?_
  exact lq5_ex (P := fun v1 v3 v4 v5 σ => V X cX7_run RX7 8 2 (wM z h σ) 11 [some (.ref h), some (.int v1), none, some (.int v3), some (.int v4), some (.int v5), none, none] []) (fun k hk v1 v3 v4 v5 σ hf => mM_run_11_v hE k hk v1 v3 v4 v5 σ hf) LF p0 p2 (0 : Int32) p1 σ1 hf
set_option maxHeartbeats 4000000 in
theorem mM_isSo_60_v {X : CX} {w0 : AH} {z : ZZ} {h : Nat} {r : Int32} {σ' : SM} (hE : XE X w0 3 (some .boolean) "isSo" (.returned (some (.int r))) (wM z h σ')) (v1 : Int32) (v2 : Int32) (σ : SM) (hf : mM_isSo_60 v1 v2 σ = some (r, σ')) : V X cX7_isSo RX7 3 3 (wM z h σ) 60 [some (.ref h), some (.int v1), some (.int v2)] [] := by
  unfold mM_isSo_60 at hf
  refine V_aload_n dX7_isSo_60 rfl ?_
  refine V_iload_n dX7_isSo_61 rfl ?_
  refine V_aload_n dX7_isSo_62 rfl ?_
  refine VM_getR fX7_7 ⟨rfl, rfl⟩ rfl dX7_isSo_63 ?_
  refine V_iload_n dX7_isSo_66 rfl ?_
  refine V_iconst dX7_isSo_67 kc_3 ?_
  refine V_iadd dX7_isSo_68 ?_
  obtain ⟨hb1, hf⟩ := ck_ex hf
  refine VM_ldI (n := 23016) (k := (v2 + (3 : Int32)).toNatClampNeg) rfl hb1 rfl dX7_isSo_69 ?_
  refine V_aload_n dX7_isSo_70 rfl ?_
  refine VM_getR fX7_7 ⟨rfl, rfl⟩ rfl dX7_isSo_71 ?_
  refine V_iload_n dX7_isSo_74 rfl ?_
  refine V_iconst dX7_isSo_75 kc_4 ?_
  refine V_iadd dX7_isSo_76 ?_
  obtain ⟨hb2, hf⟩ := ck_ex hf
  refine VM_ldI (n := 23016) (k := (v2 + (4 : Int32)).toNatClampNeg) rfl hb2 rfl dX7_isSo_77 ?_
  obtain ⟨σ4, hc3, hf⟩ := bd1_ex hf
  refine V_cV (av := [.int v1, .int (gI σ 1 ((v2 + (3 : Int32)).toNatClampNeg)), .int (gI σ 1 ((v2 + (4 : Int32)).toNatClampNeg))]) (rest := []) (st' := []) (mM_run_ok _ _ _ _ _ _ _ _ _ hc3) vcX7_458 (wM_k0 _ _ _) (by decide) rfl rfl (Nat.le_of_ble_eq_true rfl) dX7_isSo_78 rfl ?_
  refine V_aload_n dX7_isSo_81 rfl ?_
  refine V_aload_n dX7_isSo_82 rfl ?_
  refine VM_getL fX7_455 dX7_isSo_83 ?_
  obtain ⟨σ5, hs6, hf⟩ := st1_ex hf
  refine VM_putL fwX7_462 hs6 dX7_isSo_86 ?_
  refine V_aload_n dX7_isSo_89 rfl ?_
  refine VM_getI fX7_444 rfl dX7_isSo_90 ?_
  refine V_if_ne (tgt := 100) dX7_isSo_93 (by decide) (fun hc7 => ?_) (fun hc7 => ?_)
  · have hf := if_f hf hc7
    refine V_iconst dX7_isSo_100 kc_0 ?_
    cases some_ex hf
    exact V_zret hE (by decide) dX7_isSo_101
  · have hf := if_t hf hc7
    refine V_iconst dX7_isSo_96 kc_1 ?_
    refine V_goto (tgt := 101) dX7_isSo_97 (by decide) ?_
    cases some_ex hf
    exact V_zret hE (by decide) dX7_isSo_101
set_option maxHeartbeats 4000000 in
theorem mM_isSo_ok (l : Launch) (D : DD) (z : ZZ) (h : Nat) (p0 : Int32) (p1 : Int32) (σ : SM) (r : Int32) (σ' : SM) (hf : mM_isSo p0 p1 σ = some (r, σ')) : MA l D yX7_isSo cX7_isSo 3 (some .boolean) 3 [.ref h, .int p0, .int p1] (wM z h σ) (.returned (some (.int r))) (wM z h σ') := by
  refine MA.intro (own := RX7) (nm := "isSo") (ls := [some (.ref h), some (.int p0), some (.int p1)]) (by decide) rfl rfl (Nat.le_of_ble_eq_true rfl) rfl (fun X hl hD hE => ?_)
  subst hl hD
  unfold mM_isSo at hf
  refine V_aload_n dX7_isSo_0 rfl ?_
  refine VM_getR fX7_7 ⟨rfl, rfl⟩ rfl dX7_isSo_1 ?_
  refine V_iload_n dX7_isSo_4 rfl ?_
  refine V_iconst dX7_isSo_5 kc_5 ?_
  refine V_iadd dX7_isSo_6 ?_
  obtain ⟨hb1, hf⟩ := ck_ex hf
  refine VM_ldI (n := 23016) (k := (p1 + (5 : Int32)).toNatClampNeg) rfl hb1 rfl dX7_isSo_7 ?_
  refine V_aload_n dX7_isSo_8 rfl ?_
  refine VM_getR fX7_7 ⟨rfl, rfl⟩ rfl dX7_isSo_9 ?_
  refine V_iload_n dX7_isSo_12 rfl ?_
  refine V_bipush dX7_isSo_13 kb_6 ?_
  refine V_iadd dX7_isSo_15 ?_
  obtain ⟨hb2, hf⟩ := ck_ex hf
  refine VM_ldI (n := 23016) (k := (p1 + (6 : Int32)).toNatClampNeg) rfl hb2 rfl dX7_isSo_16 ?_
  refine V_icmp_ge (tgt := 60) dX7_isSo_17 (by decide) (fun hc3 => ?_) (fun hc3 => ?_)
  · have hf := if_t hf hc3
    exact mM_isSo_60_v hE p0 p1 σ hf
  · have hf := if_f hf hc3
    refine V_aload_n dX7_isSo_20 rfl ?_
    refine V_iload_n dX7_isSo_21 rfl ?_
    refine V_aload_n dX7_isSo_22 rfl ?_
    refine VM_getR fX7_7 ⟨rfl, rfl⟩ rfl dX7_isSo_23 ?_
    refine V_iload_n dX7_isSo_26 rfl ?_
    refine V_iconst dX7_isSo_27 kc_5 ?_
    refine V_iadd dX7_isSo_28 ?_
    obtain ⟨hb4, hf⟩ := ck_ex hf
    refine VM_ldI (n := 23016) (k := (p1 + (5 : Int32)).toNatClampNeg) rfl hb4 rfl dX7_isSo_29 ?_
    refine V_aload_n dX7_isSo_30 rfl ?_
    refine VM_getR fX7_7 ⟨rfl, rfl⟩ rfl dX7_isSo_31 ?_
    refine V_iload_n dX7_isSo_34 rfl ?_
    refine V_bipush dX7_isSo_35 kb_6 ?_
    refine V_iadd dX7_isSo_37 ?_
    obtain ⟨hb5, hf⟩ := ck_ex hf
    refine VM_ldI (n := 23016) (k := (p1 + (6 : Int32)).toNatClampNeg) rfl hb5 rfl dX7_isSo_38 ?_
    obtain ⟨σ7, hc6, hf⟩ := bd1_ex hf
    refine V_cV (av := [.int p0, .int (gI σ 1 ((p1 + (5 : Int32)).toNatClampNeg)), .int (gI σ 1 ((p1 + (6 : Int32)).toNatClampNeg))]) (rest := []) (st' := []) (mM_run_ok _ _ _ _ _ _ _ _ _ hc6) vcX7_458 (wM_k0 _ _ _) (by decide) rfl rfl (Nat.le_of_ble_eq_true rfl) dX7_isSo_39 rfl ?_
    refine V_aload_n dX7_isSo_42 rfl ?_
    refine VM_getI fX7_444 rfl dX7_isSo_43 ?_
    refine V_if_ne (tgt := 58) dX7_isSo_46 (by decide) (fun hc8 => ?_) (fun hc8 => ?_)
    · have hf := if_f hf hc8
      refine V_iconst dX7_isSo_58 kc_0 ?_
      cases some_ex hf
      exact V_zret hE (by decide) dX7_isSo_59
    · have hf := if_t hf hc8
      refine V_aload_n dX7_isSo_49 rfl ?_
      refine VM_getL fX7_455 dX7_isSo_50 ?_
      refine V_lconst dX7_isSo_53 kl_0 ?_
      refine V_lif_ne (tgt := 60) dX7_isSo_54 dX7_isSo_55 (by decide) (fun hc9 => ?_) (fun hc9 => ?_)
      · have hf := if_f hf hc9
        exact mM_isSo_60_v hE p0 p1 σ7 hf
      · have hf := if_t hf hc9
        refine V_iconst dX7_isSo_58 kc_0 ?_
        cases some_ex hf
        exact V_zret hE (by decide) dX7_isSo_59
set_option maxHeartbeats 4000000 in
theorem mM_find_140_v {X : CX} {w0 : AH} {z : ZZ} {h : Nat} {r : Int32} {σ' : SM} (hE : XE X w0 4 (some .boolean) "find" (.returned (some (.int r))) (wM z h σ')) (k8 : Int32 → Int32 → Int32 → Int64 → Int32 → SM → Option (Int32 × SM)) (hk8 : ∀ (v1 : Int32) (v2 : Int32) (v3 : Int32) (v4 : Int64) (v6 : Int32) (σ : SM), k8 v1 v2 v3 v4 v6 σ = some (r, σ') → V X cX7_find RX7 10 4 (wM z h σ) 8 [some (.ref h), some (.int v1), some (.int v2), some (.int v3), some (.long v4), none, some (.int v6), none, none, none] []) (v1 : Int32) (v2 : Int32) (v3 : Int32) (v4 : Int64) (v6 : Int32) (σ : SM) (hf : mM_find_140 k8 v1 v2 v3 v4 v6 σ = some (r, σ')) : V X cX7_find RX7 10 4 (wM z h σ) 140 [some (.ref h), some (.int v1), some (.int v2), some (.int v3), some (.long v4), none, some (.int v6), none, none, none] [] := by
  unfold mM_find_140 at hf
  refine V_inc (ls' := [some (.ref h), some (.int v1), some (.int v2), some (.int v3), some (.long v4), none, some (.int (v6 + (1 : Int32))), none, none, none]) dX7_find_140 rfl kc_1 (by decide) rfl ?_
  refine V_goto (tgt := 8) dX7_find_143 (by decide) ?_
  exact hk8 v1 v2 v3 v4 (v6 + (1 : Int32)) σ hf
set_option maxHeartbeats 4000000 in
theorem mM_find_134_v {X : CX} {w0 : AH} {z : ZZ} {h : Nat} {r : Int32} {σ' : SM} (hE : XE X w0 4 (some .boolean) "find" (.returned (some (.int r))) (wM z h σ')) (k22 : Int32 → Int32 → Int32 → Int64 → Int32 → Int32 → SM → Option (Int32 × SM)) (hk22 : ∀ (v1 : Int32) (v2 : Int32) (v3 : Int32) (v4 : Int64) (v6 : Int32) (v7 : Int32) (σ : SM), k22 v1 v2 v3 v4 v6 v7 σ = some (r, σ') → V X cX7_find RX7 10 4 (wM z h σ) 22 [some (.ref h), some (.int v1), some (.int v2), some (.int v3), some (.long v4), none, some (.int v6), some (.int v7), none, none] []) (v1 : Int32) (v2 : Int32) (v3 : Int32) (v4 : Int64) (v6 : Int32) (v7 : Int32) (σ : SM) (hf : mM_find_134 k22 v1 v2 v3 v4 v6 v7 σ = some (r, σ')) : V X cX7_find RX7 10 4 (wM z h σ) 134 [some (.ref h), some (.int v1), some (.int v2), some (.int v3), some (.long v4), none, some (.int v6), some (.int v7), none, none] [] := by
  unfold mM_find_134 at hf
  refine V_inc (ls' := [some (.ref h), some (.int v1), some (.int v2), some (.int v3), some (.long v4), none, some (.int v6), some (.int (v7 + (1 : Int32))), none, none]) dX7_find_134 rfl kc_1 (by decide) rfl ?_
  refine V_goto (tgt := 22) dX7_find_137 (by decide) ?_
  exact hk22 v1 v2 v3 v4 v6 (v7 + (1 : Int32)) σ hf
set_option maxHeartbeats 4000000 in
theorem mM_find_108_v {X : CX} {w0 : AH} {z : ZZ} {h : Nat} {r : Int32} {σ' : SM} (hE : XE X w0 4 (some .boolean) "find" (.returned (some (.int r))) (wM z h σ')) (k22 : Int32 → Int32 → Int32 → Int64 → Int32 → Int32 → SM → Option (Int32 × SM)) (hk22 : ∀ (v1 : Int32) (v2 : Int32) (v3 : Int32) (v4 : Int64) (v6 : Int32) (v7 : Int32) (σ : SM), k22 v1 v2 v3 v4 v6 v7 σ = some (r, σ') → V X cX7_find RX7 10 4 (wM z h σ) 22 [some (.ref h), some (.int v1), some (.int v2), some (.int v3), some (.long v4), none, some (.int v6), some (.int v7), none, none] []) (v1 : Int32) (v2 : Int32) (v3 : Int32) (v4 : Int64) (v6 : Int32) (v7 : Int32) (v8 : Int32) (t0 : Int32) (σ : SM) (hf : mM_find_108 k22 v1 v2 v3 v4 v6 v7 v8 t0 σ = some (r, σ')) : V X cX7_find RX7 10 4 (wM z h σ) 108 [some (.ref h), some (.int v1), some (.int v2), some (.int v3), some (.long v4), none, some (.int v6), some (.int v7), some (.int v8), none] [.int t0] := by
  unfold mM_find_108 at hf
  refine V_istore (ls' := [some (.ref h), some (.int v1), some (.int v2), some (.int v3), some (.long v4), none, some (.int v6), some (.int v7), some (.int v8), some (.int t0)]) dX7_find_108 (by decide) rfl ?_
  refine V_iload dX7_find_110 rfl ?_
  refine V_if_eq (tgt := 134) dX7_find_112 (by decide) (fun hc1 => ?_) (fun hc1 => ?_)
  · have hf := if_t hf hc1
    refine V_keep [true, true, true, true, true, true, true, true, false, false] rfl ?_
    exact mM_find_134_v hE k22 hk22 v1 v2 v3 v4 v6 v7 σ hf
  · have hf := if_f hf hc1
    refine V_aload_n dX7_find_115 rfl ?_
    refine V_iload dX7_find_116 rfl ?_
    refine V_iload dX7_find_118 rfl ?_
    obtain ⟨r3, σ4, hc2, hf⟩ := bd2_ex hf
    refine V_cV (av := [.int v6, .int v8]) (rest := []) (st' := [.int r3]) (mM_isSo_ok _ _ _ _ _ _ _ _ _ hc2) vcX7_465 (wM_k0 _ _ _) (by decide) rfl rfl (Nat.le_of_ble_eq_true rfl) dX7_find_120 rfl ?_
    refine V_if_eq (tgt := 134) dX7_find_123 (by decide) (fun hc5 => ?_) (fun hc5 => ?_)
    · have hf := if_t hf hc5
      refine V_keep [true, true, true, true, true, true, true, true, false, false] rfl ?_
      exact mM_find_134_v hE k22 hk22 v1 v2 v3 v4 v6 v7 σ4 hf
    · have hf := if_f hf hc5
      refine V_iconst dX7_find_126 kc_1 ?_
      refine V_istore_n (ls' := [some (.ref h), some (.int v1), some (.int v2), some (.int (1 : Int32)), some (.long v4), none, some (.int v6), some (.int v7), some (.int v8), some (.int t0)]) dX7_find_127 (by decide) rfl ?_
      refine V_aload_n dX7_find_128 rfl ?_
      refine VM_getL fX7_462 dX7_find_129 ?_
      refine V_lstore (ls' := [some (.ref h), some (.int v1), some (.int v2), some (.int (1 : Int32)), some (.long (gL σ4 0 33)), none, some (.int v6), some (.int v7), some (.int v8), some (.int t0)]) dX7_find_132 (by decide) rfl ?_
      refine V_keep [true, true, true, true, true, true, true, true, false, false] rfl ?_
      exact mM_find_134_v hE k22 hk22 v1 v2 (1 : Int32) (gL σ4 0 33) v6 v7 σ4 hf
set_option maxHeartbeats 4000000 in
theorem mM_find_107_v {X : CX} {w0 : AH} {z : ZZ} {h : Nat} {r : Int32} {σ' : SM} (hE : XE X w0 4 (some .boolean) "find" (.returned (some (.int r))) (wM z h σ')) (k22 : Int32 → Int32 → Int32 → Int64 → Int32 → Int32 → SM → Option (Int32 × SM)) (hk22 : ∀ (v1 : Int32) (v2 : Int32) (v3 : Int32) (v4 : Int64) (v6 : Int32) (v7 : Int32) (σ : SM), k22 v1 v2 v3 v4 v6 v7 σ = some (r, σ') → V X cX7_find RX7 10 4 (wM z h σ) 22 [some (.ref h), some (.int v1), some (.int v2), some (.int v3), some (.long v4), none, some (.int v6), some (.int v7), none, none] []) (v1 : Int32) (v2 : Int32) (v3 : Int32) (v4 : Int64) (v6 : Int32) (v7 : Int32) (v8 : Int32) (σ : SM) (hf : mM_find_107 k22 v1 v2 v3 v4 v6 v7 v8 σ = some (r, σ')) : V X cX7_find RX7 10 4 (wM z h σ) 107 [some (.ref h), some (.int v1), some (.int v2), some (.int v3), some (.long v4), none, some (.int v6), some (.int v7), some (.int v8), none] [] := by
  unfold mM_find_107 at hf
  refine V_iconst dX7_find_107 kc_0 ?_
  exact mM_find_108_v hE k22 hk22 v1 v2 v3 v4 v6 v7 v8 (0 : Int32) σ hf
set_option maxHeartbeats 4000000 in
theorem mM_find_87_v {X : CX} {w0 : AH} {z : ZZ} {h : Nat} {r : Int32} {σ' : SM} (hE : XE X w0 4 (some .boolean) "find" (.returned (some (.int r))) (wM z h σ')) (k22 : Int32 → Int32 → Int32 → Int64 → Int32 → Int32 → SM → Option (Int32 × SM)) (hk22 : ∀ (v1 : Int32) (v2 : Int32) (v3 : Int32) (v4 : Int64) (v6 : Int32) (v7 : Int32) (σ : SM), k22 v1 v2 v3 v4 v6 v7 σ = some (r, σ') → V X cX7_find RX7 10 4 (wM z h σ) 22 [some (.ref h), some (.int v1), some (.int v2), some (.int v3), some (.long v4), none, some (.int v6), some (.int v7), none, none] []) (v1 : Int32) (v2 : Int32) (v3 : Int32) (v4 : Int64) (v6 : Int32) (v7 : Int32) (v8 : Int32) (σ : SM) (hf : mM_find_87 k22 v1 v2 v3 v4 v6 v7 v8 σ = some (r, σ')) : V X cX7_find RX7 10 4 (wM z h σ) 87 [some (.ref h), some (.int v1), some (.int v2), some (.int v3), some (.long v4), none, some (.int v6), some (.int v7), some (.int v8), none] [] := by
  unfold mM_find_87 at hf
  refine V_aload_n dX7_find_87 rfl ?_
  refine VM_getR fX7_52 ⟨rfl, rfl⟩ rfl dX7_find_88 ?_
  refine V_bipush dX7_find_91 kb_12 ?_
  refine V_iload dX7_find_93 rfl ?_
  refine V_imul dX7_find_95 ?_
  refine V_iload dX7_find_96 rfl ?_
  refine V_iadd dX7_find_98 ?_
  obtain ⟨hb1, hf⟩ := ck_ex hf
  refine VM_ldZ (n := 240) (k := (((12 : Int32) * v6) + v7).toNatClampNeg) rfl hb1 rfl dX7_find_99 ?_
  refine V_if_ne (tgt := 107) dX7_find_100 (by decide) (fun hc2 => ?_) (fun hc2 => ?_)
  · have hf := if_f hf hc2
    exact mM_find_107_v hE k22 hk22 v1 v2 v3 v4 v6 v7 v8 σ hf
  · have hf := if_t hf hc2
    refine V_iconst dX7_find_103 kc_1 ?_
    refine V_goto (tgt := 108) dX7_find_104 (by decide) ?_
    exact mM_find_108_v hE k22 hk22 v1 v2 v3 v4 v6 v7 v8 (1 : Int32) σ hf
set_option maxHeartbeats 4000000 in
theorem mM_find_22_v {X : CX} {w0 : AH} {z : ZZ} {h : Nat} {r : Int32} {σ' : SM} (hE : XE X w0 4 (some .boolean) "find" (.returned (some (.int r))) (wM z h σ')) (k8 : Int32 → Int32 → Int32 → Int64 → Int32 → SM → Option (Int32 × SM)) (hk8 : ∀ (v1 : Int32) (v2 : Int32) (v3 : Int32) (v4 : Int64) (v6 : Int32) (σ : SM), k8 v1 v2 v3 v4 v6 σ = some (r, σ') → V X cX7_find RX7 10 4 (wM z h σ) 8 [some (.ref h), some (.int v1), some (.int v2), some (.int v3), some (.long v4), none, some (.int v6), none, none, none] []) (k22 : Int32 → Int32 → Int32 → Int64 → Int32 → Int32 → SM → Option (Int32 × SM)) (hk22 : ∀ (v1 : Int32) (v2 : Int32) (v3 : Int32) (v4 : Int64) (v6 : Int32) (v7 : Int32) (σ : SM), k22 v1 v2 v3 v4 v6 v7 σ = some (r, σ') → V X cX7_find RX7 10 4 (wM z h σ) 22 [some (.ref h), some (.int v1), some (.int v2), some (.int v3), some (.long v4), none, some (.int v6), some (.int v7), none, none] []) (v1 : Int32) (v2 : Int32) (v3 : Int32) (v4 : Int64) (v6 : Int32) (v7 : Int32) (σ : SM) (hf : mM_find_22 k8 k22 v1 v2 v3 v4 v6 v7 σ = some (r, σ')) : V X cX7_find RX7 10 4 (wM z h σ) 22 [some (.ref h), some (.int v1), some (.int v2), some (.int v3), some (.long v4), none, some (.int v6), some (.int v7), none, none] [] := by
  unfold mM_find_22 at hf
  refine V_iload dX7_find_22 rfl ?_
  refine V_aload_n dX7_find_24 rfl ?_
  refine VM_getR fX7_7 ⟨rfl, rfl⟩ rfl dX7_find_25 ?_
  refine V_iload dX7_find_28 rfl ?_
  obtain ⟨r2, hc1, hf⟩ := bd1_ex hf
  refine V_cS (rest := [.ref (h + 1), .int v7]) (st' := [.int r2, .ref (h + 1), .int v7]) (mM_textAt_ok _ _ _ _ _ hc1) scX7_423 (by decide) rfl rfl (Nat.le_of_ble_eq_true rfl) dX7_find_30 rfl ?_
  refine V_iconst dX7_find_33 kc_1 ?_
  refine V_iadd dX7_find_34 ?_
  obtain ⟨hb3, hf⟩ := ck_ex hf
  refine VM_ldI (n := 23016) (k := (r2 + (1 : Int32)).toNatClampNeg) rfl hb3 rfl dX7_find_35 ?_
  refine V_icmp_ge (tgt := 140) dX7_find_36 (by decide) (fun hc4 => ?_) (fun hc4 => ?_)
  · have hf := if_t hf hc4
    refine V_keep [true, true, true, true, true, true, true, false, true, true] rfl ?_
    exact mM_find_140_v hE k8 hk8 v1 v2 v3 v4 v6 σ hf
  · have hf := if_f hf hc4
    refine V_aload_n dX7_find_39 rfl ?_
    refine VM_getR fX7_49 ⟨rfl, rfl⟩ rfl dX7_find_40 ?_
    refine V_iload dX7_find_43 rfl ?_
    obtain ⟨hb5, hf⟩ := ck_ex hf
    refine VM_ldZ (n := 20) (k := v6.toNatClampNeg) rfl hb5 rfl dX7_find_45 ?_
    refine V_if_eq (tgt := 140) dX7_find_46 (by decide) (fun hc6 => ?_) (fun hc6 => ?_)
    · have hf := if_t hf hc6
      refine V_keep [true, true, true, true, true, true, true, false, true, true] rfl ?_
      exact mM_find_140_v hE k8 hk8 v1 v2 v3 v4 v6 σ hf
    · have hf := if_f hf hc6
      refine V_iload dX7_find_49 rfl ?_
      refine V_iload dX7_find_51 rfl ?_
      obtain ⟨r8, hc7, hf⟩ := bd1_ex hf
      refine V_cS (rest := []) (st' := [.int r8]) (mM_clauseAt_ok _ _ _ _ _ _ hc7) scX7_426 (by decide) rfl rfl (Nat.le_of_ble_eq_true rfl) dX7_find_53 rfl ?_
      refine V_istore (ls' := [some (.ref h), some (.int v1), some (.int v2), some (.int v3), some (.long v4), none, some (.int v6), some (.int v7), some (.int r8), none]) dX7_find_56 (by decide) rfl ?_
      refine V_aload_n dX7_find_58 rfl ?_
      refine VM_getR fX7_7 ⟨rfl, rfl⟩ rfl dX7_find_59 ?_
      refine V_iload dX7_find_62 rfl ?_
      obtain ⟨hb9, hf⟩ := ck_ex hf
      refine VM_ldI (n := 23016) (k := r8.toNatClampNeg) rfl hb9 rfl dX7_find_64 ?_
      refine V_iload_n dX7_find_65 rfl ?_
      refine V_icmp_ne (tgt := 107) dX7_find_66 (by decide) (fun hc10 => ?_) (fun hc10 => ?_)
      · have hf := if_f hf hc10
        exact mM_find_107_v hE k22 hk22 v1 v2 v3 v4 v6 v7 r8 σ hf
      · have hf := if_t hf hc10
        refine V_iload_n dX7_find_69 rfl ?_
        refine V_iconst dX7_find_70 kc_m1 ?_
        refine V_icmp_eq (tgt := 87) dX7_find_71 (by decide) (fun hc11 => ?_) (fun hc11 => ?_)
        · have hf := if_t hf hc11
          exact mM_find_87_v hE k22 hk22 v1 v2 v3 v4 v6 v7 r8 σ hf
        · have hf := if_f hf hc11
          refine V_aload_n dX7_find_74 rfl ?_
          refine VM_getR fX7_7 ⟨rfl, rfl⟩ rfl dX7_find_75 ?_
          refine V_iload dX7_find_78 rfl ?_
          refine V_iconst dX7_find_80 kc_1 ?_
          refine V_iadd dX7_find_81 ?_
          obtain ⟨hb12, hf⟩ := ck_ex hf
          refine VM_ldI (n := 23016) (k := (r8 + (1 : Int32)).toNatClampNeg) rfl hb12 rfl dX7_find_82 ?_
          refine V_iload_n dX7_find_83 rfl ?_
          refine V_icmp_ne (tgt := 107) dX7_find_84 (by decide) (fun hc13 => ?_) (fun hc13 => ?_)
          · have hf := if_f hf hc13
            exact mM_find_107_v hE k22 hk22 v1 v2 v3 v4 v6 v7 r8 σ hf
          · have hf := if_t hf hc13
            exact mM_find_87_v hE k22 hk22 v1 v2 v3 v4 v6 v7 r8 σ hf
set_option maxHeartbeats 4000000 in
theorem mM_find_8_v {X : CX} {w0 : AH} {z : ZZ} {h : Nat} {r : Int32} {σ' : SM} (hE : XE X w0 4 (some .boolean) "find" (.returned (some (.int r))) (wM z h σ')) (k8 : Int32 → Int32 → Int32 → Int64 → Int32 → SM → Option (Int32 × SM)) (hk8 : ∀ (v1 : Int32) (v2 : Int32) (v3 : Int32) (v4 : Int64) (v6 : Int32) (σ : SM), k8 v1 v2 v3 v4 v6 σ = some (r, σ') → V X cX7_find RX7 10 4 (wM z h σ) 8 [some (.ref h), some (.int v1), some (.int v2), some (.int v3), some (.long v4), none, some (.int v6), none, none, none] []) (v1 : Int32) (v2 : Int32) (v3 : Int32) (v4 : Int64) (v6 : Int32) (σ : SM) (hf : mM_find_8 k8 v1 v2 v3 v4 v6 σ = some (r, σ')) : V X cX7_find RX7 10 4 (wM z h σ) 8 [some (.ref h), some (.int v1), some (.int v2), some (.int v3), some (.long v4), none, some (.int v6), none, none, none] [] := by
  unfold mM_find_8 at hf
  refine V_iload dX7_find_8 rfl ?_
  refine V_aload_n dX7_find_10 rfl ?_
  refine VM_getR fX7_7 ⟨rfl, rfl⟩ rfl dX7_find_11 ?_
  refine V_iconst dX7_find_14 kc_2 ?_
  refine VM_ldI (n := 23016) (k := 2) rfl (by decide) (by decide) dX7_find_15 ?_
  refine V_icmp_ge (tgt := 146) dX7_find_16 (by decide) (fun hc1 => ?_) (fun hc1 => ?_)
  · have hf := if_t hf hc1
    refine V_aload_n dX7_find_146 rfl ?_
    refine V_lload dX7_find_147 rfl ?_
    obtain ⟨σ2, hs3, hf⟩ := st1_ex hf
    refine VM_putL fwX7_462 hs3 dX7_find_149 ?_
    refine V_iload_n dX7_find_152 rfl ?_
    obtain ⟨hb4, hf⟩ := ck_ex hf
    cases some_ex hf
    exact V_zret hE (isZ_nar hb4) dX7_find_153
  · have hf := if_f hf hc1
    refine V_iconst dX7_find_19 kc_0 ?_
    refine V_istore (ls' := [some (.ref h), some (.int v1), some (.int v2), some (.int v3), some (.long v4), none, some (.int v6), some (.int (0 : Int32)), none, none]) dX7_find_20 (by decide) rfl ?_
    exact lq7_ex (P := fun v1 v2 v3 v4 v6 v7 σ => V X cX7_find RX7 10 4 (wM z h σ) 22 [some (.ref h), some (.int v1), some (.int v2), some (.int v3), some (.long v4), none, some (.int v6), some (.int v7), none, none] []) (fun k hk v1 v2 v3 v4 v6 v7 σ hf => mM_find_22_v hE k8 hk8 k hk v1 v2 v3 v4 v6 v7 σ hf) LF v1 v2 v3 v4 v6 (0 : Int32) σ hf
set_option maxHeartbeats 4000000 in
theorem mM_find_ok (l : Launch) (D : DD) (z : ZZ) (h : Nat) (p0 : Int32) (p1 : Int32) (σ : SM) (r : Int32) (σ' : SM) (hf : mM_find p0 p1 σ = some (r, σ')) : MA l D yX7_find cX7_find 10 (some .boolean) 4 [.ref h, .int p0, .int p1] (wM z h σ) (.returned (some (.int r))) (wM z h σ') := by
  refine MA.intro (own := RX7) (nm := "find") (ls := [some (.ref h), some (.int p0), some (.int p1), none, none, none, none, none, none, none]) (by decide) rfl rfl (Nat.le_of_ble_eq_true rfl) rfl (fun X hl hD hE => ?_)
  subst hl hD
  unfold mM_find at hf
  refine V_iconst dX7_find_0 kc_0 ?_
  refine V_istore_n (ls' := [some (.ref h), some (.int p0), some (.int p1), some (.int (0 : Int32)), none, none, none, none, none, none]) dX7_find_1 (by decide) rfl ?_
  refine V_lconst dX7_find_2 kl_0 ?_
  refine V_lstore (ls' := [some (.ref h), some (.int p0), some (.int p1), some (.int (0 : Int32)), some (.long (0 : Int64)), none, none, none, none, none]) dX7_find_3 (by decide) rfl ?_
  refine V_iconst dX7_find_5 kc_0 ?_
  refine V_istore (ls' := [some (.ref h), some (.int p0), some (.int p1), some (.int (0 : Int32)), some (.long (0 : Int64)), none, some (.int (0 : Int32)), none, none, none]) dX7_find_6 (by decide) rfl ?_
  exact lq6_ex (P := fun v1 v2 v3 v4 v6 σ => V X cX7_find RX7 10 4 (wM z h σ) 8 [some (.ref h), some (.int v1), some (.int v2), some (.int v3), some (.long v4), none, some (.int v6), none, none, none] []) (fun k hk v1 v2 v3 v4 v6 σ hf => mM_find_8_v hE k hk v1 v2 v3 v4 v6 σ hf) LF p0 p1 (0 : Int32) (0 : Int64) (0 : Int32) σ hf
set_option maxHeartbeats 4000000 in
theorem mM_isOnNow_69_v {X : CX} {w0 : AH} {z : ZZ} {h : Nat} {r : Int32} {σ' : SM} (hE : XE X w0 5 (some .boolean) "isOnNow" (.returned (some (.int r))) (wM z h σ')) (v1 : Int32) (σ : SM) (hf : mM_isOnNow_69 v1 σ = some (r, σ')) : V X cX7_isOnNow RX7 3 5 (wM z h σ) 69 [some (.ref h), some (.int v1), none] [] := by
  unfold mM_isOnNow_69 at hf
  refine V_aload_n dX7_isOnNow_69 rfl ?_
  refine V_iload_n dX7_isOnNow_70 rfl ?_
  obtain ⟨σ2, hc1, hf⟩ := bd1_ex hf
  refine V_cV (av := [.int v1]) (rest := []) (st' := []) (mM_setName_ok _ _ _ _ _ _ _ hc1) vcX7_191 (wM_k0 _ _ _) (by decide) rfl rfl (Nat.le_of_ble_eq_true rfl) dX7_isOnNow_71 rfl ?_
  refine V_aload_n dX7_isOnNow_74 rfl ?_
  refine V_iconst dX7_isOnNow_75 kc_1 ?_
  refine V_iconst dX7_isOnNow_76 kc_m1 ?_
  obtain ⟨r4, σ5, hc3, hf⟩ := bd2_ex hf
  refine V_cV (av := [.int (1 : Int32), .int (-1 : Int32)]) (rest := []) (st' := [.int r4]) (mM_find_ok _ _ _ _ _ _ _ _ _ hc3) vcX7_195 (wM_k0 _ _ _) (by decide) rfl rfl (Nat.le_of_ble_eq_true rfl) dX7_isOnNow_77 rfl ?_
  refine V_if_eq (tgt := 96) dX7_isOnNow_80 (by decide) (fun hc6 => ?_) (fun hc6 => ?_)
  · have hf := if_t hf hc6
    refine V_iconst dX7_isOnNow_96 kc_0 ?_
    cases some_ex hf
    exact V_zret hE (by decide) dX7_isOnNow_97
  · have hf := if_f hf hc6
    refine V_aload_n dX7_isOnNow_83 rfl ?_
    refine V_iconst dX7_isOnNow_84 kc_2 ?_
    refine V_iconst dX7_isOnNow_85 kc_m1 ?_
    obtain ⟨r8, σ9, hc7, hf⟩ := bd2_ex hf
    refine V_cV (av := [.int (2 : Int32), .int (-1 : Int32)]) (rest := []) (st' := [.int r8]) (mM_find_ok _ _ _ _ _ _ _ _ _ hc7) vcX7_195 (wM_k0 _ _ _) (by decide) rfl rfl (Nat.le_of_ble_eq_true rfl) dX7_isOnNow_86 rfl ?_
    refine V_if_ne (tgt := 96) dX7_isOnNow_89 (by decide) (fun hc10 => ?_) (fun hc10 => ?_)
    · have hf := if_f hf hc10
      refine V_iconst dX7_isOnNow_96 kc_0 ?_
      cases some_ex hf
      exact V_zret hE (by decide) dX7_isOnNow_97
    · have hf := if_t hf hc10
      refine V_iconst dX7_isOnNow_92 kc_1 ?_
      refine V_goto (tgt := 97) dX7_isOnNow_93 (by decide) ?_
      cases some_ex hf
      exact V_zret hE (by decide) dX7_isOnNow_97
set_option maxHeartbeats 4000000 in
theorem mM_isOnNow_ok (l : Launch) (D : DD) (z : ZZ) (h : Nat) (p0 : Int32) (σ : SM) (r : Int32) (σ' : SM) (hf : mM_isOnNow p0 σ = some (r, σ')) : MA l D yX7_isOnNow cX7_isOnNow 3 (some .boolean) 5 [.ref h, .int p0] (wM z h σ) (.returned (some (.int r))) (wM z h σ') := by
  refine MA.intro (own := RX7) (nm := "isOnNow") (ls := [some (.ref h), some (.int p0), none]) (by decide) rfl rfl (Nat.le_of_ble_eq_true rfl) rfl (fun X hl hD hE => ?_)
  subst hl hD
  unfold mM_isOnNow at hf
  refine V_iload_n dX7_isOnNow_0 rfl ?_
  obtain ⟨r2, hc1, hf⟩ := bd1_ex hf
  refine V_cS (rest := []) (st' := [.int r2]) (mM_nameAt_ok _ _ _ _ _ hc1) scX7_148 (by decide) rfl rfl (Nat.le_of_ble_eq_true rfl) dX7_isOnNow_1 rfl ?_
  refine V_istore_n (ls' := [some (.ref h), some (.int p0), some (.int r2)]) dX7_isOnNow_4 (by decide) rfl ?_
  refine V_aload_n dX7_isOnNow_5 rfl ?_
  refine VM_getR fX7_7 ⟨rfl, rfl⟩ rfl dX7_isOnNow_6 ?_
  refine V_iload_n dX7_isOnNow_9 rfl ?_
  refine V_iconst dX7_isOnNow_10 kc_5 ?_
  refine V_iadd dX7_isOnNow_11 ?_
  obtain ⟨hb3, hf⟩ := ck_ex hf
  refine VM_ldI (n := 23016) (k := (r2 + (5 : Int32)).toNatClampNeg) rfl hb3 rfl dX7_isOnNow_12 ?_
  refine V_aload_n dX7_isOnNow_13 rfl ?_
  refine VM_getI fX7_185 rfl dX7_isOnNow_14 ?_
  refine V_icmp_gt (tgt := 67) dX7_isOnNow_17 (by decide) (fun hc4 => ?_) (fun hc4 => ?_)
  · have hf := if_t hf hc4
    refine V_iconst dX7_isOnNow_67 kc_0 ?_
    cases some_ex hf
    exact V_zret hE (by decide) dX7_isOnNow_68
  · have hf := if_f hf hc4
    refine V_aload_n dX7_isOnNow_20 rfl ?_
    refine VM_getR fX7_7 ⟨rfl, rfl⟩ rfl dX7_isOnNow_21 ?_
    refine V_iload_n dX7_isOnNow_24 rfl ?_
    refine V_bipush dX7_isOnNow_25 kb_6 ?_
    refine V_iadd dX7_isOnNow_27 ?_
    obtain ⟨hb5, hf⟩ := ck_ex hf
    refine VM_ldI (n := 23016) (k := (r2 + (6 : Int32)).toNatClampNeg) rfl hb5 rfl dX7_isOnNow_28 ?_
    refine V_iconst dX7_isOnNow_29 kc_m1 ?_
    refine V_icmp_eq (tgt := 69) dX7_isOnNow_30 (by decide) (fun hc6 => ?_) (fun hc6 => ?_)
    · have hf := if_t hf hc6
      refine V_keep [true, true, false] rfl ?_
      exact mM_isOnNow_69_v hE p0 σ hf
    · have hf := if_f hf hc6
      refine V_aload_n dX7_isOnNow_33 rfl ?_
      refine VM_getR fX7_7 ⟨rfl, rfl⟩ rfl dX7_isOnNow_34 ?_
      refine V_iload_n dX7_isOnNow_37 rfl ?_
      refine V_bipush dX7_isOnNow_38 kb_6 ?_
      refine V_iadd dX7_isOnNow_40 ?_
      obtain ⟨hb7, hf⟩ := ck_ex hf
      refine VM_ldI (n := 23016) (k := (r2 + (6 : Int32)).toNatClampNeg) rfl hb7 rfl dX7_isOnNow_41 ?_
      refine V_aload_n dX7_isOnNow_42 rfl ?_
      refine VM_getI fX7_188 rfl dX7_isOnNow_43 ?_
      refine V_icmp_gt (tgt := 69) dX7_isOnNow_46 (by decide) (fun hc8 => ?_) (fun hc8 => ?_)
      · have hf := if_t hf hc8
        refine V_keep [true, true, false] rfl ?_
        exact mM_isOnNow_69_v hE p0 σ hf
      · have hf := if_f hf hc8
        refine V_aload_n dX7_isOnNow_49 rfl ?_
        refine VM_getR fX7_7 ⟨rfl, rfl⟩ rfl dX7_isOnNow_50 ?_
        refine V_iload_n dX7_isOnNow_53 rfl ?_
        refine V_bipush dX7_isOnNow_54 kb_6 ?_
        refine V_iadd dX7_isOnNow_56 ?_
        refine V_iconst dX7_isOnNow_57 kc_1 ?_
        refine V_iadd dX7_isOnNow_58 ?_
        obtain ⟨hb9, hf⟩ := ck_ex hf
        refine VM_ldI (n := 23016) (k := ((r2 + (6 : Int32)) + (1 : Int32)).toNatClampNeg) rfl hb9 rfl dX7_isOnNow_59 ?_
        refine V_aload_n dX7_isOnNow_60 rfl ?_
        refine VM_getI fX7_185 rfl dX7_isOnNow_61 ?_
        refine V_icmp_gt (tgt := 69) dX7_isOnNow_64 (by decide) (fun hc10 => ?_) (fun hc10 => ?_)
        · have hf := if_t hf hc10
          refine V_keep [true, true, false] rfl ?_
          exact mM_isOnNow_69_v hE p0 σ hf
        · have hf := if_f hf hc10
          refine V_iconst dX7_isOnNow_67 kc_0 ?_
          cases some_ex hf
          exact V_zret hE (by decide) dX7_isOnNow_68
set_option maxHeartbeats 4000000 in
theorem mM_on_ok (l : Launch) (D : DD) (z : ZZ) (h : Nat) (p0 : Int32) (p1 : Int32) (p2 : Int32) (σ : SM) (r : Int32) (σ' : SM) (hf : mM_on p0 p1 p2 σ = some (r, σ')) : MA l D yX7_on cX7_on 4 (some .int) 6 [.ref h, .int p0, .int p1, .int p2] (wM z h σ) (.returned (some (.int r))) (wM z h σ') := by
  refine MA.intro (own := RX7) (nm := "on") (ls := [some (.ref h), some (.int p0), some (.int p1), some (.int p2)]) (by decide) rfl rfl (Nat.le_of_ble_eq_true rfl) rfl (fun X hl hD hE => ?_)
  subst hl hD
  unfold mM_on at hf
  refine V_aload_n dX7_on_0 rfl ?_
  refine V_iconst dX7_on_1 kc_0 ?_
  obtain ⟨σ1, hs2, hf⟩ := st1_ex hf
  refine VM_putI fwX7_113 hs2 dX7_on_2 ?_
  refine V_aload_n dX7_on_5 rfl ?_
  refine V_iload_n dX7_on_6 rfl ?_
  obtain ⟨r4, hc3, hf⟩ := bd1_ex hf
  refine V_cV (av := [.int p0]) (rest := []) (st' := [.int r4]) (mM_isName_ok _ _ _ _ _ _ _ hc3) vcX7_172 (wM_k0 _ _ _) (by decide) rfl rfl (Nat.le_of_ble_eq_true rfl) dX7_on_7 rfl ?_
  refine V_if_eq (tgt := 27) dX7_on_10 (by decide) (fun hc5 => ?_) (fun hc5 => ?_)
  · have hf := if_t hf hc5
    refine V_iconst dX7_on_27 kc_m1 ?_
    cases some_ex hf
    exact V_iret hE dX7_on_28
  · have hf := if_f hf hc5
    refine V_iload_n dX7_on_13 rfl ?_
    obtain ⟨r7, hc6, hf⟩ := bd1_ex hf
    refine V_cS (rest := []) (st' := [.int r7]) (mM_isDay_ok _ _ _ _ _ hc6) scX7_159 (by decide) rfl rfl (Nat.le_of_ble_eq_true rfl) dX7_on_14 rfl ?_
    refine V_if_eq (tgt := 27) dX7_on_17 (by decide) (fun hc8 => ?_) (fun hc8 => ?_)
    · have hf := if_t hf hc8
      refine V_iconst dX7_on_27 kc_m1 ?_
      cases some_ex hf
      exact V_iret hE dX7_on_28
    · have hf := if_f hf hc8
      refine V_iload_n dX7_on_20 rfl ?_
      obtain ⟨r10, hc9, hf⟩ := bd1_ex hf
      refine V_cS (rest := []) (st' := [.int r10]) (mM_isDay_ok _ _ _ _ _ hc9) scX7_159 (by decide) rfl rfl (Nat.le_of_ble_eq_true rfl) dX7_on_21 rfl ?_
      refine V_if_ne (tgt := 29) dX7_on_24 (by decide) (fun hc11 => ?_) (fun hc11 => ?_)
      · have hf := if_f hf hc11
        refine V_aload_n dX7_on_29 rfl ?_
        refine V_iload_n dX7_on_30 rfl ?_
        obtain ⟨σ12, hs13, hf⟩ := st1_ex hf
        refine VM_putI fwX7_188 hs13 dX7_on_31 ?_
        refine V_aload_n dX7_on_34 rfl ?_
        refine V_iload_n dX7_on_35 rfl ?_
        obtain ⟨σ14, hs15, hf⟩ := st1_ex hf
        refine VM_putI fwX7_185 hs15 dX7_on_36 ?_
        refine V_aload_n dX7_on_39 rfl ?_
        refine V_iload_n dX7_on_40 rfl ?_
        obtain ⟨σ17, hc16, hf⟩ := bd1_ex hf
        refine V_cV (av := [.int p1]) (rest := []) (st' := []) (mM_findForce_ok _ _ _ _ _ _ _ hc16) vcX7_199 (wM_k0 _ _ _) (by decide) rfl rfl (Nat.le_of_ble_eq_true rfl) dX7_on_41 rfl ?_
        refine V_aload_n dX7_on_44 rfl ?_
        refine V_iload_n dX7_on_45 rfl ?_
        obtain ⟨r19, σ20, hc18, hf⟩ := bd2_ex hf
        refine V_cV (av := [.int p0]) (rest := []) (st' := [.int r19]) (mM_isOnNow_ok _ _ _ _ _ _ _ _ hc18) vcX7_202 (wM_k0 _ _ _) (by decide) rfl rfl (Nat.le_of_ble_eq_true rfl) dX7_on_46 rfl ?_
        refine V_if_eq (tgt := 56) dX7_on_49 (by decide) (fun hc21 => ?_) (fun hc21 => ?_)
        · have hf := if_t hf hc21
          refine V_iconst dX7_on_56 kc_0 ?_
          cases some_ex hf
          exact V_iret hE dX7_on_57
        · have hf := if_f hf hc21
          refine V_iconst dX7_on_52 kc_1 ?_
          refine V_goto (tgt := 57) dX7_on_53 (by decide) ?_
          cases some_ex hf
          exact V_iret hE dX7_on_57
      · have hf := if_t hf hc11
        refine V_iconst dX7_on_27 kc_m1 ?_
        cases some_ex hf
        exact V_iret hE dX7_on_28
set_option maxHeartbeats 4000000 in
theorem mM_knowBy_84_v {X : CX} {w0 : AH} {z : ZZ} {h : Nat} {σ' : SM} (hE : XE X w0 6 none "knowBy" (.returned none) (wM z h σ')) (k38 : Int32 → Int32 → Int32 → SM → Option (SM)) (hk38 : ∀ (v1 : Int32) (v2 : Int32) (v3 : Int32) (σ : SM), k38 v1 v2 v3 σ = some σ' → V X cX7_knowBy RX7 4 6 (wM z h σ) 38 [some (.ref h), some (.int v1), some (.int v2), some (.int v3)] []) (v1 : Int32) (v2 : Int32) (v3 : Int32) (σ : SM) (hf : mM_knowBy_84 k38 v1 v2 v3 σ = some σ') : V X cX7_knowBy RX7 4 6 (wM z h σ) 84 [some (.ref h), some (.int v1), some (.int v2), some (.int v3)] [] := by
  unfold mM_knowBy_84 at hf
  refine V_inc (ls' := [some (.ref h), some (.int v1), some (.int v2), some (.int (v3 + (1 : Int32)))]) dX7_knowBy_84 rfl kc_1 (by decide) rfl ?_
  refine V_goto (tgt := 38) dX7_knowBy_87 (by decide) ?_
  exact hk38 v1 v2 (v3 + (1 : Int32)) σ hf
set_option maxHeartbeats 4000000 in
theorem mM_knowBy_38_v {X : CX} {w0 : AH} {z : ZZ} {h : Nat} {σ' : SM} (hE : XE X w0 6 none "knowBy" (.returned none) (wM z h σ')) (k38 : Int32 → Int32 → Int32 → SM → Option (SM)) (hk38 : ∀ (v1 : Int32) (v2 : Int32) (v3 : Int32) (σ : SM), k38 v1 v2 v3 σ = some σ' → V X cX7_knowBy RX7 4 6 (wM z h σ) 38 [some (.ref h), some (.int v1), some (.int v2), some (.int v3)] []) (v1 : Int32) (v2 : Int32) (v3 : Int32) (σ : SM) (hf : mM_knowBy_38 k38 v1 v2 v3 σ = some σ') : V X cX7_knowBy RX7 4 6 (wM z h σ) 38 [some (.ref h), some (.int v1), some (.int v2), some (.int v3)] [] := by
  unfold mM_knowBy_38 at hf
  refine V_iload_n dX7_knowBy_38 rfl ?_
  refine V_aload_n dX7_knowBy_39 rfl ?_
  refine VM_getR fX7_7 ⟨rfl, rfl⟩ rfl dX7_knowBy_40 ?_
  refine V_iconst dX7_knowBy_43 kc_1 ?_
  refine VM_ldI (n := 23016) (k := 1) rfl (by decide) (by decide) dX7_knowBy_44 ?_
  refine V_icmp_ge (tgt := 90) dX7_knowBy_45 (by decide) (fun hc1 => ?_) (fun hc1 => ?_)
  · have hf := if_t hf hc1
    cases some_ex hf
    exact V_vret hE dX7_knowBy_90
  · have hf := if_f hf hc1
    refine V_aload_n dX7_knowBy_48 rfl ?_
    refine VM_getR fX7_21 ⟨rfl, rfl⟩ rfl dX7_knowBy_49 ?_
    refine V_iload_n dX7_knowBy_52 rfl ?_
    refine V_aload_n dX7_knowBy_53 rfl ?_
    refine V_iload_n dX7_knowBy_54 rfl ?_
    obtain ⟨r3, σ4, hc2, hf⟩ := bd2_ex hf
    refine V_cV (av := [.int v3]) (rest := [.int v3, .ref (h + 4)]) (st' := [.int r3, .int v3, .ref (h + 4)]) (mM_isOnNow_ok _ _ _ _ _ _ _ _ hc2) vcX7_202 (wM_k0 _ _ _) (by decide) rfl rfl (Nat.le_of_ble_eq_true rfl) dX7_knowBy_55 rfl ?_
    obtain ⟨hb5, hf⟩ := ck_ex hf
    obtain ⟨hb6, hf⟩ := ck_ex hf
    obtain ⟨σ7, hs8, hf⟩ := st1_ex hf
    refine VM_stZ (n := 200) (k := v3.toNatClampNeg) rfl hb5 rfl hb6 hs8 dX7_knowBy_58 ?_
    refine V_aload_n dX7_knowBy_59 rfl ?_
    refine VM_getR fX7_21 ⟨rfl, rfl⟩ rfl dX7_knowBy_60 ?_
    refine V_iload_n dX7_knowBy_63 rfl ?_
    obtain ⟨hb9, hf⟩ := ck_ex hf
    refine VM_ldZ (n := 200) (k := v3.toNatClampNeg) rfl hb9 rfl dX7_knowBy_64 ?_
    refine V_if_eq (tgt := 84) dX7_knowBy_65 (by decide) (fun hc10 => ?_) (fun hc10 => ?_)
    · have hf := if_t hf hc10
      exact mM_knowBy_84_v hE k38 hk38 v1 v2 v3 σ7 hf
    · have hf := if_f hf hc10
      refine V_aload_n dX7_knowBy_68 rfl ?_
      refine VM_getR fX7_24 ⟨rfl, rfl⟩ rfl dX7_knowBy_69 ?_
      refine V_aload_n dX7_knowBy_72 rfl ?_
      refine V_iload_n dX7_knowBy_73 rfl ?_
      refine V_iload_n dX7_knowBy_74 rfl ?_
      refine V_iload_n dX7_knowBy_75 rfl ?_
      obtain ⟨r12, hc11, hf⟩ := bd1_ex hf
      refine V_cV (av := [.int v3, .int v1, .int v2]) (rest := [.ref (h + 5)]) (st' := [.int r12, .ref (h + 5)]) (mM_whereOf_ok _ _ _ _ _ _ _ _ _ hc11) vcX7_181 (wM_k0 _ _ _) (by decide) rfl rfl (Nat.le_of_ble_eq_true rfl) dX7_knowBy_76 rfl ?_
      refine V_dup2 dX7_knowBy_79 rfl rfl ?_
      obtain ⟨hb13, hf⟩ := ck_ex hf
      refine VM_ldI (n := 16) (k := r12.toNatClampNeg) rfl hb13 rfl dX7_knowBy_80 ?_
      refine V_iconst dX7_knowBy_81 kc_1 ?_
      refine V_iadd dX7_knowBy_82 ?_
      obtain ⟨hb14, hf⟩ := ck_ex hf
      obtain ⟨σ15, hs16, hf⟩ := st1_ex hf
      refine VM_stI (n := 16) (k := r12.toNatClampNeg) rfl hb14 rfl hs16 dX7_knowBy_83 ?_
      exact mM_knowBy_84_v hE k38 hk38 v1 v2 v3 σ15 hf
set_option maxHeartbeats 4000000 in
theorem mM_knowBy_17_v {X : CX} {w0 : AH} {z : ZZ} {h : Nat} {σ' : SM} (hE : XE X w0 6 none "knowBy" (.returned none) (wM z h σ')) (k17 : Int32 → Int32 → Int32 → SM → Option (SM)) (hk17 : ∀ (v1 : Int32) (v2 : Int32) (v3 : Int32) (σ : SM), k17 v1 v2 v3 σ = some σ' → V X cX7_knowBy RX7 4 6 (wM z h σ) 17 [some (.ref h), some (.int v1), some (.int v2), some (.int v3)] []) (v1 : Int32) (v2 : Int32) (v3 : Int32) (σ : SM) (hf : mM_knowBy_17 k17 v1 v2 v3 σ = some σ') : V X cX7_knowBy RX7 4 6 (wM z h σ) 17 [some (.ref h), some (.int v1), some (.int v2), some (.int v3)] [] := by
  unfold mM_knowBy_17 at hf
  refine V_iload_n dX7_knowBy_17 rfl ?_
  refine V_bipush dX7_knowBy_18 kb_16 ?_
  refine V_icmp_ge (tgt := 36) dX7_knowBy_20 (by decide) (fun hc1 => ?_) (fun hc1 => ?_)
  · have hf := if_t hf hc1
    refine V_iconst dX7_knowBy_36 kc_0 ?_
    refine V_istore_n (ls' := [some (.ref h), some (.int v1), some (.int v2), some (.int (0 : Int32))]) dX7_knowBy_37 (by decide) rfl ?_
    exact lq4_ex (P := fun v1 v2 v3 σ => V X cX7_knowBy RX7 4 6 (wM z h σ) 38 [some (.ref h), some (.int v1), some (.int v2), some (.int v3)] []) (fun k hk v1 v2 v3 σ hf => mM_knowBy_38_v hE k hk v1 v2 v3 σ hf) LF v1 v2 (0 : Int32) σ hf
  · have hf := if_f hf hc1
    refine V_aload_n dX7_knowBy_23 rfl ?_
    refine VM_getR fX7_24 ⟨rfl, rfl⟩ rfl dX7_knowBy_24 ?_
    refine V_iload_n dX7_knowBy_27 rfl ?_
    refine V_iconst dX7_knowBy_28 kc_0 ?_
    obtain ⟨hb2, hf⟩ := ck_ex hf
    obtain ⟨σ3, hs4, hf⟩ := st1_ex hf
    refine VM_stI (n := 16) (k := v3.toNatClampNeg) rfl hb2 rfl hs4 dX7_knowBy_29 ?_
    refine V_inc (ls' := [some (.ref h), some (.int v1), some (.int v2), some (.int (v3 + (1 : Int32)))]) dX7_knowBy_30 rfl kc_1 (by decide) rfl ?_
    refine V_goto (tgt := 17) dX7_knowBy_33 (by decide) ?_
    exact hk17 v1 v2 (v3 + (1 : Int32)) σ3 hf
set_option maxHeartbeats 4000000 in
theorem mM_knowBy_ok (l : Launch) (D : DD) (z : ZZ) (h : Nat) (p0 : Int32) (p1 : Int32) (σ : SM) (σ' : SM) (hf : mM_knowBy p0 p1 σ = some σ') : MA l D yX7_knowBy cX7_knowBy 4 none 6 [.ref h, .int p0, .int p1] (wM z h σ) (.returned none) (wM z h σ') := by
  refine MA.intro (own := RX7) (nm := "knowBy") (ls := [some (.ref h), some (.int p0), some (.int p1), none]) (by decide) rfl rfl (Nat.le_of_ble_eq_true rfl) rfl (fun X hl hD hE => ?_)
  subst hl hD
  unfold mM_knowBy at hf
  refine V_aload_n dX7_knowBy_0 rfl ?_
  refine V_iload_n dX7_knowBy_1 rfl ?_
  obtain ⟨σ1, hs2, hf⟩ := st1_ex hf
  refine VM_putI fwX7_188 hs2 dX7_knowBy_2 ?_
  refine V_aload_n dX7_knowBy_5 rfl ?_
  refine V_iload_n dX7_knowBy_6 rfl ?_
  obtain ⟨σ3, hs4, hf⟩ := st1_ex hf
  refine VM_putI fwX7_185 hs4 dX7_knowBy_7 ?_
  refine V_aload_n dX7_knowBy_10 rfl ?_
  refine V_iload_n dX7_knowBy_11 rfl ?_
  obtain ⟨σ6, hc5, hf⟩ := bd1_ex hf
  refine V_cV (av := [.int p0]) (rest := []) (st' := []) (mM_findForce_ok _ _ _ _ _ _ _ hc5) vcX7_199 (wM_k0 _ _ _) (by decide) rfl rfl (Nat.le_of_ble_eq_true rfl) dX7_knowBy_12 rfl ?_
  refine V_iconst dX7_knowBy_15 kc_0 ?_
  refine V_istore_n (ls' := [some (.ref h), some (.int p0), some (.int p1), some (.int (0 : Int32))]) dX7_knowBy_16 (by decide) rfl ?_
  exact lq4_ex (P := fun v1 v2 v3 σ => V X cX7_knowBy RX7 4 6 (wM z h σ) 17 [some (.ref h), some (.int v1), some (.int v2), some (.int v3)] []) (fun k hk v1 v2 v3 σ hf => mM_knowBy_17_v hE k hk v1 v2 v3 σ hf) LF p0 p1 (0 : Int32) σ6 hf
set_option maxHeartbeats 4000000 in
theorem mM_roll_ok (l : Launch) (D : DD) (z : ZZ) (h : Nat) (p0 : Int32) (p1 : Int32) (p2 : Int32) (σ : SM) (r : Int32) (σ' : SM) (hf : mM_roll p0 p1 p2 σ = some (r, σ')) : MA l D yX7_roll cX7_roll 4 (some .int) 7 [.ref h, .int p0, .int p1, .int p2] (wM z h σ) (.returned (some (.int r))) (wM z h σ') := by
  refine MA.intro (own := RX7) (nm := "roll") (ls := [some (.ref h), some (.int p0), some (.int p1), some (.int p2)]) (by decide) rfl rfl (Nat.le_of_ble_eq_true rfl) rfl (fun X hl hD hE => ?_)
  subst hl hD
  unfold mM_roll at hf
  refine V_aload_n dX7_roll_0 rfl ?_
  refine V_iconst dX7_roll_1 kc_0 ?_
  obtain ⟨σ1, hs2, hf⟩ := st1_ex hf
  refine VM_putI fwX7_113 hs2 dX7_roll_2 ?_
  refine V_aload_n dX7_roll_5 rfl ?_
  refine V_iload_n dX7_roll_6 rfl ?_
  obtain ⟨r4, hc3, hf⟩ := bd1_ex hf
  refine V_cV (av := [.int p0]) (rest := []) (st' := [.int r4]) (mM_isPlace_ok _ _ _ _ _ _ _ hc3) vcX7_162 (wM_k0 _ _ _) (by decide) rfl rfl (Nat.le_of_ble_eq_true rfl) dX7_roll_7 rfl ?_
  refine V_if_eq (tgt := 27) dX7_roll_10 (by decide) (fun hc5 => ?_) (fun hc5 => ?_)
  · have hf := if_t hf hc5
    refine V_iconst dX7_roll_27 kc_m1 ?_
    cases some_ex hf
    exact V_iret hE dX7_roll_28
  · have hf := if_f hf hc5
    refine V_iload_n dX7_roll_13 rfl ?_
    obtain ⟨r7, hc6, hf⟩ := bd1_ex hf
    refine V_cS (rest := []) (st' := [.int r7]) (mM_isDay_ok _ _ _ _ _ hc6) scX7_159 (by decide) rfl rfl (Nat.le_of_ble_eq_true rfl) dX7_roll_14 rfl ?_
    refine V_if_eq (tgt := 27) dX7_roll_17 (by decide) (fun hc8 => ?_) (fun hc8 => ?_)
    · have hf := if_t hf hc8
      refine V_iconst dX7_roll_27 kc_m1 ?_
      cases some_ex hf
      exact V_iret hE dX7_roll_28
    · have hf := if_f hf hc8
      refine V_iload_n dX7_roll_20 rfl ?_
      obtain ⟨r10, hc9, hf⟩ := bd1_ex hf
      refine V_cS (rest := []) (st' := [.int r10]) (mM_isDay_ok _ _ _ _ _ hc9) scX7_159 (by decide) rfl rfl (Nat.le_of_ble_eq_true rfl) dX7_roll_21 rfl ?_
      refine V_if_ne (tgt := 29) dX7_roll_24 (by decide) (fun hc11 => ?_) (fun hc11 => ?_)
      · have hf := if_f hf hc11
        refine V_aload_n dX7_roll_29 rfl ?_
        refine V_iload_n dX7_roll_30 rfl ?_
        refine V_iload_n dX7_roll_31 rfl ?_
        obtain ⟨σ13, hc12, hf⟩ := bd1_ex hf
        refine V_cV (av := [.int p1, .int p2]) (rest := []) (st' := []) (mM_knowBy_ok _ _ _ _ _ _ _ _ hc12) vcX7_205 (wM_k0 _ _ _) (by decide) rfl rfl (Nat.le_of_ble_eq_true rfl) dX7_roll_32 rfl ?_
        refine V_aload_n dX7_roll_35 rfl ?_
        refine VM_getR fX7_24 ⟨rfl, rfl⟩ rfl dX7_roll_36 ?_
        refine V_iload_n dX7_roll_39 rfl ?_
        obtain ⟨hb14, hf⟩ := ck_ex hf
        refine VM_ldI (n := 16) (k := p0.toNatClampNeg) rfl hb14 rfl dX7_roll_40 ?_
        cases some_ex hf
        exact V_iret hE dX7_roll_41
      · have hf := if_t hf hc11
        refine V_iconst dX7_roll_27 kc_m1 ?_
        cases some_ex hf
        exact V_iret hE dX7_roll_28
set_option maxHeartbeats 4000000 in
theorem mM_likeOf_129_v {X : CX} {w0 : AH} {z : ZZ} {h : Nat} {r : Int32} (σ : SM) (hE : XE X w0 2 (some .int) "likeOf" (.returned (some (.int r))) (wM z h σ)) (k83 : Int32 → Int32 → Int32 → Int32 → Option (Int32)) (hk83 : ∀ (v3 : Int32) (v4 : Int32) (v6 : Int32) (v7 : Int32), k83 v3 v4 v6 v7 = some r → V X cX7_likeOf RX7 8 2 (wM z h σ) 83 [some (.ref h), none, none, some (.int v3), some (.int v4), none, some (.int v6), some (.int v7)] []) (v3 : Int32) (v4 : Int32) (v7 : Int32) (t0 : Int32) (t1 : Int32) (hf : mM_likeOf_129 σ k83 v3 v4 v7 t0 t1 = some r) : V X cX7_likeOf RX7 8 2 (wM z h σ) 129 [some (.ref h), none, none, some (.int v3), some (.int v4), none, none, some (.int v7)] [.int t0, .int t1] := by
  unfold mM_likeOf_129 at hf
  refine V_iadd dX7_likeOf_129 ?_
  refine V_istore (ls' := [some (.ref h), none, none, some (.int v3), some (.int v4), none, some (.int (t1 + t0)), some (.int v7)]) dX7_likeOf_130 (by decide) rfl ?_
  refine V_inc (ls' := [some (.ref h), none, none, some (.int v3), some (.int v4), none, some (.int (t1 + t0)), some (.int (v7 + (-8 : Int32)))]) dX7_likeOf_132 rfl kc_m8 (by decide) rfl ?_
  refine V_goto (tgt := 83) dX7_likeOf_135 (by decide) ?_
  exact hk83 v3 v4 (t1 + t0) (v7 + (-8 : Int32)) hf
set_option maxHeartbeats 4000000 in
theorem mM_likeOf_83_v {X : CX} {w0 : AH} {z : ZZ} {h : Nat} {r : Int32} (σ : SM) (hE : XE X w0 2 (some .int) "likeOf" (.returned (some (.int r))) (wM z h σ)) (k83 : Int32 → Int32 → Int32 → Int32 → Option (Int32)) (hk83 : ∀ (v3 : Int32) (v4 : Int32) (v6 : Int32) (v7 : Int32), k83 v3 v4 v6 v7 = some r → V X cX7_likeOf RX7 8 2 (wM z h σ) 83 [some (.ref h), none, none, some (.int v3), some (.int v4), none, some (.int v6), some (.int v7)] []) (v3 : Int32) (v4 : Int32) (v6 : Int32) (v7 : Int32) (hf : mM_likeOf_83 σ k83 v3 v4 v6 v7 = some r) : V X cX7_likeOf RX7 8 2 (wM z h σ) 83 [some (.ref h), none, none, some (.int v3), some (.int v4), none, some (.int v6), some (.int v7)] [] := by
  unfold mM_likeOf_83 at hf
  refine V_iload dX7_likeOf_83 rfl ?_
  refine V_if_lt (tgt := 138) dX7_likeOf_85 (by decide) (fun hc1 => ?_) (fun hc1 => ?_)
  · have hf := if_t hf hc1
    refine V_iload dX7_likeOf_138 rfl ?_
    cases some_ex hf
    exact V_iret hE dX7_likeOf_140
  · have hf := if_f hf hc1
    refine V_iload dX7_likeOf_88 rfl ?_
    refine V_aload_n dX7_likeOf_90 rfl ?_
    refine VM_getR fX7_7 ⟨rfl, rfl⟩ rfl dX7_likeOf_91 ?_
    refine V_iload_n dX7_likeOf_94 rfl ?_
    refine V_iconst dX7_likeOf_95 kc_4 ?_
    refine V_iadd dX7_likeOf_96 ?_
    obtain ⟨hb2, hf⟩ := ck_ex hf
    refine VM_ldI (n := 23016) (k := (v3 + (4 : Int32)).toNatClampNeg) rfl hb2 rfl dX7_likeOf_97 ?_
    refine V_iload dX7_likeOf_98 rfl ?_
    refine V_ishr dX7_likeOf_100 ?_
    refine V_sipush dX7_likeOf_101 ks_255 ?_
    refine V_iand dX7_likeOf_104 ?_
    refine V_aload_n dX7_likeOf_105 rfl ?_
    refine VM_getR fX7_7 ⟨rfl, rfl⟩ rfl dX7_likeOf_106 ?_
    refine V_iload dX7_likeOf_109 rfl ?_
    refine V_iconst dX7_likeOf_111 kc_4 ?_
    refine V_iadd dX7_likeOf_112 ?_
    obtain ⟨hb3, hf⟩ := ck_ex hf
    refine VM_ldI (n := 23016) (k := (v4 + (4 : Int32)).toNatClampNeg) rfl hb3 rfl dX7_likeOf_113 ?_
    refine V_iload dX7_likeOf_114 rfl ?_
    refine V_ishr dX7_likeOf_116 ?_
    refine V_sipush dX7_likeOf_117 ks_255 ?_
    refine V_iand dX7_likeOf_120 ?_
    refine V_icmp_ne (tgt := 128) dX7_likeOf_121 (by decide) (fun hc4 => ?_) (fun hc4 => ?_)
    · have hf := if_f hf hc4
      refine V_iconst dX7_likeOf_128 kc_0 ?_
      refine V_keep [true, true, true, true, true, true, false, true] rfl ?_
      exact mM_likeOf_129_v σ hE k83 hk83 v3 v4 v7 (0 : Int32) v6 hf
    · have hf := if_t hf hc4
      refine V_iconst dX7_likeOf_124 kc_1 ?_
      refine V_goto (tgt := 129) dX7_likeOf_125 (by decide) ?_
      refine V_keep [true, true, true, true, true, true, false, true] rfl ?_
      exact mM_likeOf_129_v σ hE k83 hk83 v3 v4 v7 (1 : Int32) v6 hf
set_option maxHeartbeats 4000000 in
theorem mM_likeOf_76_v {X : CX} {w0 : AH} {z : ZZ} {h : Nat} {r : Int32} (σ : SM) (hE : XE X w0 2 (some .int) "likeOf" (.returned (some (.int r))) (wM z h σ)) (v3 : Int32) (v4 : Int32) (t0 : Int32) (t1 : Int32) (hf : mM_likeOf_76 σ v3 v4 t0 t1 = some r) : V X cX7_likeOf RX7 8 2 (wM z h σ) 76 [some (.ref h), none, none, some (.int v3), some (.int v4), none, none, none] [.int t0, .int t1] := by
  unfold mM_likeOf_76 at hf
  refine V_iadd dX7_likeOf_76 ?_
  refine V_istore (ls' := [some (.ref h), none, none, some (.int v3), some (.int v4), none, some (.int (t1 + t0)), none]) dX7_likeOf_77 (by decide) rfl ?_
  refine V_bipush dX7_likeOf_79 kb_24 ?_
  refine V_istore (ls' := [some (.ref h), none, none, some (.int v3), some (.int v4), none, some (.int (t1 + t0)), some (.int (24 : Int32))]) dX7_likeOf_81 (by decide) rfl ?_
  exact lq4_ex (P := fun v3 v4 v6 v7 => V X cX7_likeOf RX7 8 2 (wM z h σ) 83 [some (.ref h), none, none, some (.int v3), some (.int v4), none, some (.int v6), some (.int v7)] []) (fun k hk v3 v4 v6 v7 hf => mM_likeOf_83_v σ hE k hk v3 v4 v6 v7 hf) LF v3 v4 (t1 + t0) (24 : Int32) hf
set_option maxHeartbeats 4000000 in
theorem mM_likeOf_56_v {X : CX} {w0 : AH} {z : ZZ} {h : Nat} {r : Int32} (σ : SM) (hE : XE X w0 2 (some .int) "likeOf" (.returned (some (.int r))) (wM z h σ)) (v3 : Int32) (v4 : Int32) (v5 : Int32) (t0 : Int32) (hf : mM_likeOf_56 σ v3 v4 v5 t0 = some r) : V X cX7_likeOf RX7 8 2 (wM z h σ) 56 [some (.ref h), none, none, some (.int v3), some (.int v4), some (.int v5), none, none] [.int t0] := by
  unfold mM_likeOf_56 at hf
  refine V_iload dX7_likeOf_56 rfl ?_
  refine V_i2l dX7_likeOf_58 ?_
  refine V_ldc2 q2107 dX7_likeOf_59 ?_
  refine V_ldc2 q2108 dX7_likeOf_62 ?_
  obtain ⟨r2, hc1, hf⟩ := bd1_ex hf
  refine V_cS (rest := [.int t0]) (st' := [.int r2, .int t0]) (mM_in_ok _ _ _ _ _ _ _ hc1) scX7_121 (by decide) rfl rfl (Nat.le_of_ble_eq_true rfl) dX7_likeOf_65 rfl ?_
  refine V_if_eq (tgt := 75) dX7_likeOf_68 (by decide) (fun hc3 => ?_) (fun hc3 => ?_)
  · have hf := if_t hf hc3
    refine V_iconst dX7_likeOf_75 kc_0 ?_
    refine V_keep [true, true, true, true, true, false, true, true] rfl ?_
    exact mM_likeOf_76_v σ hE v3 v4 (0 : Int32) t0 hf
  · have hf := if_f hf hc3
    refine V_iconst dX7_likeOf_71 kc_1 ?_
    refine V_goto (tgt := 76) dX7_likeOf_72 (by decide) ?_
    refine V_keep [true, true, true, true, true, false, true, true] rfl ?_
    exact mM_likeOf_76_v σ hE v3 v4 (1 : Int32) t0 hf
set_option maxHeartbeats 4000000 in
theorem mM_likeOf_ok (l : Launch) (D : DD) (z : ZZ) (h : Nat) (p0 : Int32) (p1 : Int32) (σ : SM) (r : Int32) (hf : mM_likeOf p0 p1 σ = some r) : MA l D yX7_likeOf cX7_likeOf 8 (some .int) 2 [.ref h, .int p0, .int p1] (wM z h σ) (.returned (some (.int r))) (wM z h σ) := by
  refine MA.intro (own := RX7) (nm := "likeOf") (ls := [some (.ref h), some (.int p0), some (.int p1), none, none, none, none, none]) (by decide) rfl rfl (Nat.le_of_ble_eq_true rfl) rfl (fun X hl hD hE => ?_)
  subst hl hD
  unfold mM_likeOf at hf
  refine V_iload_n dX7_likeOf_0 rfl ?_
  obtain ⟨r2, hc1, hf⟩ := bd1_ex hf
  refine V_cS (rest := []) (st' := [.int r2]) (mM_nameAt_ok _ _ _ _ _ hc1) scX7_148 (by decide) rfl rfl (Nat.le_of_ble_eq_true rfl) dX7_likeOf_1 rfl ?_
  refine V_istore_n (ls' := [some (.ref h), some (.int p0), some (.int p1), some (.int r2), none, none, none, none]) dX7_likeOf_4 (by decide) rfl ?_
  refine V_iload_n dX7_likeOf_5 rfl ?_
  obtain ⟨r4, hc3, hf⟩ := bd1_ex hf
  refine V_cS (rest := []) (st' := [.int r4]) (mM_nameAt_ok _ _ _ _ _ hc3) scX7_148 (by decide) rfl rfl (Nat.le_of_ble_eq_true rfl) dX7_likeOf_6 rfl ?_
  refine V_istore (ls' := [some (.ref h), some (.int p0), some (.int p1), some (.int r2), some (.int r4), none, none, none]) dX7_likeOf_9 (by decide) rfl ?_
  refine V_aload_n dX7_likeOf_11 rfl ?_
  refine VM_getR fX7_7 ⟨rfl, rfl⟩ rfl dX7_likeOf_12 ?_
  refine V_iload_n dX7_likeOf_15 rfl ?_
  refine V_iconst dX7_likeOf_16 kc_2 ?_
  refine V_iadd dX7_likeOf_17 ?_
  obtain ⟨hb5, hf⟩ := ck_ex hf
  refine VM_ldI (n := 23016) (k := (r2 + (2 : Int32)).toNatClampNeg) rfl hb5 rfl dX7_likeOf_18 ?_
  refine V_aload_n dX7_likeOf_19 rfl ?_
  refine VM_getR fX7_7 ⟨rfl, rfl⟩ rfl dX7_likeOf_20 ?_
  refine V_iload dX7_likeOf_23 rfl ?_
  refine V_iconst dX7_likeOf_25 kc_2 ?_
  refine V_iadd dX7_likeOf_26 ?_
  obtain ⟨hb6, hf⟩ := ck_ex hf
  refine VM_ldI (n := 23016) (k := (r4 + (2 : Int32)).toNatClampNeg) rfl hb6 rfl dX7_likeOf_27 ?_
  refine V_isub dX7_likeOf_28 ?_
  refine V_istore (ls' := [some (.ref h), some (.int p0), some (.int p1), some (.int r2), some (.int r4), some (.int ((gI σ 1 ((r2 + (2 : Int32)).toNatClampNeg)) - (gI σ 1 ((r4 + (2 : Int32)).toNatClampNeg)))), none, none]) dX7_likeOf_29 (by decide) rfl ?_
  refine V_aload_n dX7_likeOf_31 rfl ?_
  refine VM_getR fX7_7 ⟨rfl, rfl⟩ rfl dX7_likeOf_32 ?_
  refine V_iload_n dX7_likeOf_35 rfl ?_
  refine V_iconst dX7_likeOf_36 kc_1 ?_
  refine V_iadd dX7_likeOf_37 ?_
  obtain ⟨hb7, hf⟩ := ck_ex hf
  refine VM_ldI (n := 23016) (k := (r2 + (1 : Int32)).toNatClampNeg) rfl hb7 rfl dX7_likeOf_38 ?_
  refine V_aload_n dX7_likeOf_39 rfl ?_
  refine VM_getR fX7_7 ⟨rfl, rfl⟩ rfl dX7_likeOf_40 ?_
  refine V_iload dX7_likeOf_43 rfl ?_
  refine V_iconst dX7_likeOf_45 kc_1 ?_
  refine V_iadd dX7_likeOf_46 ?_
  obtain ⟨hb8, hf⟩ := ck_ex hf
  refine VM_ldI (n := 23016) (k := (r4 + (1 : Int32)).toNatClampNeg) rfl hb8 rfl dX7_likeOf_47 ?_
  refine V_icmp_ne (tgt := 55) dX7_likeOf_48 (by decide) (fun hc9 => ?_) (fun hc9 => ?_)
  · have hf := if_f hf hc9
    refine V_iconst dX7_likeOf_55 kc_0 ?_
    refine V_keep [true, false, false, true, true, true, true, true] rfl ?_
    exact mM_likeOf_56_v σ hE r2 r4 ((gI σ 1 ((r2 + (2 : Int32)).toNatClampNeg)) - (gI σ 1 ((r4 + (2 : Int32)).toNatClampNeg))) (0 : Int32) hf
  · have hf := if_t hf hc9
    refine V_iconst dX7_likeOf_51 kc_1 ?_
    refine V_goto (tgt := 56) dX7_likeOf_52 (by decide) ?_
    refine V_keep [true, false, false, true, true, true, true, true] rfl ?_
    exact mM_likeOf_56_v σ hE r2 r4 ((gI σ 1 ((r2 + (2 : Int32)).toNatClampNeg)) - (gI σ 1 ((r4 + (2 : Int32)).toNatClampNeg))) (1 : Int32) hf
set_option maxHeartbeats 4000000 in
theorem mM_like_ok (l : Launch) (D : DD) (z : ZZ) (h : Nat) (p0 : Int32) (p1 : Int32) (σ : SM) (r : Int32) (σ' : SM) (hf : mM_like p0 p1 σ = some (r, σ')) : MA l D yX7_like cX7_like 3 (some .int) 3 [.ref h, .int p0, .int p1] (wM z h σ) (.returned (some (.int r))) (wM z h σ') := by
  refine MA.intro (own := RX7) (nm := "like") (ls := [some (.ref h), some (.int p0), some (.int p1)]) (by decide) rfl rfl (Nat.le_of_ble_eq_true rfl) rfl (fun X hl hD hE => ?_)
  subst hl hD
  unfold mM_like at hf
  refine V_aload_n dX7_like_0 rfl ?_
  refine V_iconst dX7_like_1 kc_0 ?_
  obtain ⟨σ1, hs2, hf⟩ := st1_ex hf
  refine VM_putI fwX7_113 hs2 dX7_like_2 ?_
  refine V_aload_n dX7_like_5 rfl ?_
  refine V_iload_n dX7_like_6 rfl ?_
  obtain ⟨r4, hc3, hf⟩ := bd1_ex hf
  refine V_cV (av := [.int p0]) (rest := []) (st' := [.int r4]) (mM_isName_ok _ _ _ _ _ _ _ hc3) vcX7_172 (wM_k0 _ _ _) (by decide) rfl rfl (Nat.le_of_ble_eq_true rfl) dX7_like_7 rfl ?_
  refine V_if_eq (tgt := 35) dX7_like_10 (by decide) (fun hc5 => ?_) (fun hc5 => ?_)
  · have hf := if_t hf hc5
    refine V_iconst dX7_like_35 kc_m1 ?_
    cases some_ex hf
    exact V_iret hE dX7_like_36
  · have hf := if_f hf hc5
    refine V_aload_n dX7_like_13 rfl ?_
    refine V_iload_n dX7_like_14 rfl ?_
    obtain ⟨r7, hc6, hf⟩ := bd1_ex hf
    refine V_cV (av := [.int p1]) (rest := []) (st' := [.int r7]) (mM_isName_ok _ _ _ _ _ _ _ hc6) vcX7_172 (wM_k0 _ _ _) (by decide) rfl rfl (Nat.le_of_ble_eq_true rfl) dX7_like_15 rfl ?_
    refine V_if_eq (tgt := 35) dX7_like_18 (by decide) (fun hc8 => ?_) (fun hc8 => ?_)
    · have hf := if_t hf hc8
      refine V_iconst dX7_like_35 kc_m1 ?_
      cases some_ex hf
      exact V_iret hE dX7_like_36
    · have hf := if_f hf hc8
      refine V_iload_n dX7_like_21 rfl ?_
      refine V_iload_n dX7_like_22 rfl ?_
      refine V_icmp_eq (tgt := 35) dX7_like_23 (by decide) (fun hc9 => ?_) (fun hc9 => ?_)
      · have hf := if_t hf hc9
        refine V_iconst dX7_like_35 kc_m1 ?_
        cases some_ex hf
        exact V_iret hE dX7_like_36
      · have hf := if_f hf hc9
        refine V_aload_n dX7_like_26 rfl ?_
        refine V_iload_n dX7_like_27 rfl ?_
        refine V_iload_n dX7_like_28 rfl ?_
        obtain ⟨r11, hc10, hf⟩ := bd1_ex hf
        refine V_cV (av := [.int p0, .int p1]) (rest := []) (st' := [.int r11]) (mM_likeOf_ok _ _ _ _ _ _ _ _ hc10) vcX7_213 (wM_k0 _ _ _) (by decide) rfl rfl (Nat.le_of_ble_eq_true rfl) dX7_like_29 rfl ?_
        refine V_goto (tgt := 36) dX7_like_32 (by decide) ?_
        cases some_ex hf
        exact V_iret hE dX7_like_36
set_option maxHeartbeats 4000000 in
theorem mM_apart_21_v {X : CX} {w0 : AH} {z : ZZ} {h : Nat} {r : Int32} {σ' : SM} (hE : XE X w0 3 (some .int) "apart" (.returned (some (.int r))) (wM z h σ')) (σ : SM) (hf : mM_apart_21 σ = some (r, σ')) : V X cX7_apart RX7 3 3 (wM z h σ) 21 [some (.ref h), none, none] [] := by
  unfold mM_apart_21 at hf
  refine V_aload_n dX7_apart_21 rfl ?_
  refine V_bipush dX7_apart_22 kb_m2 ?_
  obtain ⟨r2, σ3, hc1, hf⟩ := bd2_ex hf
  refine V_cV (av := [.int (-2 : Int32)]) (rest := []) (st' := [.int r2]) (mM_told_ok _ _ _ _ _ _ _ _ hc1) vcX7_125 (wM_k0 _ _ _) (by decide) rfl rfl (Nat.le_of_ble_eq_true rfl) dX7_apart_24 rfl ?_
  cases some_ex hf
  exact V_iret hE dX7_apart_27
set_option maxHeartbeats 4000000 in
theorem mM_apart_116_v {X : CX} {w0 : AH} {z : ZZ} {h : Nat} {r : Int32} {σ' : SM} (hE : XE X w0 3 (some .int) "apart" (.returned (some (.int r))) (wM z h σ')) (t0 : Int32) (t1 : Int32) (σ : SM) (hf : mM_apart_116 t0 t1 σ = some (r, σ')) : V X cX7_apart RX7 3 3 (wM z h σ) 116 [some (.ref h), none, none] [.int t0, .int t1, .ref (h + 1)] := by
  unfold mM_apart_116 at hf
  obtain ⟨hb1, hf⟩ := ck_ex hf
  obtain ⟨σ2, hs3, hf⟩ := st1_ex hf
  refine VM_stI (n := 23016) (k := t1.toNatClampNeg) rfl hb1 rfl hs3 dX7_apart_116 ?_
  refine V_aload_n dX7_apart_117 rfl ?_
  refine VM_getR fX7_7 ⟨rfl, rfl⟩ rfl dX7_apart_118 ?_
  refine V_bipush dX7_apart_121 kb_8 ?_
  refine V_dup2 dX7_apart_123 rfl rfl ?_
  refine VM_ldI (n := 23016) (k := 8) rfl (by decide) (by decide) dX7_apart_124 ?_
  refine V_iconst dX7_apart_125 kc_1 ?_
  refine V_iadd dX7_apart_126 ?_
  obtain ⟨σ4, hs5, hf⟩ := st1_ex hf
  refine VM_stI (n := 23016) (k := 8) rfl (by decide) (by decide) hs5 dX7_apart_127 ?_
  refine V_aload_n dX7_apart_128 rfl ?_
  refine V_aload_n dX7_apart_129 rfl ?_
  refine VM_getR fX7_7 ⟨rfl, rfl⟩ rfl dX7_apart_130 ?_
  refine V_bipush dX7_apart_133 kb_8 ?_
  refine VM_ldI (n := 23016) (k := 8) rfl (by decide) (by decide) dX7_apart_135 ?_
  obtain ⟨r7, σ8, hc6, hf⟩ := bd2_ex hf
  refine V_cV (av := [.int (gI σ4 1 8)]) (rest := []) (st' := [.int r7]) (mM_told_ok _ _ _ _ _ _ _ _ hc6) vcX7_125 (wM_k0 _ _ _) (by decide) rfl rfl (Nat.le_of_ble_eq_true rfl) dX7_apart_136 rfl ?_
  cases some_ex hf
  exact V_iret hE dX7_apart_139
set_option maxHeartbeats 4000000 in
theorem mM_apart_86_v {X : CX} {w0 : AH} {z : ZZ} {h : Nat} {r : Int32} {σ' : SM} (hE : XE X w0 3 (some .int) "apart" (.returned (some (.int r))) (wM z h σ')) (v1 : Int32) (v2 : Int32) (t0 : Int32) (t1 : Int32) (σ : SM) (hf : mM_apart_86 v1 v2 t0 t1 σ = some (r, σ')) : V X cX7_apart RX7 3 3 (wM z h σ) 86 [some (.ref h), some (.int v1), some (.int v2)] [.int t0, .int t1, .ref (h + 1)] := by
  unfold mM_apart_86 at hf
  obtain ⟨hb1, hf⟩ := ck_ex hf
  obtain ⟨σ2, hs3, hf⟩ := st1_ex hf
  refine VM_stI (n := 23016) (k := t1.toNatClampNeg) rfl hb1 rfl hs3 dX7_apart_86 ?_
  refine V_aload_n dX7_apart_87 rfl ?_
  refine VM_getR fX7_7 ⟨rfl, rfl⟩ rfl dX7_apart_88 ?_
  refine V_sipush dX7_apart_91 ks_2268 ?_
  refine V_iconst dX7_apart_94 kc_2 ?_
  refine V_aload_n dX7_apart_95 rfl ?_
  refine VM_getR fX7_7 ⟨rfl, rfl⟩ rfl dX7_apart_96 ?_
  refine V_bipush dX7_apart_99 kb_8 ?_
  refine VM_ldI (n := 23016) (k := 8) rfl (by decide) (by decide) dX7_apart_101 ?_
  refine V_imul dX7_apart_102 ?_
  refine V_iadd dX7_apart_103 ?_
  refine V_iconst dX7_apart_104 kc_1 ?_
  refine V_iadd dX7_apart_105 ?_
  refine V_iload_n dX7_apart_106 rfl ?_
  refine V_iload_n dX7_apart_107 rfl ?_
  refine V_icmp_ge (tgt := 115) dX7_apart_108 (by decide) (fun hc4 => ?_) (fun hc4 => ?_)
  · have hf := if_t hf hc4
    refine V_iload_n dX7_apart_115 rfl ?_
    refine V_keep [true, false, false] rfl ?_
    exact mM_apart_116_v hE v1 (((2268 : Int32) + ((2 : Int32) * (gI σ2 1 8))) + (1 : Int32)) σ2 hf
  · have hf := if_f hf hc4
    refine V_iload_n dX7_apart_111 rfl ?_
    refine V_goto (tgt := 116) dX7_apart_112 (by decide) ?_
    refine V_keep [true, false, false] rfl ?_
    exact mM_apart_116_v hE v2 (((2268 : Int32) + ((2 : Int32) * (gI σ2 1 8))) + (1 : Int32)) σ2 hf
set_option maxHeartbeats 4000000 in
theorem mM_apart_ok (l : Launch) (D : DD) (z : ZZ) (h : Nat) (p0 : Int32) (p1 : Int32) (σ : SM) (r : Int32) (σ' : SM) (hf : mM_apart p0 p1 σ = some (r, σ')) : MA l D yX7_apart cX7_apart 3 (some .int) 3 [.ref h, .int p0, .int p1] (wM z h σ) (.returned (some (.int r))) (wM z h σ') := by
  refine MA.intro (own := RX7) (nm := "apart") (ls := [some (.ref h), some (.int p0), some (.int p1)]) (by decide) rfl rfl (Nat.le_of_ble_eq_true rfl) rfl (fun X hl hD hE => ?_)
  subst hl hD
  unfold mM_apart at hf
  refine V_aload_n dX7_apart_0 rfl ?_
  refine V_iconst dX7_apart_1 kc_0 ?_
  obtain ⟨σ1, hs2, hf⟩ := st1_ex hf
  refine VM_putI fwX7_113 hs2 dX7_apart_2 ?_
  refine V_aload_n dX7_apart_5 rfl ?_
  refine V_iload_n dX7_apart_6 rfl ?_
  obtain ⟨r4, hc3, hf⟩ := bd1_ex hf
  refine V_cV (av := [.int p0]) (rest := []) (st' := [.int r4]) (mM_isName_ok _ _ _ _ _ _ _ hc3) vcX7_172 (wM_k0 _ _ _) (by decide) rfl rfl (Nat.le_of_ble_eq_true rfl) dX7_apart_7 rfl ?_
  refine V_if_eq (tgt := 21) dX7_apart_10 (by decide) (fun hc5 => ?_) (fun hc5 => ?_)
  · have hf := if_t hf hc5
    refine V_keep [true, false, false] rfl ?_
    exact mM_apart_21_v hE σ1 hf
  · have hf := if_f hf hc5
    refine V_aload_n dX7_apart_13 rfl ?_
    refine V_iload_n dX7_apart_14 rfl ?_
    obtain ⟨r7, hc6, hf⟩ := bd1_ex hf
    refine V_cV (av := [.int p1]) (rest := []) (st' := [.int r7]) (mM_isName_ok _ _ _ _ _ _ _ hc6) vcX7_172 (wM_k0 _ _ _) (by decide) rfl rfl (Nat.le_of_ble_eq_true rfl) dX7_apart_15 rfl ?_
    refine V_if_ne (tgt := 28) dX7_apart_18 (by decide) (fun hc8 => ?_) (fun hc8 => ?_)
    · have hf := if_f hf hc8
      refine V_iload_n dX7_apart_28 rfl ?_
      refine V_iload_n dX7_apart_29 rfl ?_
      refine V_icmp_ne (tgt := 40) dX7_apart_30 (by decide) (fun hc9 => ?_) (fun hc9 => ?_)
      · have hf := if_f hf hc9
        refine V_aload_n dX7_apart_40 rfl ?_
        refine VM_getR fX7_7 ⟨rfl, rfl⟩ rfl dX7_apart_41 ?_
        refine V_bipush dX7_apart_44 kb_8 ?_
        refine VM_ldI (n := 23016) (k := 8) rfl (by decide) (by decide) dX7_apart_46 ?_
        refine V_bipush dX7_apart_47 kb_40 ?_
        refine V_icmp_ne (tgt := 59) dX7_apart_49 (by decide) (fun hc10 => ?_) (fun hc10 => ?_)
        · have hf := if_f hf hc10
          refine V_aload_n dX7_apart_59 rfl ?_
          refine VM_getR fX7_7 ⟨rfl, rfl⟩ rfl dX7_apart_60 ?_
          refine V_sipush dX7_apart_63 ks_2268 ?_
          refine V_iconst dX7_apart_66 kc_2 ?_
          refine V_aload_n dX7_apart_67 rfl ?_
          refine VM_getR fX7_7 ⟨rfl, rfl⟩ rfl dX7_apart_68 ?_
          refine V_bipush dX7_apart_71 kb_8 ?_
          refine VM_ldI (n := 23016) (k := 8) rfl (by decide) (by decide) dX7_apart_73 ?_
          refine V_imul dX7_apart_74 ?_
          refine V_iadd dX7_apart_75 ?_
          refine V_iload_n dX7_apart_76 rfl ?_
          refine V_iload_n dX7_apart_77 rfl ?_
          refine V_icmp_ge (tgt := 85) dX7_apart_78 (by decide) (fun hc11 => ?_) (fun hc11 => ?_)
          · have hf := if_t hf hc11
            refine V_iload_n dX7_apart_85 rfl ?_
            exact mM_apart_86_v hE p0 p1 p1 ((2268 : Int32) + ((2 : Int32) * (gI σ1 1 8))) σ1 hf
          · have hf := if_f hf hc11
            refine V_iload_n dX7_apart_81 rfl ?_
            refine V_goto (tgt := 86) dX7_apart_82 (by decide) ?_
            exact mM_apart_86_v hE p0 p1 p0 ((2268 : Int32) + ((2 : Int32) * (gI σ1 1 8))) σ1 hf
        · have hf := if_t hf hc10
          refine V_aload_n dX7_apart_52 rfl ?_
          refine V_bipush dX7_apart_53 kb_m5 ?_
          obtain ⟨r13, σ14, hc12, hf⟩ := bd2_ex hf
          refine V_cV (av := [.int (-5 : Int32)]) (rest := []) (st' := [.int r13]) (mM_told_ok _ _ _ _ _ _ _ _ hc12) vcX7_125 (wM_k0 _ _ _) (by decide) rfl rfl (Nat.le_of_ble_eq_true rfl) dX7_apart_55 rfl ?_
          cases some_ex hf
          exact V_iret hE dX7_apart_58
      · have hf := if_t hf hc9
        refine V_aload_n dX7_apart_33 rfl ?_
        refine V_bipush dX7_apart_34 kb_m3 ?_
        obtain ⟨r16, σ17, hc15, hf⟩ := bd2_ex hf
        refine V_cV (av := [.int (-3 : Int32)]) (rest := []) (st' := [.int r16]) (mM_told_ok _ _ _ _ _ _ _ _ hc15) vcX7_125 (wM_k0 _ _ _) (by decide) rfl rfl (Nat.le_of_ble_eq_true rfl) dX7_apart_36 rfl ?_
        cases some_ex hf
        exact V_iret hE dX7_apart_39
    · have hf := if_t hf hc8
      refine V_keep [true, false, false] rfl ?_
      exact mM_apart_21_v hE σ1 hf
set_option maxHeartbeats 4000000 in
theorem mM_isBarred_62_v {X : CX} {w0 : AH} {z : ZZ} {h : Nat} {r : Int32} (σ : SM) (hE : XE X w0 1 (some .boolean) "isBarred" (.returned (some (.int r))) (wM z h σ)) (k5 : Int32 → Int32 → Int32 → Int32 → Option (Int32)) (hk5 : ∀ (v1 : Int32) (v2 : Int32) (v3 : Int32) (v4 : Int32), k5 v1 v2 v3 v4 = some r → V X cX7_isBarred RX7 5 1 (wM z h σ) 5 [some (.ref h), some (.int v1), some (.int v2), some (.int v3), some (.int v4)] []) (v1 : Int32) (v2 : Int32) (v4 : Int32) (t0 : Int32) (hf : mM_isBarred_62 σ k5 v1 v2 v4 t0 = some r) : V X cX7_isBarred RX7 5 1 (wM z h σ) 62 [some (.ref h), some (.int v1), some (.int v2), none, some (.int v4)] [.int t0] := by
  unfold mM_isBarred_62 at hf
  refine V_istore_n (ls' := [some (.ref h), some (.int v1), some (.int v2), some (.int t0), some (.int v4)]) dX7_isBarred_62 (by decide) rfl ?_
  refine V_inc (ls' := [some (.ref h), some (.int v1), some (.int v2), some (.int t0), some (.int (v4 + (1 : Int32)))]) dX7_isBarred_63 rfl kc_1 (by decide) rfl ?_
  refine V_goto (tgt := 5) dX7_isBarred_66 (by decide) ?_
  exact hk5 v1 v2 t0 (v4 + (1 : Int32)) hf
set_option maxHeartbeats 4000000 in
theorem mM_isBarred_57_v {X : CX} {w0 : AH} {z : ZZ} {h : Nat} {r : Int32} (σ : SM) (hE : XE X w0 1 (some .boolean) "isBarred" (.returned (some (.int r))) (wM z h σ)) (k5 : Int32 → Int32 → Int32 → Int32 → Option (Int32)) (hk5 : ∀ (v1 : Int32) (v2 : Int32) (v3 : Int32) (v4 : Int32), k5 v1 v2 v3 v4 = some r → V X cX7_isBarred RX7 5 1 (wM z h σ) 5 [some (.ref h), some (.int v1), some (.int v2), some (.int v3), some (.int v4)] []) (v1 : Int32) (v2 : Int32) (v4 : Int32) (hf : mM_isBarred_57 σ k5 v1 v2 v4 = some r) : V X cX7_isBarred RX7 5 1 (wM z h σ) 57 [some (.ref h), some (.int v1), some (.int v2), none, some (.int v4)] [] := by
  unfold mM_isBarred_57 at hf
  refine V_iconst dX7_isBarred_57 kc_1 ?_
  refine V_goto (tgt := 62) dX7_isBarred_58 (by decide) ?_
  exact mM_isBarred_62_v σ hE k5 hk5 v1 v2 v4 (1 : Int32) hf
set_option maxHeartbeats 4000000 in
theorem mM_isBarred_61_v {X : CX} {w0 : AH} {z : ZZ} {h : Nat} {r : Int32} (σ : SM) (hE : XE X w0 1 (some .boolean) "isBarred" (.returned (some (.int r))) (wM z h σ)) (k5 : Int32 → Int32 → Int32 → Int32 → Option (Int32)) (hk5 : ∀ (v1 : Int32) (v2 : Int32) (v3 : Int32) (v4 : Int32), k5 v1 v2 v3 v4 = some r → V X cX7_isBarred RX7 5 1 (wM z h σ) 5 [some (.ref h), some (.int v1), some (.int v2), some (.int v3), some (.int v4)] []) (v1 : Int32) (v2 : Int32) (v4 : Int32) (hf : mM_isBarred_61 σ k5 v1 v2 v4 = some r) : V X cX7_isBarred RX7 5 1 (wM z h σ) 61 [some (.ref h), some (.int v1), some (.int v2), none, some (.int v4)] [] := by
  unfold mM_isBarred_61 at hf
  refine V_iconst dX7_isBarred_61 kc_0 ?_
  exact mM_isBarred_62_v σ hE k5 hk5 v1 v2 v4 (0 : Int32) hf
set_option maxHeartbeats 4000000 in
theorem mM_isBarred_5_v {X : CX} {w0 : AH} {z : ZZ} {h : Nat} {r : Int32} (σ : SM) (hE : XE X w0 1 (some .boolean) "isBarred" (.returned (some (.int r))) (wM z h σ)) (k5 : Int32 → Int32 → Int32 → Int32 → Option (Int32)) (hk5 : ∀ (v1 : Int32) (v2 : Int32) (v3 : Int32) (v4 : Int32), k5 v1 v2 v3 v4 = some r → V X cX7_isBarred RX7 5 1 (wM z h σ) 5 [some (.ref h), some (.int v1), some (.int v2), some (.int v3), some (.int v4)] []) (v1 : Int32) (v2 : Int32) (v3 : Int32) (v4 : Int32) (hf : mM_isBarred_5 σ k5 v1 v2 v3 v4 = some r) : V X cX7_isBarred RX7 5 1 (wM z h σ) 5 [some (.ref h), some (.int v1), some (.int v2), some (.int v3), some (.int v4)] [] := by
  unfold mM_isBarred_5 at hf
  refine V_iload dX7_isBarred_5 rfl ?_
  refine V_aload_n dX7_isBarred_7 rfl ?_
  refine VM_getR fX7_7 ⟨rfl, rfl⟩ rfl dX7_isBarred_8 ?_
  refine V_bipush dX7_isBarred_11 kb_8 ?_
  refine VM_ldI (n := 23016) (k := 8) rfl (by decide) (by decide) dX7_isBarred_13 ?_
  refine V_icmp_ge (tgt := 69) dX7_isBarred_14 (by decide) (fun hc1 => ?_) (fun hc1 => ?_)
  · have hf := if_t hf hc1
    refine V_iload_n dX7_isBarred_69 rfl ?_
    obtain ⟨hb2, hf⟩ := ck_ex hf
    cases some_ex hf
    exact V_zret hE (isZ_nar hb2) dX7_isBarred_70
  · have hf := if_f hf hc1
    refine V_iload_n dX7_isBarred_17 rfl ?_
    refine V_if_ne (tgt := 57) dX7_isBarred_18 (by decide) (fun hc3 => ?_) (fun hc3 => ?_)
    · have hf := if_f hf hc3
      refine V_keep [true, true, true, false, true] rfl ?_
      exact mM_isBarred_57_v σ hE k5 hk5 v1 v2 v4 hf
    · have hf := if_t hf hc3
      refine V_aload_n dX7_isBarred_21 rfl ?_
      refine VM_getR fX7_7 ⟨rfl, rfl⟩ rfl dX7_isBarred_22 ?_
      refine V_sipush dX7_isBarred_25 ks_2268 ?_
      refine V_iconst dX7_isBarred_28 kc_2 ?_
      refine V_iload dX7_isBarred_29 rfl ?_
      refine V_imul dX7_isBarred_31 ?_
      refine V_iadd dX7_isBarred_32 ?_
      obtain ⟨hb4, hf⟩ := ck_ex hf
      refine VM_ldI (n := 23016) (k := ((2268 : Int32) + ((2 : Int32) * v4)).toNatClampNeg) rfl hb4 rfl dX7_isBarred_33 ?_
      refine V_iload_n dX7_isBarred_34 rfl ?_
      refine V_icmp_ne (tgt := 61) dX7_isBarred_35 (by decide) (fun hc5 => ?_) (fun hc5 => ?_)
      · have hf := if_f hf hc5
        refine V_keep [true, true, true, false, true] rfl ?_
        exact mM_isBarred_61_v σ hE k5 hk5 v1 v2 v4 hf
      · have hf := if_t hf hc5
        refine V_aload_n dX7_isBarred_38 rfl ?_
        refine VM_getR fX7_7 ⟨rfl, rfl⟩ rfl dX7_isBarred_39 ?_
        refine V_sipush dX7_isBarred_42 ks_2268 ?_
        refine V_iconst dX7_isBarred_45 kc_2 ?_
        refine V_iload dX7_isBarred_46 rfl ?_
        refine V_imul dX7_isBarred_48 ?_
        refine V_iadd dX7_isBarred_49 ?_
        refine V_iconst dX7_isBarred_50 kc_1 ?_
        refine V_iadd dX7_isBarred_51 ?_
        obtain ⟨hb6, hf⟩ := ck_ex hf
        refine VM_ldI (n := 23016) (k := (((2268 : Int32) + ((2 : Int32) * v4)) + (1 : Int32)).toNatClampNeg) rfl hb6 rfl dX7_isBarred_52 ?_
        refine V_iload_n dX7_isBarred_53 rfl ?_
        refine V_icmp_ne (tgt := 61) dX7_isBarred_54 (by decide) (fun hc7 => ?_) (fun hc7 => ?_)
        · have hf := if_f hf hc7
          refine V_keep [true, true, true, false, true] rfl ?_
          exact mM_isBarred_61_v σ hE k5 hk5 v1 v2 v4 hf
        · have hf := if_t hf hc7
          refine V_keep [true, true, true, false, true] rfl ?_
          exact mM_isBarred_57_v σ hE k5 hk5 v1 v2 v4 hf
