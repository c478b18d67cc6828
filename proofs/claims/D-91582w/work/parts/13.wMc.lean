set_option maxRecDepth 100000
set_option maxHeartbeats 4000000 in
theorem mM_setRules_8_v {X : CX} {w0 : AH} {z : ZZ} {h : Nat} {σ' : SM} (hE : XE X w0 7 none "setRules" (.returned none) (wM z h σ')) (k8 : Int32 → SM → Option (SM)) (hk8 : ∀ (v3 : Int32) (σ : SM), k8 v3 σ = some σ' → V X cX7_setRules RX7 4 7 (wM z h σ) 8 [some (.ref h), none, none, some (.int v3)] []) (v3 : Int32) (σ : SM) (hf : mM_setRules_8 k8 v3 σ = some σ') : V X cX7_setRules RX7 4 7 (wM z h σ) 8 [some (.ref h), none, none, some (.int v3)] [] := by
  unfold mM_setRules_8 at hf
  refine V_iload_n dX7_setRules_8 rfl ?_
  refine V_aload_n dX7_setRules_9 rfl ?_
  refine VM_getI fX7_471 rfl dX7_setRules_10 ?_
  refine V_icmp_ge (tgt := 68) dX7_setRules_13 (by decide) (fun hc1 => ?_) (fun hc1 => ?_)
  · have hf := if_t hf hc1
    cases some_ex hf
    exact V_vret hE dX7_setRules_68
  · have hf := if_f hf hc1
    refine V_aload_n dX7_setRules_16 rfl ?_
    refine V_aload_n dX7_setRules_17 rfl ?_
    refine VM_getR fX7_62 ⟨rfl, rfl⟩ rfl dX7_setRules_18 ?_
    refine V_iload_n dX7_setRules_21 rfl ?_
    obtain ⟨hb2, hf⟩ := ck_ex hf
    refine VM_ldI (n := 7) (k := v3.toNatClampNeg) rfl hb2 rfl dX7_setRules_22 ?_
    obtain ⟨σ4, hc3, hf⟩ := bd1_ex hf
    refine V_cV (av := [.int (gI σ 16 (v3.toNatClampNeg))]) (rest := []) (st' := []) (mM_setPlace_ok _ _ _ _ _ _ _ hc3) vcX7_432 (wM_k0 _ _ _) (by decide) rfl rfl (Nat.le_of_ble_eq_true rfl) dX7_setRules_23 rfl ?_
    refine V_aload_n dX7_setRules_26 rfl ?_
    refine VM_getR fX7_71 ⟨rfl, rfl⟩ rfl dX7_setRules_27 ?_
    refine V_iload_n dX7_setRules_30 rfl ?_
    refine V_aload_n dX7_setRules_31 rfl ?_
    refine V_iconst dX7_setRules_32 kc_5 ?_
    refine V_sipush dX7_setRules_33 ks_1000 ?_
    obtain ⟨r6, σ7, hc5, hf⟩ := bd2_ex hf
    refine V_cV (av := [.int (5 : Int32), .int (1000 : Int32)]) (rest := [.int v3, .ref (h + 19)]) (st' := [.int r6, .int v3, .ref (h + 19)]) (mM_ruleOf_ok _ _ _ _ _ _ _ _ _ hc5) vcX7_468 (wM_k0 _ _ _) (by decide) rfl rfl (Nat.le_of_ble_eq_true rfl) dX7_setRules_36 rfl ?_
    obtain ⟨hb8, hf⟩ := ck_ex hf
    obtain ⟨σ9, hs10, hf⟩ := st1_ex hf
    refine VM_stI (n := 7) (k := v3.toNatClampNeg) rfl hb8 rfl hs10 dX7_setRules_39 ?_
    refine V_aload_n dX7_setRules_40 rfl ?_
    refine VM_getR fX7_74 ⟨rfl, rfl⟩ rfl dX7_setRules_41 ?_
    refine V_iload_n dX7_setRules_44 rfl ?_
    refine V_aload_n dX7_setRules_45 rfl ?_
    refine V_bipush dX7_setRules_46 kb_6 ?_
    refine V_sipush dX7_setRules_48 ks_200 ?_
    obtain ⟨r12, σ13, hc11, hf⟩ := bd2_ex hf
    refine V_cV (av := [.int (6 : Int32), .int (200 : Int32)]) (rest := [.int v3, .ref (h + 20)]) (st' := [.int r12, .int v3, .ref (h + 20)]) (mM_ruleOf_ok _ _ _ _ _ _ _ _ _ hc11) vcX7_468 (wM_k0 _ _ _) (by decide) rfl rfl (Nat.le_of_ble_eq_true rfl) dX7_setRules_51 rfl ?_
    obtain ⟨hb14, hf⟩ := ck_ex hf
    obtain ⟨σ15, hs16, hf⟩ := st1_ex hf
    refine VM_stI (n := 7) (k := v3.toNatClampNeg) rfl hb14 rfl hs16 dX7_setRules_54 ?_
    refine V_aload_n dX7_setRules_55 rfl ?_
    refine VM_getR fX7_77 ⟨rfl, rfl⟩ rfl dX7_setRules_56 ?_
    refine V_iload_n dX7_setRules_59 rfl ?_
    refine V_iconst dX7_setRules_60 kc_0 ?_
    obtain ⟨hb17, hf⟩ := ck_ex hf
    obtain ⟨σ18, hs19, hf⟩ := st1_ex hf
    refine VM_stI (n := 7) (k := v3.toNatClampNeg) rfl hb17 rfl hs19 dX7_setRules_61 ?_
    refine V_inc (ls' := [some (.ref h), none, none, some (.int (v3 + (1 : Int32)))]) dX7_setRules_62 rfl kc_1 (by decide) rfl ?_
    refine V_goto (tgt := 8) dX7_setRules_65 (by decide) ?_
    exact hk8 (v3 + (1 : Int32)) σ18 hf
set_option maxHeartbeats 4000000 in
theorem mM_setRules_ok (l : Launch) (D : DD) (z : ZZ) (h : Nat) (p0 : Int32) (p1 : Int32) (σ : SM) (σ' : SM) (hf : mM_setRules p0 p1 σ = some σ') : MA l D yX7_setRules cX7_setRules 4 none 7 [.ref h, .int p0, .int p1] (wM z h σ) (.returned none) (wM z h σ') := by
  refine MA.intro (own := RX7) (nm := "setRules") (ls := [some (.ref h), some (.int p0), some (.int p1), none]) (by decide) rfl rfl (Nat.le_of_ble_eq_true rfl) rfl (fun X hl hD hE => ?_)
  subst hl hD
  unfold mM_setRules at hf
  refine V_aload_n dX7_setRules_0 rfl ?_
  refine V_iload_n dX7_setRules_1 rfl ?_
  refine V_iload_n dX7_setRules_2 rfl ?_
  obtain ⟨σ2, hc1, hf⟩ := bd1_ex hf
  refine V_cV (av := [.int p0, .int p1]) (rest := []) (st' := []) (mM_knowBy_ok _ _ _ _ _ _ _ _ hc1) vcX7_205 (wM_k0 _ _ _) (by decide) rfl rfl (Nat.le_of_ble_eq_true rfl) dX7_setRules_3 rfl ?_
  refine V_iconst dX7_setRules_6 kc_0 ?_
  refine V_istore_n (ls' := [some (.ref h), some (.int p0), some (.int p1), some (.int (0 : Int32))]) dX7_setRules_7 (by decide) rfl ?_
  refine V_keep [true, false, false, true] rfl ?_
  exact lq2_ex (P := fun v3 σ => V X cX7_setRules RX7 4 7 (wM z h σ) 8 [some (.ref h), none, none, some (.int v3)] []) (fun k hk v3 σ hf => mM_setRules_8_v hE k hk v3 σ hf) LF (0 : Int32) σ2 hf
set_option maxHeartbeats 4000000 in
theorem mM_ones_4_v {X : CX} {w0 : AH} {w : AH} {r : Int32} (hE : XE X w0 1 (some .int) "ones" (.returned (some (.int r))) w) (k4 : Int32 → Int32 → Int32 → Option (Int32)) (hk4 : ∀ (v0 : Int32) (v1 : Int32) (v2 : Int32), k4 v0 v1 v2 = some r → V X cX7_ones RX7 3 1 w 4 [some (.int v0), some (.int v1), some (.int v2)] []) (v0 : Int32) (v1 : Int32) (v2 : Int32) (hf : mM_ones_4 k4 v0 v1 v2 = some r) : V X cX7_ones RX7 3 1 w 4 [some (.int v0), some (.int v1), some (.int v2)] [] := by
  unfold mM_ones_4 at hf
  refine V_iload_n dX7_ones_4 rfl ?_
  refine V_bipush dX7_ones_5 kb_8 ?_
  refine V_icmp_ge (tgt := 24) dX7_ones_7 (by decide) (fun hc1 => ?_) (fun hc1 => ?_)
  · have hf := if_t hf hc1
    refine V_iload_n dX7_ones_24 rfl ?_
    cases some_ex hf
    exact V_iret hE dX7_ones_25
  · have hf := if_f hf hc1
    refine V_iload_n dX7_ones_10 rfl ?_
    refine V_iload_n dX7_ones_11 rfl ?_
    refine V_iload_n dX7_ones_12 rfl ?_
    refine V_ishr dX7_ones_13 ?_
    refine V_iconst dX7_ones_14 kc_1 ?_
    refine V_iand dX7_ones_15 ?_
    refine V_iadd dX7_ones_16 ?_
    refine V_istore_n (ls' := [some (.int v0), some (.int (v1 + ((v0 >>> (v2 &&& 31)) &&& (1 : Int32)))), some (.int v2)]) dX7_ones_17 (by decide) rfl ?_
    refine V_inc (ls' := [some (.int v0), some (.int (v1 + ((v0 >>> (v2 &&& 31)) &&& (1 : Int32)))), some (.int (v2 + (1 : Int32)))]) dX7_ones_18 rfl kc_1 (by decide) rfl ?_
    refine V_goto (tgt := 4) dX7_ones_21 (by decide) ?_
    exact hk4 v0 (v1 + ((v0 >>> (v2 &&& 31)) &&& (1 : Int32))) (v2 + (1 : Int32)) hf
set_option maxHeartbeats 4000000 in
theorem mM_ones_ok (l : Launch) (D : DD) (w : AH) (p0 : Int32) (r : Int32) (hf : mM_ones p0 = some r) : MA l D yX7_ones cX7_ones 3 (some .int) 1 [.int p0] w (.returned (some (.int r))) w := by
  refine MA.intro (own := RX7) (nm := "ones") (ls := [some (.int p0), none, none]) (by decide) rfl rfl (Nat.le_of_ble_eq_true rfl) rfl (fun X hl hD hE => ?_)
  subst hl hD
  unfold mM_ones at hf
  refine V_iconst dX7_ones_0 kc_0 ?_
  refine V_istore_n (ls' := [some (.int p0), some (.int (0 : Int32)), none]) dX7_ones_1 (by decide) rfl ?_
  refine V_iconst dX7_ones_2 kc_0 ?_
  refine V_istore_n (ls' := [some (.int p0), some (.int (0 : Int32)), some (.int (0 : Int32))]) dX7_ones_3 (by decide) rfl ?_
  exact lq3_ex (P := fun v0 v1 v2 => V X cX7_ones RX7 3 1 w 4 [some (.int v0), some (.int v1), some (.int v2)] []) (fun k hk v0 v1 v2 hf => mM_ones_4_v hE k hk v0 v1 v2 hf) LF p0 (0 : Int32) (0 : Int32) hf
set_option maxHeartbeats 4000000 in
theorem mM_away_59_v {X : CX} {w0 : AH} {z : ZZ} {h : Nat} {r : Int32} (σ : SM) (hE : XE X w0 2 (some .int) "away" (.returned (some (.int r))) (wM z h σ)) (v4 : Int32) (t0 : Int32) (hf : mM_away_59 σ v4 t0 = some r) : V X cX7_away RX7 5 2 (wM z h σ) 59 [none, none, none, none, some (.int v4)] [.int t0] := by
  unfold mM_away_59 at hf
  refine V_iload dX7_away_59 rfl ?_
  refine V_if_ge (tgt := 70) dX7_away_61 (by decide) (fun hc1 => ?_) (fun hc1 => ?_)
  · have hf := if_t hf hc1
    refine V_iload dX7_away_70 rfl ?_
    refine V_iadd dX7_away_72 ?_
    cases some_ex hf
    exact V_iret hE dX7_away_73
  · have hf := if_f hf hc1
    refine V_iload dX7_away_64 rfl ?_
    refine V_ineg dX7_away_66 ?_
    refine V_goto (tgt := 72) dX7_away_67 (by decide) ?_
    refine V_iadd dX7_away_72 ?_
    cases some_ex hf
    exact V_iret hE dX7_away_73
set_option maxHeartbeats 4000000 in
theorem mM_away_ok (l : Launch) (D : DD) (z : ZZ) (h : Nat) (p0 : Int32) (p1 : Int32) (σ : SM) (r : Int32) (hf : mM_away p0 p1 σ = some r) : MA l D yX7_away cX7_away 5 (some .int) 2 [.ref h, .int p0, .int p1] (wM z h σ) (.returned (some (.int r))) (wM z h σ) := by
  refine MA.intro (own := RX7) (nm := "away") (ls := [some (.ref h), some (.int p0), some (.int p1), none, none]) (by decide) rfl rfl (Nat.le_of_ble_eq_true rfl) rfl (fun X hl hD hE => ?_)
  subst hl hD
  unfold mM_away at hf
  refine V_aload_n dX7_away_0 rfl ?_
  refine VM_getR fX7_7 ⟨rfl, rfl⟩ rfl dX7_away_1 ?_
  refine V_iload_n dX7_away_4 rfl ?_
  obtain ⟨r2, hc1, hf⟩ := bd1_ex hf
  refine V_cS (rest := [.ref (h + 1)]) (st' := [.int r2, .ref (h + 1)]) (mM_placeAt_ok _ _ _ _ _ hc1) scX7_133 (by decide) rfl rfl (Nat.le_of_ble_eq_true rfl) dX7_away_5 rfl ?_
  refine V_iconst dX7_away_8 kc_1 ?_
  refine V_iadd dX7_away_9 ?_
  obtain ⟨hb3, hf⟩ := ck_ex hf
  refine VM_ldI (n := 23016) (k := (r2 + (1 : Int32)).toNatClampNeg) rfl hb3 rfl dX7_away_10 ?_
  refine V_aload_n dX7_away_11 rfl ?_
  refine VM_getR fX7_7 ⟨rfl, rfl⟩ rfl dX7_away_12 ?_
  refine V_iload_n dX7_away_15 rfl ?_
  obtain ⟨r5, hc4, hf⟩ := bd1_ex hf
  refine V_cS (rest := [.ref (h + 1), .int (gI σ 1 ((r2 + (1 : Int32)).toNatClampNeg))]) (st' := [.int r5, .ref (h + 1), .int (gI σ 1 ((r2 + (1 : Int32)).toNatClampNeg))]) (mM_placeAt_ok _ _ _ _ _ hc4) scX7_133 (by decide) rfl rfl (Nat.le_of_ble_eq_true rfl) dX7_away_16 rfl ?_
  refine V_iconst dX7_away_19 kc_1 ?_
  refine V_iadd dX7_away_20 ?_
  obtain ⟨hb6, hf⟩ := ck_ex hf
  refine VM_ldI (n := 23016) (k := (r5 + (1 : Int32)).toNatClampNeg) rfl hb6 rfl dX7_away_21 ?_
  refine V_isub dX7_away_22 ?_
  refine V_istore_n (ls' := [some (.ref h), some (.int p0), some (.int p1), some (.int ((gI σ 1 ((r2 + (1 : Int32)).toNatClampNeg)) - (gI σ 1 ((r5 + (1 : Int32)).toNatClampNeg)))), none]) dX7_away_23 (by decide) rfl ?_
  refine V_aload_n dX7_away_24 rfl ?_
  refine VM_getR fX7_7 ⟨rfl, rfl⟩ rfl dX7_away_25 ?_
  refine V_iload_n dX7_away_28 rfl ?_
  obtain ⟨r8, hc7, hf⟩ := bd1_ex hf
  refine V_cS (rest := [.ref (h + 1)]) (st' := [.int r8, .ref (h + 1)]) (mM_placeAt_ok _ _ _ _ _ hc7) scX7_133 (by decide) rfl rfl (Nat.le_of_ble_eq_true rfl) dX7_away_29 rfl ?_
  refine V_iconst dX7_away_32 kc_2 ?_
  refine V_iadd dX7_away_33 ?_
  obtain ⟨hb9, hf⟩ := ck_ex hf
  refine VM_ldI (n := 23016) (k := (r8 + (2 : Int32)).toNatClampNeg) rfl hb9 rfl dX7_away_34 ?_
  refine V_aload_n dX7_away_35 rfl ?_
  refine VM_getR fX7_7 ⟨rfl, rfl⟩ rfl dX7_away_36 ?_
  refine V_iload_n dX7_away_39 rfl ?_
  obtain ⟨r11, hc10, hf⟩ := bd1_ex hf
  refine V_cS (rest := [.ref (h + 1), .int (gI σ 1 ((r8 + (2 : Int32)).toNatClampNeg))]) (st' := [.int r11, .ref (h + 1), .int (gI σ 1 ((r8 + (2 : Int32)).toNatClampNeg))]) (mM_placeAt_ok _ _ _ _ _ hc10) scX7_133 (by decide) rfl rfl (Nat.le_of_ble_eq_true rfl) dX7_away_40 rfl ?_
  refine V_iconst dX7_away_43 kc_2 ?_
  refine V_iadd dX7_away_44 ?_
  obtain ⟨hb12, hf⟩ := ck_ex hf
  refine VM_ldI (n := 23016) (k := (r11 + (2 : Int32)).toNatClampNeg) rfl hb12 rfl dX7_away_45 ?_
  refine V_isub dX7_away_46 ?_
  refine V_istore (ls' := [some (.ref h), some (.int p0), some (.int p1), some (.int ((gI σ 1 ((r2 + (1 : Int32)).toNatClampNeg)) - (gI σ 1 ((r5 + (1 : Int32)).toNatClampNeg)))), some (.int ((gI σ 1 ((r8 + (2 : Int32)).toNatClampNeg)) - (gI σ 1 ((r11 + (2 : Int32)).toNatClampNeg))))]) dX7_away_47 (by decide) rfl ?_
  refine V_iload_n dX7_away_49 rfl ?_
  refine V_if_ge (tgt := 58) dX7_away_50 (by decide) (fun hc13 => ?_) (fun hc13 => ?_)
  · have hf := if_t hf hc13
    refine V_iload_n dX7_away_58 rfl ?_
    refine V_keep [false, false, false, false, true] rfl ?_
    exact mM_away_59_v σ hE ((gI σ 1 ((r8 + (2 : Int32)).toNatClampNeg)) - (gI σ 1 ((r11 + (2 : Int32)).toNatClampNeg))) ((gI σ 1 ((r2 + (1 : Int32)).toNatClampNeg)) - (gI σ 1 ((r5 + (1 : Int32)).toNatClampNeg))) hf
  · have hf := if_f hf hc13
    refine V_iload_n dX7_away_53 rfl ?_
    refine V_ineg dX7_away_54 ?_
    refine V_goto (tgt := 59) dX7_away_55 (by decide) ?_
    refine V_keep [false, false, false, false, true] rfl ?_
    exact mM_away_59_v σ hE ((gI σ 1 ((r8 + (2 : Int32)).toNatClampNeg)) - (gI σ 1 ((r11 + (2 : Int32)).toNatClampNeg))) (-((gI σ 1 ((r2 + (1 : Int32)).toNatClampNeg)) - (gI σ 1 ((r5 + (1 : Int32)).toNatClampNeg)))) hf
set_option maxHeartbeats 4000000 in
theorem mM_mayLead_ok (l : Launch) (D : DD) (z : ZZ) (h : Nat) (p0 : Int32) (p1 : Int32) (p2 : Int32) (p3 : Int32) (p4 : Int32) (σ : SM) (r : Int32) (hf : mM_mayLead p0 p1 p2 p3 p4 σ = some r) : MA l D yX7_mayLead cX7_mayLead 7 (some .boolean) 3 [.ref h, .int p0, .int p1, .int p2, .int p3, .int p4] (wM z h σ) (.returned (some (.int r))) (wM z h σ) := by
  refine MA.intro (own := RX7) (nm := "mayLead") (ls := [some (.ref h), some (.int p0), some (.int p1), some (.int p2), some (.int p3), some (.int p4), none]) (by decide) rfl rfl (Nat.le_of_ble_eq_true rfl) rfl (fun X hl hD hE => ?_)
  subst hl hD
  unfold mM_mayLead at hf
  refine V_iload_n dX7_mayLead_0 rfl ?_
  refine V_iload_n dX7_mayLead_1 rfl ?_
  refine V_ishr dX7_mayLead_2 ?_
  refine V_iconst dX7_mayLead_3 kc_1 ?_
  refine V_iand dX7_mayLead_4 ?_
  refine V_if_ne (tgt := 10) dX7_mayLead_5 (by decide) (fun hc1 => ?_) (fun hc1 => ?_)
  · have hf := if_f hf hc1
    refine V_aload_n dX7_mayLead_10 rfl ?_
    refine V_aload_n dX7_mayLead_11 rfl ?_
    refine VM_getR fX7_62 ⟨rfl, rfl⟩ rfl dX7_mayLead_12 ?_
    refine V_iload_n dX7_mayLead_15 rfl ?_
    obtain ⟨hb2, hf⟩ := ck_ex hf
    refine VM_ldI (n := 7) (k := p0.toNatClampNeg) rfl hb2 rfl dX7_mayLead_16 ?_
    refine V_aload_n dX7_mayLead_17 rfl ?_
    refine VM_getR fX7_62 ⟨rfl, rfl⟩ rfl dX7_mayLead_18 ?_
    refine V_iload_n dX7_mayLead_21 rfl ?_
    obtain ⟨hb3, hf⟩ := ck_ex hf
    refine VM_ldI (n := 7) (k := p1.toNatClampNeg) rfl hb3 rfl dX7_mayLead_22 ?_
    obtain ⟨r5, hc4, hf⟩ := bd1_ex hf
    refine V_cV (av := [.int (gI σ 16 (p0.toNatClampNeg)), .int (gI σ 16 (p1.toNatClampNeg))]) (rest := []) (st' := [.int r5]) (mM_away_ok _ _ _ _ _ _ _ _ hc4) vcX7_478 (wM_k0 _ _ _) (by decide) rfl rfl (Nat.le_of_ble_eq_true rfl) dX7_mayLead_23 rfl ?_
    refine V_istore (ls' := [some (.ref h), some (.int p0), some (.int p1), some (.int p2), some (.int p3), some (.int p4), some (.int r5)]) dX7_mayLead_26 (by decide) rfl ?_
    refine V_iload dX7_mayLead_28 rfl ?_
    refine V_aload_n dX7_mayLead_30 rfl ?_
    refine VM_getR fX7_74 ⟨rfl, rfl⟩ rfl dX7_mayLead_31 ?_
    refine V_iload_n dX7_mayLead_34 rfl ?_
    obtain ⟨hb6, hf⟩ := ck_ex hf
    refine VM_ldI (n := 7) (k := p0.toNatClampNeg) rfl hb6 rfl dX7_mayLead_35 ?_
    refine V_icmp_gt (tgt := 86) dX7_mayLead_36 (by decide) (fun hc7 => ?_) (fun hc7 => ?_)
    · have hf := if_t hf hc7
      refine V_iconst dX7_mayLead_86 kc_0 ?_
      cases some_ex hf
      exact V_zret hE (by decide) dX7_mayLead_87
    · have hf := if_f hf hc7
      refine V_aload_n dX7_mayLead_39 rfl ?_
      refine VM_getR fX7_77 ⟨rfl, rfl⟩ rfl dX7_mayLead_40 ?_
      refine V_iload_n dX7_mayLead_43 rfl ?_
      obtain ⟨hb8, hf⟩ := ck_ex hf
      refine VM_ldI (n := 7) (k := p1.toNatClampNeg) rfl hb8 rfl dX7_mayLead_44 ?_
      refine V_aload_n dX7_mayLead_45 rfl ?_
      refine VM_getR fX7_24 ⟨rfl, rfl⟩ rfl dX7_mayLead_46 ?_
      refine V_aload_n dX7_mayLead_49 rfl ?_
      refine VM_getR fX7_62 ⟨rfl, rfl⟩ rfl dX7_mayLead_50 ?_
      refine V_iload_n dX7_mayLead_53 rfl ?_
      obtain ⟨hb9, hf⟩ := ck_ex hf
      refine VM_ldI (n := 7) (k := p0.toNatClampNeg) rfl hb9 rfl dX7_mayLead_54 ?_
      obtain ⟨hb10, hf⟩ := ck_ex hf
      refine VM_ldI (n := 16) (k := (gI σ 16 (p0.toNatClampNeg)).toNatClampNeg) rfl hb10 rfl dX7_mayLead_55 ?_
      refine V_iadd dX7_mayLead_56 ?_
      refine V_aload_n dX7_mayLead_57 rfl ?_
      refine VM_getR fX7_71 ⟨rfl, rfl⟩ rfl dX7_mayLead_58 ?_
      refine V_iload_n dX7_mayLead_61 rfl ?_
      obtain ⟨hb11, hf⟩ := ck_ex hf
      refine VM_ldI (n := 7) (k := p1.toNatClampNeg) rfl hb11 rfl dX7_mayLead_62 ?_
      refine V_icmp_gt (tgt := 86) dX7_mayLead_63 (by decide) (fun hc12 => ?_) (fun hc12 => ?_)
      · have hf := if_t hf hc12
        refine V_iconst dX7_mayLead_86 kc_0 ?_
        cases some_ex hf
        exact V_zret hE (by decide) dX7_mayLead_87
      · have hf := if_f hf hc12
        refine V_iload dX7_mayLead_66 rfl ?_
        refine V_iconst dX7_mayLead_68 kc_m1 ?_
        refine V_icmp_eq (tgt := 82) dX7_mayLead_69 (by decide) (fun hc13 => ?_) (fun hc13 => ?_)
        · have hf := if_t hf hc13
          refine V_iconst dX7_mayLead_82 kc_1 ?_
          refine V_goto (tgt := 87) dX7_mayLead_83 (by decide) ?_
          cases some_ex hf
          exact V_zret hE (by decide) dX7_mayLead_87
        · have hf := if_f hf hc13
          refine V_iload dX7_mayLead_72 rfl ?_
          refine V_iload dX7_mayLead_74 rfl ?_
          refine V_iadd dX7_mayLead_76 ?_
          refine V_iload dX7_mayLead_77 rfl ?_
          refine V_icmp_ge (tgt := 86) dX7_mayLead_79 (by decide) (fun hc14 => ?_) (fun hc14 => ?_)
          · have hf := if_t hf hc14
            refine V_iconst dX7_mayLead_86 kc_0 ?_
            cases some_ex hf
            exact V_zret hE (by decide) dX7_mayLead_87
          · have hf := if_f hf hc14
            refine V_iconst dX7_mayLead_82 kc_1 ?_
            refine V_goto (tgt := 87) dX7_mayLead_83 (by decide) ?_
            cases some_ex hf
            exact V_zret hE (by decide) dX7_mayLead_87
  · have hf := if_t hf hc1
    refine V_iconst dX7_mayLead_8 kc_0 ?_
    cases some_ex hf
    exact V_zret hE (by decide) dX7_mayLead_9
set_option maxHeartbeats 4000000 in
theorem mM_leastBy_184_v {X : CX} {w0 : AH} {z : ZZ} {h : Nat} {r : Int32} {σ' : SM} (hE : XE X w0 4 (some .int) "leastBy" (.returned (some (.int r))) (wM z h σ')) (k34 : Int32 → Int32 → Int32 → Int32 → Int32 → SM → Option (Int32 × SM)) (hk34 : ∀ (v1 : Int32) (v2 : Int32) (v3 : Int32) (v4 : Int32) (v5 : Int32) (σ : SM), k34 v1 v2 v3 v4 v5 σ = some (r, σ') → V X cX7_leastBy RX7 7 4 (wM z h σ) 34 [some (.ref h), some (.int v1), some (.int v2), some (.int v3), some (.int v4), some (.int v5), none] []) (v1 : Int32) (v2 : Int32) (v3 : Int32) (v4 : Int32) (v5 : Int32) (σ : SM) (hf : mM_leastBy_184 k34 v1 v2 v3 v4 v5 σ = some (r, σ')) : V X cX7_leastBy RX7 7 4 (wM z h σ) 184 [some (.ref h), some (.int v1), some (.int v2), some (.int v3), some (.int v4), some (.int v5), none] [] := by
  unfold mM_leastBy_184 at hf
  refine V_inc (ls' := [some (.ref h), some (.int v1), some (.int v2), some (.int v3), some (.int (v4 + (-1 : Int32))), some (.int v5), none]) dX7_leastBy_184 rfl kc_m1 (by decide) rfl ?_
  refine V_iload dX7_leastBy_187 rfl ?_
  refine V_if_lt (tgt := 34) dX7_leastBy_189 (by decide) (fun hc1 => ?_) (fun hc1 => ?_)
  · have hf := if_t hf hc1
    exact hk34 v1 v2 v3 (v4 + (-1 : Int32)) v5 σ hf
  · have hf := if_f hf hc1
    refine V_aload_n dX7_leastBy_192 rfl ?_
    refine VM_getR fX7_80 ⟨rfl, rfl⟩ rfl dX7_leastBy_193 ?_
    refine V_iload dX7_leastBy_196 rfl ?_
    obtain ⟨hb2, hf⟩ := ck_ex hf
    refine VM_ldI (n := 7) (k := (v4 + (-1 : Int32)).toNatClampNeg) rfl hb2 rfl dX7_leastBy_198 ?_
    refine V_istore (ls' := [some (.ref h), some (.int v1), some (.int v2), some (.int v3), some (.int (v4 + (-1 : Int32))), some (.int (gI σ 22 ((v4 + (-1 : Int32)).toNatClampNeg))), none]) dX7_leastBy_199 (by decide) rfl ?_
    refine V_aload_n dX7_leastBy_201 rfl ?_
    refine VM_getR fX7_77 ⟨rfl, rfl⟩ rfl dX7_leastBy_202 ?_
    refine V_iload dX7_leastBy_205 rfl ?_
    refine V_dup2 dX7_leastBy_207 rfl rfl ?_
    obtain ⟨hb3, hf⟩ := ck_ex hf
    refine VM_ldI (n := 7) (k := (gI σ 22 ((v4 + (-1 : Int32)).toNatClampNeg)).toNatClampNeg) rfl hb3 rfl dX7_leastBy_208 ?_
    refine V_aload_n dX7_leastBy_209 rfl ?_
    refine VM_getR fX7_24 ⟨rfl, rfl⟩ rfl dX7_leastBy_210 ?_
    refine V_aload_n dX7_leastBy_213 rfl ?_
    refine VM_getR fX7_62 ⟨rfl, rfl⟩ rfl dX7_leastBy_214 ?_
    refine V_iload dX7_leastBy_217 rfl ?_
    obtain ⟨hb4, hf⟩ := ck_ex hf
    refine VM_ldI (n := 7) (k := (v4 + (-1 : Int32)).toNatClampNeg) rfl hb4 rfl dX7_leastBy_219 ?_
    obtain ⟨hb5, hf⟩ := ck_ex hf
    refine VM_ldI (n := 16) (k := (gI σ 16 ((v4 + (-1 : Int32)).toNatClampNeg)).toNatClampNeg) rfl hb5 rfl dX7_leastBy_220 ?_
    refine V_isub dX7_leastBy_221 ?_
    obtain ⟨hb6, hf⟩ := ck_ex hf
    obtain ⟨σ7, hs8, hf⟩ := st1_ex hf
    refine VM_stI (n := 7) (k := (gI σ 22 ((v4 + (-1 : Int32)).toNatClampNeg)).toNatClampNeg) rfl hb6 rfl hs8 dX7_leastBy_222 ?_
    refine V_iload_n dX7_leastBy_223 rfl ?_
    refine V_aload_n dX7_leastBy_224 rfl ?_
    refine V_aload_n dX7_leastBy_225 rfl ?_
    refine VM_getR fX7_62 ⟨rfl, rfl⟩ rfl dX7_leastBy_226 ?_
    refine V_iload dX7_leastBy_229 rfl ?_
    obtain ⟨hb9, hf⟩ := ck_ex hf
    refine VM_ldI (n := 7) (k := (v4 + (-1 : Int32)).toNatClampNeg) rfl hb9 rfl dX7_leastBy_231 ?_
    refine V_aload_n dX7_leastBy_232 rfl ?_
    refine VM_getR fX7_62 ⟨rfl, rfl⟩ rfl dX7_leastBy_233 ?_
    refine V_iload dX7_leastBy_236 rfl ?_
    obtain ⟨hb10, hf⟩ := ck_ex hf
    refine VM_ldI (n := 7) (k := (gI σ 22 ((v4 + (-1 : Int32)).toNatClampNeg)).toNatClampNeg) rfl hb10 rfl dX7_leastBy_238 ?_
    obtain ⟨r12, hc11, hf⟩ := bd1_ex hf
    refine V_cV (av := [.int (gI σ7 16 ((v4 + (-1 : Int32)).toNatClampNeg)), .int (gI σ7 16 ((gI σ 22 ((v4 + (-1 : Int32)).toNatClampNeg)).toNatClampNeg))]) (rest := [.int v3]) (st' := [.int r12, .int v3]) (mM_away_ok _ _ _ _ _ _ _ _ hc11) vcX7_478 (wM_k0 _ _ _) (by decide) rfl rfl (Nat.le_of_ble_eq_true rfl) dX7_leastBy_239 rfl ?_
    refine V_isub dX7_leastBy_242 ?_
    refine V_istore_n (ls' := [some (.ref h), some (.int v1), some (.int v2), some (.int (v3 - r12)), some (.int (v4 + (-1 : Int32))), some (.int (gI σ 22 ((v4 + (-1 : Int32)).toNatClampNeg))), none]) dX7_leastBy_243 (by decide) rfl ?_
    refine V_inc (ls' := [some (.ref h), some (.int v1), some (.int v2), some (.int (v3 - r12)), some (.int (v4 + (-1 : Int32))), some (.int ((gI σ 22 ((v4 + (-1 : Int32)).toNatClampNeg)) + (1 : Int32))), none]) dX7_leastBy_244 rfl kc_1 (by decide) rfl ?_
    refine V_goto (tgt := 34) dX7_leastBy_247 (by decide) ?_
    exact hk34 v1 v2 (v3 - r12) (v4 + (-1 : Int32)) ((gI σ 22 ((v4 + (-1 : Int32)).toNatClampNeg)) + (1 : Int32)) σ7 hf
set_option maxHeartbeats 4000000 in
theorem mM_leastBy_114_v {X : CX} {w0 : AH} {z : ZZ} {h : Nat} {r : Int32} {σ' : SM} (hE : XE X w0 4 (some .int) "leastBy" (.returned (some (.int r))) (wM z h σ')) (k34 : Int32 → Int32 → Int32 → Int32 → Int32 → SM → Option (Int32 × SM)) (hk34 : ∀ (v1 : Int32) (v2 : Int32) (v3 : Int32) (v4 : Int32) (v5 : Int32) (σ : SM), k34 v1 v2 v3 v4 v5 σ = some (r, σ') → V X cX7_leastBy RX7 7 4 (wM z h σ) 34 [some (.ref h), some (.int v1), some (.int v2), some (.int v3), some (.int v4), some (.int v5), none] []) (v1 : Int32) (v2 : Int32) (v3 : Int32) (v4 : Int32) (v5 : Int32) (σ : SM) (hf : mM_leastBy_114 k34 v1 v2 v3 v4 v5 σ = some (r, σ')) : V X cX7_leastBy RX7 7 4 (wM z h σ) 114 [some (.ref h), some (.int v1), some (.int v2), some (.int v3), some (.int v4), some (.int v5), none] [] := by
  unfold mM_leastBy_114 at hf
  refine V_iload dX7_leastBy_114 rfl ?_
  refine V_aload_n dX7_leastBy_116 rfl ?_
  refine VM_getI fX7_471 rfl dX7_leastBy_117 ?_
  refine V_icmp_ge (tgt := 184) dX7_leastBy_120 (by decide) (fun hc1 => ?_) (fun hc1 => ?_)
  · have hf := if_t hf hc1
    exact mM_leastBy_184_v hE k34 hk34 v1 v2 v3 v4 v5 σ hf
  · have hf := if_f hf hc1
    refine V_aload_n dX7_leastBy_123 rfl ?_
    refine VM_getR fX7_80 ⟨rfl, rfl⟩ rfl dX7_leastBy_124 ?_
    refine V_iload dX7_leastBy_127 rfl ?_
    refine V_iload dX7_leastBy_129 rfl ?_
    obtain ⟨hb2, hf⟩ := ck_ex hf
    obtain ⟨σ3, hs4, hf⟩ := st1_ex hf
    refine VM_stI (n := 7) (k := v4.toNatClampNeg) rfl hb2 rfl hs4 dX7_leastBy_131 ?_
    refine V_aload_n dX7_leastBy_132 rfl ?_
    refine VM_getR fX7_77 ⟨rfl, rfl⟩ rfl dX7_leastBy_133 ?_
    refine V_iload dX7_leastBy_136 rfl ?_
    refine V_dup2 dX7_leastBy_138 rfl rfl ?_
    obtain ⟨hb5, hf⟩ := ck_ex hf
    refine VM_ldI (n := 7) (k := v5.toNatClampNeg) rfl hb5 rfl dX7_leastBy_139 ?_
    refine V_aload_n dX7_leastBy_140 rfl ?_
    refine VM_getR fX7_24 ⟨rfl, rfl⟩ rfl dX7_leastBy_141 ?_
    refine V_aload_n dX7_leastBy_144 rfl ?_
    refine VM_getR fX7_62 ⟨rfl, rfl⟩ rfl dX7_leastBy_145 ?_
    refine V_iload dX7_leastBy_148 rfl ?_
    obtain ⟨hb6, hf⟩ := ck_ex hf
    refine VM_ldI (n := 7) (k := v4.toNatClampNeg) rfl hb6 rfl dX7_leastBy_150 ?_
    obtain ⟨hb7, hf⟩ := ck_ex hf
    refine VM_ldI (n := 16) (k := (gI σ3 16 (v4.toNatClampNeg)).toNatClampNeg) rfl hb7 rfl dX7_leastBy_151 ?_
    refine V_iadd dX7_leastBy_152 ?_
    obtain ⟨hb8, hf⟩ := ck_ex hf
    obtain ⟨σ9, hs10, hf⟩ := st1_ex hf
    refine VM_stI (n := 7) (k := v5.toNatClampNeg) rfl hb8 rfl hs10 dX7_leastBy_153 ?_
    refine V_iload_n dX7_leastBy_154 rfl ?_
    refine V_aload_n dX7_leastBy_155 rfl ?_
    refine V_aload_n dX7_leastBy_156 rfl ?_
    refine VM_getR fX7_62 ⟨rfl, rfl⟩ rfl dX7_leastBy_157 ?_
    refine V_iload dX7_leastBy_160 rfl ?_
    obtain ⟨hb11, hf⟩ := ck_ex hf
    refine VM_ldI (n := 7) (k := v4.toNatClampNeg) rfl hb11 rfl dX7_leastBy_162 ?_
    refine V_aload_n dX7_leastBy_163 rfl ?_
    refine VM_getR fX7_62 ⟨rfl, rfl⟩ rfl dX7_leastBy_164 ?_
    refine V_iload dX7_leastBy_167 rfl ?_
    obtain ⟨hb12, hf⟩ := ck_ex hf
    refine VM_ldI (n := 7) (k := v5.toNatClampNeg) rfl hb12 rfl dX7_leastBy_169 ?_
    obtain ⟨r14, hc13, hf⟩ := bd1_ex hf
    refine V_cV (av := [.int (gI σ9 16 (v4.toNatClampNeg)), .int (gI σ9 16 (v5.toNatClampNeg))]) (rest := [.int v3]) (st' := [.int r14, .int v3]) (mM_away_ok _ _ _ _ _ _ _ _ hc13) vcX7_478 (wM_k0 _ _ _) (by decide) rfl rfl (Nat.le_of_ble_eq_true rfl) dX7_leastBy_170 rfl ?_
    refine V_iadd dX7_leastBy_173 ?_
    refine V_istore_n (ls' := [some (.ref h), some (.int v1), some (.int v2), some (.int (v3 + r14)), some (.int v4), some (.int v5), none]) dX7_leastBy_174 (by decide) rfl ?_
    refine V_inc (ls' := [some (.ref h), some (.int v1), some (.int v2), some (.int (v3 + r14)), some (.int (v4 + (1 : Int32))), some (.int v5), none]) dX7_leastBy_175 rfl kc_1 (by decide) rfl ?_
    refine V_iconst dX7_leastBy_178 kc_0 ?_
    refine V_istore (ls' := [some (.ref h), some (.int v1), some (.int v2), some (.int (v3 + r14)), some (.int (v4 + (1 : Int32))), some (.int (0 : Int32)), none]) dX7_leastBy_179 (by decide) rfl ?_
    refine V_goto (tgt := 34) dX7_leastBy_181 (by decide) ?_
    exact hk34 v1 v2 (v3 + r14) (v4 + (1 : Int32)) (0 : Int32) σ9 hf
set_option maxHeartbeats 4000000 in
theorem mM_leastBy_85_v {X : CX} {w0 : AH} {z : ZZ} {h : Nat} {r : Int32} {σ' : SM} (hE : XE X w0 4 (some .int) "leastBy" (.returned (some (.int r))) (wM z h σ')) (k34 : Int32 → Int32 → Int32 → Int32 → Int32 → SM → Option (Int32 × SM)) (hk34 : ∀ (v1 : Int32) (v2 : Int32) (v3 : Int32) (v4 : Int32) (v5 : Int32) (σ : SM), k34 v1 v2 v3 v4 v5 σ = some (r, σ') → V X cX7_leastBy RX7 7 4 (wM z h σ) 34 [some (.ref h), some (.int v1), some (.int v2), some (.int v3), some (.int v4), some (.int v5), none] []) (k85 : Int32 → Int32 → Int32 → Int32 → Int32 → SM → Option (Int32 × SM)) (hk85 : ∀ (v1 : Int32) (v2 : Int32) (v3 : Int32) (v4 : Int32) (v5 : Int32) (σ : SM), k85 v1 v2 v3 v4 v5 σ = some (r, σ') → V X cX7_leastBy RX7 7 4 (wM z h σ) 85 [some (.ref h), some (.int v1), some (.int v2), some (.int v3), some (.int v4), some (.int v5), none] []) (v1 : Int32) (v2 : Int32) (v3 : Int32) (v4 : Int32) (v5 : Int32) (σ : SM) (hf : mM_leastBy_85 k34 k85 v1 v2 v3 v4 v5 σ = some (r, σ')) : V X cX7_leastBy RX7 7 4 (wM z h σ) 85 [some (.ref h), some (.int v1), some (.int v2), some (.int v3), some (.int v4), some (.int v5), none] [] := by
  unfold mM_leastBy_85 at hf
  refine V_iload dX7_leastBy_85 rfl ?_
  refine V_aload_n dX7_leastBy_87 rfl ?_
  refine VM_getI fX7_471 rfl dX7_leastBy_88 ?_
  refine V_icmp_ge (tgt := 114) dX7_leastBy_91 (by decide) (fun hc1 => ?_) (fun hc1 => ?_)
  · have hf := if_t hf hc1
    exact mM_leastBy_114_v hE k34 hk34 v1 v2 v3 v4 v5 σ hf
  · have hf := if_f hf hc1
    refine V_aload_n dX7_leastBy_94 rfl ?_
    refine V_iload dX7_leastBy_95 rfl ?_
    refine V_iload dX7_leastBy_97 rfl ?_
    refine V_iload_n dX7_leastBy_99 rfl ?_
    refine V_iload_n dX7_leastBy_100 rfl ?_
    refine V_iload_n dX7_leastBy_101 rfl ?_
    obtain ⟨r3, hc2, hf⟩ := bd1_ex hf
    refine V_cV (av := [.int v4, .int v5, .int v1, .int v3, .int v2]) (rest := []) (st' := [.int r3]) (mM_mayLead_ok _ _ _ _ _ _ _ _ _ _ _ hc2) vcX7_474 (wM_k0 _ _ _) (by decide) rfl rfl (Nat.le_of_ble_eq_true rfl) dX7_leastBy_102 rfl ?_
    refine V_if_ne (tgt := 114) dX7_leastBy_105 (by decide) (fun hc4 => ?_) (fun hc4 => ?_)
    · have hf := if_f hf hc4
      exact mM_leastBy_114_v hE k34 hk34 v1 v2 v3 v4 v5 σ hf
    · have hf := if_t hf hc4
      refine V_inc (ls' := [some (.ref h), some (.int v1), some (.int v2), some (.int v3), some (.int v4), some (.int (v5 + (1 : Int32))), none]) dX7_leastBy_108 rfl kc_1 (by decide) rfl ?_
      refine V_goto (tgt := 85) dX7_leastBy_111 (by decide) ?_
      exact hk85 v1 v2 v3 v4 (v5 + (1 : Int32)) σ hf
set_option maxHeartbeats 4000000 in
theorem mM_leastBy_53_v {X : CX} {w0 : AH} {z : ZZ} {h : Nat} {r : Int32} {σ' : SM} (hE : XE X w0 4 (some .int) "leastBy" (.returned (some (.int r))) (wM z h σ')) (k34 : Int32 → Int32 → Int32 → Int32 → Int32 → SM → Option (Int32 × SM)) (hk34 : ∀ (v1 : Int32) (v2 : Int32) (v3 : Int32) (v4 : Int32) (v5 : Int32) (σ : SM), k34 v1 v2 v3 v4 v5 σ = some (r, σ') → V X cX7_leastBy RX7 7 4 (wM z h σ) 34 [some (.ref h), some (.int v1), some (.int v2), some (.int v3), some (.int v4), some (.int v5), none] []) (k53 : Int32 → Int32 → Int32 → Int32 → Int32 → Int32 → SM → Option (Int32 × SM)) (hk53 : ∀ (v1 : Int32) (v2 : Int32) (v3 : Int32) (v4 : Int32) (v5 : Int32) (v6 : Int32) (σ : SM), k53 v1 v2 v3 v4 v5 v6 σ = some (r, σ') → V X cX7_leastBy RX7 7 4 (wM z h σ) 53 [some (.ref h), some (.int v1), some (.int v2), some (.int v3), some (.int v4), some (.int v5), some (.int v6)] []) (v1 : Int32) (v2 : Int32) (v3 : Int32) (v4 : Int32) (v5 : Int32) (v6 : Int32) (σ : SM) (hf : mM_leastBy_53 k34 k53 v1 v2 v3 v4 v5 v6 σ = some (r, σ')) : V X cX7_leastBy RX7 7 4 (wM z h σ) 53 [some (.ref h), some (.int v1), some (.int v2), some (.int v3), some (.int v4), some (.int v5), some (.int v6)] [] := by
  unfold mM_leastBy_53 at hf
  refine V_iload dX7_leastBy_53 rfl ?_
  refine V_aload_n dX7_leastBy_55 rfl ?_
  refine VM_getI fX7_471 rfl dX7_leastBy_56 ?_
  refine V_icmp_ge (tgt := 82) dX7_leastBy_59 (by decide) (fun hc1 => ?_) (fun hc1 => ?_)
  · have hf := if_t hf hc1
    refine V_goto (tgt := 184) dX7_leastBy_82 (by decide) ?_
    refine V_keep [true, true, true, true, true, true, false] rfl ?_
    exact mM_leastBy_184_v hE k34 hk34 v1 v2 v3 v4 v5 σ hf
  · have hf := if_f hf hc1
    refine V_aload_n dX7_leastBy_62 rfl ?_
    refine VM_getR fX7_83 ⟨rfl, rfl⟩ rfl dX7_leastBy_63 ?_
    refine V_iload dX7_leastBy_66 rfl ?_
    refine V_aload_n dX7_leastBy_68 rfl ?_
    refine VM_getR fX7_80 ⟨rfl, rfl⟩ rfl dX7_leastBy_69 ?_
    refine V_iload dX7_leastBy_72 rfl ?_
    obtain ⟨hb2, hf⟩ := ck_ex hf
    refine VM_ldI (n := 7) (k := v6.toNatClampNeg) rfl hb2 rfl dX7_leastBy_74 ?_
    obtain ⟨hb3, hf⟩ := ck_ex hf
    obtain ⟨σ4, hs5, hf⟩ := st1_ex hf
    refine VM_stI (n := 7) (k := v6.toNatClampNeg) rfl hb3 rfl hs5 dX7_leastBy_75 ?_
    refine V_inc (ls' := [some (.ref h), some (.int v1), some (.int v2), some (.int v3), some (.int v4), some (.int v5), some (.int (v6 + (1 : Int32)))]) dX7_leastBy_76 rfl kc_1 (by decide) rfl ?_
    refine V_goto (tgt := 53) dX7_leastBy_79 (by decide) ?_
    exact hk53 v1 v2 v3 v4 v5 (v6 + (1 : Int32)) σ4 hf
set_option maxHeartbeats 4000000 in
theorem mM_leastBy_34_v {X : CX} {w0 : AH} {z : ZZ} {h : Nat} {r : Int32} {σ' : SM} (hE : XE X w0 4 (some .int) "leastBy" (.returned (some (.int r))) (wM z h σ')) (k34 : Int32 → Int32 → Int32 → Int32 → Int32 → SM → Option (Int32 × SM)) (hk34 : ∀ (v1 : Int32) (v2 : Int32) (v3 : Int32) (v4 : Int32) (v5 : Int32) (σ : SM), k34 v1 v2 v3 v4 v5 σ = some (r, σ') → V X cX7_leastBy RX7 7 4 (wM z h σ) 34 [some (.ref h), some (.int v1), some (.int v2), some (.int v3), some (.int v4), some (.int v5), none] []) (v1 : Int32) (v2 : Int32) (v3 : Int32) (v4 : Int32) (v5 : Int32) (σ : SM) (hf : mM_leastBy_34 k34 v1 v2 v3 v4 v5 σ = some (r, σ')) : V X cX7_leastBy RX7 7 4 (wM z h σ) 34 [some (.ref h), some (.int v1), some (.int v2), some (.int v3), some (.int v4), some (.int v5), none] [] := by
  unfold mM_leastBy_34 at hf
  refine V_iload dX7_leastBy_34 rfl ?_
  refine V_if_lt (tgt := 250) dX7_leastBy_36 (by decide) (fun hc1 => ?_) (fun hc1 => ?_)
  · have hf := if_t hf hc1
    refine V_iload_n dX7_leastBy_250 rfl ?_
    cases some_ex hf
    exact V_iret hE dX7_leastBy_251
  · have hf := if_f hf hc1
    refine V_iload dX7_leastBy_39 rfl ?_
    refine V_aload_n dX7_leastBy_41 rfl ?_
    refine VM_getI fX7_471 rfl dX7_leastBy_42 ?_
    refine V_icmp_ne (tgt := 85) dX7_leastBy_45 (by decide) (fun hc2 => ?_) (fun hc2 => ?_)
    · have hf := if_f hf hc2
      exact lq6_ex (P := fun v1 v2 v3 v4 v5 σ => V X cX7_leastBy RX7 7 4 (wM z h σ) 85 [some (.ref h), some (.int v1), some (.int v2), some (.int v3), some (.int v4), some (.int v5), none] []) (fun k hk v1 v2 v3 v4 v5 σ hf => mM_leastBy_85_v hE k34 hk34 k hk v1 v2 v3 v4 v5 σ hf) LF v1 v2 v3 v4 v5 σ hf
    · have hf := if_t hf hc2
      refine V_iload_n dX7_leastBy_48 rfl ?_
      refine V_istore_n (ls' := [some (.ref h), some (.int v1), some (.int v3), some (.int v3), some (.int v4), some (.int v5), none]) dX7_leastBy_49 (by decide) rfl ?_
      refine V_iconst dX7_leastBy_50 kc_0 ?_
      refine V_istore (ls' := [some (.ref h), some (.int v1), some (.int v3), some (.int v3), some (.int v4), some (.int v5), some (.int (0 : Int32))]) dX7_leastBy_51 (by decide) rfl ?_
      exact lq7_ex (P := fun v1 v2 v3 v4 v5 v6 σ => V X cX7_leastBy RX7 7 4 (wM z h σ) 53 [some (.ref h), some (.int v1), some (.int v2), some (.int v3), some (.int v4), some (.int v5), some (.int v6)] []) (fun k hk v1 v2 v3 v4 v5 v6 σ hf => mM_leastBy_53_v hE k34 hk34 k hk v1 v2 v3 v4 v5 v6 σ hf) LF v1 v3 v3 v4 v5 (0 : Int32) σ hf
set_option maxHeartbeats 4000000 in
theorem mM_leastBy_13_v {X : CX} {w0 : AH} {z : ZZ} {h : Nat} {r : Int32} {σ' : SM} (hE : XE X w0 4 (some .int) "leastBy" (.returned (some (.int r))) (wM z h σ')) (k13 : Int32 → Int32 → Int32 → Int32 → Int32 → Int32 → SM → Option (Int32 × SM)) (hk13 : ∀ (v1 : Int32) (v2 : Int32) (v3 : Int32) (v4 : Int32) (v5 : Int32) (v6 : Int32) (σ : SM), k13 v1 v2 v3 v4 v5 v6 σ = some (r, σ') → V X cX7_leastBy RX7 7 4 (wM z h σ) 13 [some (.ref h), some (.int v1), some (.int v2), some (.int v3), some (.int v4), some (.int v5), some (.int v6)] []) (v1 : Int32) (v2 : Int32) (v3 : Int32) (v4 : Int32) (v5 : Int32) (v6 : Int32) (σ : SM) (hf : mM_leastBy_13 k13 v1 v2 v3 v4 v5 v6 σ = some (r, σ')) : V X cX7_leastBy RX7 7 4 (wM z h σ) 13 [some (.ref h), some (.int v1), some (.int v2), some (.int v3), some (.int v4), some (.int v5), some (.int v6)] [] := by
  unfold mM_leastBy_13 at hf
  refine V_iload dX7_leastBy_13 rfl ?_
  refine V_bipush dX7_leastBy_15 kb_7 ?_
  refine V_icmp_ge (tgt := 34) dX7_leastBy_17 (by decide) (fun hc1 => ?_) (fun hc1 => ?_)
  · have hf := if_t hf hc1
    refine V_keep [true, true, true, true, true, true, false] rfl ?_
    exact lq6_ex (P := fun v1 v2 v3 v4 v5 σ => V X cX7_leastBy RX7 7 4 (wM z h σ) 34 [some (.ref h), some (.int v1), some (.int v2), some (.int v3), some (.int v4), some (.int v5), none] []) (fun k hk v1 v2 v3 v4 v5 σ hf => mM_leastBy_34_v hE k hk v1 v2 v3 v4 v5 σ hf) LF v1 v2 v3 v4 v5 σ hf
  · have hf := if_f hf hc1
    refine V_aload_n dX7_leastBy_20 rfl ?_
    refine VM_getR fX7_77 ⟨rfl, rfl⟩ rfl dX7_leastBy_21 ?_
    refine V_iload dX7_leastBy_24 rfl ?_
    refine V_iconst dX7_leastBy_26 kc_0 ?_
    obtain ⟨hb2, hf⟩ := ck_ex hf
    obtain ⟨σ3, hs4, hf⟩ := st1_ex hf
    refine VM_stI (n := 7) (k := v6.toNatClampNeg) rfl hb2 rfl hs4 dX7_leastBy_27 ?_
    refine V_inc (ls' := [some (.ref h), some (.int v1), some (.int v2), some (.int v3), some (.int v4), some (.int v5), some (.int (v6 + (1 : Int32)))]) dX7_leastBy_28 rfl kc_1 (by decide) rfl ?_
    refine V_goto (tgt := 13) dX7_leastBy_31 (by decide) ?_
    exact hk13 v1 v2 v3 v4 v5 (v6 + (1 : Int32)) σ3 hf
set_option maxHeartbeats 4000000 in
theorem mM_leastBy_ok (l : Launch) (D : DD) (z : ZZ) (h : Nat) (p0 : Int32) (σ : SM) (r : Int32) (σ' : SM) (hf : mM_leastBy p0 σ = some (r, σ')) : MA l D yX7_leastBy cX7_leastBy 7 (some .int) 4 [.ref h, .int p0] (wM z h σ) (.returned (some (.int r))) (wM z h σ') := by
  refine MA.intro (own := RX7) (nm := "leastBy") (ls := [some (.ref h), some (.int p0), none, none, none, none, none]) (by decide) rfl rfl (Nat.le_of_ble_eq_true rfl) rfl (fun X hl hD hE => ?_)
  subst hl hD
  unfold mM_leastBy at hf
  refine V_iconst dX7_leastBy_0 kc_m1 ?_
  refine V_istore_n (ls' := [some (.ref h), some (.int p0), some (.int (-1 : Int32)), none, none, none, none]) dX7_leastBy_1 (by decide) rfl ?_
  refine V_iconst dX7_leastBy_2 kc_0 ?_
  refine V_istore_n (ls' := [some (.ref h), some (.int p0), some (.int (-1 : Int32)), some (.int (0 : Int32)), none, none, none]) dX7_leastBy_3 (by decide) rfl ?_
  refine V_iconst dX7_leastBy_4 kc_0 ?_
  refine V_istore (ls' := [some (.ref h), some (.int p0), some (.int (-1 : Int32)), some (.int (0 : Int32)), some (.int (0 : Int32)), none, none]) dX7_leastBy_5 (by decide) rfl ?_
  refine V_iconst dX7_leastBy_7 kc_0 ?_
  refine V_istore (ls' := [some (.ref h), some (.int p0), some (.int (-1 : Int32)), some (.int (0 : Int32)), some (.int (0 : Int32)), some (.int (0 : Int32)), none]) dX7_leastBy_8 (by decide) rfl ?_
  refine V_iconst dX7_leastBy_10 kc_0 ?_
  refine V_istore (ls' := [some (.ref h), some (.int p0), some (.int (-1 : Int32)), some (.int (0 : Int32)), some (.int (0 : Int32)), some (.int (0 : Int32)), some (.int (0 : Int32))]) dX7_leastBy_11 (by decide) rfl ?_
  exact lq7_ex (P := fun v1 v2 v3 v4 v5 v6 σ => V X cX7_leastBy RX7 7 4 (wM z h σ) 13 [some (.ref h), some (.int v1), some (.int v2), some (.int v3), some (.int v4), some (.int v5), some (.int v6)] []) (fun k hk v1 v2 v3 v4 v5 v6 σ hf => mM_leastBy_13_v hE k hk v1 v2 v3 v4 v5 v6 σ hf) LF p0 (-1 : Int32) (0 : Int32) (0 : Int32) (0 : Int32) (0 : Int32) σ hf
set_option maxHeartbeats 4000000 in
theorem mM_booths_153_v {X : CX} {w0 : AH} {z : ZZ} {h : Nat} {r : Int32} {σ' : SM} (hE : XE X w0 8 (some .int) "booths" (.returned (some (.int r))) (wM z h σ')) (k45 : Int32 → Int32 → Int32 → Int32 → SM → Option (Int32 × SM)) (hk45 : ∀ (v3 : Int32) (v4 : Int32) (v5 : Int32) (v6 : Int32) (σ : SM), k45 v3 v4 v5 v6 σ = some (r, σ') → V X cX7_booths RX7 9 8 (wM z h σ) 45 [some (.ref h), none, none, some (.int v3), some (.int v4), some (.int v5), some (.int v6), none, none] []) (v3 : Int32) (v4 : Int32) (v5 : Int32) (v6 : Int32) (σ : SM) (hf : mM_booths_153 k45 v3 v4 v5 v6 σ = some (r, σ')) : V X cX7_booths RX7 9 8 (wM z h σ) 153 [some (.ref h), none, none, some (.int v3), some (.int v4), some (.int v5), some (.int v6), none, none] [] := by
  unfold mM_booths_153 at hf
  refine V_inc (ls' := [some (.ref h), none, none, some (.int v3), some (.int v4), some (.int v5), some (.int (v6 + (1 : Int32))), none, none]) dX7_booths_153 rfl kc_1 (by decide) rfl ?_
  refine V_goto (tgt := 45) dX7_booths_156 (by decide) ?_
  exact hk45 v3 v4 v5 (v6 + (1 : Int32)) σ hf
set_option maxHeartbeats 4000000 in
theorem mM_booths_124_v {X : CX} {w0 : AH} {z : ZZ} {h : Nat} {r : Int32} {σ' : SM} (hE : XE X w0 8 (some .int) "booths" (.returned (some (.int r))) (wM z h σ')) (k45 : Int32 → Int32 → Int32 → Int32 → SM → Option (Int32 × SM)) (hk45 : ∀ (v3 : Int32) (v4 : Int32) (v5 : Int32) (v6 : Int32) (σ : SM), k45 v3 v4 v5 v6 σ = some (r, σ') → V X cX7_booths RX7 9 8 (wM z h σ) 45 [some (.ref h), none, none, some (.int v3), some (.int v4), some (.int v5), some (.int v6), none, none] []) (k124 : Int32 → Int32 → Int32 → Int32 → Int32 → SM → Option (Int32 × SM)) (hk124 : ∀ (v3 : Int32) (v4 : Int32) (v5 : Int32) (v6 : Int32) (v8 : Int32) (σ : SM), k124 v3 v4 v5 v6 v8 σ = some (r, σ') → V X cX7_booths RX7 9 8 (wM z h σ) 124 [some (.ref h), none, none, some (.int v3), some (.int v4), some (.int v5), some (.int v6), none, some (.int v8)] []) (v3 : Int32) (v4 : Int32) (v5 : Int32) (v6 : Int32) (v8 : Int32) (σ : SM) (hf : mM_booths_124 k45 k124 v3 v4 v5 v6 v8 σ = some (r, σ')) : V X cX7_booths RX7 9 8 (wM z h σ) 124 [some (.ref h), none, none, some (.int v3), some (.int v4), some (.int v5), some (.int v6), none, some (.int v8)] [] := by
  unfold mM_booths_124 at hf
  refine V_iload dX7_booths_124 rfl ?_
  refine V_aload_n dX7_booths_126 rfl ?_
  refine VM_getI fX7_471 rfl dX7_booths_127 ?_
  refine V_icmp_ge (tgt := 153) dX7_booths_130 (by decide) (fun hc1 => ?_) (fun hc1 => ?_)
  · have hf := if_t hf hc1
    refine V_keep [true, true, true, true, true, true, true, true, false] rfl ?_
    exact mM_booths_153_v hE k45 hk45 v3 v4 v5 v6 σ hf
  · have hf := if_f hf hc1
    refine V_aload_n dX7_booths_133 rfl ?_
    refine VM_getR fX7_86 ⟨rfl, rfl⟩ rfl dX7_booths_134 ?_
    refine V_iload dX7_booths_137 rfl ?_
    refine V_aload_n dX7_booths_139 rfl ?_
    refine VM_getR fX7_83 ⟨rfl, rfl⟩ rfl dX7_booths_140 ?_
    refine V_iload dX7_booths_143 rfl ?_
    obtain ⟨hb2, hf⟩ := ck_ex hf
    refine VM_ldI (n := 7) (k := v8.toNatClampNeg) rfl hb2 rfl dX7_booths_145 ?_
    obtain ⟨hb3, hf⟩ := ck_ex hf
    obtain ⟨σ4, hs5, hf⟩ := st1_ex hf
    refine VM_stI (n := 7) (k := v8.toNatClampNeg) rfl hb3 rfl hs5 dX7_booths_146 ?_
    refine V_inc (ls' := [some (.ref h), none, none, some (.int v3), some (.int v4), some (.int v5), some (.int v6), none, some (.int (v8 + (1 : Int32)))]) dX7_booths_147 rfl kc_1 (by decide) rfl ?_
    refine V_goto (tgt := 124) dX7_booths_150 (by decide) ?_
    exact hk124 v3 v4 v5 v6 (v8 + (1 : Int32)) σ4 hf
set_option maxHeartbeats 4000000 in
theorem mM_booths_107_v {X : CX} {w0 : AH} {z : ZZ} {h : Nat} {r : Int32} {σ' : SM} (hE : XE X w0 8 (some .int) "booths" (.returned (some (.int r))) (wM z h σ')) (k45 : Int32 → Int32 → Int32 → Int32 → SM → Option (Int32 × SM)) (hk45 : ∀ (v3 : Int32) (v4 : Int32) (v5 : Int32) (v6 : Int32) (σ : SM), k45 v3 v4 v5 v6 σ = some (r, σ') → V X cX7_booths RX7 9 8 (wM z h σ) 45 [some (.ref h), none, none, some (.int v3), some (.int v4), some (.int v5), some (.int v6), none, none] []) (v6 : Int32) (v7 : Int32) (σ : SM) (hf : mM_booths_107 k45 v6 v7 σ = some (r, σ')) : V X cX7_booths RX7 9 8 (wM z h σ) 107 [some (.ref h), none, none, none, none, none, some (.int v6), some (.int v7), none] [] := by
  unfold mM_booths_107 at hf
  refine V_iload dX7_booths_107 rfl ?_
  refine V_istore_n (ls' := [some (.ref h), none, none, some (.int v6), none, none, some (.int v6), some (.int v7), none]) dX7_booths_109 (by decide) rfl ?_
  refine V_iload dX7_booths_110 rfl ?_
  obtain ⟨r2, hc1, hf⟩ := bd1_ex hf
  refine V_cS (rest := []) (st' := [.int r2]) (mM_ones_ok _ _ _ _ _ hc1) scX7_487 (by decide) rfl rfl (Nat.le_of_ble_eq_true rfl) dX7_booths_112 rfl ?_
  refine V_istore (ls' := [some (.ref h), none, none, some (.int v6), some (.int r2), none, some (.int v6), some (.int v7), none]) dX7_booths_115 (by decide) rfl ?_
  refine V_iload dX7_booths_117 rfl ?_
  refine V_istore (ls' := [some (.ref h), none, none, some (.int v6), some (.int r2), some (.int v7), some (.int v6), some (.int v7), none]) dX7_booths_119 (by decide) rfl ?_
  refine V_iconst dX7_booths_121 kc_0 ?_
  refine V_istore (ls' := [some (.ref h), none, none, some (.int v6), some (.int r2), some (.int v7), some (.int v6), some (.int v7), some (.int (0 : Int32))]) dX7_booths_122 (by decide) rfl ?_
  refine V_keep [true, true, true, true, true, true, true, false, true] rfl ?_
  exact lq6_ex (P := fun v3 v4 v5 v6 v8 σ => V X cX7_booths RX7 9 8 (wM z h σ) 124 [some (.ref h), none, none, some (.int v3), some (.int v4), some (.int v5), some (.int v6), none, some (.int v8)] []) (fun k hk v3 v4 v5 v6 v8 σ hf => mM_booths_124_v hE k45 hk45 k hk v3 v4 v5 v6 v8 σ hf) LF v6 r2 v7 v6 (0 : Int32) σ hf
set_option maxHeartbeats 4000000 in
theorem mM_booths_71_v {X : CX} {w0 : AH} {z : ZZ} {h : Nat} {r : Int32} {σ' : SM} (hE : XE X w0 8 (some .int) "booths" (.returned (some (.int r))) (wM z h σ')) (k45 : Int32 → Int32 → Int32 → Int32 → SM → Option (Int32 × SM)) (hk45 : ∀ (v3 : Int32) (v4 : Int32) (v5 : Int32) (v6 : Int32) (σ : SM), k45 v3 v4 v5 v6 σ = some (r, σ') → V X cX7_booths RX7 9 8 (wM z h σ) 45 [some (.ref h), none, none, some (.int v3), some (.int v4), some (.int v5), some (.int v6), none, none] []) (v3 : Int32) (v4 : Int32) (v5 : Int32) (v6 : Int32) (σ : SM) (hf : mM_booths_71 k45 v3 v4 v5 v6 σ = some (r, σ')) : V X cX7_booths RX7 9 8 (wM z h σ) 71 [some (.ref h), none, none, some (.int v3), some (.int v4), some (.int v5), some (.int v6), none, none] [] := by
  unfold mM_booths_71 at hf
  refine V_aload_n dX7_booths_71 rfl ?_
  refine V_iload dX7_booths_72 rfl ?_
  obtain ⟨r2, σ3, hc1, hf⟩ := bd2_ex hf
  refine V_cV (av := [.int v6]) (rest := []) (st' := [.int r2]) (mM_leastBy_ok _ _ _ _ _ _ _ _ hc1) vcX7_490 (wM_k0 _ _ _) (by decide) rfl rfl (Nat.le_of_ble_eq_true rfl) dX7_booths_74 rfl ?_
  refine V_istore (ls' := [some (.ref h), none, none, some (.int v3), some (.int v4), some (.int v5), some (.int v6), some (.int r2), none]) dX7_booths_77 (by decide) rfl ?_
  refine V_iload dX7_booths_79 rfl ?_
  refine V_iconst dX7_booths_81 kc_m1 ?_
  refine V_icmp_eq (tgt := 153) dX7_booths_82 (by decide) (fun hc4 => ?_) (fun hc4 => ?_)
  · have hf := if_t hf hc4
    refine V_keep [true, true, true, true, true, true, true, false, true] rfl ?_
    exact mM_booths_153_v hE k45 hk45 v3 v4 v5 v6 σ3 hf
  · have hf := if_f hf hc4
    refine V_iload_n dX7_booths_85 rfl ?_
    refine V_iconst dX7_booths_86 kc_m1 ?_
    refine V_icmp_eq (tgt := 107) dX7_booths_87 (by decide) (fun hc5 => ?_) (fun hc5 => ?_)
    · have hf := if_t hf hc5
      refine V_keep [true, true, true, false, false, false, true, true, true] rfl ?_
      exact mM_booths_107_v hE k45 hk45 v6 r2 σ3 hf
    · have hf := if_f hf hc5
      refine V_iload dX7_booths_90 rfl ?_
      obtain ⟨r7, hc6, hf⟩ := bd1_ex hf
      refine V_cS (rest := []) (st' := [.int r7]) (mM_ones_ok _ _ _ _ _ hc6) scX7_487 (by decide) rfl rfl (Nat.le_of_ble_eq_true rfl) dX7_booths_92 rfl ?_
      refine V_iload dX7_booths_95 rfl ?_
      refine V_icmp_lt (tgt := 107) dX7_booths_97 (by decide) (fun hc8 => ?_) (fun hc8 => ?_)
      · have hf := if_t hf hc8
        refine V_keep [true, true, true, false, false, false, true, true, true] rfl ?_
        exact mM_booths_107_v hE k45 hk45 v6 r2 σ3 hf
      · have hf := if_f hf hc8
        refine V_iload dX7_booths_100 rfl ?_
        refine V_iload dX7_booths_102 rfl ?_
        refine V_icmp_ge (tgt := 153) dX7_booths_104 (by decide) (fun hc9 => ?_) (fun hc9 => ?_)
        · have hf := if_t hf hc9
          refine V_keep [true, true, true, true, true, true, true, false, true] rfl ?_
          exact mM_booths_153_v hE k45 hk45 v3 v4 v5 v6 σ3 hf
        · have hf := if_f hf hc9
          refine V_keep [true, true, true, false, false, false, true, true, true] rfl ?_
          exact mM_booths_107_v hE k45 hk45 v6 r2 σ3 hf
set_option maxHeartbeats 4000000 in
theorem mM_booths_45_v {X : CX} {w0 : AH} {z : ZZ} {h : Nat} {r : Int32} {σ' : SM} (hE : XE X w0 8 (some .int) "booths" (.returned (some (.int r))) (wM z h σ')) (k45 : Int32 → Int32 → Int32 → Int32 → SM → Option (Int32 × SM)) (hk45 : ∀ (v3 : Int32) (v4 : Int32) (v5 : Int32) (v6 : Int32) (σ : SM), k45 v3 v4 v5 v6 σ = some (r, σ') → V X cX7_booths RX7 9 8 (wM z h σ) 45 [some (.ref h), none, none, some (.int v3), some (.int v4), some (.int v5), some (.int v6), none, none] []) (v3 : Int32) (v4 : Int32) (v5 : Int32) (v6 : Int32) (σ : SM) (hf : mM_booths_45 k45 v3 v4 v5 v6 σ = some (r, σ')) : V X cX7_booths RX7 9 8 (wM z h σ) 45 [some (.ref h), none, none, some (.int v3), some (.int v4), some (.int v5), some (.int v6), none, none] [] := by
  unfold mM_booths_45 at hf
  refine V_iload dX7_booths_45 rfl ?_
  refine V_iconst dX7_booths_47 kc_1 ?_
  refine V_aload_n dX7_booths_48 rfl ?_
  refine VM_getI fX7_471 rfl dX7_booths_49 ?_
  refine V_ishl dX7_booths_52 ?_
  refine V_icmp_ge (tgt := 159) dX7_booths_53 (by decide) (fun hc1 => ?_) (fun hc1 => ?_)
  · have hf := if_t hf hc1
    refine V_iload_n dX7_booths_159 rfl ?_
    refine V_iconst dX7_booths_160 kc_m1 ?_
    refine V_icmp_eq (tgt := 183) dX7_booths_161 (by decide) (fun hc2 => ?_) (fun hc2 => ?_)
    · have hf := if_t hf hc2
      refine V_iload_n dX7_booths_183 rfl ?_
      cases some_ex hf
      exact V_iret hE dX7_booths_184
    · have hf := if_f hf hc2
      refine V_aload_n dX7_booths_164 rfl ?_
      refine V_iconst dX7_booths_165 kc_1 ?_
      obtain ⟨σ3, hs4, hf⟩ := st1_ex hf
      refine VM_putZ fwX7_493 (by decide) hs4 dX7_booths_166 ?_
      refine V_aload_n dX7_booths_169 rfl ?_
      refine V_aload_n dX7_booths_170 rfl ?_
      refine VM_getI fX7_471 rfl dX7_booths_171 ?_
      obtain ⟨σ5, hs6, hf⟩ := st1_ex hf
      refine VM_putI fwX7_496 hs6 dX7_booths_174 ?_
      refine V_aload_n dX7_booths_177 rfl ?_
      refine V_iload dX7_booths_178 rfl ?_
      obtain ⟨σ7, hs8, hf⟩ := st1_ex hf
      refine VM_putI fwX7_499 hs8 dX7_booths_180 ?_
      refine V_iload_n dX7_booths_183 rfl ?_
      cases some_ex hf
      exact V_iret hE dX7_booths_184
  · have hf := if_f hf hc1
    refine V_iload_n dX7_booths_56 rfl ?_
    refine V_iconst dX7_booths_57 kc_m1 ?_
    refine V_icmp_eq (tgt := 71) dX7_booths_58 (by decide) (fun hc9 => ?_) (fun hc9 => ?_)
    · have hf := if_t hf hc9
      exact mM_booths_71_v hE k45 hk45 v3 v4 v5 v6 σ hf
    · have hf := if_f hf hc9
      refine V_iload dX7_booths_61 rfl ?_
      obtain ⟨r11, hc10, hf⟩ := bd1_ex hf
      refine V_cS (rest := []) (st' := [.int r11]) (mM_ones_ok _ _ _ _ _ hc10) scX7_487 (by decide) rfl rfl (Nat.le_of_ble_eq_true rfl) dX7_booths_63 rfl ?_
      refine V_iload dX7_booths_66 rfl ?_
      refine V_icmp_gt (tgt := 153) dX7_booths_68 (by decide) (fun hc12 => ?_) (fun hc12 => ?_)
      · have hf := if_t hf hc12
        exact mM_booths_153_v hE k45 hk45 v3 v4 v5 v6 σ hf
      · have hf := if_f hf hc12
        exact mM_booths_71_v hE k45 hk45 v3 v4 v5 v6 σ hf
set_option maxHeartbeats 4000000 in
theorem mM_booths_ok (l : Launch) (D : DD) (z : ZZ) (h : Nat) (p0 : Int32) (p1 : Int32) (σ : SM) (r : Int32) (σ' : SM) (hf : mM_booths p0 p1 σ = some (r, σ')) : MA l D yX7_booths cX7_booths 9 (some .int) 8 [.ref h, .int p0, .int p1] (wM z h σ) (.returned (some (.int r))) (wM z h σ') := by
  refine MA.intro (own := RX7) (nm := "booths") (ls := [some (.ref h), some (.int p0), some (.int p1), none, none, none, none, none, none]) (by decide) rfl rfl (Nat.le_of_ble_eq_true rfl) rfl (fun X hl hD hE => ?_)
  subst hl hD
  unfold mM_booths at hf
  refine V_aload_n dX7_booths_0 rfl ?_
  refine V_iconst dX7_booths_1 kc_0 ?_
  obtain ⟨σ1, hs2, hf⟩ := st1_ex hf
  refine VM_putI fwX7_113 hs2 dX7_booths_2 ?_
  refine V_iload_n dX7_booths_5 rfl ?_
  obtain ⟨r4, hc3, hf⟩ := bd1_ex hf
  refine V_cS (rest := []) (st' := [.int r4]) (mM_isDay_ok _ _ _ _ _ hc3) scX7_159 (by decide) rfl rfl (Nat.le_of_ble_eq_true rfl) dX7_booths_6 rfl ?_
  refine V_if_eq (tgt := 26) dX7_booths_9 (by decide) (fun hc5 => ?_) (fun hc5 => ?_)
  · have hf := if_t hf hc5
    refine V_iconst dX7_booths_26 kc_m1 ?_
    cases some_ex hf
    exact V_iret hE dX7_booths_27
  · have hf := if_f hf hc5
    refine V_iload_n dX7_booths_12 rfl ?_
    obtain ⟨r7, hc6, hf⟩ := bd1_ex hf
    refine V_cS (rest := []) (st' := [.int r7]) (mM_isDay_ok _ _ _ _ _ hc6) scX7_159 (by decide) rfl rfl (Nat.le_of_ble_eq_true rfl) dX7_booths_13 rfl ?_
    refine V_if_eq (tgt := 26) dX7_booths_16 (by decide) (fun hc8 => ?_) (fun hc8 => ?_)
    · have hf := if_t hf hc8
      refine V_iconst dX7_booths_26 kc_m1 ?_
      cases some_ex hf
      exact V_iret hE dX7_booths_27
    · have hf := if_f hf hc8
      refine V_aload_n dX7_booths_19 rfl ?_
      obtain ⟨r10, hc9, hf⟩ := bd1_ex hf
      refine V_cV (av := []) (rest := []) (st' := [.int r10]) (mM_areThere_ok _ _ _ _ _ _ hc9) vcX7_481 (wM_k0 _ _ _) (by decide) rfl rfl (Nat.le_of_ble_eq_true rfl) dX7_booths_20 rfl ?_
      refine V_if_ne (tgt := 28) dX7_booths_23 (by decide) (fun hc11 => ?_) (fun hc11 => ?_)
      · have hf := if_f hf hc11
        refine V_aload_n dX7_booths_28 rfl ?_
        refine V_iload_n dX7_booths_29 rfl ?_
        refine V_iload_n dX7_booths_30 rfl ?_
        obtain ⟨σ13, hc12, hf⟩ := bd1_ex hf
        refine V_cV (av := [.int p0, .int p1]) (rest := []) (st' := []) (mM_setRules_ok _ _ _ _ _ _ _ _ hc12) vcX7_484 (wM_k0 _ _ _) (by decide) rfl rfl (Nat.le_of_ble_eq_true rfl) dX7_booths_31 rfl ?_
        refine V_iconst dX7_booths_34 kc_m1 ?_
        refine V_istore_n (ls' := [some (.ref h), some (.int p0), some (.int p1), some (.int (-1 : Int32)), none, none, none, none, none]) dX7_booths_35 (by decide) rfl ?_
        refine V_iconst dX7_booths_36 kc_0 ?_
        refine V_istore (ls' := [some (.ref h), some (.int p0), some (.int p1), some (.int (-1 : Int32)), some (.int (0 : Int32)), none, none, none, none]) dX7_booths_37 (by decide) rfl ?_
        refine V_iconst dX7_booths_39 kc_0 ?_
        refine V_istore (ls' := [some (.ref h), some (.int p0), some (.int p1), some (.int (-1 : Int32)), some (.int (0 : Int32)), some (.int (0 : Int32)), none, none, none]) dX7_booths_40 (by decide) rfl ?_
        refine V_iconst dX7_booths_42 kc_0 ?_
        refine V_istore (ls' := [some (.ref h), some (.int p0), some (.int p1), some (.int (-1 : Int32)), some (.int (0 : Int32)), some (.int (0 : Int32)), some (.int (0 : Int32)), none, none]) dX7_booths_43 (by decide) rfl ?_
        refine V_keep [true, false, false, true, true, true, true, true, true] rfl ?_
        exact lq5_ex (P := fun v3 v4 v5 v6 σ => V X cX7_booths RX7 9 8 (wM z h σ) 45 [some (.ref h), none, none, some (.int v3), some (.int v4), some (.int v5), some (.int v6), none, none] []) (fun k hk v3 v4 v5 v6 σ hf => mM_booths_45_v hE k hk v3 v4 v5 v6 σ hf) LF (-1 : Int32) (0 : Int32) (0 : Int32) (0 : Int32) σ13 hf
      · have hf := if_t hf hc11
        refine V_iconst dX7_booths_26 kc_m1 ?_
        cases some_ex hf
        exact V_iret hE dX7_booths_27
set_option maxHeartbeats 4000000 in
theorem mM_led_ok (l : Launch) (D : DD) (z : ZZ) (h : Nat) (p0 : Int32) (σ : SM) (r : Int32) (σ' : SM) (hf : mM_led p0 σ = some (r, σ')) : MA l D yX7_led cX7_led 2 (some .int) 2 [.ref h, .int p0] (wM z h σ) (.returned (some (.int r))) (wM z h σ') := by
  refine MA.intro (own := RX7) (nm := "led") (ls := [some (.ref h), some (.int p0)]) (by decide) rfl rfl (Nat.le_of_ble_eq_true rfl) rfl (fun X hl hD hE => ?_)
  subst hl hD
  unfold mM_led at hf
  refine V_aload_n dX7_led_0 rfl ?_
  refine V_iconst dX7_led_1 kc_0 ?_
  obtain ⟨σ1, hs2, hf⟩ := st1_ex hf
  refine VM_putI fwX7_113 hs2 dX7_led_2 ?_
  refine V_aload_n dX7_led_5 rfl ?_
  refine VM_getI fX7_493 rfl dX7_led_6 ?_
  refine V_if_ne (tgt := 16) dX7_led_9 (by decide) (fun hc3 => ?_) (fun hc3 => ?_)
  · have hf := if_f hf hc3
    refine V_iload_n dX7_led_16 rfl ?_
    refine V_iconst dX7_led_17 kc_m1 ?_
    refine V_icmp_ne (tgt := 28) dX7_led_18 (by decide) (fun hc4 => ?_) (fun hc4 => ?_)
    · have hf := if_f hf hc4
      refine V_iload_n dX7_led_28 rfl ?_
      refine V_i2l dX7_led_29 ?_
      refine V_lconst dX7_led_30 kl_0 ?_
      refine V_aload_n dX7_led_31 rfl ?_
      refine VM_getI fX7_496 rfl dX7_led_32 ?_
      refine V_i2l dX7_led_35 ?_
      refine V_lconst dX7_led_36 kl_1 ?_
      refine V_lsub dX7_led_37 ?_
      obtain ⟨r6, hc5, hf⟩ := bd1_ex hf
      refine V_cS (rest := []) (st' := [.int r6]) (mM_in_ok _ _ _ _ _ _ _ hc5) scX7_121 (by decide) rfl rfl (Nat.le_of_ble_eq_true rfl) dX7_led_38 rfl ?_
      refine V_if_eq (tgt := 53) dX7_led_41 (by decide) (fun hc7 => ?_) (fun hc7 => ?_)
      · have hf := if_t hf hc7
        refine V_iconst dX7_led_53 kc_m1 ?_
        cases some_ex hf
        exact V_iret hE dX7_led_54
      · have hf := if_f hf hc7
        refine V_aload_n dX7_led_44 rfl ?_
        refine VM_getR fX7_86 ⟨rfl, rfl⟩ rfl dX7_led_45 ?_
        refine V_iload_n dX7_led_48 rfl ?_
        obtain ⟨hb8, hf⟩ := ck_ex hf
        refine VM_ldI (n := 7) (k := p0.toNatClampNeg) rfl hb8 rfl dX7_led_49 ?_
        refine V_goto (tgt := 54) dX7_led_50 (by decide) ?_
        cases some_ex hf
        exact V_iret hE dX7_led_54
    · have hf := if_t hf hc4
      refine V_aload_n dX7_led_21 rfl ?_
      refine VM_getI fX7_499 rfl dX7_led_22 ?_
      refine V_goto (tgt := 54) dX7_led_25 (by decide) ?_
      cases some_ex hf
      exact V_iret hE dX7_led_54
  · have hf := if_t hf hc3
    refine V_iconst dX7_led_12 kc_m1 ?_
    refine V_goto (tgt := 54) dX7_led_13 (by decide) ?_
    cases some_ex hf
    exact V_iret hE dX7_led_54
set_option maxHeartbeats 4000000 in
theorem mM_judge_ok (l : Launch) (D : DD) (z : ZZ) (h : Nat) (p0 : Int32) (p1 : Int32) (p2 : Int32) (σ : SM) (r : Int32) (σ' : SM) (hf : mM_judge p0 p1 p2 σ = some (r, σ')) : MA l D yX7_judge cX7_judge 4 (some .int) 8 [.ref h, .int p0, .int p1, .int p2] (wM z h σ) (.returned (some (.int r))) (wM z h σ') := by
  refine MA.intro (own := RX7) (nm := "judge") (ls := [some (.ref h), some (.int p0), some (.int p1), some (.int p2)]) (by decide) rfl rfl (Nat.le_of_ble_eq_true rfl) rfl (fun X hl hD hE => ?_)
  subst hl hD
  unfold mM_judge at hf
  refine V_aload_n dX7_judge_0 rfl ?_
  refine V_iconst dX7_judge_1 kc_0 ?_
  obtain ⟨σ1, hs2, hf⟩ := st1_ex hf
  refine VM_putI fwX7_113 hs2 dX7_judge_2 ?_
  refine V_iload_n dX7_judge_5 rfl ?_
  refine V_i2l dX7_judge_6 ?_
  refine V_lconst dX7_judge_7 kl_0 ?_
  refine V_lconst dX7_judge_8 kl_1 ?_
  refine V_aload_n dX7_judge_9 rfl ?_
  refine VM_getI fX7_471 rfl dX7_judge_10 ?_
  refine V_lshl dX7_judge_13 ?_
  refine V_lconst dX7_judge_14 kl_1 ?_
  refine V_lsub dX7_judge_15 ?_
  obtain ⟨r4, hc3, hf⟩ := bd1_ex hf
  refine V_cS (rest := []) (st' := [.int r4]) (mM_in_ok _ _ _ _ _ _ _ hc3) scX7_121 (by decide) rfl rfl (Nat.le_of_ble_eq_true rfl) dX7_judge_16 rfl ?_
  refine V_if_eq (tgt := 43) dX7_judge_19 (by decide) (fun hc5 => ?_) (fun hc5 => ?_)
  · have hf := if_t hf hc5
    refine V_iconst dX7_judge_43 kc_m1 ?_
    cases some_ex hf
    exact V_iret hE dX7_judge_44
  · have hf := if_f hf hc5
    refine V_iload_n dX7_judge_22 rfl ?_
    obtain ⟨r7, hc6, hf⟩ := bd1_ex hf
    refine V_cS (rest := []) (st' := [.int r7]) (mM_isDay_ok _ _ _ _ _ hc6) scX7_159 (by decide) rfl rfl (Nat.le_of_ble_eq_true rfl) dX7_judge_23 rfl ?_
    refine V_if_eq (tgt := 43) dX7_judge_26 (by decide) (fun hc8 => ?_) (fun hc8 => ?_)
    · have hf := if_t hf hc8
      refine V_iconst dX7_judge_43 kc_m1 ?_
      cases some_ex hf
      exact V_iret hE dX7_judge_44
    · have hf := if_f hf hc8
      refine V_iload_n dX7_judge_29 rfl ?_
      obtain ⟨r10, hc9, hf⟩ := bd1_ex hf
      refine V_cS (rest := []) (st' := [.int r10]) (mM_isDay_ok _ _ _ _ _ hc9) scX7_159 (by decide) rfl rfl (Nat.le_of_ble_eq_true rfl) dX7_judge_30 rfl ?_
      refine V_if_eq (tgt := 43) dX7_judge_33 (by decide) (fun hc11 => ?_) (fun hc11 => ?_)
      · have hf := if_t hf hc11
        refine V_iconst dX7_judge_43 kc_m1 ?_
        cases some_ex hf
        exact V_iret hE dX7_judge_44
      · have hf := if_f hf hc11
        refine V_aload_n dX7_judge_36 rfl ?_
        obtain ⟨r13, hc12, hf⟩ := bd1_ex hf
        refine V_cV (av := []) (rest := []) (st' := [.int r13]) (mM_areThere_ok _ _ _ _ _ _ hc12) vcX7_481 (wM_k0 _ _ _) (by decide) rfl rfl (Nat.le_of_ble_eq_true rfl) dX7_judge_37 rfl ?_
        refine V_if_ne (tgt := 45) dX7_judge_40 (by decide) (fun hc14 => ?_) (fun hc14 => ?_)
        · have hf := if_f hf hc14
          refine V_aload_n dX7_judge_45 rfl ?_
          refine V_iload_n dX7_judge_46 rfl ?_
          refine V_iload_n dX7_judge_47 rfl ?_
          obtain ⟨σ16, hc15, hf⟩ := bd1_ex hf
          refine V_cV (av := [.int p1, .int p2]) (rest := []) (st' := []) (mM_setRules_ok _ _ _ _ _ _ _ _ hc15) vcX7_484 (wM_k0 _ _ _) (by decide) rfl rfl (Nat.le_of_ble_eq_true rfl) dX7_judge_48 rfl ?_
          refine V_aload_n dX7_judge_51 rfl ?_
          refine V_iload_n dX7_judge_52 rfl ?_
          obtain ⟨r18, σ19, hc17, hf⟩ := bd2_ex hf
          refine V_cV (av := [.int p0]) (rest := []) (st' := [.int r18]) (mM_leastBy_ok _ _ _ _ _ _ _ _ hc17) vcX7_490 (wM_k0 _ _ _) (by decide) rfl rfl (Nat.le_of_ble_eq_true rfl) dX7_judge_53 rfl ?_
          cases some_ex hf
          exact V_iret hE dX7_judge_56
        · have hf := if_t hf hc14
          refine V_iconst dX7_judge_43 kc_m1 ?_
          cases some_ex hf
          exact V_iret hE dX7_judge_44
set_option maxHeartbeats 4000000 in
theorem mM_booth_ok (l : Launch) (D : DD) (z : ZZ) (h : Nat) (p0 : Int32) (σ : SM) (r : Int32) (σ' : SM) (hf : mM_booth p0 σ = some (r, σ')) : MA l D yX7_booth cX7_booth 2 (some .int) 3 [.ref h, .int p0] (wM z h σ) (.returned (some (.int r))) (wM z h σ') := by
  refine MA.intro (own := RX7) (nm := "booth") (ls := [some (.ref h), some (.int p0)]) (by decide) rfl rfl (Nat.le_of_ble_eq_true rfl) rfl (fun X hl hD hE => ?_)
  subst hl hD
  unfold mM_booth at hf
  refine V_aload_n dX7_booth_0 rfl ?_
  refine V_iconst dX7_booth_1 kc_0 ?_
  obtain ⟨σ1, hs2, hf⟩ := st1_ex hf
  refine VM_putI fwX7_113 hs2 dX7_booth_2 ?_
  refine V_aload_n dX7_booth_5 rfl ?_
  refine V_iload_n dX7_booth_6 rfl ?_
  obtain ⟨r4, hc3, hf⟩ := bd1_ex hf
  refine V_cV (av := [.int p0]) (rest := []) (st' := [.int r4]) (mM_isPlace_ok _ _ _ _ _ _ _ hc3) vcX7_162 (wM_k0 _ _ _) (by decide) rfl rfl (Nat.le_of_ble_eq_true rfl) dX7_booth_7 rfl ?_
  refine V_if_ne (tgt := 20) dX7_booth_10 (by decide) (fun hc5 => ?_) (fun hc5 => ?_)
  · have hf := if_f hf hc5
    refine V_aload_n dX7_booth_20 rfl ?_
    refine VM_getR fX7_7 ⟨rfl, rfl⟩ rfl dX7_booth_21 ?_
    refine V_iconst dX7_booth_24 kc_3 ?_
    refine VM_ldI (n := 23016) (k := 3) rfl (by decide) (by decide) dX7_booth_25 ?_
    refine V_bipush dX7_booth_26 kb_20 ?_
    refine V_icmp_ne (tgt := 38) dX7_booth_28 (by decide) (fun hc6 => ?_) (fun hc6 => ?_)
    · have hf := if_f hf hc6
      refine V_aload_n dX7_booth_38 rfl ?_
      refine VM_getR fX7_7 ⟨rfl, rfl⟩ rfl dX7_booth_39 ?_
      refine V_sipush dX7_booth_42 ks_2348 ?_
      refine V_aload_n dX7_booth_45 rfl ?_
      refine VM_getR fX7_7 ⟨rfl, rfl⟩ rfl dX7_booth_46 ?_
      refine V_iconst dX7_booth_49 kc_3 ?_
      refine VM_ldI (n := 23016) (k := 3) rfl (by decide) (by decide) dX7_booth_50 ?_
      refine V_iadd dX7_booth_51 ?_
      refine V_iload_n dX7_booth_52 rfl ?_
      obtain ⟨hb7, hf⟩ := ck_ex hf
      obtain ⟨σ8, hs9, hf⟩ := st1_ex hf
      refine VM_stI (n := 23016) (k := ((2348 : Int32) + (gI σ1 1 3)).toNatClampNeg) rfl hb7 rfl hs9 dX7_booth_53 ?_
      refine V_aload_n dX7_booth_54 rfl ?_
      refine VM_getR fX7_7 ⟨rfl, rfl⟩ rfl dX7_booth_55 ?_
      refine V_sipush dX7_booth_58 ks_2368 ?_
      refine V_iconst dX7_booth_61 kc_4 ?_
      refine V_aload_n dX7_booth_62 rfl ?_
      refine VM_getR fX7_7 ⟨rfl, rfl⟩ rfl dX7_booth_63 ?_
      refine V_iconst dX7_booth_66 kc_3 ?_
      refine VM_ldI (n := 23016) (k := 3) rfl (by decide) (by decide) dX7_booth_67 ?_
      refine V_imul dX7_booth_68 ?_
      refine V_iadd dX7_booth_69 ?_
      refine V_iconst dX7_booth_70 kc_0 ?_
      obtain ⟨hb10, hf⟩ := ck_ex hf
      obtain ⟨σ11, hs12, hf⟩ := st1_ex hf
      refine VM_stI (n := 23016) (k := ((2368 : Int32) + ((4 : Int32) * (gI σ8 1 3))).toNatClampNeg) rfl hb10 rfl hs12 dX7_booth_71 ?_
      refine V_aload_n dX7_booth_72 rfl ?_
      refine VM_getR fX7_7 ⟨rfl, rfl⟩ rfl dX7_booth_73 ?_
      refine V_iconst dX7_booth_76 kc_3 ?_
      refine V_dup2 dX7_booth_77 rfl rfl ?_
      refine VM_ldI (n := 23016) (k := 3) rfl (by decide) (by decide) dX7_booth_78 ?_
      refine V_iconst dX7_booth_79 kc_1 ?_
      refine V_iadd dX7_booth_80 ?_
      obtain ⟨σ13, hs14, hf⟩ := st1_ex hf
      refine VM_stI (n := 23016) (k := 3) rfl (by decide) (by decide) hs14 dX7_booth_81 ?_
      refine V_aload_n dX7_booth_82 rfl ?_
      refine V_aload_n dX7_booth_83 rfl ?_
      refine VM_getR fX7_7 ⟨rfl, rfl⟩ rfl dX7_booth_84 ?_
      refine V_iconst dX7_booth_87 kc_3 ?_
      refine VM_ldI (n := 23016) (k := 3) rfl (by decide) (by decide) dX7_booth_88 ?_
      refine V_iconst dX7_booth_89 kc_1 ?_
      refine V_isub dX7_booth_90 ?_
      obtain ⟨r16, σ17, hc15, hf⟩ := bd2_ex hf
      refine V_cV (av := [.int ((gI σ13 1 3) - (1 : Int32))]) (rest := []) (st' := [.int r16]) (mM_told_ok _ _ _ _ _ _ _ _ hc15) vcX7_125 (wM_k0 _ _ _) (by decide) rfl rfl (Nat.le_of_ble_eq_true rfl) dX7_booth_91 rfl ?_
      cases some_ex hf
      exact V_iret hE dX7_booth_94
    · have hf := if_t hf hc6
      refine V_aload_n dX7_booth_31 rfl ?_
      refine V_bipush dX7_booth_32 kb_m5 ?_
      obtain ⟨r19, σ20, hc18, hf⟩ := bd2_ex hf
      refine V_cV (av := [.int (-5 : Int32)]) (rest := []) (st' := [.int r19]) (mM_told_ok _ _ _ _ _ _ _ _ hc18) vcX7_125 (wM_k0 _ _ _) (by decide) rfl rfl (Nat.le_of_ble_eq_true rfl) dX7_booth_34 rfl ?_
      cases some_ex hf
      exact V_iret hE dX7_booth_37
  · have hf := if_t hf hc5
    refine V_aload_n dX7_booth_13 rfl ?_
    refine V_bipush dX7_booth_14 kb_m2 ?_
    obtain ⟨r22, σ23, hc21, hf⟩ := bd2_ex hf
    refine V_cV (av := [.int (-2 : Int32)]) (rest := []) (st' := [.int r22]) (mM_told_ok _ _ _ _ _ _ _ _ hc21) vcX7_125 (wM_k0 _ _ _) (by decide) rfl rfl (Nat.le_of_ble_eq_true rfl) dX7_booth_16 rfl ?_
    cases some_ex hf
    exact V_iret hE dX7_booth_19
set_option maxHeartbeats 4000000 in
theorem mM_isBooth_ok (l : Launch) (D : DD) (z : ZZ) (h : Nat) (p0 : Int32) (σ : SM) (r : Int32) (hf : mM_isBooth p0 σ = some r) : MA l D yX7_isBooth cX7_isBooth 2 (some .boolean) 2 [.ref h, .int p0] (wM z h σ) (.returned (some (.int r))) (wM z h σ) := by
  refine MA.intro (own := RX7) (nm := "isBooth") (ls := [some (.ref h), some (.int p0)]) (by decide) rfl rfl (Nat.le_of_ble_eq_true rfl) rfl (fun X hl hD hE => ?_)
  subst hl hD
  unfold mM_isBooth at hf
  refine V_iload_n dX7_isBooth_0 rfl ?_
  refine V_i2l dX7_isBooth_1 ?_
  refine V_lconst dX7_isBooth_2 kl_0 ?_
  refine V_aload_n dX7_isBooth_3 rfl ?_
  refine VM_getR fX7_7 ⟨rfl, rfl⟩ rfl dX7_isBooth_4 ?_
  refine V_iconst dX7_isBooth_7 kc_3 ?_
  refine VM_ldI (n := 23016) (k := 3) rfl (by decide) (by decide) dX7_isBooth_8 ?_
  refine V_i2l dX7_isBooth_9 ?_
  refine V_lconst dX7_isBooth_10 kl_1 ?_
  refine V_lsub dX7_isBooth_11 ?_
  obtain ⟨r2, hc1, hf⟩ := bd1_ex hf
  refine V_cS (rest := []) (st' := [.int r2]) (mM_in_ok _ _ _ _ _ _ _ hc1) scX7_121 (by decide) rfl rfl (Nat.le_of_ble_eq_true rfl) dX7_isBooth_12 rfl ?_
  obtain ⟨hb3, hf⟩ := ck_ex hf
  cases some_ex hf
  exact V_zret hE (isZ_nar hb3) dX7_isBooth_15
set_option maxHeartbeats 4000000 in
theorem mM_box_ok (l : Launch) (D : DD) (z : ZZ) (h : Nat) (p0 : Int32) (p1 : Int32) (σ : SM) (r : Int32) (σ' : SM) (hf : mM_box p0 p1 σ = some (r, σ')) : MA l D yX7_box cX7_box 3 (some .int) 3 [.ref h, .int p0, .int p1] (wM z h σ) (.returned (some (.int r))) (wM z h σ') := by
  refine MA.intro (own := RX7) (nm := "box") (ls := [some (.ref h), some (.int p0), some (.int p1)]) (by decide) rfl rfl (Nat.le_of_ble_eq_true rfl) rfl (fun X hl hD hE => ?_)
  subst hl hD
  unfold mM_box at hf
  refine V_aload_n dX7_box_0 rfl ?_
  refine V_iconst dX7_box_1 kc_0 ?_
  obtain ⟨σ1, hs2, hf⟩ := st1_ex hf
  refine VM_putI fwX7_113 hs2 dX7_box_2 ?_
  refine V_iload_n dX7_box_5 rfl ?_
  refine V_i2l dX7_box_6 ?_
  refine V_lconst dX7_box_7 kl_0 ?_
  refine V_ldc2 q2348 dX7_box_8 ?_
  obtain ⟨r4, hc3, hf⟩ := bd1_ex hf
  refine V_cS (rest := []) (st' := [.int r4]) (mM_in_ok _ _ _ _ _ _ _ hc3) scX7_121 (by decide) rfl rfl (Nat.le_of_ble_eq_true rfl) dX7_box_11 rfl ?_
  refine V_if_ne (tgt := 23) dX7_box_14 (by decide) (fun hc5 => ?_) (fun hc5 => ?_)
  · have hf := if_f hf hc5
    refine V_aload_n dX7_box_23 rfl ?_
    refine V_iload_n dX7_box_24 rfl ?_
    obtain ⟨r7, hc6, hf⟩ := bd1_ex hf
    refine V_cV (av := [.int p0]) (rest := []) (st' := [.int r7]) (mM_isBooth_ok _ _ _ _ _ _ _ hc6) vcX7_504 (wM_k0 _ _ _) (by decide) rfl rfl (Nat.le_of_ble_eq_true rfl) dX7_box_25 rfl ?_
    refine V_if_ne (tgt := 38) dX7_box_28 (by decide) (fun hc8 => ?_) (fun hc8 => ?_)
    · have hf := if_f hf hc8
      refine V_aload_n dX7_box_38 rfl ?_
      refine VM_getR fX7_7 ⟨rfl, rfl⟩ rfl dX7_box_39 ?_
      refine V_iconst dX7_box_42 kc_4 ?_
      refine VM_ldI (n := 23016) (k := 4) rfl (by decide) (by decide) dX7_box_43 ?_
      refine V_bipush dX7_box_44 kb_40 ?_
      refine V_icmp_ne (tgt := 56) dX7_box_46 (by decide) (fun hc9 => ?_) (fun hc9 => ?_)
      · have hf := if_f hf hc9
        refine V_aload_n dX7_box_56 rfl ?_
        refine VM_getR fX7_7 ⟨rfl, rfl⟩ rfl dX7_box_57 ?_
        refine V_sipush dX7_box_60 ks_2448 ?_
        refine V_iconst dX7_box_63 kc_2 ?_
        refine V_aload_n dX7_box_64 rfl ?_
        refine VM_getR fX7_7 ⟨rfl, rfl⟩ rfl dX7_box_65 ?_
        refine V_iconst dX7_box_68 kc_4 ?_
        refine VM_ldI (n := 23016) (k := 4) rfl (by decide) (by decide) dX7_box_69 ?_
        refine V_imul dX7_box_70 ?_
        refine V_iadd dX7_box_71 ?_
        refine V_iload_n dX7_box_72 rfl ?_
        obtain ⟨hb10, hf⟩ := ck_ex hf
        obtain ⟨σ11, hs12, hf⟩ := st1_ex hf
        refine VM_stI (n := 23016) (k := ((2448 : Int32) + ((2 : Int32) * (gI σ1 1 4))).toNatClampNeg) rfl hb10 rfl hs12 dX7_box_73 ?_
        refine V_aload_n dX7_box_74 rfl ?_
        refine VM_getR fX7_7 ⟨rfl, rfl⟩ rfl dX7_box_75 ?_
        refine V_sipush dX7_box_78 ks_2448 ?_
        refine V_iconst dX7_box_81 kc_2 ?_
        refine V_aload_n dX7_box_82 rfl ?_
        refine VM_getR fX7_7 ⟨rfl, rfl⟩ rfl dX7_box_83 ?_
        refine V_iconst dX7_box_86 kc_4 ?_
        refine VM_ldI (n := 23016) (k := 4) rfl (by decide) (by decide) dX7_box_87 ?_
        refine V_imul dX7_box_88 ?_
        refine V_iadd dX7_box_89 ?_
        refine V_iconst dX7_box_90 kc_1 ?_
        refine V_iadd dX7_box_91 ?_
        refine V_iload_n dX7_box_92 rfl ?_
        obtain ⟨hb13, hf⟩ := ck_ex hf
        obtain ⟨σ14, hs15, hf⟩ := st1_ex hf
        refine VM_stI (n := 23016) (k := (((2448 : Int32) + ((2 : Int32) * (gI σ11 1 4))) + (1 : Int32)).toNatClampNeg) rfl hb13 rfl hs15 dX7_box_93 ?_
        refine V_aload_n dX7_box_94 rfl ?_
        refine VM_getR fX7_7 ⟨rfl, rfl⟩ rfl dX7_box_95 ?_
        refine V_iconst dX7_box_98 kc_4 ?_
        refine V_dup2 dX7_box_99 rfl rfl ?_
        refine VM_ldI (n := 23016) (k := 4) rfl (by decide) (by decide) dX7_box_100 ?_
        refine V_iconst dX7_box_101 kc_1 ?_
        refine V_iadd dX7_box_102 ?_
        obtain ⟨σ16, hs17, hf⟩ := st1_ex hf
        refine VM_stI (n := 23016) (k := 4) rfl (by decide) (by decide) hs17 dX7_box_103 ?_
        refine V_aload_n dX7_box_104 rfl ?_
        refine V_aload_n dX7_box_105 rfl ?_
        refine VM_getR fX7_7 ⟨rfl, rfl⟩ rfl dX7_box_106 ?_
        refine V_iconst dX7_box_109 kc_4 ?_
        refine VM_ldI (n := 23016) (k := 4) rfl (by decide) (by decide) dX7_box_110 ?_
        refine V_iconst dX7_box_111 kc_1 ?_
        refine V_isub dX7_box_112 ?_
        obtain ⟨r19, σ20, hc18, hf⟩ := bd2_ex hf
        refine V_cV (av := [.int ((gI σ16 1 4) - (1 : Int32))]) (rest := []) (st' := [.int r19]) (mM_told_ok _ _ _ _ _ _ _ _ hc18) vcX7_125 (wM_k0 _ _ _) (by decide) rfl rfl (Nat.le_of_ble_eq_true rfl) dX7_box_113 rfl ?_
        cases some_ex hf
        exact V_iret hE dX7_box_116
      · have hf := if_t hf hc9
        refine V_aload_n dX7_box_49 rfl ?_
        refine V_bipush dX7_box_50 kb_m5 ?_
        obtain ⟨r22, σ23, hc21, hf⟩ := bd2_ex hf
        refine V_cV (av := [.int (-5 : Int32)]) (rest := []) (st' := [.int r22]) (mM_told_ok _ _ _ _ _ _ _ _ hc21) vcX7_125 (wM_k0 _ _ _) (by decide) rfl rfl (Nat.le_of_ble_eq_true rfl) dX7_box_52 rfl ?_
        cases some_ex hf
        exact V_iret hE dX7_box_55
    · have hf := if_t hf hc8
      refine V_aload_n dX7_box_31 rfl ?_
      refine V_bipush dX7_box_32 kb_m2 ?_
      obtain ⟨r25, σ26, hc24, hf⟩ := bd2_ex hf
      refine V_cV (av := [.int (-2 : Int32)]) (rest := []) (st' := [.int r25]) (mM_told_ok _ _ _ _ _ _ _ _ hc24) vcX7_125 (wM_k0 _ _ _) (by decide) rfl rfl (Nat.le_of_ble_eq_true rfl) dX7_box_34 rfl ?_
      cases some_ex hf
      exact V_iret hE dX7_box_37
  · have hf := if_t hf hc5
    refine V_aload_n dX7_box_17 rfl ?_
    refine V_iconst dX7_box_18 kc_m1 ?_
    obtain ⟨r28, σ29, hc27, hf⟩ := bd2_ex hf
    refine V_cV (av := [.int (-1 : Int32)]) (rest := []) (st' := [.int r28]) (mM_told_ok _ _ _ _ _ _ _ _ hc27) vcX7_125 (wM_k0 _ _ _) (by decide) rfl rfl (Nat.le_of_ble_eq_true rfl) dX7_box_19 rfl ?_
    cases some_ex hf
    exact V_iret hE dX7_box_22
set_option maxHeartbeats 4000000 in
theorem mM_isBox_ok (l : Launch) (D : DD) (z : ZZ) (h : Nat) (p0 : Int32) (σ : SM) (r : Int32) (hf : mM_isBox p0 σ = some r) : MA l D yX7_isBox cX7_isBox 2 (some .boolean) 2 [.ref h, .int p0] (wM z h σ) (.returned (some (.int r))) (wM z h σ) := by
  refine MA.intro (own := RX7) (nm := "isBox") (ls := [some (.ref h), some (.int p0)]) (by decide) rfl rfl (Nat.le_of_ble_eq_true rfl) rfl (fun X hl hD hE => ?_)
  subst hl hD
  unfold mM_isBox at hf
  refine V_iload_n dX7_isBox_0 rfl ?_
  refine V_i2l dX7_isBox_1 ?_
  refine V_lconst dX7_isBox_2 kl_0 ?_
  refine V_aload_n dX7_isBox_3 rfl ?_
  refine VM_getR fX7_7 ⟨rfl, rfl⟩ rfl dX7_isBox_4 ?_
  refine V_iconst dX7_isBox_7 kc_4 ?_
  refine VM_ldI (n := 23016) (k := 4) rfl (by decide) (by decide) dX7_isBox_8 ?_
  refine V_i2l dX7_isBox_9 ?_
  refine V_lconst dX7_isBox_10 kl_1 ?_
  refine V_lsub dX7_isBox_11 ?_
  obtain ⟨r2, hc1, hf⟩ := bd1_ex hf
  refine V_cS (rest := []) (st' := [.int r2]) (mM_in_ok _ _ _ _ _ _ _ hc1) scX7_121 (by decide) rfl rfl (Nat.le_of_ble_eq_true rfl) dX7_isBox_12 rfl ?_
  obtain ⟨hb3, hf⟩ := ck_ex hf
  cases some_ex hf
  exact V_zret hE (isZ_nar hb3) dX7_isBox_15
set_option maxHeartbeats 4000000 in
theorem mM_hand_45_v {X : CX} {w0 : AH} {z : ZZ} {h : Nat} {r : Int32} {σ' : SM} (hE : XE X w0 3 (some .int) "hand" (.returned (some (.int r))) (wM z h σ')) (σ : SM) (hf : mM_hand_45 σ = some (r, σ')) : V X cX7_hand RX7 7 3 (wM z h σ) 45 [some (.ref h), none, none, none, none, none, none] [] := by
  unfold mM_hand_45 at hf
  refine V_aload_n dX7_hand_45 rfl ?_
  refine V_iconst dX7_hand_46 kc_m1 ?_
  obtain ⟨r2, σ3, hc1, hf⟩ := bd2_ex hf
  refine V_cV (av := [.int (-1 : Int32)]) (rest := []) (st' := [.int r2]) (mM_told_ok _ _ _ _ _ _ _ _ hc1) vcX7_125 (wM_k0 _ _ _) (by decide) rfl rfl (Nat.le_of_ble_eq_true rfl) dX7_hand_47 rfl ?_
  cases some_ex hf
  exact V_iret hE dX7_hand_50
set_option maxHeartbeats 4000000 in
theorem mM_hand_ok (l : Launch) (D : DD) (z : ZZ) (h : Nat) (p0 : Int32) (p1 : Int32) (p2 : Int32) (p3 : Int32) (p4 : Int32) (σ : SM) (r : Int32) (σ' : SM) (hf : mM_hand p0 p1 p2 p3 p4 σ = some (r, σ')) : MA l D yX7_hand cX7_hand 7 (some .int) 3 [.ref h, .int p0, .int p1, .int p2, .int p3, .int p4] (wM z h σ) (.returned (some (.int r))) (wM z h σ') := by
  refine MA.intro (own := RX7) (nm := "hand") (ls := [some (.ref h), some (.int p0), some (.int p1), some (.int p2), some (.int p3), some (.int p4), none]) (by decide) rfl rfl (Nat.le_of_ble_eq_true rfl) rfl (fun X hl hD hE => ?_)
  subst hl hD
  unfold mM_hand at hf
  refine V_aload_n dX7_hand_0 rfl ?_
  refine V_iconst dX7_hand_1 kc_0 ?_
  obtain ⟨σ1, hs2, hf⟩ := st1_ex hf
  refine VM_putI fwX7_113 hs2 dX7_hand_2 ?_
  refine V_iload_n dX7_hand_5 rfl ?_
  refine V_i2l dX7_hand_6 ?_
  refine V_lconst dX7_hand_7 kl_0 ?_
  refine V_ldc2 q2185 dX7_hand_8 ?_
  obtain ⟨r4, hc3, hf⟩ := bd1_ex hf
  refine V_cS (rest := []) (st' := [.int r4]) (mM_in_ok _ _ _ _ _ _ _ hc3) scX7_121 (by decide) rfl rfl (Nat.le_of_ble_eq_true rfl) dX7_hand_11 rfl ?_
  refine V_if_eq (tgt := 45) dX7_hand_14 (by decide) (fun hc5 => ?_) (fun hc5 => ?_)
  · have hf := if_t hf hc5
    refine V_keep [true, false, false, false, false, false, true] rfl ?_
    exact mM_hand_45_v hE σ1 hf
  · have hf := if_f hf hc5
    refine V_iload_n dX7_hand_17 rfl ?_
    obtain ⟨r7, hc6, hf⟩ := bd1_ex hf
    refine V_cS (rest := []) (st' := [.int r7]) (mM_isDay_ok _ _ _ _ _ hc6) scX7_159 (by decide) rfl rfl (Nat.le_of_ble_eq_true rfl) dX7_hand_18 rfl ?_
    refine V_if_eq (tgt := 45) dX7_hand_21 (by decide) (fun hc8 => ?_) (fun hc8 => ?_)
    · have hf := if_t hf hc8
      refine V_keep [true, false, false, false, false, false, true] rfl ?_
      exact mM_hand_45_v hE σ1 hf
    · have hf := if_f hf hc8
      refine V_iload dX7_hand_24 rfl ?_
      refine V_i2l dX7_hand_26 ?_
      refine V_lconst dX7_hand_27 kl_0 ?_
      refine V_ldc2 q2348 dX7_hand_28 ?_
      obtain ⟨r10, hc9, hf⟩ := bd1_ex hf
      refine V_cS (rest := []) (st' := [.int r10]) (mM_in_ok _ _ _ _ _ _ _ hc9) scX7_121 (by decide) rfl rfl (Nat.le_of_ble_eq_true rfl) dX7_hand_31 rfl ?_
      refine V_if_eq (tgt := 45) dX7_hand_34 (by decide) (fun hc11 => ?_) (fun hc11 => ?_)
      · have hf := if_t hf hc11
        refine V_keep [true, false, false, false, false, false, true] rfl ?_
        exact mM_hand_45_v hE σ1 hf
      · have hf := if_f hf hc11
        refine V_iload dX7_hand_37 rfl ?_
        obtain ⟨r13, hc12, hf⟩ := bd1_ex hf
        refine V_cS (rest := []) (st' := [.int r13]) (mM_isDay_ok _ _ _ _ _ hc12) scX7_159 (by decide) rfl rfl (Nat.le_of_ble_eq_true rfl) dX7_hand_39 rfl ?_
        refine V_if_ne (tgt := 51) dX7_hand_42 (by decide) (fun hc14 => ?_) (fun hc14 => ?_)
        · have hf := if_f hf hc14
          refine V_aload_n dX7_hand_51 rfl ?_
          refine V_iload_n dX7_hand_52 rfl ?_
          obtain ⟨r16, hc15, hf⟩ := bd1_ex hf
          refine V_cV (av := [.int p0]) (rest := []) (st' := [.int r16]) (mM_isBox_ok _ _ _ _ _ _ _ hc15) vcX7_507 (wM_k0 _ _ _) (by decide) rfl rfl (Nat.le_of_ble_eq_true rfl) dX7_hand_53 rfl ?_
          refine V_if_ne (tgt := 66) dX7_hand_56 (by decide) (fun hc17 => ?_) (fun hc17 => ?_)
          · have hf := if_f hf hc17
            refine V_aload_n dX7_hand_66 rfl ?_
            refine VM_getR fX7_7 ⟨rfl, rfl⟩ rfl dX7_hand_67 ?_
            refine V_iconst dX7_hand_70 kc_5 ?_
            refine VM_ldI (n := 23016) (k := 5) rfl (by decide) (by decide) dX7_hand_71 ?_
            refine V_sipush dX7_hand_72 ks_200 ?_
            refine V_icmp_ne (tgt := 85) dX7_hand_75 (by decide) (fun hc18 => ?_) (fun hc18 => ?_)
            · have hf := if_f hf hc18
              refine V_sipush dX7_hand_85 ks_2528 ?_
              refine V_iconst dX7_hand_88 kc_5 ?_
              refine V_aload_n dX7_hand_89 rfl ?_
              refine VM_getR fX7_7 ⟨rfl, rfl⟩ rfl dX7_hand_90 ?_
              refine V_iconst dX7_hand_93 kc_5 ?_
              refine VM_ldI (n := 23016) (k := 5) rfl (by decide) (by decide) dX7_hand_94 ?_
              refine V_imul dX7_hand_95 ?_
              refine V_iadd dX7_hand_96 ?_
              refine V_istore (ls' := [some (.ref h), some (.int p0), some (.int p1), some (.int p2), some (.int p3), some (.int p4), some (.int ((2528 : Int32) + ((5 : Int32) * (gI σ1 1 5))))]) dX7_hand_97 (by decide) rfl ?_
              refine V_aload_n dX7_hand_99 rfl ?_
              refine V_iload dX7_hand_100 rfl ?_
              refine V_iload_n dX7_hand_102 rfl ?_
              refine V_iload_n dX7_hand_103 rfl ?_
              refine V_iload_n dX7_hand_104 rfl ?_
              refine V_iload dX7_hand_105 rfl ?_
              obtain ⟨σ20, hc19, hf⟩ := bd1_ex hf
              refine V_cV (av := [.int ((2528 : Int32) + ((5 : Int32) * (gI σ1 1 5))), .int p0, .int p1, .int p2, .int p3]) (rest := []) (st' := []) (mM_addFour_ok _ _ _ _ _ _ _ _ _ _ _ hc19) vcX7_151 (wM_k0 _ _ _) (by decide) rfl rfl (Nat.le_of_ble_eq_true rfl) dX7_hand_107 rfl ?_
              refine V_aload_n dX7_hand_110 rfl ?_
              refine VM_getR fX7_7 ⟨rfl, rfl⟩ rfl dX7_hand_111 ?_
              refine V_iload dX7_hand_114 rfl ?_
              refine V_iconst dX7_hand_116 kc_4 ?_
              refine V_iadd dX7_hand_117 ?_
              refine V_iload dX7_hand_118 rfl ?_
              obtain ⟨hb21, hf⟩ := ck_ex hf
              obtain ⟨σ22, hs23, hf⟩ := st1_ex hf
              refine VM_stI (n := 23016) (k := (((2528 : Int32) + ((5 : Int32) * (gI σ1 1 5))) + (4 : Int32)).toNatClampNeg) rfl hb21 rfl hs23 dX7_hand_120 ?_
              refine V_aload_n dX7_hand_121 rfl ?_
              refine VM_getR fX7_7 ⟨rfl, rfl⟩ rfl dX7_hand_122 ?_
              refine V_iconst dX7_hand_125 kc_5 ?_
              refine V_dup2 dX7_hand_126 rfl rfl ?_
              refine VM_ldI (n := 23016) (k := 5) rfl (by decide) (by decide) dX7_hand_127 ?_
              refine V_iconst dX7_hand_128 kc_1 ?_
              refine V_iadd dX7_hand_129 ?_
              obtain ⟨σ24, hs25, hf⟩ := st1_ex hf
              refine VM_stI (n := 23016) (k := 5) rfl (by decide) (by decide) hs25 dX7_hand_130 ?_
              refine V_aload_n dX7_hand_131 rfl ?_
              refine V_aload_n dX7_hand_132 rfl ?_
              refine VM_getR fX7_7 ⟨rfl, rfl⟩ rfl dX7_hand_133 ?_
              refine V_iconst dX7_hand_136 kc_5 ?_
              refine VM_ldI (n := 23016) (k := 5) rfl (by decide) (by decide) dX7_hand_137 ?_
              obtain ⟨r27, σ28, hc26, hf⟩ := bd2_ex hf
              refine V_cV (av := [.int (gI σ24 1 5)]) (rest := []) (st' := [.int r27]) (mM_told_ok _ _ _ _ _ _ _ _ hc26) vcX7_125 (wM_k0 _ _ _) (by decide) rfl rfl (Nat.le_of_ble_eq_true rfl) dX7_hand_138 rfl ?_
              cases some_ex hf
              exact V_iret hE dX7_hand_141
            · have hf := if_t hf hc18
              refine V_aload_n dX7_hand_78 rfl ?_
              refine V_bipush dX7_hand_79 kb_m5 ?_
              obtain ⟨r30, σ31, hc29, hf⟩ := bd2_ex hf
              refine V_cV (av := [.int (-5 : Int32)]) (rest := []) (st' := [.int r30]) (mM_told_ok _ _ _ _ _ _ _ _ hc29) vcX7_125 (wM_k0 _ _ _) (by decide) rfl rfl (Nat.le_of_ble_eq_true rfl) dX7_hand_81 rfl ?_
              cases some_ex hf
              exact V_iret hE dX7_hand_84
          · have hf := if_t hf hc17
            refine V_aload_n dX7_hand_59 rfl ?_
            refine V_bipush dX7_hand_60 kb_m2 ?_
            obtain ⟨r33, σ34, hc32, hf⟩ := bd2_ex hf
            refine V_cV (av := [.int (-2 : Int32)]) (rest := []) (st' := [.int r33]) (mM_told_ok _ _ _ _ _ _ _ _ hc32) vcX7_125 (wM_k0 _ _ _) (by decide) rfl rfl (Nat.le_of_ble_eq_true rfl) dX7_hand_62 rfl ?_
            cases some_ex hf
            exact V_iret hE dX7_hand_65
        · have hf := if_t hf hc14
          refine V_keep [true, false, false, false, false, false, true] rfl ?_
          exact mM_hand_45_v hE σ1 hf
set_option maxHeartbeats 4000000 in
theorem mM_held_132_v {X : CX} {w0 : AH} {z : ZZ} {h : Nat} {r : Int32} {σ' : SM} (hE : XE X w0 3 (some .int) "held" (.returned (some (.int r))) (wM z h σ')) (k38 : Int32 → Int32 → Int32 → Int32 → Int32 → Int32 → SM → Option (Int32 × SM)) (hk38 : ∀ (v1 : Int32) (v2 : Int32) (v3 : Int32) (v4 : Int32) (v5 : Int32) (v6 : Int32) (σ : SM), k38 v1 v2 v3 v4 v5 v6 σ = some (r, σ') → V X cX7_held RX7 8 3 (wM z h σ) 38 [some (.ref h), some (.int v1), some (.int v2), some (.int v3), some (.int v4), some (.int v5), some (.int v6), none] []) (v1 : Int32) (v2 : Int32) (v3 : Int32) (v4 : Int32) (v5 : Int32) (v6 : Int32) (σ : SM) (hf : mM_held_132 k38 v1 v2 v3 v4 v5 v6 σ = some (r, σ')) : V X cX7_held RX7 8 3 (wM z h σ) 132 [some (.ref h), some (.int v1), some (.int v2), some (.int v3), some (.int v4), some (.int v5), some (.int v6), none] [] := by
  unfold mM_held_132 at hf
  refine V_inc (ls' := [some (.ref h), some (.int v1), some (.int v2), some (.int v3), some (.int v4), some (.int v5), some (.int (v6 + (1 : Int32))), none]) dX7_held_132 rfl kc_1 (by decide) rfl ?_
  refine V_goto (tgt := 38) dX7_held_135 (by decide) ?_
  exact hk38 v1 v2 v3 v4 v5 (v6 + (1 : Int32)) σ hf
set_option maxHeartbeats 4000000 in
theorem mM_held_38_v {X : CX} {w0 : AH} {z : ZZ} {h : Nat} {r : Int32} {σ' : SM} (hE : XE X w0 3 (some .int) "held" (.returned (some (.int r))) (wM z h σ')) (k38 : Int32 → Int32 → Int32 → Int32 → Int32 → Int32 → SM → Option (Int32 × SM)) (hk38 : ∀ (v1 : Int32) (v2 : Int32) (v3 : Int32) (v4 : Int32) (v5 : Int32) (v6 : Int32) (σ : SM), k38 v1 v2 v3 v4 v5 v6 σ = some (r, σ') → V X cX7_held RX7 8 3 (wM z h σ) 38 [some (.ref h), some (.int v1), some (.int v2), some (.int v3), some (.int v4), some (.int v5), some (.int v6), none] []) (v1 : Int32) (v2 : Int32) (v3 : Int32) (v4 : Int32) (v5 : Int32) (v6 : Int32) (σ : SM) (hf : mM_held_38 k38 v1 v2 v3 v4 v5 v6 σ = some (r, σ')) : V X cX7_held RX7 8 3 (wM z h σ) 38 [some (.ref h), some (.int v1), some (.int v2), some (.int v3), some (.int v4), some (.int v5), some (.int v6), none] [] := by
  unfold mM_held_38 at hf
  refine V_iload dX7_held_38 rfl ?_
  refine V_aload_n dX7_held_40 rfl ?_
  refine VM_getR fX7_7 ⟨rfl, rfl⟩ rfl dX7_held_41 ?_
  refine V_iconst dX7_held_44 kc_5 ?_
  refine VM_ldI (n := 23016) (k := 5) rfl (by decide) (by decide) dX7_held_45 ?_
  refine V_icmp_ge (tgt := 138) dX7_held_46 (by decide) (fun hc1 => ?_) (fun hc1 => ?_)
  · have hf := if_t hf hc1
    refine V_iload dX7_held_138 rfl ?_
    cases some_ex hf
    exact V_iret hE dX7_held_140
  · have hf := if_f hf hc1
    refine V_sipush dX7_held_49 ks_2528 ?_
    refine V_iconst dX7_held_52 kc_5 ?_
    refine V_iload dX7_held_53 rfl ?_
    refine V_imul dX7_held_55 ?_
    refine V_iadd dX7_held_56 ?_
    refine V_istore (ls' := [some (.ref h), some (.int v1), some (.int v2), some (.int v3), some (.int v4), some (.int v5), some (.int v6), some (.int ((2528 : Int32) + ((5 : Int32) * v6)))]) dX7_held_57 (by decide) rfl ?_
    refine V_aload_n dX7_held_59 rfl ?_
    refine VM_getR fX7_7 ⟨rfl, rfl⟩ rfl dX7_held_60 ?_
    refine V_iload dX7_held_63 rfl ?_
    obtain ⟨hb2, hf⟩ := ck_ex hf
    refine VM_ldI (n := 23016) (k := ((2528 : Int32) + ((5 : Int32) * v6)).toNatClampNeg) rfl hb2 rfl dX7_held_65 ?_
    refine V_iload_n dX7_held_66 rfl ?_
    refine V_icmp_ne (tgt := 132) dX7_held_67 (by decide) (fun hc3 => ?_) (fun hc3 => ?_)
    · have hf := if_f hf hc3
      refine V_keep [true, true, true, true, true, true, true, false] rfl ?_
      exact mM_held_132_v hE k38 hk38 v1 v2 v3 v4 v5 v6 σ hf
    · have hf := if_t hf hc3
      refine V_aload_n dX7_held_70 rfl ?_
      refine VM_getR fX7_7 ⟨rfl, rfl⟩ rfl dX7_held_71 ?_
      refine V_iload dX7_held_74 rfl ?_
      refine V_iconst dX7_held_76 kc_4 ?_
      refine V_iadd dX7_held_77 ?_
      obtain ⟨hb4, hf⟩ := ck_ex hf
      refine VM_ldI (n := 23016) (k := (((2528 : Int32) + ((5 : Int32) * v6)) + (4 : Int32)).toNatClampNeg) rfl hb4 rfl dX7_held_78 ?_
      refine V_iload_n dX7_held_79 rfl ?_
      refine V_icmp_gt (tgt := 132) dX7_held_80 (by decide) (fun hc5 => ?_) (fun hc5 => ?_)
      · have hf := if_t hf hc5
        refine V_keep [true, true, true, true, true, true, true, false] rfl ?_
        exact mM_held_132_v hE k38 hk38 v1 v2 v3 v4 v5 v6 σ hf
      · have hf := if_f hf hc5
        refine V_aload_n dX7_held_83 rfl ?_
        refine VM_getR fX7_7 ⟨rfl, rfl⟩ rfl dX7_held_84 ?_
        refine V_iload dX7_held_87 rfl ?_
        refine V_iconst dX7_held_89 kc_2 ?_
        refine V_iadd dX7_held_90 ?_
        obtain ⟨hb6, hf⟩ := ck_ex hf
        refine VM_ldI (n := 23016) (k := (((2528 : Int32) + ((5 : Int32) * v6)) + (2 : Int32)).toNatClampNeg) rfl hb6 rfl dX7_held_91 ?_
        refine V_iload_n dX7_held_92 rfl ?_
        refine V_icmp_gt (tgt := 132) dX7_held_93 (by decide) (fun hc7 => ?_) (fun hc7 => ?_)
        · have hf := if_t hf hc7
          refine V_keep [true, true, true, true, true, true, true, false] rfl ?_
          exact mM_held_132_v hE k38 hk38 v1 v2 v3 v4 v5 v6 σ hf
        · have hf := if_f hf hc7
          refine V_aload_n dX7_held_96 rfl ?_
          refine VM_getR fX7_7 ⟨rfl, rfl⟩ rfl dX7_held_97 ?_
          refine V_iload dX7_held_100 rfl ?_
          refine V_iconst dX7_held_102 kc_2 ?_
          refine V_iadd dX7_held_103 ?_
          obtain ⟨hb8, hf⟩ := ck_ex hf
          refine VM_ldI (n := 23016) (k := (((2528 : Int32) + ((5 : Int32) * v6)) + (2 : Int32)).toNatClampNeg) rfl hb8 rfl dX7_held_104 ?_
          refine V_iload dX7_held_105 rfl ?_
          refine V_icmp_lt (tgt := 132) dX7_held_107 (by decide) (fun hc9 => ?_) (fun hc9 => ?_)
          · have hf := if_t hf hc9
            refine V_keep [true, true, true, true, true, true, true, false] rfl ?_
            exact mM_held_132_v hE k38 hk38 v1 v2 v3 v4 v5 v6 σ hf
          · have hf := if_f hf hc9
            refine V_aload_n dX7_held_110 rfl ?_
            refine VM_getR fX7_7 ⟨rfl, rfl⟩ rfl dX7_held_111 ?_
            refine V_iload dX7_held_114 rfl ?_
            refine V_iconst dX7_held_116 kc_2 ?_
            refine V_iadd dX7_held_117 ?_
            obtain ⟨hb10, hf⟩ := ck_ex hf
            refine VM_ldI (n := 23016) (k := (((2528 : Int32) + ((5 : Int32) * v6)) + (2 : Int32)).toNatClampNeg) rfl hb10 rfl dX7_held_118 ?_
            refine V_istore (ls' := [some (.ref h), some (.int v1), some (.int v2), some (.int v3), some (.int v4), some (.int (gI σ 1 ((((2528 : Int32) + ((5 : Int32) * v6)) + (2 : Int32)).toNatClampNeg))), some (.int v6), some (.int ((2528 : Int32) + ((5 : Int32) * v6)))]) dX7_held_119 (by decide) rfl ?_
            refine V_aload_n dX7_held_121 rfl ?_
            refine VM_getR fX7_7 ⟨rfl, rfl⟩ rfl dX7_held_122 ?_
            refine V_iload dX7_held_125 rfl ?_
            refine V_iconst dX7_held_127 kc_1 ?_
            refine V_iadd dX7_held_128 ?_
            obtain ⟨hb11, hf⟩ := ck_ex hf
            refine VM_ldI (n := 23016) (k := (((2528 : Int32) + ((5 : Int32) * v6)) + (1 : Int32)).toNatClampNeg) rfl hb11 rfl dX7_held_129 ?_
            refine V_istore (ls' := [some (.ref h), some (.int v1), some (.int v2), some (.int v3), some (.int (gI σ 1 ((((2528 : Int32) + ((5 : Int32) * v6)) + (1 : Int32)).toNatClampNeg))), some (.int (gI σ 1 ((((2528 : Int32) + ((5 : Int32) * v6)) + (2 : Int32)).toNatClampNeg))), some (.int v6), some (.int ((2528 : Int32) + ((5 : Int32) * v6)))]) dX7_held_130 (by decide) rfl ?_
            refine V_keep [true, true, true, true, true, true, true, false] rfl ?_
            exact mM_held_132_v hE k38 hk38 v1 v2 v3 (gI σ 1 ((((2528 : Int32) + ((5 : Int32) * v6)) + (1 : Int32)).toNatClampNeg)) (gI σ 1 ((((2528 : Int32) + ((5 : Int32) * v6)) + (2 : Int32)).toNatClampNeg)) v6 σ hf
set_option maxHeartbeats 4000000 in
theorem mM_held_ok (l : Launch) (D : DD) (z : ZZ) (h : Nat) (p0 : Int32) (p1 : Int32) (p2 : Int32) (σ : SM) (r : Int32) (σ' : SM) (hf : mM_held p0 p1 p2 σ = some (r, σ')) : MA l D yX7_held cX7_held 8 (some .int) 3 [.ref h, .int p0, .int p1, .int p2] (wM z h σ) (.returned (some (.int r))) (wM z h σ') := by
  refine MA.intro (own := RX7) (nm := "held") (ls := [some (.ref h), some (.int p0), some (.int p1), some (.int p2), none, none, none, none]) (by decide) rfl rfl (Nat.le_of_ble_eq_true rfl) rfl (fun X hl hD hE => ?_)
  subst hl hD
  unfold mM_held at hf
  refine V_aload_n dX7_held_0 rfl ?_
  refine V_iconst dX7_held_1 kc_0 ?_
  obtain ⟨σ1, hs2, hf⟩ := st1_ex hf
  refine VM_putI fwX7_113 hs2 dX7_held_2 ?_
  refine V_aload_n dX7_held_5 rfl ?_
  refine V_iload_n dX7_held_6 rfl ?_
  obtain ⟨r4, hc3, hf⟩ := bd1_ex hf
  refine V_cV (av := [.int p0]) (rest := []) (st' := [.int r4]) (mM_isBox_ok _ _ _ _ _ _ _ hc3) vcX7_507 (wM_k0 _ _ _) (by decide) rfl rfl (Nat.le_of_ble_eq_true rfl) dX7_held_7 rfl ?_
  refine V_if_eq (tgt := 27) dX7_held_10 (by decide) (fun hc5 => ?_) (fun hc5 => ?_)
  · have hf := if_t hf hc5
    refine V_iconst dX7_held_27 kc_m1 ?_
    cases some_ex hf
    exact V_iret hE dX7_held_28
  · have hf := if_f hf hc5
    refine V_iload_n dX7_held_13 rfl ?_
    obtain ⟨r7, hc6, hf⟩ := bd1_ex hf
    refine V_cS (rest := []) (st' := [.int r7]) (mM_isDay_ok _ _ _ _ _ hc6) scX7_159 (by decide) rfl rfl (Nat.le_of_ble_eq_true rfl) dX7_held_14 rfl ?_
    refine V_if_eq (tgt := 27) dX7_held_17 (by decide) (fun hc8 => ?_) (fun hc8 => ?_)
    · have hf := if_t hf hc8
      refine V_iconst dX7_held_27 kc_m1 ?_
      cases some_ex hf
      exact V_iret hE dX7_held_28
    · have hf := if_f hf hc8
      refine V_iload_n dX7_held_20 rfl ?_
      obtain ⟨r10, hc9, hf⟩ := bd1_ex hf
      refine V_cS (rest := []) (st' := [.int r10]) (mM_isDay_ok _ _ _ _ _ hc9) scX7_159 (by decide) rfl rfl (Nat.le_of_ble_eq_true rfl) dX7_held_21 rfl ?_
      refine V_if_ne (tgt := 29) dX7_held_24 (by decide) (fun hc11 => ?_) (fun hc11 => ?_)
      · have hf := if_f hf hc11
        refine V_iconst dX7_held_29 kc_m1 ?_
        refine V_istore (ls' := [some (.ref h), some (.int p0), some (.int p1), some (.int p2), some (.int (-1 : Int32)), none, none, none]) dX7_held_30 (by decide) rfl ?_
        refine V_iconst dX7_held_32 kc_m1 ?_
        refine V_istore (ls' := [some (.ref h), some (.int p0), some (.int p1), some (.int p2), some (.int (-1 : Int32)), some (.int (-1 : Int32)), none, none]) dX7_held_33 (by decide) rfl ?_
        refine V_iconst dX7_held_35 kc_0 ?_
        refine V_istore (ls' := [some (.ref h), some (.int p0), some (.int p1), some (.int p2), some (.int (-1 : Int32)), some (.int (-1 : Int32)), some (.int (0 : Int32)), none]) dX7_held_36 (by decide) rfl ?_
        exact lq7_ex (P := fun v1 v2 v3 v4 v5 v6 σ => V X cX7_held RX7 8 3 (wM z h σ) 38 [some (.ref h), some (.int v1), some (.int v2), some (.int v3), some (.int v4), some (.int v5), some (.int v6), none] []) (fun k hk v1 v2 v3 v4 v5 v6 σ hf => mM_held_38_v hE k hk v1 v2 v3 v4 v5 v6 σ hf) LF p0 p1 p2 (-1 : Int32) (-1 : Int32) (0 : Int32) σ1 hf
      · have hf := if_t hf hc11
        refine V_iconst dX7_held_27 kc_m1 ?_
        cases some_ex hf
        exact V_iret hE dX7_held_28
set_option maxHeartbeats 4000000 in
theorem mM_brokenOf_125_v {X : CX} {w0 : AH} {z : ZZ} {h : Nat} {r : Int32} (σ : SM) (hE : XE X w0 1 (some .int) "brokenOf" (.returned (some (.int r))) (wM z h σ)) (k5 : Int32 → Int32 → Int32 → Int32 → Option (Int32)) (hk5 : ∀ (v1 : Int32) (v2 : Int32) (v3 : Int32) (v4 : Int32), k5 v1 v2 v3 v4 = some r → V X cX7_brokenOf RX7 7 1 (wM z h σ) 5 [some (.ref h), some (.int v1), some (.int v2), some (.int v3), some (.int v4), none, none] []) (v1 : Int32) (v2 : Int32) (v4 : Int32) (t0 : Int32) (hf : mM_brokenOf_125 σ k5 v1 v2 v4 t0 = some r) : V X cX7_brokenOf RX7 7 1 (wM z h σ) 125 [some (.ref h), some (.int v1), some (.int v2), none, some (.int v4), none, none] [.int t0] := by
  unfold mM_brokenOf_125 at hf
  refine V_istore_n (ls' := [some (.ref h), some (.int v1), some (.int v2), some (.int t0), some (.int v4), none, none]) dX7_brokenOf_125 (by decide) rfl ?_
  refine V_inc (ls' := [some (.ref h), some (.int v1), some (.int v2), some (.int t0), some (.int (v4 + (1 : Int32))), none, none]) dX7_brokenOf_126 rfl kc_1 (by decide) rfl ?_
  refine V_goto (tgt := 5) dX7_brokenOf_129 (by decide) ?_
  exact hk5 v1 v2 t0 (v4 + (1 : Int32)) hf
set_option maxHeartbeats 4000000 in
theorem mM_brokenOf_124_v {X : CX} {w0 : AH} {z : ZZ} {h : Nat} {r : Int32} (σ : SM) (hE : XE X w0 1 (some .int) "brokenOf" (.returned (some (.int r))) (wM z h σ)) (k5 : Int32 → Int32 → Int32 → Int32 → Option (Int32)) (hk5 : ∀ (v1 : Int32) (v2 : Int32) (v3 : Int32) (v4 : Int32), k5 v1 v2 v3 v4 = some r → V X cX7_brokenOf RX7 7 1 (wM z h σ) 5 [some (.ref h), some (.int v1), some (.int v2), some (.int v3), some (.int v4), none, none] []) (v1 : Int32) (v2 : Int32) (v3 : Int32) (v4 : Int32) (hf : mM_brokenOf_124 σ k5 v1 v2 v3 v4 = some r) : V X cX7_brokenOf RX7 7 1 (wM z h σ) 124 [some (.ref h), some (.int v1), some (.int v2), some (.int v3), some (.int v4), none, none] [] := by
  unfold mM_brokenOf_124 at hf
  refine V_iload_n dX7_brokenOf_124 rfl ?_
  refine V_keep [true, true, true, false, true, true, true] rfl ?_
  exact mM_brokenOf_125_v σ hE k5 hk5 v1 v2 v4 v3 hf
set_option maxHeartbeats 4000000 in
theorem mM_brokenOf_119_v {X : CX} {w0 : AH} {z : ZZ} {h : Nat} {r : Int32} (σ : SM) (hE : XE X w0 1 (some .int) "brokenOf" (.returned (some (.int r))) (wM z h σ)) (k5 : Int32 → Int32 → Int32 → Int32 → Option (Int32)) (hk5 : ∀ (v1 : Int32) (v2 : Int32) (v3 : Int32) (v4 : Int32), k5 v1 v2 v3 v4 = some r → V X cX7_brokenOf RX7 7 1 (wM z h σ) 5 [some (.ref h), some (.int v1), some (.int v2), some (.int v3), some (.int v4), none, none] []) (v1 : Int32) (v2 : Int32) (v4 : Int32) (hf : mM_brokenOf_119 σ k5 v1 v2 v4 = some r) : V X cX7_brokenOf RX7 7 1 (wM z h σ) 119 [some (.ref h), some (.int v1), some (.int v2), none, some (.int v4), none, none] [] := by
  unfold mM_brokenOf_119 at hf
  refine V_iload dX7_brokenOf_119 rfl ?_
  refine V_goto (tgt := 125) dX7_brokenOf_121 (by decide) ?_
  exact mM_brokenOf_125_v σ hE k5 hk5 v1 v2 v4 v4 hf
set_option maxHeartbeats 4000000 in
theorem mM_brokenOf_81_v {X : CX} {w0 : AH} {z : ZZ} {h : Nat} {r : Int32} (σ : SM) (hE : XE X w0 1 (some .int) "brokenOf" (.returned (some (.int r))) (wM z h σ)) (k5 : Int32 → Int32 → Int32 → Int32 → Option (Int32)) (hk5 : ∀ (v1 : Int32) (v2 : Int32) (v3 : Int32) (v4 : Int32), k5 v1 v2 v3 v4 = some r → V X cX7_brokenOf RX7 7 1 (wM z h σ) 5 [some (.ref h), some (.int v1), some (.int v2), some (.int v3), some (.int v4), none, none] []) (v1 : Int32) (v2 : Int32) (v3 : Int32) (v4 : Int32) (v5 : Int32) (t0 : Int32) (hf : mM_brokenOf_81 σ k5 v1 v2 v3 v4 v5 t0 = some r) : V X cX7_brokenOf RX7 7 1 (wM z h σ) 81 [some (.ref h), some (.int v1), some (.int v2), some (.int v3), some (.int v4), some (.int v5), none] [.int t0] := by
  unfold mM_brokenOf_81 at hf
  refine V_istore (ls' := [some (.ref h), some (.int v1), some (.int v2), some (.int v3), some (.int v4), some (.int v5), some (.int t0)]) dX7_brokenOf_81 (by decide) rfl ?_
  refine V_iload dX7_brokenOf_83 rfl ?_
  refine V_if_eq (tgt := 124) dX7_brokenOf_85 (by decide) (fun hc1 => ?_) (fun hc1 => ?_)
  · have hf := if_t hf hc1
    refine V_keep [true, true, true, true, true, false, false] rfl ?_
    exact mM_brokenOf_124_v σ hE k5 hk5 v1 v2 v3 v4 hf
  · have hf := if_f hf hc1
    refine V_iload_n dX7_brokenOf_88 rfl ?_
    refine V_iconst dX7_brokenOf_89 kc_m1 ?_
    refine V_icmp_eq (tgt := 119) dX7_brokenOf_90 (by decide) (fun hc2 => ?_) (fun hc2 => ?_)
    · have hf := if_t hf hc2
      refine V_keep [true, true, true, false, true, false, false] rfl ?_
      exact mM_brokenOf_119_v σ hE k5 hk5 v1 v2 v4 hf
    · have hf := if_f hf hc2
      refine V_aload_n dX7_brokenOf_93 rfl ?_
      refine VM_getR fX7_7 ⟨rfl, rfl⟩ rfl dX7_brokenOf_94 ?_
      refine V_iload dX7_brokenOf_97 rfl ?_
      refine V_iconst dX7_brokenOf_99 kc_2 ?_
      refine V_iadd dX7_brokenOf_100 ?_
      obtain ⟨hb3, hf⟩ := ck_ex hf
      refine VM_ldI (n := 23016) (k := (v5 + (2 : Int32)).toNatClampNeg) rfl hb3 rfl dX7_brokenOf_101 ?_
      refine V_aload_n dX7_brokenOf_102 rfl ?_
      refine VM_getR fX7_7 ⟨rfl, rfl⟩ rfl dX7_brokenOf_103 ?_
      refine V_sipush dX7_brokenOf_106 ks_2528 ?_
      refine V_iconst dX7_brokenOf_109 kc_5 ?_
      refine V_iload_n dX7_brokenOf_110 rfl ?_
      refine V_imul dX7_brokenOf_111 ?_
      refine V_iadd dX7_brokenOf_112 ?_
      refine V_iconst dX7_brokenOf_113 kc_2 ?_
      refine V_iadd dX7_brokenOf_114 ?_
      obtain ⟨hb4, hf⟩ := ck_ex hf
      refine VM_ldI (n := 23016) (k := (((2528 : Int32) + ((5 : Int32) * v3)) + (2 : Int32)).toNatClampNeg) rfl hb4 rfl dX7_brokenOf_115 ?_
      refine V_icmp_ge (tgt := 124) dX7_brokenOf_116 (by decide) (fun hc5 => ?_) (fun hc5 => ?_)
      · have hf := if_t hf hc5
        refine V_keep [true, true, true, true, true, false, false] rfl ?_
        exact mM_brokenOf_124_v σ hE k5 hk5 v1 v2 v3 v4 hf
      · have hf := if_f hf hc5
        refine V_keep [true, true, true, false, true, false, false] rfl ?_
        exact mM_brokenOf_119_v σ hE k5 hk5 v1 v2 v4 hf
set_option maxHeartbeats 4000000 in
theorem mM_brokenOf_80_v {X : CX} {w0 : AH} {z : ZZ} {h : Nat} {r : Int32} (σ : SM) (hE : XE X w0 1 (some .int) "brokenOf" (.returned (some (.int r))) (wM z h σ)) (k5 : Int32 → Int32 → Int32 → Int32 → Option (Int32)) (hk5 : ∀ (v1 : Int32) (v2 : Int32) (v3 : Int32) (v4 : Int32), k5 v1 v2 v3 v4 = some r → V X cX7_brokenOf RX7 7 1 (wM z h σ) 5 [some (.ref h), some (.int v1), some (.int v2), some (.int v3), some (.int v4), none, none] []) (v1 : Int32) (v2 : Int32) (v3 : Int32) (v4 : Int32) (v5 : Int32) (hf : mM_brokenOf_80 σ k5 v1 v2 v3 v4 v5 = some r) : V X cX7_brokenOf RX7 7 1 (wM z h σ) 80 [some (.ref h), some (.int v1), some (.int v2), some (.int v3), some (.int v4), some (.int v5), none] [] := by
  unfold mM_brokenOf_80 at hf
  refine V_iconst dX7_brokenOf_80 kc_0 ?_
  exact mM_brokenOf_81_v σ hE k5 hk5 v1 v2 v3 v4 v5 (0 : Int32) hf
set_option maxHeartbeats 4000000 in
theorem mM_brokenOf_5_v {X : CX} {w0 : AH} {z : ZZ} {h : Nat} {r : Int32} (σ : SM) (hE : XE X w0 1 (some .int) "brokenOf" (.returned (some (.int r))) (wM z h σ)) (k5 : Int32 → Int32 → Int32 → Int32 → Option (Int32)) (hk5 : ∀ (v1 : Int32) (v2 : Int32) (v3 : Int32) (v4 : Int32), k5 v1 v2 v3 v4 = some r → V X cX7_brokenOf RX7 7 1 (wM z h σ) 5 [some (.ref h), some (.int v1), some (.int v2), some (.int v3), some (.int v4), none, none] []) (v1 : Int32) (v2 : Int32) (v3 : Int32) (v4 : Int32) (hf : mM_brokenOf_5 σ k5 v1 v2 v3 v4 = some r) : V X cX7_brokenOf RX7 7 1 (wM z h σ) 5 [some (.ref h), some (.int v1), some (.int v2), some (.int v3), some (.int v4), none, none] [] := by
  unfold mM_brokenOf_5 at hf
  refine V_iload dX7_brokenOf_5 rfl ?_
  refine V_aload_n dX7_brokenOf_7 rfl ?_
  refine VM_getR fX7_7 ⟨rfl, rfl⟩ rfl dX7_brokenOf_8 ?_
  refine V_iconst dX7_brokenOf_11 kc_5 ?_
  refine VM_ldI (n := 23016) (k := 5) rfl (by decide) (by decide) dX7_brokenOf_12 ?_
  refine V_icmp_ge (tgt := 132) dX7_brokenOf_13 (by decide) (fun hc1 => ?_) (fun hc1 => ?_)
  · have hf := if_t hf hc1
    refine V_iload_n dX7_brokenOf_132 rfl ?_
    cases some_ex hf
    exact V_iret hE dX7_brokenOf_133
  · have hf := if_f hf hc1
    refine V_sipush dX7_brokenOf_16 ks_2528 ?_
    refine V_iconst dX7_brokenOf_19 kc_5 ?_
    refine V_iload dX7_brokenOf_20 rfl ?_
    refine V_imul dX7_brokenOf_22 ?_
    refine V_iadd dX7_brokenOf_23 ?_
    refine V_istore (ls' := [some (.ref h), some (.int v1), some (.int v2), some (.int v3), some (.int v4), some (.int ((2528 : Int32) + ((5 : Int32) * v4))), none]) dX7_brokenOf_24 (by decide) rfl ?_
    refine V_aload_n dX7_brokenOf_26 rfl ?_
    refine VM_getR fX7_7 ⟨rfl, rfl⟩ rfl dX7_brokenOf_27 ?_
    refine V_iload dX7_brokenOf_30 rfl ?_
    obtain ⟨hb2, hf⟩ := ck_ex hf
    refine VM_ldI (n := 23016) (k := ((2528 : Int32) + ((5 : Int32) * v4)).toNatClampNeg) rfl hb2 rfl dX7_brokenOf_32 ?_
    refine V_iload_n dX7_brokenOf_33 rfl ?_
    refine V_icmp_ne (tgt := 80) dX7_brokenOf_34 (by decide) (fun hc3 => ?_) (fun hc3 => ?_)
    · have hf := if_f hf hc3
      exact mM_brokenOf_80_v σ hE k5 hk5 v1 v2 v3 v4 ((2528 : Int32) + ((5 : Int32) * v4)) hf
    · have hf := if_t hf hc3
      refine V_aload_n dX7_brokenOf_37 rfl ?_
      refine VM_getR fX7_7 ⟨rfl, rfl⟩ rfl dX7_brokenOf_38 ?_
      refine V_iload dX7_brokenOf_41 rfl ?_
      refine V_iconst dX7_brokenOf_43 kc_4 ?_
      refine V_iadd dX7_brokenOf_44 ?_
      obtain ⟨hb4, hf⟩ := ck_ex hf
      refine VM_ldI (n := 23016) (k := (((2528 : Int32) + ((5 : Int32) * v4)) + (4 : Int32)).toNatClampNeg) rfl hb4 rfl dX7_brokenOf_45 ?_
      refine V_iload_n dX7_brokenOf_46 rfl ?_
      refine V_icmp_gt (tgt := 80) dX7_brokenOf_47 (by decide) (fun hc5 => ?_) (fun hc5 => ?_)
      · have hf := if_t hf hc5
        exact mM_brokenOf_80_v σ hE k5 hk5 v1 v2 v3 v4 ((2528 : Int32) + ((5 : Int32) * v4)) hf
      · have hf := if_f hf hc5
        refine V_aload_n dX7_brokenOf_50 rfl ?_
        refine VM_getR fX7_7 ⟨rfl, rfl⟩ rfl dX7_brokenOf_51 ?_
        refine V_iload dX7_brokenOf_54 rfl ?_
        refine V_iconst dX7_brokenOf_56 kc_3 ?_
        refine V_iadd dX7_brokenOf_57 ?_
        obtain ⟨hb6, hf⟩ := ck_ex hf
        refine VM_ldI (n := 23016) (k := (((2528 : Int32) + ((5 : Int32) * v4)) + (3 : Int32)).toNatClampNeg) rfl hb6 rfl dX7_brokenOf_58 ?_
        refine V_aload_n dX7_brokenOf_59 rfl ?_
        refine VM_getR fX7_7 ⟨rfl, rfl⟩ rfl dX7_brokenOf_60 ?_
        refine V_sipush dX7_brokenOf_63 ks_2448 ?_
        refine V_iconst dX7_brokenOf_66 kc_2 ?_
        refine V_iload_n dX7_brokenOf_67 rfl ?_
        refine V_imul dX7_brokenOf_68 ?_
        refine V_iadd dX7_brokenOf_69 ?_
        refine V_iconst dX7_brokenOf_70 kc_1 ?_
        refine V_iadd dX7_brokenOf_71 ?_
        obtain ⟨hb7, hf⟩ := ck_ex hf
        refine VM_ldI (n := 23016) (k := (((2448 : Int32) + ((2 : Int32) * v1)) + (1 : Int32)).toNatClampNeg) rfl hb7 rfl dX7_brokenOf_72 ?_
        refine V_icmp_eq (tgt := 80) dX7_brokenOf_73 (by decide) (fun hc8 => ?_) (fun hc8 => ?_)
        · have hf := if_t hf hc8
          exact mM_brokenOf_80_v σ hE k5 hk5 v1 v2 v3 v4 ((2528 : Int32) + ((5 : Int32) * v4)) hf
        · have hf := if_f hf hc8
          refine V_iconst dX7_brokenOf_76 kc_1 ?_
          refine V_goto (tgt := 81) dX7_brokenOf_77 (by decide) ?_
          exact mM_brokenOf_81_v σ hE k5 hk5 v1 v2 v3 v4 ((2528 : Int32) + ((5 : Int32) * v4)) (1 : Int32) hf
set_option maxHeartbeats 4000000 in
theorem mM_brokenOf_ok (l : Launch) (D : DD) (z : ZZ) (h : Nat) (p0 : Int32) (p1 : Int32) (σ : SM) (r : Int32) (hf : mM_brokenOf p0 p1 σ = some r) : MA l D yX7_brokenOf cX7_brokenOf 7 (some .int) 1 [.ref h, .int p0, .int p1] (wM z h σ) (.returned (some (.int r))) (wM z h σ) := by
  refine MA.intro (own := RX7) (nm := "brokenOf") (ls := [some (.ref h), some (.int p0), some (.int p1), none, none, none, none]) (by decide) rfl rfl (Nat.le_of_ble_eq_true rfl) rfl (fun X hl hD hE => ?_)
  subst hl hD
  unfold mM_brokenOf at hf
  refine V_iconst dX7_brokenOf_0 kc_m1 ?_
  refine V_istore_n (ls' := [some (.ref h), some (.int p0), some (.int p1), some (.int (-1 : Int32)), none, none, none]) dX7_brokenOf_1 (by decide) rfl ?_
  refine V_iconst dX7_brokenOf_2 kc_0 ?_
  refine V_istore (ls' := [some (.ref h), some (.int p0), some (.int p1), some (.int (-1 : Int32)), some (.int (0 : Int32)), none, none]) dX7_brokenOf_3 (by decide) rfl ?_
  exact lq4_ex (P := fun v1 v2 v3 v4 => V X cX7_brokenOf RX7 7 1 (wM z h σ) 5 [some (.ref h), some (.int v1), some (.int v2), some (.int v3), some (.int v4), none, none] []) (fun k hk v1 v2 v3 v4 hf => mM_brokenOf_5_v σ hE k hk v1 v2 v3 v4 hf) LF p0 p1 (-1 : Int32) (0 : Int32) hf
set_option maxHeartbeats 4000000 in
theorem mM_aheadOf_162_v {X : CX} {w0 : AH} {z : ZZ} {h : Nat} {r : Int32} (σ : SM) (hE : XE X w0 1 (some .int) "aheadOf" (.returned (some (.int r))) (wM z h σ)) (k14 : Int32 → Int32 → Int32 → Int32 → Int32 → Option (Int32)) (hk14 : ∀ (v1 : Int32) (v2 : Int32) (v3 : Int32) (v4 : Int32) (v5 : Int32), k14 v1 v2 v3 v4 v5 = some r → V X cX7_aheadOf RX7 8 1 (wM z h σ) 14 [some (.ref h), some (.int v1), some (.int v2), some (.int v3), some (.int v4), some (.int v5), none, none] []) (v1 : Int32) (v2 : Int32) (v3 : Int32) (v5 : Int32) (t0 : Int32) (hf : mM_aheadOf_162 σ k14 v1 v2 v3 v5 t0 = some r) : V X cX7_aheadOf RX7 8 1 (wM z h σ) 162 [some (.ref h), some (.int v1), some (.int v2), some (.int v3), none, some (.int v5), none, none] [.int t0] := by
  unfold mM_aheadOf_162 at hf
  refine V_istore (ls' := [some (.ref h), some (.int v1), some (.int v2), some (.int v3), some (.int t0), some (.int v5), none, none]) dX7_aheadOf_162 (by decide) rfl ?_
  refine V_inc (ls' := [some (.ref h), some (.int v1), some (.int v2), some (.int v3), some (.int t0), some (.int (v5 + (1 : Int32))), none, none]) dX7_aheadOf_164 rfl kc_1 (by decide) rfl ?_
  refine V_goto (tgt := 14) dX7_aheadOf_167 (by decide) ?_
  exact hk14 v1 v2 v3 t0 (v5 + (1 : Int32)) hf
set_option maxHeartbeats 4000000 in
theorem mM_aheadOf_160_v {X : CX} {w0 : AH} {z : ZZ} {h : Nat} {r : Int32} (σ : SM) (hE : XE X w0 1 (some .int) "aheadOf" (.returned (some (.int r))) (wM z h σ)) (k14 : Int32 → Int32 → Int32 → Int32 → Int32 → Option (Int32)) (hk14 : ∀ (v1 : Int32) (v2 : Int32) (v3 : Int32) (v4 : Int32) (v5 : Int32), k14 v1 v2 v3 v4 v5 = some r → V X cX7_aheadOf RX7 8 1 (wM z h σ) 14 [some (.ref h), some (.int v1), some (.int v2), some (.int v3), some (.int v4), some (.int v5), none, none] []) (v1 : Int32) (v2 : Int32) (v3 : Int32) (v4 : Int32) (v5 : Int32) (hf : mM_aheadOf_160 σ k14 v1 v2 v3 v4 v5 = some r) : V X cX7_aheadOf RX7 8 1 (wM z h σ) 160 [some (.ref h), some (.int v1), some (.int v2), some (.int v3), some (.int v4), some (.int v5), none, none] [] := by
  unfold mM_aheadOf_160 at hf
  refine V_iload dX7_aheadOf_160 rfl ?_
  refine V_keep [true, true, true, true, false, true, true, true] rfl ?_
  exact mM_aheadOf_162_v σ hE k14 hk14 v1 v2 v3 v5 v4 hf
set_option maxHeartbeats 4000000 in
theorem mM_aheadOf_155_v {X : CX} {w0 : AH} {z : ZZ} {h : Nat} {r : Int32} (σ : SM) (hE : XE X w0 1 (some .int) "aheadOf" (.returned (some (.int r))) (wM z h σ)) (k14 : Int32 → Int32 → Int32 → Int32 → Int32 → Option (Int32)) (hk14 : ∀ (v1 : Int32) (v2 : Int32) (v3 : Int32) (v4 : Int32) (v5 : Int32), k14 v1 v2 v3 v4 v5 = some r → V X cX7_aheadOf RX7 8 1 (wM z h σ) 14 [some (.ref h), some (.int v1), some (.int v2), some (.int v3), some (.int v4), some (.int v5), none, none] []) (v1 : Int32) (v2 : Int32) (v3 : Int32) (v5 : Int32) (hf : mM_aheadOf_155 σ k14 v1 v2 v3 v5 = some r) : V X cX7_aheadOf RX7 8 1 (wM z h σ) 155 [some (.ref h), some (.int v1), some (.int v2), some (.int v3), none, some (.int v5), none, none] [] := by
  unfold mM_aheadOf_155 at hf
  refine V_iload dX7_aheadOf_155 rfl ?_
  refine V_goto (tgt := 162) dX7_aheadOf_157 (by decide) ?_
  exact mM_aheadOf_162_v σ hE k14 hk14 v1 v2 v3 v5 v5 hf
set_option maxHeartbeats 4000000 in
theorem mM_aheadOf_115_v {X : CX} {w0 : AH} {z : ZZ} {h : Nat} {r : Int32} (σ : SM) (hE : XE X w0 1 (some .int) "aheadOf" (.returned (some (.int r))) (wM z h σ)) (k14 : Int32 → Int32 → Int32 → Int32 → Int32 → Option (Int32)) (hk14 : ∀ (v1 : Int32) (v2 : Int32) (v3 : Int32) (v4 : Int32) (v5 : Int32), k14 v1 v2 v3 v4 v5 = some r → V X cX7_aheadOf RX7 8 1 (wM z h σ) 14 [some (.ref h), some (.int v1), some (.int v2), some (.int v3), some (.int v4), some (.int v5), none, none] []) (v1 : Int32) (v2 : Int32) (v3 : Int32) (v4 : Int32) (v5 : Int32) (v6 : Int32) (t0 : Int32) (hf : mM_aheadOf_115 σ k14 v1 v2 v3 v4 v5 v6 t0 = some r) : V X cX7_aheadOf RX7 8 1 (wM z h σ) 115 [some (.ref h), some (.int v1), some (.int v2), some (.int v3), some (.int v4), some (.int v5), some (.int v6), none] [.int t0] := by
  unfold mM_aheadOf_115 at hf
  refine V_istore (ls' := [some (.ref h), some (.int v1), some (.int v2), some (.int v3), some (.int v4), some (.int v5), some (.int v6), some (.int t0)]) dX7_aheadOf_115 (by decide) rfl ?_
  refine V_iload dX7_aheadOf_117 rfl ?_
  refine V_if_eq (tgt := 160) dX7_aheadOf_119 (by decide) (fun hc1 => ?_) (fun hc1 => ?_)
  · have hf := if_t hf hc1
    refine V_keep [true, true, true, true, true, true, false, false] rfl ?_
    exact mM_aheadOf_160_v σ hE k14 hk14 v1 v2 v3 v4 v5 hf
  · have hf := if_f hf hc1
    refine V_iload dX7_aheadOf_122 rfl ?_
    refine V_iconst dX7_aheadOf_124 kc_m1 ?_
    refine V_icmp_eq (tgt := 155) dX7_aheadOf_125 (by decide) (fun hc2 => ?_) (fun hc2 => ?_)
    · have hf := if_t hf hc2
      refine V_keep [true, true, true, true, false, true, false, false] rfl ?_
      exact mM_aheadOf_155_v σ hE k14 hk14 v1 v2 v3 v5 hf
    · have hf := if_f hf hc2
      refine V_aload_n dX7_aheadOf_128 rfl ?_
      refine VM_getR fX7_7 ⟨rfl, rfl⟩ rfl dX7_aheadOf_129 ?_
      refine V_iload dX7_aheadOf_132 rfl ?_
      refine V_iconst dX7_aheadOf_134 kc_2 ?_
      refine V_iadd dX7_aheadOf_135 ?_
      obtain ⟨hb3, hf⟩ := ck_ex hf
      refine VM_ldI (n := 23016) (k := (v6 + (2 : Int32)).toNatClampNeg) rfl hb3 rfl dX7_aheadOf_136 ?_
      refine V_aload_n dX7_aheadOf_137 rfl ?_
      refine VM_getR fX7_7 ⟨rfl, rfl⟩ rfl dX7_aheadOf_138 ?_
      refine V_sipush dX7_aheadOf_141 ks_2528 ?_
      refine V_iconst dX7_aheadOf_144 kc_5 ?_
      refine V_iload dX7_aheadOf_145 rfl ?_
      refine V_imul dX7_aheadOf_147 ?_
      refine V_iadd dX7_aheadOf_148 ?_
      refine V_iconst dX7_aheadOf_149 kc_2 ?_
      refine V_iadd dX7_aheadOf_150 ?_
      obtain ⟨hb4, hf⟩ := ck_ex hf
      refine VM_ldI (n := 23016) (k := (((2528 : Int32) + ((5 : Int32) * v4)) + (2 : Int32)).toNatClampNeg) rfl hb4 rfl dX7_aheadOf_151 ?_
      refine V_icmp_lt (tgt := 160) dX7_aheadOf_152 (by decide) (fun hc5 => ?_) (fun hc5 => ?_)
      · have hf := if_t hf hc5
        refine V_keep [true, true, true, true, true, true, false, false] rfl ?_
        exact mM_aheadOf_160_v σ hE k14 hk14 v1 v2 v3 v4 v5 hf
      · have hf := if_f hf hc5
        refine V_keep [true, true, true, true, false, true, false, false] rfl ?_
        exact mM_aheadOf_155_v σ hE k14 hk14 v1 v2 v3 v5 hf
set_option maxHeartbeats 4000000 in
theorem mM_aheadOf_114_v {X : CX} {w0 : AH} {z : ZZ} {h : Nat} {r : Int32} (σ : SM) (hE : XE X w0 1 (some .int) "aheadOf" (.returned (some (.int r))) (wM z h σ)) (k14 : Int32 → Int32 → Int32 → Int32 → Int32 → Option (Int32)) (hk14 : ∀ (v1 : Int32) (v2 : Int32) (v3 : Int32) (v4 : Int32) (v5 : Int32), k14 v1 v2 v3 v4 v5 = some r → V X cX7_aheadOf RX7 8 1 (wM z h σ) 14 [some (.ref h), some (.int v1), some (.int v2), some (.int v3), some (.int v4), some (.int v5), none, none] []) (v1 : Int32) (v2 : Int32) (v3 : Int32) (v4 : Int32) (v5 : Int32) (v6 : Int32) (hf : mM_aheadOf_114 σ k14 v1 v2 v3 v4 v5 v6 = some r) : V X cX7_aheadOf RX7 8 1 (wM z h σ) 114 [some (.ref h), some (.int v1), some (.int v2), some (.int v3), some (.int v4), some (.int v5), some (.int v6), none] [] := by
  unfold mM_aheadOf_114 at hf
  refine V_iconst dX7_aheadOf_114 kc_0 ?_
  exact mM_aheadOf_115_v σ hE k14 hk14 v1 v2 v3 v4 v5 v6 (0 : Int32) hf
set_option maxHeartbeats 4000000 in
theorem mM_aheadOf_110_v {X : CX} {w0 : AH} {z : ZZ} {h : Nat} {r : Int32} (σ : SM) (hE : XE X w0 1 (some .int) "aheadOf" (.returned (some (.int r))) (wM z h σ)) (k14 : Int32 → Int32 → Int32 → Int32 → Int32 → Option (Int32)) (hk14 : ∀ (v1 : Int32) (v2 : Int32) (v3 : Int32) (v4 : Int32) (v5 : Int32), k14 v1 v2 v3 v4 v5 = some r → V X cX7_aheadOf RX7 8 1 (wM z h σ) 14 [some (.ref h), some (.int v1), some (.int v2), some (.int v3), some (.int v4), some (.int v5), none, none] []) (v1 : Int32) (v2 : Int32) (v3 : Int32) (v4 : Int32) (v5 : Int32) (v6 : Int32) (hf : mM_aheadOf_110 σ k14 v1 v2 v3 v4 v5 v6 = some r) : V X cX7_aheadOf RX7 8 1 (wM z h σ) 110 [some (.ref h), some (.int v1), some (.int v2), some (.int v3), some (.int v4), some (.int v5), some (.int v6), none] [] := by
  unfold mM_aheadOf_110 at hf
  refine V_iconst dX7_aheadOf_110 kc_1 ?_
  refine V_goto (tgt := 115) dX7_aheadOf_111 (by decide) ?_
  exact mM_aheadOf_115_v σ hE k14 hk14 v1 v2 v3 v4 v5 v6 (1 : Int32) hf
set_option maxHeartbeats 4000000 in
theorem mM_aheadOf_14_v {X : CX} {w0 : AH} {z : ZZ} {h : Nat} {r : Int32} (σ : SM) (hE : XE X w0 1 (some .int) "aheadOf" (.returned (some (.int r))) (wM z h σ)) (k14 : Int32 → Int32 → Int32 → Int32 → Int32 → Option (Int32)) (hk14 : ∀ (v1 : Int32) (v2 : Int32) (v3 : Int32) (v4 : Int32) (v5 : Int32), k14 v1 v2 v3 v4 v5 = some r → V X cX7_aheadOf RX7 8 1 (wM z h σ) 14 [some (.ref h), some (.int v1), some (.int v2), some (.int v3), some (.int v4), some (.int v5), none, none] []) (v1 : Int32) (v2 : Int32) (v3 : Int32) (v4 : Int32) (v5 : Int32) (hf : mM_aheadOf_14 σ k14 v1 v2 v3 v4 v5 = some r) : V X cX7_aheadOf RX7 8 1 (wM z h σ) 14 [some (.ref h), some (.int v1), some (.int v2), some (.int v3), some (.int v4), some (.int v5), none, none] [] := by
  unfold mM_aheadOf_14 at hf
  refine V_iload dX7_aheadOf_14 rfl ?_
  refine V_aload_n dX7_aheadOf_16 rfl ?_
  refine VM_getR fX7_7 ⟨rfl, rfl⟩ rfl dX7_aheadOf_17 ?_
  refine V_iconst dX7_aheadOf_20 kc_5 ?_
  refine VM_ldI (n := 23016) (k := 5) rfl (by decide) (by decide) dX7_aheadOf_21 ?_
  refine V_icmp_ge (tgt := 170) dX7_aheadOf_22 (by decide) (fun hc1 => ?_) (fun hc1 => ?_)
  · have hf := if_t hf hc1
    refine V_iload dX7_aheadOf_170 rfl ?_
    cases some_ex hf
    exact V_iret hE dX7_aheadOf_172
  · have hf := if_f hf hc1
    refine V_sipush dX7_aheadOf_25 ks_2528 ?_
    refine V_iconst dX7_aheadOf_28 kc_5 ?_
    refine V_iload dX7_aheadOf_29 rfl ?_
    refine V_imul dX7_aheadOf_31 ?_
    refine V_iadd dX7_aheadOf_32 ?_
    refine V_istore (ls' := [some (.ref h), some (.int v1), some (.int v2), some (.int v3), some (.int v4), some (.int v5), some (.int ((2528 : Int32) + ((5 : Int32) * v5))), none]) dX7_aheadOf_33 (by decide) rfl ?_
    refine V_aload_n dX7_aheadOf_35 rfl ?_
    refine VM_getR fX7_7 ⟨rfl, rfl⟩ rfl dX7_aheadOf_36 ?_
    refine V_iload dX7_aheadOf_39 rfl ?_
    obtain ⟨hb2, hf⟩ := ck_ex hf
    refine VM_ldI (n := 23016) (k := ((2528 : Int32) + ((5 : Int32) * v5)).toNatClampNeg) rfl hb2 rfl dX7_aheadOf_41 ?_
    refine V_aload_n dX7_aheadOf_42 rfl ?_
    refine VM_getR fX7_7 ⟨rfl, rfl⟩ rfl dX7_aheadOf_43 ?_
    refine V_iload_n dX7_aheadOf_46 rfl ?_
    obtain ⟨hb3, hf⟩ := ck_ex hf
    refine VM_ldI (n := 23016) (k := v3.toNatClampNeg) rfl hb3 rfl dX7_aheadOf_47 ?_
    refine V_icmp_ne (tgt := 114) dX7_aheadOf_48 (by decide) (fun hc4 => ?_) (fun hc4 => ?_)
    · have hf := if_f hf hc4
      exact mM_aheadOf_114_v σ hE k14 hk14 v1 v2 v3 v4 v5 ((2528 : Int32) + ((5 : Int32) * v5)) hf
    · have hf := if_t hf hc4
      refine V_aload_n dX7_aheadOf_51 rfl ?_
      refine VM_getR fX7_7 ⟨rfl, rfl⟩ rfl dX7_aheadOf_52 ?_
      refine V_iload dX7_aheadOf_55 rfl ?_
      refine V_iconst dX7_aheadOf_57 kc_4 ?_
      refine V_iadd dX7_aheadOf_58 ?_
      obtain ⟨hb5, hf⟩ := ck_ex hf
      refine VM_ldI (n := 23016) (k := (((2528 : Int32) + ((5 : Int32) * v5)) + (4 : Int32)).toNatClampNeg) rfl hb5 rfl dX7_aheadOf_59 ?_
      refine V_iload_n dX7_aheadOf_60 rfl ?_
      refine V_icmp_gt (tgt := 114) dX7_aheadOf_61 (by decide) (fun hc6 => ?_) (fun hc6 => ?_)
      · have hf := if_t hf hc6
        exact mM_aheadOf_114_v σ hE k14 hk14 v1 v2 v3 v4 v5 ((2528 : Int32) + ((5 : Int32) * v5)) hf
      · have hf := if_f hf hc6
        refine V_aload_n dX7_aheadOf_64 rfl ?_
        refine VM_getR fX7_7 ⟨rfl, rfl⟩ rfl dX7_aheadOf_65 ?_
        refine V_iload dX7_aheadOf_68 rfl ?_
        refine V_iconst dX7_aheadOf_70 kc_2 ?_
        refine V_iadd dX7_aheadOf_71 ?_
        obtain ⟨hb7, hf⟩ := ck_ex hf
        refine VM_ldI (n := 23016) (k := (((2528 : Int32) + ((5 : Int32) * v5)) + (2 : Int32)).toNatClampNeg) rfl hb7 rfl dX7_aheadOf_72 ?_
        refine V_aload_n dX7_aheadOf_73 rfl ?_
        refine VM_getR fX7_7 ⟨rfl, rfl⟩ rfl dX7_aheadOf_74 ?_
        refine V_iload_n dX7_aheadOf_77 rfl ?_
        refine V_iconst dX7_aheadOf_78 kc_2 ?_
        refine V_iadd dX7_aheadOf_79 ?_
        obtain ⟨hb8, hf⟩ := ck_ex hf
        refine VM_ldI (n := 23016) (k := (v3 + (2 : Int32)).toNatClampNeg) rfl hb8 rfl dX7_aheadOf_80 ?_
        refine V_icmp_lt (tgt := 110) dX7_aheadOf_81 (by decide) (fun hc9 => ?_) (fun hc9 => ?_)
        · have hf := if_t hf hc9
          exact mM_aheadOf_110_v σ hE k14 hk14 v1 v2 v3 v4 v5 ((2528 : Int32) + ((5 : Int32) * v5)) hf
        · have hf := if_f hf hc9
          refine V_aload_n dX7_aheadOf_84 rfl ?_
          refine VM_getR fX7_7 ⟨rfl, rfl⟩ rfl dX7_aheadOf_85 ?_
          refine V_iload dX7_aheadOf_88 rfl ?_
          refine V_iconst dX7_aheadOf_90 kc_2 ?_
          refine V_iadd dX7_aheadOf_91 ?_
          obtain ⟨hb10, hf⟩ := ck_ex hf
          refine VM_ldI (n := 23016) (k := (((2528 : Int32) + ((5 : Int32) * v5)) + (2 : Int32)).toNatClampNeg) rfl hb10 rfl dX7_aheadOf_92 ?_
          refine V_aload_n dX7_aheadOf_93 rfl ?_
          refine VM_getR fX7_7 ⟨rfl, rfl⟩ rfl dX7_aheadOf_94 ?_
          refine V_iload_n dX7_aheadOf_97 rfl ?_
          refine V_iconst dX7_aheadOf_98 kc_2 ?_
          refine V_iadd dX7_aheadOf_99 ?_
          obtain ⟨hb11, hf⟩ := ck_ex hf
          refine VM_ldI (n := 23016) (k := (v3 + (2 : Int32)).toNatClampNeg) rfl hb11 rfl dX7_aheadOf_100 ?_
          refine V_icmp_ne (tgt := 114) dX7_aheadOf_101 (by decide) (fun hc12 => ?_) (fun hc12 => ?_)
          · have hf := if_f hf hc12
            exact mM_aheadOf_114_v σ hE k14 hk14 v1 v2 v3 v4 v5 ((2528 : Int32) + ((5 : Int32) * v5)) hf
          · have hf := if_t hf hc12
            refine V_iload dX7_aheadOf_104 rfl ?_
            refine V_iload_n dX7_aheadOf_106 rfl ?_
            refine V_icmp_ge (tgt := 114) dX7_aheadOf_107 (by decide) (fun hc13 => ?_) (fun hc13 => ?_)
            · have hf := if_t hf hc13
              exact mM_aheadOf_114_v σ hE k14 hk14 v1 v2 v3 v4 v5 ((2528 : Int32) + ((5 : Int32) * v5)) hf
            · have hf := if_f hf hc13
              exact mM_aheadOf_110_v σ hE k14 hk14 v1 v2 v3 v4 v5 ((2528 : Int32) + ((5 : Int32) * v5)) hf
set_option maxHeartbeats 4000000 in
theorem mM_aheadOf_ok (l : Launch) (D : DD) (z : ZZ) (h : Nat) (p0 : Int32) (p1 : Int32) (σ : SM) (r : Int32) (hf : mM_aheadOf p0 p1 σ = some r) : MA l D yX7_aheadOf cX7_aheadOf 8 (some .int) 1 [.ref h, .int p0, .int p1] (wM z h σ) (.returned (some (.int r))) (wM z h σ) := by
  refine MA.intro (own := RX7) (nm := "aheadOf") (ls := [some (.ref h), some (.int p0), some (.int p1), none, none, none, none, none]) (by decide) rfl rfl (Nat.le_of_ble_eq_true rfl) rfl (fun X hl hD hE => ?_)
  subst hl hD
  unfold mM_aheadOf at hf
  refine V_sipush dX7_aheadOf_0 ks_2528 ?_
  refine V_iconst dX7_aheadOf_3 kc_5 ?_
  refine V_iload_n dX7_aheadOf_4 rfl ?_
  refine V_imul dX7_aheadOf_5 ?_
  refine V_iadd dX7_aheadOf_6 ?_
  refine V_istore_n (ls' := [some (.ref h), some (.int p0), some (.int p1), some (.int ((2528 : Int32) + ((5 : Int32) * p0))), none, none, none, none]) dX7_aheadOf_7 (by decide) rfl ?_
  refine V_iconst dX7_aheadOf_8 kc_m1 ?_
  refine V_istore (ls' := [some (.ref h), some (.int p0), some (.int p1), some (.int ((2528 : Int32) + ((5 : Int32) * p0))), some (.int (-1 : Int32)), none, none, none]) dX7_aheadOf_9 (by decide) rfl ?_
  refine V_iconst dX7_aheadOf_11 kc_0 ?_
  refine V_istore (ls' := [some (.ref h), some (.int p0), some (.int p1), some (.int ((2528 : Int32) + ((5 : Int32) * p0))), some (.int (-1 : Int32)), some (.int (0 : Int32)), none, none]) dX7_aheadOf_12 (by decide) rfl ?_
  exact lq5_ex (P := fun v1 v2 v3 v4 v5 => V X cX7_aheadOf RX7 8 1 (wM z h σ) 14 [some (.ref h), some (.int v1), some (.int v2), some (.int v3), some (.int v4), some (.int v5), none, none] []) (fun k hk v1 v2 v3 v4 v5 hf => mM_aheadOf_14_v σ hE k hk v1 v2 v3 v4 v5 hf) LF p0 p1 ((2528 : Int32) + ((5 : Int32) * p0)) (-1 : Int32) (0 : Int32) hf
set_option maxHeartbeats 4000000 in
theorem mM_broken_ok (l : Launch) (D : DD) (z : ZZ) (h : Nat) (p0 : Int32) (p1 : Int32) (p2 : Int32) (σ : SM) (r : Int32) (σ' : SM) (hf : mM_broken p0 p1 p2 σ = some (r, σ')) : MA l D yX7_broken cX7_broken 6 (some .int) 3 [.ref h, .int p0, .int p1, .int p2] (wM z h σ) (.returned (some (.int r))) (wM z h σ') := by
  refine MA.intro (own := RX7) (nm := "broken") (ls := [some (.ref h), some (.int p0), some (.int p1), some (.int p2), none, none]) (by decide) rfl rfl (Nat.le_of_ble_eq_true rfl) rfl (fun X hl hD hE => ?_)
  subst hl hD
  unfold mM_broken at hf
  refine V_aload_n dX7_broken_0 rfl ?_
  refine V_iconst dX7_broken_1 kc_0 ?_
  obtain ⟨σ1, hs2, hf⟩ := st1_ex hf
  refine VM_putI fwX7_113 hs2 dX7_broken_2 ?_
  refine V_aload_n dX7_broken_5 rfl ?_
  refine V_iload_n dX7_broken_6 rfl ?_
  obtain ⟨r4, hc3, hf⟩ := bd1_ex hf
  refine V_cV (av := [.int p0]) (rest := []) (st' := [.int r4]) (mM_isBox_ok _ _ _ _ _ _ _ hc3) vcX7_507 (wM_k0 _ _ _) (by decide) rfl rfl (Nat.le_of_ble_eq_true rfl) dX7_broken_7 rfl ?_
  refine V_if_eq (tgt := 32) dX7_broken_10 (by decide) (fun hc5 => ?_) (fun hc5 => ?_)
  · have hf := if_t hf hc5
    refine V_iconst dX7_broken_32 kc_m1 ?_
    cases some_ex hf
    exact V_iret hE dX7_broken_33
  · have hf := if_f hf hc5
    refine V_iload_n dX7_broken_13 rfl ?_
    obtain ⟨r7, hc6, hf⟩ := bd1_ex hf
    refine V_cS (rest := []) (st' := [.int r7]) (mM_isDay_ok _ _ _ _ _ hc6) scX7_159 (by decide) rfl rfl (Nat.le_of_ble_eq_true rfl) dX7_broken_14 rfl ?_
    refine V_if_eq (tgt := 32) dX7_broken_17 (by decide) (fun hc8 => ?_) (fun hc8 => ?_)
    · have hf := if_t hf hc8
      refine V_iconst dX7_broken_32 kc_m1 ?_
      cases some_ex hf
      exact V_iret hE dX7_broken_33
    · have hf := if_f hf hc8
      refine V_iload_n dX7_broken_20 rfl ?_
      refine V_i2l dX7_broken_21 ?_
      refine V_lconst dX7_broken_22 kl_0 ?_
      refine V_ldc2 q2108 dX7_broken_23 ?_
      obtain ⟨r10, hc9, hf⟩ := bd1_ex hf
      refine V_cS (rest := []) (st' := [.int r10]) (mM_in_ok _ _ _ _ _ _ _ hc9) scX7_121 (by decide) rfl rfl (Nat.le_of_ble_eq_true rfl) dX7_broken_26 rfl ?_
      refine V_if_ne (tgt := 34) dX7_broken_29 (by decide) (fun hc11 => ?_) (fun hc11 => ?_)
      · have hf := if_f hf hc11
        refine V_aload_n dX7_broken_34 rfl ?_
        refine V_iload_n dX7_broken_35 rfl ?_
        refine V_iload_n dX7_broken_36 rfl ?_
        obtain ⟨r13, hc12, hf⟩ := bd1_ex hf
        refine V_cV (av := [.int p0, .int p1]) (rest := []) (st' := [.int r13]) (mM_brokenOf_ok _ _ _ _ _ _ _ _ hc12) vcX7_441 (wM_k0 _ _ _) (by decide) rfl rfl (Nat.le_of_ble_eq_true rfl) dX7_broken_37 rfl ?_
        refine V_istore (ls' := [some (.ref h), some (.int p0), some (.int p1), some (.int p2), some (.int r13), none]) dX7_broken_40 (by decide) rfl ?_
        refine V_iload dX7_broken_42 rfl ?_
        refine V_iconst dX7_broken_44 kc_m1 ?_
        refine V_icmp_ne (tgt := 50) dX7_broken_45 (by decide) (fun hc14 => ?_) (fun hc14 => ?_)
        · have hf := if_f hf hc14
          refine V_iload_n dX7_broken_50 rfl ?_
          refine V_iconst dX7_broken_51 kc_1 ?_
          refine V_icmp_ne (tgt := 90) dX7_broken_52 (by decide) (fun hc15 => ?_) (fun hc15 => ?_)
          · have hf := if_f hf hc15
            refine V_aload_n dX7_broken_90 rfl ?_
            refine VM_getR fX7_7 ⟨rfl, rfl⟩ rfl dX7_broken_91 ?_
            refine V_sipush dX7_broken_94 ks_2528 ?_
            refine V_iconst dX7_broken_97 kc_5 ?_
            refine V_iload dX7_broken_98 rfl ?_
            refine V_imul dX7_broken_100 ?_
            refine V_iadd dX7_broken_101 ?_
            refine V_iload_n dX7_broken_102 rfl ?_
            refine V_if_ne (tgt := 110) dX7_broken_103 (by decide) (fun hc16 => ?_) (fun hc16 => ?_)
            · have hf := if_f hf hc16
              refine V_iconst dX7_broken_110 kc_2 ?_
              refine V_iadd dX7_broken_111 ?_
              obtain ⟨hb17, hf⟩ := ck_ex hf
              refine VM_ldI (n := 23016) (k := (((2528 : Int32) + ((5 : Int32) * r13)) + (2 : Int32)).toNatClampNeg) rfl hb17 rfl dX7_broken_112 ?_
              cases some_ex hf
              exact V_iret hE dX7_broken_113
            · have hf := if_t hf hc16
              refine V_iconst dX7_broken_106 kc_1 ?_
              refine V_goto (tgt := 111) dX7_broken_107 (by decide) ?_
              refine V_iadd dX7_broken_111 ?_
              obtain ⟨hb18, hf⟩ := ck_ex hf
              refine VM_ldI (n := 23016) (k := (((2528 : Int32) + ((5 : Int32) * r13)) + (1 : Int32)).toNatClampNeg) rfl hb18 rfl dX7_broken_112 ?_
              cases some_ex hf
              exact V_iret hE dX7_broken_113
          · have hf := if_t hf hc15
            refine V_aload_n dX7_broken_55 rfl ?_
            refine V_iload dX7_broken_56 rfl ?_
            refine V_iload_n dX7_broken_58 rfl ?_
            obtain ⟨r20, hc19, hf⟩ := bd1_ex hf
            refine V_cV (av := [.int r13, .int p1]) (rest := []) (st' := [.int r20]) (mM_aheadOf_ok _ _ _ _ _ _ _ _ hc19) vcX7_510 (wM_k0 _ _ _) (by decide) rfl rfl (Nat.le_of_ble_eq_true rfl) dX7_broken_59 rfl ?_
            refine V_istore (ls' := [some (.ref h), some (.int p0), some (.int p1), some (.int p2), some (.int r13), some (.int r20)]) dX7_broken_62 (by decide) rfl ?_
            refine V_iload dX7_broken_64 rfl ?_
            refine V_iconst dX7_broken_66 kc_m1 ?_
            refine V_icmp_ne (tgt := 74) dX7_broken_67 (by decide) (fun hc21 => ?_) (fun hc21 => ?_)
            · have hf := if_f hf hc21
              refine V_aload_n dX7_broken_74 rfl ?_
              refine VM_getR fX7_7 ⟨rfl, rfl⟩ rfl dX7_broken_75 ?_
              refine V_sipush dX7_broken_78 ks_2528 ?_
              refine V_iconst dX7_broken_81 kc_5 ?_
              refine V_iload dX7_broken_82 rfl ?_
              refine V_imul dX7_broken_84 ?_
              refine V_iadd dX7_broken_85 ?_
              refine V_iconst dX7_broken_86 kc_1 ?_
              refine V_iadd dX7_broken_87 ?_
              obtain ⟨hb22, hf⟩ := ck_ex hf
              refine VM_ldI (n := 23016) (k := (((2528 : Int32) + ((5 : Int32) * r20)) + (1 : Int32)).toNatClampNeg) rfl hb22 rfl dX7_broken_88 ?_
              cases some_ex hf
              exact V_iret hE dX7_broken_89
            · have hf := if_t hf hc21
              refine V_iconst dX7_broken_70 kc_m1 ?_
              refine V_goto (tgt := 89) dX7_broken_71 (by decide) ?_
              cases some_ex hf
              exact V_iret hE dX7_broken_89
        · have hf := if_t hf hc14
          refine V_iconst dX7_broken_48 kc_m1 ?_
          cases some_ex hf
          exact V_iret hE dX7_broken_49
      · have hf := if_t hf hc11
        refine V_iconst dX7_broken_32 kc_m1 ?_
        cases some_ex hf
        exact V_iret hE dX7_broken_33
set_option maxHeartbeats 4000000 in
theorem mM_paper_37_v {X : CX} {w0 : AH} {z : ZZ} {h : Nat} {r : Int32} {σ' : SM} (hE : XE X w0 3 (some .int) "paper" (.returned (some (.int r))) (wM z h σ')) (σ : SM) (hf : mM_paper_37 σ = some (r, σ')) : V X cX7_paper RX7 5 3 (wM z h σ) 37 [some (.ref h), none, none, none, none] [] := by
  unfold mM_paper_37 at hf
  refine V_aload_n dX7_paper_37 rfl ?_
  refine V_iconst dX7_paper_38 kc_m1 ?_
  obtain ⟨r2, σ3, hc1, hf⟩ := bd2_ex hf
  refine V_cV (av := [.int (-1 : Int32)]) (rest := []) (st' := [.int r2]) (mM_told_ok _ _ _ _ _ _ _ _ hc1) vcX7_125 (wM_k0 _ _ _) (by decide) rfl rfl (Nat.le_of_ble_eq_true rfl) dX7_paper_39 rfl ?_
  cases some_ex hf
  exact V_iret hE dX7_paper_42
set_option maxHeartbeats 4000000 in
theorem mM_paper_ok (l : Launch) (D : DD) (z : ZZ) (h : Nat) (p0 : Int32) (p1 : Int32) (p2 : Int32) (p3 : Int32) (σ : SM) (r : Int32) (σ' : SM) (hf : mM_paper p0 p1 p2 p3 σ = some (r, σ')) : MA l D yX7_paper cX7_paper 5 (some .int) 3 [.ref h, .int p0, .int p1, .int p2, .int p3] (wM z h σ) (.returned (some (.int r))) (wM z h σ') := by
  refine MA.intro (own := RX7) (nm := "paper") (ls := [some (.ref h), some (.int p0), some (.int p1), some (.int p2), some (.int p3)]) (by decide) rfl rfl (Nat.le_of_ble_eq_true rfl) rfl (fun X hl hD hE => ?_)
  subst hl hD
  unfold mM_paper at hf
  refine V_aload_n dX7_paper_0 rfl ?_
  refine V_iconst dX7_paper_1 kc_0 ?_
  obtain ⟨σ1, hs2, hf⟩ := st1_ex hf
  refine VM_putI fwX7_113 hs2 dX7_paper_2 ?_
  refine V_iload_n dX7_paper_5 rfl ?_
  refine V_i2l dX7_paper_6 ?_
  refine V_lconst dX7_paper_7 kl_0 ?_
  refine V_ldc2 q1989 dX7_paper_8 ?_
  obtain ⟨r4, hc3, hf⟩ := bd1_ex hf
  refine V_cS (rest := []) (st' := [.int r4]) (mM_in_ok _ _ _ _ _ _ _ hc3) scX7_121 (by decide) rfl rfl (Nat.le_of_ble_eq_true rfl) dX7_paper_11 rfl ?_
  refine V_if_eq (tgt := 37) dX7_paper_14 (by decide) (fun hc5 => ?_) (fun hc5 => ?_)
  · have hf := if_t hf hc5
    refine V_keep [true, false, false, false, false] rfl ?_
    exact mM_paper_37_v hE σ1 hf
  · have hf := if_f hf hc5
    refine V_iload_n dX7_paper_17 rfl ?_
    refine V_i2l dX7_paper_18 ?_
    refine V_lconst dX7_paper_19 kl_0 ?_
    refine V_ldc2 q2250 dX7_paper_20 ?_
    obtain ⟨r7, hc6, hf⟩ := bd1_ex hf
    refine V_cS (rest := []) (st' := [.int r7]) (mM_in_ok _ _ _ _ _ _ _ hc6) scX7_121 (by decide) rfl rfl (Nat.le_of_ble_eq_true rfl) dX7_paper_23 rfl ?_
    refine V_if_eq (tgt := 37) dX7_paper_26 (by decide) (fun hc8 => ?_) (fun hc8 => ?_)
    · have hf := if_t hf hc8
      refine V_keep [true, false, false, false, false] rfl ?_
      exact mM_paper_37_v hE σ1 hf
    · have hf := if_f hf hc8
      refine V_iload dX7_paper_29 rfl ?_
      obtain ⟨r10, hc9, hf⟩ := bd1_ex hf
      refine V_cS (rest := []) (st' := [.int r10]) (mM_isDay_ok _ _ _ _ _ hc9) scX7_159 (by decide) rfl rfl (Nat.le_of_ble_eq_true rfl) dX7_paper_31 rfl ?_
      refine V_if_ne (tgt := 43) dX7_paper_34 (by decide) (fun hc11 => ?_) (fun hc11 => ?_)
      · have hf := if_f hf hc11
        refine V_aload_n dX7_paper_43 rfl ?_
        refine V_iload_n dX7_paper_44 rfl ?_
        obtain ⟨r13, hc12, hf⟩ := bd1_ex hf
        refine V_cV (av := [.int p0]) (rest := []) (st' := [.int r13]) (mM_isBooth_ok _ _ _ _ _ _ _ hc12) vcX7_504 (wM_k0 _ _ _) (by decide) rfl rfl (Nat.le_of_ble_eq_true rfl) dX7_paper_45 rfl ?_
        refine V_if_ne (tgt := 58) dX7_paper_48 (by decide) (fun hc14 => ?_) (fun hc14 => ?_)
        · have hf := if_f hf hc14
          refine V_aload_n dX7_paper_58 rfl ?_
          refine VM_getR fX7_7 ⟨rfl, rfl⟩ rfl dX7_paper_59 ?_
          refine V_bipush dX7_paper_62 kb_7 ?_
          refine VM_ldI (n := 23016) (k := 7) rfl (by decide) (by decide) dX7_paper_64 ?_
          refine V_bipush dX7_paper_65 kb_120 ?_
          refine V_icmp_ne (tgt := 77) dX7_paper_67 (by decide) (fun hc15 => ?_) (fun hc15 => ?_)
          · have hf := if_f hf hc15
            refine V_aload_n dX7_paper_77 rfl ?_
            refine V_sipush dX7_paper_78 ks_3528 ?_
            refine V_iconst dX7_paper_81 kc_4 ?_
            refine V_aload_n dX7_paper_82 rfl ?_
            refine VM_getR fX7_7 ⟨rfl, rfl⟩ rfl dX7_paper_83 ?_
            refine V_bipush dX7_paper_86 kb_7 ?_
            refine VM_ldI (n := 23016) (k := 7) rfl (by decide) (by decide) dX7_paper_88 ?_
            refine V_imul dX7_paper_89 ?_
            refine V_iadd dX7_paper_90 ?_
            refine V_iload_n dX7_paper_91 rfl ?_
            refine V_iload_n dX7_paper_92 rfl ?_
            refine V_iload_n dX7_paper_93 rfl ?_
            refine V_iload dX7_paper_94 rfl ?_
            obtain ⟨σ17, hc16, hf⟩ := bd1_ex hf
            refine V_cV (av := [.int ((3528 : Int32) + ((4 : Int32) * (gI σ1 1 7))), .int p0, .int p1, .int p2, .int p3]) (rest := []) (st' := []) (mM_addFour_ok _ _ _ _ _ _ _ _ _ _ _ hc16) vcX7_151 (wM_k0 _ _ _) (by decide) rfl rfl (Nat.le_of_ble_eq_true rfl) dX7_paper_96 rfl ?_
            refine V_aload_n dX7_paper_99 rfl ?_
            refine VM_getR fX7_7 ⟨rfl, rfl⟩ rfl dX7_paper_100 ?_
            refine V_bipush dX7_paper_103 kb_7 ?_
            refine V_dup2 dX7_paper_105 rfl rfl ?_
            refine VM_ldI (n := 23016) (k := 7) rfl (by decide) (by decide) dX7_paper_106 ?_
            refine V_iconst dX7_paper_107 kc_1 ?_
            refine V_iadd dX7_paper_108 ?_
            obtain ⟨σ18, hs19, hf⟩ := st1_ex hf
            refine VM_stI (n := 23016) (k := 7) rfl (by decide) (by decide) hs19 dX7_paper_109 ?_
            refine V_aload_n dX7_paper_110 rfl ?_
            refine V_aload_n dX7_paper_111 rfl ?_
            refine VM_getR fX7_7 ⟨rfl, rfl⟩ rfl dX7_paper_112 ?_
            refine V_bipush dX7_paper_115 kb_7 ?_
            refine VM_ldI (n := 23016) (k := 7) rfl (by decide) (by decide) dX7_paper_117 ?_
            obtain ⟨r21, σ22, hc20, hf⟩ := bd2_ex hf
            refine V_cV (av := [.int (gI σ18 1 7)]) (rest := []) (st' := [.int r21]) (mM_told_ok _ _ _ _ _ _ _ _ hc20) vcX7_125 (wM_k0 _ _ _) (by decide) rfl rfl (Nat.le_of_ble_eq_true rfl) dX7_paper_118 rfl ?_
            cases some_ex hf
            exact V_iret hE dX7_paper_121
          · have hf := if_t hf hc15
            refine V_aload_n dX7_paper_70 rfl ?_
            refine V_bipush dX7_paper_71 kb_m5 ?_
            obtain ⟨r24, σ25, hc23, hf⟩ := bd2_ex hf
            refine V_cV (av := [.int (-5 : Int32)]) (rest := []) (st' := [.int r24]) (mM_told_ok _ _ _ _ _ _ _ _ hc23) vcX7_125 (wM_k0 _ _ _) (by decide) rfl rfl (Nat.le_of_ble_eq_true rfl) dX7_paper_73 rfl ?_
            cases some_ex hf
            exact V_iret hE dX7_paper_76
        · have hf := if_t hf hc14
          refine V_aload_n dX7_paper_51 rfl ?_
          refine V_bipush dX7_paper_52 kb_m2 ?_
          obtain ⟨r27, σ28, hc26, hf⟩ := bd2_ex hf
          refine V_cV (av := [.int (-2 : Int32)]) (rest := []) (st' := [.int r27]) (mM_told_ok _ _ _ _ _ _ _ _ hc26) vcX7_125 (wM_k0 _ _ _) (by decide) rfl rfl (Nat.le_of_ble_eq_true rfl) dX7_paper_54 rfl ?_
          cases some_ex hf
          exact V_iret hE dX7_paper_57
      · have hf := if_t hf hc11
        refine V_keep [true, false, false, false, false] rfl ?_
        exact mM_paper_37_v hE σ1 hf
set_option maxHeartbeats 4000000 in
theorem mM_count_50_v {X : CX} {w0 : AH} {z : ZZ} {h : Nat} {r : Int32} {σ' : SM} (hE : XE X w0 3 (some .int) "count" (.returned (some (.int r))) (wM z h σ')) (σ : SM) (hf : mM_count_50 σ = some (r, σ')) : V X cX7_count RX7 7 3 (wM z h σ) 50 [some (.ref h), none, none, none, none, none, none] [] := by
  unfold mM_count_50 at hf
  refine V_aload_n dX7_count_50 rfl ?_
  refine V_iconst dX7_count_51 kc_m1 ?_
  obtain ⟨r2, σ3, hc1, hf⟩ := bd2_ex hf
  refine V_cV (av := [.int (-1 : Int32)]) (rest := []) (st' := [.int r2]) (mM_told_ok _ _ _ _ _ _ _ _ hc1) vcX7_125 (wM_k0 _ _ _) (by decide) rfl rfl (Nat.le_of_ble_eq_true rfl) dX7_count_52 rfl ?_
  cases some_ex hf
  exact V_iret hE dX7_count_55
set_option maxHeartbeats 4000000 in
theorem mM_count_ok (l : Launch) (D : DD) (z : ZZ) (h : Nat) (p0 : Int32) (p1 : Int32) (p2 : Int32) (p3 : Int32) (p4 : Int32) (σ : SM) (r : Int32) (σ' : SM) (hf : mM_count p0 p1 p2 p3 p4 σ = some (r, σ')) : MA l D yX7_count cX7_count 7 (some .int) 3 [.ref h, .int p0, .int p1, .int p2, .int p3, .int p4] (wM z h σ) (.returned (some (.int r))) (wM z h σ') := by
  refine MA.intro (own := RX7) (nm := "count") (ls := [some (.ref h), some (.int p0), some (.int p1), some (.int p2), some (.int p3), some (.int p4), none]) (by decide) rfl rfl (Nat.le_of_ble_eq_true rfl) rfl (fun X hl hD hE => ?_)
  subst hl hD
  unfold mM_count at hf
  refine V_aload_n dX7_count_0 rfl ?_
  refine V_iconst dX7_count_1 kc_0 ?_
  obtain ⟨σ1, hs2, hf⟩ := st1_ex hf
  refine VM_putI fwX7_113 hs2 dX7_count_2 ?_
  refine V_iload_n dX7_count_5 rfl ?_
  refine V_i2l dX7_count_6 ?_
  refine V_lconst dX7_count_7 kl_0 ?_
  refine V_ldc2 q2385 dX7_count_8 ?_
  obtain ⟨r4, hc3, hf⟩ := bd1_ex hf
  refine V_cS (rest := []) (st' := [.int r4]) (mM_in_ok _ _ _ _ _ _ _ hc3) scX7_121 (by decide) rfl rfl (Nat.le_of_ble_eq_true rfl) dX7_count_11 rfl ?_
  refine V_if_eq (tgt := 50) dX7_count_14 (by decide) (fun hc5 => ?_) (fun hc5 => ?_)
  · have hf := if_t hf hc5
    refine V_keep [true, false, false, false, false, false, true] rfl ?_
    exact mM_count_50_v hE σ1 hf
  · have hf := if_f hf hc5
    refine V_iload_n dX7_count_17 rfl ?_
    refine V_i2l dX7_count_18 ?_
    refine V_lconst dX7_count_19 kl_0 ?_
    refine V_ldc2 q2192 dX7_count_20 ?_
    obtain ⟨r7, hc6, hf⟩ := bd1_ex hf
    refine V_cS (rest := []) (st' := [.int r7]) (mM_in_ok _ _ _ _ _ _ _ hc6) scX7_121 (by decide) rfl rfl (Nat.le_of_ble_eq_true rfl) dX7_count_23 rfl ?_
    refine V_if_eq (tgt := 50) dX7_count_26 (by decide) (fun hc8 => ?_) (fun hc8 => ?_)
    · have hf := if_t hf hc8
      refine V_keep [true, false, false, false, false, false, true] rfl ?_
      exact mM_count_50_v hE σ1 hf
    · have hf := if_f hf hc8
      refine V_iload dX7_count_29 rfl ?_
      refine V_i2l dX7_count_31 ?_
      refine V_lconst dX7_count_32 kl_0 ?_
      refine V_ldc2 q2386 dX7_count_33 ?_
      obtain ⟨r10, hc9, hf⟩ := bd1_ex hf
      refine V_cS (rest := []) (st' := [.int r10]) (mM_in_ok _ _ _ _ _ _ _ hc9) scX7_121 (by decide) rfl rfl (Nat.le_of_ble_eq_true rfl) dX7_count_36 rfl ?_
      refine V_if_eq (tgt := 50) dX7_count_39 (by decide) (fun hc11 => ?_) (fun hc11 => ?_)
      · have hf := if_t hf hc11
        refine V_keep [true, false, false, false, false, false, true] rfl ?_
        exact mM_count_50_v hE σ1 hf
      · have hf := if_f hf hc11
        refine V_iload dX7_count_42 rfl ?_
        obtain ⟨r13, hc12, hf⟩ := bd1_ex hf
        refine V_cS (rest := []) (st' := [.int r13]) (mM_isDay_ok _ _ _ _ _ hc12) scX7_159 (by decide) rfl rfl (Nat.le_of_ble_eq_true rfl) dX7_count_44 rfl ?_
        refine V_if_ne (tgt := 56) dX7_count_47 (by decide) (fun hc14 => ?_) (fun hc14 => ?_)
        · have hf := if_f hf hc14
          refine V_aload_n dX7_count_56 rfl ?_
          refine V_iload_n dX7_count_57 rfl ?_
          obtain ⟨r16, hc15, hf⟩ := bd1_ex hf
          refine V_cV (av := [.int p0]) (rest := []) (st' := [.int r16]) (mM_isBox_ok _ _ _ _ _ _ _ hc15) vcX7_507 (wM_k0 _ _ _) (by decide) rfl rfl (Nat.le_of_ble_eq_true rfl) dX7_count_58 rfl ?_
          refine V_if_ne (tgt := 71) dX7_count_61 (by decide) (fun hc17 => ?_) (fun hc17 => ?_)
          · have hf := if_f hf hc17
            refine V_aload_n dX7_count_71 rfl ?_
            refine VM_getR fX7_7 ⟨rfl, rfl⟩ rfl dX7_count_72 ?_
            refine V_bipush dX7_count_75 kb_6 ?_
            refine VM_ldI (n := 23016) (k := 6) rfl (by decide) (by decide) dX7_count_77 ?_
            refine V_sipush dX7_count_78 ks_200 ?_
            refine V_icmp_ne (tgt := 91) dX7_count_81 (by decide) (fun hc18 => ?_) (fun hc18 => ?_)
            · have hf := if_f hf hc18
              refine V_sipush dX7_count_91 ks_4008 ?_
              refine V_iconst dX7_count_94 kc_5 ?_
              refine V_aload_n dX7_count_95 rfl ?_
              refine VM_getR fX7_7 ⟨rfl, rfl⟩ rfl dX7_count_96 ?_
              refine V_bipush dX7_count_99 kb_6 ?_
              refine VM_ldI (n := 23016) (k := 6) rfl (by decide) (by decide) dX7_count_101 ?_
              refine V_imul dX7_count_102 ?_
              refine V_iadd dX7_count_103 ?_
              refine V_istore (ls' := [some (.ref h), some (.int p0), some (.int p1), some (.int p2), some (.int p3), some (.int p4), some (.int ((4008 : Int32) + ((5 : Int32) * (gI σ1 1 6))))]) dX7_count_104 (by decide) rfl ?_
              refine V_aload_n dX7_count_106 rfl ?_
              refine V_iload dX7_count_107 rfl ?_
              refine V_iload_n dX7_count_109 rfl ?_
              refine V_iload_n dX7_count_110 rfl ?_
              refine V_iload_n dX7_count_111 rfl ?_
              refine V_iload dX7_count_112 rfl ?_
              obtain ⟨σ20, hc19, hf⟩ := bd1_ex hf
              refine V_cV (av := [.int ((4008 : Int32) + ((5 : Int32) * (gI σ1 1 6))), .int p0, .int p1, .int p2, .int p3]) (rest := []) (st' := []) (mM_addFour_ok _ _ _ _ _ _ _ _ _ _ _ hc19) vcX7_151 (wM_k0 _ _ _) (by decide) rfl rfl (Nat.le_of_ble_eq_true rfl) dX7_count_114 rfl ?_
              refine V_aload_n dX7_count_117 rfl ?_
              refine VM_getR fX7_7 ⟨rfl, rfl⟩ rfl dX7_count_118 ?_
              refine V_iload dX7_count_121 rfl ?_
              refine V_iconst dX7_count_123 kc_4 ?_
              refine V_iadd dX7_count_124 ?_
              refine V_iload dX7_count_125 rfl ?_
              obtain ⟨hb21, hf⟩ := ck_ex hf
              obtain ⟨σ22, hs23, hf⟩ := st1_ex hf
              refine VM_stI (n := 23016) (k := (((4008 : Int32) + ((5 : Int32) * (gI σ1 1 6))) + (4 : Int32)).toNatClampNeg) rfl hb21 rfl hs23 dX7_count_127 ?_
              refine V_aload_n dX7_count_128 rfl ?_
              refine VM_getR fX7_7 ⟨rfl, rfl⟩ rfl dX7_count_129 ?_
              refine V_bipush dX7_count_132 kb_6 ?_
              refine V_dup2 dX7_count_134 rfl rfl ?_
              refine VM_ldI (n := 23016) (k := 6) rfl (by decide) (by decide) dX7_count_135 ?_
              refine V_iconst dX7_count_136 kc_1 ?_
              refine V_iadd dX7_count_137 ?_
              obtain ⟨σ24, hs25, hf⟩ := st1_ex hf
              refine VM_stI (n := 23016) (k := 6) rfl (by decide) (by decide) hs25 dX7_count_138 ?_
              refine V_aload_n dX7_count_139 rfl ?_
              refine V_aload_n dX7_count_140 rfl ?_
              refine VM_getR fX7_7 ⟨rfl, rfl⟩ rfl dX7_count_141 ?_
              refine V_bipush dX7_count_144 kb_6 ?_
              refine VM_ldI (n := 23016) (k := 6) rfl (by decide) (by decide) dX7_count_146 ?_
              refine V_iconst dX7_count_147 kc_1 ?_
              refine V_isub dX7_count_148 ?_
              obtain ⟨r27, σ28, hc26, hf⟩ := bd2_ex hf
              refine V_cV (av := [.int ((gI σ24 1 6) - (1 : Int32))]) (rest := []) (st' := [.int r27]) (mM_told_ok _ _ _ _ _ _ _ _ hc26) vcX7_125 (wM_k0 _ _ _) (by decide) rfl rfl (Nat.le_of_ble_eq_true rfl) dX7_count_149 rfl ?_
              cases some_ex hf
              exact V_iret hE dX7_count_152
            · have hf := if_t hf hc18
              refine V_aload_n dX7_count_84 rfl ?_
              refine V_bipush dX7_count_85 kb_m5 ?_
              obtain ⟨r30, σ31, hc29, hf⟩ := bd2_ex hf
              refine V_cV (av := [.int (-5 : Int32)]) (rest := []) (st' := [.int r30]) (mM_told_ok _ _ _ _ _ _ _ _ hc29) vcX7_125 (wM_k0 _ _ _) (by decide) rfl rfl (Nat.le_of_ble_eq_true rfl) dX7_count_87 rfl ?_
              cases some_ex hf
              exact V_iret hE dX7_count_90
          · have hf := if_t hf hc17
            refine V_aload_n dX7_count_64 rfl ?_
            refine V_bipush dX7_count_65 kb_m2 ?_
            obtain ⟨r33, σ34, hc32, hf⟩ := bd2_ex hf
            refine V_cV (av := [.int (-2 : Int32)]) (rest := []) (st' := [.int r33]) (mM_told_ok _ _ _ _ _ _ _ _ hc32) vcX7_125 (wM_k0 _ _ _) (by decide) rfl rfl (Nat.le_of_ble_eq_true rfl) dX7_count_67 rfl ?_
            cases some_ex hf
            exact V_iret hE dX7_count_70
        · have hf := if_t hf hc14
          refine V_keep [true, false, false, false, false, false, true] rfl ?_
          exact mM_count_50_v hE σ1 hf
set_option maxHeartbeats 4000000 in
theorem mM_boothOf_ok (l : Launch) (D : DD) (z : ZZ) (h : Nat) (p0 : Int32) (σ : SM) (r : Int32) (hf : mM_boothOf p0 σ = some r) : MA l D yX7_boothOf cX7_boothOf 2 (some .int) 1 [.ref h, .int p0] (wM z h σ) (.returned (some (.int r))) (wM z h σ) := by
  refine MA.intro (own := RX7) (nm := "boothOf") (ls := [some (.ref h), some (.int p0)]) (by decide) rfl rfl (Nat.le_of_ble_eq_true rfl) rfl (fun X hl hD hE => ?_)
  subst hl hD
  unfold mM_boothOf at hf
  refine V_aload_n dX7_boothOf_0 rfl ?_
  refine VM_getR fX7_7 ⟨rfl, rfl⟩ rfl dX7_boothOf_1 ?_
  refine V_sipush dX7_boothOf_4 ks_2448 ?_
  refine V_iconst dX7_boothOf_7 kc_2 ?_
  refine V_aload_n dX7_boothOf_8 rfl ?_
  refine VM_getR fX7_7 ⟨rfl, rfl⟩ rfl dX7_boothOf_9 ?_
  refine V_sipush dX7_boothOf_12 ks_4008 ?_
  refine V_iconst dX7_boothOf_15 kc_5 ?_
  refine V_iload_n dX7_boothOf_16 rfl ?_
  refine V_imul dX7_boothOf_17 ?_
  refine V_iadd dX7_boothOf_18 ?_
  obtain ⟨hb1, hf⟩ := ck_ex hf
  refine VM_ldI (n := 23016) (k := ((4008 : Int32) + ((5 : Int32) * p0)).toNatClampNeg) rfl hb1 rfl dX7_boothOf_19 ?_
  refine V_imul dX7_boothOf_20 ?_
  refine V_iadd dX7_boothOf_21 ?_
  obtain ⟨hb2, hf⟩ := ck_ex hf
  refine VM_ldI (n := 23016) (k := ((2448 : Int32) + ((2 : Int32) * (gI σ 1 (((4008 : Int32) + ((5 : Int32) * p0)).toNatClampNeg)))).toNatClampNeg) rfl hb2 rfl dX7_boothOf_22 ?_
  cases some_ex hf
  exact V_iret hE dX7_boothOf_23
set_option maxHeartbeats 4000000 in
theorem mM_doesCount_123_v {X : CX} {w0 : AH} {z : ZZ} {h : Nat} {r : Int32} (σ : SM) (hE : XE X w0 1 (some .boolean) "doesCount" (.returned (some (.int r))) (wM z h σ)) (k29 : Int32 → Int32 → Option (Int32)) (hk29 : ∀ (v2 : Int32) (v3 : Int32), k29 v2 v3 = some r → V X cX7_doesCount RX7 5 1 (wM z h σ) 29 [some (.ref h), none, some (.int v2), some (.int v3), none] []) (v2 : Int32) (v3 : Int32) (hf : mM_doesCount_123 σ k29 v2 v3 = some r) : V X cX7_doesCount RX7 5 1 (wM z h σ) 123 [some (.ref h), none, some (.int v2), some (.int v3), none] [] := by
  unfold mM_doesCount_123 at hf
  refine V_inc (ls' := [some (.ref h), none, some (.int v2), some (.int (v3 + (1 : Int32))), none]) dX7_doesCount_123 rfl kc_1 (by decide) rfl ?_
  refine V_goto (tgt := 29) dX7_doesCount_126 (by decide) ?_
  exact hk29 v2 (v3 + (1 : Int32)) hf
set_option maxHeartbeats 4000000 in
theorem mM_doesCount_29_v {X : CX} {w0 : AH} {z : ZZ} {h : Nat} {r : Int32} (σ : SM) (hE : XE X w0 1 (some .boolean) "doesCount" (.returned (some (.int r))) (wM z h σ)) (k29 : Int32 → Int32 → Option (Int32)) (hk29 : ∀ (v2 : Int32) (v3 : Int32), k29 v2 v3 = some r → V X cX7_doesCount RX7 5 1 (wM z h σ) 29 [some (.ref h), none, some (.int v2), some (.int v3), none] []) (v2 : Int32) (v3 : Int32) (hf : mM_doesCount_29 σ k29 v2 v3 = some r) : V X cX7_doesCount RX7 5 1 (wM z h σ) 29 [some (.ref h), none, some (.int v2), some (.int v3), none] [] := by
  unfold mM_doesCount_29 at hf
  refine V_iload_n dX7_doesCount_29 rfl ?_
  refine V_aload_n dX7_doesCount_30 rfl ?_
  refine VM_getR fX7_7 ⟨rfl, rfl⟩ rfl dX7_doesCount_31 ?_
  refine V_bipush dX7_doesCount_34 kb_6 ?_
  refine VM_ldI (n := 23016) (k := 6) rfl (by decide) (by decide) dX7_doesCount_36 ?_
  refine V_icmp_ge (tgt := 129) dX7_doesCount_37 (by decide) (fun hc1 => ?_) (fun hc1 => ?_)
  · have hf := if_t hf hc1
    refine V_iconst dX7_doesCount_129 kc_1 ?_
    cases some_ex hf
    exact V_zret hE (by decide) dX7_doesCount_130
  · have hf := if_f hf hc1
    refine V_sipush dX7_doesCount_40 ks_4008 ?_
    refine V_iconst dX7_doesCount_43 kc_5 ?_
    refine V_iload_n dX7_doesCount_44 rfl ?_
    refine V_imul dX7_doesCount_45 ?_
    refine V_iadd dX7_doesCount_46 ?_
    refine V_istore (ls' := [some (.ref h), none, some (.int v2), some (.int v3), some (.int ((4008 : Int32) + ((5 : Int32) * v3)))]) dX7_doesCount_47 (by decide) rfl ?_
    refine V_aload_n dX7_doesCount_49 rfl ?_
    refine VM_getR fX7_7 ⟨rfl, rfl⟩ rfl dX7_doesCount_50 ?_
    refine V_iload dX7_doesCount_53 rfl ?_
    obtain ⟨hb2, hf⟩ := ck_ex hf
    refine VM_ldI (n := 23016) (k := ((4008 : Int32) + ((5 : Int32) * v3)).toNatClampNeg) rfl hb2 rfl dX7_doesCount_55 ?_
    refine V_aload_n dX7_doesCount_56 rfl ?_
    refine VM_getR fX7_7 ⟨rfl, rfl⟩ rfl dX7_doesCount_57 ?_
    refine V_iload_n dX7_doesCount_60 rfl ?_
    obtain ⟨hb3, hf⟩ := ck_ex hf
    refine VM_ldI (n := 23016) (k := v2.toNatClampNeg) rfl hb3 rfl dX7_doesCount_61 ?_
    refine V_icmp_ne (tgt := 123) dX7_doesCount_62 (by decide) (fun hc4 => ?_) (fun hc4 => ?_)
    · have hf := if_f hf hc4
      refine V_keep [true, true, true, true, false] rfl ?_
      exact mM_doesCount_123_v σ hE k29 hk29 v2 v3 hf
    · have hf := if_t hf hc4
      refine V_aload_n dX7_doesCount_65 rfl ?_
      refine VM_getR fX7_7 ⟨rfl, rfl⟩ rfl dX7_doesCount_66 ?_
      refine V_iload dX7_doesCount_69 rfl ?_
      refine V_iconst dX7_doesCount_71 kc_1 ?_
      refine V_iadd dX7_doesCount_72 ?_
      obtain ⟨hb5, hf⟩ := ck_ex hf
      refine VM_ldI (n := 23016) (k := (((4008 : Int32) + ((5 : Int32) * v3)) + (1 : Int32)).toNatClampNeg) rfl hb5 rfl dX7_doesCount_73 ?_
      refine V_aload_n dX7_doesCount_74 rfl ?_
      refine VM_getR fX7_7 ⟨rfl, rfl⟩ rfl dX7_doesCount_75 ?_
      refine V_iload_n dX7_doesCount_78 rfl ?_
      refine V_iconst dX7_doesCount_79 kc_1 ?_
      refine V_iadd dX7_doesCount_80 ?_
      obtain ⟨hb6, hf⟩ := ck_ex hf
      refine VM_ldI (n := 23016) (k := (v2 + (1 : Int32)).toNatClampNeg) rfl hb6 rfl dX7_doesCount_81 ?_
      refine V_icmp_ne (tgt := 123) dX7_doesCount_82 (by decide) (fun hc7 => ?_) (fun hc7 => ?_)
      · have hf := if_f hf hc7
        refine V_keep [true, true, true, true, false] rfl ?_
        exact mM_doesCount_123_v σ hE k29 hk29 v2 v3 hf
      · have hf := if_t hf hc7
        refine V_aload_n dX7_doesCount_85 rfl ?_
        refine VM_getR fX7_7 ⟨rfl, rfl⟩ rfl dX7_doesCount_86 ?_
        refine V_iload dX7_doesCount_89 rfl ?_
        refine V_iconst dX7_doesCount_91 kc_2 ?_
        refine V_iadd dX7_doesCount_92 ?_
        obtain ⟨hb8, hf⟩ := ck_ex hf
        refine VM_ldI (n := 23016) (k := (((4008 : Int32) + ((5 : Int32) * v3)) + (2 : Int32)).toNatClampNeg) rfl hb8 rfl dX7_doesCount_93 ?_
        refine V_aload_n dX7_doesCount_94 rfl ?_
        refine VM_getR fX7_7 ⟨rfl, rfl⟩ rfl dX7_doesCount_95 ?_
        refine V_iload_n dX7_doesCount_98 rfl ?_
        refine V_iconst dX7_doesCount_99 kc_2 ?_
        refine V_iadd dX7_doesCount_100 ?_
        obtain ⟨hb9, hf⟩ := ck_ex hf
        refine VM_ldI (n := 23016) (k := (v2 + (2 : Int32)).toNatClampNeg) rfl hb9 rfl dX7_doesCount_101 ?_
        refine V_icmp_ne (tgt := 123) dX7_doesCount_102 (by decide) (fun hc10 => ?_) (fun hc10 => ?_)
        · have hf := if_f hf hc10
          refine V_keep [true, true, true, true, false] rfl ?_
          exact mM_doesCount_123_v σ hE k29 hk29 v2 v3 hf
        · have hf := if_t hf hc10
          refine V_aload_n dX7_doesCount_105 rfl ?_
          refine VM_getR fX7_7 ⟨rfl, rfl⟩ rfl dX7_doesCount_106 ?_
          refine V_iload dX7_doesCount_109 rfl ?_
          refine V_iconst dX7_doesCount_111 kc_4 ?_
          refine V_iadd dX7_doesCount_112 ?_
          obtain ⟨hb11, hf⟩ := ck_ex hf
          refine VM_ldI (n := 23016) (k := (((4008 : Int32) + ((5 : Int32) * v3)) + (4 : Int32)).toNatClampNeg) rfl hb11 rfl dX7_doesCount_113 ?_
          refine V_aload_n dX7_doesCount_114 rfl ?_
          refine VM_getI fX7_185 rfl dX7_doesCount_115 ?_
          refine V_icmp_gt (tgt := 123) dX7_doesCount_118 (by decide) (fun hc12 => ?_) (fun hc12 => ?_)
          · have hf := if_t hf hc12
            refine V_keep [true, true, true, true, false] rfl ?_
            exact mM_doesCount_123_v σ hE k29 hk29 v2 v3 hf
          · have hf := if_f hf hc12
            refine V_iconst dX7_doesCount_121 kc_0 ?_
            cases some_ex hf
            exact V_zret hE (by decide) dX7_doesCount_122
set_option maxHeartbeats 4000000 in
theorem mM_doesCount_ok (l : Launch) (D : DD) (z : ZZ) (h : Nat) (p0 : Int32) (σ : SM) (r : Int32) (hf : mM_doesCount p0 σ = some r) : MA l D yX7_doesCount cX7_doesCount 5 (some .boolean) 1 [.ref h, .int p0] (wM z h σ) (.returned (some (.int r))) (wM z h σ) := by
  refine MA.intro (own := RX7) (nm := "doesCount") (ls := [some (.ref h), some (.int p0), none, none, none]) (by decide) rfl rfl (Nat.le_of_ble_eq_true rfl) rfl (fun X hl hD hE => ?_)
  subst hl hD
  unfold mM_doesCount at hf
  refine V_sipush dX7_doesCount_0 ks_4008 ?_
  refine V_iconst dX7_doesCount_3 kc_5 ?_
  refine V_iload_n dX7_doesCount_4 rfl ?_
  refine V_imul dX7_doesCount_5 ?_
  refine V_iadd dX7_doesCount_6 ?_
  refine V_istore_n (ls' := [some (.ref h), some (.int p0), some (.int ((4008 : Int32) + ((5 : Int32) * p0))), none, none]) dX7_doesCount_7 (by decide) rfl ?_
  refine V_aload_n dX7_doesCount_8 rfl ?_
  refine VM_getR fX7_7 ⟨rfl, rfl⟩ rfl dX7_doesCount_9 ?_
  refine V_iload_n dX7_doesCount_12 rfl ?_
  refine V_iconst dX7_doesCount_13 kc_4 ?_
  refine V_iadd dX7_doesCount_14 ?_
  obtain ⟨hb1, hf⟩ := ck_ex hf
  refine VM_ldI (n := 23016) (k := (((4008 : Int32) + ((5 : Int32) * p0)) + (4 : Int32)).toNatClampNeg) rfl hb1 rfl dX7_doesCount_15 ?_
  refine V_aload_n dX7_doesCount_16 rfl ?_
  refine VM_getI fX7_185 rfl dX7_doesCount_17 ?_
  refine V_icmp_le (tgt := 25) dX7_doesCount_20 (by decide) (fun hc2 => ?_) (fun hc2 => ?_)
  · have hf := if_t hf hc2
    refine V_iload_n dX7_doesCount_25 rfl ?_
    refine V_iconst dX7_doesCount_26 kc_1 ?_
    refine V_iadd dX7_doesCount_27 ?_
    refine V_istore_n (ls' := [some (.ref h), some (.int p0), some (.int ((4008 : Int32) + ((5 : Int32) * p0))), some (.int (p0 + (1 : Int32))), none]) dX7_doesCount_28 (by decide) rfl ?_
    refine V_keep [true, false, true, true, true] rfl ?_
    exact lq2_ex (P := fun v2 v3 => V X cX7_doesCount RX7 5 1 (wM z h σ) 29 [some (.ref h), none, some (.int v2), some (.int v3), none] []) (fun k hk v2 v3 hf => mM_doesCount_29_v σ hE k hk v2 v3 hf) LF ((4008 : Int32) + ((5 : Int32) * p0)) (p0 + (1 : Int32)) hf
  · have hf := if_f hf hc2
    refine V_iconst dX7_doesCount_23 kc_0 ?_
    cases some_ex hf
    exact V_zret hE (by decide) dX7_doesCount_24
set_option maxHeartbeats 4000000 in
theorem mM_putOf_51_v {X : CX} {w0 : AH} {z : ZZ} {h : Nat} {r : Int32} (σ : SM) (hE : XE X w0 2 (some .int) "putOf" (.returned (some (.int r))) (wM z h σ)) (k4 : Int32 → Int32 → Int32 → Option (Int32)) (hk4 : ∀ (v1 : Int32) (v2 : Int32) (v3 : Int32), k4 v1 v2 v3 = some r → V X cX7_putOf RX7 4 2 (wM z h σ) 4 [some (.ref h), some (.int v1), some (.int v2), some (.int v3)] []) (v1 : Int32) (v3 : Int32) (t0 : Int32) (t1 : Int32) (hf : mM_putOf_51 σ k4 v1 v3 t0 t1 = some r) : V X cX7_putOf RX7 4 2 (wM z h σ) 51 [some (.ref h), some (.int v1), none, some (.int v3)] [.int t0, .int t1] := by
  unfold mM_putOf_51 at hf
  refine V_iadd dX7_putOf_51 ?_
  refine V_istore_n (ls' := [some (.ref h), some (.int v1), some (.int (t1 + t0)), some (.int v3)]) dX7_putOf_52 (by decide) rfl ?_
  refine V_inc (ls' := [some (.ref h), some (.int v1), some (.int (t1 + t0)), some (.int (v3 + (1 : Int32)))]) dX7_putOf_53 rfl kc_1 (by decide) rfl ?_
  refine V_goto (tgt := 4) dX7_putOf_56 (by decide) ?_
  exact hk4 v1 (t1 + t0) (v3 + (1 : Int32)) hf
set_option maxHeartbeats 4000000 in
theorem mM_putOf_50_v {X : CX} {w0 : AH} {z : ZZ} {h : Nat} {r : Int32} (σ : SM) (hE : XE X w0 2 (some .int) "putOf" (.returned (some (.int r))) (wM z h σ)) (k4 : Int32 → Int32 → Int32 → Option (Int32)) (hk4 : ∀ (v1 : Int32) (v2 : Int32) (v3 : Int32), k4 v1 v2 v3 = some r → V X cX7_putOf RX7 4 2 (wM z h σ) 4 [some (.ref h), some (.int v1), some (.int v2), some (.int v3)] []) (v1 : Int32) (v3 : Int32) (t0 : Int32) (hf : mM_putOf_50 σ k4 v1 v3 t0 = some r) : V X cX7_putOf RX7 4 2 (wM z h σ) 50 [some (.ref h), some (.int v1), none, some (.int v3)] [.int t0] := by
  unfold mM_putOf_50 at hf
  refine V_iconst dX7_putOf_50 kc_0 ?_
  exact mM_putOf_51_v σ hE k4 hk4 v1 v3 (0 : Int32) t0 hf
set_option maxHeartbeats 4000000 in
theorem mM_putOf_4_v {X : CX} {w0 : AH} {z : ZZ} {h : Nat} {r : Int32} (σ : SM) (hE : XE X w0 2 (some .int) "putOf" (.returned (some (.int r))) (wM z h σ)) (k4 : Int32 → Int32 → Int32 → Option (Int32)) (hk4 : ∀ (v1 : Int32) (v2 : Int32) (v3 : Int32), k4 v1 v2 v3 = some r → V X cX7_putOf RX7 4 2 (wM z h σ) 4 [some (.ref h), some (.int v1), some (.int v2), some (.int v3)] []) (v1 : Int32) (v2 : Int32) (v3 : Int32) (hf : mM_putOf_4 σ k4 v1 v2 v3 = some r) : V X cX7_putOf RX7 4 2 (wM z h σ) 4 [some (.ref h), some (.int v1), some (.int v2), some (.int v3)] [] := by
  unfold mM_putOf_4 at hf
  refine V_iload_n dX7_putOf_4 rfl ?_
  refine V_aload_n dX7_putOf_5 rfl ?_
  refine VM_getR fX7_7 ⟨rfl, rfl⟩ rfl dX7_putOf_6 ?_
  refine V_bipush dX7_putOf_9 kb_6 ?_
  refine VM_ldI (n := 23016) (k := 6) rfl (by decide) (by decide) dX7_putOf_11 ?_
  refine V_icmp_ge (tgt := 59) dX7_putOf_12 (by decide) (fun hc1 => ?_) (fun hc1 => ?_)
  · have hf := if_t hf hc1
    refine V_iload_n dX7_putOf_59 rfl ?_
    cases some_ex hf
    exact V_iret hE dX7_putOf_60
  · have hf := if_f hf hc1
    refine V_iload_n dX7_putOf_15 rfl ?_
    refine V_aload_n dX7_putOf_16 rfl ?_
    refine V_iload_n dX7_putOf_17 rfl ?_
    obtain ⟨r3, hc2, hf⟩ := bd1_ex hf
    refine V_cV (av := [.int v3]) (rest := [.int v2]) (st' := [.int r3, .int v2]) (mM_boothOf_ok _ _ _ _ _ _ _ hc2) vcX7_517 (wM_k0 _ _ _) (by decide) rfl rfl (Nat.le_of_ble_eq_true rfl) dX7_putOf_18 rfl ?_
    refine V_iload_n dX7_putOf_21 rfl ?_
    refine V_icmp_ne (tgt := 50) dX7_putOf_22 (by decide) (fun hc4 => ?_) (fun hc4 => ?_)
    · have hf := if_f hf hc4
      refine V_keep [true, true, false, true] rfl ?_
      exact mM_putOf_50_v σ hE k4 hk4 v1 v3 v2 hf
    · have hf := if_t hf hc4
      refine V_aload_n dX7_putOf_25 rfl ?_
      refine V_iload_n dX7_putOf_26 rfl ?_
      obtain ⟨r6, hc5, hf⟩ := bd1_ex hf
      refine V_cV (av := [.int v3]) (rest := [.int v2]) (st' := [.int r6, .int v2]) (mM_doesCount_ok _ _ _ _ _ _ _ hc5) vcX7_520 (wM_k0 _ _ _) (by decide) rfl rfl (Nat.le_of_ble_eq_true rfl) dX7_putOf_27 rfl ?_
      refine V_if_eq (tgt := 50) dX7_putOf_30 (by decide) (fun hc7 => ?_) (fun hc7 => ?_)
      · have hf := if_t hf hc7
        refine V_keep [true, true, false, true] rfl ?_
        exact mM_putOf_50_v σ hE k4 hk4 v1 v3 v2 hf
      · have hf := if_f hf hc7
        refine V_aload_n dX7_putOf_33 rfl ?_
        refine VM_getR fX7_7 ⟨rfl, rfl⟩ rfl dX7_putOf_34 ?_
        refine V_sipush dX7_putOf_37 ks_4008 ?_
        refine V_iconst dX7_putOf_40 kc_5 ?_
        refine V_iload_n dX7_putOf_41 rfl ?_
        refine V_imul dX7_putOf_42 ?_
        refine V_iadd dX7_putOf_43 ?_
        refine V_iconst dX7_putOf_44 kc_3 ?_
        refine V_iadd dX7_putOf_45 ?_
        obtain ⟨hb8, hf⟩ := ck_ex hf
        refine VM_ldI (n := 23016) (k := (((4008 : Int32) + ((5 : Int32) * v3)) + (3 : Int32)).toNatClampNeg) rfl hb8 rfl dX7_putOf_46 ?_
        refine V_goto (tgt := 51) dX7_putOf_47 (by decide) ?_
        refine V_keep [true, true, false, true] rfl ?_
        exact mM_putOf_51_v σ hE k4 hk4 v1 v3 (gI σ 1 ((((4008 : Int32) + ((5 : Int32) * v3)) + (3 : Int32)).toNatClampNeg)) v2 hf
set_option maxHeartbeats 4000000 in
theorem mM_putOf_ok (l : Launch) (D : DD) (z : ZZ) (h : Nat) (p0 : Int32) (σ : SM) (r : Int32) (hf : mM_putOf p0 σ = some r) : MA l D yX7_putOf cX7_putOf 4 (some .int) 2 [.ref h, .int p0] (wM z h σ) (.returned (some (.int r))) (wM z h σ) := by
  refine MA.intro (own := RX7) (nm := "putOf") (ls := [some (.ref h), some (.int p0), none, none]) (by decide) rfl rfl (Nat.le_of_ble_eq_true rfl) rfl (fun X hl hD hE => ?_)
  subst hl hD
  unfold mM_putOf at hf
  refine V_iconst dX7_putOf_0 kc_0 ?_
  refine V_istore_n (ls' := [some (.ref h), some (.int p0), some (.int (0 : Int32)), none]) dX7_putOf_1 (by decide) rfl ?_
  refine V_iconst dX7_putOf_2 kc_0 ?_
  refine V_istore_n (ls' := [some (.ref h), some (.int p0), some (.int (0 : Int32)), some (.int (0 : Int32))]) dX7_putOf_3 (by decide) rfl ?_
  exact lq3_ex (P := fun v1 v2 v3 => V X cX7_putOf RX7 4 2 (wM z h σ) 4 [some (.ref h), some (.int v1), some (.int v2), some (.int v3)] []) (fun k hk v1 v2 v3 hf => mM_putOf_4_v σ hE k hk v1 v2 v3 hf) LF p0 (0 : Int32) (0 : Int32) hf
set_option maxHeartbeats 4000000 in
theorem mM_paperOf_80_v {X : CX} {w0 : AH} {z : ZZ} {h : Nat} {r : Int32} (σ : SM) (hE : XE X w0 1 (some .int) "paperOf" (.returned (some (.int r))) (wM z h σ)) (k5 : Int32 → Int32 → Int32 → Int32 → Option (Int32)) (hk5 : ∀ (v1 : Int32) (v2 : Int32) (v3 : Int32) (v4 : Int32), k5 v1 v2 v3 v4 = some r → V X cX7_paperOf RX7 6 1 (wM z h σ) 5 [some (.ref h), some (.int v1), some (.int v2), some (.int v3), some (.int v4), none] []) (v1 : Int32) (v2 : Int32) (v4 : Int32) (t0 : Int32) (hf : mM_paperOf_80 σ k5 v1 v2 v4 t0 = some r) : V X cX7_paperOf RX7 6 1 (wM z h σ) 80 [some (.ref h), some (.int v1), some (.int v2), none, some (.int v4), none] [.int t0] := by
  unfold mM_paperOf_80 at hf
  refine V_istore_n (ls' := [some (.ref h), some (.int v1), some (.int v2), some (.int t0), some (.int v4), none]) dX7_paperOf_80 (by decide) rfl ?_
  refine V_inc (ls' := [some (.ref h), some (.int v1), some (.int v2), some (.int t0), some (.int (v4 + (1 : Int32))), none]) dX7_paperOf_81 rfl kc_1 (by decide) rfl ?_
  refine V_goto (tgt := 5) dX7_paperOf_84 (by decide) ?_
  exact hk5 v1 v2 t0 (v4 + (1 : Int32)) hf
set_option maxHeartbeats 4000000 in
theorem mM_paperOf_79_v {X : CX} {w0 : AH} {z : ZZ} {h : Nat} {r : Int32} (σ : SM) (hE : XE X w0 1 (some .int) "paperOf" (.returned (some (.int r))) (wM z h σ)) (k5 : Int32 → Int32 → Int32 → Int32 → Option (Int32)) (hk5 : ∀ (v1 : Int32) (v2 : Int32) (v3 : Int32) (v4 : Int32), k5 v1 v2 v3 v4 = some r → V X cX7_paperOf RX7 6 1 (wM z h σ) 5 [some (.ref h), some (.int v1), some (.int v2), some (.int v3), some (.int v4), none] []) (v1 : Int32) (v2 : Int32) (v3 : Int32) (v4 : Int32) (hf : mM_paperOf_79 σ k5 v1 v2 v3 v4 = some r) : V X cX7_paperOf RX7 6 1 (wM z h σ) 79 [some (.ref h), some (.int v1), some (.int v2), some (.int v3), some (.int v4), none] [] := by
  unfold mM_paperOf_79 at hf
  refine V_iload_n dX7_paperOf_79 rfl ?_
  refine V_keep [true, true, true, false, true, true] rfl ?_
  exact mM_paperOf_80_v σ hE k5 hk5 v1 v2 v4 v3 hf
set_option maxHeartbeats 4000000 in
theorem mM_paperOf_5_v {X : CX} {w0 : AH} {z : ZZ} {h : Nat} {r : Int32} (σ : SM) (hE : XE X w0 1 (some .int) "paperOf" (.returned (some (.int r))) (wM z h σ)) (k5 : Int32 → Int32 → Int32 → Int32 → Option (Int32)) (hk5 : ∀ (v1 : Int32) (v2 : Int32) (v3 : Int32) (v4 : Int32), k5 v1 v2 v3 v4 = some r → V X cX7_paperOf RX7 6 1 (wM z h σ) 5 [some (.ref h), some (.int v1), some (.int v2), some (.int v3), some (.int v4), none] []) (v1 : Int32) (v2 : Int32) (v3 : Int32) (v4 : Int32) (hf : mM_paperOf_5 σ k5 v1 v2 v3 v4 = some r) : V X cX7_paperOf RX7 6 1 (wM z h σ) 5 [some (.ref h), some (.int v1), some (.int v2), some (.int v3), some (.int v4), none] [] := by
  unfold mM_paperOf_5 at hf
  refine V_iload dX7_paperOf_5 rfl ?_
  refine V_aload_n dX7_paperOf_7 rfl ?_
  refine VM_getR fX7_7 ⟨rfl, rfl⟩ rfl dX7_paperOf_8 ?_
  refine V_bipush dX7_paperOf_11 kb_7 ?_
  refine VM_ldI (n := 23016) (k := 7) rfl (by decide) (by decide) dX7_paperOf_13 ?_
  refine V_icmp_ge (tgt := 87) dX7_paperOf_14 (by decide) (fun hc1 => ?_) (fun hc1 => ?_)
  · have hf := if_t hf hc1
    refine V_iload_n dX7_paperOf_87 rfl ?_
    cases some_ex hf
    exact V_iret hE dX7_paperOf_88
  · have hf := if_f hf hc1
    refine V_sipush dX7_paperOf_17 ks_3528 ?_
    refine V_iconst dX7_paperOf_20 kc_4 ?_
    refine V_iload dX7_paperOf_21 rfl ?_
    refine V_imul dX7_paperOf_23 ?_
    refine V_iadd dX7_paperOf_24 ?_
    refine V_istore (ls' := [some (.ref h), some (.int v1), some (.int v2), some (.int v3), some (.int v4), some (.int ((3528 : Int32) + ((4 : Int32) * v4)))]) dX7_paperOf_25 (by decide) rfl ?_
    refine V_aload_n dX7_paperOf_27 rfl ?_
    refine VM_getR fX7_7 ⟨rfl, rfl⟩ rfl dX7_paperOf_28 ?_
    refine V_iload dX7_paperOf_31 rfl ?_
    obtain ⟨hb2, hf⟩ := ck_ex hf
    refine VM_ldI (n := 23016) (k := ((3528 : Int32) + ((4 : Int32) * v4)).toNatClampNeg) rfl hb2 rfl dX7_paperOf_33 ?_
    refine V_iload_n dX7_paperOf_34 rfl ?_
    refine V_icmp_ne (tgt := 79) dX7_paperOf_35 (by decide) (fun hc3 => ?_) (fun hc3 => ?_)
    · have hf := if_f hf hc3
      refine V_keep [true, true, true, true, true, false] rfl ?_
      exact mM_paperOf_79_v σ hE k5 hk5 v1 v2 v3 v4 hf
    · have hf := if_t hf hc3
      refine V_aload_n dX7_paperOf_38 rfl ?_
      refine VM_getR fX7_7 ⟨rfl, rfl⟩ rfl dX7_paperOf_39 ?_
      refine V_iload dX7_paperOf_42 rfl ?_
      refine V_iconst dX7_paperOf_44 kc_1 ?_
      refine V_iadd dX7_paperOf_45 ?_
      obtain ⟨hb4, hf⟩ := ck_ex hf
      refine VM_ldI (n := 23016) (k := (((3528 : Int32) + ((4 : Int32) * v4)) + (1 : Int32)).toNatClampNeg) rfl hb4 rfl dX7_paperOf_46 ?_
      refine V_iload_n dX7_paperOf_47 rfl ?_
      refine V_icmp_ne (tgt := 79) dX7_paperOf_48 (by decide) (fun hc5 => ?_) (fun hc5 => ?_)
      · have hf := if_f hf hc5
        refine V_keep [true, true, true, true, true, false] rfl ?_
        exact mM_paperOf_79_v σ hE k5 hk5 v1 v2 v3 v4 hf
      · have hf := if_t hf hc5
        refine V_aload_n dX7_paperOf_51 rfl ?_
        refine VM_getR fX7_7 ⟨rfl, rfl⟩ rfl dX7_paperOf_52 ?_
        refine V_iload dX7_paperOf_55 rfl ?_
        refine V_iconst dX7_paperOf_57 kc_3 ?_
        refine V_iadd dX7_paperOf_58 ?_
        obtain ⟨hb6, hf⟩ := ck_ex hf
        refine VM_ldI (n := 23016) (k := (((3528 : Int32) + ((4 : Int32) * v4)) + (3 : Int32)).toNatClampNeg) rfl hb6 rfl dX7_paperOf_59 ?_
        refine V_aload_n dX7_paperOf_60 rfl ?_
        refine VM_getI fX7_185 rfl dX7_paperOf_61 ?_
        refine V_icmp_gt (tgt := 79) dX7_paperOf_64 (by decide) (fun hc7 => ?_) (fun hc7 => ?_)
        · have hf := if_t hf hc7
          refine V_keep [true, true, true, true, true, false] rfl ?_
          exact mM_paperOf_79_v σ hE k5 hk5 v1 v2 v3 v4 hf
        · have hf := if_f hf hc7
          refine V_aload_n dX7_paperOf_67 rfl ?_
          refine VM_getR fX7_7 ⟨rfl, rfl⟩ rfl dX7_paperOf_68 ?_
          refine V_iload dX7_paperOf_71 rfl ?_
          refine V_iconst dX7_paperOf_73 kc_2 ?_
          refine V_iadd dX7_paperOf_74 ?_
          obtain ⟨hb8, hf⟩ := ck_ex hf
          refine VM_ldI (n := 23016) (k := (((3528 : Int32) + ((4 : Int32) * v4)) + (2 : Int32)).toNatClampNeg) rfl hb8 rfl dX7_paperOf_75 ?_
          refine V_goto (tgt := 80) dX7_paperOf_76 (by decide) ?_
          refine V_keep [true, true, true, false, true, false] rfl ?_
          exact mM_paperOf_80_v σ hE k5 hk5 v1 v2 v4 (gI σ 1 ((((3528 : Int32) + ((4 : Int32) * v4)) + (2 : Int32)).toNatClampNeg)) hf
set_option maxHeartbeats 4000000 in
theorem mM_paperOf_ok (l : Launch) (D : DD) (z : ZZ) (h : Nat) (p0 : Int32) (p1 : Int32) (σ : SM) (r : Int32) (hf : mM_paperOf p0 p1 σ = some r) : MA l D yX7_paperOf cX7_paperOf 6 (some .int) 1 [.ref h, .int p0, .int p1] (wM z h σ) (.returned (some (.int r))) (wM z h σ) := by
  refine MA.intro (own := RX7) (nm := "paperOf") (ls := [some (.ref h), some (.int p0), some (.int p1), none, none, none]) (by decide) rfl rfl (Nat.le_of_ble_eq_true rfl) rfl (fun X hl hD hE => ?_)
  subst hl hD
  unfold mM_paperOf at hf
  refine V_iconst dX7_paperOf_0 kc_0 ?_
  refine V_istore_n (ls' := [some (.ref h), some (.int p0), some (.int p1), some (.int (0 : Int32)), none, none]) dX7_paperOf_1 (by decide) rfl ?_
  refine V_iconst dX7_paperOf_2 kc_0 ?_
  refine V_istore (ls' := [some (.ref h), some (.int p0), some (.int p1), some (.int (0 : Int32)), some (.int (0 : Int32)), none]) dX7_paperOf_3 (by decide) rfl ?_
  exact lq4_ex (P := fun v1 v2 v3 v4 => V X cX7_paperOf RX7 6 1 (wM z h σ) 5 [some (.ref h), some (.int v1), some (.int v2), some (.int v3), some (.int v4), none] []) (fun k hk v1 v2 v3 v4 hf => mM_paperOf_5_v σ hE k hk v1 v2 v3 v4 hf) LF p0 p1 (0 : Int32) (0 : Int32) hf
set_option maxHeartbeats 4000000 in
theorem mM_setBooth_157_v {X : CX} {w0 : AH} {z : ZZ} {h : Nat} {σ' : SM} (hE : XE X w0 3 none "setBooth" (.returned none) (wM z h σ')) (k101 : Int32 → Int32 → SM → Option (SM)) (hk101 : ∀ (v1 : Int32) (v2 : Int32) (σ : SM), k101 v1 v2 σ = some σ' → V X cX7_setBooth RX7 3 3 (wM z h σ) 101 [some (.ref h), some (.int v1), some (.int v2)] []) (v1 : Int32) (v2 : Int32) (t0 : Int64) (t1 : Int32) (σ : SM) (hf : mM_setBooth_157 k101 v1 v2 t0 t1 σ = some σ') : V X cX7_setBooth RX7 3 3 (wM z h σ) 157 [some (.ref h), some (.int v1), some (.int v2)] [.long t0, .int t1, .ref (h + 14)] := by
  unfold mM_setBooth_157 at hf
  obtain ⟨hb1, hf⟩ := ck_ex hf
  obtain ⟨σ2, hs3, hf⟩ := st1_ex hf
  refine VM_stL (n := 17) (k := t1.toNatClampNeg) rfl hb1 rfl hs3 dX7_setBooth_157 ?_
  refine V_inc (ls' := [some (.ref h), some (.int v1), some (.int (v2 + (1 : Int32)))]) dX7_setBooth_158 rfl kc_1 (by decide) rfl ?_
  refine V_goto (tgt := 101) dX7_setBooth_161 (by decide) ?_
  exact hk101 v1 (v2 + (1 : Int32)) σ2 hf
set_option maxHeartbeats 4000000 in
theorem mM_setBooth_150_v {X : CX} {w0 : AH} {z : ZZ} {h : Nat} {σ' : SM} (hE : XE X w0 3 none "setBooth" (.returned none) (wM z h σ')) (k101 : Int32 → Int32 → SM → Option (SM)) (hk101 : ∀ (v1 : Int32) (v2 : Int32) (σ : SM), k101 v1 v2 σ = some σ' → V X cX7_setBooth RX7 3 3 (wM z h σ) 101 [some (.ref h), some (.int v1), some (.int v2)] []) (v1 : Int32) (v2 : Int32) (t0 : Int32) (σ : SM) (hf : mM_setBooth_150 k101 v1 v2 t0 σ = some σ') : V X cX7_setBooth RX7 3 3 (wM z h σ) 150 [some (.ref h), some (.int v1), some (.int v2)] [.int t0, .ref (h + 14)] := by
  unfold mM_setBooth_150 at hf
  refine V_aload_n dX7_setBooth_150 rfl ?_
  refine VM_getR fX7_55 ⟨rfl, rfl⟩ rfl dX7_setBooth_151 ?_
  refine V_bipush dX7_setBooth_154 kb_16 ?_
  refine VM_ldL (n := 17) (k := 16) rfl (by decide) (by decide) dX7_setBooth_156 ?_
  exact mM_setBooth_157_v hE k101 hk101 v1 v2 (gL σ 14 16) t0 σ hf
set_option maxHeartbeats 4000000 in
theorem mM_setBooth_101_v {X : CX} {w0 : AH} {z : ZZ} {h : Nat} {σ' : SM} (hE : XE X w0 3 none "setBooth" (.returned none) (wM z h σ')) (k101 : Int32 → Int32 → SM → Option (SM)) (hk101 : ∀ (v1 : Int32) (v2 : Int32) (σ : SM), k101 v1 v2 σ = some σ' → V X cX7_setBooth RX7 3 3 (wM z h σ) 101 [some (.ref h), some (.int v1), some (.int v2)] []) (v1 : Int32) (v2 : Int32) (σ : SM) (hf : mM_setBooth_101 k101 v1 v2 σ = some σ') : V X cX7_setBooth RX7 3 3 (wM z h σ) 101 [some (.ref h), some (.int v1), some (.int v2)] [] := by
  unfold mM_setBooth_101 at hf
  refine V_iload_n dX7_setBooth_101 rfl ?_
  refine V_aload_n dX7_setBooth_102 rfl ?_
  refine VM_getR fX7_7 ⟨rfl, rfl⟩ rfl dX7_setBooth_103 ?_
  refine V_iconst dX7_setBooth_106 kc_4 ?_
  refine VM_ldI (n := 23016) (k := 4) rfl (by decide) (by decide) dX7_setBooth_107 ?_
  refine V_icmp_ge (tgt := 164) dX7_setBooth_108 (by decide) (fun hc1 => ?_) (fun hc1 => ?_)
  · have hf := if_t hf hc1
    cases some_ex hf
    exact V_vret hE dX7_setBooth_164
  · have hf := if_f hf hc1
    refine V_aload_n dX7_setBooth_111 rfl ?_
    refine VM_getR fX7_55 ⟨rfl, rfl⟩ rfl dX7_setBooth_112 ?_
    refine V_bipush dX7_setBooth_115 kb_16 ?_
    refine V_aload_n dX7_setBooth_117 rfl ?_
    refine VM_getR fX7_7 ⟨rfl, rfl⟩ rfl dX7_setBooth_118 ?_
    refine V_sipush dX7_setBooth_121 ks_2448 ?_
    refine V_iconst dX7_setBooth_124 kc_2 ?_
    refine V_iload_n dX7_setBooth_125 rfl ?_
    refine V_imul dX7_setBooth_126 ?_
    refine V_iadd dX7_setBooth_127 ?_
    obtain ⟨hb2, hf⟩ := ck_ex hf
    refine VM_ldI (n := 23016) (k := ((2448 : Int32) + ((2 : Int32) * v2)).toNatClampNeg) rfl hb2 rfl dX7_setBooth_128 ?_
    refine V_iload_n dX7_setBooth_129 rfl ?_
    refine V_icmp_ne (tgt := 150) dX7_setBooth_130 (by decide) (fun hc3 => ?_) (fun hc3 => ?_)
    · have hf := if_f hf hc3
      exact mM_setBooth_150_v hE k101 hk101 v1 v2 (16 : Int32) σ hf
    · have hf := if_t hf hc3
      refine V_aload_n dX7_setBooth_133 rfl ?_
      refine V_iload_n dX7_setBooth_134 rfl ?_
      refine V_aload_n dX7_setBooth_135 rfl ?_
      refine VM_getI fX7_185 rfl dX7_setBooth_136 ?_
      obtain ⟨r5, hc4, hf⟩ := bd1_ex hf
      refine V_cV (av := [.int v2, .int (gI σ 0 6)]) (rest := [.int (16 : Int32), .ref (h + 14)]) (st' := [.int r5, .int (16 : Int32), .ref (h + 14)]) (mM_brokenOf_ok _ _ _ _ _ _ _ _ hc4) vcX7_441 (wM_k0 _ _ _) (by decide) rfl rfl (Nat.le_of_ble_eq_true rfl) dX7_setBooth_139 rfl ?_
      refine V_iconst dX7_setBooth_142 kc_m1 ?_
      refine V_icmp_eq (tgt := 150) dX7_setBooth_143 (by decide) (fun hc6 => ?_) (fun hc6 => ?_)
      · have hf := if_t hf hc6
        exact mM_setBooth_150_v hE k101 hk101 v1 v2 (16 : Int32) σ hf
      · have hf := if_f hf hc6
        refine V_lconst dX7_setBooth_146 kl_1 ?_
        refine V_goto (tgt := 157) dX7_setBooth_147 (by decide) ?_
        exact mM_setBooth_157_v hE k101 hk101 v1 v2 (1 : Int64) (16 : Int32) σ hf
set_option maxHeartbeats 4000000 in
theorem mM_setBooth_ok (l : Launch) (D : DD) (z : ZZ) (h : Nat) (p0 : Int32) (σ : SM) (σ' : SM) (hf : mM_setBooth p0 σ = some σ') : MA l D yX7_setBooth cX7_setBooth 3 none 3 [.ref h, .int p0] (wM z h σ) (.returned none) (wM z h σ') := by
  refine MA.intro (own := RX7) (nm := "setBooth") (ls := [some (.ref h), some (.int p0), none]) (by decide) rfl rfl (Nat.le_of_ble_eq_true rfl) rfl (fun X hl hD hE => ?_)
  subst hl hD
  unfold mM_setBooth at hf
  refine V_aload_n dX7_setBooth_0 rfl ?_
  refine V_aload_n dX7_setBooth_1 rfl ?_
  refine VM_getR fX7_7 ⟨rfl, rfl⟩ rfl dX7_setBooth_2 ?_
  refine V_sipush dX7_setBooth_5 ks_2348 ?_
  refine V_iload_n dX7_setBooth_8 rfl ?_
  refine V_iadd dX7_setBooth_9 ?_
  obtain ⟨hb1, hf⟩ := ck_ex hf
  refine VM_ldI (n := 23016) (k := ((2348 : Int32) + p0).toNatClampNeg) rfl hb1 rfl dX7_setBooth_10 ?_
  obtain ⟨σ3, hc2, hf⟩ := bd1_ex hf
  refine V_cV (av := [.int (gI σ 1 (((2348 : Int32) + p0).toNatClampNeg))]) (rest := []) (st' := []) (mM_setPlace_ok _ _ _ _ _ _ _ hc2) vcX7_432 (wM_k0 _ _ _) (by decide) rfl rfl (Nat.le_of_ble_eq_true rfl) dX7_setBooth_11 rfl ?_
  refine V_aload_n dX7_setBooth_14 rfl ?_
  refine VM_getR fX7_55 ⟨rfl, rfl⟩ rfl dX7_setBooth_15 ?_
  refine V_bipush dX7_setBooth_18 kb_7 ?_
  refine V_aload_n dX7_setBooth_20 rfl ?_
  refine V_iload_n dX7_setBooth_21 rfl ?_
  refine V_iconst dX7_setBooth_22 kc_0 ?_
  obtain ⟨r5, hc4, hf⟩ := bd1_ex hf
  refine V_cV (av := [.int p0, .int (0 : Int32)]) (rest := [.int (7 : Int32), .ref (h + 14)]) (st' := [.int r5, .int (7 : Int32), .ref (h + 14)]) (mM_paperOf_ok _ _ _ _ _ _ _ _ hc4) vcX7_435 (wM_k0 _ _ _) (by decide) rfl rfl (Nat.le_of_ble_eq_true rfl) dX7_setBooth_23 rfl ?_
  refine V_i2l dX7_setBooth_26 ?_
  obtain ⟨σ6, hs7, hf⟩ := st1_ex hf
  refine VM_stL (n := 17) (k := 7) rfl (by decide) (by decide) hs7 dX7_setBooth_27 ?_
  refine V_aload_n dX7_setBooth_28 rfl ?_
  refine VM_getR fX7_55 ⟨rfl, rfl⟩ rfl dX7_setBooth_29 ?_
  refine V_bipush dX7_setBooth_32 kb_8 ?_
  refine V_aload_n dX7_setBooth_34 rfl ?_
  refine V_iload_n dX7_setBooth_35 rfl ?_
  refine V_iconst dX7_setBooth_36 kc_1 ?_
  obtain ⟨r9, hc8, hf⟩ := bd1_ex hf
  refine V_cV (av := [.int p0, .int (1 : Int32)]) (rest := [.int (8 : Int32), .ref (h + 14)]) (st' := [.int r9, .int (8 : Int32), .ref (h + 14)]) (mM_paperOf_ok _ _ _ _ _ _ _ _ hc8) vcX7_435 (wM_k0 _ _ _) (by decide) rfl rfl (Nat.le_of_ble_eq_true rfl) dX7_setBooth_37 rfl ?_
  refine V_i2l dX7_setBooth_40 ?_
  obtain ⟨σ10, hs11, hf⟩ := st1_ex hf
  refine VM_stL (n := 17) (k := 8) rfl (by decide) (by decide) hs11 dX7_setBooth_41 ?_
  refine V_aload_n dX7_setBooth_42 rfl ?_
  refine VM_getR fX7_55 ⟨rfl, rfl⟩ rfl dX7_setBooth_43 ?_
  refine V_bipush dX7_setBooth_46 kb_9 ?_
  refine V_aload_n dX7_setBooth_48 rfl ?_
  refine V_iload_n dX7_setBooth_49 rfl ?_
  obtain ⟨r13, hc12, hf⟩ := bd1_ex hf
  refine V_cV (av := [.int p0]) (rest := [.int (9 : Int32), .ref (h + 14)]) (st' := [.int r13, .int (9 : Int32), .ref (h + 14)]) (mM_putOf_ok _ _ _ _ _ _ _ hc12) vcX7_438 (wM_k0 _ _ _) (by decide) rfl rfl (Nat.le_of_ble_eq_true rfl) dX7_setBooth_50 rfl ?_
  refine V_i2l dX7_setBooth_53 ?_
  obtain ⟨σ14, hs15, hf⟩ := st1_ex hf
  refine VM_stL (n := 17) (k := 9) rfl (by decide) (by decide) hs15 dX7_setBooth_54 ?_
  refine V_aload_n dX7_setBooth_55 rfl ?_
  refine VM_getR fX7_55 ⟨rfl, rfl⟩ rfl dX7_setBooth_56 ?_
  refine V_bipush dX7_setBooth_59 kb_10 ?_
  refine V_aload_n dX7_setBooth_61 rfl ?_
  refine V_iload_n dX7_setBooth_62 rfl ?_
  refine V_iconst dX7_setBooth_63 kc_2 ?_
  obtain ⟨r17, hc16, hf⟩ := bd1_ex hf
  refine V_cV (av := [.int p0, .int (2 : Int32)]) (rest := [.int (10 : Int32), .ref (h + 14)]) (st' := [.int r17, .int (10 : Int32), .ref (h + 14)]) (mM_paperOf_ok _ _ _ _ _ _ _ _ hc16) vcX7_435 (wM_k0 _ _ _) (by decide) rfl rfl (Nat.le_of_ble_eq_true rfl) dX7_setBooth_64 rfl ?_
  refine V_i2l dX7_setBooth_67 ?_
  obtain ⟨σ18, hs19, hf⟩ := st1_ex hf
  refine VM_stL (n := 17) (k := 10) rfl (by decide) (by decide) hs19 dX7_setBooth_68 ?_
  refine V_aload_n dX7_setBooth_69 rfl ?_
  refine VM_getR fX7_55 ⟨rfl, rfl⟩ rfl dX7_setBooth_70 ?_
  refine V_bipush dX7_setBooth_73 kb_11 ?_
  refine V_aload_n dX7_setBooth_75 rfl ?_
  refine VM_getR fX7_55 ⟨rfl, rfl⟩ rfl dX7_setBooth_76 ?_
  refine V_bipush dX7_setBooth_79 kb_8 ?_
  refine VM_ldL (n := 17) (k := 8) rfl (by decide) (by decide) dX7_setBooth_81 ?_
  refine V_aload_n dX7_setBooth_82 rfl ?_
  refine VM_getR fX7_55 ⟨rfl, rfl⟩ rfl dX7_setBooth_83 ?_
  refine V_bipush dX7_setBooth_86 kb_9 ?_
  refine VM_ldL (n := 17) (k := 9) rfl (by decide) (by decide) dX7_setBooth_88 ?_
  refine V_lsub dX7_setBooth_89 ?_
  refine V_aload_n dX7_setBooth_90 rfl ?_
  refine VM_getR fX7_55 ⟨rfl, rfl⟩ rfl dX7_setBooth_91 ?_
  refine V_bipush dX7_setBooth_94 kb_10 ?_
  refine VM_ldL (n := 17) (k := 10) rfl (by decide) (by decide) dX7_setBooth_96 ?_
  refine V_lsub dX7_setBooth_97 ?_
  obtain ⟨σ20, hs21, hf⟩ := st1_ex hf
  refine VM_stL (n := 17) (k := 11) rfl (by decide) (by decide) hs21 dX7_setBooth_98 ?_
  refine V_iconst dX7_setBooth_99 kc_0 ?_
  refine V_istore_n (ls' := [some (.ref h), some (.int p0), some (.int (0 : Int32))]) dX7_setBooth_100 (by decide) rfl ?_
  exact lq3_ex (P := fun v1 v2 σ => V X cX7_setBooth RX7 3 3 (wM z h σ) 101 [some (.ref h), some (.int v1), some (.int v2)] []) (fun k hk v1 v2 σ hf => mM_setBooth_101_v hE k hk v1 v2 σ hf) LF p0 (0 : Int32) σ20 hf
set_option maxHeartbeats 4000000 in
theorem mM_isAgain_ok (l : Launch) (D : DD) (z : ZZ) (h : Nat) (p0 : Int32) (σ : SM) (r : Int32) (σ' : SM) (hf : mM_isAgain p0 σ = some (r, σ')) : MA l D yX7_isAgain cX7_isAgain 2 (some .boolean) 5 [.ref h, .int p0] (wM z h σ) (.returned (some (.int r))) (wM z h σ') := by
  refine MA.intro (own := RX7) (nm := "isAgain") (ls := [some (.ref h), some (.int p0)]) (by decide) rfl rfl (Nat.le_of_ble_eq_true rfl) rfl (fun X hl hD hE => ?_)
  subst hl hD
  unfold mM_isAgain at hf
  refine V_aload_n dX7_isAgain_0 rfl ?_
  refine V_iload_n dX7_isAgain_1 rfl ?_
  obtain ⟨σ2, hc1, hf⟩ := bd1_ex hf
  refine V_cV (av := [.int p0]) (rest := []) (st' := []) (mM_setBooth_ok _ _ _ _ _ _ _ hc1) vcX7_523 (wM_k0 _ _ _) (by decide) rfl rfl (Nat.le_of_ble_eq_true rfl) dX7_isAgain_2 rfl ?_
  refine V_aload_n dX7_isAgain_5 rfl ?_
  refine V_iconst dX7_isAgain_6 kc_4 ?_
  refine V_iconst dX7_isAgain_7 kc_m1 ?_
  obtain ⟨r4, σ5, hc3, hf⟩ := bd2_ex hf
  refine V_cV (av := [.int (4 : Int32), .int (-1 : Int32)]) (rest := []) (st' := [.int r4]) (mM_find_ok _ _ _ _ _ _ _ _ _ hc3) vcX7_195 (wM_k0 _ _ _) (by decide) rfl rfl (Nat.le_of_ble_eq_true rfl) dX7_isAgain_8 rfl ?_
  obtain ⟨hb6, hf⟩ := ck_ex hf
  cases some_ex hf
  exact V_zret hE (isZ_nar hb6) dX7_isAgain_11
set_option maxHeartbeats 4000000 in
theorem mM_findValid_130_v {X : CX} {w0 : AH} {z : ZZ} {h : Nat} {σ' : SM} (hE : XE X w0 5 none "findValid" (.returned none) (wM z h σ')) (k54 : Int32 → Int32 → SM → Option (SM)) (hk54 : ∀ (v1 : Int32) (v2 : Int32) (σ : SM), k54 v1 v2 σ = some σ' → V X cX7_findValid RX7 4 5 (wM z h σ) 54 [some (.ref h), some (.int v1), some (.int v2), none] []) (v1 : Int32) (v2 : Int32) (σ : SM) (hf : mM_findValid_130 k54 v1 v2 σ = some σ') : V X cX7_findValid RX7 4 5 (wM z h σ) 130 [some (.ref h), some (.int v1), some (.int v2), none] [] := by
  unfold mM_findValid_130 at hf
  refine V_inc (ls' := [some (.ref h), some (.int v1), some (.int (v2 + (1 : Int32))), none]) dX7_findValid_130 rfl kc_1 (by decide) rfl ?_
  refine V_goto (tgt := 54) dX7_findValid_133 (by decide) ?_
  exact hk54 v1 (v2 + (1 : Int32)) σ hf
set_option maxHeartbeats 4000000 in
theorem mM_findValid_54_v {X : CX} {w0 : AH} {z : ZZ} {h : Nat} {σ' : SM} (hE : XE X w0 5 none "findValid" (.returned none) (wM z h σ')) (k54 : Int32 → Int32 → SM → Option (SM)) (hk54 : ∀ (v1 : Int32) (v2 : Int32) (σ : SM), k54 v1 v2 σ = some σ' → V X cX7_findValid RX7 4 5 (wM z h σ) 54 [some (.ref h), some (.int v1), some (.int v2), none] []) (v1 : Int32) (v2 : Int32) (σ : SM) (hf : mM_findValid_54 k54 v1 v2 σ = some σ') : V X cX7_findValid RX7 4 5 (wM z h σ) 54 [some (.ref h), some (.int v1), some (.int v2), none] [] := by
  unfold mM_findValid_54 at hf
  refine V_iload_n dX7_findValid_54 rfl ?_
  refine V_aload_n dX7_findValid_55 rfl ?_
  refine VM_getR fX7_7 ⟨rfl, rfl⟩ rfl dX7_findValid_56 ?_
  refine V_bipush dX7_findValid_59 kb_6 ?_
  refine VM_ldI (n := 23016) (k := 6) rfl (by decide) (by decide) dX7_findValid_61 ?_
  refine V_icmp_ge (tgt := 136) dX7_findValid_62 (by decide) (fun hc1 => ?_) (fun hc1 => ?_)
  · have hf := if_t hf hc1
    cases some_ex hf
    exact V_vret hE dX7_findValid_136
  · have hf := if_f hf hc1
    refine V_sipush dX7_findValid_65 ks_4008 ?_
    refine V_iconst dX7_findValid_68 kc_5 ?_
    refine V_iload_n dX7_findValid_69 rfl ?_
    refine V_imul dX7_findValid_70 ?_
    refine V_iadd dX7_findValid_71 ?_
    refine V_istore_n (ls' := [some (.ref h), some (.int v1), some (.int v2), some (.int ((4008 : Int32) + ((5 : Int32) * v2)))]) dX7_findValid_72 (by decide) rfl ?_
    refine V_aload_n dX7_findValid_73 rfl ?_
    refine V_iload_n dX7_findValid_74 rfl ?_
    obtain ⟨r3, hc2, hf⟩ := bd1_ex hf
    refine V_cV (av := [.int v2]) (rest := []) (st' := [.int r3]) (mM_boothOf_ok _ _ _ _ _ _ _ hc2) vcX7_517 (wM_k0 _ _ _) (by decide) rfl rfl (Nat.le_of_ble_eq_true rfl) dX7_findValid_75 rfl ?_
    refine V_iload_n dX7_findValid_78 rfl ?_
    refine V_icmp_ne (tgt := 130) dX7_findValid_79 (by decide) (fun hc4 => ?_) (fun hc4 => ?_)
    · have hf := if_f hf hc4
      refine V_keep [true, true, true, false] rfl ?_
      exact mM_findValid_130_v hE k54 hk54 v1 v2 σ hf
    · have hf := if_t hf hc4
      refine V_aload_n dX7_findValid_82 rfl ?_
      refine V_iload_n dX7_findValid_83 rfl ?_
      obtain ⟨r6, hc5, hf⟩ := bd1_ex hf
      refine V_cV (av := [.int v2]) (rest := []) (st' := [.int r6]) (mM_doesCount_ok _ _ _ _ _ _ _ hc5) vcX7_520 (wM_k0 _ _ _) (by decide) rfl rfl (Nat.le_of_ble_eq_true rfl) dX7_findValid_84 rfl ?_
      refine V_if_eq (tgt := 130) dX7_findValid_87 (by decide) (fun hc7 => ?_) (fun hc7 => ?_)
      · have hf := if_t hf hc7
        refine V_keep [true, true, true, false] rfl ?_
        exact mM_findValid_130_v hE k54 hk54 v1 v2 σ hf
      · have hf := if_f hf hc7
        refine V_aload_n dX7_findValid_90 rfl ?_
        refine VM_getR fX7_89 ⟨rfl, rfl⟩ rfl dX7_findValid_91 ?_
        refine V_aload_n dX7_findValid_94 rfl ?_
        refine VM_getR fX7_7 ⟨rfl, rfl⟩ rfl dX7_findValid_95 ?_
        refine V_iload_n dX7_findValid_98 rfl ?_
        refine V_iconst dX7_findValid_99 kc_2 ?_
        refine V_iadd dX7_findValid_100 ?_
        obtain ⟨hb8, hf⟩ := ck_ex hf
        refine VM_ldI (n := 23016) (k := (((4008 : Int32) + ((5 : Int32) * v2)) + (2 : Int32)).toNatClampNeg) rfl hb8 rfl dX7_findValid_101 ?_
        obtain ⟨hb9, hf⟩ := ck_ex hf
        refine VM_ldZ (n := 10) (k := (gI σ 1 ((((4008 : Int32) + ((5 : Int32) * v2)) + (2 : Int32)).toNatClampNeg)).toNatClampNeg) rfl hb9 rfl dX7_findValid_102 ?_
        refine V_if_ne (tgt := 130) dX7_findValid_103 (by decide) (fun hc10 => ?_) (fun hc10 => ?_)
        · have hf := if_f hf hc10
          refine V_keep [true, true, true, false] rfl ?_
          exact mM_findValid_130_v hE k54 hk54 v1 v2 σ hf
        · have hf := if_t hf hc10
          refine V_aload_n dX7_findValid_106 rfl ?_
          refine VM_getR fX7_92 ⟨rfl, rfl⟩ rfl dX7_findValid_107 ?_
          refine V_aload_n dX7_findValid_110 rfl ?_
          refine VM_getR fX7_7 ⟨rfl, rfl⟩ rfl dX7_findValid_111 ?_
          refine V_iload_n dX7_findValid_114 rfl ?_
          refine V_iconst dX7_findValid_115 kc_1 ?_
          refine V_iadd dX7_findValid_116 ?_
          obtain ⟨hb11, hf⟩ := ck_ex hf
          refine VM_ldI (n := 23016) (k := (((4008 : Int32) + ((5 : Int32) * v2)) + (1 : Int32)).toNatClampNeg) rfl hb11 rfl dX7_findValid_117 ?_
          refine V_dup2 dX7_findValid_118 rfl rfl ?_
          obtain ⟨hb12, hf⟩ := ck_ex hf
          refine VM_ldI (n := 8) (k := (gI σ 1 ((((4008 : Int32) + ((5 : Int32) * v2)) + (1 : Int32)).toNatClampNeg)).toNatClampNeg) rfl hb12 rfl dX7_findValid_119 ?_
          refine V_aload_n dX7_findValid_120 rfl ?_
          refine VM_getR fX7_7 ⟨rfl, rfl⟩ rfl dX7_findValid_121 ?_
          refine V_iload_n dX7_findValid_124 rfl ?_
          refine V_iconst dX7_findValid_125 kc_3 ?_
          refine V_iadd dX7_findValid_126 ?_
          obtain ⟨hb13, hf⟩ := ck_ex hf
          refine VM_ldI (n := 23016) (k := (((4008 : Int32) + ((5 : Int32) * v2)) + (3 : Int32)).toNatClampNeg) rfl hb13 rfl dX7_findValid_127 ?_
          refine V_iadd dX7_findValid_128 ?_
          obtain ⟨hb14, hf⟩ := ck_ex hf
          obtain ⟨σ15, hs16, hf⟩ := st1_ex hf
          refine VM_stI (n := 8) (k := (gI σ 1 ((((4008 : Int32) + ((5 : Int32) * v2)) + (1 : Int32)).toNatClampNeg)).toNatClampNeg) rfl hb14 rfl hs16 dX7_findValid_129 ?_
          refine V_keep [true, true, true, false] rfl ?_
          exact mM_findValid_130_v hE k54 hk54 v1 v2 σ15 hf
set_option maxHeartbeats 4000000 in
theorem mM_findValid_33_v {X : CX} {w0 : AH} {z : ZZ} {h : Nat} {σ' : SM} (hE : XE X w0 5 none "findValid" (.returned none) (wM z h σ')) (k33 : Int32 → Int32 → SM → Option (SM)) (hk33 : ∀ (v1 : Int32) (v2 : Int32) (σ : SM), k33 v1 v2 σ = some σ' → V X cX7_findValid RX7 4 5 (wM z h σ) 33 [some (.ref h), some (.int v1), some (.int v2), none] []) (v1 : Int32) (v2 : Int32) (σ : SM) (hf : mM_findValid_33 k33 v1 v2 σ = some σ') : V X cX7_findValid RX7 4 5 (wM z h σ) 33 [some (.ref h), some (.int v1), some (.int v2), none] [] := by
  unfold mM_findValid_33 at hf
  refine V_iload_n dX7_findValid_33 rfl ?_
  refine V_bipush dX7_findValid_34 kb_8 ?_
  refine V_icmp_ge (tgt := 52) dX7_findValid_36 (by decide) (fun hc1 => ?_) (fun hc1 => ?_)
  · have hf := if_t hf hc1
    refine V_iconst dX7_findValid_52 kc_0 ?_
    refine V_istore_n (ls' := [some (.ref h), some (.int v1), some (.int (0 : Int32)), none]) dX7_findValid_53 (by decide) rfl ?_
    exact lq3_ex (P := fun v1 v2 σ => V X cX7_findValid RX7 4 5 (wM z h σ) 54 [some (.ref h), some (.int v1), some (.int v2), none] []) (fun k hk v1 v2 σ hf => mM_findValid_54_v hE k hk v1 v2 σ hf) LF v1 (0 : Int32) σ hf
  · have hf := if_f hf hc1
    refine V_aload_n dX7_findValid_39 rfl ?_
    refine VM_getR fX7_92 ⟨rfl, rfl⟩ rfl dX7_findValid_40 ?_
    refine V_iload_n dX7_findValid_43 rfl ?_
    refine V_iconst dX7_findValid_44 kc_0 ?_
    obtain ⟨hb2, hf⟩ := ck_ex hf
    obtain ⟨σ3, hs4, hf⟩ := st1_ex hf
    refine VM_stI (n := 8) (k := v2.toNatClampNeg) rfl hb2 rfl hs4 dX7_findValid_45 ?_
    refine V_inc (ls' := [some (.ref h), some (.int v1), some (.int (v2 + (1 : Int32))), none]) dX7_findValid_46 rfl kc_1 (by decide) rfl ?_
    refine V_goto (tgt := 33) dX7_findValid_49 (by decide) ?_
    exact hk33 v1 (v2 + (1 : Int32)) σ3 hf
set_option maxHeartbeats 4000000 in
theorem mM_findValid_7_v {X : CX} {w0 : AH} {z : ZZ} {h : Nat} {σ' : SM} (hE : XE X w0 5 none "findValid" (.returned none) (wM z h σ')) (k7 : Int32 → Int32 → SM → Option (SM)) (hk7 : ∀ (v1 : Int32) (v2 : Int32) (σ : SM), k7 v1 v2 σ = some σ' → V X cX7_findValid RX7 4 5 (wM z h σ) 7 [some (.ref h), some (.int v1), some (.int v2), none] []) (v1 : Int32) (v2 : Int32) (σ : SM) (hf : mM_findValid_7 k7 v1 v2 σ = some σ') : V X cX7_findValid RX7 4 5 (wM z h σ) 7 [some (.ref h), some (.int v1), some (.int v2), none] [] := by
  unfold mM_findValid_7 at hf
  refine V_iload_n dX7_findValid_7 rfl ?_
  refine V_bipush dX7_findValid_8 kb_10 ?_
  refine V_icmp_ge (tgt := 31) dX7_findValid_10 (by decide) (fun hc1 => ?_) (fun hc1 => ?_)
  · have hf := if_t hf hc1
    refine V_iconst dX7_findValid_31 kc_0 ?_
    refine V_istore_n (ls' := [some (.ref h), some (.int v1), some (.int (0 : Int32)), none]) dX7_findValid_32 (by decide) rfl ?_
    exact lq3_ex (P := fun v1 v2 σ => V X cX7_findValid RX7 4 5 (wM z h σ) 33 [some (.ref h), some (.int v1), some (.int v2), none] []) (fun k hk v1 v2 σ hf => mM_findValid_33_v hE k hk v1 v2 σ hf) LF v1 (0 : Int32) σ hf
  · have hf := if_f hf hc1
    refine V_aload_n dX7_findValid_13 rfl ?_
    refine VM_getR fX7_89 ⟨rfl, rfl⟩ rfl dX7_findValid_14 ?_
    refine V_iload_n dX7_findValid_17 rfl ?_
    refine V_aload_n dX7_findValid_18 rfl ?_
    refine V_iconst dX7_findValid_19 kc_3 ?_
    refine V_iload_n dX7_findValid_20 rfl ?_
    obtain ⟨r3, σ4, hc2, hf⟩ := bd2_ex hf
    refine V_cV (av := [.int (3 : Int32), .int v2]) (rest := [.int v2, .ref (h + 25)]) (st' := [.int r3, .int v2, .ref (h + 25)]) (mM_find_ok _ _ _ _ _ _ _ _ _ hc2) vcX7_195 (wM_k0 _ _ _) (by decide) rfl rfl (Nat.le_of_ble_eq_true rfl) dX7_findValid_21 rfl ?_
    obtain ⟨hb5, hf⟩ := ck_ex hf
    obtain ⟨hb6, hf⟩ := ck_ex hf
    obtain ⟨σ7, hs8, hf⟩ := st1_ex hf
    refine VM_stZ (n := 10) (k := v2.toNatClampNeg) rfl hb5 rfl hb6 hs8 dX7_findValid_24 ?_
    refine V_inc (ls' := [some (.ref h), some (.int v1), some (.int (v2 + (1 : Int32))), none]) dX7_findValid_25 rfl kc_1 (by decide) rfl ?_
    refine V_goto (tgt := 7) dX7_findValid_28 (by decide) ?_
    exact hk7 v1 (v2 + (1 : Int32)) σ7 hf
set_option maxHeartbeats 4000000 in
theorem mM_findValid_ok (l : Launch) (D : DD) (z : ZZ) (h : Nat) (p0 : Int32) (σ : SM) (σ' : SM) (hf : mM_findValid p0 σ = some σ') : MA l D yX7_findValid cX7_findValid 4 none 5 [.ref h, .int p0] (wM z h σ) (.returned none) (wM z h σ') := by
  refine MA.intro (own := RX7) (nm := "findValid") (ls := [some (.ref h), some (.int p0), none, none]) (by decide) rfl rfl (Nat.le_of_ble_eq_true rfl) rfl (fun X hl hD hE => ?_)
  subst hl hD
  unfold mM_findValid at hf
  refine V_aload_n dX7_findValid_0 rfl ?_
  refine V_iload_n dX7_findValid_1 rfl ?_
  obtain ⟨σ2, hc1, hf⟩ := bd1_ex hf
  refine V_cV (av := [.int p0]) (rest := []) (st' := []) (mM_setBooth_ok _ _ _ _ _ _ _ hc1) vcX7_523 (wM_k0 _ _ _) (by decide) rfl rfl (Nat.le_of_ble_eq_true rfl) dX7_findValid_2 rfl ?_
  refine V_iconst dX7_findValid_5 kc_0 ?_
  refine V_istore_n (ls' := [some (.ref h), some (.int p0), some (.int (0 : Int32)), none]) dX7_findValid_6 (by decide) rfl ?_
  exact lq3_ex (P := fun v1 v2 σ => V X cX7_findValid RX7 4 5 (wM z h σ) 7 [some (.ref h), some (.int v1), some (.int v2), none] []) (fun k hk v1 v2 σ hf => mM_findValid_7_v hE k hk v1 v2 σ hf) LF p0 (0 : Int32) σ2 hf
set_option maxHeartbeats 4000000 in
theorem mM_tells_183_v {X : CX} {w0 : AH} {z : ZZ} {h : Nat} {r : Int32} {σ' : SM} (hE : XE X w0 7 (some .int) "tells" (.returned (some (.int r))) (wM z h σ')) (k183 : Int32 → Int32 → SM → Option (Int32 × SM)) (hk183 : ∀ (v7 : Int32) (v8 : Int32) (σ : SM), k183 v7 v8 σ = some (r, σ') → V X cX7_tells RX7 9 7 (wM z h σ) 183 [some (.ref h), none, none, none, none, none, none, some (.int v7), some (.int v8)] []) (v7 : Int32) (v8 : Int32) (σ : SM) (hf : mM_tells_183 k183 v7 v8 σ = some (r, σ')) : V X cX7_tells RX7 9 7 (wM z h σ) 183 [some (.ref h), none, none, none, none, none, none, some (.int v7), some (.int v8)] [] := by
  unfold mM_tells_183 at hf
  refine V_iload dX7_tells_183 rfl ?_
  refine V_bipush dX7_tells_185 kb_8 ?_
  refine V_icmp_ge (tgt := 208) dX7_tells_187 (by decide) (fun hc1 => ?_) (fun hc1 => ?_)
  · have hf := if_t hf hc1
    refine V_iload dX7_tells_208 rfl ?_
    cases some_ex hf
    exact V_iret hE dX7_tells_210
  · have hf := if_f hf hc1
    refine V_iload dX7_tells_190 rfl ?_
    refine V_aload_n dX7_tells_192 rfl ?_
    refine VM_getR fX7_92 ⟨rfl, rfl⟩ rfl dX7_tells_193 ?_
    refine V_iload dX7_tells_196 rfl ?_
    obtain ⟨hb2, hf⟩ := ck_ex hf
    refine VM_ldI (n := 8) (k := v8.toNatClampNeg) rfl hb2 rfl dX7_tells_198 ?_
    refine V_iadd dX7_tells_199 ?_
    refine V_istore (ls' := [some (.ref h), none, none, none, none, none, none, some (.int (v7 + (gI σ 26 (v8.toNatClampNeg)))), some (.int v8)]) dX7_tells_200 (by decide) rfl ?_
    refine V_inc (ls' := [some (.ref h), none, none, none, none, none, none, some (.int (v7 + (gI σ 26 (v8.toNatClampNeg)))), some (.int (v8 + (1 : Int32)))]) dX7_tells_202 rfl kc_1 (by decide) rfl ?_
    refine V_goto (tgt := 183) dX7_tells_205 (by decide) ?_
    exact hk183 (v7 + (gI σ 26 (v8.toNatClampNeg))) (v8 + (1 : Int32)) σ hf
set_option maxHeartbeats 4000000 in
theorem mM_tells_ok (l : Launch) (D : DD) (z : ZZ) (h : Nat) (p0 : Int32) (p1 : Int32) (p2 : Int32) (p3 : Int32) (σ : SM) (r : Int32) (σ' : SM) (hf : mM_tells p0 p1 p2 p3 σ = some (r, σ')) : MA l D yX7_tells cX7_tells 9 (some .int) 7 [.ref h, .int p0, .int p1, .int p2, .int p3] (wM z h σ) (.returned (some (.int r))) (wM z h σ') := by
  refine MA.intro (own := RX7) (nm := "tells") (ls := [some (.ref h), some (.int p0), some (.int p1), some (.int p2), some (.int p3), none, none, none, none]) (by decide) rfl rfl (Nat.le_of_ble_eq_true rfl) rfl (fun X hl hD hE => ?_)
  subst hl hD
  unfold mM_tells at hf
  refine V_aload_n dX7_tells_0 rfl ?_
  refine V_iconst dX7_tells_1 kc_0 ?_
  obtain ⟨σ1, hs2, hf⟩ := st1_ex hf
  refine VM_putI fwX7_113 hs2 dX7_tells_2 ?_
  refine V_aload_n dX7_tells_5 rfl ?_
  refine V_iload_n dX7_tells_6 rfl ?_
  obtain ⟨r4, hc3, hf⟩ := bd1_ex hf
  refine V_cV (av := [.int p0]) (rest := []) (st' := [.int r4]) (mM_isBooth_ok _ _ _ _ _ _ _ hc3) vcX7_504 (wM_k0 _ _ _) (by decide) rfl rfl (Nat.le_of_ble_eq_true rfl) dX7_tells_7 rfl ?_
  refine V_if_eq (tgt := 40) dX7_tells_10 (by decide) (fun hc5 => ?_) (fun hc5 => ?_)
  · have hf := if_t hf hc5
    refine V_ldcw q2392 dX7_tells_40 ?_
    cases some_ex hf
    exact V_iret hE dX7_tells_43
  · have hf := if_f hf hc5
    refine V_iload_n dX7_tells_13 rfl ?_
    obtain ⟨r7, hc6, hf⟩ := bd1_ex hf
    refine V_cS (rest := []) (st' := [.int r7]) (mM_isDay_ok _ _ _ _ _ hc6) scX7_159 (by decide) rfl rfl (Nat.le_of_ble_eq_true rfl) dX7_tells_14 rfl ?_
    refine V_if_eq (tgt := 40) dX7_tells_17 (by decide) (fun hc8 => ?_) (fun hc8 => ?_)
    · have hf := if_t hf hc8
      refine V_ldcw q2392 dX7_tells_40 ?_
      cases some_ex hf
      exact V_iret hE dX7_tells_43
    · have hf := if_f hf hc8
      refine V_iload_n dX7_tells_20 rfl ?_
      obtain ⟨r10, hc9, hf⟩ := bd1_ex hf
      refine V_cS (rest := []) (st' := [.int r10]) (mM_isDay_ok _ _ _ _ _ hc9) scX7_159 (by decide) rfl rfl (Nat.le_of_ble_eq_true rfl) dX7_tells_21 rfl ?_
      refine V_if_eq (tgt := 40) dX7_tells_24 (by decide) (fun hc11 => ?_) (fun hc11 => ?_)
      · have hf := if_t hf hc11
        refine V_ldcw q2392 dX7_tells_40 ?_
        cases some_ex hf
        exact V_iret hE dX7_tells_43
      · have hf := if_f hf hc11
        refine V_iload dX7_tells_27 rfl ?_
        refine V_i2l dX7_tells_29 ?_
        refine V_lconst dX7_tells_30 kl_0 ?_
        refine V_ldc2 q2391 dX7_tells_31 ?_
        obtain ⟨r13, hc12, hf⟩ := bd1_ex hf
        refine V_cS (rest := []) (st' := [.int r13]) (mM_in_ok _ _ _ _ _ _ _ hc12) scX7_121 (by decide) rfl rfl (Nat.le_of_ble_eq_true rfl) dX7_tells_34 rfl ?_
        refine V_if_ne (tgt := 44) dX7_tells_37 (by decide) (fun hc14 => ?_) (fun hc14 => ?_)
        · have hf := if_f hf hc14
          refine V_aload_n dX7_tells_44 rfl ?_
          refine V_iload_n dX7_tells_45 rfl ?_
          refine V_iload_n dX7_tells_46 rfl ?_
          obtain ⟨σ16, hc15, hf⟩ := bd1_ex hf
          refine V_cV (av := [.int p1, .int p2]) (rest := []) (st' := []) (mM_knowBy_ok _ _ _ _ _ _ _ _ hc15) vcX7_205 (wM_k0 _ _ _) (by decide) rfl rfl (Nat.le_of_ble_eq_true rfl) dX7_tells_47 rfl ?_
          refine V_aload_n dX7_tells_50 rfl ?_
          refine V_iload_n dX7_tells_51 rfl ?_
          obtain ⟨r18, hc17, hf⟩ := bd1_ex hf
          refine V_cV (av := [.int p0]) (rest := []) (st' := [.int r18]) (mM_putOf_ok _ _ _ _ _ _ _ hc17) vcX7_438 (wM_k0 _ _ _) (by decide) rfl rfl (Nat.le_of_ble_eq_true rfl) dX7_tells_52 rfl ?_
          refine V_istore (ls' := [some (.ref h), some (.int p0), some (.int p1), some (.int p2), some (.int p3), some (.int r18), none, none, none]) dX7_tells_55 (by decide) rfl ?_
          refine V_aload_n dX7_tells_57 rfl ?_
          refine V_iload_n dX7_tells_58 rfl ?_
          refine V_iconst dX7_tells_59 kc_1 ?_
          obtain ⟨r20, hc19, hf⟩ := bd1_ex hf
          refine V_cV (av := [.int p0, .int (1 : Int32)]) (rest := []) (st' := [.int r20]) (mM_paperOf_ok _ _ _ _ _ _ _ _ hc19) vcX7_435 (wM_k0 _ _ _) (by decide) rfl rfl (Nat.le_of_ble_eq_true rfl) dX7_tells_60 rfl ?_
          refine V_iload dX7_tells_63 rfl ?_
          refine V_isub dX7_tells_65 ?_
          refine V_aload_n dX7_tells_66 rfl ?_
          refine V_iload_n dX7_tells_67 rfl ?_
          refine V_iconst dX7_tells_68 kc_2 ?_
          obtain ⟨r22, hc21, hf⟩ := bd1_ex hf
          refine V_cV (av := [.int p0, .int (2 : Int32)]) (rest := [.int (r20 - r18)]) (st' := [.int r22, .int (r20 - r18)]) (mM_paperOf_ok _ _ _ _ _ _ _ _ hc21) vcX7_435 (wM_k0 _ _ _) (by decide) rfl rfl (Nat.le_of_ble_eq_true rfl) dX7_tells_69 rfl ?_
          refine V_isub dX7_tells_72 ?_
          refine V_istore (ls' := [some (.ref h), some (.int p0), some (.int p1), some (.int p2), some (.int p3), some (.int r18), some (.int ((r20 - r18) - r22)), none, none]) dX7_tells_73 (by decide) rfl ?_
          refine V_iload dX7_tells_75 rfl ?_
          refine V_iconst dX7_tells_77 kc_4 ?_
          refine V_icmp_ge (tgt := 89) dX7_tells_78 (by decide) (fun hc23 => ?_) (fun hc23 => ?_)
          · have hf := if_t hf hc23
            refine V_iload dX7_tells_89 rfl ?_
            refine V_bipush dX7_tells_91 kb_7 ?_
            refine V_icmp_ge (tgt := 151) dX7_tells_93 (by decide) (fun hc24 => ?_) (fun hc24 => ?_)
            · have hf := if_t hf hc24
              refine V_iload dX7_tells_151 rfl ?_
              refine V_bipush dX7_tells_153 kb_7 ?_
              refine V_icmp_ne (tgt := 172) dX7_tells_155 (by decide) (fun hc25 => ?_) (fun hc25 => ?_)
              · have hf := if_f hf hc25
                refine V_aload_n dX7_tells_172 rfl ?_
                refine V_iload_n dX7_tells_173 rfl ?_
                obtain ⟨σ27, hc26, hf⟩ := bd1_ex hf
                refine V_cV (av := [.int p0]) (rest := []) (st' := []) (mM_findValid_ok _ _ _ _ _ _ _ hc26) vcX7_532 (wM_k0 _ _ _) (by decide) rfl rfl (Nat.le_of_ble_eq_true rfl) dX7_tells_174 rfl ?_
                refine V_iconst dX7_tells_177 kc_0 ?_
                refine V_istore (ls' := [some (.ref h), some (.int p0), some (.int p1), some (.int p2), some (.int p3), some (.int r18), some (.int ((r20 - r18) - r22)), some (.int (0 : Int32)), none]) dX7_tells_178 (by decide) rfl ?_
                refine V_iconst dX7_tells_180 kc_0 ?_
                refine V_istore (ls' := [some (.ref h), some (.int p0), some (.int p1), some (.int p2), some (.int p3), some (.int r18), some (.int ((r20 - r18) - r22)), some (.int (0 : Int32)), some (.int (0 : Int32))]) dX7_tells_181 (by decide) rfl ?_
                refine V_keep [true, false, false, false, false, false, false, true, true] rfl ?_
                exact lq3_ex (P := fun v7 v8 σ => V X cX7_tells RX7 9 7 (wM z h σ) 183 [some (.ref h), none, none, none, none, none, none, some (.int v7), some (.int v8)] []) (fun k hk v7 v8 σ hf => mM_tells_183_v hE k hk v7 v8 σ hf) LF (0 : Int32) (0 : Int32) σ27 hf
              · have hf := if_t hf hc25
                refine V_aload_n dX7_tells_158 rfl ?_
                refine V_iload_n dX7_tells_159 rfl ?_
                obtain ⟨r29, σ30, hc28, hf⟩ := bd2_ex hf
                refine V_cV (av := [.int p0]) (rest := []) (st' := [.int r29]) (mM_isAgain_ok _ _ _ _ _ _ _ _ hc28) vcX7_529 (wM_k0 _ _ _) (by decide) rfl rfl (Nat.le_of_ble_eq_true rfl) dX7_tells_160 rfl ?_
                refine V_if_eq (tgt := 170) dX7_tells_163 (by decide) (fun hc31 => ?_) (fun hc31 => ?_)
                · have hf := if_t hf hc31
                  refine V_iconst dX7_tells_170 kc_0 ?_
                  cases some_ex hf
                  exact V_iret hE dX7_tells_171
                · have hf := if_f hf hc31
                  refine V_iconst dX7_tells_166 kc_1 ?_
                  refine V_goto (tgt := 171) dX7_tells_167 (by decide) ?_
                  cases some_ex hf
                  exact V_iret hE dX7_tells_171
            · have hf := if_f hf hc24
              refine V_iload dX7_tells_96 rfl ?_
              refine V_iconst dX7_tells_98 kc_4 ?_
              refine V_icmp_ne (tgt := 107) dX7_tells_99 (by decide) (fun hc32 => ?_) (fun hc32 => ?_)
              · have hf := if_f hf hc32
                refine V_iload dX7_tells_107 rfl ?_
                refine V_iconst dX7_tells_109 kc_5 ?_
                refine V_icmp_ne (tgt := 118) dX7_tells_110 (by decide) (fun hc33 => ?_) (fun hc33 => ?_)
                · have hf := if_f hf hc33
                  refine V_iload dX7_tells_118 rfl ?_
                  refine V_if_ne (tgt := 149) dX7_tells_120 (by decide) (fun hc34 => ?_) (fun hc34 => ?_)
                  · have hf := if_f hf hc34
                    refine V_iconst dX7_tells_149 kc_0 ?_
                    cases some_ex hf
                    exact V_iret hE dX7_tells_150
                  · have hf := if_t hf hc34
                    refine V_aload_n dX7_tells_123 rfl ?_
                    refine V_iload_n dX7_tells_124 rfl ?_
                    refine V_iconst dX7_tells_125 kc_0 ?_
                    obtain ⟨r36, hc35, hf⟩ := bd1_ex hf
                    refine V_cV (av := [.int p0, .int (0 : Int32)]) (rest := []) (st' := [.int r36]) (mM_paperOf_ok _ _ _ _ _ _ _ _ hc35) vcX7_435 (wM_k0 _ _ _) (by decide) rfl rfl (Nat.le_of_ble_eq_true rfl) dX7_tells_126 rfl ?_
                    refine V_aload_n dX7_tells_129 rfl ?_
                    refine V_iload_n dX7_tells_130 rfl ?_
                    refine V_iconst dX7_tells_131 kc_1 ?_
                    obtain ⟨r38, hc37, hf⟩ := bd1_ex hf
                    refine V_cV (av := [.int p0, .int (1 : Int32)]) (rest := [.int r36]) (st' := [.int r38, .int r36]) (mM_paperOf_ok _ _ _ _ _ _ _ _ hc37) vcX7_435 (wM_k0 _ _ _) (by decide) rfl rfl (Nat.le_of_ble_eq_true rfl) dX7_tells_132 rfl ?_
                    refine V_aload_n dX7_tells_135 rfl ?_
                    refine V_iload_n dX7_tells_136 rfl ?_
                    refine V_iconst dX7_tells_137 kc_3 ?_
                    obtain ⟨r40, hc39, hf⟩ := bd1_ex hf
                    refine V_cV (av := [.int p0, .int (3 : Int32)]) (rest := [.int r38, .int r36]) (st' := [.int r40, .int r38, .int r36]) (mM_paperOf_ok _ _ _ _ _ _ _ _ hc39) vcX7_435 (wM_k0 _ _ _) (by decide) rfl rfl (Nat.le_of_ble_eq_true rfl) dX7_tells_138 rfl ?_
                    refine V_iadd dX7_tells_141 ?_
                    refine V_icmp_ne (tgt := 149) dX7_tells_142 (by decide) (fun hc41 => ?_) (fun hc41 => ?_)
                    · have hf := if_f hf hc41
                      refine V_iconst dX7_tells_149 kc_0 ?_
                      cases some_ex hf
                      exact V_iret hE dX7_tells_150
                    · have hf := if_t hf hc41
                      refine V_iconst dX7_tells_145 kc_1 ?_
                      refine V_goto (tgt := 150) dX7_tells_146 (by decide) ?_
                      cases some_ex hf
                      exact V_iret hE dX7_tells_150
                · have hf := if_t hf hc33
                  refine V_iload dX7_tells_113 rfl ?_
                  refine V_goto (tgt := 150) dX7_tells_115 (by decide) ?_
                  cases some_ex hf
                  exact V_iret hE dX7_tells_150
              · have hf := if_t hf hc32
                refine V_iload dX7_tells_102 rfl ?_
                refine V_goto (tgt := 150) dX7_tells_104 (by decide) ?_
                cases some_ex hf
                exact V_iret hE dX7_tells_150
          · have hf := if_f hf hc23
            refine V_aload_n dX7_tells_81 rfl ?_
            refine V_iload_n dX7_tells_82 rfl ?_
            refine V_iload dX7_tells_83 rfl ?_
            obtain ⟨r43, hc42, hf⟩ := bd1_ex hf
            refine V_cV (av := [.int p0, .int p3]) (rest := []) (st' := [.int r43]) (mM_paperOf_ok _ _ _ _ _ _ _ _ hc42) vcX7_435 (wM_k0 _ _ _) (by decide) rfl rfl (Nat.le_of_ble_eq_true rfl) dX7_tells_85 rfl ?_
            cases some_ex hf
            exact V_iret hE dX7_tells_88
        · have hf := if_t hf hc14
          refine V_ldcw q2392 dX7_tells_40 ?_
          cases some_ex hf
          exact V_iret hE dX7_tells_43
set_option maxHeartbeats 4000000 in
theorem mM_keep_29_v {X : CX} {w0 : AH} {z : ZZ} {h : Nat} {r : Int32} {σ' : SM} (hE : XE X w0 2 (some .int) "keep" (.returned (some (.int r))) (wM z h σ')) (σ : SM) (hf : mM_keep_29 σ = some (r, σ')) : V X cX7_keep RX7 3 2 (wM z h σ) 29 [some (.ref h), none, none] [] := by
  unfold mM_keep_29 at hf
  refine V_aload_n dX7_keep_29 rfl ?_
  refine V_iconst dX7_keep_30 kc_m1 ?_
  obtain ⟨r2, σ3, hc1, hf⟩ := bd2_ex hf
  refine V_cV (av := [.int (-1 : Int32)]) (rest := []) (st' := [.int r2]) (mM_told_ok _ _ _ _ _ _ _ _ hc1) vcX7_125 (wM_k0 _ _ _) (by decide) rfl rfl (Nat.le_of_ble_eq_true rfl) dX7_keep_31 rfl ?_
  cases some_ex hf
  exact V_iret hE dX7_keep_34
set_option maxHeartbeats 4000000 in
theorem mM_keep_ok (l : Launch) (D : DD) (z : ZZ) (h : Nat) (p0 : Int32) (p1 : Int32) (σ : SM) (r : Int32) (σ' : SM) (hf : mM_keep p0 p1 σ = some (r, σ')) : MA l D yX7_keep cX7_keep 3 (some .int) 2 [.ref h, .int p0, .int p1] (wM z h σ) (.returned (some (.int r))) (wM z h σ') := by
  refine MA.intro (own := RX7) (nm := "keep") (ls := [some (.ref h), some (.int p0), some (.int p1)]) (by decide) rfl rfl (Nat.le_of_ble_eq_true rfl) rfl (fun X hl hD hE => ?_)
  subst hl hD
  unfold mM_keep at hf
  refine V_aload_n dX7_keep_0 rfl ?_
  refine V_iconst dX7_keep_1 kc_0 ?_
  obtain ⟨σ1, hs2, hf⟩ := st1_ex hf
  refine VM_putI fwX7_113 hs2 dX7_keep_2 ?_
  refine V_iload_n dX7_keep_5 rfl ?_
  refine V_i2l dX7_keep_6 ?_
  refine V_lconst dX7_keep_7 kl_0 ?_
  refine V_ldc2 q1976 dX7_keep_8 ?_
  obtain ⟨r4, hc3, hf⟩ := bd1_ex hf
  refine V_cS (rest := []) (st' := [.int r4]) (mM_in_ok _ _ _ _ _ _ _ hc3) scX7_121 (by decide) rfl rfl (Nat.le_of_ble_eq_true rfl) dX7_keep_11 rfl ?_
  refine V_if_eq (tgt := 29) dX7_keep_14 (by decide) (fun hc5 => ?_) (fun hc5 => ?_)
  · have hf := if_t hf hc5
    refine V_keep [true, false, false] rfl ?_
    exact mM_keep_29_v hE σ1 hf
  · have hf := if_f hf hc5
    refine V_iload_n dX7_keep_17 rfl ?_
    refine V_i2l dX7_keep_18 ?_
    refine V_lconst dX7_keep_19 kl_0 ?_
    refine V_ldc2 q2385 dX7_keep_20 ?_
    obtain ⟨r7, hc6, hf⟩ := bd1_ex hf
    refine V_cS (rest := []) (st' := [.int r7]) (mM_in_ok _ _ _ _ _ _ _ hc6) scX7_121 (by decide) rfl rfl (Nat.le_of_ble_eq_true rfl) dX7_keep_23 rfl ?_
    refine V_if_ne (tgt := 35) dX7_keep_26 (by decide) (fun hc8 => ?_) (fun hc8 => ?_)
    · have hf := if_f hf hc8
      refine V_aload_n dX7_keep_35 rfl ?_
      refine VM_getR fX7_7 ⟨rfl, rfl⟩ rfl dX7_keep_36 ?_
      refine V_sipush dX7_keep_39 ks_5008 ?_
      refine V_bipush dX7_keep_42 kb_8 ?_
      refine V_iload_n dX7_keep_44 rfl ?_
      refine V_imul dX7_keep_45 ?_
      refine V_iadd dX7_keep_46 ?_
      refine V_iload_n dX7_keep_47 rfl ?_
      refine V_iadd dX7_keep_48 ?_
      obtain ⟨hb9, hf⟩ := ck_ex hf
      refine VM_ldI (n := 23016) (k := (((5008 : Int32) + ((8 : Int32) * p0)) + p1).toNatClampNeg) rfl hb9 rfl dX7_keep_49 ?_
      refine V_iconst dX7_keep_50 kc_1 ?_
      refine V_icmp_ne (tgt := 61) dX7_keep_51 (by decide) (fun hc10 => ?_) (fun hc10 => ?_)
      · have hf := if_f hf hc10
        refine V_aload_n dX7_keep_61 rfl ?_
        refine VM_getR fX7_7 ⟨rfl, rfl⟩ rfl dX7_keep_62 ?_
        refine V_sipush dX7_keep_65 ks_5008 ?_
        refine V_bipush dX7_keep_68 kb_8 ?_
        refine V_iload_n dX7_keep_70 rfl ?_
        refine V_imul dX7_keep_71 ?_
        refine V_iadd dX7_keep_72 ?_
        refine V_iload_n dX7_keep_73 rfl ?_
        refine V_iadd dX7_keep_74 ?_
        refine V_iconst dX7_keep_75 kc_1 ?_
        obtain ⟨hb11, hf⟩ := ck_ex hf
        obtain ⟨σ12, hs13, hf⟩ := st1_ex hf
        refine VM_stI (n := 23016) (k := (((5008 : Int32) + ((8 : Int32) * p0)) + p1).toNatClampNeg) rfl hb11 rfl hs13 dX7_keep_76 ?_
        refine V_aload_n dX7_keep_77 rfl ?_
        refine V_iconst dX7_keep_78 kc_0 ?_
        obtain ⟨r15, σ16, hc14, hf⟩ := bd2_ex hf
        refine V_cV (av := [.int (0 : Int32)]) (rest := []) (st' := [.int r15]) (mM_told_ok _ _ _ _ _ _ _ _ hc14) vcX7_125 (wM_k0 _ _ _) (by decide) rfl rfl (Nat.le_of_ble_eq_true rfl) dX7_keep_79 rfl ?_
        cases some_ex hf
        exact V_iret hE dX7_keep_82
      · have hf := if_t hf hc10
        refine V_aload_n dX7_keep_54 rfl ?_
        refine V_bipush dX7_keep_55 kb_m4 ?_
        obtain ⟨r18, σ19, hc17, hf⟩ := bd2_ex hf
        refine V_cV (av := [.int (-4 : Int32)]) (rest := []) (st' := [.int r18]) (mM_told_ok _ _ _ _ _ _ _ _ hc17) vcX7_125 (wM_k0 _ _ _) (by decide) rfl rfl (Nat.le_of_ble_eq_true rfl) dX7_keep_57 rfl ?_
        cases some_ex hf
        exact V_iret hE dX7_keep_60
    · have hf := if_t hf hc8
      refine V_keep [true, false, false] rfl ?_
      exact mM_keep_29_v hE σ1 hf
