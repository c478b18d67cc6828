set_option maxRecDepth 100000
set_option maxHeartbeats 4000000 in
theorem mM_seatOf_ok (l : Launch) (D : DD) (z : ZZ) (h : Nat) (p0 : Int32) (σ : SM) (r : Int32) (hf : mM_seatOf p0 σ = some r) : MA l D yX7_seatOf cX7_seatOf 2 (some .int) 2 [.ref h, .int p0] (wM z h σ) (.returned (some (.int r))) (wM z h σ) := by
  refine MA.intro (own := RX7) (nm := "seatOf") (ls := [some (.ref h), some (.int p0)]) (by decide) rfl rfl (Nat.le_of_ble_eq_true rfl) rfl (fun X hl hD hE => ?_)
  subst hl hD
  unfold mM_seatOf at hf
  refine V_aload_n dX7_seatOf_0 rfl ?_
  refine VM_getR fX7_7 ⟨rfl, rfl⟩ rfl dX7_seatOf_1 ?_
  refine V_aload_n dX7_seatOf_4 rfl ?_
  refine VM_getR fX7_7 ⟨rfl, rfl⟩ rfl dX7_seatOf_5 ?_
  refine V_sipush dX7_seatOf_8 ks_2348 ?_
  refine V_iload_n dX7_seatOf_11 rfl ?_
  refine V_iadd dX7_seatOf_12 ?_
  obtain ⟨hb1, hf⟩ := ck_ex hf
  refine VM_ldI (n := 23016) (k := ((2348 : Int32) + p0).toNatClampNeg) rfl hb1 rfl dX7_seatOf_13 ?_
  obtain ⟨r3, hc2, hf⟩ := bd1_ex hf
  refine V_cS (rest := [.ref (h + 1)]) (st' := [.int r3, .ref (h + 1)]) (mM_placeAt_ok _ _ _ _ _ hc2) scX7_133 (by decide) rfl rfl (Nat.le_of_ble_eq_true rfl) dX7_seatOf_14 rfl ?_
  obtain ⟨hb4, hf⟩ := ck_ex hf
  refine VM_ldI (n := 23016) (k := r3.toNatClampNeg) rfl hb4 rfl dX7_seatOf_17 ?_
  cases some_ex hf
  exact V_iret hE dX7_seatOf_18
set_option maxHeartbeats 4000000 in
theorem mM_addSeat_81_v {X : CX} {w0 : AH} {z : ZZ} {h : Nat} {σ' : SM} (hE : XE X w0 6 none "addSeat" (.returned none) (wM z h σ')) (k23 : Int32 → Int32 → SM → Option (SM)) (hk23 : ∀ (v1 : Int32) (v2 : Int32) (σ : SM), k23 v1 v2 σ = some σ' → V X cX7_addSeat RX7 4 6 (wM z h σ) 23 [some (.ref h), some (.int v1), some (.int v2), none] []) (v1 : Int32) (v2 : Int32) (σ : SM) (hf : mM_addSeat_81 k23 v1 v2 σ = some σ') : V X cX7_addSeat RX7 4 6 (wM z h σ) 81 [some (.ref h), some (.int v1), some (.int v2), none] [] := by
  unfold mM_addSeat_81 at hf
  refine V_inc (ls' := [some (.ref h), some (.int v1), some (.int (v2 + (1 : Int32))), none]) dX7_addSeat_81 rfl kc_1 (by decide) rfl ?_
  refine V_goto (tgt := 23) dX7_addSeat_84 (by decide) ?_
  exact hk23 v1 (v2 + (1 : Int32)) σ hf
set_option maxHeartbeats 4000000 in
theorem mM_addSeat_54_v {X : CX} {w0 : AH} {z : ZZ} {h : Nat} {σ' : SM} (hE : XE X w0 6 none "addSeat" (.returned none) (wM z h σ')) (k23 : Int32 → Int32 → SM → Option (SM)) (hk23 : ∀ (v1 : Int32) (v2 : Int32) (σ : SM), k23 v1 v2 σ = some σ' → V X cX7_addSeat RX7 4 6 (wM z h σ) 23 [some (.ref h), some (.int v1), some (.int v2), none] []) (k54 : Int32 → Int32 → Int32 → SM → Option (SM)) (hk54 : ∀ (v1 : Int32) (v2 : Int32) (v3 : Int32) (σ : SM), k54 v1 v2 v3 σ = some σ' → V X cX7_addSeat RX7 4 6 (wM z h σ) 54 [some (.ref h), some (.int v1), some (.int v2), some (.int v3)] []) (v1 : Int32) (v2 : Int32) (v3 : Int32) (σ : SM) (hf : mM_addSeat_54 k23 k54 v1 v2 v3 σ = some σ') : V X cX7_addSeat RX7 4 6 (wM z h σ) 54 [some (.ref h), some (.int v1), some (.int v2), some (.int v3)] [] := by
  unfold mM_addSeat_54 at hf
  refine V_iload_n dX7_addSeat_54 rfl ?_
  refine V_bipush dX7_addSeat_55 kb_8 ?_
  refine V_icmp_ge (tgt := 81) dX7_addSeat_57 (by decide) (fun hc1 => ?_) (fun hc1 => ?_)
  · have hf := if_t hf hc1
    refine V_keep [true, true, true, false] rfl ?_
    exact mM_addSeat_81_v hE k23 hk23 v1 v2 σ hf
  · have hf := if_f hf hc1
    refine V_aload_n dX7_addSeat_60 rfl ?_
    refine VM_getR fX7_95 ⟨rfl, rfl⟩ rfl dX7_addSeat_61 ?_
    refine V_iload_n dX7_addSeat_64 rfl ?_
    refine V_dup2 dX7_addSeat_65 rfl rfl ?_
    obtain ⟨hb2, hf⟩ := ck_ex hf
    refine VM_ldI (n := 8) (k := v3.toNatClampNeg) rfl hb2 rfl dX7_addSeat_66 ?_
    refine V_aload_n dX7_addSeat_67 rfl ?_
    refine VM_getR fX7_92 ⟨rfl, rfl⟩ rfl dX7_addSeat_68 ?_
    refine V_iload_n dX7_addSeat_71 rfl ?_
    obtain ⟨hb3, hf⟩ := ck_ex hf
    refine VM_ldI (n := 8) (k := v3.toNatClampNeg) rfl hb3 rfl dX7_addSeat_72 ?_
    refine V_iadd dX7_addSeat_73 ?_
    obtain ⟨hb4, hf⟩ := ck_ex hf
    obtain ⟨σ5, hs6, hf⟩ := st1_ex hf
    refine VM_stI (n := 8) (k := v3.toNatClampNeg) rfl hb4 rfl hs6 dX7_addSeat_74 ?_
    refine V_inc (ls' := [some (.ref h), some (.int v1), some (.int v2), some (.int (v3 + (1 : Int32)))]) dX7_addSeat_75 rfl kc_1 (by decide) rfl ?_
    refine V_goto (tgt := 54) dX7_addSeat_78 (by decide) ?_
    exact hk54 v1 v2 (v3 + (1 : Int32)) σ5 hf
set_option maxHeartbeats 4000000 in
theorem mM_addSeat_47_v {X : CX} {w0 : AH} {z : ZZ} {h : Nat} {σ' : SM} (hE : XE X w0 6 none "addSeat" (.returned none) (wM z h σ')) (k23 : Int32 → Int32 → SM → Option (SM)) (hk23 : ∀ (v1 : Int32) (v2 : Int32) (σ : SM), k23 v1 v2 σ = some σ' → V X cX7_addSeat RX7 4 6 (wM z h σ) 23 [some (.ref h), some (.int v1), some (.int v2), none] []) (v1 : Int32) (v2 : Int32) (σ : SM) (hf : mM_addSeat_47 k23 v1 v2 σ = some σ') : V X cX7_addSeat RX7 4 6 (wM z h σ) 47 [some (.ref h), some (.int v1), some (.int v2), none] [] := by
  unfold mM_addSeat_47 at hf
  refine V_aload_n dX7_addSeat_47 rfl ?_
  refine V_iload_n dX7_addSeat_48 rfl ?_
  obtain ⟨σ2, hc1, hf⟩ := bd1_ex hf
  refine V_cV (av := [.int v2]) (rest := []) (st' := []) (mM_findValid_ok _ _ _ _ _ _ _ hc1) vcX7_532 (wM_k0 _ _ _) (by decide) rfl rfl (Nat.le_of_ble_eq_true rfl) dX7_addSeat_49 rfl ?_
  refine V_iconst dX7_addSeat_52 kc_0 ?_
  refine V_istore_n (ls' := [some (.ref h), some (.int v1), some (.int v2), some (.int (0 : Int32))]) dX7_addSeat_53 (by decide) rfl ?_
  exact lq4_ex (P := fun v1 v2 v3 σ => V X cX7_addSeat RX7 4 6 (wM z h σ) 54 [some (.ref h), some (.int v1), some (.int v2), some (.int v3)] []) (fun k hk v1 v2 v3 σ hf => mM_addSeat_54_v hE k23 hk23 k hk v1 v2 v3 σ hf) LF v1 v2 (0 : Int32) σ2 hf
set_option maxHeartbeats 4000000 in
theorem mM_addSeat_23_v {X : CX} {w0 : AH} {z : ZZ} {h : Nat} {σ' : SM} (hE : XE X w0 6 none "addSeat" (.returned none) (wM z h σ')) (k23 : Int32 → Int32 → SM → Option (SM)) (hk23 : ∀ (v1 : Int32) (v2 : Int32) (σ : SM), k23 v1 v2 σ = some σ' → V X cX7_addSeat RX7 4 6 (wM z h σ) 23 [some (.ref h), some (.int v1), some (.int v2), none] []) (v1 : Int32) (v2 : Int32) (σ : SM) (hf : mM_addSeat_23 k23 v1 v2 σ = some σ') : V X cX7_addSeat RX7 4 6 (wM z h σ) 23 [some (.ref h), some (.int v1), some (.int v2), none] [] := by
  unfold mM_addSeat_23 at hf
  refine V_iload_n dX7_addSeat_23 rfl ?_
  refine V_aload_n dX7_addSeat_24 rfl ?_
  refine VM_getR fX7_7 ⟨rfl, rfl⟩ rfl dX7_addSeat_25 ?_
  refine V_iconst dX7_addSeat_28 kc_3 ?_
  refine VM_ldI (n := 23016) (k := 3) rfl (by decide) (by decide) dX7_addSeat_29 ?_
  refine V_icmp_ge (tgt := 87) dX7_addSeat_30 (by decide) (fun hc1 => ?_) (fun hc1 => ?_)
  · have hf := if_t hf hc1
    cases some_ex hf
    exact V_vret hE dX7_addSeat_87
  · have hf := if_f hf hc1
    refine V_iload_n dX7_addSeat_33 rfl ?_
    refine V_iconst dX7_addSeat_34 kc_m1 ?_
    refine V_icmp_eq (tgt := 47) dX7_addSeat_35 (by decide) (fun hc2 => ?_) (fun hc2 => ?_)
    · have hf := if_t hf hc2
      exact mM_addSeat_47_v hE k23 hk23 v1 v2 σ hf
    · have hf := if_f hf hc2
      refine V_aload_n dX7_addSeat_38 rfl ?_
      refine V_iload_n dX7_addSeat_39 rfl ?_
      obtain ⟨r4, hc3, hf⟩ := bd1_ex hf
      refine V_cV (av := [.int v2]) (rest := []) (st' := [.int r4]) (mM_seatOf_ok _ _ _ _ _ _ _ hc3) vcX7_535 (wM_k0 _ _ _) (by decide) rfl rfl (Nat.le_of_ble_eq_true rfl) dX7_addSeat_40 rfl ?_
      refine V_iload_n dX7_addSeat_43 rfl ?_
      refine V_icmp_ne (tgt := 81) dX7_addSeat_44 (by decide) (fun hc5 => ?_) (fun hc5 => ?_)
      · have hf := if_f hf hc5
        exact mM_addSeat_81_v hE k23 hk23 v1 v2 σ hf
      · have hf := if_t hf hc5
        exact mM_addSeat_47_v hE k23 hk23 v1 v2 σ hf
set_option maxHeartbeats 4000000 in
theorem mM_addSeat_2_v {X : CX} {w0 : AH} {z : ZZ} {h : Nat} {σ' : SM} (hE : XE X w0 6 none "addSeat" (.returned none) (wM z h σ')) (k2 : Int32 → Int32 → SM → Option (SM)) (hk2 : ∀ (v1 : Int32) (v2 : Int32) (σ : SM), k2 v1 v2 σ = some σ' → V X cX7_addSeat RX7 4 6 (wM z h σ) 2 [some (.ref h), some (.int v1), some (.int v2), none] []) (v1 : Int32) (v2 : Int32) (σ : SM) (hf : mM_addSeat_2 k2 v1 v2 σ = some σ') : V X cX7_addSeat RX7 4 6 (wM z h σ) 2 [some (.ref h), some (.int v1), some (.int v2), none] [] := by
  unfold mM_addSeat_2 at hf
  refine V_iload_n dX7_addSeat_2 rfl ?_
  refine V_bipush dX7_addSeat_3 kb_8 ?_
  refine V_icmp_ge (tgt := 21) dX7_addSeat_5 (by decide) (fun hc1 => ?_) (fun hc1 => ?_)
  · have hf := if_t hf hc1
    refine V_iconst dX7_addSeat_21 kc_0 ?_
    refine V_istore_n (ls' := [some (.ref h), some (.int v1), some (.int (0 : Int32)), none]) dX7_addSeat_22 (by decide) rfl ?_
    exact lq3_ex (P := fun v1 v2 σ => V X cX7_addSeat RX7 4 6 (wM z h σ) 23 [some (.ref h), some (.int v1), some (.int v2), none] []) (fun k hk v1 v2 σ hf => mM_addSeat_23_v hE k hk v1 v2 σ hf) LF v1 (0 : Int32) σ hf
  · have hf := if_f hf hc1
    refine V_aload_n dX7_addSeat_8 rfl ?_
    refine VM_getR fX7_95 ⟨rfl, rfl⟩ rfl dX7_addSeat_9 ?_
    refine V_iload_n dX7_addSeat_12 rfl ?_
    refine V_iconst dX7_addSeat_13 kc_0 ?_
    obtain ⟨hb2, hf⟩ := ck_ex hf
    obtain ⟨σ3, hs4, hf⟩ := st1_ex hf
    refine VM_stI (n := 8) (k := v2.toNatClampNeg) rfl hb2 rfl hs4 dX7_addSeat_14 ?_
    refine V_inc (ls' := [some (.ref h), some (.int v1), some (.int (v2 + (1 : Int32))), none]) dX7_addSeat_15 rfl kc_1 (by decide) rfl ?_
    refine V_goto (tgt := 2) dX7_addSeat_18 (by decide) ?_
    exact hk2 v1 (v2 + (1 : Int32)) σ3 hf
set_option maxHeartbeats 4000000 in
theorem mM_addSeat_ok (l : Launch) (D : DD) (z : ZZ) (h : Nat) (p0 : Int32) (σ : SM) (σ' : SM) (hf : mM_addSeat p0 σ = some σ') : MA l D yX7_addSeat cX7_addSeat 4 none 6 [.ref h, .int p0] (wM z h σ) (.returned none) (wM z h σ') := by
  refine MA.intro (own := RX7) (nm := "addSeat") (ls := [some (.ref h), some (.int p0), none, none]) (by decide) rfl rfl (Nat.le_of_ble_eq_true rfl) rfl (fun X hl hD hE => ?_)
  subst hl hD
  unfold mM_addSeat at hf
  refine V_iconst dX7_addSeat_0 kc_0 ?_
  refine V_istore_n (ls' := [some (.ref h), some (.int p0), some (.int (0 : Int32)), none]) dX7_addSeat_1 (by decide) rfl ?_
  exact lq3_ex (P := fun v1 v2 σ => V X cX7_addSeat RX7 4 6 (wM z h σ) 2 [some (.ref h), some (.int v1), some (.int v2), none] []) (fun k hk v1 v2 σ hf => mM_addSeat_2_v hE k hk v1 v2 σ hf) LF p0 (0 : Int32) σ hf
set_option maxHeartbeats 4000000 in
theorem mM_findWinner_162_v {X : CX} {w0 : AH} {z : ZZ} {h : Nat} {σ' : SM} (hE : XE X w0 1 none "findWinner" (.returned none) (wM z h σ')) (v3 : Int32) (v4 : Int32) (t0 : Int32) (σ : SM) (hf : mM_findWinner_162 v3 v4 t0 σ = some σ') : V X cX7_findWinner RX7 6 1 (wM z h σ) 162 [some (.ref h), none, none, some (.int v3), some (.int v4), none] [.int t0, .ref h] := by
  unfold mM_findWinner_162 at hf
  obtain ⟨σ1, hs2, hf⟩ := st1_ex hf
  refine VM_putI fwX7_538 hs2 dX7_findWinner_162 ?_
  refine V_aload_n dX7_findWinner_165 rfl ?_
  refine V_aload_n dX7_findWinner_166 rfl ?_
  refine VM_getI fX7_538 rfl dX7_findWinner_167 ?_
  refine V_iconst dX7_findWinner_170 kc_m1 ?_
  refine V_icmp_ne (tgt := 178) dX7_findWinner_171 (by decide) (fun hc3 => ?_) (fun hc3 => ?_)
  · have hf := if_f hf hc3
    refine V_iload_n dX7_findWinner_178 rfl ?_
    refine V_iload dX7_findWinner_179 rfl ?_
    refine V_isub dX7_findWinner_181 ?_
    obtain ⟨σ4, hs5, hf⟩ := st1_ex hf
    refine VM_putI fwX7_541 hs5 dX7_findWinner_182 ?_
    cases some_ex hf
    exact V_vret hE dX7_findWinner_185
  · have hf := if_t hf hc3
    refine V_iconst dX7_findWinner_174 kc_0 ?_
    refine V_goto (tgt := 182) dX7_findWinner_175 (by decide) ?_
    obtain ⟨σ6, hs7, hf⟩ := st1_ex hf
    refine VM_putI fwX7_541 hs7 dX7_findWinner_182 ?_
    cases some_ex hf
    exact V_vret hE dX7_findWinner_185
set_option maxHeartbeats 4000000 in
theorem mM_findWinner_141_v {X : CX} {w0 : AH} {z : ZZ} {h : Nat} {σ' : SM} (hE : XE X w0 1 none "findWinner" (.returned none) (wM z h σ')) (k58 : Int32 → Int32 → Int32 → Int32 → Int32 → SM → Option (SM)) (hk58 : ∀ (v1 : Int32) (v2 : Int32) (v3 : Int32) (v4 : Int32) (v5 : Int32) (σ : SM), k58 v1 v2 v3 v4 v5 σ = some σ' → V X cX7_findWinner RX7 6 1 (wM z h σ) 58 [some (.ref h), some (.int v1), some (.int v2), some (.int v3), some (.int v4), some (.int v5)] []) (v1 : Int32) (v2 : Int32) (v3 : Int32) (v4 : Int32) (v5 : Int32) (σ : SM) (hf : mM_findWinner_141 k58 v1 v2 v3 v4 v5 σ = some σ') : V X cX7_findWinner RX7 6 1 (wM z h σ) 141 [some (.ref h), some (.int v1), some (.int v2), some (.int v3), some (.int v4), some (.int v5)] [] := by
  unfold mM_findWinner_141 at hf
  refine V_inc (ls' := [some (.ref h), some (.int v1), some (.int v2), some (.int v3), some (.int v4), some (.int (v5 + (1 : Int32)))]) dX7_findWinner_141 rfl kc_1 (by decide) rfl ?_
  refine V_goto (tgt := 58) dX7_findWinner_144 (by decide) ?_
  exact hk58 v1 v2 v3 v4 (v5 + (1 : Int32)) σ hf
set_option maxHeartbeats 4000000 in
theorem mM_findWinner_89_v {X : CX} {w0 : AH} {z : ZZ} {h : Nat} {σ' : SM} (hE : XE X w0 1 none "findWinner" (.returned none) (wM z h σ')) (k58 : Int32 → Int32 → Int32 → Int32 → Int32 → SM → Option (SM)) (hk58 : ∀ (v1 : Int32) (v2 : Int32) (v3 : Int32) (v4 : Int32) (v5 : Int32) (σ : SM), k58 v1 v2 v3 v4 v5 σ = some σ' → V X cX7_findWinner RX7 6 1 (wM z h σ) 58 [some (.ref h), some (.int v1), some (.int v2), some (.int v3), some (.int v4), some (.int v5)] []) (v1 : Int32) (v2 : Int32) (v3 : Int32) (v4 : Int32) (v5 : Int32) (σ : SM) (hf : mM_findWinner_89 k58 v1 v2 v3 v4 v5 σ = some σ') : V X cX7_findWinner RX7 6 1 (wM z h σ) 89 [some (.ref h), some (.int v1), some (.int v2), some (.int v3), some (.int v4), some (.int v5)] [] := by
  unfold mM_findWinner_89 at hf
  refine V_aload_n dX7_findWinner_89 rfl ?_
  refine VM_getR fX7_95 ⟨rfl, rfl⟩ rfl dX7_findWinner_90 ?_
  refine V_iload dX7_findWinner_93 rfl ?_
  obtain ⟨hb1, hf⟩ := ck_ex hf
  refine VM_ldI (n := 8) (k := v5.toNatClampNeg) rfl hb1 rfl dX7_findWinner_95 ?_
  refine V_iload_n dX7_findWinner_96 rfl ?_
  refine V_icmp_le (tgt := 120) dX7_findWinner_97 (by decide) (fun hc2 => ?_) (fun hc2 => ?_)
  · have hf := if_t hf hc2
    refine V_aload_n dX7_findWinner_120 rfl ?_
    refine VM_getR fX7_95 ⟨rfl, rfl⟩ rfl dX7_findWinner_121 ?_
    refine V_iload dX7_findWinner_124 rfl ?_
    obtain ⟨hb3, hf⟩ := ck_ex hf
    refine VM_ldI (n := 8) (k := v5.toNatClampNeg) rfl hb3 rfl dX7_findWinner_126 ?_
    refine V_iload dX7_findWinner_127 rfl ?_
    refine V_icmp_le (tgt := 141) dX7_findWinner_129 (by decide) (fun hc4 => ?_) (fun hc4 => ?_)
    · have hf := if_t hf hc4
      exact mM_findWinner_141_v hE k58 hk58 v1 v2 v3 v4 v5 σ hf
    · have hf := if_f hf hc4
      refine V_aload_n dX7_findWinner_132 rfl ?_
      refine VM_getR fX7_95 ⟨rfl, rfl⟩ rfl dX7_findWinner_133 ?_
      refine V_iload dX7_findWinner_136 rfl ?_
      obtain ⟨hb5, hf⟩ := ck_ex hf
      refine VM_ldI (n := 8) (k := v5.toNatClampNeg) rfl hb5 rfl dX7_findWinner_138 ?_
      refine V_istore (ls' := [some (.ref h), some (.int v1), some (.int v2), some (.int v3), some (.int (gI σ 27 (v5.toNatClampNeg))), some (.int v5)]) dX7_findWinner_139 (by decide) rfl ?_
      exact mM_findWinner_141_v hE k58 hk58 v1 v2 v3 (gI σ 27 (v5.toNatClampNeg)) v5 σ hf
  · have hf := if_f hf hc2
    refine V_iload_n dX7_findWinner_100 rfl ?_
    refine V_istore (ls' := [some (.ref h), some (.int v1), some (.int v2), some (.int v3), some (.int v3), some (.int v5)]) dX7_findWinner_101 (by decide) rfl ?_
    refine V_aload_n dX7_findWinner_103 rfl ?_
    refine VM_getR fX7_95 ⟨rfl, rfl⟩ rfl dX7_findWinner_104 ?_
    refine V_iload dX7_findWinner_107 rfl ?_
    obtain ⟨hb6, hf⟩ := ck_ex hf
    refine VM_ldI (n := 8) (k := v5.toNatClampNeg) rfl hb6 rfl dX7_findWinner_109 ?_
    refine V_istore_n (ls' := [some (.ref h), some (.int v1), some (.int v2), some (.int (gI σ 27 (v5.toNatClampNeg))), some (.int v3), some (.int v5)]) dX7_findWinner_110 (by decide) rfl ?_
    refine V_aload_n dX7_findWinner_111 rfl ?_
    refine V_iload dX7_findWinner_112 rfl ?_
    obtain ⟨σ7, hs8, hf⟩ := st1_ex hf
    refine VM_putI fwX7_538 hs8 dX7_findWinner_114 ?_
    refine V_goto (tgt := 141) dX7_findWinner_117 (by decide) ?_
    exact mM_findWinner_141_v hE k58 hk58 v1 v2 (gI σ 27 (v5.toNatClampNeg)) v3 v5 σ7 hf
set_option maxHeartbeats 4000000 in
theorem mM_findWinner_58_v {X : CX} {w0 : AH} {z : ZZ} {h : Nat} {σ' : SM} (hE : XE X w0 1 none "findWinner" (.returned none) (wM z h σ')) (k58 : Int32 → Int32 → Int32 → Int32 → Int32 → SM → Option (SM)) (hk58 : ∀ (v1 : Int32) (v2 : Int32) (v3 : Int32) (v4 : Int32) (v5 : Int32) (σ : SM), k58 v1 v2 v3 v4 v5 σ = some σ' → V X cX7_findWinner RX7 6 1 (wM z h σ) 58 [some (.ref h), some (.int v1), some (.int v2), some (.int v3), some (.int v4), some (.int v5)] []) (v1 : Int32) (v2 : Int32) (v3 : Int32) (v4 : Int32) (v5 : Int32) (σ : SM) (hf : mM_findWinner_58 k58 v1 v2 v3 v4 v5 σ = some σ') : V X cX7_findWinner RX7 6 1 (wM z h σ) 58 [some (.ref h), some (.int v1), some (.int v2), some (.int v3), some (.int v4), some (.int v5)] [] := by
  unfold mM_findWinner_58 at hf
  refine V_iload dX7_findWinner_58 rfl ?_
  refine V_bipush dX7_findWinner_60 kb_8 ?_
  refine V_icmp_ge (tgt := 147) dX7_findWinner_62 (by decide) (fun hc1 => ?_) (fun hc1 => ?_)
  · have hf := if_t hf hc1
    refine V_aload_n dX7_findWinner_147 rfl ?_
    refine V_iload_n dX7_findWinner_148 rfl ?_
    refine V_iload dX7_findWinner_149 rfl ?_
    refine V_icmp_ne (tgt := 158) dX7_findWinner_151 (by decide) (fun hc2 => ?_) (fun hc2 => ?_)
    · have hf := if_f hf hc2
      refine V_aload_n dX7_findWinner_158 rfl ?_
      refine VM_getI fX7_538 rfl dX7_findWinner_159 ?_
      refine V_keep [true, false, false, true, true, false] rfl ?_
      exact mM_findWinner_162_v hE v3 v4 (gI σ 0 50) σ hf
    · have hf := if_t hf hc2
      refine V_iconst dX7_findWinner_154 kc_m1 ?_
      refine V_goto (tgt := 162) dX7_findWinner_155 (by decide) ?_
      refine V_keep [true, false, false, true, true, false] rfl ?_
      exact mM_findWinner_162_v hE v3 v4 (-1 : Int32) σ hf
  · have hf := if_f hf hc1
    refine V_iload_n dX7_findWinner_65 rfl ?_
    refine V_if_eq (tgt := 89) dX7_findWinner_66 (by decide) (fun hc3 => ?_) (fun hc3 => ?_)
    · have hf := if_t hf hc3
      exact mM_findWinner_89_v hE k58 hk58 v1 v2 v3 v4 v5 σ hf
    · have hf := if_f hf hc3
      refine V_aload_n dX7_findWinner_69 rfl ?_
      refine VM_getR fX7_7 ⟨rfl, rfl⟩ rfl dX7_findWinner_70 ?_
      refine V_sipush dX7_findWinner_73 ks_5008 ?_
      refine V_bipush dX7_findWinner_76 kb_8 ?_
      refine V_iload_n dX7_findWinner_78 rfl ?_
      refine V_imul dX7_findWinner_79 ?_
      refine V_iadd dX7_findWinner_80 ?_
      refine V_iload dX7_findWinner_81 rfl ?_
      refine V_iadd dX7_findWinner_83 ?_
      obtain ⟨hb4, hf⟩ := ck_ex hf
      refine VM_ldI (n := 23016) (k := (((5008 : Int32) + ((8 : Int32) * v1)) + v5).toNatClampNeg) rfl hb4 rfl dX7_findWinner_84 ?_
      refine V_iconst dX7_findWinner_85 kc_1 ?_
      refine V_icmp_ne (tgt := 141) dX7_findWinner_86 (by decide) (fun hc5 => ?_) (fun hc5 => ?_)
      · have hf := if_f hf hc5
        exact mM_findWinner_141_v hE k58 hk58 v1 v2 v3 v4 v5 σ hf
      · have hf := if_t hf hc5
        exact mM_findWinner_89_v hE k58 hk58 v1 v2 v3 v4 v5 σ hf
set_option maxHeartbeats 4000000 in
theorem mM_findWinner_38_v {X : CX} {w0 : AH} {z : ZZ} {h : Nat} {σ' : SM} (hE : XE X w0 1 none "findWinner" (.returned none) (wM z h σ')) (k4 : Int32 → Int32 → Int32 → SM → Option (SM)) (hk4 : ∀ (v1 : Int32) (v2 : Int32) (v3 : Int32) (σ : SM), k4 v1 v2 v3 σ = some σ' → V X cX7_findWinner RX7 6 1 (wM z h σ) 4 [some (.ref h), some (.int v1), some (.int v2), some (.int v3), none, none] []) (v1 : Int32) (v3 : Int32) (t0 : Int32) (σ : SM) (hf : mM_findWinner_38 k4 v1 v3 t0 σ = some σ') : V X cX7_findWinner RX7 6 1 (wM z h σ) 38 [some (.ref h), some (.int v1), none, some (.int v3), none, none] [.int t0] := by
  unfold mM_findWinner_38 at hf
  refine V_istore_n (ls' := [some (.ref h), some (.int v1), some (.int t0), some (.int v3), none, none]) dX7_findWinner_38 (by decide) rfl ?_
  refine V_inc (ls' := [some (.ref h), some (.int v1), some (.int t0), some (.int (v3 + (1 : Int32))), none, none]) dX7_findWinner_39 rfl kc_1 (by decide) rfl ?_
  refine V_goto (tgt := 4) dX7_findWinner_42 (by decide) ?_
  exact hk4 v1 t0 (v3 + (1 : Int32)) σ hf
set_option maxHeartbeats 4000000 in
theorem mM_findWinner_33_v {X : CX} {w0 : AH} {z : ZZ} {h : Nat} {σ' : SM} (hE : XE X w0 1 none "findWinner" (.returned none) (wM z h σ')) (k4 : Int32 → Int32 → Int32 → SM → Option (SM)) (hk4 : ∀ (v1 : Int32) (v2 : Int32) (v3 : Int32) (σ : SM), k4 v1 v2 v3 σ = some σ' → V X cX7_findWinner RX7 6 1 (wM z h σ) 4 [some (.ref h), some (.int v1), some (.int v2), some (.int v3), none, none] []) (v1 : Int32) (v3 : Int32) (σ : SM) (hf : mM_findWinner_33 k4 v1 v3 σ = some σ') : V X cX7_findWinner RX7 6 1 (wM z h σ) 33 [some (.ref h), some (.int v1), none, some (.int v3), none, none] [] := by
  unfold mM_findWinner_33 at hf
  refine V_iconst dX7_findWinner_33 kc_1 ?_
  refine V_goto (tgt := 38) dX7_findWinner_34 (by decide) ?_
  exact mM_findWinner_38_v hE k4 hk4 v1 v3 (1 : Int32) σ hf
set_option maxHeartbeats 4000000 in
theorem mM_findWinner_4_v {X : CX} {w0 : AH} {z : ZZ} {h : Nat} {σ' : SM} (hE : XE X w0 1 none "findWinner" (.returned none) (wM z h σ')) (k4 : Int32 → Int32 → Int32 → SM → Option (SM)) (hk4 : ∀ (v1 : Int32) (v2 : Int32) (v3 : Int32) (σ : SM), k4 v1 v2 v3 σ = some σ' → V X cX7_findWinner RX7 6 1 (wM z h σ) 4 [some (.ref h), some (.int v1), some (.int v2), some (.int v3), none, none] []) (v1 : Int32) (v2 : Int32) (v3 : Int32) (σ : SM) (hf : mM_findWinner_4 k4 v1 v2 v3 σ = some σ') : V X cX7_findWinner RX7 6 1 (wM z h σ) 4 [some (.ref h), some (.int v1), some (.int v2), some (.int v3), none, none] [] := by
  unfold mM_findWinner_4 at hf
  refine V_iload_n dX7_findWinner_4 rfl ?_
  refine V_bipush dX7_findWinner_5 kb_8 ?_
  refine V_icmp_ge (tgt := 45) dX7_findWinner_7 (by decide) (fun hc1 => ?_) (fun hc1 => ?_)
  · have hf := if_t hf hc1
    refine V_aload_n dX7_findWinner_45 rfl ?_
    refine V_iconst dX7_findWinner_46 kc_m1 ?_
    obtain ⟨σ2, hs3, hf⟩ := st1_ex hf
    refine VM_putI fwX7_538 hs3 dX7_findWinner_47 ?_
    refine V_iconst dX7_findWinner_50 kc_0 ?_
    refine V_istore_n (ls' := [some (.ref h), some (.int v1), some (.int v2), some (.int (0 : Int32)), none, none]) dX7_findWinner_51 (by decide) rfl ?_
    refine V_iconst dX7_findWinner_52 kc_0 ?_
    refine V_istore (ls' := [some (.ref h), some (.int v1), some (.int v2), some (.int (0 : Int32)), some (.int (0 : Int32)), none]) dX7_findWinner_53 (by decide) rfl ?_
    refine V_iconst dX7_findWinner_55 kc_0 ?_
    refine V_istore (ls' := [some (.ref h), some (.int v1), some (.int v2), some (.int (0 : Int32)), some (.int (0 : Int32)), some (.int (0 : Int32))]) dX7_findWinner_56 (by decide) rfl ?_
    exact lq6_ex (P := fun v1 v2 v3 v4 v5 σ => V X cX7_findWinner RX7 6 1 (wM z h σ) 58 [some (.ref h), some (.int v1), some (.int v2), some (.int v3), some (.int v4), some (.int v5)] []) (fun k hk v1 v2 v3 v4 v5 σ hf => mM_findWinner_58_v hE k hk v1 v2 v3 v4 v5 σ hf) LF v1 v2 (0 : Int32) (0 : Int32) (0 : Int32) σ2 hf
  · have hf := if_f hf hc1
    refine V_iload_n dX7_findWinner_10 rfl ?_
    refine V_if_ne (tgt := 33) dX7_findWinner_11 (by decide) (fun hc4 => ?_) (fun hc4 => ?_)
    · have hf := if_f hf hc4
      refine V_keep [true, true, false, true, true, true] rfl ?_
      exact mM_findWinner_33_v hE k4 hk4 v1 v3 σ hf
    · have hf := if_t hf hc4
      refine V_aload_n dX7_findWinner_14 rfl ?_
      refine VM_getR fX7_7 ⟨rfl, rfl⟩ rfl dX7_findWinner_15 ?_
      refine V_sipush dX7_findWinner_18 ks_5008 ?_
      refine V_bipush dX7_findWinner_21 kb_8 ?_
      refine V_iload_n dX7_findWinner_23 rfl ?_
      refine V_imul dX7_findWinner_24 ?_
      refine V_iadd dX7_findWinner_25 ?_
      refine V_iload_n dX7_findWinner_26 rfl ?_
      refine V_iadd dX7_findWinner_27 ?_
      obtain ⟨hb5, hf⟩ := ck_ex hf
      refine VM_ldI (n := 23016) (k := (((5008 : Int32) + ((8 : Int32) * v1)) + v3).toNatClampNeg) rfl hb5 rfl dX7_findWinner_28 ?_
      refine V_iconst dX7_findWinner_29 kc_1 ?_
      refine V_icmp_ne (tgt := 37) dX7_findWinner_30 (by decide) (fun hc6 => ?_) (fun hc6 => ?_)
      · have hf := if_f hf hc6
        refine V_iconst dX7_findWinner_37 kc_0 ?_
        refine V_keep [true, true, false, true, true, true] rfl ?_
        exact mM_findWinner_38_v hE k4 hk4 v1 v3 (0 : Int32) σ hf
      · have hf := if_t hf hc6
        refine V_keep [true, true, false, true, true, true] rfl ?_
        exact mM_findWinner_33_v hE k4 hk4 v1 v3 σ hf
set_option maxHeartbeats 4000000 in
theorem mM_findWinner_ok (l : Launch) (D : DD) (z : ZZ) (h : Nat) (p0 : Int32) (σ : SM) (σ' : SM) (hf : mM_findWinner p0 σ = some σ') : MA l D yX7_findWinner cX7_findWinner 6 none 1 [.ref h, .int p0] (wM z h σ) (.returned none) (wM z h σ') := by
  refine MA.intro (own := RX7) (nm := "findWinner") (ls := [some (.ref h), some (.int p0), none, none, none, none]) (by decide) rfl rfl (Nat.le_of_ble_eq_true rfl) rfl (fun X hl hD hE => ?_)
  subst hl hD
  unfold mM_findWinner at hf
  refine V_iconst dX7_findWinner_0 kc_0 ?_
  refine V_istore_n (ls' := [some (.ref h), some (.int p0), some (.int (0 : Int32)), none, none, none]) dX7_findWinner_1 (by decide) rfl ?_
  refine V_iconst dX7_findWinner_2 kc_0 ?_
  refine V_istore_n (ls' := [some (.ref h), some (.int p0), some (.int (0 : Int32)), some (.int (0 : Int32)), none, none]) dX7_findWinner_3 (by decide) rfl ?_
  exact lq4_ex (P := fun v1 v2 v3 σ => V X cX7_findWinner RX7 6 1 (wM z h σ) 4 [some (.ref h), some (.int v1), some (.int v2), some (.int v3), none, none] []) (fun k hk v1 v2 v3 σ hf => mM_findWinner_4_v hE k hk v1 v2 v3 σ hf) LF p0 (0 : Int32) (0 : Int32) σ hf
set_option maxHeartbeats 4000000 in
theorem mM_hangs_86_v {X : CX} {w0 : AH} {z : ZZ} {h : Nat} {r : Int32} {σ' : SM} (hE : XE X w0 6 (some .boolean) "hangs" (.returned (some (.int r))) (wM z h σ')) (k10 : Int32 → Int32 → Int32 → Int32 → Int32 → SM → Option (Int32 × SM)) (hk10 : ∀ (v1 : Int32) (v2 : Int32) (v3 : Int32) (v4 : Int32) (v5 : Int32) (σ : SM), k10 v1 v2 v3 v4 v5 σ = some (r, σ') → V X cX7_hangs RX7 7 6 (wM z h σ) 10 [some (.ref h), some (.int v1), some (.int v2), some (.int v3), some (.int v4), some (.int v5), none] []) (v1 : Int32) (v2 : Int32) (v3 : Int32) (v4 : Int32) (v5 : Int32) (σ : SM) (hf : mM_hangs_86 k10 v1 v2 v3 v4 v5 σ = some (r, σ')) : V X cX7_hangs RX7 7 6 (wM z h σ) 86 [some (.ref h), some (.int v1), some (.int v2), some (.int v3), some (.int v4), some (.int v5), none] [] := by
  unfold mM_hangs_86 at hf
  refine V_inc (ls' := [some (.ref h), some (.int v1), some (.int v2), some (.int v3), some (.int v4), some (.int (v5 + (1 : Int32))), none]) dX7_hangs_86 rfl kc_1 (by decide) rfl ?_
  refine V_goto (tgt := 10) dX7_hangs_89 (by decide) ?_
  exact hk10 v1 v2 v3 v4 (v5 + (1 : Int32)) σ hf
set_option maxHeartbeats 4000000 in
theorem mM_hangs_77_v {X : CX} {w0 : AH} {z : ZZ} {h : Nat} {r : Int32} {σ' : SM} (hE : XE X w0 6 (some .boolean) "hangs" (.returned (some (.int r))) (wM z h σ')) (k10 : Int32 → Int32 → Int32 → Int32 → Int32 → SM → Option (Int32 × SM)) (hk10 : ∀ (v1 : Int32) (v2 : Int32) (v3 : Int32) (v4 : Int32) (v5 : Int32) (σ : SM), k10 v1 v2 v3 v4 v5 σ = some (r, σ') → V X cX7_hangs RX7 7 6 (wM z h σ) 10 [some (.ref h), some (.int v1), some (.int v2), some (.int v3), some (.int v4), some (.int v5), none] []) (v1 : Int32) (v2 : Int32) (v4 : Int32) (v5 : Int32) (v6 : Int32) (t0 : Int32) (t1 : Int32) (σ : SM) (hf : mM_hangs_77 k10 v1 v2 v4 v5 v6 t0 t1 σ = some (r, σ')) : V X cX7_hangs RX7 7 6 (wM z h σ) 77 [some (.ref h), some (.int v1), some (.int v2), none, some (.int v4), some (.int v5), some (.int v6)] [.int t0, .int t1] := by
  unfold mM_hangs_77 at hf
  refine V_iadd dX7_hangs_77 ?_
  refine V_istore_n (ls' := [some (.ref h), some (.int v1), some (.int v2), some (.int (t1 + t0)), some (.int v4), some (.int v5), some (.int v6)]) dX7_hangs_78 (by decide) rfl ?_
  refine V_iload_n dX7_hangs_79 rfl ?_
  refine V_iconst dX7_hangs_80 kc_1 ?_
  refine V_iload dX7_hangs_81 rfl ?_
  refine V_ishl dX7_hangs_83 ?_
  refine V_ior dX7_hangs_84 ?_
  refine V_istore_n (ls' := [some (.ref h), some (.int v1), some (.int (v2 ||| ((1 : Int32) <<< (v6 &&& 31)))), some (.int (t1 + t0)), some (.int v4), some (.int v5), some (.int v6)]) dX7_hangs_85 (by decide) rfl ?_
  refine V_keep [true, true, true, true, true, true, false] rfl ?_
  exact mM_hangs_86_v hE k10 hk10 v1 (v2 ||| ((1 : Int32) <<< (v6 &&& 31))) (t1 + t0) v4 v5 σ hf
set_option maxHeartbeats 4000000 in
theorem mM_hangs_10_v {X : CX} {w0 : AH} {z : ZZ} {h : Nat} {r : Int32} {σ' : SM} (hE : XE X w0 6 (some .boolean) "hangs" (.returned (some (.int r))) (wM z h σ')) (k10 : Int32 → Int32 → Int32 → Int32 → Int32 → SM → Option (Int32 × SM)) (hk10 : ∀ (v1 : Int32) (v2 : Int32) (v3 : Int32) (v4 : Int32) (v5 : Int32) (σ : SM), k10 v1 v2 v3 v4 v5 σ = some (r, σ') → V X cX7_hangs RX7 7 6 (wM z h σ) 10 [some (.ref h), some (.int v1), some (.int v2), some (.int v3), some (.int v4), some (.int v5), none] []) (v1 : Int32) (v2 : Int32) (v3 : Int32) (v4 : Int32) (v5 : Int32) (σ : SM) (hf : mM_hangs_10 k10 v1 v2 v3 v4 v5 σ = some (r, σ')) : V X cX7_hangs RX7 7 6 (wM z h σ) 10 [some (.ref h), some (.int v1), some (.int v2), some (.int v3), some (.int v4), some (.int v5), none] [] := by
  unfold mM_hangs_10 at hf
  refine V_iload dX7_hangs_10 rfl ?_
  refine V_aload_n dX7_hangs_12 rfl ?_
  refine VM_getR fX7_7 ⟨rfl, rfl⟩ rfl dX7_hangs_13 ?_
  refine V_iconst dX7_hangs_16 kc_3 ?_
  refine VM_ldI (n := 23016) (k := 3) rfl (by decide) (by decide) dX7_hangs_17 ?_
  refine V_icmp_ge (tgt := 92) dX7_hangs_18 (by decide) (fun hc1 => ?_) (fun hc1 => ?_)
  · have hf := if_t hf hc1
    refine V_iload dX7_hangs_92 rfl ?_
    refine V_if_eq (tgt := 109) dX7_hangs_94 (by decide) (fun hc2 => ?_) (fun hc2 => ?_)
    · have hf := if_t hf hc2
      refine V_iconst dX7_hangs_109 kc_0 ?_
      cases some_ex hf
      exact V_zret hE (by decide) dX7_hangs_110
    · have hf := if_f hf hc2
      refine V_iload_n dX7_hangs_97 rfl ?_
      refine V_aload_n dX7_hangs_98 rfl ?_
      refine VM_getI fX7_541 rfl dX7_hangs_99 ?_
      refine V_icmp_lt (tgt := 109) dX7_hangs_102 (by decide) (fun hc3 => ?_) (fun hc3 => ?_)
      · have hf := if_t hf hc3
        refine V_iconst dX7_hangs_109 kc_0 ?_
        cases some_ex hf
        exact V_zret hE (by decide) dX7_hangs_110
      · have hf := if_f hf hc3
        refine V_iconst dX7_hangs_105 kc_1 ?_
        refine V_goto (tgt := 110) dX7_hangs_106 (by decide) ?_
        cases some_ex hf
        exact V_zret hE (by decide) dX7_hangs_110
  · have hf := if_f hf hc1
    refine V_aload_n dX7_hangs_21 rfl ?_
    refine VM_getR fX7_7 ⟨rfl, rfl⟩ rfl dX7_hangs_22 ?_
    refine V_sipush dX7_hangs_25 ks_2348 ?_
    refine V_iload dX7_hangs_28 rfl ?_
    refine V_iadd dX7_hangs_30 ?_
    obtain ⟨hb4, hf⟩ := ck_ex hf
    refine VM_ldI (n := 23016) (k := ((2348 : Int32) + v5).toNatClampNeg) rfl hb4 rfl dX7_hangs_31 ?_
    refine V_istore (ls' := [some (.ref h), some (.int v1), some (.int v2), some (.int v3), some (.int v4), some (.int v5), some (.int (gI σ 1 (((2348 : Int32) + v5).toNatClampNeg)))]) dX7_hangs_32 (by decide) rfl ?_
    refine V_aload_n dX7_hangs_34 rfl ?_
    refine V_iload dX7_hangs_35 rfl ?_
    obtain ⟨r6, hc5, hf⟩ := bd1_ex hf
    refine V_cV (av := [.int v5]) (rest := []) (st' := [.int r6]) (mM_seatOf_ok _ _ _ _ _ _ _ hc5) vcX7_535 (wM_k0 _ _ _) (by decide) rfl rfl (Nat.le_of_ble_eq_true rfl) dX7_hangs_37 rfl ?_
    refine V_iload_n dX7_hangs_40 rfl ?_
    refine V_icmp_ne (tgt := 86) dX7_hangs_41 (by decide) (fun hc7 => ?_) (fun hc7 => ?_)
    · have hf := if_f hf hc7
      refine V_keep [true, true, true, true, true, true, false] rfl ?_
      exact mM_hangs_86_v hE k10 hk10 v1 v2 v3 v4 v5 σ hf
    · have hf := if_t hf hc7
      refine V_aload_n dX7_hangs_44 rfl ?_
      refine V_iload dX7_hangs_45 rfl ?_
      obtain ⟨r9, σ10, hc8, hf⟩ := bd2_ex hf
      refine V_cV (av := [.int v5]) (rest := []) (st' := [.int r9]) (mM_isAgain_ok _ _ _ _ _ _ _ _ hc8) vcX7_529 (wM_k0 _ _ _) (by decide) rfl rfl (Nat.le_of_ble_eq_true rfl) dX7_hangs_47 rfl ?_
      refine V_if_eq (tgt := 86) dX7_hangs_50 (by decide) (fun hc11 => ?_) (fun hc11 => ?_)
      · have hf := if_t hf hc11
        refine V_keep [true, true, true, true, true, true, false] rfl ?_
        exact mM_hangs_86_v hE k10 hk10 v1 v2 v3 v4 v5 σ10 hf
      · have hf := if_f hf hc11
        refine V_iconst dX7_hangs_53 kc_1 ?_
        refine V_istore (ls' := [some (.ref h), some (.int v1), some (.int v2), some (.int v3), some (.int (1 : Int32)), some (.int v5), some (.int (gI σ 1 (((2348 : Int32) + v5).toNatClampNeg)))]) dX7_hangs_54 (by decide) rfl ?_
        refine V_iload_n dX7_hangs_56 rfl ?_
        refine V_iload_n dX7_hangs_57 rfl ?_
        refine V_iload dX7_hangs_58 rfl ?_
        refine V_ishr dX7_hangs_60 ?_
        refine V_iconst dX7_hangs_61 kc_1 ?_
        refine V_iand dX7_hangs_62 ?_
        refine V_if_ne (tgt := 76) dX7_hangs_63 (by decide) (fun hc12 => ?_) (fun hc12 => ?_)
        · have hf := if_f hf hc12
          refine V_iconst dX7_hangs_76 kc_0 ?_
          refine V_keep [true, true, true, false, true, true, true] rfl ?_
          exact mM_hangs_77_v hE k10 hk10 v1 v2 (1 : Int32) v5 (gI σ 1 (((2348 : Int32) + v5).toNatClampNeg)) (0 : Int32) v3 σ10 hf
        · have hf := if_t hf hc12
          refine V_aload_n dX7_hangs_66 rfl ?_
          refine VM_getR fX7_24 ⟨rfl, rfl⟩ rfl dX7_hangs_67 ?_
          refine V_iload dX7_hangs_70 rfl ?_
          obtain ⟨hb13, hf⟩ := ck_ex hf
          refine VM_ldI (n := 16) (k := (gI σ 1 (((2348 : Int32) + v5).toNatClampNeg)).toNatClampNeg) rfl hb13 rfl dX7_hangs_72 ?_
          refine V_goto (tgt := 77) dX7_hangs_73 (by decide) ?_
          refine V_keep [true, true, true, false, true, true, true] rfl ?_
          exact mM_hangs_77_v hE k10 hk10 v1 v2 (1 : Int32) v5 (gI σ 1 (((2348 : Int32) + v5).toNatClampNeg)) (gI σ10 5 ((gI σ 1 (((2348 : Int32) + v5).toNatClampNeg)).toNatClampNeg)) v3 σ10 hf
set_option maxHeartbeats 4000000 in
theorem mM_hangs_ok (l : Launch) (D : DD) (z : ZZ) (h : Nat) (p0 : Int32) (σ : SM) (r : Int32) (σ' : SM) (hf : mM_hangs p0 σ = some (r, σ')) : MA l D yX7_hangs cX7_hangs 7 (some .boolean) 6 [.ref h, .int p0] (wM z h σ) (.returned (some (.int r))) (wM z h σ') := by
  refine MA.intro (own := RX7) (nm := "hangs") (ls := [some (.ref h), some (.int p0), none, none, none, none, none]) (by decide) rfl rfl (Nat.le_of_ble_eq_true rfl) rfl (fun X hl hD hE => ?_)
  subst hl hD
  unfold mM_hangs at hf
  refine V_iconst dX7_hangs_0 kc_0 ?_
  refine V_istore_n (ls' := [some (.ref h), some (.int p0), some (.int (0 : Int32)), none, none, none, none]) dX7_hangs_1 (by decide) rfl ?_
  refine V_iconst dX7_hangs_2 kc_0 ?_
  refine V_istore_n (ls' := [some (.ref h), some (.int p0), some (.int (0 : Int32)), some (.int (0 : Int32)), none, none, none]) dX7_hangs_3 (by decide) rfl ?_
  refine V_iconst dX7_hangs_4 kc_0 ?_
  refine V_istore (ls' := [some (.ref h), some (.int p0), some (.int (0 : Int32)), some (.int (0 : Int32)), some (.int (0 : Int32)), none, none]) dX7_hangs_5 (by decide) rfl ?_
  refine V_iconst dX7_hangs_7 kc_0 ?_
  refine V_istore (ls' := [some (.ref h), some (.int p0), some (.int (0 : Int32)), some (.int (0 : Int32)), some (.int (0 : Int32)), some (.int (0 : Int32)), none]) dX7_hangs_8 (by decide) rfl ?_
  exact lq6_ex (P := fun v1 v2 v3 v4 v5 σ => V X cX7_hangs RX7 7 6 (wM z h σ) 10 [some (.ref h), some (.int v1), some (.int v2), some (.int v3), some (.int v4), some (.int v5), none] []) (fun k hk v1 v2 v3 v4 v5 σ hf => mM_hangs_10_v hE k hk v1 v2 v3 v4 v5 σ hf) LF p0 (0 : Int32) (0 : Int32) (0 : Int32) (0 : Int32) σ hf
set_option maxHeartbeats 4000000 in
theorem mM_seat_ok (l : Launch) (D : DD) (z : ZZ) (h : Nat) (p0 : Int32) (p1 : Int32) (p2 : Int32) (p3 : Int32) (σ : SM) (r : Int32) (σ' : SM) (hf : mM_seat p0 p1 p2 p3 σ = some (r, σ')) : MA l D yX7_seat cX7_seat 5 (some .int) 7 [.ref h, .int p0, .int p1, .int p2, .int p3] (wM z h σ) (.returned (some (.int r))) (wM z h σ') := by
  refine MA.intro (own := RX7) (nm := "seat") (ls := [some (.ref h), some (.int p0), some (.int p1), some (.int p2), some (.int p3)]) (by decide) rfl rfl (Nat.le_of_ble_eq_true rfl) rfl (fun X hl hD hE => ?_)
  subst hl hD
  unfold mM_seat at hf
  refine V_aload_n dX7_seat_0 rfl ?_
  refine V_iconst dX7_seat_1 kc_0 ?_
  obtain ⟨σ1, hs2, hf⟩ := st1_ex hf
  refine VM_putI fwX7_113 hs2 dX7_seat_2 ?_
  refine V_iload_n dX7_seat_5 rfl ?_
  refine V_i2l dX7_seat_6 ?_
  refine V_lconst dX7_seat_7 kl_0 ?_
  refine V_ldc2 q1976 dX7_seat_8 ?_
  obtain ⟨r4, hc3, hf⟩ := bd1_ex hf
  refine V_cS (rest := []) (st' := [.int r4]) (mM_in_ok _ _ _ _ _ _ _ hc3) scX7_121 (by decide) rfl rfl (Nat.le_of_ble_eq_true rfl) dX7_seat_11 rfl ?_
  refine V_if_eq (tgt := 44) dX7_seat_14 (by decide) (fun hc5 => ?_) (fun hc5 => ?_)
  · have hf := if_t hf hc5
    refine V_ldcw q2392 dX7_seat_44 ?_
    cases some_ex hf
    exact V_iret hE dX7_seat_47
  · have hf := if_f hf hc5
    refine V_iload_n dX7_seat_17 rfl ?_
    obtain ⟨r7, hc6, hf⟩ := bd1_ex hf
    refine V_cS (rest := []) (st' := [.int r7]) (mM_isDay_ok _ _ _ _ _ hc6) scX7_159 (by decide) rfl rfl (Nat.le_of_ble_eq_true rfl) dX7_seat_18 rfl ?_
    refine V_if_eq (tgt := 44) dX7_seat_21 (by decide) (fun hc8 => ?_) (fun hc8 => ?_)
    · have hf := if_t hf hc8
      refine V_ldcw q2392 dX7_seat_44 ?_
      cases some_ex hf
      exact V_iret hE dX7_seat_47
    · have hf := if_f hf hc8
      refine V_iload_n dX7_seat_24 rfl ?_
      obtain ⟨r10, hc9, hf⟩ := bd1_ex hf
      refine V_cS (rest := []) (st' := [.int r10]) (mM_isDay_ok _ _ _ _ _ hc9) scX7_159 (by decide) rfl rfl (Nat.le_of_ble_eq_true rfl) dX7_seat_25 rfl ?_
      refine V_if_eq (tgt := 44) dX7_seat_28 (by decide) (fun hc11 => ?_) (fun hc11 => ?_)
      · have hf := if_t hf hc11
        refine V_ldcw q2392 dX7_seat_44 ?_
        cases some_ex hf
        exact V_iret hE dX7_seat_47
      · have hf := if_f hf hc11
        refine V_iload dX7_seat_31 rfl ?_
        refine V_i2l dX7_seat_33 ?_
        refine V_lconst dX7_seat_34 kl_0 ?_
        refine V_ldc2 q2159 dX7_seat_35 ?_
        obtain ⟨r13, hc12, hf⟩ := bd1_ex hf
        refine V_cS (rest := []) (st' := [.int r13]) (mM_in_ok _ _ _ _ _ _ _ hc12) scX7_121 (by decide) rfl rfl (Nat.le_of_ble_eq_true rfl) dX7_seat_38 rfl ?_
        refine V_if_ne (tgt := 48) dX7_seat_41 (by decide) (fun hc14 => ?_) (fun hc14 => ?_)
        · have hf := if_f hf hc14
          refine V_aload_n dX7_seat_48 rfl ?_
          refine V_iload_n dX7_seat_49 rfl ?_
          refine V_iload_n dX7_seat_50 rfl ?_
          obtain ⟨σ16, hc15, hf⟩ := bd1_ex hf
          refine V_cV (av := [.int p1, .int p2]) (rest := []) (st' := []) (mM_knowBy_ok _ _ _ _ _ _ _ _ hc15) vcX7_205 (wM_k0 _ _ _) (by decide) rfl rfl (Nat.le_of_ble_eq_true rfl) dX7_seat_51 rfl ?_
          refine V_aload_n dX7_seat_54 rfl ?_
          refine V_iload_n dX7_seat_55 rfl ?_
          obtain ⟨σ18, hc17, hf⟩ := bd1_ex hf
          refine V_cV (av := [.int p0]) (rest := []) (st' := []) (mM_addSeat_ok _ _ _ _ _ _ _ hc17) vcX7_544 (wM_k0 _ _ _) (by decide) rfl rfl (Nat.le_of_ble_eq_true rfl) dX7_seat_56 rfl ?_
          refine V_iload dX7_seat_59 rfl ?_
          refine V_bipush dX7_seat_61 kb_8 ?_
          refine V_icmp_ge (tgt := 74) dX7_seat_63 (by decide) (fun hc19 => ?_) (fun hc19 => ?_)
          · have hf := if_t hf hc19
            refine V_aload_n dX7_seat_74 rfl ?_
            refine V_iload_n dX7_seat_75 rfl ?_
            obtain ⟨σ21, hc20, hf⟩ := bd1_ex hf
            refine V_cV (av := [.int p0]) (rest := []) (st' := []) (mM_findWinner_ok _ _ _ _ _ _ _ hc20) vcX7_547 (wM_k0 _ _ _) (by decide) rfl rfl (Nat.le_of_ble_eq_true rfl) dX7_seat_76 rfl ?_
            refine V_iload dX7_seat_79 rfl ?_
            refine V_bipush dX7_seat_81 kb_8 ?_
            refine V_icmp_ne (tgt := 93) dX7_seat_83 (by decide) (fun hc22 => ?_) (fun hc22 => ?_)
            · have hf := if_f hf hc22
              refine V_iload dX7_seat_93 rfl ?_
              refine V_bipush dX7_seat_95 kb_9 ?_
              refine V_icmp_ne (tgt := 107) dX7_seat_97 (by decide) (fun hc23 => ?_) (fun hc23 => ?_)
              · have hf := if_f hf hc23
                refine V_aload_n dX7_seat_107 rfl ?_
                refine V_iload_n dX7_seat_108 rfl ?_
                obtain ⟨r25, σ26, hc24, hf⟩ := bd2_ex hf
                refine V_cV (av := [.int p0]) (rest := []) (st' := [.int r25]) (mM_hangs_ok _ _ _ _ _ _ _ _ hc24) vcX7_550 (wM_k0 _ _ _) (by decide) rfl rfl (Nat.le_of_ble_eq_true rfl) dX7_seat_109 rfl ?_
                refine V_if_eq (tgt := 119) dX7_seat_112 (by decide) (fun hc27 => ?_) (fun hc27 => ?_)
                · have hf := if_t hf hc27
                  refine V_iconst dX7_seat_119 kc_0 ?_
                  cases some_ex hf
                  exact V_iret hE dX7_seat_120
                · have hf := if_f hf hc27
                  refine V_iconst dX7_seat_115 kc_1 ?_
                  refine V_goto (tgt := 120) dX7_seat_116 (by decide) ?_
                  cases some_ex hf
                  exact V_iret hE dX7_seat_120
              · have hf := if_t hf hc23
                refine V_aload_n dX7_seat_100 rfl ?_
                refine VM_getI fX7_541 rfl dX7_seat_101 ?_
                refine V_goto (tgt := 120) dX7_seat_104 (by decide) ?_
                cases some_ex hf
                exact V_iret hE dX7_seat_120
            · have hf := if_t hf hc22
              refine V_aload_n dX7_seat_86 rfl ?_
              refine VM_getI fX7_538 rfl dX7_seat_87 ?_
              refine V_goto (tgt := 120) dX7_seat_90 (by decide) ?_
              cases some_ex hf
              exact V_iret hE dX7_seat_120
          · have hf := if_f hf hc19
            refine V_aload_n dX7_seat_66 rfl ?_
            refine VM_getR fX7_95 ⟨rfl, rfl⟩ rfl dX7_seat_67 ?_
            refine V_iload dX7_seat_70 rfl ?_
            obtain ⟨hb28, hf⟩ := ck_ex hf
            refine VM_ldI (n := 8) (k := p3.toNatClampNeg) rfl hb28 rfl dX7_seat_72 ?_
            cases some_ex hf
            exact V_iret hE dX7_seat_73
        · have hf := if_t hf hc14
          refine V_ldcw q2392 dX7_seat_44 ?_
          cases some_ex hf
          exact V_iret hE dX7_seat_47
set_option maxHeartbeats 4000000 in
theorem mM_joinBooths_202_v {X : CX} {w0 : AH} {z : ZZ} {h : Nat} {r : Int32} {σ' : SM} (hE : XE X w0 6 (some .int) "joinBooths" (.returned (some (.int r))) (wM z h σ')) (k152 : Int32 → Int32 → Int32 → SM → Option (Int32 × SM)) (hk152 : ∀ (v3 : Int32) (v6 : Int32) (v7 : Int32) (σ : SM), k152 v3 v6 v7 σ = some (r, σ') → V X cX7_joinBooths RX7 9 6 (wM z h σ) 152 [some (.ref h), none, none, some (.int v3), none, none, some (.int v6), some (.int v7), none] []) (v3 : Int32) (v6 : Int32) (v7 : Int32) (t0 : Int32) (t1 : Int32) (σ : SM) (hf : mM_joinBooths_202 k152 v3 v6 v7 t0 t1 σ = some (r, σ')) : V X cX7_joinBooths RX7 9 6 (wM z h σ) 202 [some (.ref h), none, none, some (.int v3), none, none, some (.int v6), some (.int v7), none] [.int t0, .int t1, .ref (h + 28)] := by
  unfold mM_joinBooths_202 at hf
  obtain ⟨hb1, hf⟩ := ck_ex hf
  obtain ⟨σ2, hs3, hf⟩ := st1_ex hf
  refine VM_stI (n := 20) (k := t1.toNatClampNeg) rfl hb1 rfl hs3 dX7_joinBooths_202 ?_
  refine V_inc (ls' := [some (.ref h), none, none, some (.int v3), none, none, some (.int v6), some (.int (v7 + (1 : Int32))), none]) dX7_joinBooths_203 rfl kc_1 (by decide) rfl ?_
  refine V_goto (tgt := 152) dX7_joinBooths_206 (by decide) ?_
  exact hk152 v3 v6 (v7 + (1 : Int32)) σ2 hf
set_option maxHeartbeats 4000000 in
theorem mM_joinBooths_152_v {X : CX} {w0 : AH} {z : ZZ} {h : Nat} {r : Int32} {σ' : SM} (hE : XE X w0 6 (some .int) "joinBooths" (.returned (some (.int r))) (wM z h σ')) (k152 : Int32 → Int32 → Int32 → SM → Option (Int32 × SM)) (hk152 : ∀ (v3 : Int32) (v6 : Int32) (v7 : Int32) (σ : SM), k152 v3 v6 v7 σ = some (r, σ') → V X cX7_joinBooths RX7 9 6 (wM z h σ) 152 [some (.ref h), none, none, some (.int v3), none, none, some (.int v6), some (.int v7), none] []) (v3 : Int32) (v6 : Int32) (v7 : Int32) (σ : SM) (hf : mM_joinBooths_152 k152 v3 v6 v7 σ = some (r, σ')) : V X cX7_joinBooths RX7 9 6 (wM z h σ) 152 [some (.ref h), none, none, some (.int v3), none, none, some (.int v6), some (.int v7), none] [] := by
  unfold mM_joinBooths_152 at hf
  refine V_iload dX7_joinBooths_152 rfl ?_
  refine V_aload_n dX7_joinBooths_154 rfl ?_
  refine VM_getR fX7_7 ⟨rfl, rfl⟩ rfl dX7_joinBooths_155 ?_
  refine V_iconst dX7_joinBooths_158 kc_3 ?_
  refine VM_ldI (n := 23016) (k := 3) rfl (by decide) (by decide) dX7_joinBooths_159 ?_
  refine V_icmp_ge (tgt := 209) dX7_joinBooths_160 (by decide) (fun hc1 => ?_) (fun hc1 => ?_)
  · have hf := if_t hf hc1
    refine V_iload_n dX7_joinBooths_209 rfl ?_
    cases some_ex hf
    exact V_iret hE dX7_joinBooths_210
  · have hf := if_f hf hc1
    refine V_iload dX7_joinBooths_163 rfl ?_
    refine V_if_eq (tgt := 209) dX7_joinBooths_165 (by decide) (fun hc2 => ?_) (fun hc2 => ?_)
    · have hf := if_t hf hc2
      refine V_iload_n dX7_joinBooths_209 rfl ?_
      cases some_ex hf
      exact V_iret hE dX7_joinBooths_210
    · have hf := if_f hf hc2
      refine V_iload_n dX7_joinBooths_168 rfl ?_
      refine V_if_le (tgt := 209) dX7_joinBooths_169 (by decide) (fun hc3 => ?_) (fun hc3 => ?_)
      · have hf := if_t hf hc3
        refine V_iload_n dX7_joinBooths_209 rfl ?_
        cases some_ex hf
        exact V_iret hE dX7_joinBooths_210
      · have hf := if_f hf hc3
        refine V_aload_n dX7_joinBooths_172 rfl ?_
        refine VM_getR fX7_98 ⟨rfl, rfl⟩ rfl dX7_joinBooths_173 ?_
        refine V_iload dX7_joinBooths_176 rfl ?_
        refine V_aload_n dX7_joinBooths_178 rfl ?_
        refine VM_getR fX7_98 ⟨rfl, rfl⟩ rfl dX7_joinBooths_179 ?_
        refine V_iload dX7_joinBooths_182 rfl ?_
        obtain ⟨hb4, hf⟩ := ck_ex hf
        refine VM_ldI (n := 20) (k := v7.toNatClampNeg) rfl hb4 rfl dX7_joinBooths_184 ?_
        refine V_iload_n dX7_joinBooths_185 rfl ?_
        refine V_icmp_ne (tgt := 195) dX7_joinBooths_186 (by decide) (fun hc5 => ?_) (fun hc5 => ?_)
        · have hf := if_f hf hc5
          refine V_aload_n dX7_joinBooths_195 rfl ?_
          refine VM_getR fX7_98 ⟨rfl, rfl⟩ rfl dX7_joinBooths_196 ?_
          refine V_iload dX7_joinBooths_199 rfl ?_
          obtain ⟨hb6, hf⟩ := ck_ex hf
          refine VM_ldI (n := 20) (k := v7.toNatClampNeg) rfl hb6 rfl dX7_joinBooths_201 ?_
          exact mM_joinBooths_202_v hE k152 hk152 v3 v6 v7 (gI σ 28 (v7.toNatClampNeg)) v7 σ hf
        · have hf := if_t hf hc5
          refine V_iload_n dX7_joinBooths_189 rfl ?_
          refine V_iconst dX7_joinBooths_190 kc_1 ?_
          refine V_isub dX7_joinBooths_191 ?_
          refine V_goto (tgt := 202) dX7_joinBooths_192 (by decide) ?_
          exact mM_joinBooths_202_v hE k152 hk152 v3 v6 v7 (v3 - (1 : Int32)) v7 σ hf
set_option maxHeartbeats 4000000 in
theorem mM_joinBooths_143_v {X : CX} {w0 : AH} {z : ZZ} {h : Nat} {r : Int32} {σ' : SM} (hE : XE X w0 6 (some .int) "joinBooths" (.returned (some (.int r))) (wM z h σ')) (k14 : Int32 → Int32 → Int32 → Int32 → Int32 → Int32 → Int32 → SM → Option (Int32 × SM)) (hk14 : ∀ (v1 : Int32) (v2 : Int32) (v3 : Int32) (v4 : Int32) (v5 : Int32) (v6 : Int32) (v7 : Int32) (σ : SM), k14 v1 v2 v3 v4 v5 v6 v7 σ = some (r, σ') → V X cX7_joinBooths RX7 9 6 (wM z h σ) 14 [some (.ref h), some (.int v1), some (.int v2), some (.int v3), some (.int v4), some (.int v5), some (.int v6), some (.int v7), none] []) (v1 : Int32) (v2 : Int32) (v3 : Int32) (v4 : Int32) (v5 : Int32) (v6 : Int32) (v7 : Int32) (σ : SM) (hf : mM_joinBooths_143 k14 v1 v2 v3 v4 v5 v6 v7 σ = some (r, σ')) : V X cX7_joinBooths RX7 9 6 (wM z h σ) 143 [some (.ref h), some (.int v1), some (.int v2), some (.int v3), some (.int v4), some (.int v5), some (.int v6), some (.int v7), none] [] := by
  unfold mM_joinBooths_143 at hf
  refine V_inc (ls' := [some (.ref h), some (.int v1), some (.int v2), some (.int v3), some (.int v4), some (.int v5), some (.int v6), some (.int (v7 + (1 : Int32))), none]) dX7_joinBooths_143 rfl kc_1 (by decide) rfl ?_
  refine V_goto (tgt := 14) dX7_joinBooths_146 (by decide) ?_
  exact hk14 v1 v2 v3 v4 v5 v6 (v7 + (1 : Int32)) σ hf
set_option maxHeartbeats 4000000 in
theorem mM_joinBooths_127_v {X : CX} {w0 : AH} {z : ZZ} {h : Nat} {r : Int32} {σ' : SM} (hE : XE X w0 6 (some .int) "joinBooths" (.returned (some (.int r))) (wM z h σ')) (k14 : Int32 → Int32 → Int32 → Int32 → Int32 → Int32 → Int32 → SM → Option (Int32 × SM)) (hk14 : ∀ (v1 : Int32) (v2 : Int32) (v3 : Int32) (v4 : Int32) (v5 : Int32) (v6 : Int32) (v7 : Int32) (σ : SM), k14 v1 v2 v3 v4 v5 v6 v7 σ = some (r, σ') → V X cX7_joinBooths RX7 9 6 (wM z h σ) 14 [some (.ref h), some (.int v1), some (.int v2), some (.int v3), some (.int v4), some (.int v5), some (.int v6), some (.int v7), none] []) (v1 : Int32) (v2 : Int32) (v3 : Int32) (v4 : Int32) (v5 : Int32) (v7 : Int32) (t0 : Int32) (σ : SM) (hf : mM_joinBooths_127 k14 v1 v2 v3 v4 v5 v7 t0 σ = some (r, σ')) : V X cX7_joinBooths RX7 9 6 (wM z h σ) 127 [some (.ref h), some (.int v1), some (.int v2), some (.int v3), some (.int v4), some (.int v5), none, some (.int v7), none] [.int t0] := by
  unfold mM_joinBooths_127 at hf
  refine V_istore (ls' := [some (.ref h), some (.int v1), some (.int v2), some (.int v3), some (.int v4), some (.int v5), some (.int t0), some (.int v7), none]) dX7_joinBooths_127 (by decide) rfl ?_
  refine V_iload dX7_joinBooths_129 rfl ?_
  refine V_if_ne (tgt := 143) dX7_joinBooths_131 (by decide) (fun hc1 => ?_) (fun hc1 => ?_)
  · have hf := if_f hf hc1
    exact mM_joinBooths_143_v hE k14 hk14 v1 v2 v3 v4 v5 t0 v7 σ hf
  · have hf := if_t hf hc1
    refine V_inc (ls' := [some (.ref h), some (.int v1), some (.int v2), some (.int (v3 + (1 : Int32))), some (.int v4), some (.int v5), some (.int t0), some (.int v7), none]) dX7_joinBooths_134 rfl kc_1 (by decide) rfl ?_
    refine V_iconst dX7_joinBooths_137 kc_0 ?_
    refine V_istore (ls' := [some (.ref h), some (.int v1), some (.int v2), some (.int (v3 + (1 : Int32))), some (.int (0 : Int32)), some (.int v5), some (.int t0), some (.int v7), none]) dX7_joinBooths_138 (by decide) rfl ?_
    refine V_iconst dX7_joinBooths_140 kc_0 ?_
    refine V_istore (ls' := [some (.ref h), some (.int v1), some (.int v2), some (.int (v3 + (1 : Int32))), some (.int (0 : Int32)), some (.int (0 : Int32)), some (.int t0), some (.int v7), none]) dX7_joinBooths_141 (by decide) rfl ?_
    exact mM_joinBooths_143_v hE k14 hk14 v1 v2 (v3 + (1 : Int32)) (0 : Int32) (0 : Int32) t0 v7 σ hf
set_option maxHeartbeats 4000000 in
theorem mM_joinBooths_122_v {X : CX} {w0 : AH} {z : ZZ} {h : Nat} {r : Int32} {σ' : SM} (hE : XE X w0 6 (some .int) "joinBooths" (.returned (some (.int r))) (wM z h σ')) (k14 : Int32 → Int32 → Int32 → Int32 → Int32 → Int32 → Int32 → SM → Option (Int32 × SM)) (hk14 : ∀ (v1 : Int32) (v2 : Int32) (v3 : Int32) (v4 : Int32) (v5 : Int32) (v6 : Int32) (v7 : Int32) (σ : SM), k14 v1 v2 v3 v4 v5 v6 v7 σ = some (r, σ') → V X cX7_joinBooths RX7 9 6 (wM z h σ) 14 [some (.ref h), some (.int v1), some (.int v2), some (.int v3), some (.int v4), some (.int v5), some (.int v6), some (.int v7), none] []) (v1 : Int32) (v2 : Int32) (v3 : Int32) (v4 : Int32) (v5 : Int32) (v7 : Int32) (σ : SM) (hf : mM_joinBooths_122 k14 v1 v2 v3 v4 v5 v7 σ = some (r, σ')) : V X cX7_joinBooths RX7 9 6 (wM z h σ) 122 [some (.ref h), some (.int v1), some (.int v2), some (.int v3), some (.int v4), some (.int v5), none, some (.int v7), none] [] := by
  unfold mM_joinBooths_122 at hf
  refine V_iconst dX7_joinBooths_122 kc_1 ?_
  refine V_goto (tgt := 127) dX7_joinBooths_123 (by decide) ?_
  exact mM_joinBooths_127_v hE k14 hk14 v1 v2 v3 v4 v5 v7 (1 : Int32) σ hf
set_option maxHeartbeats 4000000 in
theorem mM_joinBooths_98_v {X : CX} {w0 : AH} {z : ZZ} {h : Nat} {r : Int32} {σ' : SM} (hE : XE X w0 6 (some .int) "joinBooths" (.returned (some (.int r))) (wM z h σ')) (k71 : Int32 → Int32 → Int32 → Int32 → Int32 → Int32 → Int32 → SM → Option (Int32 × SM)) (hk71 : ∀ (v1 : Int32) (v2 : Int32) (v3 : Int32) (v4 : Int32) (v5 : Int32) (v7 : Int32) (v8 : Int32) (σ : SM), k71 v1 v2 v3 v4 v5 v7 v8 σ = some (r, σ') → V X cX7_joinBooths RX7 9 6 (wM z h σ) 71 [some (.ref h), some (.int v1), some (.int v2), some (.int v3), some (.int v4), some (.int v5), none, some (.int v7), some (.int v8)] []) (v1 : Int32) (v2 : Int32) (v3 : Int32) (v4 : Int32) (v7 : Int32) (v8 : Int32) (t0 : Int32) (t1 : Int32) (σ : SM) (hf : mM_joinBooths_98 k71 v1 v2 v3 v4 v7 v8 t0 t1 σ = some (r, σ')) : V X cX7_joinBooths RX7 9 6 (wM z h σ) 98 [some (.ref h), some (.int v1), some (.int v2), some (.int v3), some (.int v4), none, none, some (.int v7), some (.int v8)] [.int t0, .int t1] := by
  unfold mM_joinBooths_98 at hf
  refine V_ior dX7_joinBooths_98 ?_
  refine V_istore (ls' := [some (.ref h), some (.int v1), some (.int v2), some (.int v3), some (.int v4), some (.int (t1 ||| t0)), none, some (.int v7), some (.int v8)]) dX7_joinBooths_99 (by decide) rfl ?_
  refine V_inc (ls' := [some (.ref h), some (.int v1), some (.int v2), some (.int v3), some (.int v4), some (.int (t1 ||| t0)), none, some (.int v7), some (.int (v8 + (1 : Int32)))]) dX7_joinBooths_101 rfl kc_1 (by decide) rfl ?_
  refine V_goto (tgt := 71) dX7_joinBooths_104 (by decide) ?_
  exact hk71 v1 v2 v3 v4 (t1 ||| t0) v7 (v8 + (1 : Int32)) σ hf
set_option maxHeartbeats 4000000 in
theorem mM_joinBooths_71_v {X : CX} {w0 : AH} {z : ZZ} {h : Nat} {r : Int32} {σ' : SM} (hE : XE X w0 6 (some .int) "joinBooths" (.returned (some (.int r))) (wM z h σ')) (k14 : Int32 → Int32 → Int32 → Int32 → Int32 → Int32 → Int32 → SM → Option (Int32 × SM)) (hk14 : ∀ (v1 : Int32) (v2 : Int32) (v3 : Int32) (v4 : Int32) (v5 : Int32) (v6 : Int32) (v7 : Int32) (σ : SM), k14 v1 v2 v3 v4 v5 v6 v7 σ = some (r, σ') → V X cX7_joinBooths RX7 9 6 (wM z h σ) 14 [some (.ref h), some (.int v1), some (.int v2), some (.int v3), some (.int v4), some (.int v5), some (.int v6), some (.int v7), none] []) (k71 : Int32 → Int32 → Int32 → Int32 → Int32 → Int32 → Int32 → SM → Option (Int32 × SM)) (hk71 : ∀ (v1 : Int32) (v2 : Int32) (v3 : Int32) (v4 : Int32) (v5 : Int32) (v7 : Int32) (v8 : Int32) (σ : SM), k71 v1 v2 v3 v4 v5 v7 v8 σ = some (r, σ') → V X cX7_joinBooths RX7 9 6 (wM z h σ) 71 [some (.ref h), some (.int v1), some (.int v2), some (.int v3), some (.int v4), some (.int v5), none, some (.int v7), some (.int v8)] []) (v1 : Int32) (v2 : Int32) (v3 : Int32) (v4 : Int32) (v5 : Int32) (v7 : Int32) (v8 : Int32) (σ : SM) (hf : mM_joinBooths_71 k14 k71 v1 v2 v3 v4 v5 v7 v8 σ = some (r, σ')) : V X cX7_joinBooths RX7 9 6 (wM z h σ) 71 [some (.ref h), some (.int v1), some (.int v2), some (.int v3), some (.int v4), some (.int v5), none, some (.int v7), some (.int v8)] [] := by
  unfold mM_joinBooths_71 at hf
  refine V_iload dX7_joinBooths_71 rfl ?_
  refine V_bipush dX7_joinBooths_73 kb_8 ?_
  refine V_icmp_ge (tgt := 107) dX7_joinBooths_75 (by decide) (fun hc1 => ?_) (fun hc1 => ?_)
  · have hf := if_t hf hc1
    refine V_iload dX7_joinBooths_107 rfl ?_
    refine V_iload_n dX7_joinBooths_109 rfl ?_
    refine V_icmp_lt (tgt := 122) dX7_joinBooths_110 (by decide) (fun hc2 => ?_) (fun hc2 => ?_)
    · have hf := if_t hf hc2
      refine V_keep [true, true, true, true, true, true, true, true, false] rfl ?_
      exact mM_joinBooths_122_v hE k14 hk14 v1 v2 v3 v4 v5 v7 σ hf
    · have hf := if_f hf hc2
      refine V_iload dX7_joinBooths_113 rfl ?_
      obtain ⟨r4, hc3, hf⟩ := bd1_ex hf
      refine V_cS (rest := []) (st' := [.int r4]) (mM_ones_ok _ _ _ _ _ hc3) scX7_487 (by decide) rfl rfl (Nat.le_of_ble_eq_true rfl) dX7_joinBooths_115 rfl ?_
      refine V_iconst dX7_joinBooths_118 kc_2 ?_
      refine V_icmp_ge (tgt := 126) dX7_joinBooths_119 (by decide) (fun hc5 => ?_) (fun hc5 => ?_)
      · have hf := if_t hf hc5
        refine V_iconst dX7_joinBooths_126 kc_0 ?_
        refine V_keep [true, true, true, true, true, true, true, true, false] rfl ?_
        exact mM_joinBooths_127_v hE k14 hk14 v1 v2 v3 v4 v5 v7 (0 : Int32) σ hf
      · have hf := if_f hf hc5
        refine V_keep [true, true, true, true, true, true, true, true, false] rfl ?_
        exact mM_joinBooths_122_v hE k14 hk14 v1 v2 v3 v4 v5 v7 σ hf
  · have hf := if_f hf hc1
    refine V_iload dX7_joinBooths_78 rfl ?_
    refine V_aload_n dX7_joinBooths_80 rfl ?_
    refine VM_getR fX7_92 ⟨rfl, rfl⟩ rfl dX7_joinBooths_81 ?_
    refine V_iload dX7_joinBooths_84 rfl ?_
    obtain ⟨hb6, hf⟩ := ck_ex hf
    refine VM_ldI (n := 8) (k := v8.toNatClampNeg) rfl hb6 rfl dX7_joinBooths_86 ?_
    refine V_if_le (tgt := 97) dX7_joinBooths_87 (by decide) (fun hc7 => ?_) (fun hc7 => ?_)
    · have hf := if_t hf hc7
      refine V_iconst dX7_joinBooths_97 kc_0 ?_
      refine V_keep [true, true, true, true, true, false, true, true, true] rfl ?_
      exact mM_joinBooths_98_v hE k71 hk71 v1 v2 v3 v4 v7 v8 (0 : Int32) v5 σ hf
    · have hf := if_f hf hc7
      refine V_iconst dX7_joinBooths_90 kc_1 ?_
      refine V_iload dX7_joinBooths_91 rfl ?_
      refine V_ishl dX7_joinBooths_93 ?_
      refine V_goto (tgt := 98) dX7_joinBooths_94 (by decide) ?_
      refine V_keep [true, true, true, true, true, false, true, true, true] rfl ?_
      exact mM_joinBooths_98_v hE k71 hk71 v1 v2 v3 v4 v7 v8 ((1 : Int32) <<< (v8 &&& 31)) v5 σ hf
set_option maxHeartbeats 4000000 in
theorem mM_joinBooths_14_v {X : CX} {w0 : AH} {z : ZZ} {h : Nat} {r : Int32} {σ' : SM} (hE : XE X w0 6 (some .int) "joinBooths" (.returned (some (.int r))) (wM z h σ')) (k14 : Int32 → Int32 → Int32 → Int32 → Int32 → Int32 → Int32 → SM → Option (Int32 × SM)) (hk14 : ∀ (v1 : Int32) (v2 : Int32) (v3 : Int32) (v4 : Int32) (v5 : Int32) (v6 : Int32) (v7 : Int32) (σ : SM), k14 v1 v2 v3 v4 v5 v6 v7 σ = some (r, σ') → V X cX7_joinBooths RX7 9 6 (wM z h σ) 14 [some (.ref h), some (.int v1), some (.int v2), some (.int v3), some (.int v4), some (.int v5), some (.int v6), some (.int v7), none] []) (v1 : Int32) (v2 : Int32) (v3 : Int32) (v4 : Int32) (v5 : Int32) (v6 : Int32) (v7 : Int32) (σ : SM) (hf : mM_joinBooths_14 k14 v1 v2 v3 v4 v5 v6 v7 σ = some (r, σ')) : V X cX7_joinBooths RX7 9 6 (wM z h σ) 14 [some (.ref h), some (.int v1), some (.int v2), some (.int v3), some (.int v4), some (.int v5), some (.int v6), some (.int v7), none] [] := by
  unfold mM_joinBooths_14 at hf
  refine V_iload dX7_joinBooths_14 rfl ?_
  refine V_aload_n dX7_joinBooths_16 rfl ?_
  refine VM_getR fX7_7 ⟨rfl, rfl⟩ rfl dX7_joinBooths_17 ?_
  refine V_iconst dX7_joinBooths_20 kc_3 ?_
  refine VM_ldI (n := 23016) (k := 3) rfl (by decide) (by decide) dX7_joinBooths_21 ?_
  refine V_icmp_ge (tgt := 149) dX7_joinBooths_22 (by decide) (fun hc1 => ?_) (fun hc1 => ?_)
  · have hf := if_t hf hc1
    refine V_iconst dX7_joinBooths_149 kc_0 ?_
    refine V_istore (ls' := [some (.ref h), some (.int v1), some (.int v2), some (.int v3), some (.int v4), some (.int v5), some (.int v6), some (.int (0 : Int32)), none]) dX7_joinBooths_150 (by decide) rfl ?_
    refine V_keep [true, false, false, true, false, false, true, true, true] rfl ?_
    exact lq4_ex (P := fun v3 v6 v7 σ => V X cX7_joinBooths RX7 9 6 (wM z h σ) 152 [some (.ref h), none, none, some (.int v3), none, none, some (.int v6), some (.int v7), none] []) (fun k hk v3 v6 v7 σ hf => mM_joinBooths_152_v hE k hk v3 v6 v7 σ hf) LF v3 v6 (0 : Int32) σ hf
  · have hf := if_f hf hc1
    refine V_aload_n dX7_joinBooths_25 rfl ?_
    refine VM_getR fX7_98 ⟨rfl, rfl⟩ rfl dX7_joinBooths_26 ?_
    refine V_iload dX7_joinBooths_29 rfl ?_
    refine V_iconst dX7_joinBooths_31 kc_m1 ?_
    obtain ⟨hb2, hf⟩ := ck_ex hf
    obtain ⟨σ3, hs4, hf⟩ := st1_ex hf
    refine VM_stI (n := 20) (k := v7.toNatClampNeg) rfl hb2 rfl hs4 dX7_joinBooths_32 ?_
    refine V_aload_n dX7_joinBooths_33 rfl ?_
    refine V_iload dX7_joinBooths_34 rfl ?_
    obtain ⟨r6, hc5, hf⟩ := bd1_ex hf
    refine V_cV (av := [.int v7]) (rest := []) (st' := [.int r6]) (mM_seatOf_ok _ _ _ _ _ _ _ hc5) vcX7_535 (wM_k0 _ _ _) (by decide) rfl rfl (Nat.le_of_ble_eq_true rfl) dX7_joinBooths_36 rfl ?_
    refine V_iload_n dX7_joinBooths_39 rfl ?_
    refine V_icmp_ne (tgt := 143) dX7_joinBooths_40 (by decide) (fun hc7 => ?_) (fun hc7 => ?_)
    · have hf := if_f hf hc7
      exact mM_joinBooths_143_v hE k14 hk14 v1 v2 v3 v4 v5 v6 v7 σ3 hf
    · have hf := if_t hf hc7
      refine V_aload_n dX7_joinBooths_43 rfl ?_
      refine VM_getR fX7_98 ⟨rfl, rfl⟩ rfl dX7_joinBooths_44 ?_
      refine V_iload dX7_joinBooths_47 rfl ?_
      refine V_iload_n dX7_joinBooths_49 rfl ?_
      obtain ⟨hb8, hf⟩ := ck_ex hf
      obtain ⟨σ9, hs10, hf⟩ := st1_ex hf
      refine VM_stI (n := 20) (k := v7.toNatClampNeg) rfl hb8 rfl hs10 dX7_joinBooths_50 ?_
      refine V_iload dX7_joinBooths_51 rfl ?_
      refine V_aload_n dX7_joinBooths_53 rfl ?_
      refine V_iload dX7_joinBooths_54 rfl ?_
      obtain ⟨r12, hc11, hf⟩ := bd1_ex hf
      refine V_cV (av := [.int v7]) (rest := [.int v4]) (st' := [.int r12, .int v4]) (mM_putOf_ok _ _ _ _ _ _ _ hc11) vcX7_438 (wM_k0 _ _ _) (by decide) rfl rfl (Nat.le_of_ble_eq_true rfl) dX7_joinBooths_56 rfl ?_
      refine V_iadd dX7_joinBooths_59 ?_
      refine V_istore (ls' := [some (.ref h), some (.int v1), some (.int v2), some (.int v3), some (.int (v4 + r12)), some (.int v5), some (.int v6), some (.int v7), none]) dX7_joinBooths_60 (by decide) rfl ?_
      refine V_aload_n dX7_joinBooths_62 rfl ?_
      refine V_iload dX7_joinBooths_63 rfl ?_
      obtain ⟨σ14, hc13, hf⟩ := bd1_ex hf
      refine V_cV (av := [.int v7]) (rest := []) (st' := []) (mM_findValid_ok _ _ _ _ _ _ _ hc13) vcX7_532 (wM_k0 _ _ _) (by decide) rfl rfl (Nat.le_of_ble_eq_true rfl) dX7_joinBooths_65 rfl ?_
      refine V_iconst dX7_joinBooths_68 kc_0 ?_
      refine V_istore (ls' := [some (.ref h), some (.int v1), some (.int v2), some (.int v3), some (.int (v4 + r12)), some (.int v5), some (.int v6), some (.int v7), some (.int (0 : Int32))]) dX7_joinBooths_69 (by decide) rfl ?_
      refine V_keep [true, true, true, true, true, true, false, true, true] rfl ?_
      exact lq8_ex (P := fun v1 v2 v3 v4 v5 v7 v8 σ => V X cX7_joinBooths RX7 9 6 (wM z h σ) 71 [some (.ref h), some (.int v1), some (.int v2), some (.int v3), some (.int v4), some (.int v5), none, some (.int v7), some (.int v8)] []) (fun k hk v1 v2 v3 v4 v5 v7 v8 σ hf => mM_joinBooths_71_v hE k14 hk14 k hk v1 v2 v3 v4 v5 v7 v8 σ hf) LF v1 v2 v3 (v4 + r12) v5 v7 (0 : Int32) σ14 hf
set_option maxHeartbeats 4000000 in
theorem mM_joinBooths_ok (l : Launch) (D : DD) (z : ZZ) (h : Nat) (p0 : Int32) (p1 : Int32) (σ : SM) (r : Int32) (σ' : SM) (hf : mM_joinBooths p0 p1 σ = some (r, σ')) : MA l D yX7_joinBooths cX7_joinBooths 9 (some .int) 6 [.ref h, .int p0, .int p1] (wM z h σ) (.returned (some (.int r))) (wM z h σ') := by
  refine MA.intro (own := RX7) (nm := "joinBooths") (ls := [some (.ref h), some (.int p0), some (.int p1), none, none, none, none, none, none]) (by decide) rfl rfl (Nat.le_of_ble_eq_true rfl) rfl (fun X hl hD hE => ?_)
  subst hl hD
  unfold mM_joinBooths at hf
  refine V_iconst dX7_joinBooths_0 kc_0 ?_
  refine V_istore_n (ls' := [some (.ref h), some (.int p0), some (.int p1), some (.int (0 : Int32)), none, none, none, none, none]) dX7_joinBooths_1 (by decide) rfl ?_
  refine V_iconst dX7_joinBooths_2 kc_0 ?_
  refine V_istore (ls' := [some (.ref h), some (.int p0), some (.int p1), some (.int (0 : Int32)), some (.int (0 : Int32)), none, none, none, none]) dX7_joinBooths_3 (by decide) rfl ?_
  refine V_iconst dX7_joinBooths_5 kc_0 ?_
  refine V_istore (ls' := [some (.ref h), some (.int p0), some (.int p1), some (.int (0 : Int32)), some (.int (0 : Int32)), some (.int (0 : Int32)), none, none, none]) dX7_joinBooths_6 (by decide) rfl ?_
  refine V_iconst dX7_joinBooths_8 kc_0 ?_
  refine V_istore (ls' := [some (.ref h), some (.int p0), some (.int p1), some (.int (0 : Int32)), some (.int (0 : Int32)), some (.int (0 : Int32)), some (.int (0 : Int32)), none, none]) dX7_joinBooths_9 (by decide) rfl ?_
  refine V_iconst dX7_joinBooths_11 kc_0 ?_
  refine V_istore (ls' := [some (.ref h), some (.int p0), some (.int p1), some (.int (0 : Int32)), some (.int (0 : Int32)), some (.int (0 : Int32)), some (.int (0 : Int32)), some (.int (0 : Int32)), none]) dX7_joinBooths_12 (by decide) rfl ?_
  exact lq8_ex (P := fun v1 v2 v3 v4 v5 v6 v7 σ => V X cX7_joinBooths RX7 9 6 (wM z h σ) 14 [some (.ref h), some (.int v1), some (.int v2), some (.int v3), some (.int v4), some (.int v5), some (.int v6), some (.int v7), none] []) (fun k hk v1 v2 v3 v4 v5 v6 v7 σ hf => mM_joinBooths_14_v hE k hk v1 v2 v3 v4 v5 v6 v7 σ hf) LF p0 p1 (0 : Int32) (0 : Int32) (0 : Int32) (0 : Int32) (0 : Int32) σ hf
set_option maxHeartbeats 4000000 in
theorem mM_hidden_137_v {X : CX} {w0 : AH} {z : ZZ} {h : Nat} {r : Int32} {σ' : SM} (hE : XE X w0 7 (some .int) "hidden" (.returned (some (.int r))) (wM z h σ')) (k90 : Int32 → Int32 → Int32 → Int32 → Int32 → Int32 → SM → Option (Int32 × SM)) (hk90 : ∀ (v1 : Int32) (v2 : Int32) (v5 : Int32) (v6 : Int32) (v7 : Int32) (v8 : Int32) (σ : SM), k90 v1 v2 v5 v6 v7 v8 σ = some (r, σ') → V X cX7_hidden RX7 9 7 (wM z h σ) 90 [some (.ref h), some (.int v1), some (.int v2), none, none, some (.int v5), some (.int v6), some (.int v7), some (.int v8)] []) (v1 : Int32) (v2 : Int32) (v5 : Int32) (v6 : Int32) (v7 : Int32) (v8 : Int32) (σ : SM) (hf : mM_hidden_137 k90 v1 v2 v5 v6 v7 v8 σ = some (r, σ')) : V X cX7_hidden RX7 9 7 (wM z h σ) 137 [some (.ref h), some (.int v1), some (.int v2), none, none, some (.int v5), some (.int v6), some (.int v7), some (.int v8)] [] := by
  unfold mM_hidden_137 at hf
  refine V_inc (ls' := [some (.ref h), some (.int v1), some (.int v2), none, none, some (.int v5), some (.int v6), some (.int v7), some (.int (v8 + (1 : Int32)))]) dX7_hidden_137 rfl kc_1 (by decide) rfl ?_
  refine V_goto (tgt := 90) dX7_hidden_140 (by decide) ?_
  exact hk90 v1 v2 v5 v6 v7 (v8 + (1 : Int32)) σ hf
set_option maxHeartbeats 4000000 in
theorem mM_hidden_90_v {X : CX} {w0 : AH} {z : ZZ} {h : Nat} {r : Int32} {σ' : SM} (hE : XE X w0 7 (some .int) "hidden" (.returned (some (.int r))) (wM z h σ')) (k90 : Int32 → Int32 → Int32 → Int32 → Int32 → Int32 → SM → Option (Int32 × SM)) (hk90 : ∀ (v1 : Int32) (v2 : Int32) (v5 : Int32) (v6 : Int32) (v7 : Int32) (v8 : Int32) (σ : SM), k90 v1 v2 v5 v6 v7 v8 σ = some (r, σ') → V X cX7_hidden RX7 9 7 (wM z h σ) 90 [some (.ref h), some (.int v1), some (.int v2), none, none, some (.int v5), some (.int v6), some (.int v7), some (.int v8)] []) (v1 : Int32) (v2 : Int32) (v5 : Int32) (v6 : Int32) (v7 : Int32) (v8 : Int32) (σ : SM) (hf : mM_hidden_90 k90 v1 v2 v5 v6 v7 v8 σ = some (r, σ')) : V X cX7_hidden RX7 9 7 (wM z h σ) 90 [some (.ref h), some (.int v1), some (.int v2), none, none, some (.int v5), some (.int v6), some (.int v7), some (.int v8)] [] := by
  unfold mM_hidden_90 at hf
  refine V_iload dX7_hidden_90 rfl ?_
  refine V_aload_n dX7_hidden_92 rfl ?_
  refine VM_getR fX7_7 ⟨rfl, rfl⟩ rfl dX7_hidden_93 ?_
  refine V_iconst dX7_hidden_96 kc_3 ?_
  refine VM_ldI (n := 23016) (k := 3) rfl (by decide) (by decide) dX7_hidden_97 ?_
  refine V_icmp_ge (tgt := 143) dX7_hidden_98 (by decide) (fun hc1 => ?_) (fun hc1 => ?_)
  · have hf := if_t hf hc1
    refine V_iload dX7_hidden_143 rfl ?_
    refine V_if_ne (tgt := 153) dX7_hidden_145 (by decide) (fun hc2 => ?_) (fun hc2 => ?_)
    · have hf := if_f hf hc2
      refine V_iload dX7_hidden_153 rfl ?_
      cases some_ex hf
      exact V_iret hE dX7_hidden_155
    · have hf := if_t hf hc2
      refine V_iload dX7_hidden_148 rfl ?_
      refine V_goto (tgt := 155) dX7_hidden_150 (by decide) ?_
      cases some_ex hf
      exact V_iret hE dX7_hidden_155
  · have hf := if_f hf hc1
    refine V_aload_n dX7_hidden_101 rfl ?_
    refine VM_getR fX7_98 ⟨rfl, rfl⟩ rfl dX7_hidden_102 ?_
    refine V_iload dX7_hidden_105 rfl ?_
    obtain ⟨hb3, hf⟩ := ck_ex hf
    refine VM_ldI (n := 20) (k := v8.toNatClampNeg) rfl hb3 rfl dX7_hidden_107 ?_
    refine V_aload_n dX7_hidden_108 rfl ?_
    refine VM_getR fX7_98 ⟨rfl, rfl⟩ rfl dX7_hidden_109 ?_
    refine V_iload_n dX7_hidden_112 rfl ?_
    obtain ⟨hb4, hf⟩ := ck_ex hf
    refine VM_ldI (n := 20) (k := v1.toNatClampNeg) rfl hb4 rfl dX7_hidden_113 ?_
    refine V_icmp_ne (tgt := 137) dX7_hidden_114 (by decide) (fun hc5 => ?_) (fun hc5 => ?_)
    · have hf := if_f hf hc5
      exact mM_hidden_137_v hE k90 hk90 v1 v2 v5 v6 v7 v8 σ hf
    · have hf := if_t hf hc5
      refine V_aload_n dX7_hidden_117 rfl ?_
      refine V_iload dX7_hidden_118 rfl ?_
      obtain ⟨σ7, hc6, hf⟩ := bd1_ex hf
      refine V_cV (av := [.int v8]) (rest := []) (st' := []) (mM_findValid_ok _ _ _ _ _ _ _ hc6) vcX7_532 (wM_k0 _ _ _) (by decide) rfl rfl (Nat.le_of_ble_eq_true rfl) dX7_hidden_120 rfl ?_
      refine V_iload dX7_hidden_123 rfl ?_
      refine V_aload_n dX7_hidden_125 rfl ?_
      refine VM_getR fX7_92 ⟨rfl, rfl⟩ rfl dX7_hidden_126 ?_
      refine V_iload_n dX7_hidden_129 rfl ?_
      obtain ⟨hb8, hf⟩ := ck_ex hf
      refine VM_ldI (n := 8) (k := v2.toNatClampNeg) rfl hb8 rfl dX7_hidden_130 ?_
      refine V_iadd dX7_hidden_131 ?_
      refine V_istore (ls' := [some (.ref h), some (.int v1), some (.int v2), none, none, some (.int v5), some (.int (v6 + (gI σ7 26 (v2.toNatClampNeg)))), some (.int v7), some (.int v8)]) dX7_hidden_132 (by decide) rfl ?_
      refine V_inc (ls' := [some (.ref h), some (.int v1), some (.int v2), none, none, some (.int v5), some (.int (v6 + (gI σ7 26 (v2.toNatClampNeg)))), some (.int (v7 + (1 : Int32))), some (.int v8)]) dX7_hidden_134 rfl kc_1 (by decide) rfl ?_
      exact mM_hidden_137_v hE k90 hk90 v1 v2 v5 (v6 + (gI σ7 26 (v2.toNatClampNeg))) (v7 + (1 : Int32)) v8 σ7 hf
set_option maxHeartbeats 4000000 in
theorem mM_hidden_ok (l : Launch) (D : DD) (z : ZZ) (h : Nat) (p0 : Int32) (p1 : Int32) (p2 : Int32) (p3 : Int32) (p4 : Int32) (σ : SM) (r : Int32) (σ' : SM) (hf : mM_hidden p0 p1 p2 p3 p4 σ = some (r, σ')) : MA l D yX7_hidden cX7_hidden 9 (some .int) 7 [.ref h, .int p0, .int p1, .int p2, .int p3, .int p4] (wM z h σ) (.returned (some (.int r))) (wM z h σ') := by
  refine MA.intro (own := RX7) (nm := "hidden") (ls := [some (.ref h), some (.int p0), some (.int p1), some (.int p2), some (.int p3), some (.int p4), none, none, none]) (by decide) rfl rfl (Nat.le_of_ble_eq_true rfl) rfl (fun X hl hD hE => ?_)
  subst hl hD
  unfold mM_hidden at hf
  refine V_aload_n dX7_hidden_0 rfl ?_
  refine V_iconst dX7_hidden_1 kc_0 ?_
  obtain ⟨σ1, hs2, hf⟩ := st1_ex hf
  refine VM_putI fwX7_113 hs2 dX7_hidden_2 ?_
  refine V_aload_n dX7_hidden_5 rfl ?_
  refine V_iload_n dX7_hidden_6 rfl ?_
  obtain ⟨r4, hc3, hf⟩ := bd1_ex hf
  refine V_cV (av := [.int p0]) (rest := []) (st' := [.int r4]) (mM_isBooth_ok _ _ _ _ _ _ _ hc3) vcX7_504 (wM_k0 _ _ _) (by decide) rfl rfl (Nat.le_of_ble_eq_true rfl) dX7_hidden_7 rfl ?_
  refine V_if_eq (tgt := 51) dX7_hidden_10 (by decide) (fun hc5 => ?_) (fun hc5 => ?_)
  · have hf := if_t hf hc5
    refine V_iconst dX7_hidden_51 kc_m1 ?_
    cases some_ex hf
    exact V_iret hE dX7_hidden_52
  · have hf := if_f hf hc5
    refine V_iload_n dX7_hidden_13 rfl ?_
    refine V_i2l dX7_hidden_14 ?_
    refine V_lconst dX7_hidden_15 kl_0 ?_
    refine V_ldc2 q2385 dX7_hidden_16 ?_
    obtain ⟨r7, hc6, hf⟩ := bd1_ex hf
    refine V_cS (rest := []) (st' := [.int r7]) (mM_in_ok _ _ _ _ _ _ _ hc6) scX7_121 (by decide) rfl rfl (Nat.le_of_ble_eq_true rfl) dX7_hidden_19 rfl ?_
    refine V_if_eq (tgt := 51) dX7_hidden_22 (by decide) (fun hc8 => ?_) (fun hc8 => ?_)
    · have hf := if_t hf hc8
      refine V_iconst dX7_hidden_51 kc_m1 ?_
      cases some_ex hf
      exact V_iret hE dX7_hidden_52
    · have hf := if_f hf hc8
      refine V_iload_n dX7_hidden_25 rfl ?_
      obtain ⟨r10, hc9, hf⟩ := bd1_ex hf
      refine V_cS (rest := []) (st' := [.int r10]) (mM_isDay_ok _ _ _ _ _ hc9) scX7_159 (by decide) rfl rfl (Nat.le_of_ble_eq_true rfl) dX7_hidden_26 rfl ?_
      refine V_if_eq (tgt := 51) dX7_hidden_29 (by decide) (fun hc11 => ?_) (fun hc11 => ?_)
      · have hf := if_t hf hc11
        refine V_iconst dX7_hidden_51 kc_m1 ?_
        cases some_ex hf
        exact V_iret hE dX7_hidden_52
      · have hf := if_f hf hc11
        refine V_iload dX7_hidden_32 rfl ?_
        obtain ⟨r13, hc12, hf⟩ := bd1_ex hf
        refine V_cS (rest := []) (st' := [.int r13]) (mM_isDay_ok _ _ _ _ _ hc12) scX7_159 (by decide) rfl rfl (Nat.le_of_ble_eq_true rfl) dX7_hidden_34 rfl ?_
        refine V_if_eq (tgt := 51) dX7_hidden_37 (by decide) (fun hc14 => ?_) (fun hc14 => ?_)
        · have hf := if_t hf hc14
          refine V_iconst dX7_hidden_51 kc_m1 ?_
          cases some_ex hf
          exact V_iret hE dX7_hidden_52
        · have hf := if_f hf hc14
          refine V_iload dX7_hidden_40 rfl ?_
          refine V_i2l dX7_hidden_42 ?_
          refine V_lconst dX7_hidden_43 kl_0 ?_
          refine V_lconst dX7_hidden_44 kl_1 ?_
          obtain ⟨r16, hc15, hf⟩ := bd1_ex hf
          refine V_cS (rest := []) (st' := [.int r16]) (mM_in_ok _ _ _ _ _ _ _ hc15) scX7_121 (by decide) rfl rfl (Nat.le_of_ble_eq_true rfl) dX7_hidden_45 rfl ?_
          refine V_if_ne (tgt := 53) dX7_hidden_48 (by decide) (fun hc17 => ?_) (fun hc17 => ?_)
          · have hf := if_f hf hc17
            refine V_aload_n dX7_hidden_53 rfl ?_
            refine V_iload_n dX7_hidden_54 rfl ?_
            refine V_iload dX7_hidden_55 rfl ?_
            obtain ⟨σ19, hc18, hf⟩ := bd1_ex hf
            refine V_cV (av := [.int p2, .int p3]) (rest := []) (st' := []) (mM_knowBy_ok _ _ _ _ _ _ _ _ hc18) vcX7_205 (wM_k0 _ _ _) (by decide) rfl rfl (Nat.le_of_ble_eq_true rfl) dX7_hidden_57 rfl ?_
            refine V_aload_n dX7_hidden_60 rfl ?_
            obtain ⟨σ21, hc20, hf⟩ := bd1_ex hf
            refine V_cV (av := []) (rest := []) (st' := []) (mM_setNothing_ok _ _ _ _ _ _ hc20) vcX7_429 (wM_k0 _ _ _) (by decide) rfl rfl (Nat.le_of_ble_eq_true rfl) dX7_hidden_61 rfl ?_
            refine V_aload_n dX7_hidden_64 rfl ?_
            refine V_aload_n dX7_hidden_65 rfl ?_
            refine V_iload_n dX7_hidden_66 rfl ?_
            obtain ⟨r23, hc22, hf⟩ := bd1_ex hf
            refine V_cV (av := [.int p0]) (rest := [.ref h]) (st' := [.int r23, .ref h]) (mM_seatOf_ok _ _ _ _ _ _ _ hc22) vcX7_535 (wM_k0 _ _ _) (by decide) rfl rfl (Nat.le_of_ble_eq_true rfl) dX7_hidden_67 rfl ?_
            refine V_aload_n dX7_hidden_70 rfl ?_
            refine V_bipush dX7_hidden_71 kb_7 ?_
            refine V_iconst dX7_hidden_73 kc_0 ?_
            obtain ⟨r25, σ26, hc24, hf⟩ := bd2_ex hf
            refine V_cV (av := [.int (7 : Int32), .int (0 : Int32)]) (rest := [.int r23, .ref h]) (st' := [.int r25, .int r23, .ref h]) (mM_ruleOf_ok _ _ _ _ _ _ _ _ _ hc24) vcX7_468 (wM_k0 _ _ _) (by decide) rfl rfl (Nat.le_of_ble_eq_true rfl) dX7_hidden_74 rfl ?_
            obtain ⟨r28, σ29, hc27, hf⟩ := bd2_ex hf
            refine V_cV (av := [.int r23, .int r25]) (rest := []) (st' := [.int r28]) (mM_joinBooths_ok _ _ _ _ _ _ _ _ _ hc27) vcX7_553 (wM_k0 _ _ _) (by decide) rfl rfl (Nat.le_of_ble_eq_true rfl) dX7_hidden_77 rfl ?_
            refine V_pop dX7_hidden_80 rfl ?_
            refine V_iconst dX7_hidden_81 kc_0 ?_
            refine V_istore (ls' := [some (.ref h), some (.int p0), some (.int p1), some (.int p2), some (.int p3), some (.int p4), some (.int (0 : Int32)), none, none]) dX7_hidden_82 (by decide) rfl ?_
            refine V_iconst dX7_hidden_84 kc_0 ?_
            refine V_istore (ls' := [some (.ref h), some (.int p0), some (.int p1), some (.int p2), some (.int p3), some (.int p4), some (.int (0 : Int32)), some (.int (0 : Int32)), none]) dX7_hidden_85 (by decide) rfl ?_
            refine V_iconst dX7_hidden_87 kc_0 ?_
            refine V_istore (ls' := [some (.ref h), some (.int p0), some (.int p1), some (.int p2), some (.int p3), some (.int p4), some (.int (0 : Int32)), some (.int (0 : Int32)), some (.int (0 : Int32))]) dX7_hidden_88 (by decide) rfl ?_
            refine V_keep [true, true, true, false, false, true, true, true, true] rfl ?_
            exact lq7_ex (P := fun v1 v2 v5 v6 v7 v8 σ => V X cX7_hidden RX7 9 7 (wM z h σ) 90 [some (.ref h), some (.int v1), some (.int v2), none, none, some (.int v5), some (.int v6), some (.int v7), some (.int v8)] []) (fun k hk v1 v2 v5 v6 v7 v8 σ hf => mM_hidden_90_v hE k hk v1 v2 v5 v6 v7 v8 σ hf) LF p0 p1 p4 (0 : Int32) (0 : Int32) (0 : Int32) σ29 hf
          · have hf := if_t hf hc17
            refine V_iconst dX7_hidden_51 kc_m1 ?_
            cases some_ex hf
            exact V_iret hE dX7_hidden_52
set_option maxHeartbeats 4000000 in
theorem mM_shares_211_v {X : CX} {w0 : AH} {z : ZZ} {h : Nat} {r : Int32} {σ' : SM} (hE : XE X w0 7 (some .int) "shares" (.returned (some (.int r))) (wM z h σ')) (k159 : Int32 → Int32 → Int64 → Int32 → Int64 → Int32 → Int32 → SM → Option (Int32 × SM)) (hk159 : ∀ (v1 : Int32) (v2 : Int32) (v5 : Int64) (v7 : Int32) (v8 : Int64) (v10 : Int32) (v11 : Int32) (σ : SM), k159 v1 v2 v5 v7 v8 v10 v11 σ = some (r, σ') → V X cX7_shares RX7 14 7 (wM z h σ) 159 [some (.ref h), some (.int v1), some (.int v2), none, none, some (.long v5), none, some (.int v7), some (.long v8), none, some (.int v10), some (.int v11), none, none] []) (v1 : Int32) (v2 : Int32) (v5 : Int64) (v7 : Int32) (v8 : Int64) (v11 : Int32) (t0 : Int32) (t1 : Int32) (σ : SM) (hf : mM_shares_211 k159 v1 v2 v5 v7 v8 v11 t0 t1 σ = some (r, σ')) : V X cX7_shares RX7 14 7 (wM z h σ) 211 [some (.ref h), some (.int v1), some (.int v2), none, none, some (.long v5), none, some (.int v7), some (.long v8), none, none, some (.int v11), none, none] [.int t0, .int t1] := by
  unfold mM_shares_211 at hf
  refine V_iadd dX7_shares_211 ?_
  refine V_istore (ls' := [some (.ref h), some (.int v1), some (.int v2), none, none, some (.long v5), none, some (.int v7), some (.long v8), none, some (.int (t1 + t0)), some (.int v11), none, none]) dX7_shares_212 (by decide) rfl ?_
  refine V_inc (ls' := [some (.ref h), some (.int v1), some (.int v2), none, none, some (.long v5), none, some (.int v7), some (.long v8), none, some (.int (t1 + t0)), some (.int (v11 + (1 : Int32))), none, none]) dX7_shares_214 rfl kc_1 (by decide) rfl ?_
  refine V_goto (tgt := 159) dX7_shares_217 (by decide) ?_
  exact hk159 v1 v2 v5 v7 v8 (t1 + t0) (v11 + (1 : Int32)) σ hf
set_option maxHeartbeats 4000000 in
theorem mM_shares_206_v {X : CX} {w0 : AH} {z : ZZ} {h : Nat} {r : Int32} {σ' : SM} (hE : XE X w0 7 (some .int) "shares" (.returned (some (.int r))) (wM z h σ')) (k159 : Int32 → Int32 → Int64 → Int32 → Int64 → Int32 → Int32 → SM → Option (Int32 × SM)) (hk159 : ∀ (v1 : Int32) (v2 : Int32) (v5 : Int64) (v7 : Int32) (v8 : Int64) (v10 : Int32) (v11 : Int32) (σ : SM), k159 v1 v2 v5 v7 v8 v10 v11 σ = some (r, σ') → V X cX7_shares RX7 14 7 (wM z h σ) 159 [some (.ref h), some (.int v1), some (.int v2), none, none, some (.long v5), none, some (.int v7), some (.long v8), none, some (.int v10), some (.int v11), none, none] []) (v1 : Int32) (v2 : Int32) (v5 : Int64) (v7 : Int32) (v8 : Int64) (v11 : Int32) (t0 : Int32) (σ : SM) (hf : mM_shares_206 k159 v1 v2 v5 v7 v8 v11 t0 σ = some (r, σ')) : V X cX7_shares RX7 14 7 (wM z h σ) 206 [some (.ref h), some (.int v1), some (.int v2), none, none, some (.long v5), none, some (.int v7), some (.long v8), none, none, some (.int v11), none, none] [.int t0] := by
  unfold mM_shares_206 at hf
  refine V_iconst dX7_shares_206 kc_1 ?_
  refine V_goto (tgt := 211) dX7_shares_207 (by decide) ?_
  exact mM_shares_211_v hE k159 hk159 v1 v2 v5 v7 v8 v11 (1 : Int32) t0 σ hf
set_option maxHeartbeats 4000000 in
theorem mM_shares_210_v {X : CX} {w0 : AH} {z : ZZ} {h : Nat} {r : Int32} {σ' : SM} (hE : XE X w0 7 (some .int) "shares" (.returned (some (.int r))) (wM z h σ')) (k159 : Int32 → Int32 → Int64 → Int32 → Int64 → Int32 → Int32 → SM → Option (Int32 × SM)) (hk159 : ∀ (v1 : Int32) (v2 : Int32) (v5 : Int64) (v7 : Int32) (v8 : Int64) (v10 : Int32) (v11 : Int32) (σ : SM), k159 v1 v2 v5 v7 v8 v10 v11 σ = some (r, σ') → V X cX7_shares RX7 14 7 (wM z h σ) 159 [some (.ref h), some (.int v1), some (.int v2), none, none, some (.long v5), none, some (.int v7), some (.long v8), none, some (.int v10), some (.int v11), none, none] []) (v1 : Int32) (v2 : Int32) (v5 : Int64) (v7 : Int32) (v8 : Int64) (v11 : Int32) (t0 : Int32) (σ : SM) (hf : mM_shares_210 k159 v1 v2 v5 v7 v8 v11 t0 σ = some (r, σ')) : V X cX7_shares RX7 14 7 (wM z h σ) 210 [some (.ref h), some (.int v1), some (.int v2), none, none, some (.long v5), none, some (.int v7), some (.long v8), none, none, some (.int v11), none, none] [.int t0] := by
  unfold mM_shares_210 at hf
  refine V_iconst dX7_shares_210 kc_0 ?_
  exact mM_shares_211_v hE k159 hk159 v1 v2 v5 v7 v8 v11 (0 : Int32) t0 σ hf
set_option maxHeartbeats 4000000 in
theorem mM_shares_159_v {X : CX} {w0 : AH} {z : ZZ} {h : Nat} {r : Int32} {σ' : SM} (hE : XE X w0 7 (some .int) "shares" (.returned (some (.int r))) (wM z h σ')) (k159 : Int32 → Int32 → Int64 → Int32 → Int64 → Int32 → Int32 → SM → Option (Int32 × SM)) (hk159 : ∀ (v1 : Int32) (v2 : Int32) (v5 : Int64) (v7 : Int32) (v8 : Int64) (v10 : Int32) (v11 : Int32) (σ : SM), k159 v1 v2 v5 v7 v8 v10 v11 σ = some (r, σ') → V X cX7_shares RX7 14 7 (wM z h σ) 159 [some (.ref h), some (.int v1), some (.int v2), none, none, some (.long v5), none, some (.int v7), some (.long v8), none, some (.int v10), some (.int v11), none, none] []) (v1 : Int32) (v2 : Int32) (v5 : Int64) (v7 : Int32) (v8 : Int64) (v10 : Int32) (v11 : Int32) (σ : SM) (hf : mM_shares_159 k159 v1 v2 v5 v7 v8 v10 v11 σ = some (r, σ')) : V X cX7_shares RX7 14 7 (wM z h σ) 159 [some (.ref h), some (.int v1), some (.int v2), none, none, some (.long v5), none, some (.int v7), some (.long v8), none, some (.int v10), some (.int v11), none, none] [] := by
  unfold mM_shares_159 at hf
  refine V_iload dX7_shares_159 rfl ?_
  refine V_bipush dX7_shares_161 kb_8 ?_
  refine V_icmp_ge (tgt := 220) dX7_shares_163 (by decide) (fun hc1 => ?_) (fun hc1 => ?_)
  · have hf := if_t hf hc1
    refine V_iload_n dX7_shares_220 rfl ?_
    refine V_i2l dX7_shares_221 ?_
    refine V_aload_n dX7_shares_222 rfl ?_
    refine VM_getR fX7_95 ⟨rfl, rfl⟩ rfl dX7_shares_223 ?_
    refine V_iload_n dX7_shares_226 rfl ?_
    obtain ⟨hb2, hf⟩ := ck_ex hf
    refine VM_ldI (n := 8) (k := v2.toNatClampNeg) rfl hb2 rfl dX7_shares_227 ?_
    refine V_i2l dX7_shares_228 ?_
    refine V_lmul dX7_shares_229 ?_
    refine V_lload dX7_shares_230 rfl ?_
    obtain ⟨hz3, hf⟩ := nzL_ex hf
    refine V_ldiv dX7_shares_232 hz3 ?_
    refine V_l2i dX7_shares_233 ?_
    refine V_iload dX7_shares_234 rfl ?_
    refine V_iload dX7_shares_236 rfl ?_
    refine V_icmp_ge (tgt := 245) dX7_shares_238 (by decide) (fun hc4 => ?_) (fun hc4 => ?_)
    · have hf := if_t hf hc4
      refine V_iconst dX7_shares_245 kc_0 ?_
      refine V_iadd dX7_shares_246 ?_
      cases some_ex hf
      exact V_iret hE dX7_shares_247
    · have hf := if_f hf hc4
      refine V_iconst dX7_shares_241 kc_1 ?_
      refine V_goto (tgt := 246) dX7_shares_242 (by decide) ?_
      refine V_iadd dX7_shares_246 ?_
      cases some_ex hf
      exact V_iret hE dX7_shares_247
  · have hf := if_f hf hc1
    refine V_iload_n dX7_shares_166 rfl ?_
    refine V_i2l dX7_shares_167 ?_
    refine V_aload_n dX7_shares_168 rfl ?_
    refine VM_getR fX7_95 ⟨rfl, rfl⟩ rfl dX7_shares_169 ?_
    refine V_iload dX7_shares_172 rfl ?_
    obtain ⟨hb5, hf⟩ := ck_ex hf
    refine VM_ldI (n := 8) (k := v11.toNatClampNeg) rfl hb5 rfl dX7_shares_174 ?_
    refine V_i2l dX7_shares_175 ?_
    refine V_lmul dX7_shares_176 ?_
    refine V_lload dX7_shares_177 rfl ?_
    obtain ⟨hz6, hf⟩ := nzL_ex hf
    refine V_lrem dX7_shares_179 hz6 ?_
    refine V_lstore (ls' := [some (.ref h), some (.int v1), some (.int v2), none, none, some (.long v5), none, some (.int v7), some (.long v8), none, some (.int v10), some (.int v11), some (.long ((v1.toInt64 * (gI σ 27 (v11.toNatClampNeg)).toInt64) - (v1.toInt64 * (gI σ 27 (v11.toNatClampNeg)).toInt64) / v5 * v5)), none]) dX7_shares_180 (by decide) rfl ?_
    refine V_iload dX7_shares_182 rfl ?_
    refine V_lload dX7_shares_184 rfl ?_
    refine V_lload dX7_shares_186 rfl ?_
    refine V_lif_gt (tgt := 206) dX7_shares_188 dX7_shares_189 (by decide) (fun hc7 => ?_) (fun hc7 => ?_)
    · have hf := if_t hf hc7
      refine V_keep [true, true, true, true, true, true, true, true, true, true, false, true, false, true] rfl ?_
      exact mM_shares_206_v hE k159 hk159 v1 v2 v5 v7 v8 v11 v10 σ hf
    · have hf := if_f hf hc7
      refine V_lload dX7_shares_192 rfl ?_
      refine V_lload dX7_shares_194 rfl ?_
      refine V_lif_ne (tgt := 210) dX7_shares_196 dX7_shares_197 (by decide) (fun hc8 => ?_) (fun hc8 => ?_)
      · have hf := if_f hf hc8
        refine V_keep [true, true, true, true, true, true, true, true, true, true, false, true, false, true] rfl ?_
        exact mM_shares_210_v hE k159 hk159 v1 v2 v5 v7 v8 v11 v10 σ hf
      · have hf := if_t hf hc8
        refine V_iload dX7_shares_200 rfl ?_
        refine V_iload_n dX7_shares_202 rfl ?_
        refine V_icmp_ge (tgt := 210) dX7_shares_203 (by decide) (fun hc9 => ?_) (fun hc9 => ?_)
        · have hf := if_t hf hc9
          refine V_keep [true, true, true, true, true, true, true, true, true, true, false, true, false, true] rfl ?_
          exact mM_shares_210_v hE k159 hk159 v1 v2 v5 v7 v8 v11 v10 σ hf
        · have hf := if_f hf hc9
          refine V_keep [true, true, true, true, true, true, true, true, true, true, false, true, false, true] rfl ?_
          exact mM_shares_206_v hE k159 hk159 v1 v2 v5 v7 v8 v11 v10 σ hf
set_option maxHeartbeats 4000000 in
theorem mM_shares_105_v {X : CX} {w0 : AH} {z : ZZ} {h : Nat} {r : Int32} {σ' : SM} (hE : XE X w0 7 (some .int) "shares" (.returned (some (.int r))) (wM z h σ')) (k105 : Int32 → Int32 → Int64 → Int32 → Int32 → SM → Option (Int32 × SM)) (hk105 : ∀ (v1 : Int32) (v2 : Int32) (v5 : Int64) (v7 : Int32) (v8 : Int32) (σ : SM), k105 v1 v2 v5 v7 v8 σ = some (r, σ') → V X cX7_shares RX7 14 7 (wM z h σ) 105 [some (.ref h), some (.int v1), some (.int v2), none, none, some (.long v5), none, some (.int v7), some (.int v8), none, none, none, none, none] []) (v1 : Int32) (v2 : Int32) (v5 : Int64) (v7 : Int32) (v8 : Int32) (σ : SM) (hf : mM_shares_105 k105 v1 v2 v5 v7 v8 σ = some (r, σ')) : V X cX7_shares RX7 14 7 (wM z h σ) 105 [some (.ref h), some (.int v1), some (.int v2), none, none, some (.long v5), none, some (.int v7), some (.int v8), none, none, none, none, none] [] := by
  unfold mM_shares_105 at hf
  refine V_iload dX7_shares_105 rfl ?_
  refine V_bipush dX7_shares_107 kb_8 ?_
  refine V_icmp_ge (tgt := 138) dX7_shares_109 (by decide) (fun hc1 => ?_) (fun hc1 => ?_)
  · have hf := if_t hf hc1
    refine V_iload_n dX7_shares_138 rfl ?_
    refine V_i2l dX7_shares_139 ?_
    refine V_aload_n dX7_shares_140 rfl ?_
    refine VM_getR fX7_95 ⟨rfl, rfl⟩ rfl dX7_shares_141 ?_
    refine V_iload_n dX7_shares_144 rfl ?_
    obtain ⟨hb2, hf⟩ := ck_ex hf
    refine VM_ldI (n := 8) (k := v2.toNatClampNeg) rfl hb2 rfl dX7_shares_145 ?_
    refine V_i2l dX7_shares_146 ?_
    refine V_lmul dX7_shares_147 ?_
    refine V_lload dX7_shares_148 rfl ?_
    obtain ⟨hz3, hf⟩ := nzL_ex hf
    refine V_lrem dX7_shares_150 hz3 ?_
    refine V_lstore (ls' := [some (.ref h), some (.int v1), some (.int v2), none, none, some (.long v5), none, some (.int v7), some (.long ((v1.toInt64 * (gI σ 27 (v2.toNatClampNeg)).toInt64) - (v1.toInt64 * (gI σ 27 (v2.toNatClampNeg)).toInt64) / v5 * v5)), none, none, none, none, none]) dX7_shares_151 (by decide) rfl ?_
    refine V_iconst dX7_shares_153 kc_0 ?_
    refine V_istore (ls' := [some (.ref h), some (.int v1), some (.int v2), none, none, some (.long v5), none, some (.int v7), some (.long ((v1.toInt64 * (gI σ 27 (v2.toNatClampNeg)).toInt64) - (v1.toInt64 * (gI σ 27 (v2.toNatClampNeg)).toInt64) / v5 * v5)), none, some (.int (0 : Int32)), none, none, none]) dX7_shares_154 (by decide) rfl ?_
    refine V_iconst dX7_shares_156 kc_0 ?_
    refine V_istore (ls' := [some (.ref h), some (.int v1), some (.int v2), none, none, some (.long v5), none, some (.int v7), some (.long ((v1.toInt64 * (gI σ 27 (v2.toNatClampNeg)).toInt64) - (v1.toInt64 * (gI σ 27 (v2.toNatClampNeg)).toInt64) / v5 * v5)), none, some (.int (0 : Int32)), some (.int (0 : Int32)), none, none]) dX7_shares_157 (by decide) rfl ?_
    exact lq8_ex (P := fun v1 v2 v5 v7 v8 v10 v11 σ => V X cX7_shares RX7 14 7 (wM z h σ) 159 [some (.ref h), some (.int v1), some (.int v2), none, none, some (.long v5), none, some (.int v7), some (.long v8), none, some (.int v10), some (.int v11), none, none] []) (fun k hk v1 v2 v5 v7 v8 v10 v11 σ hf => mM_shares_159_v hE k hk v1 v2 v5 v7 v8 v10 v11 σ hf) LF v1 v2 v5 v7 ((v1.toInt64 * (gI σ 27 (v2.toNatClampNeg)).toInt64) - (v1.toInt64 * (gI σ 27 (v2.toNatClampNeg)).toInt64) / v5 * v5) (0 : Int32) (0 : Int32) σ hf
  · have hf := if_f hf hc1
    refine V_iload dX7_shares_112 rfl ?_
    refine V_iload_n dX7_shares_114 rfl ?_
    refine V_i2l dX7_shares_115 ?_
    refine V_aload_n dX7_shares_116 rfl ?_
    refine VM_getR fX7_95 ⟨rfl, rfl⟩ rfl dX7_shares_117 ?_
    refine V_iload dX7_shares_120 rfl ?_
    obtain ⟨hb4, hf⟩ := ck_ex hf
    refine VM_ldI (n := 8) (k := v8.toNatClampNeg) rfl hb4 rfl dX7_shares_122 ?_
    refine V_i2l dX7_shares_123 ?_
    refine V_lmul dX7_shares_124 ?_
    refine V_lload dX7_shares_125 rfl ?_
    obtain ⟨hz5, hf⟩ := nzL_ex hf
    refine V_ldiv dX7_shares_127 hz5 ?_
    refine V_l2i dX7_shares_128 ?_
    refine V_isub dX7_shares_129 ?_
    refine V_istore (ls' := [some (.ref h), some (.int v1), some (.int v2), none, none, some (.long v5), none, some (.int (v7 - ((v1.toInt64 * (gI σ 27 (v8.toNatClampNeg)).toInt64) / v5).toInt32)), some (.int v8), none, none, none, none, none]) dX7_shares_130 (by decide) rfl ?_
    refine V_inc (ls' := [some (.ref h), some (.int v1), some (.int v2), none, none, some (.long v5), none, some (.int (v7 - ((v1.toInt64 * (gI σ 27 (v8.toNatClampNeg)).toInt64) / v5).toInt32)), some (.int (v8 + (1 : Int32))), none, none, none, none, none]) dX7_shares_132 rfl kc_1 (by decide) rfl ?_
    refine V_goto (tgt := 105) dX7_shares_135 (by decide) ?_
    exact hk105 v1 v2 v5 (v7 - ((v1.toInt64 * (gI σ 27 (v8.toNatClampNeg)).toInt64) / v5).toInt32) (v8 + (1 : Int32)) σ hf
set_option maxHeartbeats 4000000 in
theorem mM_shares_64_v {X : CX} {w0 : AH} {z : ZZ} {h : Nat} {r : Int32} {σ' : SM} (hE : XE X w0 7 (some .int) "shares" (.returned (some (.int r))) (wM z h σ')) (k64 : Int32 → Int32 → Int64 → Int32 → SM → Option (Int32 × SM)) (hk64 : ∀ (v1 : Int32) (v2 : Int32) (v5 : Int64) (v7 : Int32) (σ : SM), k64 v1 v2 v5 v7 σ = some (r, σ') → V X cX7_shares RX7 14 7 (wM z h σ) 64 [some (.ref h), some (.int v1), some (.int v2), none, none, some (.long v5), none, some (.int v7), none, none, none, none, none, none] []) (v1 : Int32) (v2 : Int32) (v5 : Int64) (v7 : Int32) (σ : SM) (hf : mM_shares_64 k64 v1 v2 v5 v7 σ = some (r, σ')) : V X cX7_shares RX7 14 7 (wM z h σ) 64 [some (.ref h), some (.int v1), some (.int v2), none, none, some (.long v5), none, some (.int v7), none, none, none, none, none, none] [] := by
  unfold mM_shares_64 at hf
  refine V_iload dX7_shares_64 rfl ?_
  refine V_bipush dX7_shares_66 kb_8 ?_
  refine V_icmp_ge (tgt := 90) dX7_shares_68 (by decide) (fun hc1 => ?_) (fun hc1 => ?_)
  · have hf := if_t hf hc1
    refine V_lload dX7_shares_90 rfl ?_
    refine V_lconst dX7_shares_92 kl_0 ?_
    refine V_lif_ne (tgt := 99) dX7_shares_93 dX7_shares_94 (by decide) (fun hc2 => ?_) (fun hc2 => ?_)
    · have hf := if_f hf hc2
      refine V_iload_n dX7_shares_99 rfl ?_
      refine V_istore (ls' := [some (.ref h), some (.int v1), some (.int v2), none, none, some (.long v5), none, some (.int v1), none, none, none, none, none, none]) dX7_shares_100 (by decide) rfl ?_
      refine V_iconst dX7_shares_102 kc_0 ?_
      refine V_istore (ls' := [some (.ref h), some (.int v1), some (.int v2), none, none, some (.long v5), none, some (.int v1), some (.int (0 : Int32)), none, none, none, none, none]) dX7_shares_103 (by decide) rfl ?_
      exact lq6_ex (P := fun v1 v2 v5 v7 v8 σ => V X cX7_shares RX7 14 7 (wM z h σ) 105 [some (.ref h), some (.int v1), some (.int v2), none, none, some (.long v5), none, some (.int v7), some (.int v8), none, none, none, none, none] []) (fun k hk v1 v2 v5 v7 v8 σ hf => mM_shares_105_v hE k hk v1 v2 v5 v7 v8 σ hf) LF v1 v2 v5 v1 (0 : Int32) σ hf
    · have hf := if_t hf hc2
      refine V_iconst dX7_shares_97 kc_m1 ?_
      cases some_ex hf
      exact V_iret hE dX7_shares_98
  · have hf := if_f hf hc1
    refine V_lload dX7_shares_71 rfl ?_
    refine V_aload_n dX7_shares_73 rfl ?_
    refine VM_getR fX7_95 ⟨rfl, rfl⟩ rfl dX7_shares_74 ?_
    refine V_iload dX7_shares_77 rfl ?_
    obtain ⟨hb3, hf⟩ := ck_ex hf
    refine VM_ldI (n := 8) (k := v7.toNatClampNeg) rfl hb3 rfl dX7_shares_79 ?_
    refine V_i2l dX7_shares_80 ?_
    refine V_ladd dX7_shares_81 ?_
    refine V_lstore (ls' := [some (.ref h), some (.int v1), some (.int v2), none, none, some (.long (v5 + (gI σ 27 (v7.toNatClampNeg)).toInt64)), none, some (.int v7), none, none, none, none, none, none]) dX7_shares_82 (by decide) rfl ?_
    refine V_inc (ls' := [some (.ref h), some (.int v1), some (.int v2), none, none, some (.long (v5 + (gI σ 27 (v7.toNatClampNeg)).toInt64)), none, some (.int (v7 + (1 : Int32))), none, none, none, none, none, none]) dX7_shares_84 rfl kc_1 (by decide) rfl ?_
    refine V_goto (tgt := 64) dX7_shares_87 (by decide) ?_
    exact hk64 v1 v2 (v5 + (gI σ 27 (v7.toNatClampNeg)).toInt64) (v7 + (1 : Int32)) σ hf
set_option maxHeartbeats 4000000 in
theorem mM_shares_ok (l : Launch) (D : DD) (z : ZZ) (h : Nat) (p0 : Int32) (p1 : Int32) (p2 : Int32) (p3 : Int32) (σ : SM) (r : Int32) (σ' : SM) (hf : mM_shares p0 p1 p2 p3 σ = some (r, σ')) : MA l D yX7_shares cX7_shares 14 (some .int) 7 [.ref h, .int p0, .int p1, .int p2, .int p3] (wM z h σ) (.returned (some (.int r))) (wM z h σ') := by
  refine MA.intro (own := RX7) (nm := "shares") (ls := [some (.ref h), some (.int p0), some (.int p1), some (.int p2), some (.int p3), none, none, none, none, none, none, none, none, none]) (by decide) rfl rfl (Nat.le_of_ble_eq_true rfl) rfl (fun X hl hD hE => ?_)
  subst hl hD
  unfold mM_shares at hf
  refine V_aload_n dX7_shares_0 rfl ?_
  refine V_iconst dX7_shares_1 kc_0 ?_
  obtain ⟨σ1, hs2, hf⟩ := st1_ex hf
  refine VM_putI fwX7_113 hs2 dX7_shares_2 ?_
  refine V_iload_n dX7_shares_5 rfl ?_
  refine V_i2l dX7_shares_6 ?_
  refine V_lconst dX7_shares_7 kl_1 ?_
  refine V_ldc2 q2270 dX7_shares_8 ?_
  obtain ⟨r4, hc3, hf⟩ := bd1_ex hf
  refine V_cS (rest := []) (st' := [.int r4]) (mM_in_ok _ _ _ _ _ _ _ hc3) scX7_121 (by decide) rfl rfl (Nat.le_of_ble_eq_true rfl) dX7_shares_11 rfl ?_
  refine V_if_eq (tgt := 44) dX7_shares_14 (by decide) (fun hc5 => ?_) (fun hc5 => ?_)
  · have hf := if_t hf hc5
    refine V_iconst dX7_shares_44 kc_m1 ?_
    cases some_ex hf
    exact V_iret hE dX7_shares_45
  · have hf := if_f hf hc5
    refine V_iload_n dX7_shares_17 rfl ?_
    refine V_i2l dX7_shares_18 ?_
    refine V_lconst dX7_shares_19 kl_0 ?_
    refine V_ldc2 q2385 dX7_shares_20 ?_
    obtain ⟨r7, hc6, hf⟩ := bd1_ex hf
    refine V_cS (rest := []) (st' := [.int r7]) (mM_in_ok _ _ _ _ _ _ _ hc6) scX7_121 (by decide) rfl rfl (Nat.le_of_ble_eq_true rfl) dX7_shares_23 rfl ?_
    refine V_if_eq (tgt := 44) dX7_shares_26 (by decide) (fun hc8 => ?_) (fun hc8 => ?_)
    · have hf := if_t hf hc8
      refine V_iconst dX7_shares_44 kc_m1 ?_
      cases some_ex hf
      exact V_iret hE dX7_shares_45
    · have hf := if_f hf hc8
      refine V_iload_n dX7_shares_29 rfl ?_
      obtain ⟨r10, hc9, hf⟩ := bd1_ex hf
      refine V_cS (rest := []) (st' := [.int r10]) (mM_isDay_ok _ _ _ _ _ hc9) scX7_159 (by decide) rfl rfl (Nat.le_of_ble_eq_true rfl) dX7_shares_30 rfl ?_
      refine V_if_eq (tgt := 44) dX7_shares_33 (by decide) (fun hc11 => ?_) (fun hc11 => ?_)
      · have hf := if_t hf hc11
        refine V_iconst dX7_shares_44 kc_m1 ?_
        cases some_ex hf
        exact V_iret hE dX7_shares_45
      · have hf := if_f hf hc11
        refine V_iload dX7_shares_36 rfl ?_
        obtain ⟨r13, hc12, hf⟩ := bd1_ex hf
        refine V_cS (rest := []) (st' := [.int r13]) (mM_isDay_ok _ _ _ _ _ hc12) scX7_159 (by decide) rfl rfl (Nat.le_of_ble_eq_true rfl) dX7_shares_38 rfl ?_
        refine V_if_ne (tgt := 46) dX7_shares_41 (by decide) (fun hc14 => ?_) (fun hc14 => ?_)
        · have hf := if_f hf hc14
          refine V_aload_n dX7_shares_46 rfl ?_
          refine V_iload_n dX7_shares_47 rfl ?_
          refine V_iload dX7_shares_48 rfl ?_
          obtain ⟨σ16, hc15, hf⟩ := bd1_ex hf
          refine V_cV (av := [.int p2, .int p3]) (rest := []) (st' := []) (mM_knowBy_ok _ _ _ _ _ _ _ _ hc15) vcX7_205 (wM_k0 _ _ _) (by decide) rfl rfl (Nat.le_of_ble_eq_true rfl) dX7_shares_50 rfl ?_
          refine V_aload_n dX7_shares_53 rfl ?_
          refine V_iconst dX7_shares_54 kc_m1 ?_
          obtain ⟨σ18, hc17, hf⟩ := bd1_ex hf
          refine V_cV (av := [.int (-1 : Int32)]) (rest := []) (st' := []) (mM_addSeat_ok _ _ _ _ _ _ _ hc17) vcX7_544 (wM_k0 _ _ _) (by decide) rfl rfl (Nat.le_of_ble_eq_true rfl) dX7_shares_55 rfl ?_
          refine V_lconst dX7_shares_58 kl_0 ?_
          refine V_lstore (ls' := [some (.ref h), some (.int p0), some (.int p1), some (.int p2), some (.int p3), some (.long (0 : Int64)), none, none, none, none, none, none, none, none]) dX7_shares_59 (by decide) rfl ?_
          refine V_iconst dX7_shares_61 kc_0 ?_
          refine V_istore (ls' := [some (.ref h), some (.int p0), some (.int p1), some (.int p2), some (.int p3), some (.long (0 : Int64)), none, some (.int (0 : Int32)), none, none, none, none, none, none]) dX7_shares_62 (by decide) rfl ?_
          refine V_keep [true, true, true, false, false, true, true, true, true, true, true, true, true, true] rfl ?_
          exact lq5_ex (P := fun v1 v2 v5 v7 σ => V X cX7_shares RX7 14 7 (wM z h σ) 64 [some (.ref h), some (.int v1), some (.int v2), none, none, some (.long v5), none, some (.int v7), none, none, none, none, none, none] []) (fun k hk v1 v2 v5 v7 σ hf => mM_shares_64_v hE k hk v1 v2 v5 v7 σ hf) LF p0 p1 (0 : Int64) (0 : Int32) σ18 hf
        · have hf := if_t hf hc14
          refine V_iconst dX7_shares_44 kc_m1 ?_
          cases some_ex hf
          exact V_iret hE dX7_shares_45
set_option maxHeartbeats 4000000 in
theorem mM_terms_29_v {X : CX} {w0 : AH} {z : ZZ} {h : Nat} {r : Int32} {σ' : SM} (hE : XE X w0 2 (some .int) "terms" (.returned (some (.int r))) (wM z h σ')) (σ : SM) (hf : mM_terms_29 σ = some (r, σ')) : V X cX7_terms RX7 3 2 (wM z h σ) 29 [some (.ref h), none, none] [] := by
  unfold mM_terms_29 at hf
  refine V_aload_n dX7_terms_29 rfl ?_
  refine V_iconst dX7_terms_30 kc_m1 ?_
  obtain ⟨r2, σ3, hc1, hf⟩ := bd2_ex hf
  refine V_cV (av := [.int (-1 : Int32)]) (rest := []) (st' := [.int r2]) (mM_told_ok _ _ _ _ _ _ _ _ hc1) vcX7_125 (wM_k0 _ _ _) (by decide) rfl rfl (Nat.le_of_ble_eq_true rfl) dX7_terms_31 rfl ?_
  cases some_ex hf
  exact V_iret hE dX7_terms_34
set_option maxHeartbeats 4000000 in
theorem mM_terms_ok (l : Launch) (D : DD) (z : ZZ) (h : Nat) (p0 : Int32) (p1 : Int32) (σ : SM) (r : Int32) (σ' : SM) (hf : mM_terms p0 p1 σ = some (r, σ')) : MA l D yX7_terms cX7_terms 3 (some .int) 2 [.ref h, .int p0, .int p1] (wM z h σ) (.returned (some (.int r))) (wM z h σ') := by
  refine MA.intro (own := RX7) (nm := "terms") (ls := [some (.ref h), some (.int p0), some (.int p1)]) (by decide) rfl rfl (Nat.le_of_ble_eq_true rfl) rfl (fun X hl hD hE => ?_)
  subst hl hD
  unfold mM_terms at hf
  refine V_aload_n dX7_terms_0 rfl ?_
  refine V_iconst dX7_terms_1 kc_0 ?_
  obtain ⟨σ1, hs2, hf⟩ := st1_ex hf
  refine VM_putI fwX7_113 hs2 dX7_terms_2 ?_
  refine V_iload_n dX7_terms_5 rfl ?_
  refine V_i2l dX7_terms_6 ?_
  refine V_lconst dX7_terms_7 kl_1 ?_
  refine V_ldc2 q2461 dX7_terms_8 ?_
  obtain ⟨r4, hc3, hf⟩ := bd1_ex hf
  refine V_cS (rest := []) (st' := [.int r4]) (mM_in_ok _ _ _ _ _ _ _ hc3) scX7_121 (by decide) rfl rfl (Nat.le_of_ble_eq_true rfl) dX7_terms_11 rfl ?_
  refine V_if_eq (tgt := 29) dX7_terms_14 (by decide) (fun hc5 => ?_) (fun hc5 => ?_)
  · have hf := if_t hf hc5
    refine V_keep [true, false, false] rfl ?_
    exact mM_terms_29_v hE σ1 hf
  · have hf := if_f hf hc5
    refine V_iload_n dX7_terms_17 rfl ?_
    refine V_i2l dX7_terms_18 ?_
    refine V_lconst dX7_terms_19 kl_0 ?_
    refine V_ldc2 q2192 dX7_terms_20 ?_
    obtain ⟨r7, hc6, hf⟩ := bd1_ex hf
    refine V_cS (rest := []) (st' := [.int r7]) (mM_in_ok _ _ _ _ _ _ _ hc6) scX7_121 (by decide) rfl rfl (Nat.le_of_ble_eq_true rfl) dX7_terms_23 rfl ?_
    refine V_if_ne (tgt := 35) dX7_terms_26 (by decide) (fun hc8 => ?_) (fun hc8 => ?_)
    · have hf := if_f hf hc8
      refine V_aload_n dX7_terms_35 rfl ?_
      refine VM_getR fX7_7 ⟨rfl, rfl⟩ rfl dX7_terms_36 ?_
      refine V_bipush dX7_terms_39 kb_9 ?_
      refine V_iload_n dX7_terms_41 rfl ?_
      obtain ⟨σ9, hs10, hf⟩ := st1_ex hf
      refine VM_stI (n := 23016) (k := 9) rfl (by decide) (by decide) hs10 dX7_terms_42 ?_
      refine V_aload_n dX7_terms_43 rfl ?_
      refine VM_getR fX7_7 ⟨rfl, rfl⟩ rfl dX7_terms_44 ?_
      refine V_bipush dX7_terms_47 kb_10 ?_
      refine V_iload_n dX7_terms_49 rfl ?_
      obtain ⟨σ11, hs12, hf⟩ := st1_ex hf
      refine VM_stI (n := 23016) (k := 10) rfl (by decide) (by decide) hs12 dX7_terms_50 ?_
      refine V_aload_n dX7_terms_51 rfl ?_
      refine V_iconst dX7_terms_52 kc_0 ?_
      obtain ⟨r14, σ15, hc13, hf⟩ := bd2_ex hf
      refine V_cV (av := [.int (0 : Int32)]) (rest := []) (st' := [.int r14]) (mM_told_ok _ _ _ _ _ _ _ _ hc13) vcX7_125 (wM_k0 _ _ _) (by decide) rfl rfl (Nat.le_of_ble_eq_true rfl) dX7_terms_53 rfl ?_
      cases some_ex hf
      exact V_iret hE dX7_terms_56
    · have hf := if_t hf hc8
      refine V_keep [true, false, false] rfl ?_
      exact mM_terms_29_v hE σ1 hf
set_option maxHeartbeats 4000000 in
theorem mM_span_23_v {X : CX} {w0 : AH} {z : ZZ} {h : Nat} {r : Int32} {σ' : SM} (hE : XE X w0 3 (some .int) "span" (.returned (some (.int r))) (wM z h σ')) (σ : SM) (hf : mM_span_23 σ = some (r, σ')) : V X cX7_span RX7 4 3 (wM z h σ) 23 [some (.ref h), none, none, none] [] := by
  unfold mM_span_23 at hf
  refine V_aload_n dX7_span_23 rfl ?_
  refine V_iconst dX7_span_24 kc_m1 ?_
  obtain ⟨r2, σ3, hc1, hf⟩ := bd2_ex hf
  refine V_cV (av := [.int (-1 : Int32)]) (rest := []) (st' := [.int r2]) (mM_told_ok _ _ _ _ _ _ _ _ hc1) vcX7_125 (wM_k0 _ _ _) (by decide) rfl rfl (Nat.le_of_ble_eq_true rfl) dX7_span_25 rfl ?_
  cases some_ex hf
  exact V_iret hE dX7_span_28
set_option maxHeartbeats 4000000 in
theorem mM_span_ok (l : Launch) (D : DD) (z : ZZ) (h : Nat) (p0 : Int32) (p1 : Int32) (p2 : Int32) (σ : SM) (r : Int32) (σ' : SM) (hf : mM_span p0 p1 p2 σ = some (r, σ')) : MA l D yX7_span cX7_span 4 (some .int) 3 [.ref h, .int p0, .int p1, .int p2] (wM z h σ) (.returned (some (.int r))) (wM z h σ') := by
  refine MA.intro (own := RX7) (nm := "span") (ls := [some (.ref h), some (.int p0), some (.int p1), some (.int p2)]) (by decide) rfl rfl (Nat.le_of_ble_eq_true rfl) rfl (fun X hl hD hE => ?_)
  subst hl hD
  unfold mM_span at hf
  refine V_aload_n dX7_span_0 rfl ?_
  refine V_iconst dX7_span_1 kc_0 ?_
  obtain ⟨σ1, hs2, hf⟩ := st1_ex hf
  refine VM_putI fwX7_113 hs2 dX7_span_2 ?_
  refine V_iload_n dX7_span_5 rfl ?_
  obtain ⟨r4, hc3, hf⟩ := bd1_ex hf
  refine V_cS (rest := []) (st' := [.int r4]) (mM_isDay_ok _ _ _ _ _ hc3) scX7_159 (by decide) rfl rfl (Nat.le_of_ble_eq_true rfl) dX7_span_6 rfl ?_
  refine V_if_eq (tgt := 23) dX7_span_9 (by decide) (fun hc5 => ?_) (fun hc5 => ?_)
  · have hf := if_t hf hc5
    refine V_keep [true, false, false, false] rfl ?_
    exact mM_span_23_v hE σ1 hf
  · have hf := if_f hf hc5
    refine V_iload_n dX7_span_12 rfl ?_
    refine V_i2l dX7_span_13 ?_
    refine V_lconst dX7_span_14 kl_0 ?_
    refine V_iload_n dX7_span_15 rfl ?_
    refine V_i2l dX7_span_16 ?_
    obtain ⟨r7, hc6, hf⟩ := bd1_ex hf
    refine V_cS (rest := []) (st' := [.int r7]) (mM_in_ok _ _ _ _ _ _ _ hc6) scX7_121 (by decide) rfl rfl (Nat.le_of_ble_eq_true rfl) dX7_span_17 rfl ?_
    refine V_if_ne (tgt := 29) dX7_span_20 (by decide) (fun hc8 => ?_) (fun hc8 => ?_)
    · have hf := if_f hf hc8
      refine V_iload_n dX7_span_29 rfl ?_
      refine V_i2l dX7_span_30 ?_
      refine V_lconst dX7_span_31 kl_0 ?_
      refine V_aload_n dX7_span_32 rfl ?_
      refine VM_getI fX7_471 rfl dX7_span_33 ?_
      refine V_i2l dX7_span_36 ?_
      refine V_lconst dX7_span_37 kl_1 ?_
      refine V_lsub dX7_span_38 ?_
      obtain ⟨r10, hc9, hf⟩ := bd1_ex hf
      refine V_cS (rest := []) (st' := [.int r10]) (mM_in_ok _ _ _ _ _ _ _ hc9) scX7_121 (by decide) rfl rfl (Nat.le_of_ble_eq_true rfl) dX7_span_39 rfl ?_
      refine V_if_ne (tgt := 52) dX7_span_42 (by decide) (fun hc11 => ?_) (fun hc11 => ?_)
      · have hf := if_f hf hc11
        refine V_aload_n dX7_span_52 rfl ?_
        refine VM_getR fX7_65 ⟨rfl, rfl⟩ rfl dX7_span_53 ?_
        refine V_iload_n dX7_span_56 rfl ?_
        refine V_iload_n dX7_span_57 rfl ?_
        obtain ⟨hb12, hf⟩ := ck_ex hf
        obtain ⟨σ13, hs14, hf⟩ := st1_ex hf
        refine VM_stI (n := 7) (k := p0.toNatClampNeg) rfl hb12 rfl hs14 dX7_span_58 ?_
        refine V_aload_n dX7_span_59 rfl ?_
        refine VM_getR fX7_68 ⟨rfl, rfl⟩ rfl dX7_span_60 ?_
        refine V_iload_n dX7_span_63 rfl ?_
        refine V_iload_n dX7_span_64 rfl ?_
        obtain ⟨hb15, hf⟩ := ck_ex hf
        obtain ⟨σ16, hs17, hf⟩ := st1_ex hf
        refine VM_stI (n := 7) (k := p0.toNatClampNeg) rfl hb15 rfl hs17 dX7_span_65 ?_
        refine V_aload_n dX7_span_66 rfl ?_
        refine V_iconst dX7_span_67 kc_0 ?_
        obtain ⟨r19, σ20, hc18, hf⟩ := bd2_ex hf
        refine V_cV (av := [.int (0 : Int32)]) (rest := []) (st' := [.int r19]) (mM_told_ok _ _ _ _ _ _ _ _ hc18) vcX7_125 (wM_k0 _ _ _) (by decide) rfl rfl (Nat.le_of_ble_eq_true rfl) dX7_span_68 rfl ?_
        cases some_ex hf
        exact V_iret hE dX7_span_71
      · have hf := if_t hf hc11
        refine V_aload_n dX7_span_45 rfl ?_
        refine V_bipush dX7_span_46 kb_m2 ?_
        obtain ⟨r22, σ23, hc21, hf⟩ := bd2_ex hf
        refine V_cV (av := [.int (-2 : Int32)]) (rest := []) (st' := [.int r22]) (mM_told_ok _ _ _ _ _ _ _ _ hc21) vcX7_125 (wM_k0 _ _ _) (by decide) rfl rfl (Nat.le_of_ble_eq_true rfl) dX7_span_48 rfl ?_
        cases some_ex hf
        exact V_iret hE dX7_span_51
    · have hf := if_t hf hc8
      refine V_keep [true, false, false, false] rfl ?_
      exact mM_span_23_v hE σ1 hf
set_option maxHeartbeats 4000000 in
theorem mM_isGone_31_v {X : CX} {w0 : AH} {z : ZZ} {h : Nat} {r : Int32} (σ : SM) (hE : XE X w0 1 (some .boolean) "isGone" (.returned (some (.int r))) (wM z h σ)) (k5 : Int32 → Int32 → Int32 → Int32 → Option (Int32)) (hk5 : ∀ (v1 : Int32) (v2 : Int32) (v3 : Int32) (v4 : Int32), k5 v1 v2 v3 v4 = some r → V X cX7_isGone RX7 5 1 (wM z h σ) 5 [some (.ref h), some (.int v1), some (.int v2), some (.int v3), some (.int v4)] []) (v1 : Int32) (v2 : Int32) (v4 : Int32) (t0 : Int32) (hf : mM_isGone_31 σ k5 v1 v2 v4 t0 = some r) : V X cX7_isGone RX7 5 1 (wM z h σ) 31 [some (.ref h), some (.int v1), some (.int v2), none, some (.int v4)] [.int t0] := by
  unfold mM_isGone_31 at hf
  refine V_istore_n (ls' := [some (.ref h), some (.int v1), some (.int v2), some (.int t0), some (.int v4)]) dX7_isGone_31 (by decide) rfl ?_
  refine V_inc (ls' := [some (.ref h), some (.int v1), some (.int v2), some (.int t0), some (.int (v4 + (1 : Int32)))]) dX7_isGone_32 rfl kc_1 (by decide) rfl ?_
  refine V_goto (tgt := 5) dX7_isGone_35 (by decide) ?_
  exact hk5 v1 v2 t0 (v4 + (1 : Int32)) hf
set_option maxHeartbeats 4000000 in
theorem mM_isGone_26_v {X : CX} {w0 : AH} {z : ZZ} {h : Nat} {r : Int32} (σ : SM) (hE : XE X w0 1 (some .boolean) "isGone" (.returned (some (.int r))) (wM z h σ)) (k5 : Int32 → Int32 → Int32 → Int32 → Option (Int32)) (hk5 : ∀ (v1 : Int32) (v2 : Int32) (v3 : Int32) (v4 : Int32), k5 v1 v2 v3 v4 = some r → V X cX7_isGone RX7 5 1 (wM z h σ) 5 [some (.ref h), some (.int v1), some (.int v2), some (.int v3), some (.int v4)] []) (v1 : Int32) (v2 : Int32) (v4 : Int32) (hf : mM_isGone_26 σ k5 v1 v2 v4 = some r) : V X cX7_isGone RX7 5 1 (wM z h σ) 26 [some (.ref h), some (.int v1), some (.int v2), none, some (.int v4)] [] := by
  unfold mM_isGone_26 at hf
  refine V_iconst dX7_isGone_26 kc_1 ?_
  refine V_goto (tgt := 31) dX7_isGone_27 (by decide) ?_
  exact mM_isGone_31_v σ hE k5 hk5 v1 v2 v4 (1 : Int32) hf
set_option maxHeartbeats 4000000 in
theorem mM_isGone_5_v {X : CX} {w0 : AH} {z : ZZ} {h : Nat} {r : Int32} (σ : SM) (hE : XE X w0 1 (some .boolean) "isGone" (.returned (some (.int r))) (wM z h σ)) (k5 : Int32 → Int32 → Int32 → Int32 → Option (Int32)) (hk5 : ∀ (v1 : Int32) (v2 : Int32) (v3 : Int32) (v4 : Int32), k5 v1 v2 v3 v4 = some r → V X cX7_isGone RX7 5 1 (wM z h σ) 5 [some (.ref h), some (.int v1), some (.int v2), some (.int v3), some (.int v4)] []) (v1 : Int32) (v2 : Int32) (v3 : Int32) (v4 : Int32) (hf : mM_isGone_5 σ k5 v1 v2 v3 v4 = some r) : V X cX7_isGone RX7 5 1 (wM z h σ) 5 [some (.ref h), some (.int v1), some (.int v2), some (.int v3), some (.int v4)] [] := by
  unfold mM_isGone_5 at hf
  refine V_iload dX7_isGone_5 rfl ?_
  refine V_iload_n dX7_isGone_7 rfl ?_
  refine V_icmp_ge (tgt := 38) dX7_isGone_8 (by decide) (fun hc1 => ?_) (fun hc1 => ?_)
  · have hf := if_t hf hc1
    refine V_iload_n dX7_isGone_38 rfl ?_
    obtain ⟨hb2, hf⟩ := ck_ex hf
    cases some_ex hf
    exact V_zret hE (isZ_nar hb2) dX7_isGone_39
  · have hf := if_f hf hc1
    refine V_iload_n dX7_isGone_11 rfl ?_
    refine V_if_ne (tgt := 26) dX7_isGone_12 (by decide) (fun hc3 => ?_) (fun hc3 => ?_)
    · have hf := if_f hf hc3
      refine V_keep [true, true, true, false, true] rfl ?_
      exact mM_isGone_26_v σ hE k5 hk5 v1 v2 v4 hf
    · have hf := if_t hf hc3
      refine V_aload_n dX7_isGone_15 rfl ?_
      refine VM_getR fX7_107 ⟨rfl, rfl⟩ rfl dX7_isGone_16 ?_
      refine V_iload dX7_isGone_19 rfl ?_
      obtain ⟨hb4, hf⟩ := ck_ex hf
      refine VM_ldI (n := 7) (k := v4.toNatClampNeg) rfl hb4 rfl dX7_isGone_21 ?_
      refine V_iload_n dX7_isGone_22 rfl ?_
      refine V_icmp_ne (tgt := 30) dX7_isGone_23 (by decide) (fun hc5 => ?_) (fun hc5 => ?_)
      · have hf := if_f hf hc5
        refine V_iconst dX7_isGone_30 kc_0 ?_
        refine V_keep [true, true, true, false, true] rfl ?_
        exact mM_isGone_31_v σ hE k5 hk5 v1 v2 v4 (0 : Int32) hf
      · have hf := if_t hf hc5
        refine V_keep [true, true, true, false, true] rfl ?_
        exact mM_isGone_26_v σ hE k5 hk5 v1 v2 v4 hf
set_option maxHeartbeats 4000000 in
theorem mM_isGone_ok (l : Launch) (D : DD) (z : ZZ) (h : Nat) (p0 : Int32) (p1 : Int32) (σ : SM) (r : Int32) (hf : mM_isGone p0 p1 σ = some r) : MA l D yX7_isGone cX7_isGone 5 (some .boolean) 1 [.ref h, .int p0, .int p1] (wM z h σ) (.returned (some (.int r))) (wM z h σ) := by
  refine MA.intro (own := RX7) (nm := "isGone") (ls := [some (.ref h), some (.int p0), some (.int p1), none, none]) (by decide) rfl rfl (Nat.le_of_ble_eq_true rfl) rfl (fun X hl hD hE => ?_)
  subst hl hD
  unfold mM_isGone at hf
  refine V_iconst dX7_isGone_0 kc_0 ?_
  refine V_istore_n (ls' := [some (.ref h), some (.int p0), some (.int p1), some (.int (0 : Int32)), none]) dX7_isGone_1 (by decide) rfl ?_
  refine V_iconst dX7_isGone_2 kc_0 ?_
  refine V_istore (ls' := [some (.ref h), some (.int p0), some (.int p1), some (.int (0 : Int32)), some (.int (0 : Int32))]) dX7_isGone_3 (by decide) rfl ?_
  exact lq4_ex (P := fun v1 v2 v3 v4 => V X cX7_isGone RX7 5 1 (wM z h σ) 5 [some (.ref h), some (.int v1), some (.int v2), some (.int v3), some (.int v4)] []) (fun k hk v1 v2 v3 v4 hf => mM_isGone_5_v σ hE k hk v1 v2 v3 v4 hf) LF p0 p1 (0 : Int32) (0 : Int32) hf
set_option maxHeartbeats 4000000 in
theorem mM_daysOf_ok (l : Launch) (D : DD) (z : ZZ) (h : Nat) (p0 : Int32) (p1 : Int32) (σ : SM) (r : Int32) (hf : mM_daysOf p0 p1 σ = some r) : MA l D yX7_daysOf cX7_daysOf 4 (some .int) 3 [.ref h, .int p0, .int p1] (wM z h σ) (.returned (some (.int r))) (wM z h σ) := by
  refine MA.intro (own := RX7) (nm := "daysOf") (ls := [some (.ref h), some (.int p0), some (.int p1), none]) (by decide) rfl rfl (Nat.le_of_ble_eq_true rfl) rfl (fun X hl hD hE => ?_)
  subst hl hD
  unfold mM_daysOf at hf
  refine V_aload_n dX7_daysOf_0 rfl ?_
  refine V_iload_n dX7_daysOf_1 rfl ?_
  refine V_iload_n dX7_daysOf_2 rfl ?_
  obtain ⟨r2, hc1, hf⟩ := bd1_ex hf
  refine V_cV (av := [.int p0, .int p1]) (rest := []) (st' := [.int r2]) (mM_away_ok _ _ _ _ _ _ _ _ hc1) vcX7_478 (wM_k0 _ _ _) (by decide) rfl rfl (Nat.le_of_ble_eq_true rfl) dX7_daysOf_3 rfl ?_
  refine V_aload_n dX7_daysOf_6 rfl ?_
  refine VM_getR fX7_7 ⟨rfl, rfl⟩ rfl dX7_daysOf_7 ?_
  refine V_bipush dX7_daysOf_10 kb_9 ?_
  refine VM_ldI (n := 23016) (k := 9) rfl (by decide) (by decide) dX7_daysOf_12 ?_
  refine V_iadd dX7_daysOf_13 ?_
  refine V_iconst dX7_daysOf_14 kc_1 ?_
  refine V_isub dX7_daysOf_15 ?_
  refine V_aload_n dX7_daysOf_16 rfl ?_
  refine VM_getR fX7_7 ⟨rfl, rfl⟩ rfl dX7_daysOf_17 ?_
  refine V_bipush dX7_daysOf_20 kb_9 ?_
  refine VM_ldI (n := 23016) (k := 9) rfl (by decide) (by decide) dX7_daysOf_22 ?_
  obtain ⟨hz3, hf⟩ := nzI_ex hf
  refine V_idiv dX7_daysOf_23 hz3 ?_
  refine V_istore_n (ls' := [some (.ref h), some (.int p0), some (.int p1), some (.int (((r2 + (gI σ 1 9)) - (1 : Int32)) / (gI σ 1 9)))]) dX7_daysOf_24 (by decide) rfl ?_
  refine V_iload_n dX7_daysOf_25 rfl ?_
  refine V_aload_n dX7_daysOf_26 rfl ?_
  refine VM_getR fX7_7 ⟨rfl, rfl⟩ rfl dX7_daysOf_27 ?_
  refine V_iload_n dX7_daysOf_30 rfl ?_
  obtain ⟨r5, hc4, hf⟩ := bd1_ex hf
  refine V_cS (rest := [.ref (h + 1), .int (((r2 + (gI σ 1 9)) - (1 : Int32)) / (gI σ 1 9))]) (st' := [.int r5, .ref (h + 1), .int (((r2 + (gI σ 1 9)) - (1 : Int32)) / (gI σ 1 9))]) (mM_placeAt_ok _ _ _ _ _ hc4) scX7_133 (by decide) rfl rfl (Nat.le_of_ble_eq_true rfl) dX7_daysOf_31 rfl ?_
  obtain ⟨hb6, hf⟩ := ck_ex hf
  refine VM_ldI (n := 23016) (k := r5.toNatClampNeg) rfl hb6 rfl dX7_daysOf_34 ?_
  refine V_aload_n dX7_daysOf_35 rfl ?_
  refine VM_getR fX7_7 ⟨rfl, rfl⟩ rfl dX7_daysOf_36 ?_
  refine V_iload_n dX7_daysOf_39 rfl ?_
  obtain ⟨r8, hc7, hf⟩ := bd1_ex hf
  refine V_cS (rest := [.ref (h + 1), .int (gI σ 1 (r5.toNatClampNeg)), .int (((r2 + (gI σ 1 9)) - (1 : Int32)) / (gI σ 1 9))]) (st' := [.int r8, .ref (h + 1), .int (gI σ 1 (r5.toNatClampNeg)), .int (((r2 + (gI σ 1 9)) - (1 : Int32)) / (gI σ 1 9))]) (mM_placeAt_ok _ _ _ _ _ hc7) scX7_133 (by decide) rfl rfl (Nat.le_of_ble_eq_true rfl) dX7_daysOf_40 rfl ?_
  obtain ⟨hb9, hf⟩ := ck_ex hf
  refine VM_ldI (n := 23016) (k := r8.toNatClampNeg) rfl hb9 rfl dX7_daysOf_43 ?_
  refine V_icmp_ne (tgt := 51) dX7_daysOf_44 (by decide) (fun hc10 => ?_) (fun hc10 => ?_)
  · have hf := if_f hf hc10
    refine V_aload_n dX7_daysOf_51 rfl ?_
    refine VM_getR fX7_7 ⟨rfl, rfl⟩ rfl dX7_daysOf_52 ?_
    refine V_bipush dX7_daysOf_55 kb_10 ?_
    refine VM_ldI (n := 23016) (k := 10) rfl (by decide) (by decide) dX7_daysOf_57 ?_
    refine V_iadd dX7_daysOf_58 ?_
    cases some_ex hf
    exact V_iret hE dX7_daysOf_59
  · have hf := if_t hf hc10
    refine V_iconst dX7_daysOf_47 kc_0 ?_
    refine V_goto (tgt := 58) dX7_daysOf_48 (by decide) ?_
    refine V_iadd dX7_daysOf_58 ?_
    cases some_ex hf
    exact V_iret hE dX7_daysOf_59
set_option maxHeartbeats 4000000 in
theorem mM_pollOf_37_v {X : CX} {w0 : AH} {z : ZZ} {h : Nat} {r : Int32} (σ : SM) (hE : XE X w0 4 (some .int) "pollOf" (.returned (some (.int r))) (wM z h σ)) (v1 : Int32) (t0 : Int32) (hf : mM_pollOf_37 σ v1 t0 = some r) : V X cX7_pollOf RX7 5 4 (wM z h σ) 37 [some (.ref h), some (.int v1), none, none, none] [.int t0] := by
  unfold mM_pollOf_37 at hf
  refine V_istore (ls' := [some (.ref h), some (.int v1), none, none, some (.int t0)]) dX7_pollOf_37 (by decide) rfl ?_
  refine V_iload dX7_pollOf_39 rfl ?_
  refine V_aload_n dX7_pollOf_41 rfl ?_
  refine VM_getR fX7_68 ⟨rfl, rfl⟩ rfl dX7_pollOf_42 ?_
  refine V_iload_n dX7_pollOf_45 rfl ?_
  obtain ⟨hb1, hf⟩ := ck_ex hf
  refine VM_ldI (n := 7) (k := v1.toNatClampNeg) rfl hb1 rfl dX7_pollOf_46 ?_
  refine V_icmp_le (tgt := 54) dX7_pollOf_47 (by decide) (fun hc2 => ?_) (fun hc2 => ?_)
  · have hf := if_t hf hc2
    refine V_iload dX7_pollOf_54 rfl ?_
    cases some_ex hf
    exact V_iret hE dX7_pollOf_56
  · have hf := if_f hf hc2
    refine V_iconst dX7_pollOf_50 kc_m1 ?_
    refine V_goto (tgt := 56) dX7_pollOf_51 (by decide) ?_
    cases some_ex hf
    exact V_iret hE dX7_pollOf_56
set_option maxHeartbeats 4000000 in
theorem mM_pollOf_ok (l : Launch) (D : DD) (z : ZZ) (h : Nat) (p0 : Int32) (p1 : Int32) (p2 : Int32) (σ : SM) (r : Int32) (hf : mM_pollOf p0 p1 p2 σ = some r) : MA l D yX7_pollOf cX7_pollOf 5 (some .int) 4 [.ref h, .int p0, .int p1, .int p2] (wM z h σ) (.returned (some (.int r))) (wM z h σ) := by
  refine MA.intro (own := RX7) (nm := "pollOf") (ls := [some (.ref h), some (.int p0), some (.int p1), some (.int p2), none]) (by decide) rfl rfl (Nat.le_of_ble_eq_true rfl) rfl (fun X hl hD hE => ?_)
  subst hl hD
  unfold mM_pollOf at hf
  refine V_iload_n dX7_pollOf_0 rfl ?_
  refine V_aload_n dX7_pollOf_1 rfl ?_
  refine V_iload_n dX7_pollOf_2 rfl ?_
  refine V_aload_n dX7_pollOf_3 rfl ?_
  refine VM_getR fX7_62 ⟨rfl, rfl⟩ rfl dX7_pollOf_4 ?_
  refine V_iload_n dX7_pollOf_7 rfl ?_
  obtain ⟨hb1, hf⟩ := ck_ex hf
  refine VM_ldI (n := 7) (k := p0.toNatClampNeg) rfl hb1 rfl dX7_pollOf_8 ?_
  obtain ⟨r3, hc2, hf⟩ := bd1_ex hf
  refine V_cV (av := [.int p1, .int (gI σ 16 (p0.toNatClampNeg))]) (rest := [.int p2]) (st' := [.int r3, .int p2]) (mM_daysOf_ok _ _ _ _ _ _ _ _ hc2) vcX7_558 (wM_k0 _ _ _) (by decide) rfl rfl (Nat.le_of_ble_eq_true rfl) dX7_pollOf_9 rfl ?_
  refine V_iadd dX7_pollOf_12 ?_
  refine V_istore (ls' := [some (.ref h), some (.int p0), some (.int p1), some (.int p2), some (.int (p2 + r3))]) dX7_pollOf_13 (by decide) rfl ?_
  refine V_iload dX7_pollOf_15 rfl ?_
  refine V_aload_n dX7_pollOf_17 rfl ?_
  refine VM_getR fX7_65 ⟨rfl, rfl⟩ rfl dX7_pollOf_18 ?_
  refine V_iload_n dX7_pollOf_21 rfl ?_
  obtain ⟨hb4, hf⟩ := ck_ex hf
  refine VM_ldI (n := 7) (k := p0.toNatClampNeg) rfl hb4 rfl dX7_pollOf_22 ?_
  refine V_icmp_ge (tgt := 35) dX7_pollOf_23 (by decide) (fun hc5 => ?_) (fun hc5 => ?_)
  · have hf := if_t hf hc5
    refine V_iload dX7_pollOf_35 rfl ?_
    refine V_keep [true, true, false, false, false] rfl ?_
    exact mM_pollOf_37_v σ hE p0 (p2 + r3) hf
  · have hf := if_f hf hc5
    refine V_aload_n dX7_pollOf_26 rfl ?_
    refine VM_getR fX7_65 ⟨rfl, rfl⟩ rfl dX7_pollOf_27 ?_
    refine V_iload_n dX7_pollOf_30 rfl ?_
    obtain ⟨hb6, hf⟩ := ck_ex hf
    refine VM_ldI (n := 7) (k := p0.toNatClampNeg) rfl hb6 rfl dX7_pollOf_31 ?_
    refine V_goto (tgt := 37) dX7_pollOf_32 (by decide) ?_
    refine V_keep [true, true, false, false, false] rfl ?_
    exact mM_pollOf_37_v σ hE p0 (gI σ 17 (p0.toNatClampNeg)) hf
set_option maxHeartbeats 4000000 in
theorem mM_keepWay_86_v {X : CX} {w0 : AH} {z : ZZ} {h : Nat} {σ' : SM} (hE : XE X w0 1 none "keepWay" (.returned none) (wM z h σ')) (v1 : Int32) (v2 : Int32) (σ : SM) (hf : mM_keepWay_86 v1 v2 σ = some σ') : V X cX7_keepWay RX7 4 1 (wM z h σ) 86 [some (.ref h), some (.int v1), some (.int v2), none] [] := by
  unfold mM_keepWay_86 at hf
  refine V_aload_n dX7_keepWay_86 rfl ?_
  refine V_iload_n dX7_keepWay_87 rfl ?_
  refine V_if_eq (tgt := 95) dX7_keepWay_88 (by decide) (fun hc1 => ?_) (fun hc1 => ?_)
  · have hf := if_t hf hc1
    refine V_aload_n dX7_keepWay_95 rfl ?_
    refine VM_getI fX7_561 rfl dX7_keepWay_96 ?_
    obtain ⟨σ2, hs3, hf⟩ := st1_ex hf
    refine VM_putI fwX7_561 hs3 dX7_keepWay_99 ?_
    cases some_ex hf
    exact V_vret hE dX7_keepWay_102
  · have hf := if_f hf hc1
    refine V_iload_n dX7_keepWay_91 rfl ?_
    refine V_goto (tgt := 99) dX7_keepWay_92 (by decide) ?_
    obtain ⟨σ4, hs5, hf⟩ := st1_ex hf
    refine VM_putI fwX7_561 hs5 dX7_keepWay_99 ?_
    cases some_ex hf
    exact V_vret hE dX7_keepWay_102
set_option maxHeartbeats 4000000 in
theorem mM_keepWay_47_v {X : CX} {w0 : AH} {z : ZZ} {h : Nat} {σ' : SM} (hE : XE X w0 1 none "keepWay" (.returned none) (wM z h σ')) (k47 : Int32 → Int32 → Int32 → SM → Option (SM)) (hk47 : ∀ (v1 : Int32) (v2 : Int32) (v3 : Int32) (σ : SM), k47 v1 v2 v3 σ = some σ' → V X cX7_keepWay RX7 4 1 (wM z h σ) 47 [some (.ref h), some (.int v1), some (.int v2), some (.int v3)] []) (v1 : Int32) (v2 : Int32) (v3 : Int32) (σ : SM) (hf : mM_keepWay_47 k47 v1 v2 v3 σ = some σ') : V X cX7_keepWay RX7 4 1 (wM z h σ) 47 [some (.ref h), some (.int v1), some (.int v2), some (.int v3)] [] := by
  unfold mM_keepWay_47 at hf
  refine V_iload_n dX7_keepWay_47 rfl ?_
  refine V_iload_n dX7_keepWay_48 rfl ?_
  refine V_icmp_ge (tgt := 86) dX7_keepWay_49 (by decide) (fun hc1 => ?_) (fun hc1 => ?_)
  · have hf := if_t hf hc1
    refine V_keep [true, true, true, false] rfl ?_
    exact mM_keepWay_86_v hE v1 v2 σ hf
  · have hf := if_f hf hc1
    refine V_iload_n dX7_keepWay_52 rfl ?_
    refine V_if_eq (tgt := 86) dX7_keepWay_53 (by decide) (fun hc2 => ?_) (fun hc2 => ?_)
    · have hf := if_t hf hc2
      refine V_keep [true, true, true, false] rfl ?_
      exact mM_keepWay_86_v hE v1 v2 σ hf
    · have hf := if_f hf hc2
      refine V_aload_n dX7_keepWay_56 rfl ?_
      refine VM_getR fX7_101 ⟨rfl, rfl⟩ rfl dX7_keepWay_57 ?_
      refine V_iload_n dX7_keepWay_60 rfl ?_
      refine V_aload_n dX7_keepWay_61 rfl ?_
      refine VM_getR fX7_107 ⟨rfl, rfl⟩ rfl dX7_keepWay_62 ?_
      refine V_iload_n dX7_keepWay_65 rfl ?_
      obtain ⟨hb3, hf⟩ := ck_ex hf
      refine VM_ldI (n := 7) (k := v3.toNatClampNeg) rfl hb3 rfl dX7_keepWay_66 ?_
      obtain ⟨hb4, hf⟩ := ck_ex hf
      obtain ⟨σ5, hs6, hf⟩ := st1_ex hf
      refine VM_stI (n := 7) (k := v3.toNatClampNeg) rfl hb4 rfl hs6 dX7_keepWay_67 ?_
      refine V_aload_n dX7_keepWay_68 rfl ?_
      refine VM_getR fX7_104 ⟨rfl, rfl⟩ rfl dX7_keepWay_69 ?_
      refine V_iload_n dX7_keepWay_72 rfl ?_
      refine V_aload_n dX7_keepWay_73 rfl ?_
      refine VM_getR fX7_110 ⟨rfl, rfl⟩ rfl dX7_keepWay_74 ?_
      refine V_iload_n dX7_keepWay_77 rfl ?_
      obtain ⟨hb7, hf⟩ := ck_ex hf
      refine VM_ldI (n := 7) (k := v3.toNatClampNeg) rfl hb7 rfl dX7_keepWay_78 ?_
      obtain ⟨hb8, hf⟩ := ck_ex hf
      obtain ⟨σ9, hs10, hf⟩ := st1_ex hf
      refine VM_stI (n := 7) (k := v3.toNatClampNeg) rfl hb8 rfl hs10 dX7_keepWay_79 ?_
      refine V_inc (ls' := [some (.ref h), some (.int v1), some (.int v2), some (.int (v3 + (1 : Int32)))]) dX7_keepWay_80 rfl kc_1 (by decide) rfl ?_
      refine V_goto (tgt := 47) dX7_keepWay_83 (by decide) ?_
      exact hk47 v1 v2 (v3 + (1 : Int32)) σ9 hf
set_option maxHeartbeats 4000000 in
theorem mM_keepWay_44_v {X : CX} {w0 : AH} {z : ZZ} {h : Nat} {σ' : SM} (hE : XE X w0 1 none "keepWay" (.returned none) (wM z h σ')) (v1 : Int32) (t0 : Int32) (σ : SM) (hf : mM_keepWay_44 v1 t0 σ = some σ') : V X cX7_keepWay RX7 4 1 (wM z h σ) 44 [some (.ref h), some (.int v1), none, none] [.int t0] := by
  unfold mM_keepWay_44 at hf
  refine V_istore_n (ls' := [some (.ref h), some (.int v1), some (.int t0), none]) dX7_keepWay_44 (by decide) rfl ?_
  refine V_iconst dX7_keepWay_45 kc_0 ?_
  refine V_istore_n (ls' := [some (.ref h), some (.int v1), some (.int t0), some (.int (0 : Int32))]) dX7_keepWay_46 (by decide) rfl ?_
  exact lq4_ex (P := fun v1 v2 v3 σ => V X cX7_keepWay RX7 4 1 (wM z h σ) 47 [some (.ref h), some (.int v1), some (.int v2), some (.int v3)] []) (fun k hk v1 v2 v3 σ hf => mM_keepWay_47_v hE k hk v1 v2 v3 σ hf) LF v1 t0 (0 : Int32) σ hf
set_option maxHeartbeats 4000000 in
theorem mM_keepWay_39_v {X : CX} {w0 : AH} {z : ZZ} {h : Nat} {σ' : SM} (hE : XE X w0 1 none "keepWay" (.returned none) (wM z h σ')) (v1 : Int32) (σ : SM) (hf : mM_keepWay_39 v1 σ = some σ') : V X cX7_keepWay RX7 4 1 (wM z h σ) 39 [some (.ref h), some (.int v1), none, none] [] := by
  unfold mM_keepWay_39 at hf
  refine V_iconst dX7_keepWay_39 kc_1 ?_
  refine V_goto (tgt := 44) dX7_keepWay_40 (by decide) ?_
  exact mM_keepWay_44_v hE v1 (1 : Int32) σ hf
set_option maxHeartbeats 4000000 in
theorem mM_keepWay_43_v {X : CX} {w0 : AH} {z : ZZ} {h : Nat} {σ' : SM} (hE : XE X w0 1 none "keepWay" (.returned none) (wM z h σ')) (v1 : Int32) (σ : SM) (hf : mM_keepWay_43 v1 σ = some σ') : V X cX7_keepWay RX7 4 1 (wM z h σ) 43 [some (.ref h), some (.int v1), none, none] [] := by
  unfold mM_keepWay_43 at hf
  refine V_iconst dX7_keepWay_43 kc_0 ?_
  exact mM_keepWay_44_v hE v1 (0 : Int32) σ hf
set_option maxHeartbeats 4000000 in
theorem mM_keepWay_ok (l : Launch) (D : DD) (z : ZZ) (h : Nat) (p0 : Int32) (σ : SM) (σ' : SM) (hf : mM_keepWay p0 σ = some σ') : MA l D yX7_keepWay cX7_keepWay 4 none 1 [.ref h, .int p0] (wM z h σ) (.returned none) (wM z h σ') := by
  refine MA.intro (own := RX7) (nm := "keepWay") (ls := [some (.ref h), some (.int p0), none, none]) (by decide) rfl rfl (Nat.le_of_ble_eq_true rfl) rfl (fun X hl hD hE => ?_)
  subst hl hD
  unfold mM_keepWay at hf
  refine V_iload_n dX7_keepWay_0 rfl ?_
  refine V_aload_n dX7_keepWay_1 rfl ?_
  refine VM_getI fX7_561 rfl dX7_keepWay_2 ?_
  refine V_icmp_gt (tgt := 39) dX7_keepWay_5 (by decide) (fun hc1 => ?_) (fun hc1 => ?_)
  · have hf := if_t hf hc1
    exact mM_keepWay_39_v hE p0 σ hf
  · have hf := if_f hf hc1
    refine V_iload_n dX7_keepWay_8 rfl ?_
    refine V_aload_n dX7_keepWay_9 rfl ?_
    refine VM_getI fX7_561 rfl dX7_keepWay_10 ?_
    refine V_icmp_ne (tgt := 43) dX7_keepWay_13 (by decide) (fun hc2 => ?_) (fun hc2 => ?_)
    · have hf := if_f hf hc2
      exact mM_keepWay_43_v hE p0 σ hf
    · have hf := if_t hf hc2
      refine V_iload_n dX7_keepWay_16 rfl ?_
      refine V_if_le (tgt := 43) dX7_keepWay_17 (by decide) (fun hc3 => ?_) (fun hc3 => ?_)
      · have hf := if_t hf hc3
        exact mM_keepWay_43_v hE p0 σ hf
      · have hf := if_f hf hc3
        refine V_aload_n dX7_keepWay_20 rfl ?_
        refine VM_getR fX7_110 ⟨rfl, rfl⟩ rfl dX7_keepWay_21 ?_
        refine V_iload_n dX7_keepWay_24 rfl ?_
        refine V_iconst dX7_keepWay_25 kc_1 ?_
        refine V_isub dX7_keepWay_26 ?_
        obtain ⟨hb4, hf⟩ := ck_ex hf
        refine VM_ldI (n := 7) (k := (p0 - (1 : Int32)).toNatClampNeg) rfl hb4 rfl dX7_keepWay_27 ?_
        refine V_aload_n dX7_keepWay_28 rfl ?_
        refine VM_getR fX7_104 ⟨rfl, rfl⟩ rfl dX7_keepWay_29 ?_
        refine V_iload_n dX7_keepWay_32 rfl ?_
        refine V_iconst dX7_keepWay_33 kc_1 ?_
        refine V_isub dX7_keepWay_34 ?_
        obtain ⟨hb5, hf⟩ := ck_ex hf
        refine VM_ldI (n := 7) (k := (p0 - (1 : Int32)).toNatClampNeg) rfl hb5 rfl dX7_keepWay_35 ?_
        refine V_icmp_ge (tgt := 43) dX7_keepWay_36 (by decide) (fun hc6 => ?_) (fun hc6 => ?_)
        · have hf := if_t hf hc6
          exact mM_keepWay_43_v hE p0 σ hf
        · have hf := if_f hf hc6
          exact mM_keepWay_39_v hE p0 σ hf
set_option maxHeartbeats 4000000 in
theorem mM_way_198_v {X : CX} {w0 : AH} {z : ZZ} {h : Nat} {r : Int32} {σ' : SM} (hE : XE X w0 5 (some .int) "way" (.returned (some (.int r))) (wM z h σ')) (k44 : Int32 → Int32 → Int32 → Int32 → SM → Option (Int32 × SM)) (hk44 : ∀ (v1 : Int32) (v2 : Int32) (v3 : Int32) (v4 : Int32) (σ : SM), k44 v1 v2 v3 v4 σ = some (r, σ') → V X cX7_way RX7 7 5 (wM z h σ) 44 [some (.ref h), some (.int v1), some (.int v2), some (.int v3), some (.int v4), none, none] []) (v1 : Int32) (v2 : Int32) (v3 : Int32) (v4 : Int32) (σ : SM) (hf : mM_way_198 k44 v1 v2 v3 v4 σ = some (r, σ')) : V X cX7_way RX7 7 5 (wM z h σ) 198 [some (.ref h), some (.int v1), some (.int v2), some (.int v3), some (.int v4), none, none] [] := by
  unfold mM_way_198 at hf
  refine V_goto (tgt := 44) dX7_way_198 (by decide) ?_
  exact hk44 v1 v2 v3 v4 σ hf
set_option maxHeartbeats 4000000 in
theorem mM_way_196_v {X : CX} {w0 : AH} {z : ZZ} {h : Nat} {r : Int32} {σ' : SM} (hE : XE X w0 5 (some .int) "way" (.returned (some (.int r))) (wM z h σ')) (k44 : Int32 → Int32 → Int32 → Int32 → SM → Option (Int32 × SM)) (hk44 : ∀ (v1 : Int32) (v2 : Int32) (v3 : Int32) (v4 : Int32) (σ : SM), k44 v1 v2 v3 v4 σ = some (r, σ') → V X cX7_way RX7 7 5 (wM z h σ) 44 [some (.ref h), some (.int v1), some (.int v2), some (.int v3), some (.int v4), none, none] []) (v1 : Int32) (v2 : Int32) (v3 : Int32) (t0 : Int32) (σ : SM) (hf : mM_way_196 k44 v1 v2 v3 t0 σ = some (r, σ')) : V X cX7_way RX7 7 5 (wM z h σ) 196 [some (.ref h), some (.int v1), some (.int v2), some (.int v3), none, none, none] [.int t0] := by
  unfold mM_way_196 at hf
  refine V_istore (ls' := [some (.ref h), some (.int v1), some (.int v2), some (.int v3), some (.int t0), none, none]) dX7_way_196 (by decide) rfl ?_
  exact mM_way_198_v hE k44 hk44 v1 v2 v3 t0 σ hf
set_option maxHeartbeats 4000000 in
theorem mM_way_130_v {X : CX} {w0 : AH} {z : ZZ} {h : Nat} {r : Int32} {σ' : SM} (hE : XE X w0 5 (some .int) "way" (.returned (some (.int r))) (wM z h σ')) (k44 : Int32 → Int32 → Int32 → Int32 → SM → Option (Int32 × SM)) (hk44 : ∀ (v1 : Int32) (v2 : Int32) (v3 : Int32) (v4 : Int32) (σ : SM), k44 v1 v2 v3 v4 σ = some (r, σ') → V X cX7_way RX7 7 5 (wM z h σ) 44 [some (.ref h), some (.int v1), some (.int v2), some (.int v3), some (.int v4), none, none] []) (v1 : Int32) (v2 : Int32) (v3 : Int32) (v4 : Int32) (v5 : Int32) (v6 : Int32) (σ : SM) (hf : mM_way_130 k44 v1 v2 v3 v4 v5 v6 σ = some (r, σ')) : V X cX7_way RX7 7 5 (wM z h σ) 130 [some (.ref h), some (.int v1), some (.int v2), some (.int v3), some (.int v4), some (.int v5), some (.int v6)] [] := by
  unfold mM_way_130 at hf
  refine V_iload dX7_way_130 rfl ?_
  refine V_aload_n dX7_way_132 rfl ?_
  refine VM_getI fX7_471 rfl dX7_way_133 ?_
  refine V_icmp_ge (tgt := 177) dX7_way_136 (by decide) (fun hc1 => ?_) (fun hc1 => ?_)
  · have hf := if_t hf hc1
    refine V_inc (ls' := [some (.ref h), some (.int v1), some (.int v2), some (.int (v3 + (-1 : Int32))), some (.int v4), some (.int v5), some (.int v6)]) dX7_way_177 rfl kc_m1 (by decide) rfl ?_
    refine V_iload_n dX7_way_180 rfl ?_
    refine V_if_lt (tgt := 195) dX7_way_181 (by decide) (fun hc2 => ?_) (fun hc2 => ?_)
    · have hf := if_t hf hc2
      refine V_iconst dX7_way_195 kc_0 ?_
      refine V_keep [true, true, true, true, false, false, false] rfl ?_
      exact mM_way_196_v hE k44 hk44 v1 v2 (v3 + (-1 : Int32)) (0 : Int32) σ hf
    · have hf := if_f hf hc2
      refine V_aload_n dX7_way_184 rfl ?_
      refine VM_getR fX7_107 ⟨rfl, rfl⟩ rfl dX7_way_185 ?_
      refine V_iload_n dX7_way_188 rfl ?_
      obtain ⟨hb3, hf⟩ := ck_ex hf
      refine VM_ldI (n := 7) (k := (v3 + (-1 : Int32)).toNatClampNeg) rfl hb3 rfl dX7_way_189 ?_
      refine V_iconst dX7_way_190 kc_1 ?_
      refine V_iadd dX7_way_191 ?_
      refine V_goto (tgt := 196) dX7_way_192 (by decide) ?_
      refine V_keep [true, true, true, true, false, false, false] rfl ?_
      exact mM_way_196_v hE k44 hk44 v1 v2 (v3 + (-1 : Int32)) ((gI σ 31 ((v3 + (-1 : Int32)).toNatClampNeg)) + (1 : Int32)) σ hf
  · have hf := if_f hf hc1
    refine V_aload_n dX7_way_139 rfl ?_
    refine VM_getR fX7_107 ⟨rfl, rfl⟩ rfl dX7_way_140 ?_
    refine V_iload_n dX7_way_143 rfl ?_
    refine V_iload dX7_way_144 rfl ?_
    obtain ⟨hb4, hf⟩ := ck_ex hf
    obtain ⟨σ5, hs6, hf⟩ := st1_ex hf
    refine VM_stI (n := 7) (k := v3.toNatClampNeg) rfl hb4 rfl hs6 dX7_way_146 ?_
    refine V_aload_n dX7_way_147 rfl ?_
    refine VM_getR fX7_110 ⟨rfl, rfl⟩ rfl dX7_way_148 ?_
    refine V_iload_n dX7_way_151 rfl ?_
    refine V_aload_n dX7_way_152 rfl ?_
    refine V_iload dX7_way_153 rfl ?_
    refine V_iload dX7_way_155 rfl ?_
    refine V_iload dX7_way_157 rfl ?_
    obtain ⟨r8, hc7, hf⟩ := bd1_ex hf
    refine V_cV (av := [.int v4, .int v5, .int v6]) (rest := [.int v3, .ref (h + 32)]) (st' := [.int r8, .int v3, .ref (h + 32)]) (mM_pollOf_ok _ _ _ _ _ _ _ _ _ hc7) vcX7_570 (wM_k0 _ _ _) (by decide) rfl rfl (Nat.le_of_ble_eq_true rfl) dX7_way_159 rfl ?_
    obtain ⟨hb9, hf⟩ := ck_ex hf
    obtain ⟨σ10, hs11, hf⟩ := st1_ex hf
    refine VM_stI (n := 7) (k := v3.toNatClampNeg) rfl hb9 rfl hs11 dX7_way_162 ?_
    refine V_inc (ls' := [some (.ref h), some (.int v1), some (.int v2), some (.int (v3 + (1 : Int32))), some (.int v4), some (.int v5), some (.int v6)]) dX7_way_163 rfl kc_1 (by decide) rfl ?_
    refine V_aload_n dX7_way_166 rfl ?_
    refine V_iload_n dX7_way_167 rfl ?_
    obtain ⟨σ13, hc12, hf⟩ := bd1_ex hf
    refine V_cV (av := [.int (v3 + (1 : Int32))]) (rest := []) (st' := []) (mM_keepWay_ok _ _ _ _ _ _ _ hc12) vcX7_573 (wM_k0 _ _ _) (by decide) rfl rfl (Nat.le_of_ble_eq_true rfl) dX7_way_168 rfl ?_
    refine V_iconst dX7_way_171 kc_0 ?_
    refine V_istore (ls' := [some (.ref h), some (.int v1), some (.int v2), some (.int (v3 + (1 : Int32))), some (.int (0 : Int32)), some (.int v5), some (.int v6)]) dX7_way_172 (by decide) rfl ?_
    refine V_goto (tgt := 198) dX7_way_174 (by decide) ?_
    refine V_keep [true, true, true, true, true, false, false] rfl ?_
    exact mM_way_198_v hE k44 hk44 v1 v2 (v3 + (1 : Int32)) (0 : Int32) σ13 hf
set_option maxHeartbeats 4000000 in
theorem mM_way_124_v {X : CX} {w0 : AH} {z : ZZ} {h : Nat} {r : Int32} {σ' : SM} (hE : XE X w0 5 (some .int) "way" (.returned (some (.int r))) (wM z h σ')) (k91 : Int32 → Int32 → Int32 → Int32 → Int32 → Int32 → SM → Option (Int32 × SM)) (hk91 : ∀ (v1 : Int32) (v2 : Int32) (v3 : Int32) (v4 : Int32) (v5 : Int32) (v6 : Int32) (σ : SM), k91 v1 v2 v3 v4 v5 v6 σ = some (r, σ') → V X cX7_way RX7 7 5 (wM z h σ) 91 [some (.ref h), some (.int v1), some (.int v2), some (.int v3), some (.int v4), some (.int v5), some (.int v6)] []) (v1 : Int32) (v2 : Int32) (v3 : Int32) (v4 : Int32) (v5 : Int32) (v6 : Int32) (σ : SM) (hf : mM_way_124 k91 v1 v2 v3 v4 v5 v6 σ = some (r, σ')) : V X cX7_way RX7 7 5 (wM z h σ) 124 [some (.ref h), some (.int v1), some (.int v2), some (.int v3), some (.int v4), some (.int v5), some (.int v6)] [] := by
  unfold mM_way_124 at hf
  refine V_inc (ls' := [some (.ref h), some (.int v1), some (.int v2), some (.int v3), some (.int (v4 + (1 : Int32))), some (.int v5), some (.int v6)]) dX7_way_124 rfl kc_1 (by decide) rfl ?_
  refine V_goto (tgt := 91) dX7_way_127 (by decide) ?_
  exact hk91 v1 v2 v3 (v4 + (1 : Int32)) v5 v6 σ hf
set_option maxHeartbeats 4000000 in
theorem mM_way_91_v {X : CX} {w0 : AH} {z : ZZ} {h : Nat} {r : Int32} {σ' : SM} (hE : XE X w0 5 (some .int) "way" (.returned (some (.int r))) (wM z h σ')) (k44 : Int32 → Int32 → Int32 → Int32 → SM → Option (Int32 × SM)) (hk44 : ∀ (v1 : Int32) (v2 : Int32) (v3 : Int32) (v4 : Int32) (σ : SM), k44 v1 v2 v3 v4 σ = some (r, σ') → V X cX7_way RX7 7 5 (wM z h σ) 44 [some (.ref h), some (.int v1), some (.int v2), some (.int v3), some (.int v4), none, none] []) (k91 : Int32 → Int32 → Int32 → Int32 → Int32 → Int32 → SM → Option (Int32 × SM)) (hk91 : ∀ (v1 : Int32) (v2 : Int32) (v3 : Int32) (v4 : Int32) (v5 : Int32) (v6 : Int32) (σ : SM), k91 v1 v2 v3 v4 v5 v6 σ = some (r, σ') → V X cX7_way RX7 7 5 (wM z h σ) 91 [some (.ref h), some (.int v1), some (.int v2), some (.int v3), some (.int v4), some (.int v5), some (.int v6)] []) (v1 : Int32) (v2 : Int32) (v3 : Int32) (v4 : Int32) (v5 : Int32) (v6 : Int32) (σ : SM) (hf : mM_way_91 k44 k91 v1 v2 v3 v4 v5 v6 σ = some (r, σ')) : V X cX7_way RX7 7 5 (wM z h σ) 91 [some (.ref h), some (.int v1), some (.int v2), some (.int v3), some (.int v4), some (.int v5), some (.int v6)] [] := by
  unfold mM_way_91 at hf
  refine V_iload dX7_way_91 rfl ?_
  refine V_aload_n dX7_way_93 rfl ?_
  refine VM_getI fX7_471 rfl dX7_way_94 ?_
  refine V_icmp_ge (tgt := 130) dX7_way_97 (by decide) (fun hc1 => ?_) (fun hc1 => ?_)
  · have hf := if_t hf hc1
    exact mM_way_130_v hE k44 hk44 v1 v2 v3 v4 v5 v6 σ hf
  · have hf := if_f hf hc1
    refine V_aload_n dX7_way_100 rfl ?_
    refine V_iload_n dX7_way_101 rfl ?_
    refine V_iload dX7_way_102 rfl ?_
    obtain ⟨r3, hc2, hf⟩ := bd1_ex hf
    refine V_cV (av := [.int v3, .int v4]) (rest := []) (st' := [.int r3]) (mM_isGone_ok _ _ _ _ _ _ _ _ hc2) vcX7_567 (wM_k0 _ _ _) (by decide) rfl rfl (Nat.le_of_ble_eq_true rfl) dX7_way_104 rfl ?_
    refine V_if_ne (tgt := 124) dX7_way_107 (by decide) (fun hc4 => ?_) (fun hc4 => ?_)
    · have hf := if_f hf hc4
      exact mM_way_124_v hE k91 hk91 v1 v2 v3 v4 v5 v6 σ hf
    · have hf := if_t hf hc4
      refine V_aload_n dX7_way_110 rfl ?_
      refine V_iload dX7_way_111 rfl ?_
      refine V_iload dX7_way_113 rfl ?_
      refine V_iload dX7_way_115 rfl ?_
      obtain ⟨r6, hc5, hf⟩ := bd1_ex hf
      refine V_cV (av := [.int v4, .int v5, .int v6]) (rest := []) (st' := [.int r6]) (mM_pollOf_ok _ _ _ _ _ _ _ _ _ hc5) vcX7_570 (wM_k0 _ _ _) (by decide) rfl rfl (Nat.le_of_ble_eq_true rfl) dX7_way_117 rfl ?_
      refine V_iconst dX7_way_120 kc_m1 ?_
      refine V_icmp_ne (tgt := 130) dX7_way_121 (by decide) (fun hc7 => ?_) (fun hc7 => ?_)
      · have hf := if_f hf hc7
        exact mM_way_130_v hE k44 hk44 v1 v2 v3 v4 v5 v6 σ hf
      · have hf := if_t hf hc7
        exact mM_way_124_v hE k91 hk91 v1 v2 v3 v4 v5 v6 σ hf
set_option maxHeartbeats 4000000 in
theorem mM_way_89_v {X : CX} {w0 : AH} {z : ZZ} {h : Nat} {r : Int32} {σ' : SM} (hE : XE X w0 5 (some .int) "way" (.returned (some (.int r))) (wM z h σ')) (k44 : Int32 → Int32 → Int32 → Int32 → SM → Option (Int32 × SM)) (hk44 : ∀ (v1 : Int32) (v2 : Int32) (v3 : Int32) (v4 : Int32) (σ : SM), k44 v1 v2 v3 v4 σ = some (r, σ') → V X cX7_way RX7 7 5 (wM z h σ) 44 [some (.ref h), some (.int v1), some (.int v2), some (.int v3), some (.int v4), none, none] []) (v1 : Int32) (v2 : Int32) (v3 : Int32) (v4 : Int32) (v5 : Int32) (t0 : Int32) (σ : SM) (hf : mM_way_89 k44 v1 v2 v3 v4 v5 t0 σ = some (r, σ')) : V X cX7_way RX7 7 5 (wM z h σ) 89 [some (.ref h), some (.int v1), some (.int v2), some (.int v3), some (.int v4), some (.int v5), none] [.int t0] := by
  unfold mM_way_89 at hf
  refine V_istore (ls' := [some (.ref h), some (.int v1), some (.int v2), some (.int v3), some (.int v4), some (.int v5), some (.int t0)]) dX7_way_89 (by decide) rfl ?_
  exact lq7_ex (P := fun v1 v2 v3 v4 v5 v6 σ => V X cX7_way RX7 7 5 (wM z h σ) 91 [some (.ref h), some (.int v1), some (.int v2), some (.int v3), some (.int v4), some (.int v5), some (.int v6)] []) (fun k hk v1 v2 v3 v4 v5 v6 σ hf => mM_way_91_v hE k44 hk44 k hk v1 v2 v3 v4 v5 v6 σ hf) LF v1 v2 v3 v4 v5 t0 σ hf
set_option maxHeartbeats 4000000 in
theorem mM_way_69_v {X : CX} {w0 : AH} {z : ZZ} {h : Nat} {r : Int32} {σ' : SM} (hE : XE X w0 5 (some .int) "way" (.returned (some (.int r))) (wM z h σ')) (k44 : Int32 → Int32 → Int32 → Int32 → SM → Option (Int32 × SM)) (hk44 : ∀ (v1 : Int32) (v2 : Int32) (v3 : Int32) (v4 : Int32) (σ : SM), k44 v1 v2 v3 v4 σ = some (r, σ') → V X cX7_way RX7 7 5 (wM z h σ) 44 [some (.ref h), some (.int v1), some (.int v2), some (.int v3), some (.int v4), none, none] []) (v1 : Int32) (v2 : Int32) (v3 : Int32) (v4 : Int32) (t0 : Int32) (σ : SM) (hf : mM_way_69 k44 v1 v2 v3 v4 t0 σ = some (r, σ')) : V X cX7_way RX7 7 5 (wM z h σ) 69 [some (.ref h), some (.int v1), some (.int v2), some (.int v3), some (.int v4), none, none] [.int t0] := by
  unfold mM_way_69 at hf
  refine V_istore (ls' := [some (.ref h), some (.int v1), some (.int v2), some (.int v3), some (.int v4), some (.int t0), none]) dX7_way_69 (by decide) rfl ?_
  refine V_iload_n dX7_way_71 rfl ?_
  refine V_if_ne (tgt := 79) dX7_way_72 (by decide) (fun hc1 => ?_) (fun hc1 => ?_)
  · have hf := if_f hf hc1
    refine V_aload_n dX7_way_79 rfl ?_
    refine VM_getR fX7_110 ⟨rfl, rfl⟩ rfl dX7_way_80 ?_
    refine V_iload_n dX7_way_83 rfl ?_
    refine V_iconst dX7_way_84 kc_1 ?_
    refine V_isub dX7_way_85 ?_
    obtain ⟨hb2, hf⟩ := ck_ex hf
    refine VM_ldI (n := 7) (k := (v3 - (1 : Int32)).toNatClampNeg) rfl hb2 rfl dX7_way_86 ?_
    refine V_iconst dX7_way_87 kc_1 ?_
    refine V_iadd dX7_way_88 ?_
    exact mM_way_89_v hE k44 hk44 v1 v2 v3 v4 t0 ((gI σ 32 ((v3 - (1 : Int32)).toNatClampNeg)) + (1 : Int32)) σ hf
  · have hf := if_t hf hc1
    refine V_iload_n dX7_way_75 rfl ?_
    refine V_goto (tgt := 89) dX7_way_76 (by decide) ?_
    exact mM_way_89_v hE k44 hk44 v1 v2 v3 v4 t0 v2 σ hf
set_option maxHeartbeats 4000000 in
theorem mM_way_44_v {X : CX} {w0 : AH} {z : ZZ} {h : Nat} {r : Int32} {σ' : SM} (hE : XE X w0 5 (some .int) "way" (.returned (some (.int r))) (wM z h σ')) (k44 : Int32 → Int32 → Int32 → Int32 → SM → Option (Int32 × SM)) (hk44 : ∀ (v1 : Int32) (v2 : Int32) (v3 : Int32) (v4 : Int32) (σ : SM), k44 v1 v2 v3 v4 σ = some (r, σ') → V X cX7_way RX7 7 5 (wM z h σ) 44 [some (.ref h), some (.int v1), some (.int v2), some (.int v3), some (.int v4), none, none] []) (v1 : Int32) (v2 : Int32) (v3 : Int32) (v4 : Int32) (σ : SM) (hf : mM_way_44 k44 v1 v2 v3 v4 σ = some (r, σ')) : V X cX7_way RX7 7 5 (wM z h σ) 44 [some (.ref h), some (.int v1), some (.int v2), some (.int v3), some (.int v4), none, none] [] := by
  unfold mM_way_44 at hf
  refine V_iload_n dX7_way_44 rfl ?_
  refine V_if_lt (tgt := 201) dX7_way_45 (by decide) (fun hc1 => ?_) (fun hc1 => ?_)
  · have hf := if_t hf hc1
    refine V_aload_n dX7_way_201 rfl ?_
    refine VM_getI fX7_561 rfl dX7_way_202 ?_
    cases some_ex hf
    exact V_iret hE dX7_way_205
  · have hf := if_f hf hc1
    refine V_iload_n dX7_way_48 rfl ?_
    refine V_if_ne (tgt := 56) dX7_way_49 (by decide) (fun hc2 => ?_) (fun hc2 => ?_)
    · have hf := if_f hf hc2
      refine V_aload_n dX7_way_56 rfl ?_
      refine VM_getR fX7_62 ⟨rfl, rfl⟩ rfl dX7_way_57 ?_
      refine V_aload_n dX7_way_60 rfl ?_
      refine VM_getR fX7_107 ⟨rfl, rfl⟩ rfl dX7_way_61 ?_
      refine V_iload_n dX7_way_64 rfl ?_
      refine V_iconst dX7_way_65 kc_1 ?_
      refine V_isub dX7_way_66 ?_
      obtain ⟨hb3, hf⟩ := ck_ex hf
      refine VM_ldI (n := 7) (k := (v3 - (1 : Int32)).toNatClampNeg) rfl hb3 rfl dX7_way_67 ?_
      obtain ⟨hb4, hf⟩ := ck_ex hf
      refine VM_ldI (n := 7) (k := (gI σ 31 ((v3 - (1 : Int32)).toNatClampNeg)).toNatClampNeg) rfl hb4 rfl dX7_way_68 ?_
      exact mM_way_69_v hE k44 hk44 v1 v2 v3 v4 (gI σ 16 ((gI σ 31 ((v3 - (1 : Int32)).toNatClampNeg)).toNatClampNeg)) σ hf
    · have hf := if_t hf hc2
      refine V_iload_n dX7_way_52 rfl ?_
      refine V_goto (tgt := 69) dX7_way_53 (by decide) ?_
      exact mM_way_69_v hE k44 hk44 v1 v2 v3 v4 v1 σ hf
set_option maxHeartbeats 4000000 in
theorem mM_way_ok (l : Launch) (D : DD) (z : ZZ) (h : Nat) (p0 : Int32) (p1 : Int32) (σ : SM) (r : Int32) (σ' : SM) (hf : mM_way p0 p1 σ = some (r, σ')) : MA l D yX7_way cX7_way 7 (some .int) 5 [.ref h, .int p0, .int p1] (wM z h σ) (.returned (some (.int r))) (wM z h σ') := by
  refine MA.intro (own := RX7) (nm := "way") (ls := [some (.ref h), some (.int p0), some (.int p1), none, none, none, none]) (by decide) rfl rfl (Nat.le_of_ble_eq_true rfl) rfl (fun X hl hD hE => ?_)
  subst hl hD
  unfold mM_way at hf
  refine V_aload_n dX7_way_0 rfl ?_
  refine V_iconst dX7_way_1 kc_0 ?_
  obtain ⟨σ1, hs2, hf⟩ := st1_ex hf
  refine VM_putI fwX7_113 hs2 dX7_way_2 ?_
  refine V_aload_n dX7_way_5 rfl ?_
  refine V_iload_n dX7_way_6 rfl ?_
  obtain ⟨r4, hc3, hf⟩ := bd1_ex hf
  refine V_cV (av := [.int p0]) (rest := []) (st' := [.int r4]) (mM_isPlace_ok _ _ _ _ _ _ _ hc3) vcX7_162 (wM_k0 _ _ _) (by decide) rfl rfl (Nat.le_of_ble_eq_true rfl) dX7_way_7 rfl ?_
  refine V_if_eq (tgt := 27) dX7_way_10 (by decide) (fun hc5 => ?_) (fun hc5 => ?_)
  · have hf := if_t hf hc5
    refine V_iconst dX7_way_27 kc_m1 ?_
    cases some_ex hf
    exact V_iret hE dX7_way_28
  · have hf := if_f hf hc5
    refine V_iload_n dX7_way_13 rfl ?_
    obtain ⟨r7, hc6, hf⟩ := bd1_ex hf
    refine V_cS (rest := []) (st' := [.int r7]) (mM_isDay_ok _ _ _ _ _ hc6) scX7_159 (by decide) rfl rfl (Nat.le_of_ble_eq_true rfl) dX7_way_14 rfl ?_
    refine V_if_eq (tgt := 27) dX7_way_17 (by decide) (fun hc8 => ?_) (fun hc8 => ?_)
    · have hf := if_t hf hc8
      refine V_iconst dX7_way_27 kc_m1 ?_
      cases some_ex hf
      exact V_iret hE dX7_way_28
    · have hf := if_f hf hc8
      refine V_aload_n dX7_way_20 rfl ?_
      obtain ⟨r10, hc9, hf⟩ := bd1_ex hf
      refine V_cV (av := []) (rest := []) (st' := [.int r10]) (mM_areThere_ok _ _ _ _ _ _ hc9) vcX7_481 (wM_k0 _ _ _) (by decide) rfl rfl (Nat.le_of_ble_eq_true rfl) dX7_way_21 rfl ?_
      refine V_if_ne (tgt := 29) dX7_way_24 (by decide) (fun hc11 => ?_) (fun hc11 => ?_)
      · have hf := if_f hf hc11
        refine V_aload_n dX7_way_29 rfl ?_
        refine V_iconst dX7_way_30 kc_1 ?_
        obtain ⟨σ12, hs13, hf⟩ := st1_ex hf
        refine VM_putZ fwX7_564 (by decide) hs13 dX7_way_31 ?_
        refine V_aload_n dX7_way_34 rfl ?_
        refine V_iconst dX7_way_35 kc_0 ?_
        obtain ⟨σ14, hs15, hf⟩ := st1_ex hf
        refine VM_putI fwX7_561 hs15 dX7_way_36 ?_
        refine V_iconst dX7_way_39 kc_0 ?_
        refine V_istore_n (ls' := [some (.ref h), some (.int p0), some (.int p1), some (.int (0 : Int32)), none, none, none]) dX7_way_40 (by decide) rfl ?_
        refine V_iconst dX7_way_41 kc_0 ?_
        refine V_istore (ls' := [some (.ref h), some (.int p0), some (.int p1), some (.int (0 : Int32)), some (.int (0 : Int32)), none, none]) dX7_way_42 (by decide) rfl ?_
        exact lq5_ex (P := fun v1 v2 v3 v4 σ => V X cX7_way RX7 7 5 (wM z h σ) 44 [some (.ref h), some (.int v1), some (.int v2), some (.int v3), some (.int v4), none, none] []) (fun k hk v1 v2 v3 v4 σ hf => mM_way_44_v hE k hk v1 v2 v3 v4 σ hf) LF p0 p1 (0 : Int32) (0 : Int32) σ14 hf
      · have hf := if_t hf hc11
        refine V_iconst dX7_way_27 kc_m1 ?_
        cases some_ex hf
        exact V_iret hE dX7_way_28
set_option maxHeartbeats 4000000 in
theorem mM_leg_ok (l : Launch) (D : DD) (z : ZZ) (h : Nat) (p0 : Int32) (p1 : Int32) (σ : SM) (r : Int32) (σ' : SM) (hf : mM_leg p0 p1 σ = some (r, σ')) : MA l D yX7_leg cX7_leg 3 (some .int) 2 [.ref h, .int p0, .int p1] (wM z h σ) (.returned (some (.int r))) (wM z h σ') := by
  refine MA.intro (own := RX7) (nm := "leg") (ls := [some (.ref h), some (.int p0), some (.int p1)]) (by decide) rfl rfl (Nat.le_of_ble_eq_true rfl) rfl (fun X hl hD hE => ?_)
  subst hl hD
  unfold mM_leg at hf
  refine V_aload_n dX7_leg_0 rfl ?_
  refine V_iconst dX7_leg_1 kc_0 ?_
  obtain ⟨σ1, hs2, hf⟩ := st1_ex hf
  refine VM_putI fwX7_113 hs2 dX7_leg_2 ?_
  refine V_aload_n dX7_leg_5 rfl ?_
  refine VM_getI fX7_564 rfl dX7_leg_6 ?_
  refine V_if_eq (tgt := 28) dX7_leg_9 (by decide) (fun hc3 => ?_) (fun hc3 => ?_)
  · have hf := if_t hf hc3
    refine V_iconst dX7_leg_28 kc_m1 ?_
    refine V_goto (tgt := 60) dX7_leg_29 (by decide) ?_
    cases some_ex hf
    exact V_iret hE dX7_leg_60
  · have hf := if_f hf hc3
    refine V_iload_n dX7_leg_12 rfl ?_
    refine V_i2l dX7_leg_13 ?_
    refine V_lconst dX7_leg_14 kl_0 ?_
    refine V_aload_n dX7_leg_15 rfl ?_
    refine VM_getI fX7_561 rfl dX7_leg_16 ?_
    refine V_i2l dX7_leg_19 ?_
    refine V_lconst dX7_leg_20 kl_1 ?_
    refine V_lsub dX7_leg_21 ?_
    obtain ⟨r5, hc4, hf⟩ := bd1_ex hf
    refine V_cS (rest := []) (st' := [.int r5]) (mM_in_ok _ _ _ _ _ _ _ hc4) scX7_121 (by decide) rfl rfl (Nat.le_of_ble_eq_true rfl) dX7_leg_22 rfl ?_
    refine V_if_ne (tgt := 32) dX7_leg_25 (by decide) (fun hc6 => ?_) (fun hc6 => ?_)
    · have hf := if_f hf hc6
      refine V_iload_n dX7_leg_32 rfl ?_
      refine V_if_ne (tgt := 45) dX7_leg_33 (by decide) (fun hc7 => ?_) (fun hc7 => ?_)
      · have hf := if_f hf hc7
        refine V_iload_n dX7_leg_45 rfl ?_
        refine V_iconst dX7_leg_46 kc_1 ?_
        refine V_icmp_ne (tgt := 59) dX7_leg_47 (by decide) (fun hc8 => ?_) (fun hc8 => ?_)
        · have hf := if_f hf hc8
          refine V_iconst dX7_leg_59 kc_m1 ?_
          cases some_ex hf
          exact V_iret hE dX7_leg_60
        · have hf := if_t hf hc8
          refine V_aload_n dX7_leg_50 rfl ?_
          refine VM_getR fX7_104 ⟨rfl, rfl⟩ rfl dX7_leg_51 ?_
          refine V_iload_n dX7_leg_54 rfl ?_
          obtain ⟨hb9, hf⟩ := ck_ex hf
          refine VM_ldI (n := 7) (k := p0.toNatClampNeg) rfl hb9 rfl dX7_leg_55 ?_
          refine V_goto (tgt := 60) dX7_leg_56 (by decide) ?_
          cases some_ex hf
          exact V_iret hE dX7_leg_60
      · have hf := if_t hf hc7
        refine V_aload_n dX7_leg_36 rfl ?_
        refine VM_getR fX7_101 ⟨rfl, rfl⟩ rfl dX7_leg_37 ?_
        refine V_iload_n dX7_leg_40 rfl ?_
        obtain ⟨hb10, hf⟩ := ck_ex hf
        refine VM_ldI (n := 7) (k := p0.toNatClampNeg) rfl hb10 rfl dX7_leg_41 ?_
        refine V_goto (tgt := 60) dX7_leg_42 (by decide) ?_
        cases some_ex hf
        exact V_iret hE dX7_leg_60
    · have hf := if_t hf hc6
      refine V_iconst dX7_leg_28 kc_m1 ?_
      refine V_goto (tgt := 60) dX7_leg_29 (by decide) ?_
      cases some_ex hf
      exact V_iret hE dX7_leg_60
set_option maxHeartbeats 4000000 in
theorem mM_choose_18_v {X : CX} {w0 : AH} {w : AH} {r : Int64} (hE : XE X w0 1 (some .long) "choose" (.returned (some (.long r))) w) (k18 : Int32 → Int32 → Int64 → Int32 → Option (Int64)) (hk18 : ∀ (v0 : Int32) (v1 : Int32) (v2 : Int64) (v4 : Int32), k18 v0 v1 v2 v4 = some r → V X cX7_choose RX7 5 1 w 18 [some (.int v0), some (.int v1), some (.long v2), none, some (.int v4)] []) (v0 : Int32) (v1 : Int32) (v2 : Int64) (v4 : Int32) (hf : mM_choose_18 k18 v0 v1 v2 v4 = some r) : V X cX7_choose RX7 5 1 w 18 [some (.int v0), some (.int v1), some (.long v2), none, some (.int v4)] [] := by
  unfold mM_choose_18 at hf
  refine V_iload dX7_choose_18 rfl ?_
  refine V_iload_n dX7_choose_20 rfl ?_
  refine V_icmp_ge (tgt := 50) dX7_choose_21 (by decide) (fun hc1 => ?_) (fun hc1 => ?_)
  · have hf := if_t hf hc1
    refine V_lload_n dX7_choose_50 rfl ?_
    cases some_ex hf
    exact V_lret hE dX7_choose_51
  · have hf := if_f hf hc1
    refine V_lload_n dX7_choose_24 rfl ?_
    refine V_lconst dX7_choose_25 kl_0 ?_
    refine V_lif_le (tgt := 50) dX7_choose_26 dX7_choose_27 (by decide) (fun hc2 => ?_) (fun hc2 => ?_)
    · have hf := if_t hf hc2
      refine V_lload_n dX7_choose_50 rfl ?_
      cases some_ex hf
      exact V_lret hE dX7_choose_51
    · have hf := if_f hf hc2
      refine V_lload_n dX7_choose_30 rfl ?_
      refine V_iload_n dX7_choose_31 rfl ?_
      refine V_iload dX7_choose_32 rfl ?_
      refine V_isub dX7_choose_34 ?_
      refine V_i2l dX7_choose_35 ?_
      refine V_lmul dX7_choose_36 ?_
      refine V_iload dX7_choose_37 rfl ?_
      refine V_iconst dX7_choose_39 kc_1 ?_
      refine V_iadd dX7_choose_40 ?_
      refine V_i2l dX7_choose_41 ?_
      obtain ⟨hz3, hf⟩ := nzL_ex hf
      refine V_ldiv dX7_choose_42 hz3 ?_
      refine V_lstore_n (ls' := [some (.int v0), some (.int v1), some (.long ((v2 * (v0 - v4).toInt64) / (v4 + (1 : Int32)).toInt64)), none, some (.int v4)]) dX7_choose_43 (by decide) rfl ?_
      refine V_inc (ls' := [some (.int v0), some (.int v1), some (.long ((v2 * (v0 - v4).toInt64) / (v4 + (1 : Int32)).toInt64)), none, some (.int (v4 + (1 : Int32)))]) dX7_choose_44 rfl kc_1 (by decide) rfl ?_
      refine V_goto (tgt := 18) dX7_choose_47 (by decide) ?_
      exact hk18 v0 v1 ((v2 * (v0 - v4).toInt64) / (v4 + (1 : Int32)).toInt64) (v4 + (1 : Int32)) hf
set_option maxHeartbeats 4000000 in
theorem mM_choose_14_v {X : CX} {w0 : AH} {w : AH} {r : Int64} (hE : XE X w0 1 (some .long) "choose" (.returned (some (.long r))) w) (v0 : Int32) (v1 : Int32) (t0 : Int64) (hf : mM_choose_14 v0 v1 t0 = some r) : V X cX7_choose RX7 5 1 w 14 [some (.int v0), some (.int v1), none, none, none] [.long t0] := by
  unfold mM_choose_14 at hf
  refine V_lstore_n (ls' := [some (.int v0), some (.int v1), some (.long t0), none, none]) dX7_choose_14 (by decide) rfl ?_
  refine V_iconst dX7_choose_15 kc_0 ?_
  refine V_istore (ls' := [some (.int v0), some (.int v1), some (.long t0), none, some (.int (0 : Int32))]) dX7_choose_16 (by decide) rfl ?_
  exact lq4_ex (P := fun v0 v1 v2 v4 => V X cX7_choose RX7 5 1 w 18 [some (.int v0), some (.int v1), some (.long v2), none, some (.int v4)] []) (fun k hk v0 v1 v2 v4 hf => mM_choose_18_v hE k hk v0 v1 v2 v4 hf) LF v0 v1 t0 (0 : Int32) hf
set_option maxHeartbeats 4000000 in
theorem mM_choose_9_v {X : CX} {w0 : AH} {w : AH} {r : Int64} (hE : XE X w0 1 (some .long) "choose" (.returned (some (.long r))) w) (v0 : Int32) (v1 : Int32) (hf : mM_choose_9 v0 v1 = some r) : V X cX7_choose RX7 5 1 w 9 [some (.int v0), some (.int v1), none, none, none] [] := by
  unfold mM_choose_9 at hf
  refine V_lconst dX7_choose_9 kl_0 ?_
  refine V_goto (tgt := 14) dX7_choose_10 (by decide) ?_
  exact mM_choose_14_v hE v0 v1 (0 : Int64) hf
set_option maxHeartbeats 4000000 in
theorem mM_choose_ok (l : Launch) (D : DD) (w : AH) (p0 : Int32) (p1 : Int32) (r : Int64) (hf : mM_choose p0 p1 = some r) : MA l D yX7_choose cX7_choose 5 (some .long) 1 [.int p0, .int p1] w (.returned (some (.long r))) w := by
  refine MA.intro (own := RX7) (nm := "choose") (ls := [some (.int p0), some (.int p1), none, none, none]) (by decide) rfl rfl (Nat.le_of_ble_eq_true rfl) rfl (fun X hl hD hE => ?_)
  subst hl hD
  unfold mM_choose at hf
  refine V_iload_n dX7_choose_0 rfl ?_
  refine V_if_lt (tgt := 9) dX7_choose_1 (by decide) (fun hc1 => ?_) (fun hc1 => ?_)
  · have hf := if_t hf hc1
    exact mM_choose_9_v hE p0 p1 hf
  · have hf := if_f hf hc1
    refine V_iload_n dX7_choose_4 rfl ?_
    refine V_iload_n dX7_choose_5 rfl ?_
    refine V_icmp_le (tgt := 13) dX7_choose_6 (by decide) (fun hc2 => ?_) (fun hc2 => ?_)
    · have hf := if_t hf hc2
      refine V_lconst dX7_choose_13 kl_1 ?_
      exact mM_choose_14_v hE p0 p1 (1 : Int64) hf
    · have hf := if_f hf hc2
      exact mM_choose_9_v hE p0 p1 hf
set_option maxHeartbeats 4000000 in
theorem mM_mayBe_65_v {X : CX} {w0 : AH} {w : AH} {r : Int32} (hE : XE X w0 2 (some .boolean) "mayBe" (.returned (some (.int r))) w) (k9 : Int32 → Int32 → Int32 → Int32 → Int64 → Int64 → Int32 → Option (Int32)) (hk9 : ∀ (v0 : Int32) (v1 : Int32) (v2 : Int32) (v3 : Int32) (v4 : Int64) (v6 : Int64) (v8 : Int32), k9 v0 v1 v2 v3 v4 v6 v8 = some r → V X cX7_mayBe RX7 11 2 w 9 [some (.int v0), some (.int v1), some (.int v2), some (.int v3), some (.long v4), none, some (.long v6), none, some (.int v8), none, none] []) (v0 : Int32) (v1 : Int32) (v2 : Int32) (v3 : Int32) (v4 : Int64) (v8 : Int32) (t0 : Int64) (t1 : Int64) (hf : mM_mayBe_65 k9 v0 v1 v2 v3 v4 v8 t0 t1 = some r) : V X cX7_mayBe RX7 11 2 w 65 [some (.int v0), some (.int v1), some (.int v2), some (.int v3), some (.long v4), none, none, none, some (.int v8), none, none] [.long t0, .long t1] := by
  unfold mM_mayBe_65 at hf
  refine V_ladd dX7_mayBe_65 ?_
  refine V_lstore (ls' := [some (.int v0), some (.int v1), some (.int v2), some (.int v3), some (.long v4), none, some (.long (t1 + t0)), none, some (.int v8), none, none]) dX7_mayBe_66 (by decide) rfl ?_
  refine V_inc (ls' := [some (.int v0), some (.int v1), some (.int v2), some (.int v3), some (.long v4), none, some (.long (t1 + t0)), none, some (.int (v8 + (1 : Int32))), none, none]) dX7_mayBe_68 rfl kc_1 (by decide) rfl ?_
  refine V_goto (tgt := 9) dX7_mayBe_71 (by decide) ?_
  exact hk9 v0 v1 v2 v3 v4 (t1 + t0) (v8 + (1 : Int32)) hf
set_option maxHeartbeats 4000000 in
theorem mM_mayBe_48_v {X : CX} {w0 : AH} {w : AH} {r : Int32} (hE : XE X w0 2 (some .boolean) "mayBe" (.returned (some (.int r))) w) (k9 : Int32 → Int32 → Int32 → Int32 → Int64 → Int64 → Int32 → Option (Int32)) (hk9 : ∀ (v0 : Int32) (v1 : Int32) (v2 : Int32) (v3 : Int32) (v4 : Int64) (v6 : Int64) (v8 : Int32), k9 v0 v1 v2 v3 v4 v6 v8 = some r → V X cX7_mayBe RX7 11 2 w 9 [some (.int v0), some (.int v1), some (.int v2), some (.int v3), some (.long v4), none, some (.long v6), none, some (.int v8), none, none] []) (v0 : Int32) (v1 : Int32) (v2 : Int32) (v3 : Int32) (v6 : Int64) (v8 : Int32) (v9 : Int64) (t0 : Int64) (t1 : Int64) (hf : mM_mayBe_48 k9 v0 v1 v2 v3 v6 v8 v9 t0 t1 = some r) : V X cX7_mayBe RX7 11 2 w 48 [some (.int v0), some (.int v1), some (.int v2), some (.int v3), none, none, some (.long v6), none, some (.int v8), some (.long v9), none] [.long t0, .long t1] := by
  unfold mM_mayBe_48 at hf
  refine V_ladd dX7_mayBe_48 ?_
  refine V_lstore (ls' := [some (.int v0), some (.int v1), some (.int v2), some (.int v3), some (.long (t1 + t0)), none, some (.long v6), none, some (.int v8), some (.long v9), none]) dX7_mayBe_49 (by decide) rfl ?_
  refine V_lload dX7_mayBe_51 rfl ?_
  refine V_iload dX7_mayBe_53 rfl ?_
  refine V_iload_n dX7_mayBe_55 rfl ?_
  refine V_icmp_lt (tgt := 64) dX7_mayBe_56 (by decide) (fun hc1 => ?_) (fun hc1 => ?_)
  · have hf := if_t hf hc1
    refine V_lconst dX7_mayBe_64 kl_0 ?_
    refine V_keep [true, true, true, true, true, true, false, true, true, false, true] rfl ?_
    exact mM_mayBe_65_v hE k9 hk9 v0 v1 v2 v3 (t1 + t0) v8 (0 : Int64) v6 hf
  · have hf := if_f hf hc1
    refine V_lload dX7_mayBe_59 rfl ?_
    refine V_goto (tgt := 65) dX7_mayBe_61 (by decide) ?_
    refine V_keep [true, true, true, true, true, true, false, true, true, false, true] rfl ?_
    exact mM_mayBe_65_v hE k9 hk9 v0 v1 v2 v3 (t1 + t0) v8 v9 v6 hf
set_option maxHeartbeats 4000000 in
theorem mM_mayBe_9_v {X : CX} {w0 : AH} {w : AH} {r : Int32} (hE : XE X w0 2 (some .boolean) "mayBe" (.returned (some (.int r))) w) (k9 : Int32 → Int32 → Int32 → Int32 → Int64 → Int64 → Int32 → Option (Int32)) (hk9 : ∀ (v0 : Int32) (v1 : Int32) (v2 : Int32) (v3 : Int32) (v4 : Int64) (v6 : Int64) (v8 : Int32), k9 v0 v1 v2 v3 v4 v6 v8 = some r → V X cX7_mayBe RX7 11 2 w 9 [some (.int v0), some (.int v1), some (.int v2), some (.int v3), some (.long v4), none, some (.long v6), none, some (.int v8), none, none] []) (v0 : Int32) (v1 : Int32) (v2 : Int32) (v3 : Int32) (v4 : Int64) (v6 : Int64) (v8 : Int32) (hf : mM_mayBe_9 k9 v0 v1 v2 v3 v4 v6 v8 = some r) : V X cX7_mayBe RX7 11 2 w 9 [some (.int v0), some (.int v1), some (.int v2), some (.int v3), some (.long v4), none, some (.long v6), none, some (.int v8), none, none] [] := by
  unfold mM_mayBe_9 at hf
  refine V_iload dX7_mayBe_9 rfl ?_
  refine V_iload_n dX7_mayBe_11 rfl ?_
  refine V_icmp_gt (tgt := 74) dX7_mayBe_12 (by decide) (fun hc1 => ?_) (fun hc1 => ?_)
  · have hf := if_t hf hc1
    refine V_iload_n dX7_mayBe_74 rfl ?_
    refine V_iload_n dX7_mayBe_75 rfl ?_
    obtain ⟨r3, hc2, hf⟩ := bd1_ex hf
    refine V_cS (rest := []) (st' := [.long r3]) (mM_choose_ok _ _ _ _ _ _ hc2) scX7_576 (by decide) rfl rfl (Nat.le_of_ble_eq_true rfl) dX7_mayBe_76 rfl ?_
    refine V_lstore (ls' := [some (.int v0), some (.int v1), some (.int v2), some (.int v3), some (.long v4), none, some (.long v6), none, some (.long r3), none, none]) dX7_mayBe_79 (by decide) rfl ?_
    refine V_ldc2 q2270 dX7_mayBe_81 ?_
    refine V_lload dX7_mayBe_84 rfl ?_
    refine V_lmul dX7_mayBe_86 ?_
    refine V_lload dX7_mayBe_87 rfl ?_
    refine V_lif_lt (tgt := 109) dX7_mayBe_89 dX7_mayBe_90 (by decide) (fun hc4 => ?_) (fun hc4 => ?_)
    · have hf := if_t hf hc4
      refine V_iconst dX7_mayBe_109 kc_0 ?_
      cases some_ex hf
      exact V_zret hE (by decide) dX7_mayBe_110
    · have hf := if_f hf hc4
      refine V_ldc2 q2270 dX7_mayBe_93 ?_
      refine V_lload dX7_mayBe_96 rfl ?_
      refine V_lmul dX7_mayBe_98 ?_
      refine V_lload dX7_mayBe_99 rfl ?_
      refine V_lif_lt (tgt := 109) dX7_mayBe_101 dX7_mayBe_102 (by decide) (fun hc5 => ?_) (fun hc5 => ?_)
      · have hf := if_t hf hc5
        refine V_iconst dX7_mayBe_109 kc_0 ?_
        cases some_ex hf
        exact V_zret hE (by decide) dX7_mayBe_110
      · have hf := if_f hf hc5
        refine V_iconst dX7_mayBe_105 kc_1 ?_
        refine V_goto (tgt := 110) dX7_mayBe_106 (by decide) ?_
        cases some_ex hf
        exact V_zret hE (by decide) dX7_mayBe_110
  · have hf := if_f hf hc1
    refine V_iload_n dX7_mayBe_15 rfl ?_
    refine V_iload dX7_mayBe_16 rfl ?_
    obtain ⟨r7, hc6, hf⟩ := bd1_ex hf
    refine V_cS (rest := []) (st' := [.long r7]) (mM_choose_ok _ _ _ _ _ _ hc6) scX7_576 (by decide) rfl rfl (Nat.le_of_ble_eq_true rfl) dX7_mayBe_18 rfl ?_
    refine V_iload_n dX7_mayBe_21 rfl ?_
    refine V_iload_n dX7_mayBe_22 rfl ?_
    refine V_isub dX7_mayBe_23 ?_
    refine V_iload_n dX7_mayBe_24 rfl ?_
    refine V_iload dX7_mayBe_25 rfl ?_
    refine V_isub dX7_mayBe_27 ?_
    obtain ⟨r9, hc8, hf⟩ := bd1_ex hf
    refine V_cS (rest := [.long r7]) (st' := [.long r9, .long r7]) (mM_choose_ok _ _ _ _ _ _ hc8) scX7_576 (by decide) rfl rfl (Nat.le_of_ble_eq_true rfl) dX7_mayBe_28 rfl ?_
    refine V_lmul dX7_mayBe_31 ?_
    refine V_lstore (ls' := [some (.int v0), some (.int v1), some (.int v2), some (.int v3), some (.long v4), none, some (.long v6), none, some (.int v8), some (.long (r7 * r9)), none]) dX7_mayBe_32 (by decide) rfl ?_
    refine V_lload dX7_mayBe_34 rfl ?_
    refine V_iload dX7_mayBe_36 rfl ?_
    refine V_iload_n dX7_mayBe_38 rfl ?_
    refine V_icmp_gt (tgt := 47) dX7_mayBe_39 (by decide) (fun hc10 => ?_) (fun hc10 => ?_)
    · have hf := if_t hf hc10
      refine V_lconst dX7_mayBe_47 kl_0 ?_
      refine V_keep [true, true, true, true, false, true, true, true, true, true, true] rfl ?_
      exact mM_mayBe_48_v hE k9 hk9 v0 v1 v2 v3 v6 v8 (r7 * r9) (0 : Int64) v4 hf
    · have hf := if_f hf hc10
      refine V_lload dX7_mayBe_42 rfl ?_
      refine V_goto (tgt := 48) dX7_mayBe_44 (by decide) ?_
      refine V_keep [true, true, true, true, false, true, true, true, true, true, true] rfl ?_
      exact mM_mayBe_48_v hE k9 hk9 v0 v1 v2 v3 v6 v8 (r7 * r9) (r7 * r9) v4 hf
set_option maxHeartbeats 4000000 in
theorem mM_mayBe_ok (l : Launch) (D : DD) (w : AH) (p0 : Int32) (p1 : Int32) (p2 : Int32) (p3 : Int32) (r : Int32) (hf : mM_mayBe p0 p1 p2 p3 = some r) : MA l D yX7_mayBe cX7_mayBe 11 (some .boolean) 2 [.int p0, .int p1, .int p2, .int p3] w (.returned (some (.int r))) w := by
  refine MA.intro (own := RX7) (nm := "mayBe") (ls := [some (.int p0), some (.int p1), some (.int p2), some (.int p3), none, none, none, none, none, none, none]) (by decide) rfl rfl (Nat.le_of_ble_eq_true rfl) rfl (fun X hl hD hE => ?_)
  subst hl hD
  unfold mM_mayBe at hf
  refine V_lconst dX7_mayBe_0 kl_0 ?_
  refine V_lstore (ls' := [some (.int p0), some (.int p1), some (.int p2), some (.int p3), some (.long (0 : Int64)), none, none, none, none, none, none]) dX7_mayBe_1 (by decide) rfl ?_
  refine V_lconst dX7_mayBe_3 kl_0 ?_
  refine V_lstore (ls' := [some (.int p0), some (.int p1), some (.int p2), some (.int p3), some (.long (0 : Int64)), none, some (.long (0 : Int64)), none, none, none, none]) dX7_mayBe_4 (by decide) rfl ?_
  refine V_iconst dX7_mayBe_6 kc_0 ?_
  refine V_istore (ls' := [some (.int p0), some (.int p1), some (.int p2), some (.int p3), some (.long (0 : Int64)), none, some (.long (0 : Int64)), none, some (.int (0 : Int32)), none, none]) dX7_mayBe_7 (by decide) rfl ?_
  exact lq7_ex (P := fun v0 v1 v2 v3 v4 v6 v8 => V X cX7_mayBe RX7 11 2 w 9 [some (.int v0), some (.int v1), some (.int v2), some (.int v3), some (.long v4), none, some (.long v6), none, some (.int v8), none, none] []) (fun k hk v0 v1 v2 v3 v4 v6 v8 hf => mM_mayBe_9_v hE k hk v0 v1 v2 v3 v4 v6 v8 hf) LF p0 p1 p2 p3 (0 : Int64) (0 : Int64) (0 : Int32) hf
set_option maxHeartbeats 4000000 in
theorem mM_doors_103_v {X : CX} {w0 : AH} {z : ZZ} {h : Nat} {r : Int32} {σ' : SM} (hE : XE X w0 3 (some .int) "doors" (.returned (some (.int r))) (wM z h σ')) (k67 : Int32 → Int32 → Int32 → Int32 → Int32 → Int32 → Int32 → SM → Option (Int32 × SM)) (hk67 : ∀ (v1 : Int32) (v2 : Int32) (v3 : Int32) (v4 : Int32) (v5 : Int32) (v6 : Int32) (v7 : Int32) (σ : SM), k67 v1 v2 v3 v4 v5 v6 v7 σ = some (r, σ') → V X cX7_doors RX7 8 3 (wM z h σ) 67 [none, some (.int v1), some (.int v2), some (.int v3), some (.int v4), some (.int v5), some (.int v6), some (.int v7)] []) (v1 : Int32) (v2 : Int32) (v3 : Int32) (v4 : Int32) (v5 : Int32) (v6 : Int32) (v7 : Int32) (σ : SM) (hf : mM_doors_103 k67 v1 v2 v3 v4 v5 v6 v7 σ = some (r, σ')) : V X cX7_doors RX7 8 3 (wM z h σ) 103 [none, some (.int v1), some (.int v2), some (.int v3), some (.int v4), some (.int v5), some (.int v6), some (.int v7)] [] := by
  unfold mM_doors_103 at hf
  refine V_inc (ls' := [none, some (.int v1), some (.int v2), some (.int v3), some (.int v4), some (.int v5), some (.int v6), some (.int (v7 + (1 : Int32)))]) dX7_doors_103 rfl kc_1 (by decide) rfl ?_
  refine V_goto (tgt := 67) dX7_doors_106 (by decide) ?_
  exact hk67 v1 v2 v3 v4 v5 v6 (v7 + (1 : Int32)) σ hf
set_option maxHeartbeats 4000000 in
theorem mM_doors_97_v {X : CX} {w0 : AH} {z : ZZ} {h : Nat} {r : Int32} {σ' : SM} (hE : XE X w0 3 (some .int) "doors" (.returned (some (.int r))) (wM z h σ')) (k67 : Int32 → Int32 → Int32 → Int32 → Int32 → Int32 → Int32 → SM → Option (Int32 × SM)) (hk67 : ∀ (v1 : Int32) (v2 : Int32) (v3 : Int32) (v4 : Int32) (v5 : Int32) (v6 : Int32) (v7 : Int32) (σ : SM), k67 v1 v2 v3 v4 v5 v6 v7 σ = some (r, σ') → V X cX7_doors RX7 8 3 (wM z h σ) 67 [none, some (.int v1), some (.int v2), some (.int v3), some (.int v4), some (.int v5), some (.int v6), some (.int v7)] []) (v1 : Int32) (v2 : Int32) (v3 : Int32) (v4 : Int32) (v7 : Int32) (t0 : Int32) (σ : SM) (hf : mM_doors_97 k67 v1 v2 v3 v4 v7 t0 σ = some (r, σ')) : V X cX7_doors RX7 8 3 (wM z h σ) 97 [none, some (.int v1), some (.int v2), some (.int v3), some (.int v4), none, none, some (.int v7)] [.int t0] := by
  unfold mM_doors_97 at hf
  refine V_istore (ls' := [none, some (.int v1), some (.int v2), some (.int v3), some (.int v4), some (.int t0), none, some (.int v7)]) dX7_doors_97 (by decide) rfl ?_
  refine V_iload dX7_doors_99 rfl ?_
  refine V_istore (ls' := [none, some (.int v1), some (.int v2), some (.int v3), some (.int v4), some (.int t0), some (.int v7), some (.int v7)]) dX7_doors_101 (by decide) rfl ?_
  exact mM_doors_103_v hE k67 hk67 v1 v2 v3 v4 t0 v7 v7 σ hf
set_option maxHeartbeats 4000000 in
theorem mM_doors_67_v {X : CX} {w0 : AH} {z : ZZ} {h : Nat} {r : Int32} {σ' : SM} (hE : XE X w0 3 (some .int) "doors" (.returned (some (.int r))) (wM z h σ')) (k67 : Int32 → Int32 → Int32 → Int32 → Int32 → Int32 → Int32 → SM → Option (Int32 × SM)) (hk67 : ∀ (v1 : Int32) (v2 : Int32) (v3 : Int32) (v4 : Int32) (v5 : Int32) (v6 : Int32) (v7 : Int32) (σ : SM), k67 v1 v2 v3 v4 v5 v6 v7 σ = some (r, σ') → V X cX7_doors RX7 8 3 (wM z h σ) 67 [none, some (.int v1), some (.int v2), some (.int v3), some (.int v4), some (.int v5), some (.int v6), some (.int v7)] []) (v1 : Int32) (v2 : Int32) (v3 : Int32) (v4 : Int32) (v5 : Int32) (v6 : Int32) (v7 : Int32) (σ : SM) (hf : mM_doors_67 k67 v1 v2 v3 v4 v5 v6 v7 σ = some (r, σ')) : V X cX7_doors RX7 8 3 (wM z h σ) 67 [none, some (.int v1), some (.int v2), some (.int v3), some (.int v4), some (.int v5), some (.int v6), some (.int v7)] [] := by
  unfold mM_doors_67 at hf
  refine V_iload dX7_doors_67 rfl ?_
  refine V_iload_n dX7_doors_69 rfl ?_
  refine V_icmp_gt (tgt := 109) dX7_doors_70 (by decide) (fun hc1 => ?_) (fun hc1 => ?_)
  · have hf := if_t hf hc1
    refine V_iload dX7_doors_109 rfl ?_
    refine V_if_ne (tgt := 119) dX7_doors_111 (by decide) (fun hc2 => ?_) (fun hc2 => ?_)
    · have hf := if_f hf hc2
      refine V_iload dX7_doors_119 rfl ?_
      cases some_ex hf
      exact V_iret hE dX7_doors_121
    · have hf := if_t hf hc2
      refine V_iload dX7_doors_114 rfl ?_
      refine V_goto (tgt := 121) dX7_doors_116 (by decide) ?_
      cases some_ex hf
      exact V_iret hE dX7_doors_121
  · have hf := if_f hf hc1
    refine V_iload_n dX7_doors_73 rfl ?_
    refine V_iload_n dX7_doors_74 rfl ?_
    refine V_iload_n dX7_doors_75 rfl ?_
    refine V_iload dX7_doors_76 rfl ?_
    obtain ⟨r4, hc3, hf⟩ := bd1_ex hf
    refine V_cS (rest := []) (st' := [.int r4]) (mM_mayBe_ok _ _ _ _ _ _ _ _ hc3) scX7_584 (by decide) rfl rfl (Nat.le_of_ble_eq_true rfl) dX7_doors_78 rfl ?_
    refine V_if_eq (tgt := 103) dX7_doors_81 (by decide) (fun hc5 => ?_) (fun hc5 => ?_)
    · have hf := if_t hf hc5
      exact mM_doors_103_v hE k67 hk67 v1 v2 v3 v4 v5 v6 v7 σ hf
    · have hf := if_f hf hc5
      refine V_iload dX7_doors_84 rfl ?_
      refine V_iconst dX7_doors_86 kc_m1 ?_
      refine V_icmp_ne (tgt := 95) dX7_doors_87 (by decide) (fun hc6 => ?_) (fun hc6 => ?_)
      · have hf := if_f hf hc6
        refine V_iload dX7_doors_95 rfl ?_
        refine V_keep [true, true, true, true, true, false, false, true] rfl ?_
        exact mM_doors_97_v hE k67 hk67 v1 v2 v3 v4 v7 v5 σ hf
      · have hf := if_t hf hc6
        refine V_iload dX7_doors_90 rfl ?_
        refine V_goto (tgt := 97) dX7_doors_92 (by decide) ?_
        refine V_keep [true, true, true, true, true, false, false, true] rfl ?_
        exact mM_doors_97_v hE k67 hk67 v1 v2 v3 v4 v7 v7 σ hf
set_option maxHeartbeats 4000000 in
theorem mM_doors_ok (l : Launch) (D : DD) (z : ZZ) (h : Nat) (p0 : Int32) (p1 : Int32) (p2 : Int32) (p3 : Int32) (σ : SM) (r : Int32) (σ' : SM) (hf : mM_doors p0 p1 p2 p3 σ = some (r, σ')) : MA l D yX7_doors cX7_doors 8 (some .int) 3 [.ref h, .int p0, .int p1, .int p2, .int p3] (wM z h σ) (.returned (some (.int r))) (wM z h σ') := by
  refine MA.intro (own := RX7) (nm := "doors") (ls := [some (.ref h), some (.int p0), some (.int p1), some (.int p2), some (.int p3), none, none, none]) (by decide) rfl rfl (Nat.le_of_ble_eq_true rfl) rfl (fun X hl hD hE => ?_)
  subst hl hD
  unfold mM_doors at hf
  refine V_aload_n dX7_doors_0 rfl ?_
  refine V_iconst dX7_doors_1 kc_0 ?_
  obtain ⟨σ1, hs2, hf⟩ := st1_ex hf
  refine VM_putI fwX7_113 hs2 dX7_doors_2 ?_
  refine V_iload_n dX7_doors_5 rfl ?_
  refine V_i2l dX7_doors_6 ?_
  refine V_lconst dX7_doors_7 kl_1 ?_
  refine V_ldc2 q2494 dX7_doors_8 ?_
  obtain ⟨r4, hc3, hf⟩ := bd1_ex hf
  refine V_cS (rest := []) (st' := [.int r4]) (mM_in_ok _ _ _ _ _ _ _ hc3) scX7_121 (by decide) rfl rfl (Nat.le_of_ble_eq_true rfl) dX7_doors_11 rfl ?_
  refine V_if_eq (tgt := 56) dX7_doors_14 (by decide) (fun hc5 => ?_) (fun hc5 => ?_)
  · have hf := if_t hf hc5
    refine V_iconst dX7_doors_56 kc_m1 ?_
    cases some_ex hf
    exact V_iret hE dX7_doors_57
  · have hf := if_f hf hc5
    refine V_iload_n dX7_doors_17 rfl ?_
    refine V_i2l dX7_doors_18 ?_
    refine V_lconst dX7_doors_19 kl_1 ?_
    refine V_ldc2 q2495 dX7_doors_20 ?_
    obtain ⟨r7, hc6, hf⟩ := bd1_ex hf
    refine V_cS (rest := []) (st' := [.int r7]) (mM_in_ok _ _ _ _ _ _ _ hc6) scX7_121 (by decide) rfl rfl (Nat.le_of_ble_eq_true rfl) dX7_doors_23 rfl ?_
    refine V_if_eq (tgt := 56) dX7_doors_26 (by decide) (fun hc8 => ?_) (fun hc8 => ?_)
    · have hf := if_t hf hc8
      refine V_iconst dX7_doors_56 kc_m1 ?_
      cases some_ex hf
      exact V_iret hE dX7_doors_57
    · have hf := if_f hf hc8
      refine V_iload_n dX7_doors_29 rfl ?_
      refine V_iload_n dX7_doors_30 rfl ?_
      refine V_icmp_gt (tgt := 56) dX7_doors_31 (by decide) (fun hc9 => ?_) (fun hc9 => ?_)
      · have hf := if_t hf hc9
        refine V_iconst dX7_doors_56 kc_m1 ?_
        cases some_ex hf
        exact V_iret hE dX7_doors_57
      · have hf := if_f hf hc9
        refine V_iload_n dX7_doors_34 rfl ?_
        refine V_i2l dX7_doors_35 ?_
        refine V_lconst dX7_doors_36 kl_0 ?_
        refine V_iload_n dX7_doors_37 rfl ?_
        refine V_i2l dX7_doors_38 ?_
        obtain ⟨r11, hc10, hf⟩ := bd1_ex hf
        refine V_cS (rest := []) (st' := [.int r11]) (mM_in_ok _ _ _ _ _ _ _ hc10) scX7_121 (by decide) rfl rfl (Nat.le_of_ble_eq_true rfl) dX7_doors_39 rfl ?_
        refine V_if_eq (tgt := 56) dX7_doors_42 (by decide) (fun hc12 => ?_) (fun hc12 => ?_)
        · have hf := if_t hf hc12
          refine V_iconst dX7_doors_56 kc_m1 ?_
          cases some_ex hf
          exact V_iret hE dX7_doors_57
        · have hf := if_f hf hc12
          refine V_iload dX7_doors_45 rfl ?_
          refine V_i2l dX7_doors_47 ?_
          refine V_lconst dX7_doors_48 kl_0 ?_
          refine V_lconst dX7_doors_49 kl_1 ?_
          obtain ⟨r14, hc13, hf⟩ := bd1_ex hf
          refine V_cS (rest := []) (st' := [.int r14]) (mM_in_ok _ _ _ _ _ _ _ hc13) scX7_121 (by decide) rfl rfl (Nat.le_of_ble_eq_true rfl) dX7_doors_50 rfl ?_
          refine V_if_ne (tgt := 58) dX7_doors_53 (by decide) (fun hc15 => ?_) (fun hc15 => ?_)
          · have hf := if_f hf hc15
            refine V_iconst dX7_doors_58 kc_m1 ?_
            refine V_istore (ls' := [some (.ref h), some (.int p0), some (.int p1), some (.int p2), some (.int p3), some (.int (-1 : Int32)), none, none]) dX7_doors_59 (by decide) rfl ?_
            refine V_iconst dX7_doors_61 kc_m1 ?_
            refine V_istore (ls' := [some (.ref h), some (.int p0), some (.int p1), some (.int p2), some (.int p3), some (.int (-1 : Int32)), some (.int (-1 : Int32)), none]) dX7_doors_62 (by decide) rfl ?_
            refine V_iconst dX7_doors_64 kc_0 ?_
            refine V_istore (ls' := [some (.ref h), some (.int p0), some (.int p1), some (.int p2), some (.int p3), some (.int (-1 : Int32)), some (.int (-1 : Int32)), some (.int (0 : Int32))]) dX7_doors_65 (by decide) rfl ?_
            refine V_keep [false, true, true, true, true, true, true, true] rfl ?_
            exact lq8_ex (P := fun v1 v2 v3 v4 v5 v6 v7 σ => V X cX7_doors RX7 8 3 (wM z h σ) 67 [none, some (.int v1), some (.int v2), some (.int v3), some (.int v4), some (.int v5), some (.int v6), some (.int v7)] []) (fun k hk v1 v2 v3 v4 v5 v6 v7 σ hf => mM_doors_67_v hE k hk v1 v2 v3 v4 v5 v6 v7 σ hf) LF p0 p1 p2 p3 (-1 : Int32) (-1 : Int32) (0 : Int32) σ1 hf
          · have hf := if_t hf hc15
            refine V_iconst dX7_doors_56 kc_m1 ?_
            cases some_ex hf
            exact V_iret hE dX7_doors_57
set_option maxHeartbeats 4000000 in
theorem mM_addBooth_101_v {X : CX} {w0 : AH} {z : ZZ} {h : Nat} {σ' : SM} (hE : XE X w0 2 none "addBooth" (.returned none) (wM z h σ')) (k17 : Int32 → Int32 → SM → Option (SM)) (hk17 : ∀ (v1 : Int32) (v2 : Int32) (σ : SM), k17 v1 v2 σ = some σ' → V X cX7_addBooth RX7 3 2 (wM z h σ) 17 [some (.ref h), some (.int v1), some (.int v2)] []) (v1 : Int32) (v2 : Int32) (σ : SM) (hf : mM_addBooth_101 k17 v1 v2 σ = some σ') : V X cX7_addBooth RX7 3 2 (wM z h σ) 101 [some (.ref h), some (.int v1), some (.int v2)] [] := by
  unfold mM_addBooth_101 at hf
  refine V_inc (ls' := [some (.ref h), some (.int v1), some (.int (v2 + (1 : Int32)))]) dX7_addBooth_101 rfl kc_1 (by decide) rfl ?_
  refine V_goto (tgt := 17) dX7_addBooth_104 (by decide) ?_
  exact hk17 v1 (v2 + (1 : Int32)) σ hf
set_option maxHeartbeats 4000000 in
theorem mM_addBooth_17_v {X : CX} {w0 : AH} {z : ZZ} {h : Nat} {σ' : SM} (hE : XE X w0 2 none "addBooth" (.returned none) (wM z h σ')) (k17 : Int32 → Int32 → SM → Option (SM)) (hk17 : ∀ (v1 : Int32) (v2 : Int32) (σ : SM), k17 v1 v2 σ = some σ' → V X cX7_addBooth RX7 3 2 (wM z h σ) 17 [some (.ref h), some (.int v1), some (.int v2)] []) (v1 : Int32) (v2 : Int32) (σ : SM) (hf : mM_addBooth_17 k17 v1 v2 σ = some σ') : V X cX7_addBooth RX7 3 2 (wM z h σ) 17 [some (.ref h), some (.int v1), some (.int v2)] [] := by
  unfold mM_addBooth_17 at hf
  refine V_iload_n dX7_addBooth_17 rfl ?_
  refine V_aload_n dX7_addBooth_18 rfl ?_
  refine VM_getR fX7_7 ⟨rfl, rfl⟩ rfl dX7_addBooth_19 ?_
  refine V_bipush dX7_addBooth_22 kb_6 ?_
  refine VM_ldI (n := 23016) (k := 6) rfl (by decide) (by decide) dX7_addBooth_24 ?_
  refine V_icmp_ge (tgt := 107) dX7_addBooth_25 (by decide) (fun hc1 => ?_) (fun hc1 => ?_)
  · have hf := if_t hf hc1
    cases some_ex hf
    exact V_vret hE dX7_addBooth_107
  · have hf := if_f hf hc1
    refine V_aload_n dX7_addBooth_28 rfl ?_
    refine V_iload_n dX7_addBooth_29 rfl ?_
    obtain ⟨r3, hc2, hf⟩ := bd1_ex hf
    refine V_cV (av := [.int v2]) (rest := []) (st' := [.int r3]) (mM_boothOf_ok _ _ _ _ _ _ _ hc2) vcX7_517 (wM_k0 _ _ _) (by decide) rfl rfl (Nat.le_of_ble_eq_true rfl) dX7_addBooth_30 rfl ?_
    refine V_iload_n dX7_addBooth_33 rfl ?_
    refine V_icmp_ne (tgt := 101) dX7_addBooth_34 (by decide) (fun hc4 => ?_) (fun hc4 => ?_)
    · have hf := if_f hf hc4
      exact mM_addBooth_101_v hE k17 hk17 v1 v2 σ hf
    · have hf := if_t hf hc4
      refine V_aload_n dX7_addBooth_37 rfl ?_
      refine V_dup dX7_addBooth_38 rfl ?_
      refine VM_getI fX7_587 rfl dX7_addBooth_39 ?_
      refine V_iconst dX7_addBooth_42 kc_1 ?_
      refine V_iadd dX7_addBooth_43 ?_
      obtain ⟨σ5, hs6, hf⟩ := st1_ex hf
      refine VM_putI fwX7_587 hs6 dX7_addBooth_44 ?_
      refine V_aload_n dX7_addBooth_47 rfl ?_
      refine V_dup dX7_addBooth_48 rfl ?_
      refine VM_getL fX7_590 dX7_addBooth_49 ?_
      refine V_aload_n dX7_addBooth_52 rfl ?_
      refine VM_getR fX7_7 ⟨rfl, rfl⟩ rfl dX7_addBooth_53 ?_
      refine V_sipush dX7_addBooth_56 ks_4008 ?_
      refine V_iconst dX7_addBooth_59 kc_5 ?_
      refine V_iload_n dX7_addBooth_60 rfl ?_
      refine V_imul dX7_addBooth_61 ?_
      refine V_iadd dX7_addBooth_62 ?_
      refine V_iconst dX7_addBooth_63 kc_3 ?_
      refine V_iadd dX7_addBooth_64 ?_
      obtain ⟨hb7, hf⟩ := ck_ex hf
      refine VM_ldI (n := 23016) (k := (((4008 : Int32) + ((5 : Int32) * v2)) + (3 : Int32)).toNatClampNeg) rfl hb7 rfl dX7_addBooth_65 ?_
      refine V_i2l dX7_addBooth_66 ?_
      refine V_ladd dX7_addBooth_67 ?_
      obtain ⟨σ8, hs9, hf⟩ := st1_ex hf
      refine VM_putL fwX7_590 hs9 dX7_addBooth_68 ?_
      refine V_aload_n dX7_addBooth_71 rfl ?_
      refine V_dup dX7_addBooth_72 rfl ?_
      refine VM_getL fX7_593 dX7_addBooth_73 ?_
      refine V_aload_n dX7_addBooth_76 rfl ?_
      refine VM_getR fX7_7 ⟨rfl, rfl⟩ rfl dX7_addBooth_77 ?_
      refine V_sipush dX7_addBooth_80 ks_4008 ?_
      refine V_iconst dX7_addBooth_83 kc_5 ?_
      refine V_iload_n dX7_addBooth_84 rfl ?_
      refine V_imul dX7_addBooth_85 ?_
      refine V_iadd dX7_addBooth_86 ?_
      refine V_iconst dX7_addBooth_87 kc_3 ?_
      refine V_iadd dX7_addBooth_88 ?_
      obtain ⟨hb10, hf⟩ := ck_ex hf
      refine VM_ldI (n := 23016) (k := (((4008 : Int32) + ((5 : Int32) * v2)) + (3 : Int32)).toNatClampNeg) rfl hb10 rfl dX7_addBooth_89 ?_
      refine V_i2l dX7_addBooth_90 ?_
      refine V_aload_n dX7_addBooth_91 rfl ?_
      refine VM_getI fX7_587 rfl dX7_addBooth_92 ?_
      refine V_i2l dX7_addBooth_95 ?_
      refine V_lmul dX7_addBooth_96 ?_
      refine V_ladd dX7_addBooth_97 ?_
      obtain ⟨σ11, hs12, hf⟩ := st1_ex hf
      refine VM_putL fwX7_593 hs12 dX7_addBooth_98 ?_
      exact mM_addBooth_101_v hE k17 hk17 v1 v2 σ11 hf
set_option maxHeartbeats 4000000 in
theorem mM_addBooth_ok (l : Launch) (D : DD) (z : ZZ) (h : Nat) (p0 : Int32) (σ : SM) (σ' : SM) (hf : mM_addBooth p0 σ = some σ') : MA l D yX7_addBooth cX7_addBooth 3 none 2 [.ref h, .int p0] (wM z h σ) (.returned none) (wM z h σ') := by
  refine MA.intro (own := RX7) (nm := "addBooth") (ls := [some (.ref h), some (.int p0), none]) (by decide) rfl rfl (Nat.le_of_ble_eq_true rfl) rfl (fun X hl hD hE => ?_)
  subst hl hD
  unfold mM_addBooth at hf
  refine V_aload_n dX7_addBooth_0 rfl ?_
  refine V_iconst dX7_addBooth_1 kc_0 ?_
  obtain ⟨σ1, hs2, hf⟩ := st1_ex hf
  refine VM_putI fwX7_587 hs2 dX7_addBooth_2 ?_
  refine V_aload_n dX7_addBooth_5 rfl ?_
  refine V_lconst dX7_addBooth_6 kl_0 ?_
  obtain ⟨σ3, hs4, hf⟩ := st1_ex hf
  refine VM_putL fwX7_590 hs4 dX7_addBooth_7 ?_
  refine V_aload_n dX7_addBooth_10 rfl ?_
  refine V_lconst dX7_addBooth_11 kl_0 ?_
  obtain ⟨σ5, hs6, hf⟩ := st1_ex hf
  refine VM_putL fwX7_593 hs6 dX7_addBooth_12 ?_
  refine V_iconst dX7_addBooth_15 kc_0 ?_
  refine V_istore_n (ls' := [some (.ref h), some (.int p0), some (.int (0 : Int32))]) dX7_addBooth_16 (by decide) rfl ?_
  exact lq3_ex (P := fun v1 v2 σ => V X cX7_addBooth RX7 3 2 (wM z h σ) 17 [some (.ref h), some (.int v1), some (.int v2)] []) (fun k hk v1 v2 σ hf => mM_addBooth_17_v hE k hk v1 v2 σ hf) LF p0 (0 : Int32) σ5 hf
set_option maxHeartbeats 4000000 in
theorem mM_seal_ok (l : Launch) (D : DD) (z : ZZ) (h : Nat) (p0 : Int32) (σ : SM) (r : Int32) (σ' : SM) (hf : mM_seal p0 σ = some (r, σ')) : MA l D yX7_seal cX7_seal 2 (some .int) 3 [.ref h, .int p0] (wM z h σ) (.returned (some (.int r))) (wM z h σ') := by
  refine MA.intro (own := RX7) (nm := "seal") (ls := [some (.ref h), some (.int p0)]) (by decide) rfl rfl (Nat.le_of_ble_eq_true rfl) rfl (fun X hl hD hE => ?_)
  subst hl hD
  unfold mM_seal at hf
  refine V_aload_n dX7_seal_0 rfl ?_
  refine V_iconst dX7_seal_1 kc_0 ?_
  obtain ⟨σ1, hs2, hf⟩ := st1_ex hf
  refine VM_putI fwX7_113 hs2 dX7_seal_2 ?_
  refine V_aload_n dX7_seal_5 rfl ?_
  refine V_iload_n dX7_seal_6 rfl ?_
  obtain ⟨r4, hc3, hf⟩ := bd1_ex hf
  refine V_cV (av := [.int p0]) (rest := []) (st' := [.int r4]) (mM_isBooth_ok _ _ _ _ _ _ _ hc3) vcX7_504 (wM_k0 _ _ _) (by decide) rfl rfl (Nat.le_of_ble_eq_true rfl) dX7_seal_7 rfl ?_
  refine V_if_ne (tgt := 20) dX7_seal_10 (by decide) (fun hc5 => ?_) (fun hc5 => ?_)
  · have hf := if_f hf hc5
    refine V_aload_n dX7_seal_20 rfl ?_
    refine V_iload_n dX7_seal_21 rfl ?_
    obtain ⟨σ7, hc6, hf⟩ := bd1_ex hf
    refine V_cV (av := [.int p0]) (rest := []) (st' := []) (mM_addBooth_ok _ _ _ _ _ _ _ hc6) vcX7_596 (wM_k0 _ _ _) (by decide) rfl rfl (Nat.le_of_ble_eq_true rfl) dX7_seal_22 rfl ?_
    refine V_aload_n dX7_seal_25 rfl ?_
    refine V_sipush dX7_seal_26 ks_2368 ?_
    refine V_iconst dX7_seal_29 kc_4 ?_
    refine V_iload_n dX7_seal_30 rfl ?_
    refine V_imul dX7_seal_31 ?_
    refine V_iadd dX7_seal_32 ?_
    refine V_iconst dX7_seal_33 kc_1 ?_
    refine V_aload_n dX7_seal_34 rfl ?_
    refine VM_getI fX7_587 rfl dX7_seal_35 ?_
    refine V_aload_n dX7_seal_38 rfl ?_
    refine VM_getL fX7_590 dX7_seal_39 ?_
    refine V_l2i dX7_seal_42 ?_
    refine V_aload_n dX7_seal_43 rfl ?_
    refine VM_getL fX7_593 dX7_seal_44 ?_
    refine V_l2i dX7_seal_47 ?_
    obtain ⟨σ9, hc8, hf⟩ := bd1_ex hf
    refine V_cV (av := [.int ((2368 : Int32) + ((4 : Int32) * p0)), .int (1 : Int32), .int (gI σ7 0 59), .int ((gL σ7 0 60).toInt32), .int ((gL σ7 0 61).toInt32)]) (rest := []) (st' := []) (mM_addFour_ok _ _ _ _ _ _ _ _ _ _ _ hc8) vcX7_151 (wM_k0 _ _ _) (by decide) rfl rfl (Nat.le_of_ble_eq_true rfl) dX7_seal_48 rfl ?_
    refine V_aload_n dX7_seal_51 rfl ?_
    refine V_aload_n dX7_seal_52 rfl ?_
    refine VM_getI fX7_587 rfl dX7_seal_53 ?_
    obtain ⟨r11, σ12, hc10, hf⟩ := bd2_ex hf
    refine V_cV (av := [.int (gI σ9 0 59)]) (rest := []) (st' := [.int r11]) (mM_told_ok _ _ _ _ _ _ _ _ hc10) vcX7_125 (wM_k0 _ _ _) (by decide) rfl rfl (Nat.le_of_ble_eq_true rfl) dX7_seal_56 rfl ?_
    cases some_ex hf
    exact V_iret hE dX7_seal_59
  · have hf := if_t hf hc5
    refine V_aload_n dX7_seal_13 rfl ?_
    refine V_bipush dX7_seal_14 kb_m2 ?_
    obtain ⟨r14, σ15, hc13, hf⟩ := bd2_ex hf
    refine V_cV (av := [.int (-2 : Int32)]) (rest := []) (st' := [.int r14]) (mM_told_ok _ _ _ _ _ _ _ _ hc13) vcX7_125 (wM_k0 _ _ _) (by decide) rfl rfl (Nat.le_of_ble_eq_true rfl) dX7_seal_16 rfl ?_
    cases some_ex hf
    exact V_iret hE dX7_seal_19
set_option maxHeartbeats 4000000 in
theorem mM_alter_ok (l : Launch) (D : DD) (z : ZZ) (h : Nat) (p0 : Int32) (p1 : Int32) (σ : SM) (r : Int32) (σ' : SM) (hf : mM_alter p0 p1 σ = some (r, σ')) : MA l D yX7_alter cX7_alter 3 (some .int) 2 [.ref h, .int p0, .int p1] (wM z h σ) (.returned (some (.int r))) (wM z h σ') := by
  refine MA.intro (own := RX7) (nm := "alter") (ls := [some (.ref h), some (.int p0), some (.int p1)]) (by decide) rfl rfl (Nat.le_of_ble_eq_true rfl) rfl (fun X hl hD hE => ?_)
  subst hl hD
  unfold mM_alter at hf
  refine V_aload_n dX7_alter_0 rfl ?_
  refine V_iconst dX7_alter_1 kc_0 ?_
  obtain ⟨σ1, hs2, hf⟩ := st1_ex hf
  refine VM_putI fwX7_113 hs2 dX7_alter_2 ?_
  refine V_iload_n dX7_alter_5 rfl ?_
  refine V_i2l dX7_alter_6 ?_
  refine V_lconst dX7_alter_7 kl_1 ?_
  refine V_ldc2 q2514 dX7_alter_8 ?_
  obtain ⟨r4, hc3, hf⟩ := bd1_ex hf
  refine V_cS (rest := []) (st' := [.int r4]) (mM_in_ok _ _ _ _ _ _ _ hc3) scX7_121 (by decide) rfl rfl (Nat.le_of_ble_eq_true rfl) dX7_alter_11 rfl ?_
  refine V_if_ne (tgt := 23) dX7_alter_14 (by decide) (fun hc5 => ?_) (fun hc5 => ?_)
  · have hf := if_f hf hc5
    refine V_iload_n dX7_alter_23 rfl ?_
    refine V_i2l dX7_alter_24 ?_
    refine V_lconst dX7_alter_25 kl_0 ?_
    refine V_aload_n dX7_alter_26 rfl ?_
    refine VM_getR fX7_7 ⟨rfl, rfl⟩ rfl dX7_alter_27 ?_
    refine V_bipush dX7_alter_30 kb_6 ?_
    refine VM_ldI (n := 23016) (k := 6) rfl (by decide) (by decide) dX7_alter_32 ?_
    refine V_i2l dX7_alter_33 ?_
    refine V_lconst dX7_alter_34 kl_1 ?_
    refine V_lsub dX7_alter_35 ?_
    obtain ⟨r7, hc6, hf⟩ := bd1_ex hf
    refine V_cS (rest := []) (st' := [.int r7]) (mM_in_ok _ _ _ _ _ _ _ hc6) scX7_121 (by decide) rfl rfl (Nat.le_of_ble_eq_true rfl) dX7_alter_36 rfl ?_
    refine V_if_ne (tgt := 49) dX7_alter_39 (by decide) (fun hc8 => ?_) (fun hc8 => ?_)
    · have hf := if_f hf hc8
      refine V_aload_n dX7_alter_49 rfl ?_
      refine VM_getR fX7_7 ⟨rfl, rfl⟩ rfl dX7_alter_50 ?_
      refine V_sipush dX7_alter_53 ks_4008 ?_
      refine V_iconst dX7_alter_56 kc_5 ?_
      refine V_iload_n dX7_alter_57 rfl ?_
      refine V_imul dX7_alter_58 ?_
      refine V_iadd dX7_alter_59 ?_
      refine V_iconst dX7_alter_60 kc_3 ?_
      refine V_iadd dX7_alter_61 ?_
      refine V_dup2 dX7_alter_62 rfl rfl ?_
      obtain ⟨hb9, hf⟩ := ck_ex hf
      refine VM_ldI (n := 23016) (k := (((4008 : Int32) + ((5 : Int32) * p0)) + (3 : Int32)).toNatClampNeg) rfl hb9 rfl dX7_alter_63 ?_
      refine V_iload_n dX7_alter_64 rfl ?_
      refine V_ixor dX7_alter_65 ?_
      obtain ⟨hb10, hf⟩ := ck_ex hf
      obtain ⟨σ11, hs12, hf⟩ := st1_ex hf
      refine VM_stI (n := 23016) (k := (((4008 : Int32) + ((5 : Int32) * p0)) + (3 : Int32)).toNatClampNeg) rfl hb10 rfl hs12 dX7_alter_66 ?_
      refine V_aload_n dX7_alter_67 rfl ?_
      refine V_aload_n dX7_alter_68 rfl ?_
      refine VM_getR fX7_7 ⟨rfl, rfl⟩ rfl dX7_alter_69 ?_
      refine V_sipush dX7_alter_72 ks_4008 ?_
      refine V_iconst dX7_alter_75 kc_5 ?_
      refine V_iload_n dX7_alter_76 rfl ?_
      refine V_imul dX7_alter_77 ?_
      refine V_iadd dX7_alter_78 ?_
      refine V_iconst dX7_alter_79 kc_3 ?_
      refine V_iadd dX7_alter_80 ?_
      obtain ⟨hb13, hf⟩ := ck_ex hf
      refine VM_ldI (n := 23016) (k := (((4008 : Int32) + ((5 : Int32) * p0)) + (3 : Int32)).toNatClampNeg) rfl hb13 rfl dX7_alter_81 ?_
      obtain ⟨r15, σ16, hc14, hf⟩ := bd2_ex hf
      refine V_cV (av := [.int (gI σ11 1 ((((4008 : Int32) + ((5 : Int32) * p0)) + (3 : Int32)).toNatClampNeg))]) (rest := []) (st' := [.int r15]) (mM_told_ok _ _ _ _ _ _ _ _ hc14) vcX7_125 (wM_k0 _ _ _) (by decide) rfl rfl (Nat.le_of_ble_eq_true rfl) dX7_alter_82 rfl ?_
      cases some_ex hf
      exact V_iret hE dX7_alter_85
    · have hf := if_t hf hc8
      refine V_aload_n dX7_alter_42 rfl ?_
      refine V_bipush dX7_alter_43 kb_m2 ?_
      obtain ⟨r18, σ19, hc17, hf⟩ := bd2_ex hf
      refine V_cV (av := [.int (-2 : Int32)]) (rest := []) (st' := [.int r18]) (mM_told_ok _ _ _ _ _ _ _ _ hc17) vcX7_125 (wM_k0 _ _ _) (by decide) rfl rfl (Nat.le_of_ble_eq_true rfl) dX7_alter_45 rfl ?_
      cases some_ex hf
      exact V_iret hE dX7_alter_48
  · have hf := if_t hf hc5
    refine V_aload_n dX7_alter_17 rfl ?_
    refine V_iconst dX7_alter_18 kc_m1 ?_
    obtain ⟨r21, σ22, hc20, hf⟩ := bd2_ex hf
    refine V_cV (av := [.int (-1 : Int32)]) (rest := []) (st' := [.int r21]) (mM_told_ok _ _ _ _ _ _ _ _ hc20) vcX7_125 (wM_k0 _ _ _) (by decide) rfl rfl (Nat.le_of_ble_eq_true rfl) dX7_alter_19 rfl ?_
    cases some_ex hf
    exact V_iret hE dX7_alter_22
set_option maxHeartbeats 4000000 in
theorem mM_found_158_v {X : CX} {w0 : AH} {z : ZZ} {h : Nat} {r : Int32} {σ' : SM} (hE : XE X w0 3 (some .int) "found" (.returned (some (.int r))) (wM z h σ')) (k119 : Int32 → Int64 → Int64 → Int32 → Int32 → SM → Option (Int32 × SM)) (hk119 : ∀ (v1 : Int32) (v3 : Int64) (v5 : Int64) (v7 : Int32) (v8 : Int32) (σ : SM), k119 v1 v3 v5 v7 v8 σ = some (r, σ') → V X cX7_found RX7 9 3 (wM z h σ) 119 [some (.ref h), some (.int v1), none, some (.long v3), none, some (.long v5), none, some (.int v7), some (.int v8)] []) (v1 : Int32) (v3 : Int64) (v5 : Int64) (v7 : Int32) (v8 : Int32) (σ : SM) (hf : mM_found_158 k119 v1 v3 v5 v7 v8 σ = some (r, σ')) : V X cX7_found RX7 9 3 (wM z h σ) 158 [some (.ref h), some (.int v1), none, some (.long v3), none, some (.long v5), none, some (.int v7), some (.int v8)] [] := by
  unfold mM_found_158 at hf
  refine V_inc (ls' := [some (.ref h), some (.int v1), none, some (.long v3), none, some (.long v5), none, some (.int v7), some (.int (v8 + (1 : Int32)))]) dX7_found_158 rfl kc_1 (by decide) rfl ?_
  refine V_goto (tgt := 119) dX7_found_161 (by decide) ?_
  exact hk119 v1 v3 v5 v7 (v8 + (1 : Int32)) σ hf
set_option maxHeartbeats 4000000 in
theorem mM_found_119_v {X : CX} {w0 : AH} {z : ZZ} {h : Nat} {r : Int32} {σ' : SM} (hE : XE X w0 3 (some .int) "found" (.returned (some (.int r))) (wM z h σ')) (k119 : Int32 → Int64 → Int64 → Int32 → Int32 → SM → Option (Int32 × SM)) (hk119 : ∀ (v1 : Int32) (v3 : Int64) (v5 : Int64) (v7 : Int32) (v8 : Int32) (σ : SM), k119 v1 v3 v5 v7 v8 σ = some (r, σ') → V X cX7_found RX7 9 3 (wM z h σ) 119 [some (.ref h), some (.int v1), none, some (.long v3), none, some (.long v5), none, some (.int v7), some (.int v8)] []) (v1 : Int32) (v3 : Int64) (v5 : Int64) (v7 : Int32) (v8 : Int32) (σ : SM) (hf : mM_found_119 k119 v1 v3 v5 v7 v8 σ = some (r, σ')) : V X cX7_found RX7 9 3 (wM z h σ) 119 [some (.ref h), some (.int v1), none, some (.long v3), none, some (.long v5), none, some (.int v7), some (.int v8)] [] := by
  unfold mM_found_119 at hf
  refine V_iload dX7_found_119 rfl ?_
  refine V_aload_n dX7_found_121 rfl ?_
  refine VM_getR fX7_7 ⟨rfl, rfl⟩ rfl dX7_found_122 ?_
  refine V_bipush dX7_found_125 kb_6 ?_
  refine VM_ldI (n := 23016) (k := 6) rfl (by decide) (by decide) dX7_found_127 ?_
  refine V_icmp_ge (tgt := 164) dX7_found_128 (by decide) (fun hc1 => ?_) (fun hc1 => ?_)
  · have hf := if_t hf hc1
    refine V_bipush dX7_found_164 kb_m2 ?_
    cases some_ex hf
    exact V_iret hE dX7_found_166
  · have hf := if_f hf hc1
    refine V_aload_n dX7_found_131 rfl ?_
    refine V_iload dX7_found_132 rfl ?_
    obtain ⟨r3, hc2, hf⟩ := bd1_ex hf
    refine V_cV (av := [.int v8]) (rest := []) (st' := [.int r3]) (mM_boothOf_ok _ _ _ _ _ _ _ hc2) vcX7_517 (wM_k0 _ _ _) (by decide) rfl rfl (Nat.le_of_ble_eq_true rfl) dX7_found_134 rfl ?_
    refine V_iload_n dX7_found_137 rfl ?_
    refine V_icmp_ne (tgt := 158) dX7_found_138 (by decide) (fun hc4 => ?_) (fun hc4 => ?_)
    · have hf := if_f hf hc4
      exact mM_found_158_v hE k119 hk119 v1 v3 v5 v7 v8 σ hf
    · have hf := if_t hf hc4
      refine V_inc (ls' := [some (.ref h), some (.int v1), none, some (.long v3), none, some (.long v5), none, some (.int (v7 + (1 : Int32))), some (.int v8)]) dX7_found_141 rfl kc_1 (by decide) rfl ?_
      refine V_lload_n dX7_found_144 rfl ?_
      refine V_iload dX7_found_145 rfl ?_
      refine V_i2l dX7_found_147 ?_
      refine V_lmul dX7_found_148 ?_
      refine V_lload dX7_found_149 rfl ?_
      refine V_lif_ne (tgt := 158) dX7_found_151 dX7_found_152 (by decide) (fun hc5 => ?_) (fun hc5 => ?_)
      · have hf := if_f hf hc5
        exact mM_found_158_v hE k119 hk119 v1 v3 v5 (v7 + (1 : Int32)) v8 σ hf
      · have hf := if_t hf hc5
        refine V_iload dX7_found_155 rfl ?_
        cases some_ex hf
        exact V_iret hE dX7_found_157
set_option maxHeartbeats 4000000 in
theorem mM_found_ok (l : Launch) (D : DD) (z : ZZ) (h : Nat) (p0 : Int32) (σ : SM) (r : Int32) (σ' : SM) (hf : mM_found p0 σ = some (r, σ')) : MA l D yX7_found cX7_found 9 (some .int) 3 [.ref h, .int p0] (wM z h σ) (.returned (some (.int r))) (wM z h σ') := by
  refine MA.intro (own := RX7) (nm := "found") (ls := [some (.ref h), some (.int p0), none, none, none, none, none, none, none]) (by decide) rfl rfl (Nat.le_of_ble_eq_true rfl) rfl (fun X hl hD hE => ?_)
  subst hl hD
  unfold mM_found at hf
  refine V_aload_n dX7_found_0 rfl ?_
  refine V_iconst dX7_found_1 kc_0 ?_
  obtain ⟨σ1, hs2, hf⟩ := st1_ex hf
  refine VM_putI fwX7_113 hs2 dX7_found_2 ?_
  refine V_aload_n dX7_found_5 rfl ?_
  refine V_iload_n dX7_found_6 rfl ?_
  obtain ⟨r4, hc3, hf⟩ := bd1_ex hf
  refine V_cV (av := [.int p0]) (rest := []) (st' := [.int r4]) (mM_isBooth_ok _ _ _ _ _ _ _ hc3) vcX7_504 (wM_k0 _ _ _) (by decide) rfl rfl (Nat.le_of_ble_eq_true rfl) dX7_found_7 rfl ?_
  refine V_if_eq (tgt := 28) dX7_found_10 (by decide) (fun hc5 => ?_) (fun hc5 => ?_)
  · have hf := if_t hf hc5
    refine V_bipush dX7_found_28 kb_m3 ?_
    cases some_ex hf
    exact V_iret hE dX7_found_30
  · have hf := if_f hf hc5
    refine V_aload_n dX7_found_13 rfl ?_
    refine VM_getR fX7_7 ⟨rfl, rfl⟩ rfl dX7_found_14 ?_
    refine V_sipush dX7_found_17 ks_2368 ?_
    refine V_iconst dX7_found_20 kc_4 ?_
    refine V_iload_n dX7_found_21 rfl ?_
    refine V_imul dX7_found_22 ?_
    refine V_iadd dX7_found_23 ?_
    obtain ⟨hb6, hf⟩ := ck_ex hf
    refine VM_ldI (n := 23016) (k := ((2368 : Int32) + ((4 : Int32) * p0)).toNatClampNeg) rfl hb6 rfl dX7_found_24 ?_
    refine V_if_ne (tgt := 31) dX7_found_25 (by decide) (fun hc7 => ?_) (fun hc7 => ?_)
    · have hf := if_f hf hc7
      refine V_aload_n dX7_found_31 rfl ?_
      refine V_iload_n dX7_found_32 rfl ?_
      obtain ⟨σ9, hc8, hf⟩ := bd1_ex hf
      refine V_cV (av := [.int p0]) (rest := []) (st' := []) (mM_addBooth_ok _ _ _ _ _ _ _ hc8) vcX7_596 (wM_k0 _ _ _) (by decide) rfl rfl (Nat.le_of_ble_eq_true rfl) dX7_found_33 rfl ?_
      refine V_sipush dX7_found_36 ks_2368 ?_
      refine V_iconst dX7_found_39 kc_4 ?_
      refine V_iload_n dX7_found_40 rfl ?_
      refine V_imul dX7_found_41 ?_
      refine V_iadd dX7_found_42 ?_
      refine V_istore_n (ls' := [some (.ref h), some (.int p0), some (.int ((2368 : Int32) + ((4 : Int32) * p0))), none, none, none, none, none, none]) dX7_found_43 (by decide) rfl ?_
      refine V_aload_n dX7_found_44 rfl ?_
      refine VM_getI fX7_587 rfl dX7_found_45 ?_
      refine V_aload_n dX7_found_48 rfl ?_
      refine VM_getR fX7_7 ⟨rfl, rfl⟩ rfl dX7_found_49 ?_
      refine V_iload_n dX7_found_52 rfl ?_
      refine V_iconst dX7_found_53 kc_1 ?_
      refine V_iadd dX7_found_54 ?_
      obtain ⟨hb10, hf⟩ := ck_ex hf
      refine VM_ldI (n := 23016) (k := (((2368 : Int32) + ((4 : Int32) * p0)) + (1 : Int32)).toNatClampNeg) rfl hb10 rfl dX7_found_55 ?_
      refine V_icmp_eq (tgt := 62) dX7_found_56 (by decide) (fun hc11 => ?_) (fun hc11 => ?_)
      · have hf := if_t hf hc11
        refine V_aload_n dX7_found_62 rfl ?_
        refine VM_getL fX7_590 dX7_found_63 ?_
        refine V_aload_n dX7_found_66 rfl ?_
        refine VM_getR fX7_7 ⟨rfl, rfl⟩ rfl dX7_found_67 ?_
        refine V_iload_n dX7_found_70 rfl ?_
        refine V_iconst dX7_found_71 kc_2 ?_
        refine V_iadd dX7_found_72 ?_
        obtain ⟨hb12, hf⟩ := ck_ex hf
        refine VM_ldI (n := 23016) (k := (((2368 : Int32) + ((4 : Int32) * p0)) + (2 : Int32)).toNatClampNeg) rfl hb12 rfl dX7_found_73 ?_
        refine V_i2l dX7_found_74 ?_
        refine V_lsub dX7_found_75 ?_
        refine V_lstore_n (ls' := [some (.ref h), some (.int p0), some (.int ((2368 : Int32) + ((4 : Int32) * p0))), some (.long ((gL σ9 0 60) - (gI σ9 1 ((((2368 : Int32) + ((4 : Int32) * p0)) + (2 : Int32)).toNatClampNeg)).toInt64)), none, none, none, none, none]) dX7_found_76 (by decide) rfl ?_
        refine V_aload_n dX7_found_77 rfl ?_
        refine VM_getL fX7_593 dX7_found_78 ?_
        refine V_aload_n dX7_found_81 rfl ?_
        refine VM_getR fX7_7 ⟨rfl, rfl⟩ rfl dX7_found_82 ?_
        refine V_iload_n dX7_found_85 rfl ?_
        refine V_iconst dX7_found_86 kc_3 ?_
        refine V_iadd dX7_found_87 ?_
        obtain ⟨hb13, hf⟩ := ck_ex hf
        refine VM_ldI (n := 23016) (k := (((2368 : Int32) + ((4 : Int32) * p0)) + (3 : Int32)).toNatClampNeg) rfl hb13 rfl dX7_found_88 ?_
        refine V_i2l dX7_found_89 ?_
        refine V_lsub dX7_found_90 ?_
        refine V_lstore (ls' := [some (.ref h), some (.int p0), some (.int ((2368 : Int32) + ((4 : Int32) * p0))), some (.long ((gL σ9 0 60) - (gI σ9 1 ((((2368 : Int32) + ((4 : Int32) * p0)) + (2 : Int32)).toNatClampNeg)).toInt64)), none, some (.long ((gL σ9 0 61) - (gI σ9 1 ((((2368 : Int32) + ((4 : Int32) * p0)) + (3 : Int32)).toNatClampNeg)).toInt64)), none, none, none]) dX7_found_91 (by decide) rfl ?_
        refine V_lload_n dX7_found_93 rfl ?_
        refine V_lconst dX7_found_94 kl_0 ?_
        refine V_lif_ne (tgt := 113) dX7_found_95 dX7_found_96 (by decide) (fun hc14 => ?_) (fun hc14 => ?_)
        · have hf := if_f hf hc14
          refine V_iconst dX7_found_113 kc_0 ?_
          refine V_istore (ls' := [some (.ref h), some (.int p0), some (.int ((2368 : Int32) + ((4 : Int32) * p0))), some (.long ((gL σ9 0 60) - (gI σ9 1 ((((2368 : Int32) + ((4 : Int32) * p0)) + (2 : Int32)).toNatClampNeg)).toInt64)), none, some (.long ((gL σ9 0 61) - (gI σ9 1 ((((2368 : Int32) + ((4 : Int32) * p0)) + (3 : Int32)).toNatClampNeg)).toInt64)), none, some (.int (0 : Int32)), none]) dX7_found_114 (by decide) rfl ?_
          refine V_iconst dX7_found_116 kc_0 ?_
          refine V_istore (ls' := [some (.ref h), some (.int p0), some (.int ((2368 : Int32) + ((4 : Int32) * p0))), some (.long ((gL σ9 0 60) - (gI σ9 1 ((((2368 : Int32) + ((4 : Int32) * p0)) + (2 : Int32)).toNatClampNeg)).toInt64)), none, some (.long ((gL σ9 0 61) - (gI σ9 1 ((((2368 : Int32) + ((4 : Int32) * p0)) + (3 : Int32)).toNatClampNeg)).toInt64)), none, some (.int (0 : Int32)), some (.int (0 : Int32))]) dX7_found_117 (by decide) rfl ?_
          refine V_keep [true, true, false, true, true, true, true, true, true] rfl ?_
          exact lq6_ex (P := fun v1 v3 v5 v7 v8 σ => V X cX7_found RX7 9 3 (wM z h σ) 119 [some (.ref h), some (.int v1), none, some (.long v3), none, some (.long v5), none, some (.int v7), some (.int v8)] []) (fun k hk v1 v3 v5 v7 v8 σ hf => mM_found_119_v hE k hk v1 v3 v5 v7 v8 σ hf) LF p0 ((gL σ9 0 60) - (gI σ9 1 ((((2368 : Int32) + ((4 : Int32) * p0)) + (2 : Int32)).toNatClampNeg)).toInt64) ((gL σ9 0 61) - (gI σ9 1 ((((2368 : Int32) + ((4 : Int32) * p0)) + (3 : Int32)).toNatClampNeg)).toInt64) (0 : Int32) (0 : Int32) σ9 hf
        · have hf := if_t hf hc14
          refine V_lload dX7_found_99 rfl ?_
          refine V_lconst dX7_found_101 kl_0 ?_
          refine V_lif_ne (tgt := 110) dX7_found_102 dX7_found_103 (by decide) (fun hc15 => ?_) (fun hc15 => ?_)
          · have hf := if_f hf hc15
            refine V_bipush dX7_found_110 kb_m2 ?_
            cases some_ex hf
            exact V_iret hE dX7_found_112
          · have hf := if_t hf hc15
            refine V_iconst dX7_found_106 kc_m1 ?_
            refine V_goto (tgt := 112) dX7_found_107 (by decide) ?_
            cases some_ex hf
            exact V_iret hE dX7_found_112
      · have hf := if_f hf hc11
        refine V_bipush dX7_found_59 kb_m2 ?_
        cases some_ex hf
        exact V_iret hE dX7_found_61
    · have hf := if_t hf hc7
      refine V_bipush dX7_found_28 kb_m3 ?_
      cases some_ex hf
      exact V_iret hE dX7_found_30
set_option maxHeartbeats 4000000 in
theorem mM_all_ok (l : Launch) (D : DD) (z : ZZ) (h : Nat) (p0 : Int32) (σ : SM) (r : Int32) (σ' : SM) (hf : mM_all p0 σ = some (r, σ')) : MA l D yX7_all cX7_all 2 (some .int) 1 [.ref h, .int p0] (wM z h σ) (.returned (some (.int r))) (wM z h σ') := by
  refine MA.intro (own := RX7) (nm := "all") (ls := [some (.ref h), some (.int p0)]) (by decide) rfl rfl (Nat.le_of_ble_eq_true rfl) rfl (fun X hl hD hE => ?_)
  subst hl hD
  unfold mM_all at hf
  refine V_aload_n dX7_all_0 rfl ?_
  refine V_iconst dX7_all_1 kc_0 ?_
  obtain ⟨σ1, hs2, hf⟩ := st1_ex hf
  refine VM_putI fwX7_113 hs2 dX7_all_2 ?_
  refine V_iload_n dX7_all_5 rfl ?_
  by_cases hw0 : p0 = (0 : Int32)
  · have hf := if_t hf hw0
    refine V_tableIn (off := 50) (tgt := 56) dX7_all_6 (by rw [hw0]; decide) (by rw [hw0]; decide) (by rw [hw0]; rfl) (by decide) ?_
    refine V_aload_n dX7_all_56 rfl ?_
    refine VM_getR fX7_7 ⟨rfl, rfl⟩ rfl dX7_all_57 ?_
    refine V_iconst dX7_all_60 kc_0 ?_
    refine VM_ldI (n := 23016) (k := 0) rfl (by decide) (by decide) dX7_all_61 ?_
    cases some_ex hf
    exact V_iret hE dX7_all_62
  replace hf := if_f hf hw0
  by_cases hw1 : p0 = (1 : Int32)
  · have hf := if_t hf hw1
    refine V_tableIn (off := 57) (tgt := 63) dX7_all_6 (by rw [hw1]; decide) (by rw [hw1]; decide) (by rw [hw1]; rfl) (by decide) ?_
    refine V_aload_n dX7_all_63 rfl ?_
    refine VM_getR fX7_7 ⟨rfl, rfl⟩ rfl dX7_all_64 ?_
    refine V_iconst dX7_all_67 kc_1 ?_
    refine VM_ldI (n := 23016) (k := 1) rfl (by decide) (by decide) dX7_all_68 ?_
    cases some_ex hf
    exact V_iret hE dX7_all_69
  replace hf := if_f hf hw1
  by_cases hw2 : p0 = (2 : Int32)
  · have hf := if_t hf hw2
    refine V_tableIn (off := 64) (tgt := 70) dX7_all_6 (by rw [hw2]; decide) (by rw [hw2]; decide) (by rw [hw2]; rfl) (by decide) ?_
    refine V_aload_n dX7_all_70 rfl ?_
    refine VM_getR fX7_7 ⟨rfl, rfl⟩ rfl dX7_all_71 ?_
    refine V_iconst dX7_all_74 kc_2 ?_
    refine VM_ldI (n := 23016) (k := 2) rfl (by decide) (by decide) dX7_all_75 ?_
    cases some_ex hf
    exact V_iret hE dX7_all_76
  replace hf := if_f hf hw2
  by_cases hw3 : p0 = (3 : Int32)
  · have hf := if_t hf hw3
    refine V_tableIn (off := 71) (tgt := 77) dX7_all_6 (by rw [hw3]; decide) (by rw [hw3]; decide) (by rw [hw3]; rfl) (by decide) ?_
    refine V_aload_n dX7_all_77 rfl ?_
    refine VM_getR fX7_7 ⟨rfl, rfl⟩ rfl dX7_all_78 ?_
    refine V_iconst dX7_all_81 kc_3 ?_
    refine VM_ldI (n := 23016) (k := 3) rfl (by decide) (by decide) dX7_all_82 ?_
    cases some_ex hf
    exact V_iret hE dX7_all_83
  replace hf := if_f hf hw3
  by_cases hw4 : p0 = (4 : Int32)
  · have hf := if_t hf hw4
    refine V_tableIn (off := 78) (tgt := 84) dX7_all_6 (by rw [hw4]; decide) (by rw [hw4]; decide) (by rw [hw4]; rfl) (by decide) ?_
    refine V_aload_n dX7_all_84 rfl ?_
    refine VM_getR fX7_7 ⟨rfl, rfl⟩ rfl dX7_all_85 ?_
    refine V_iconst dX7_all_88 kc_4 ?_
    refine VM_ldI (n := 23016) (k := 4) rfl (by decide) (by decide) dX7_all_89 ?_
    cases some_ex hf
    exact V_iret hE dX7_all_90
  replace hf := if_f hf hw4
  by_cases hw5 : p0 = (5 : Int32)
  · have hf := if_t hf hw5
    refine V_tableIn (off := 85) (tgt := 91) dX7_all_6 (by rw [hw5]; decide) (by rw [hw5]; decide) (by rw [hw5]; rfl) (by decide) ?_
    refine V_aload_n dX7_all_91 rfl ?_
    refine VM_getR fX7_7 ⟨rfl, rfl⟩ rfl dX7_all_92 ?_
    refine V_iconst dX7_all_95 kc_5 ?_
    refine VM_ldI (n := 23016) (k := 5) rfl (by decide) (by decide) dX7_all_96 ?_
    cases some_ex hf
    exact V_iret hE dX7_all_97
  replace hf := if_f hf hw5
  by_cases hw6 : p0 = (6 : Int32)
  · have hf := if_t hf hw6
    refine V_tableIn (off := 92) (tgt := 98) dX7_all_6 (by rw [hw6]; decide) (by rw [hw6]; decide) (by rw [hw6]; rfl) (by decide) ?_
    refine V_aload_n dX7_all_98 rfl ?_
    refine VM_getR fX7_7 ⟨rfl, rfl⟩ rfl dX7_all_99 ?_
    refine V_bipush dX7_all_102 kb_6 ?_
    refine VM_ldI (n := 23016) (k := 6) rfl (by decide) (by decide) dX7_all_104 ?_
    cases some_ex hf
    exact V_iret hE dX7_all_105
  replace hf := if_f hf hw6
  by_cases hw7 : p0 = (7 : Int32)
  · have hf := if_t hf hw7
    refine V_tableIn (off := 100) (tgt := 106) dX7_all_6 (by rw [hw7]; decide) (by rw [hw7]; decide) (by rw [hw7]; rfl) (by decide) ?_
    refine V_aload_n dX7_all_106 rfl ?_
    refine VM_getI fX7_471 rfl dX7_all_107 ?_
    cases some_ex hf
    exact V_iret hE dX7_all_110
  replace hf := if_f hf hw7
  by_cases hw8 : p0 = (8 : Int32)
  · have hf := if_t hf hw8
    refine V_tableIn (off := 105) (tgt := 111) dX7_all_6 (by rw [hw8]; decide) (by rw [hw8]; decide) (by rw [hw8]; rfl) (by decide) ?_
    refine V_aload_n dX7_all_111 rfl ?_
    refine VM_getI fX7_169 rfl dX7_all_112 ?_
    cases some_ex hf
    exact V_iret hE dX7_all_115
  replace hf := if_f hf hw8
  have hw0' := lv_neT hw0 (show (0 : Int32).toInt = 0 from by decide)
  have hw1' := lv_neT hw1 (show (1 : Int32).toInt = 1 from by decide)
  have hw2' := lv_neT hw2 (show (2 : Int32).toInt = 2 from by decide)
  have hw3' := lv_neT hw3 (show (3 : Int32).toInt = 3 from by decide)
  have hw4' := lv_neT hw4 (show (4 : Int32).toInt = 4 from by decide)
  have hw5' := lv_neT hw5 (show (5 : Int32).toInt = 5 from by decide)
  have hw6' := lv_neT hw6 (show (6 : Int32).toInt = 6 from by decide)
  have hw7' := lv_neT hw7 (show (7 : Int32).toInt = 7 from by decide)
  have hw8' := lv_neT hw8 (show (8 : Int32).toInt = 8 from by decide)
  refine V_tableOut (tgt := 116) dX7_all_6 (by omega) (by decide) ?_
  refine V_iconst dX7_all_116 kc_m1 ?_
  cases some_ex hf
  exact V_iret hE dX7_all_117
set_option maxHeartbeats 4000000 in
theorem mM_status_ok (l : Launch) (D : DD) (z : ZZ) (h : Nat) (σ : SM) (r : Int32) (σ' : SM) (hf : mM_status  σ = some (r, σ')) : MA l D yX7_status cX7_status 1 (some .int) 1 [.ref h] (wM z h σ) (.returned (some (.int r))) (wM z h σ') := by
  refine MA.intro (own := RX7) (nm := "status") (ls := [some (.ref h)]) (by decide) rfl rfl (Nat.le_of_ble_eq_true rfl) rfl (fun X hl hD hE => ?_)
  subst hl hD
  unfold mM_status at hf
  refine V_aload_n dX7_status_0 rfl ?_
  refine V_iconst dX7_status_1 kc_0 ?_
  obtain ⟨σ1, hs2, hf⟩ := st1_ex hf
  refine VM_putI fwX7_113 hs2 dX7_status_2 ?_
  refine V_aload_n dX7_status_5 rfl ?_
  refine VM_getI fX7_116 rfl dX7_status_6 ?_
  cases some_ex hf
  exact V_iret hE dX7_status_9
