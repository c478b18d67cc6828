set_option maxRecDepth 100000
set_option maxHeartbeats 4000000 in
theorem mM_isBarred_ok (l : Launch) (D : DD) (z : ZZ) (h : Nat) (p0 : Int32) (p1 : Int32) (σ : SM) (r : Int32) (hf : mM_isBarred p0 p1 σ = some r) : MA l D yX7_isBarred cX7_isBarred 5 (some .boolean) 1 [.ref h, .int p0, .int p1] (wM z h σ) (.returned (some (.int r))) (wM z h σ) := by
  refine MA.intro (own := RX7) (nm := "isBarred") (ls := [some (.ref h), some (.int p0), some (.int p1), none, none]) (by decide) rfl rfl (Nat.le_of_ble_eq_true rfl) rfl (fun X hl hD hE => ?_)
  subst hl hD
  unfold mM_isBarred at hf
  refine V_iconst dX7_isBarred_0 kc_0 ?_
  refine V_istore_n (ls' := [some (.ref h), some (.int p0), some (.int p1), some (.int (0 : Int32)), none]) dX7_isBarred_1 (by decide) rfl ?_
  refine V_iconst dX7_isBarred_2 kc_0 ?_
  refine V_istore (ls' := [some (.ref h), some (.int p0), some (.int p1), some (.int (0 : Int32)), some (.int (0 : Int32))]) dX7_isBarred_3 (by decide) rfl ?_
  exact lq4_ex (P := fun v1 v2 v3 v4 => V X cX7_isBarred RX7 5 1 (wM z h σ) 5 [some (.ref h), some (.int v1), some (.int v2), some (.int v3), some (.int v4)] []) (fun k hk v1 v2 v3 v4 hf => mM_isBarred_5_v σ hE k hk v1 v2 v3 v4 hf) LF p0 p1 (0 : Int32) (0 : Int32) hf
set_option maxHeartbeats 4000000 in
theorem mM_twice_157_v {X : CX} {w0 : AH} {z : ZZ} {h : Nat} {r : Int32} {σ' : SM} (hE : XE X w0 7 (some .int) "twice" (.returned (some (.int r))) (wM z h σ')) (k36 : Int32 → Int32 → Int32 → Int32 → Int32 → Int32 → SM → Option (Int32 × SM)) (hk36 : ∀ (v1 : Int32) (v2 : Int32) (v3 : Int32) (v4 : Int32) (v5 : Int32) (v6 : Int32) (σ : SM), k36 v1 v2 v3 v4 v5 v6 σ = some (r, σ') → V X cX7_twice RX7 8 7 (wM z h σ) 36 [some (.ref h), some (.int v1), some (.int v2), some (.int v3), some (.int v4), some (.int v5), some (.int v6), none] []) (v1 : Int32) (v2 : Int32) (v3 : Int32) (v4 : Int32) (v5 : Int32) (v6 : Int32) (σ : SM) (hf : mM_twice_157 k36 v1 v2 v3 v4 v5 v6 σ = some (r, σ')) : V X cX7_twice RX7 8 7 (wM z h σ) 157 [some (.ref h), some (.int v1), some (.int v2), some (.int v3), some (.int v4), some (.int v5), some (.int v6), none] [] := by
  unfold mM_twice_157 at hf
  refine V_inc (ls' := [some (.ref h), some (.int v1), some (.int v2), some (.int v3), some (.int v4), some (.int v5), some (.int (v6 + (1 : Int32))), none]) dX7_twice_157 rfl kc_1 (by decide) rfl ?_
  refine V_goto (tgt := 36) dX7_twice_160 (by decide) ?_
  exact hk36 v1 v2 v3 v4 v5 (v6 + (1 : Int32)) σ hf
set_option maxHeartbeats 4000000 in
theorem mM_twice_151_v {X : CX} {w0 : AH} {z : ZZ} {h : Nat} {r : Int32} {σ' : SM} (hE : XE X w0 7 (some .int) "twice" (.returned (some (.int r))) (wM z h σ')) (k53 : Int32 → Int32 → Int32 → Int32 → Int32 → Int32 → Int32 → SM → Option (Int32 × SM)) (hk53 : ∀ (v1 : Int32) (v2 : Int32) (v3 : Int32) (v4 : Int32) (v5 : Int32) (v6 : Int32) (v7 : Int32) (σ : SM), k53 v1 v2 v3 v4 v5 v6 v7 σ = some (r, σ') → V X cX7_twice RX7 8 7 (wM z h σ) 53 [some (.ref h), some (.int v1), some (.int v2), some (.int v3), some (.int v4), some (.int v5), some (.int v6), some (.int v7)] []) (v1 : Int32) (v2 : Int32) (v3 : Int32) (v4 : Int32) (v5 : Int32) (v6 : Int32) (v7 : Int32) (σ : SM) (hf : mM_twice_151 k53 v1 v2 v3 v4 v5 v6 v7 σ = some (r, σ')) : V X cX7_twice RX7 8 7 (wM z h σ) 151 [some (.ref h), some (.int v1), some (.int v2), some (.int v3), some (.int v4), some (.int v5), some (.int v6), some (.int v7)] [] := by
  unfold mM_twice_151 at hf
  refine V_inc (ls' := [some (.ref h), some (.int v1), some (.int v2), some (.int v3), some (.int v4), some (.int v5), some (.int v6), some (.int (v7 + (1 : Int32)))]) dX7_twice_151 rfl kc_1 (by decide) rfl ?_
  refine V_goto (tgt := 53) dX7_twice_154 (by decide) ?_
  exact hk53 v1 v2 v3 v4 v5 v6 (v7 + (1 : Int32)) σ hf
set_option maxHeartbeats 4000000 in
theorem mM_twice_146_v {X : CX} {w0 : AH} {z : ZZ} {h : Nat} {r : Int32} {σ' : SM} (hE : XE X w0 7 (some .int) "twice" (.returned (some (.int r))) (wM z h σ')) (k53 : Int32 → Int32 → Int32 → Int32 → Int32 → Int32 → Int32 → SM → Option (Int32 × SM)) (hk53 : ∀ (v1 : Int32) (v2 : Int32) (v3 : Int32) (v4 : Int32) (v5 : Int32) (v6 : Int32) (v7 : Int32) (σ : SM), k53 v1 v2 v3 v4 v5 v6 v7 σ = some (r, σ') → V X cX7_twice RX7 8 7 (wM z h σ) 53 [some (.ref h), some (.int v1), some (.int v2), some (.int v3), some (.int v4), some (.int v5), some (.int v6), some (.int v7)] []) (v1 : Int32) (v2 : Int32) (v3 : Int32) (v4 : Int32) (v6 : Int32) (v7 : Int32) (t0 : Int32) (σ : SM) (hf : mM_twice_146 k53 v1 v2 v3 v4 v6 v7 t0 σ = some (r, σ')) : V X cX7_twice RX7 8 7 (wM z h σ) 146 [some (.ref h), some (.int v1), some (.int v2), some (.int v3), some (.int v4), none, some (.int v6), some (.int v7)] [.int t0] := by
  unfold mM_twice_146 at hf
  refine V_istore (ls' := [some (.ref h), some (.int v1), some (.int v2), some (.int v3), some (.int v4), some (.int t0), some (.int v6), some (.int v7)]) dX7_twice_146 (by decide) rfl ?_
  refine V_inc (ls' := [some (.ref h), some (.int v1), some (.int v2), some (.int v3), some (.int (v4 + (1 : Int32))), some (.int t0), some (.int v6), some (.int v7)]) dX7_twice_148 rfl kc_1 (by decide) rfl ?_
  exact mM_twice_151_v hE k53 hk53 v1 v2 v3 (v4 + (1 : Int32)) t0 v6 v7 σ hf
set_option maxHeartbeats 4000000 in
theorem mM_twice_53_v {X : CX} {w0 : AH} {z : ZZ} {h : Nat} {r : Int32} {σ' : SM} (hE : XE X w0 7 (some .int) "twice" (.returned (some (.int r))) (wM z h σ')) (k36 : Int32 → Int32 → Int32 → Int32 → Int32 → Int32 → SM → Option (Int32 × SM)) (hk36 : ∀ (v1 : Int32) (v2 : Int32) (v3 : Int32) (v4 : Int32) (v5 : Int32) (v6 : Int32) (σ : SM), k36 v1 v2 v3 v4 v5 v6 σ = some (r, σ') → V X cX7_twice RX7 8 7 (wM z h σ) 36 [some (.ref h), some (.int v1), some (.int v2), some (.int v3), some (.int v4), some (.int v5), some (.int v6), none] []) (k53 : Int32 → Int32 → Int32 → Int32 → Int32 → Int32 → Int32 → SM → Option (Int32 × SM)) (hk53 : ∀ (v1 : Int32) (v2 : Int32) (v3 : Int32) (v4 : Int32) (v5 : Int32) (v6 : Int32) (v7 : Int32) (σ : SM), k53 v1 v2 v3 v4 v5 v6 v7 σ = some (r, σ') → V X cX7_twice RX7 8 7 (wM z h σ) 53 [some (.ref h), some (.int v1), some (.int v2), some (.int v3), some (.int v4), some (.int v5), some (.int v6), some (.int v7)] []) (v1 : Int32) (v2 : Int32) (v3 : Int32) (v4 : Int32) (v5 : Int32) (v6 : Int32) (v7 : Int32) (σ : SM) (hf : mM_twice_53 k36 k53 v1 v2 v3 v4 v5 v6 v7 σ = some (r, σ')) : V X cX7_twice RX7 8 7 (wM z h σ) 53 [some (.ref h), some (.int v1), some (.int v2), some (.int v3), some (.int v4), some (.int v5), some (.int v6), some (.int v7)] [] := by
  unfold mM_twice_53 at hf
  refine V_iload dX7_twice_53 rfl ?_
  refine V_aload_n dX7_twice_55 rfl ?_
  refine VM_getR fX7_7 ⟨rfl, rfl⟩ rfl dX7_twice_56 ?_
  refine V_iconst dX7_twice_59 kc_1 ?_
  refine VM_ldI (n := 23016) (k := 1) rfl (by decide) (by decide) dX7_twice_60 ?_
  refine V_icmp_ge (tgt := 157) dX7_twice_61 (by decide) (fun hc1 => ?_) (fun hc1 => ?_)
  · have hf := if_t hf hc1
    refine V_keep [true, true, true, true, true, true, true, false] rfl ?_
    exact mM_twice_157_v hE k36 hk36 v1 v2 v3 v4 v5 v6 σ hf
  · have hf := if_f hf hc1
    refine V_aload_n dX7_twice_64 rfl ?_
    refine VM_getR fX7_21 ⟨rfl, rfl⟩ rfl dX7_twice_65 ?_
    refine V_iload dX7_twice_68 rfl ?_
    obtain ⟨hb2, hf⟩ := ck_ex hf
    refine VM_ldZ (n := 200) (k := v6.toNatClampNeg) rfl hb2 rfl dX7_twice_70 ?_
    refine V_if_eq (tgt := 157) dX7_twice_71 (by decide) (fun hc3 => ?_) (fun hc3 => ?_)
    · have hf := if_t hf hc3
      refine V_keep [true, true, true, true, true, true, true, false] rfl ?_
      exact mM_twice_157_v hE k36 hk36 v1 v2 v3 v4 v5 v6 σ hf
    · have hf := if_f hf hc3
      refine V_aload_n dX7_twice_74 rfl ?_
      refine VM_getR fX7_21 ⟨rfl, rfl⟩ rfl dX7_twice_75 ?_
      refine V_iload dX7_twice_78 rfl ?_
      obtain ⟨hb4, hf⟩ := ck_ex hf
      refine VM_ldZ (n := 200) (k := v7.toNatClampNeg) rfl hb4 rfl dX7_twice_80 ?_
      refine V_if_eq (tgt := 151) dX7_twice_81 (by decide) (fun hc5 => ?_) (fun hc5 => ?_)
      · have hf := if_t hf hc5
        exact mM_twice_151_v hE k53 hk53 v1 v2 v3 v4 v5 v6 v7 σ hf
      · have hf := if_f hf hc5
        refine V_aload_n dX7_twice_84 rfl ?_
        refine V_iload dX7_twice_85 rfl ?_
        refine V_iload_n dX7_twice_87 rfl ?_
        refine V_iload_n dX7_twice_88 rfl ?_
        obtain ⟨r7, hc6, hf⟩ := bd1_ex hf
        refine V_cV (av := [.int v6, .int v1, .int v2]) (rest := []) (st' := [.int r7]) (mM_whereOf_ok _ _ _ _ _ _ _ _ _ hc6) vcX7_181 (wM_k0 _ _ _) (by decide) rfl rfl (Nat.le_of_ble_eq_true rfl) dX7_twice_89 rfl ?_
        refine V_aload_n dX7_twice_92 rfl ?_
        refine V_iload dX7_twice_93 rfl ?_
        refine V_iload_n dX7_twice_95 rfl ?_
        refine V_iload_n dX7_twice_96 rfl ?_
        obtain ⟨r9, hc8, hf⟩ := bd1_ex hf
        refine V_cV (av := [.int v7, .int v1, .int v2]) (rest := [.int r7]) (st' := [.int r9, .int r7]) (mM_whereOf_ok _ _ _ _ _ _ _ _ _ hc8) vcX7_181 (wM_k0 _ _ _) (by decide) rfl rfl (Nat.le_of_ble_eq_true rfl) dX7_twice_97 rfl ?_
        refine V_icmp_eq (tgt := 151) dX7_twice_100 (by decide) (fun hc10 => ?_) (fun hc10 => ?_)
        · have hf := if_t hf hc10
          exact mM_twice_151_v hE k53 hk53 v1 v2 v3 v4 v5 v6 v7 σ hf
        · have hf := if_f hf hc10
          refine V_aload_n dX7_twice_103 rfl ?_
          refine V_iload dX7_twice_104 rfl ?_
          refine V_iload dX7_twice_106 rfl ?_
          obtain ⟨r12, hc11, hf⟩ := bd1_ex hf
          refine V_cV (av := [.int v6, .int v7]) (rest := []) (st' := [.int r12]) (mM_likeOf_ok _ _ _ _ _ _ _ _ hc11) vcX7_213 (wM_k0 _ _ _) (by decide) rfl rfl (Nat.le_of_ble_eq_true rfl) dX7_twice_108 rfl ?_
          refine V_iconst dX7_twice_111 kc_5 ?_
          refine V_icmp_lt (tgt := 151) dX7_twice_112 (by decide) (fun hc13 => ?_) (fun hc13 => ?_)
          · have hf := if_t hf hc13
            exact mM_twice_151_v hE k53 hk53 v1 v2 v3 v4 v5 v6 v7 σ hf
          · have hf := if_f hf hc13
            refine V_aload_n dX7_twice_115 rfl ?_
            refine V_iload dX7_twice_116 rfl ?_
            refine V_iload dX7_twice_118 rfl ?_
            obtain ⟨r15, hc14, hf⟩ := bd1_ex hf
            refine V_cV (av := [.int v6, .int v7]) (rest := []) (st' := [.int r15]) (mM_isBarred_ok _ _ _ _ _ _ _ _ hc14) vcX7_217 (wM_k0 _ _ _) (by decide) rfl rfl (Nat.le_of_ble_eq_true rfl) dX7_twice_120 rfl ?_
            refine V_if_ne (tgt := 151) dX7_twice_123 (by decide) (fun hc16 => ?_) (fun hc16 => ?_)
            · have hf := if_f hf hc16
              exact mM_twice_151_v hE k53 hk53 v1 v2 v3 v4 v5 v6 v7 σ hf
            · have hf := if_t hf hc16
              refine V_iload dX7_twice_126 rfl ?_
              refine V_iload_n dX7_twice_128 rfl ?_
              refine V_icmp_ne (tgt := 144) dX7_twice_129 (by decide) (fun hc17 => ?_) (fun hc17 => ?_)
              · have hf := if_f hf hc17
                refine V_iload dX7_twice_144 rfl ?_
                refine V_keep [true, true, true, true, true, false, true, true] rfl ?_
                exact mM_twice_146_v hE k53 hk53 v1 v2 v3 v4 v6 v7 v5 σ hf
              · have hf := if_t hf hc17
                refine V_sipush dX7_twice_132 ks_200 ?_
                refine V_iload dX7_twice_135 rfl ?_
                refine V_imul dX7_twice_137 ?_
                refine V_iload dX7_twice_138 rfl ?_
                refine V_iadd dX7_twice_140 ?_
                refine V_goto (tgt := 146) dX7_twice_141 (by decide) ?_
                refine V_keep [true, true, true, true, true, false, true, true] rfl ?_
                exact mM_twice_146_v hE k53 hk53 v1 v2 v3 v4 v6 v7 (((200 : Int32) * v6) + v7) σ hf
set_option maxHeartbeats 4000000 in
theorem mM_twice_36_v {X : CX} {w0 : AH} {z : ZZ} {h : Nat} {r : Int32} {σ' : SM} (hE : XE X w0 7 (some .int) "twice" (.returned (some (.int r))) (wM z h σ')) (k36 : Int32 → Int32 → Int32 → Int32 → Int32 → Int32 → SM → Option (Int32 × SM)) (hk36 : ∀ (v1 : Int32) (v2 : Int32) (v3 : Int32) (v4 : Int32) (v5 : Int32) (v6 : Int32) (σ : SM), k36 v1 v2 v3 v4 v5 v6 σ = some (r, σ') → V X cX7_twice RX7 8 7 (wM z h σ) 36 [some (.ref h), some (.int v1), some (.int v2), some (.int v3), some (.int v4), some (.int v5), some (.int v6), none] []) (v1 : Int32) (v2 : Int32) (v3 : Int32) (v4 : Int32) (v5 : Int32) (v6 : Int32) (σ : SM) (hf : mM_twice_36 k36 v1 v2 v3 v4 v5 v6 σ = some (r, σ')) : V X cX7_twice RX7 8 7 (wM z h σ) 36 [some (.ref h), some (.int v1), some (.int v2), some (.int v3), some (.int v4), some (.int v5), some (.int v6), none] [] := by
  unfold mM_twice_36 at hf
  refine V_iload dX7_twice_36 rfl ?_
  refine V_aload_n dX7_twice_38 rfl ?_
  refine VM_getR fX7_7 ⟨rfl, rfl⟩ rfl dX7_twice_39 ?_
  refine V_iconst dX7_twice_42 kc_1 ?_
  refine VM_ldI (n := 23016) (k := 1) rfl (by decide) (by decide) dX7_twice_43 ?_
  refine V_icmp_ge (tgt := 163) dX7_twice_44 (by decide) (fun hc1 => ?_) (fun hc1 => ?_)
  · have hf := if_t hf hc1
    refine V_iload_n dX7_twice_163 rfl ?_
    refine V_iconst dX7_twice_164 kc_m1 ?_
    refine V_icmp_ne (tgt := 173) dX7_twice_165 (by decide) (fun hc2 => ?_) (fun hc2 => ?_)
    · have hf := if_f hf hc2
      refine V_iload dX7_twice_173 rfl ?_
      cases some_ex hf
      exact V_iret hE dX7_twice_175
    · have hf := if_t hf hc2
      refine V_iload dX7_twice_168 rfl ?_
      refine V_goto (tgt := 175) dX7_twice_170 (by decide) ?_
      cases some_ex hf
      exact V_iret hE dX7_twice_175
  · have hf := if_f hf hc1
    refine V_iload dX7_twice_47 rfl ?_
    refine V_iconst dX7_twice_49 kc_1 ?_
    refine V_iadd dX7_twice_50 ?_
    refine V_istore (ls' := [some (.ref h), some (.int v1), some (.int v2), some (.int v3), some (.int v4), some (.int v5), some (.int v6), some (.int (v6 + (1 : Int32)))]) dX7_twice_51 (by decide) rfl ?_
    exact lq8_ex (P := fun v1 v2 v3 v4 v5 v6 v7 σ => V X cX7_twice RX7 8 7 (wM z h σ) 53 [some (.ref h), some (.int v1), some (.int v2), some (.int v3), some (.int v4), some (.int v5), some (.int v6), some (.int v7)] []) (fun k hk v1 v2 v3 v4 v5 v6 v7 σ hf => mM_twice_53_v hE k36 hk36 k hk v1 v2 v3 v4 v5 v6 v7 σ hf) LF v1 v2 v3 v4 v5 v6 (v6 + (1 : Int32)) σ hf
set_option maxHeartbeats 4000000 in
theorem mM_twice_ok (l : Launch) (D : DD) (z : ZZ) (h : Nat) (p0 : Int32) (p1 : Int32) (p2 : Int32) (σ : SM) (r : Int32) (σ' : SM) (hf : mM_twice p0 p1 p2 σ = some (r, σ')) : MA l D yX7_twice cX7_twice 8 (some .int) 7 [.ref h, .int p0, .int p1, .int p2] (wM z h σ) (.returned (some (.int r))) (wM z h σ') := by
  refine MA.intro (own := RX7) (nm := "twice") (ls := [some (.ref h), some (.int p0), some (.int p1), some (.int p2), none, none, none, none]) (by decide) rfl rfl (Nat.le_of_ble_eq_true rfl) rfl (fun X hl hD hE => ?_)
  subst hl hD
  unfold mM_twice at hf
  refine V_aload_n dX7_twice_0 rfl ?_
  refine V_iconst dX7_twice_1 kc_0 ?_
  obtain ⟨σ1, hs2, hf⟩ := st1_ex hf
  refine VM_putI fwX7_113 hs2 dX7_twice_2 ?_
  refine V_iload_n dX7_twice_5 rfl ?_
  obtain ⟨r4, hc3, hf⟩ := bd1_ex hf
  refine V_cS (rest := []) (st' := [.int r4]) (mM_isDay_ok _ _ _ _ _ hc3) scX7_159 (by decide) rfl rfl (Nat.le_of_ble_eq_true rfl) dX7_twice_6 rfl ?_
  refine V_if_eq (tgt := 19) dX7_twice_9 (by decide) (fun hc5 => ?_) (fun hc5 => ?_)
  · have hf := if_t hf hc5
    refine V_iconst dX7_twice_19 kc_m1 ?_
    cases some_ex hf
    exact V_iret hE dX7_twice_20
  · have hf := if_f hf hc5
    refine V_iload_n dX7_twice_12 rfl ?_
    obtain ⟨r7, hc6, hf⟩ := bd1_ex hf
    refine V_cS (rest := []) (st' := [.int r7]) (mM_isDay_ok _ _ _ _ _ hc6) scX7_159 (by decide) rfl rfl (Nat.le_of_ble_eq_true rfl) dX7_twice_13 rfl ?_
    refine V_if_ne (tgt := 21) dX7_twice_16 (by decide) (fun hc8 => ?_) (fun hc8 => ?_)
    · have hf := if_f hf hc8
      refine V_aload_n dX7_twice_21 rfl ?_
      refine V_iload_n dX7_twice_22 rfl ?_
      refine V_iload_n dX7_twice_23 rfl ?_
      obtain ⟨σ10, hc9, hf⟩ := bd1_ex hf
      refine V_cV (av := [.int p0, .int p1]) (rest := []) (st' := []) (mM_knowBy_ok _ _ _ _ _ _ _ _ hc9) vcX7_205 (wM_k0 _ _ _) (by decide) rfl rfl (Nat.le_of_ble_eq_true rfl) dX7_twice_24 rfl ?_
      refine V_iconst dX7_twice_27 kc_0 ?_
      refine V_istore (ls' := [some (.ref h), some (.int p0), some (.int p1), some (.int p2), some (.int (0 : Int32)), none, none, none]) dX7_twice_28 (by decide) rfl ?_
      refine V_iconst dX7_twice_30 kc_m1 ?_
      refine V_istore (ls' := [some (.ref h), some (.int p0), some (.int p1), some (.int p2), some (.int (0 : Int32)), some (.int (-1 : Int32)), none, none]) dX7_twice_31 (by decide) rfl ?_
      refine V_iconst dX7_twice_33 kc_0 ?_
      refine V_istore (ls' := [some (.ref h), some (.int p0), some (.int p1), some (.int p2), some (.int (0 : Int32)), some (.int (-1 : Int32)), some (.int (0 : Int32)), none]) dX7_twice_34 (by decide) rfl ?_
      exact lq7_ex (P := fun v1 v2 v3 v4 v5 v6 σ => V X cX7_twice RX7 8 7 (wM z h σ) 36 [some (.ref h), some (.int v1), some (.int v2), some (.int v3), some (.int v4), some (.int v5), some (.int v6), none] []) (fun k hk v1 v2 v3 v4 v5 v6 σ hf => mM_twice_36_v hE k hk v1 v2 v3 v4 v5 v6 σ hf) LF p0 p1 p2 (0 : Int32) (-1 : Int32) (0 : Int32) σ10 hf
    · have hf := if_t hf hc8
      refine V_iconst dX7_twice_19 kc_m1 ?_
      cases some_ex hf
      exact V_iret hE dX7_twice_20
set_option maxHeartbeats 4000000 in
theorem mM_four_3_v {X : CX} {w0 : AH} {z : ZZ} {h : Nat} {σ' : SM} (hE : XE X w0 1 none "four" (.returned none) (wM z h σ')) (k3 : Int32 → Int32 → SM → Option (SM)) (hk3 : ∀ (v1 : Int32) (v2 : Int32) (σ : SM), k3 v1 v2 σ = some σ' → V X cX7_four RX7 3 1 (wM z h σ) 3 [some (.ref h), some (.int v1), some (.int v2)] []) (v1 : Int32) (v2 : Int32) (σ : SM) (hf : mM_four_3 k3 v1 v2 σ = some σ') : V X cX7_four RX7 3 1 (wM z h σ) 3 [some (.ref h), some (.int v1), some (.int v2)] [] := by
  unfold mM_four_3 at hf
  refine V_iload_n dX7_four_3 rfl ?_
  refine V_if_lt (tgt := 39) dX7_four_4 (by decide) (fun hc1 => ?_) (fun hc1 => ?_)
  · have hf := if_t hf hc1
    cases some_ex hf
    exact V_vret hE dX7_four_39
  · have hf := if_f hf hc1
    refine V_aload_n dX7_four_7 rfl ?_
    refine VM_getR fX7_27 ⟨rfl, rfl⟩ rfl dX7_four_8 ?_
    refine V_aload_n dX7_four_11 rfl ?_
    refine VM_getI fX7_169 rfl dX7_four_12 ?_
    refine V_iload_n dX7_four_15 rfl ?_
    refine V_iload_n dX7_four_16 rfl ?_
    refine V_ishr dX7_four_17 ?_
    refine V_sipush dX7_four_18 ks_255 ?_
    refine V_iand dX7_four_21 ?_
    obtain ⟨hb2, hf⟩ := ck_ex hf
    obtain ⟨σ3, hs4, hf⟩ := st1_ex hf
    refine VM_stI (n := 400) (k := (gI σ 0 10).toNatClampNeg) rfl hb2 rfl hs4 dX7_four_22 ?_
    refine V_aload_n dX7_four_23 rfl ?_
    refine V_dup dX7_four_24 rfl ?_
    refine VM_getI fX7_169 rfl dX7_four_25 ?_
    refine V_iconst dX7_four_28 kc_1 ?_
    refine V_iadd dX7_four_29 ?_
    obtain ⟨σ5, hs6, hf⟩ := st1_ex hf
    refine VM_putI fwX7_169 hs6 dX7_four_30 ?_
    refine V_inc (ls' := [some (.ref h), some (.int v1), some (.int (v2 + (-8 : Int32)))]) dX7_four_33 rfl kc_m8 (by decide) rfl ?_
    refine V_goto (tgt := 3) dX7_four_36 (by decide) ?_
    exact hk3 v1 (v2 + (-8 : Int32)) σ5 hf
set_option maxHeartbeats 4000000 in
theorem mM_four_ok (l : Launch) (D : DD) (z : ZZ) (h : Nat) (p0 : Int32) (σ : SM) (σ' : SM) (hf : mM_four p0 σ = some σ') : MA l D yX7_four cX7_four 3 none 1 [.ref h, .int p0] (wM z h σ) (.returned none) (wM z h σ') := by
  refine MA.intro (own := RX7) (nm := "four") (ls := [some (.ref h), some (.int p0), none]) (by decide) rfl rfl (Nat.le_of_ble_eq_true rfl) rfl (fun X hl hD hE => ?_)
  subst hl hD
  unfold mM_four at hf
  refine V_bipush dX7_four_0 kb_24 ?_
  refine V_istore_n (ls' := [some (.ref h), some (.int p0), some (.int (24 : Int32))]) dX7_four_2 (by decide) rfl ?_
  exact lq3_ex (P := fun v1 v2 σ => V X cX7_four RX7 3 1 (wM z h σ) 3 [some (.ref h), some (.int v1), some (.int v2)] []) (fun k hk v1 v2 σ hf => mM_four_3_v hE k hk v1 v2 σ hf) LF p0 (24 : Int32) σ hf
set_option maxHeartbeats 4000000 in
theorem mM_feed_ok (l : Launch) (D : DD) (z : ZZ) (h : Nat) (p0 : Int32) (p1 : Int32) (p2 : Int32) (p3 : Int32) (p4 : Int32) (σ : SM) (r : Int32) (σ' : SM) (hf : mM_feed p0 p1 p2 p3 p4 σ = some (r, σ')) : MA l D yX7_feed cX7_feed 6 (some .int) 2 [.ref h, .int p0, .int p1, .int p2, .int p3, .int p4] (wM z h σ) (.returned (some (.int r))) (wM z h σ') := by
  refine MA.intro (own := RX7) (nm := "feed") (ls := [some (.ref h), some (.int p0), some (.int p1), some (.int p2), some (.int p3), some (.int p4)]) (by decide) rfl rfl (Nat.le_of_ble_eq_true rfl) rfl (fun X hl hD hE => ?_)
  subst hl hD
  unfold mM_feed at hf
  refine V_aload_n dX7_feed_0 rfl ?_
  refine V_iconst dX7_feed_1 kc_0 ?_
  obtain ⟨σ1, hs2, hf⟩ := st1_ex hf
  refine VM_putI fwX7_113 hs2 dX7_feed_2 ?_
  refine V_aload_n dX7_feed_5 rfl ?_
  refine VM_getI fX7_169 rfl dX7_feed_6 ?_
  refine V_bipush dX7_feed_9 kb_20 ?_
  refine V_iadd dX7_feed_11 ?_
  refine V_sipush dX7_feed_12 ks_400 ?_
  refine V_icmp_le (tgt := 20) dX7_feed_15 (by decide) (fun hc3 => ?_) (fun hc3 => ?_)
  · have hf := if_t hf hc3
    refine V_aload_n dX7_feed_20 rfl ?_
    refine V_iload_n dX7_feed_21 rfl ?_
    obtain ⟨σ5, hc4, hf⟩ := bd1_ex hf
    refine V_cV (av := [.int p0]) (rest := []) (st' := []) (mM_four_ok _ _ _ _ _ _ _ hc4) vcX7_220 (wM_k0 _ _ _) (by decide) rfl rfl (Nat.le_of_ble_eq_true rfl) dX7_feed_22 rfl ?_
    refine V_aload_n dX7_feed_25 rfl ?_
    refine V_iload_n dX7_feed_26 rfl ?_
    obtain ⟨σ7, hc6, hf⟩ := bd1_ex hf
    refine V_cV (av := [.int p1]) (rest := []) (st' := []) (mM_four_ok _ _ _ _ _ _ _ hc6) vcX7_220 (wM_k0 _ _ _) (by decide) rfl rfl (Nat.le_of_ble_eq_true rfl) dX7_feed_27 rfl ?_
    refine V_aload_n dX7_feed_30 rfl ?_
    refine V_iload_n dX7_feed_31 rfl ?_
    obtain ⟨σ9, hc8, hf⟩ := bd1_ex hf
    refine V_cV (av := [.int p2]) (rest := []) (st' := []) (mM_four_ok _ _ _ _ _ _ _ hc8) vcX7_220 (wM_k0 _ _ _) (by decide) rfl rfl (Nat.le_of_ble_eq_true rfl) dX7_feed_32 rfl ?_
    refine V_aload_n dX7_feed_35 rfl ?_
    refine V_iload dX7_feed_36 rfl ?_
    obtain ⟨σ11, hc10, hf⟩ := bd1_ex hf
    refine V_cV (av := [.int p3]) (rest := []) (st' := []) (mM_four_ok _ _ _ _ _ _ _ hc10) vcX7_220 (wM_k0 _ _ _) (by decide) rfl rfl (Nat.le_of_ble_eq_true rfl) dX7_feed_38 rfl ?_
    refine V_aload_n dX7_feed_41 rfl ?_
    refine V_iload dX7_feed_42 rfl ?_
    obtain ⟨σ13, hc12, hf⟩ := bd1_ex hf
    refine V_cV (av := [.int p4]) (rest := []) (st' := []) (mM_four_ok _ _ _ _ _ _ _ hc12) vcX7_220 (wM_k0 _ _ _) (by decide) rfl rfl (Nat.le_of_ble_eq_true rfl) dX7_feed_44 rfl ?_
    refine V_aload_n dX7_feed_47 rfl ?_
    refine VM_getI fX7_169 rfl dX7_feed_48 ?_
    cases some_ex hf
    exact V_iret hE dX7_feed_51
  · have hf := if_f hf hc3
    refine V_iconst dX7_feed_18 kc_m1 ?_
    cases some_ex hf
    exact V_iret hE dX7_feed_19
set_option maxHeartbeats 4000000 in
theorem mM_end_ok (l : Launch) (D : DD) (z : ZZ) (h : Nat) (p0 : Int32) (σ : SM) (r : Int32) (σ' : SM) (hf : mM_end p0 σ = some (r, σ')) : MA l D yX7_end cX7_end 2 (some .int) 1 [.ref h, .int p0] (wM z h σ) (.returned (some (.int r))) (wM z h σ') := by
  refine MA.intro (own := RX7) (nm := "end") (ls := [some (.ref h), some (.int p0)]) (by decide) rfl rfl (Nat.le_of_ble_eq_true rfl) rfl (fun X hl hD hE => ?_)
  subst hl hD
  unfold mM_end at hf
  refine V_aload_n dX7_end_0 rfl ?_
  refine V_iconst dX7_end_1 kc_0 ?_
  obtain ⟨σ1, hs2, hf⟩ := st1_ex hf
  refine VM_putI fwX7_113 hs2 dX7_end_2 ?_
  refine V_iload_n dX7_end_5 rfl ?_
  refine V_if_lt (tgt := 17) dX7_end_6 (by decide) (fun hc3 => ?_) (fun hc3 => ?_)
  · have hf := if_t hf hc3
    refine V_iconst dX7_end_17 kc_m1 ?_
    cases some_ex hf
    exact V_iret hE dX7_end_18
  · have hf := if_f hf hc3
    refine V_iload_n dX7_end_9 rfl ?_
    refine V_aload_n dX7_end_10 rfl ?_
    refine VM_getI fX7_169 rfl dX7_end_11 ?_
    refine V_icmp_le (tgt := 19) dX7_end_14 (by decide) (fun hc4 => ?_) (fun hc4 => ?_)
    · have hf := if_t hf hc4
      refine V_aload_n dX7_end_19 rfl ?_
      refine V_iload_n dX7_end_20 rfl ?_
      obtain ⟨σ5, hs6, hf⟩ := st1_ex hf
      refine VM_putI fwX7_169 hs6 dX7_end_21 ?_
      refine V_iload_n dX7_end_24 rfl ?_
      cases some_ex hf
      exact V_iret hE dX7_end_25
    · have hf := if_f hf hc4
      refine V_iconst dX7_end_17 kc_m1 ?_
      cases some_ex hf
      exact V_iret hE dX7_end_18
set_option maxHeartbeats 4000000 in
theorem mM_fault_ok (l : Launch) (D : DD) (z : ZZ) (h : Nat) (σ : SM) (r : Int32) (σ' : SM) (hf : mM_fault  σ = some (r, σ')) : MA l D yX7_fault cX7_fault 1 (some .int) 1 [.ref h] (wM z h σ) (.returned (some (.int r))) (wM z h σ') := by
  refine MA.intro (own := RX7) (nm := "fault") (ls := [some (.ref h)]) (by decide) rfl rfl (Nat.le_of_ble_eq_true rfl) rfl (fun X hl hD hE => ?_)
  subst hl hD
  unfold mM_fault at hf
  refine V_aload_n dX7_fault_0 rfl ?_
  refine V_iconst dX7_fault_1 kc_0 ?_
  obtain ⟨σ1, hs2, hf⟩ := st1_ex hf
  refine VM_putI fwX7_113 hs2 dX7_fault_2 ?_
  refine V_aload_n dX7_fault_5 rfl ?_
  refine VM_getI fX7_30 rfl dX7_fault_6 ?_
  cases some_ex hf
  exact V_iret hE dX7_fault_9
set_option maxHeartbeats 4000000 in
theorem mM_isSmall_ok (l : Launch) (D : DD) (w : AH) (p0 : Int32) (r : Int32) (hf : mM_isSmall p0 = some r) : MA l D yX7_isSmall cX7_isSmall 1 (some .boolean) 1 [.int p0] w (.returned (some (.int r))) w := by
  refine MA.intro (own := RX7) (nm := "isSmall") (ls := [some (.int p0)]) (by decide) rfl rfl (Nat.le_of_ble_eq_true rfl) rfl (fun X hl hD hE => ?_)
  subst hl hD
  unfold mM_isSmall at hf
  refine V_iload_n dX7_isSmall_0 rfl ?_
  refine V_bipush dX7_isSmall_1 kb_97 ?_
  refine V_icmp_lt (tgt := 16) dX7_isSmall_3 (by decide) (fun hc1 => ?_) (fun hc1 => ?_)
  · have hf := if_t hf hc1
    refine V_iconst dX7_isSmall_16 kc_0 ?_
    cases some_ex hf
    exact V_zret hE (by decide) dX7_isSmall_17
  · have hf := if_f hf hc1
    refine V_iload_n dX7_isSmall_6 rfl ?_
    refine V_bipush dX7_isSmall_7 kb_122 ?_
    refine V_icmp_gt (tgt := 16) dX7_isSmall_9 (by decide) (fun hc2 => ?_) (fun hc2 => ?_)
    · have hf := if_t hf hc2
      refine V_iconst dX7_isSmall_16 kc_0 ?_
      cases some_ex hf
      exact V_zret hE (by decide) dX7_isSmall_17
    · have hf := if_f hf hc2
      refine V_iconst dX7_isSmall_12 kc_1 ?_
      refine V_goto (tgt := 17) dX7_isSmall_13 (by decide) ?_
      cases some_ex hf
      exact V_zret hE (by decide) dX7_isSmall_17
set_option maxHeartbeats 4000000 in
theorem mM_isDigit_ok (l : Launch) (D : DD) (w : AH) (p0 : Int32) (r : Int32) (hf : mM_isDigit p0 = some r) : MA l D yX7_isDigit cX7_isDigit 1 (some .boolean) 1 [.int p0] w (.returned (some (.int r))) w := by
  refine MA.intro (own := RX7) (nm := "isDigit") (ls := [some (.int p0)]) (by decide) rfl rfl (Nat.le_of_ble_eq_true rfl) rfl (fun X hl hD hE => ?_)
  subst hl hD
  unfold mM_isDigit at hf
  refine V_iload_n dX7_isDigit_0 rfl ?_
  refine V_bipush dX7_isDigit_1 kb_48 ?_
  refine V_icmp_lt (tgt := 16) dX7_isDigit_3 (by decide) (fun hc1 => ?_) (fun hc1 => ?_)
  · have hf := if_t hf hc1
    refine V_iconst dX7_isDigit_16 kc_0 ?_
    cases some_ex hf
    exact V_zret hE (by decide) dX7_isDigit_17
  · have hf := if_f hf hc1
    refine V_iload_n dX7_isDigit_6 rfl ?_
    refine V_bipush dX7_isDigit_7 kb_57 ?_
    refine V_icmp_gt (tgt := 16) dX7_isDigit_9 (by decide) (fun hc2 => ?_) (fun hc2 => ?_)
    · have hf := if_t hf hc2
      refine V_iconst dX7_isDigit_16 kc_0 ?_
      cases some_ex hf
      exact V_zret hE (by decide) dX7_isDigit_17
    · have hf := if_f hf hc2
      refine V_iconst dX7_isDigit_12 kc_1 ?_
      refine V_goto (tgt := 17) dX7_isDigit_13 (by decide) ?_
      cases some_ex hf
      exact V_zret hE (by decide) dX7_isDigit_17
set_option maxHeartbeats 4000000 in
theorem mM_next_319_v {X : CX} {w0 : AH} {z : ZZ} {h : Nat} {σ' : SM} (hE : XE X w0 2 none "next" (.returned none) (wM z h σ')) (k243 : SM → Option (SM)) (hk243 : ∀ (σ : SM), k243 σ = some σ' → V X cX7_next RX7 1 2 (wM z h σ) 243 [some (.ref h)] []) (t0 : Int64) (σ : SM) (hf : mM_next_319 k243 t0 σ = some σ') : V X cX7_next RX7 1 2 (wM z h σ) 319 [some (.ref h)] [.long t0, .ref h] := by
  unfold mM_next_319 at hf
  obtain ⟨σ1, hs2, hf⟩ := st1_ex hf
  refine VM_putL fwX7_236 hs2 dX7_next_319 ?_
  refine V_aload_n dX7_next_322 rfl ?_
  refine V_dup dX7_next_323 rfl ?_
  refine VM_getI fX7_223 rfl dX7_next_324 ?_
  refine V_iconst dX7_next_327 kc_1 ?_
  refine V_iadd dX7_next_328 ?_
  obtain ⟨σ3, hs4, hf⟩ := st1_ex hf
  refine VM_putI fwX7_223 hs4 dX7_next_329 ?_
  refine V_goto (tgt := 243) dX7_next_332 (by decide) ?_
  exact hk243 σ3 hf
set_option maxHeartbeats 4000000 in
theorem mM_next_243_v {X : CX} {w0 : AH} {z : ZZ} {h : Nat} {σ' : SM} (hE : XE X w0 2 none "next" (.returned none) (wM z h σ')) (k243 : SM → Option (SM)) (hk243 : ∀ (σ : SM), k243 σ = some σ' → V X cX7_next RX7 1 2 (wM z h σ) 243 [some (.ref h)] []) (σ : SM) (hf : mM_next_243 k243 σ = some σ') : V X cX7_next RX7 1 2 (wM z h σ) 243 [some (.ref h)] [] := by
  unfold mM_next_243 at hf
  refine V_aload_n dX7_next_243 rfl ?_
  refine VM_getI fX7_246 rfl dX7_next_244 ?_
  refine V_iconst dX7_next_247 kc_2 ?_
  refine V_icmp_ne (tgt := 335) dX7_next_248 (by decide) (fun hc1 => ?_) (fun hc1 => ?_)
  · have hf := if_f hf hc1
    cases some_ex hf
    exact V_vret hE dX7_next_335
  · have hf := if_t hf hc1
    refine V_aload_n dX7_next_251 rfl ?_
    refine VM_getI fX7_223 rfl dX7_next_252 ?_
    refine V_aload_n dX7_next_255 rfl ?_
    refine VM_getI fX7_169 rfl dX7_next_256 ?_
    refine V_icmp_ge (tgt := 335) dX7_next_259 (by decide) (fun hc2 => ?_) (fun hc2 => ?_)
    · have hf := if_t hf hc2
      cases some_ex hf
      exact V_vret hE dX7_next_335
    · have hf := if_f hf hc2
      refine V_aload_n dX7_next_262 rfl ?_
      refine VM_getR fX7_27 ⟨rfl, rfl⟩ rfl dX7_next_263 ?_
      refine V_aload_n dX7_next_266 rfl ?_
      refine VM_getI fX7_223 rfl dX7_next_267 ?_
      obtain ⟨hb3, hf⟩ := ck_ex hf
      refine VM_ldI (n := 400) (k := (gI σ 0 12).toNatClampNeg) rfl hb3 rfl dX7_next_270 ?_
      obtain ⟨r5, hc4, hf⟩ := bd1_ex hf
      refine V_cS (rest := []) (st' := [.int r5]) (mM_isDigit_ok _ _ _ _ _ hc4) scX7_243 (by decide) rfl rfl (Nat.le_of_ble_eq_true rfl) dX7_next_271 rfl ?_
      refine V_if_eq (tgt := 335) dX7_next_274 (by decide) (fun hc6 => ?_) (fun hc6 => ?_)
      · have hf := if_t hf hc6
        cases some_ex hf
        exact V_vret hE dX7_next_335
      · have hf := if_f hf hc6
        refine V_aload_n dX7_next_277 rfl ?_
        refine V_aload_n dX7_next_278 rfl ?_
        refine VM_getL fX7_236 dX7_next_279 ?_
        refine V_ldc2 q2158 dX7_next_282 ?_
        refine V_lif_le (tgt := 296) dX7_next_285 dX7_next_286 (by decide) (fun hc7 => ?_) (fun hc7 => ?_)
        · have hf := if_t hf hc7
          refine V_aload_n dX7_next_296 rfl ?_
          refine VM_getL fX7_236 dX7_next_297 ?_
          refine V_ldc2 q2159 dX7_next_300 ?_
          refine V_lmul dX7_next_303 ?_
          refine V_aload_n dX7_next_304 rfl ?_
          refine VM_getR fX7_27 ⟨rfl, rfl⟩ rfl dX7_next_305 ?_
          refine V_aload_n dX7_next_308 rfl ?_
          refine VM_getI fX7_223 rfl dX7_next_309 ?_
          obtain ⟨hb8, hf⟩ := ck_ex hf
          refine VM_ldI (n := 400) (k := (gI σ 0 12).toNatClampNeg) rfl hb8 rfl dX7_next_312 ?_
          refine V_i2l dX7_next_313 ?_
          refine V_ladd dX7_next_314 ?_
          refine V_ldc2 q2160 dX7_next_315 ?_
          refine V_lsub dX7_next_318 ?_
          exact mM_next_319_v hE k243 hk243 ((((gL σ 0 14) * (10 : Int64)) + (gI σ 6 ((gI σ 0 12).toNatClampNeg)).toInt64) - (48 : Int64)) σ hf
        · have hf := if_f hf hc7
          refine V_aload_n dX7_next_289 rfl ?_
          refine VM_getL fX7_236 dX7_next_290 ?_
          refine V_goto (tgt := 319) dX7_next_293 (by decide) ?_
          exact mM_next_319_v hE k243 hk243 (gL σ 0 14) σ hf
set_option maxHeartbeats 4000000 in
theorem mM_next_227_v {X : CX} {w0 : AH} {z : ZZ} {h : Nat} {σ' : SM} (hE : XE X w0 2 none "next" (.returned none) (wM z h σ')) (k149 : SM → Option (SM)) (hk149 : ∀ (σ : SM), k149 σ = some σ' → V X cX7_next RX7 1 2 (wM z h σ) 149 [some (.ref h)] []) (t0 : Int64) (σ : SM) (hf : mM_next_227 k149 t0 σ = some σ') : V X cX7_next RX7 1 2 (wM z h σ) 227 [some (.ref h)] [.long t0, .ref h] := by
  unfold mM_next_227 at hf
  obtain ⟨σ1, hs2, hf⟩ := st1_ex hf
  refine VM_putL fwX7_236 hs2 dX7_next_227 ?_
  refine V_aload_n dX7_next_230 rfl ?_
  refine V_dup dX7_next_231 rfl ?_
  refine VM_getI fX7_223 rfl dX7_next_232 ?_
  refine V_iconst dX7_next_235 kc_1 ?_
  refine V_iadd dX7_next_236 ?_
  obtain ⟨σ3, hs4, hf⟩ := st1_ex hf
  refine VM_putI fwX7_223 hs4 dX7_next_237 ?_
  refine V_goto (tgt := 149) dX7_next_240 (by decide) ?_
  exact hk149 σ3 hf
set_option maxHeartbeats 4000000 in
theorem mM_next_149_v {X : CX} {w0 : AH} {z : ZZ} {h : Nat} {σ' : SM} (hE : XE X w0 2 none "next" (.returned none) (wM z h σ')) (k149 : SM → Option (SM)) (hk149 : ∀ (σ : SM), k149 σ = some σ' → V X cX7_next RX7 1 2 (wM z h σ) 149 [some (.ref h)] []) (σ : SM) (hf : mM_next_149 k149 σ = some σ') : V X cX7_next RX7 1 2 (wM z h σ) 149 [some (.ref h)] [] := by
  unfold mM_next_149 at hf
  refine V_aload_n dX7_next_149 rfl ?_
  refine VM_getI fX7_246 rfl dX7_next_150 ?_
  refine V_iconst dX7_next_153 kc_1 ?_
  refine V_icmp_ne (tgt := 243) dX7_next_154 (by decide) (fun hc1 => ?_) (fun hc1 => ?_)
  · have hf := if_f hf hc1
    exact lq1_ex (P := fun σ => V X cX7_next RX7 1 2 (wM z h σ) 243 [some (.ref h)] []) (fun k hk σ hf => mM_next_243_v hE k hk σ hf) LF σ hf
  · have hf := if_t hf hc1
    refine V_aload_n dX7_next_157 rfl ?_
    refine VM_getI fX7_223 rfl dX7_next_158 ?_
    refine V_aload_n dX7_next_161 rfl ?_
    refine VM_getI fX7_169 rfl dX7_next_162 ?_
    refine V_icmp_ge (tgt := 243) dX7_next_165 (by decide) (fun hc2 => ?_) (fun hc2 => ?_)
    · have hf := if_t hf hc2
      exact lq1_ex (P := fun σ => V X cX7_next RX7 1 2 (wM z h σ) 243 [some (.ref h)] []) (fun k hk σ hf => mM_next_243_v hE k hk σ hf) LF σ hf
    · have hf := if_f hf hc2
      refine V_aload_n dX7_next_168 rfl ?_
      refine VM_getR fX7_27 ⟨rfl, rfl⟩ rfl dX7_next_169 ?_
      refine V_aload_n dX7_next_172 rfl ?_
      refine VM_getI fX7_223 rfl dX7_next_173 ?_
      obtain ⟨hb3, hf⟩ := ck_ex hf
      refine VM_ldI (n := 400) (k := (gI σ 0 12).toNatClampNeg) rfl hb3 rfl dX7_next_176 ?_
      obtain ⟨r5, hc4, hf⟩ := bd1_ex hf
      refine V_cS (rest := []) (st' := [.int r5]) (mM_isSmall_ok _ _ _ _ _ hc4) scX7_240 (by decide) rfl rfl (Nat.le_of_ble_eq_true rfl) dX7_next_177 rfl ?_
      refine V_if_eq (tgt := 243) dX7_next_180 (by decide) (fun hc6 => ?_) (fun hc6 => ?_)
      · have hf := if_t hf hc6
        exact lq1_ex (P := fun σ => V X cX7_next RX7 1 2 (wM z h σ) 243 [some (.ref h)] []) (fun k hk σ hf => mM_next_243_v hE k hk σ hf) LF σ hf
      · have hf := if_f hf hc6
        refine V_aload_n dX7_next_183 rfl ?_
        refine V_aload_n dX7_next_184 rfl ?_
        refine VM_getI fX7_223 rfl dX7_next_185 ?_
        refine V_aload_n dX7_next_188 rfl ?_
        refine VM_getI fX7_233 rfl dX7_next_189 ?_
        refine V_isub dX7_next_192 ?_
        refine V_bipush dX7_next_193 kb_10 ?_
        refine V_icmp_ge (tgt := 224) dX7_next_195 (by decide) (fun hc7 => ?_) (fun hc7 => ?_)
        · have hf := if_t hf hc7
          refine V_ldc2 q2157 dX7_next_224 ?_
          exact mM_next_227_v hE k149 hk149 (-1 : Int64) σ hf
        · have hf := if_f hf hc7
          refine V_aload_n dX7_next_198 rfl ?_
          refine VM_getL fX7_236 dX7_next_199 ?_
          refine V_ldc2 q2155 dX7_next_202 ?_
          refine V_lmul dX7_next_205 ?_
          refine V_aload_n dX7_next_206 rfl ?_
          refine VM_getR fX7_27 ⟨rfl, rfl⟩ rfl dX7_next_207 ?_
          refine V_aload_n dX7_next_210 rfl ?_
          refine VM_getI fX7_223 rfl dX7_next_211 ?_
          obtain ⟨hb8, hf⟩ := ck_ex hf
          refine VM_ldI (n := 400) (k := (gI σ 0 12).toNatClampNeg) rfl hb8 rfl dX7_next_214 ?_
          refine V_i2l dX7_next_215 ?_
          refine V_ladd dX7_next_216 ?_
          refine V_ldc2 q2156 dX7_next_217 ?_
          refine V_lsub dX7_next_220 ?_
          refine V_goto (tgt := 227) dX7_next_221 (by decide) ?_
          exact mM_next_227_v hE k149 hk149 ((((gL σ 0 14) * (32 : Int64)) + (gI σ 6 ((gI σ 0 12).toNatClampNeg)).toInt64) - (96 : Int64)) σ hf
set_option maxHeartbeats 4000000 in
theorem mM_next_114_v {X : CX} {w0 : AH} {z : ZZ} {h : Nat} {σ' : SM} (hE : XE X w0 2 none "next" (.returned none) (wM z h σ')) (t0 : Int32) (σ : SM) (hf : mM_next_114 t0 σ = some σ') : V X cX7_next RX7 1 2 (wM z h σ) 114 [some (.ref h)] [.int t0, .ref h] := by
  unfold mM_next_114 at hf
  obtain ⟨σ1, hs2, hf⟩ := st1_ex hf
  refine VM_putI fwX7_246 hs2 dX7_next_114 ?_
  refine V_aload_n dX7_next_117 rfl ?_
  refine VM_getI fX7_246 rfl dX7_next_118 ?_
  refine V_iconst dX7_next_121 kc_3 ?_
  refine V_icmp_ne (tgt := 149) dX7_next_122 (by decide) (fun hc3 => ?_) (fun hc3 => ?_)
  · have hf := if_f hf hc3
    exact lq1_ex (P := fun σ => V X cX7_next RX7 1 2 (wM z h σ) 149 [some (.ref h)] []) (fun k hk σ hf => mM_next_149_v hE k hk σ hf) LF σ1 hf
  · have hf := if_t hf hc3
    refine V_aload_n dX7_next_125 rfl ?_
    refine V_aload_n dX7_next_126 rfl ?_
    refine VM_getR fX7_27 ⟨rfl, rfl⟩ rfl dX7_next_127 ?_
    refine V_aload_n dX7_next_130 rfl ?_
    refine VM_getI fX7_233 rfl dX7_next_131 ?_
    obtain ⟨hb4, hf⟩ := ck_ex hf
    refine VM_ldI (n := 400) (k := (gI σ1 0 11).toNatClampNeg) rfl hb4 rfl dX7_next_134 ?_
    refine V_i2l dX7_next_135 ?_
    obtain ⟨σ5, hs6, hf⟩ := st1_ex hf
    refine VM_putL fwX7_236 hs6 dX7_next_136 ?_
    refine V_aload_n dX7_next_139 rfl ?_
    refine V_dup dX7_next_140 rfl ?_
    refine VM_getI fX7_223 rfl dX7_next_141 ?_
    refine V_iconst dX7_next_144 kc_1 ?_
    refine V_iadd dX7_next_145 ?_
    obtain ⟨σ7, hs8, hf⟩ := st1_ex hf
    refine VM_putI fwX7_223 hs8 dX7_next_146 ?_
    exact lq1_ex (P := fun σ => V X cX7_next RX7 1 2 (wM z h σ) 149 [some (.ref h)] []) (fun k hk σ hf => mM_next_149_v hE k hk σ hf) LF σ7 hf
set_option maxHeartbeats 4000000 in
theorem mM_next_46_v {X : CX} {w0 : AH} {z : ZZ} {h : Nat} {σ' : SM} (hE : XE X w0 2 none "next" (.returned none) (wM z h σ')) (σ : SM) (hf : mM_next_46 σ = some σ') : V X cX7_next RX7 1 2 (wM z h σ) 46 [some (.ref h)] [] := by
  unfold mM_next_46 at hf
  refine V_aload_n dX7_next_46 rfl ?_
  refine V_aload_n dX7_next_47 rfl ?_
  refine VM_getI fX7_233 rfl dX7_next_48 ?_
  obtain ⟨σ1, hs2, hf⟩ := st1_ex hf
  refine VM_putI fwX7_223 hs2 dX7_next_51 ?_
  refine V_aload_n dX7_next_54 rfl ?_
  refine V_lconst dX7_next_55 kl_0 ?_
  obtain ⟨σ3, hs4, hf⟩ := st1_ex hf
  refine VM_putL fwX7_236 hs4 dX7_next_56 ?_
  refine V_aload_n dX7_next_59 rfl ?_
  refine V_aload_n dX7_next_60 rfl ?_
  refine VM_getI fX7_233 rfl dX7_next_61 ?_
  refine V_aload_n dX7_next_64 rfl ?_
  refine VM_getI fX7_169 rfl dX7_next_65 ?_
  refine V_icmp_ne (tgt := 75) dX7_next_68 (by decide) (fun hc5 => ?_) (fun hc5 => ?_)
  · have hf := if_f hf hc5
    refine V_aload_n dX7_next_75 rfl ?_
    refine VM_getR fX7_27 ⟨rfl, rfl⟩ rfl dX7_next_76 ?_
    refine V_aload_n dX7_next_79 rfl ?_
    refine VM_getI fX7_233 rfl dX7_next_80 ?_
    obtain ⟨hb6, hf⟩ := ck_ex hf
    refine VM_ldI (n := 400) (k := (gI σ3 0 11).toNatClampNeg) rfl hb6 rfl dX7_next_83 ?_
    obtain ⟨r8, hc7, hf⟩ := bd1_ex hf
    refine V_cS (rest := [.ref h]) (st' := [.int r8, .ref h]) (mM_isSmall_ok _ _ _ _ _ hc7) scX7_240 (by decide) rfl rfl (Nat.le_of_ble_eq_true rfl) dX7_next_84 rfl ?_
    refine V_if_eq (tgt := 94) dX7_next_87 (by decide) (fun hc9 => ?_) (fun hc9 => ?_)
    · have hf := if_t hf hc9
      refine V_aload_n dX7_next_94 rfl ?_
      refine VM_getR fX7_27 ⟨rfl, rfl⟩ rfl dX7_next_95 ?_
      refine V_aload_n dX7_next_98 rfl ?_
      refine VM_getI fX7_233 rfl dX7_next_99 ?_
      obtain ⟨hb10, hf⟩ := ck_ex hf
      refine VM_ldI (n := 400) (k := (gI σ3 0 11).toNatClampNeg) rfl hb10 rfl dX7_next_102 ?_
      obtain ⟨r12, hc11, hf⟩ := bd1_ex hf
      refine V_cS (rest := [.ref h]) (st' := [.int r12, .ref h]) (mM_isDigit_ok _ _ _ _ _ hc11) scX7_243 (by decide) rfl rfl (Nat.le_of_ble_eq_true rfl) dX7_next_103 rfl ?_
      refine V_if_eq (tgt := 113) dX7_next_106 (by decide) (fun hc13 => ?_) (fun hc13 => ?_)
      · have hf := if_t hf hc13
        refine V_iconst dX7_next_113 kc_3 ?_
        exact mM_next_114_v hE (3 : Int32) σ3 hf
      · have hf := if_f hf hc13
        refine V_iconst dX7_next_109 kc_2 ?_
        refine V_goto (tgt := 114) dX7_next_110 (by decide) ?_
        exact mM_next_114_v hE (2 : Int32) σ3 hf
    · have hf := if_f hf hc9
      refine V_iconst dX7_next_90 kc_1 ?_
      refine V_goto (tgt := 114) dX7_next_91 (by decide) ?_
      exact mM_next_114_v hE (1 : Int32) σ3 hf
  · have hf := if_t hf hc5
    refine V_iconst dX7_next_71 kc_0 ?_
    refine V_goto (tgt := 114) dX7_next_72 (by decide) ?_
    exact mM_next_114_v hE (0 : Int32) σ3 hf
set_option maxHeartbeats 4000000 in
theorem mM_next_8_v {X : CX} {w0 : AH} {z : ZZ} {h : Nat} {σ' : SM} (hE : XE X w0 2 none "next" (.returned none) (wM z h σ')) (k8 : SM → Option (SM)) (hk8 : ∀ (σ : SM), k8 σ = some σ' → V X cX7_next RX7 1 2 (wM z h σ) 8 [some (.ref h)] []) (σ : SM) (hf : mM_next_8 k8 σ = some σ') : V X cX7_next RX7 1 2 (wM z h σ) 8 [some (.ref h)] [] := by
  unfold mM_next_8 at hf
  refine V_aload_n dX7_next_8 rfl ?_
  refine VM_getI fX7_233 rfl dX7_next_9 ?_
  refine V_aload_n dX7_next_12 rfl ?_
  refine VM_getI fX7_169 rfl dX7_next_13 ?_
  refine V_icmp_ge (tgt := 46) dX7_next_16 (by decide) (fun hc1 => ?_) (fun hc1 => ?_)
  · have hf := if_t hf hc1
    exact mM_next_46_v hE σ hf
  · have hf := if_f hf hc1
    refine V_aload_n dX7_next_19 rfl ?_
    refine VM_getR fX7_27 ⟨rfl, rfl⟩ rfl dX7_next_20 ?_
    refine V_aload_n dX7_next_23 rfl ?_
    refine VM_getI fX7_233 rfl dX7_next_24 ?_
    obtain ⟨hb2, hf⟩ := ck_ex hf
    refine VM_ldI (n := 400) (k := (gI σ 0 11).toNatClampNeg) rfl hb2 rfl dX7_next_27 ?_
    refine V_bipush dX7_next_28 kb_32 ?_
    refine V_icmp_ne (tgt := 46) dX7_next_30 (by decide) (fun hc3 => ?_) (fun hc3 => ?_)
    · have hf := if_f hf hc3
      exact mM_next_46_v hE σ hf
    · have hf := if_t hf hc3
      refine V_aload_n dX7_next_33 rfl ?_
      refine V_dup dX7_next_34 rfl ?_
      refine VM_getI fX7_233 rfl dX7_next_35 ?_
      refine V_iconst dX7_next_38 kc_1 ?_
      refine V_iadd dX7_next_39 ?_
      obtain ⟨σ4, hs5, hf⟩ := st1_ex hf
      refine VM_putI fwX7_233 hs5 dX7_next_40 ?_
      refine V_goto (tgt := 8) dX7_next_43 (by decide) ?_
      exact hk8 σ4 hf
set_option maxHeartbeats 4000000 in
theorem mM_next_ok (l : Launch) (D : DD) (z : ZZ) (h : Nat) (σ : SM) (σ' : SM) (hf : mM_next  σ = some σ') : MA l D yX7_next cX7_next 1 none 2 [.ref h] (wM z h σ) (.returned none) (wM z h σ') := by
  refine MA.intro (own := RX7) (nm := "next") (ls := [some (.ref h)]) (by decide) rfl rfl (Nat.le_of_ble_eq_true rfl) rfl (fun X hl hD hE => ?_)
  subst hl hD
  unfold mM_next at hf
  refine V_aload_n dX7_next_0 rfl ?_
  refine V_aload_n dX7_next_1 rfl ?_
  refine VM_getI fX7_223 rfl dX7_next_2 ?_
  obtain ⟨σ1, hs2, hf⟩ := st1_ex hf
  refine VM_putI fwX7_233 hs2 dX7_next_5 ?_
  exact lq1_ex (P := fun σ => V X cX7_next RX7 1 2 (wM z h σ) 8 [some (.ref h)] []) (fun k hk σ hf => mM_next_8_v hE k hk σ hf) LF σ1 hf
set_option maxHeartbeats 4000000 in
theorem mM_begin_ok (l : Launch) (D : DD) (z : ZZ) (h : Nat) (σ : SM) (σ' : SM) (hf : mM_begin  σ = some σ') : MA l D yX7_begin cX7_begin 1 none 3 [.ref h] (wM z h σ) (.returned none) (wM z h σ') := by
  refine MA.intro (own := RX7) (nm := "begin") (ls := [some (.ref h)]) (by decide) rfl rfl (Nat.le_of_ble_eq_true rfl) rfl (fun X hl hD hE => ?_)
  subst hl hD
  unfold mM_begin at hf
  refine V_aload_n dX7_begin_0 rfl ?_
  refine V_iconst dX7_begin_1 kc_0 ?_
  obtain ⟨σ1, hs2, hf⟩ := st1_ex hf
  refine VM_putI fwX7_223 hs2 dX7_begin_2 ?_
  refine V_aload_n dX7_begin_5 rfl ?_
  refine V_iconst dX7_begin_6 kc_0 ?_
  obtain ⟨σ3, hs4, hf⟩ := st1_ex hf
  refine VM_putZ fwX7_226 (by decide) hs4 dX7_begin_7 ?_
  refine V_aload_n dX7_begin_10 rfl ?_
  refine V_iconst dX7_begin_11 kc_m1 ?_
  obtain ⟨σ5, hs6, hf⟩ := st1_ex hf
  refine VM_putI fwX7_30 hs6 dX7_begin_12 ?_
  refine V_aload_n dX7_begin_15 rfl ?_
  obtain ⟨σ8, hc7, hf⟩ := bd1_ex hf
  refine V_cV (av := []) (rest := []) (st' := []) (mM_next_ok _ _ _ _ _ _ hc7) vcX7_230 (wM_k0 _ _ _) (by decide) rfl rfl (Nat.le_of_ble_eq_true rfl) dX7_begin_16 rfl ?_
  cases some_ex hf
  exact V_vret hE dX7_begin_19
set_option maxHeartbeats 4000000 in
theorem mM_isWord_ok (l : Launch) (D : DD) (z : ZZ) (h : Nat) (p0 : Int64) (σ : SM) (r : Int32) (hf : mM_isWord p0 σ = some r) : MA l D yX7_isWord cX7_isWord 3 (some .boolean) 1 [.ref h, .long p0] (wM z h σ) (.returned (some (.int r))) (wM z h σ) := by
  refine MA.intro (own := RX7) (nm := "isWord") (ls := [some (.ref h), some (.long p0), none]) (by decide) rfl rfl (Nat.le_of_ble_eq_true rfl) rfl (fun X hl hD hE => ?_)
  subst hl hD
  unfold mM_isWord at hf
  refine V_aload_n dX7_isWord_0 rfl ?_
  refine VM_getI fX7_246 rfl dX7_isWord_1 ?_
  refine V_iconst dX7_isWord_4 kc_1 ?_
  refine V_icmp_ne (tgt := 21) dX7_isWord_5 (by decide) (fun hc1 => ?_) (fun hc1 => ?_)
  · have hf := if_f hf hc1
    refine V_iconst dX7_isWord_21 kc_0 ?_
    cases some_ex hf
    exact V_zret hE (by decide) dX7_isWord_22
  · have hf := if_t hf hc1
    refine V_aload_n dX7_isWord_8 rfl ?_
    refine VM_getL fX7_236 dX7_isWord_9 ?_
    refine V_lload_n dX7_isWord_12 rfl ?_
    refine V_lif_ne (tgt := 21) dX7_isWord_13 dX7_isWord_14 (by decide) (fun hc2 => ?_) (fun hc2 => ?_)
    · have hf := if_f hf hc2
      refine V_iconst dX7_isWord_21 kc_0 ?_
      cases some_ex hf
      exact V_zret hE (by decide) dX7_isWord_22
    · have hf := if_t hf hc2
      refine V_iconst dX7_isWord_17 kc_1 ?_
      refine V_goto (tgt := 22) dX7_isWord_18 (by decide) ?_
      cases some_ex hf
      exact V_zret hE (by decide) dX7_isWord_22
set_option maxHeartbeats 4000000 in
theorem mM_headAt_40_v {X : CX} {w0 : AH} {z : ZZ} {h : Nat} {r : Int32} (σ : SM) (hE : XE X w0 2 (some .int) "headAt" (.returned (some (.int r))) (wM z h σ)) (u : Unit) (hf : mM_headAt_40 σ u = some r) : V X cX7_headAt RX7 1 2 (wM z h σ) 40 [some (.ref h)] [] := by
  unfold mM_headAt_40 at hf
  refine V_aload_n dX7_headAt_40 rfl ?_
  refine V_ldc2 q2169 dX7_headAt_41 ?_
  obtain ⟨r2, hc1, hf⟩ := bd1_ex hf
  refine V_cV (av := [.long (659105125 : Int64)]) (rest := []) (st' := [.int r2]) (mM_isWord_ok _ _ _ _ _ _ _ hc1) vcX7_287 (wM_k0 _ _ _) (by decide) rfl rfl (Nat.le_of_ble_eq_true rfl) dX7_headAt_44 rfl ?_
  refine V_if_eq (tgt := 54) dX7_headAt_47 (by decide) (fun hc3 => ?_) (fun hc3 => ?_)
  · have hf := if_t hf hc3
    refine V_aload_n dX7_headAt_54 rfl ?_
    refine V_ldc2 q2174 dX7_headAt_55 ?_
    obtain ⟨r5, hc4, hf⟩ := bd1_ex hf
    refine V_cV (av := [.long (494 : Int64)]) (rest := []) (st' := [.int r5]) (mM_isWord_ok _ _ _ _ _ _ _ hc4) vcX7_287 (wM_k0 _ _ _) (by decide) rfl rfl (Nat.le_of_ble_eq_true rfl) dX7_headAt_58 rfl ?_
    refine V_if_eq (tgt := 68) dX7_headAt_61 (by decide) (fun hc6 => ?_) (fun hc6 => ?_)
    · have hf := if_t hf hc6
      refine V_aload_n dX7_headAt_68 rfl ?_
      refine V_ldc2 q2175 dX7_headAt_69 ?_
      obtain ⟨r8, hc7, hf⟩ := bd1_ex hf
      refine V_cV (av := [.long (15558 : Int64)]) (rest := []) (st' := [.int r8]) (mM_isWord_ok _ _ _ _ _ _ _ hc7) vcX7_287 (wM_k0 _ _ _) (by decide) rfl rfl (Nat.le_of_ble_eq_true rfl) dX7_headAt_72 rfl ?_
      refine V_if_eq (tgt := 82) dX7_headAt_75 (by decide) (fun hc9 => ?_) (fun hc9 => ?_)
      · have hf := if_t hf hc9
        refine V_iconst dX7_headAt_82 kc_3 ?_
        cases some_ex hf
        exact V_iret hE dX7_headAt_83
      · have hf := if_f hf hc9
        refine V_iconst dX7_headAt_78 kc_2 ?_
        refine V_goto (tgt := 83) dX7_headAt_79 (by decide) ?_
        cases some_ex hf
        exact V_iret hE dX7_headAt_83
    · have hf := if_f hf hc6
      refine V_iconst dX7_headAt_64 kc_1 ?_
      refine V_goto (tgt := 83) dX7_headAt_65 (by decide) ?_
      cases some_ex hf
      exact V_iret hE dX7_headAt_83
  · have hf := if_f hf hc3
    refine V_iconst dX7_headAt_50 kc_0 ?_
    refine V_goto (tgt := 83) dX7_headAt_51 (by decide) ?_
    cases some_ex hf
    exact V_iret hE dX7_headAt_83
set_option maxHeartbeats 4000000 in
theorem mM_headAt_104_v {X : CX} {w0 : AH} {z : ZZ} {h : Nat} {r : Int32} (σ : SM) (hE : XE X w0 2 (some .int) "headAt" (.returned (some (.int r))) (wM z h σ)) (u : Unit) (hf : mM_headAt_104 σ u = some r) : V X cX7_headAt RX7 1 2 (wM z h σ) 104 [some (.ref h)] [] := by
  unfold mM_headAt_104 at hf
  refine V_aload_n dX7_headAt_104 rfl ?_
  refine V_ldc2 q2177 dX7_headAt_105 ?_
  obtain ⟨r2, hc1, hf⟩ := bd1_ex hf
  refine V_cV (av := [.long (1279278 : Int64)]) (rest := []) (st' := [.int r2]) (mM_isWord_ok _ _ _ _ _ _ _ hc1) vcX7_287 (wM_k0 _ _ _) (by decide) rfl rfl (Nat.le_of_ble_eq_true rfl) dX7_headAt_108 rfl ?_
  refine V_if_eq (tgt := 118) dX7_headAt_111 (by decide) (fun hc3 => ?_) (fun hc3 => ?_)
  · have hf := if_t hf hc3
    refine V_iconst dX7_headAt_118 kc_5 ?_
    cases some_ex hf
    exact V_iret hE dX7_headAt_119
  · have hf := if_f hf hc3
    refine V_iconst dX7_headAt_114 kc_4 ?_
    refine V_goto (tgt := 119) dX7_headAt_115 (by decide) ?_
    cases some_ex hf
    exact V_iret hE dX7_headAt_119
set_option maxHeartbeats 4000000 in
theorem mM_headAt_ok (l : Launch) (D : DD) (z : ZZ) (h : Nat) (σ : SM) (r : Int32) (hf : mM_headAt  σ = some r) : MA l D yX7_headAt cX7_headAt 1 (some .int) 2 [.ref h] (wM z h σ) (.returned (some (.int r))) (wM z h σ) := by
  refine MA.intro (own := RX7) (nm := "headAt") (ls := [some (.ref h)]) (by decide) rfl rfl (Nat.le_of_ble_eq_true rfl) rfl (fun X hl hD hE => ?_)
  subst hl hD
  unfold mM_headAt at hf
  refine V_aload_n dX7_headAt_0 rfl ?_
  refine V_ldc2 q2169 dX7_headAt_1 ?_
  obtain ⟨r2, hc1, hf⟩ := bd1_ex hf
  refine V_cV (av := [.long (659105125 : Int64)]) (rest := []) (st' := [.int r2]) (mM_isWord_ok _ _ _ _ _ _ _ hc1) vcX7_287 (wM_k0 _ _ _) (by decide) rfl rfl (Nat.le_of_ble_eq_true rfl) dX7_headAt_4 rfl ?_
  refine V_if_ne (tgt := 40) dX7_headAt_7 (by decide) (fun hc3 => ?_) (fun hc3 => ?_)
  · have hf := if_f hf hc3
    exact mM_headAt_40_v σ hE () hf
  · have hf := if_t hf hc3
    refine V_aload_n dX7_headAt_10 rfl ?_
    refine V_ldc2 q2174 dX7_headAt_11 ?_
    obtain ⟨r5, hc4, hf⟩ := bd1_ex hf
    refine V_cV (av := [.long (494 : Int64)]) (rest := []) (st' := [.int r5]) (mM_isWord_ok _ _ _ _ _ _ _ hc4) vcX7_287 (wM_k0 _ _ _) (by decide) rfl rfl (Nat.le_of_ble_eq_true rfl) dX7_headAt_14 rfl ?_
    refine V_if_ne (tgt := 40) dX7_headAt_17 (by decide) (fun hc6 => ?_) (fun hc6 => ?_)
    · have hf := if_f hf hc6
      exact mM_headAt_40_v σ hE () hf
    · have hf := if_t hf hc6
      refine V_aload_n dX7_headAt_20 rfl ?_
      refine V_ldc2 q2175 dX7_headAt_21 ?_
      obtain ⟨r8, hc7, hf⟩ := bd1_ex hf
      refine V_cV (av := [.long (15558 : Int64)]) (rest := []) (st' := [.int r8]) (mM_isWord_ok _ _ _ _ _ _ _ hc7) vcX7_287 (wM_k0 _ _ _) (by decide) rfl rfl (Nat.le_of_ble_eq_true rfl) dX7_headAt_24 rfl ?_
      refine V_if_ne (tgt := 40) dX7_headAt_27 (by decide) (fun hc9 => ?_) (fun hc9 => ?_)
      · have hf := if_f hf hc9
        exact mM_headAt_40_v σ hE () hf
      · have hf := if_t hf hc9
        refine V_aload_n dX7_headAt_30 rfl ?_
        refine V_ldc2 q2176 dX7_headAt_31 ?_
        obtain ⟨r11, hc10, hf⟩ := bd1_ex hf
        refine V_cV (av := [.long (736548 : Int64)]) (rest := []) (st' := [.int r11]) (mM_isWord_ok _ _ _ _ _ _ _ hc10) vcX7_287 (wM_k0 _ _ _) (by decide) rfl rfl (Nat.le_of_ble_eq_true rfl) dX7_headAt_34 rfl ?_
        refine V_if_eq (tgt := 84) dX7_headAt_37 (by decide) (fun hc12 => ?_) (fun hc12 => ?_)
        · have hf := if_t hf hc12
          refine V_aload_n dX7_headAt_84 rfl ?_
          refine V_ldc2 q2177 dX7_headAt_85 ?_
          obtain ⟨r14, hc13, hf⟩ := bd1_ex hf
          refine V_cV (av := [.long (1279278 : Int64)]) (rest := []) (st' := [.int r14]) (mM_isWord_ok _ _ _ _ _ _ _ hc13) vcX7_287 (wM_k0 _ _ _) (by decide) rfl rfl (Nat.le_of_ble_eq_true rfl) dX7_headAt_88 rfl ?_
          refine V_if_ne (tgt := 104) dX7_headAt_91 (by decide) (fun hc15 => ?_) (fun hc15 => ?_)
          · have hf := if_f hf hc15
            exact mM_headAt_104_v σ hE () hf
          · have hf := if_t hf hc15
            refine V_aload_n dX7_headAt_94 rfl ?_
            refine V_ldc2 q2178 dX7_headAt_95 ?_
            obtain ⟨r17, hc16, hf⟩ := bd1_ex hf
            refine V_cV (av := [.long (441972 : Int64)]) (rest := []) (st' := [.int r17]) (mM_isWord_ok _ _ _ _ _ _ _ hc16) vcX7_287 (wM_k0 _ _ _) (by decide) rfl rfl (Nat.le_of_ble_eq_true rfl) dX7_headAt_98 rfl ?_
            refine V_if_eq (tgt := 120) dX7_headAt_101 (by decide) (fun hc18 => ?_) (fun hc18 => ?_)
            · have hf := if_t hf hc18
              refine V_aload_n dX7_headAt_120 rfl ?_
              refine V_ldc2 q2179 dX7_headAt_121 ?_
              obtain ⟨r20, hc19, hf⟩ := bd1_ex hf
              refine V_cV (av := [.long (6194 : Int64)]) (rest := []) (st' := [.int r20]) (mM_isWord_ok _ _ _ _ _ _ _ hc19) vcX7_287 (wM_k0 _ _ _) (by decide) rfl rfl (Nat.le_of_ble_eq_true rfl) dX7_headAt_124 rfl ?_
              refine V_if_eq (tgt := 135) dX7_headAt_127 (by decide) (fun hc21 => ?_) (fun hc21 => ?_)
              · have hf := if_t hf hc21
                refine V_aload_n dX7_headAt_135 rfl ?_
                refine V_ldc2 q2180 dX7_headAt_136 ?_
                obtain ⟨r23, hc22, hf⟩ := bd1_ex hf
                refine V_cV (av := [.long (6327 : Int64)]) (rest := []) (st' := [.int r23]) (mM_isWord_ok _ _ _ _ _ _ _ hc22) vcX7_287 (wM_k0 _ _ _) (by decide) rfl rfl (Nat.le_of_ble_eq_true rfl) dX7_headAt_139 rfl ?_
                refine V_if_eq (tgt := 150) dX7_headAt_142 (by decide) (fun hc24 => ?_) (fun hc24 => ?_)
                · have hf := if_t hf hc24
                  refine V_iconst dX7_headAt_150 kc_m1 ?_
                  cases some_ex hf
                  exact V_iret hE dX7_headAt_151
                · have hf := if_f hf hc24
                  refine V_bipush dX7_headAt_145 kb_7 ?_
                  refine V_goto (tgt := 151) dX7_headAt_147 (by decide) ?_
                  cases some_ex hf
                  exact V_iret hE dX7_headAt_151
              · have hf := if_f hf hc21
                refine V_bipush dX7_headAt_130 kb_6 ?_
                refine V_goto (tgt := 151) dX7_headAt_132 (by decide) ?_
                cases some_ex hf
                exact V_iret hE dX7_headAt_151
            · have hf := if_f hf hc18
              exact mM_headAt_104_v σ hE () hf
        · have hf := if_f hf hc12
          exact mM_headAt_40_v σ hE () hf
set_option maxHeartbeats 4000000 in
theorem mM_must_24_v {X : CX} {w0 : AH} {z : ZZ} {h : Nat} {σ' : SM} (hE : XE X w0 3 none "must" (.returned none) (wM z h σ')) (σ : SM) (hf : mM_must_24 σ = some σ') : V X cX7_must RX7 2 3 (wM z h σ) 24 [some (.ref h), none] [] := by
  unfold mM_must_24 at hf
  refine V_aload_n dX7_must_24 rfl ?_
  refine VM_getI fX7_226 rfl dX7_must_25 ?_
  refine V_if_ne (tgt := 35) dX7_must_28 (by decide) (fun hc1 => ?_) (fun hc1 => ?_)
  · have hf := if_f hf hc1
    cases some_ex hf
    exact V_vret hE dX7_must_35
  · have hf := if_t hf hc1
    refine V_aload_n dX7_must_31 rfl ?_
    obtain ⟨σ3, hc2, hf⟩ := bd1_ex hf
    refine V_cV (av := []) (rest := []) (st' := []) (mM_next_ok _ _ _ _ _ _ hc2) vcX7_230 (wM_k0 _ _ _) (by decide) rfl rfl (Nat.le_of_ble_eq_true rfl) dX7_must_32 rfl ?_
    cases some_ex hf
    exact V_vret hE dX7_must_35
set_option maxHeartbeats 4000000 in
theorem mM_must_ok (l : Launch) (D : DD) (z : ZZ) (h : Nat) (p0 : Int32) (σ : SM) (σ' : SM) (hf : mM_must p0 σ = some σ') : MA l D yX7_must cX7_must 2 none 3 [.ref h, .int p0] (wM z h σ) (.returned none) (wM z h σ') := by
  refine MA.intro (own := RX7) (nm := "must") (ls := [some (.ref h), some (.int p0)]) (by decide) rfl rfl (Nat.le_of_ble_eq_true rfl) rfl (fun X hl hD hE => ?_)
  subst hl hD
  unfold mM_must at hf
  refine V_aload_n dX7_must_0 rfl ?_
  refine VM_getI fX7_226 rfl dX7_must_1 ?_
  refine V_if_ne (tgt := 24) dX7_must_4 (by decide) (fun hc1 => ?_) (fun hc1 => ?_)
  · have hf := if_f hf hc1
    refine V_keep [true, false] rfl ?_
    exact mM_must_24_v hE σ hf
  · have hf := if_t hf hc1
    refine V_iload_n dX7_must_7 rfl ?_
    refine V_if_ne (tgt := 24) dX7_must_8 (by decide) (fun hc2 => ?_) (fun hc2 => ?_)
    · have hf := if_f hf hc2
      refine V_keep [true, false] rfl ?_
      exact mM_must_24_v hE σ hf
    · have hf := if_t hf hc2
      refine V_aload_n dX7_must_11 rfl ?_
      refine V_iconst dX7_must_12 kc_1 ?_
      obtain ⟨σ3, hs4, hf⟩ := st1_ex hf
      refine VM_putZ fwX7_226 (by decide) hs4 dX7_must_13 ?_
      refine V_aload_n dX7_must_16 rfl ?_
      refine V_aload_n dX7_must_17 rfl ?_
      refine VM_getI fX7_233 rfl dX7_must_18 ?_
      obtain ⟨σ5, hs6, hf⟩ := st1_ex hf
      refine VM_putI fwX7_30 hs6 dX7_must_21 ?_
      refine V_keep [true, false] rfl ?_
      exact mM_must_24_v hE σ5 hf
set_option maxHeartbeats 4000000 in
theorem mM_number_33_v {X : CX} {w0 : AH} {z : ZZ} {h : Nat} {r : Int32} {σ' : SM} (hE : XE X w0 4 (some .int) "number" (.returned (some (.int r))) (wM z h σ')) (v5 : Int32) (t0 : Int32) (σ : SM) (hf : mM_number_33 v5 t0 σ = some (r, σ')) : V X cX7_number RX7 6 4 (wM z h σ) 33 [none, none, none, none, none, some (.int v5)] [.int t0, .ref h] := by
  unfold mM_number_33 at hf
  obtain ⟨σ2, hc1, hf⟩ := bd1_ex hf
  refine V_cV (av := [.int t0]) (rest := []) (st' := []) (mM_must_ok _ _ _ _ _ _ _ hc1) vcX7_261 (wM_k0 _ _ _) (by decide) rfl rfl (Nat.le_of_ble_eq_true rfl) dX7_number_33 rfl ?_
  refine V_iload dX7_number_36 rfl ?_
  cases some_ex hf
  exact V_iret hE dX7_number_38
set_option maxHeartbeats 4000000 in
theorem mM_number_32_v {X : CX} {w0 : AH} {z : ZZ} {h : Nat} {r : Int32} {σ' : SM} (hE : XE X w0 4 (some .int) "number" (.returned (some (.int r))) (wM z h σ')) (v5 : Int32) (σ : SM) (hf : mM_number_32 v5 σ = some (r, σ')) : V X cX7_number RX7 6 4 (wM z h σ) 32 [none, none, none, none, none, some (.int v5)] [.ref h] := by
  unfold mM_number_32 at hf
  refine V_iconst dX7_number_32 kc_0 ?_
  exact mM_number_33_v hE v5 (0 : Int32) σ hf
set_option maxHeartbeats 4000000 in
theorem mM_number_ok (l : Launch) (D : DD) (z : ZZ) (h : Nat) (p0 : Int64) (p1 : Int64) (σ : SM) (r : Int32) (σ' : SM) (hf : mM_number p0 p1 σ = some (r, σ')) : MA l D yX7_number cX7_number 6 (some .int) 4 [.ref h, .long p0, .long p1] (wM z h σ) (.returned (some (.int r))) (wM z h σ') := by
  refine MA.intro (own := RX7) (nm := "number") (ls := [some (.ref h), some (.long p0), none, some (.long p1), none, none]) (by decide) rfl rfl (Nat.le_of_ble_eq_true rfl) rfl (fun X hl hD hE => ?_)
  subst hl hD
  unfold mM_number at hf
  refine V_aload_n dX7_number_0 rfl ?_
  refine VM_getL fX7_236 dX7_number_1 ?_
  refine V_l2i dX7_number_4 ?_
  refine V_istore (ls' := [some (.ref h), some (.long p0), none, some (.long p1), none, some (.int ((gL σ 0 14).toInt32))]) dX7_number_5 (by decide) rfl ?_
  refine V_aload_n dX7_number_7 rfl ?_
  refine V_aload_n dX7_number_8 rfl ?_
  refine VM_getI fX7_246 rfl dX7_number_9 ?_
  refine V_iconst dX7_number_12 kc_2 ?_
  refine V_icmp_ne (tgt := 32) dX7_number_13 (by decide) (fun hc1 => ?_) (fun hc1 => ?_)
  · have hf := if_f hf hc1
    refine V_keep [false, false, true, false, true, true] rfl ?_
    exact mM_number_32_v hE ((gL σ 0 14).toInt32) σ hf
  · have hf := if_t hf hc1
    refine V_aload_n dX7_number_16 rfl ?_
    refine VM_getL fX7_236 dX7_number_17 ?_
    refine V_lload_n dX7_number_20 rfl ?_
    refine V_lload_n dX7_number_21 rfl ?_
    obtain ⟨r3, hc2, hf⟩ := bd1_ex hf
    refine V_cS (rest := [.ref h]) (st' := [.int r3, .ref h]) (mM_in_ok _ _ _ _ _ _ _ hc2) scX7_121 (by decide) rfl rfl (Nat.le_of_ble_eq_true rfl) dX7_number_22 rfl ?_
    refine V_if_eq (tgt := 32) dX7_number_25 (by decide) (fun hc4 => ?_) (fun hc4 => ?_)
    · have hf := if_t hf hc4
      refine V_keep [false, false, true, false, true, true] rfl ?_
      exact mM_number_32_v hE ((gL σ 0 14).toInt32) σ hf
    · have hf := if_f hf hc4
      refine V_iconst dX7_number_28 kc_1 ?_
      refine V_goto (tgt := 33) dX7_number_29 (by decide) ?_
      refine V_keep [false, false, true, false, true, true] rfl ?_
      exact mM_number_33_v hE ((gL σ 0 14).toInt32) (1 : Int32) σ hf
set_option maxHeartbeats 4000000 in
theorem mM_push_ok (l : Launch) (D : DD) (z : ZZ) (h : Nat) (p0 : Int32) (p1 : Int32) (σ : SM) (σ' : SM) (hf : mM_push p0 p1 σ = some σ') : MA l D yX7_push cX7_push 3 none 1 [.ref h, .int p0, .int p1] (wM z h σ) (.returned none) (wM z h σ') := by
  refine MA.intro (own := RX7) (nm := "push") (ls := [some (.ref h), some (.int p0), some (.int p1)]) (by decide) rfl rfl (Nat.le_of_ble_eq_true rfl) rfl (fun X hl hD hE => ?_)
  subst hl hD
  unfold mM_push at hf
  refine V_aload_n dX7_push_0 rfl ?_
  refine VM_getR fX7_43 ⟨rfl, rfl⟩ rfl dX7_push_1 ?_
  refine V_aload_n dX7_push_4 rfl ?_
  refine VM_getI fX7_268 rfl dX7_push_5 ?_
  refine V_iload_n dX7_push_8 rfl ?_
  obtain ⟨hb1, hf⟩ := ck_ex hf
  obtain ⟨σ2, hs3, hf⟩ := st1_ex hf
  refine VM_stI (n := 400) (k := (gI σ 0 25).toNatClampNeg) rfl hb1 rfl hs3 dX7_push_9 ?_
  refine V_aload_n dX7_push_10 rfl ?_
  refine VM_getR fX7_46 ⟨rfl, rfl⟩ rfl dX7_push_11 ?_
  refine V_aload_n dX7_push_14 rfl ?_
  refine VM_getI fX7_268 rfl dX7_push_15 ?_
  refine V_iload_n dX7_push_18 rfl ?_
  obtain ⟨hb4, hf⟩ := ck_ex hf
  obtain ⟨σ5, hs6, hf⟩ := st1_ex hf
  refine VM_stI (n := 400) (k := (gI σ2 0 25).toNatClampNeg) rfl hb4 rfl hs6 dX7_push_19 ?_
  refine V_aload_n dX7_push_20 rfl ?_
  refine V_dup dX7_push_21 rfl ?_
  refine VM_getI fX7_268 rfl dX7_push_22 ?_
  refine V_iconst dX7_push_25 kc_1 ?_
  refine V_iadd dX7_push_26 ?_
  obtain ⟨σ7, hs8, hf⟩ := st1_ex hf
  refine VM_putI fwX7_268 hs8 dX7_push_27 ?_
  cases some_ex hf
  exact V_vret hE dX7_push_30
set_option maxHeartbeats 4000000 in
theorem mM_isSign_ok (l : Launch) (D : DD) (z : ZZ) (h : Nat) (p0 : Int32) (σ : SM) (r : Int32) (hf : mM_isSign p0 σ = some r) : MA l D yX7_isSign cX7_isSign 2 (some .boolean) 1 [.ref h, .int p0] (wM z h σ) (.returned (some (.int r))) (wM z h σ) := by
  refine MA.intro (own := RX7) (nm := "isSign") (ls := [some (.ref h), some (.int p0)]) (by decide) rfl rfl (Nat.le_of_ble_eq_true rfl) rfl (fun X hl hD hE => ?_)
  subst hl hD
  unfold mM_isSign at hf
  refine V_aload_n dX7_isSign_0 rfl ?_
  refine VM_getI fX7_246 rfl dX7_isSign_1 ?_
  refine V_iconst dX7_isSign_4 kc_3 ?_
  refine V_icmp_ne (tgt := 22) dX7_isSign_5 (by decide) (fun hc1 => ?_) (fun hc1 => ?_)
  · have hf := if_f hf hc1
    refine V_iconst dX7_isSign_22 kc_0 ?_
    cases some_ex hf
    exact V_zret hE (by decide) dX7_isSign_23
  · have hf := if_t hf hc1
    refine V_aload_n dX7_isSign_8 rfl ?_
    refine VM_getL fX7_236 dX7_isSign_9 ?_
    refine V_iload_n dX7_isSign_12 rfl ?_
    refine V_i2l dX7_isSign_13 ?_
    refine V_lif_ne (tgt := 22) dX7_isSign_14 dX7_isSign_15 (by decide) (fun hc2 => ?_) (fun hc2 => ?_)
    · have hf := if_f hf hc2
      refine V_iconst dX7_isSign_22 kc_0 ?_
      cases some_ex hf
      exact V_zret hE (by decide) dX7_isSign_23
    · have hf := if_t hf hc2
      refine V_iconst dX7_isSign_18 kc_1 ?_
      refine V_goto (tgt := 23) dX7_isSign_19 (by decide) ?_
      cases some_ex hf
      exact V_zret hE (by decide) dX7_isSign_23
set_option maxHeartbeats 4000000 in
theorem mM_open_15_v {X : CX} {w0 : AH} {z : ZZ} {h : Nat} {σ' : SM} (hE : XE X w0 4 none "open" (.returned none) (wM z h σ')) (v1 : Int32) (t0 : Int32) (σ : SM) (hf : mM_open_15 v1 t0 σ = some σ') : V X cX7_open RX7 2 4 (wM z h σ) 15 [some (.ref h), some (.int v1)] [.int t0, .ref h] := by
  unfold mM_open_15 at hf
  obtain ⟨σ2, hc1, hf⟩ := bd1_ex hf
  refine V_cV (av := [.int t0]) (rest := []) (st' := []) (mM_must_ok _ _ _ _ _ _ _ hc1) vcX7_261 (wM_k0 _ _ _) (by decide) rfl rfl (Nat.le_of_ble_eq_true rfl) dX7_open_15 rfl ?_
  refine V_aload_n dX7_open_18 rfl ?_
  refine VM_getI fX7_226 rfl dX7_open_19 ?_
  refine V_if_ne (tgt := 41) dX7_open_22 (by decide) (fun hc3 => ?_) (fun hc3 => ?_)
  · have hf := if_f hf hc3
    cases some_ex hf
    exact V_vret hE dX7_open_41
  · have hf := if_t hf hc3
    refine V_aload_n dX7_open_25 rfl ?_
    refine V_dup dX7_open_26 rfl ?_
    refine VM_getI fX7_321 rfl dX7_open_27 ?_
    refine V_iconst dX7_open_30 kc_1 ?_
    refine V_iadd dX7_open_31 ?_
    obtain ⟨σ4, hs5, hf⟩ := st1_ex hf
    refine VM_putI fwX7_321 hs5 dX7_open_32 ?_
    refine V_aload_n dX7_open_35 rfl ?_
    refine V_iload_n dX7_open_36 rfl ?_
    refine V_iconst dX7_open_37 kc_0 ?_
    obtain ⟨σ7, hc6, hf⟩ := bd1_ex hf
    refine V_cV (av := [.int v1, .int (0 : Int32)]) (rest := []) (st' := []) (mM_push_ok _ _ _ _ _ _ _ _ hc6) vcX7_324 (wM_k0 _ _ _) (by decide) rfl rfl (Nat.le_of_ble_eq_true rfl) dX7_open_38 rfl ?_
    cases some_ex hf
    exact V_vret hE dX7_open_41
set_option maxHeartbeats 4000000 in
theorem mM_open_ok (l : Launch) (D : DD) (z : ZZ) (h : Nat) (p0 : Int32) (σ : SM) (σ' : SM) (hf : mM_open p0 σ = some σ') : MA l D yX7_open cX7_open 2 none 4 [.ref h, .int p0] (wM z h σ) (.returned none) (wM z h σ') := by
  refine MA.intro (own := RX7) (nm := "open") (ls := [some (.ref h), some (.int p0)]) (by decide) rfl rfl (Nat.le_of_ble_eq_true rfl) rfl (fun X hl hD hE => ?_)
  subst hl hD
  unfold mM_open at hf
  refine V_aload_n dX7_open_0 rfl ?_
  refine V_aload_n dX7_open_1 rfl ?_
  refine VM_getI fX7_321 rfl dX7_open_2 ?_
  refine V_bipush dX7_open_5 kb_8 ?_
  refine V_icmp_ge (tgt := 14) dX7_open_7 (by decide) (fun hc1 => ?_) (fun hc1 => ?_)
  · have hf := if_t hf hc1
    refine V_iconst dX7_open_14 kc_0 ?_
    exact mM_open_15_v hE p0 (0 : Int32) σ hf
  · have hf := if_f hf hc1
    refine V_iconst dX7_open_10 kc_1 ?_
    refine V_goto (tgt := 15) dX7_open_11 (by decide) ?_
    exact mM_open_15_v hE p0 (1 : Int32) σ hf
set_option maxHeartbeats 4000000 in
theorem mM_plainAt_30_v {X : CX} {w0 : AH} {z : ZZ} {h : Nat} {r : Int32} (σ : SM) (hE : XE X w0 2 (some .int) "plainAt" (.returned (some (.int r))) (wM z h σ)) (u : Unit) (hf : mM_plainAt_30 σ u = some r) : V X cX7_plainAt RX7 1 2 (wM z h σ) 30 [some (.ref h)] [] := by
  unfold mM_plainAt_30 at hf
  refine V_aload_n dX7_plainAt_30 rfl ?_
  refine V_ldc2 q2218 dX7_plainAt_31 ?_
  obtain ⟨r2, hc1, hf⟩ := bd1_ex hf
  refine V_cV (av := [.long (763077 : Int64)]) (rest := []) (st' := [.int r2]) (mM_isWord_ok _ _ _ _ _ _ _ hc1) vcX7_287 (wM_k0 _ _ _) (by decide) rfl rfl (Nat.le_of_ble_eq_true rfl) dX7_plainAt_34 rfl ?_
  refine V_if_eq (tgt := 45) dX7_plainAt_37 (by decide) (fun hc3 => ?_) (fun hc3 => ?_)
  · have hf := if_t hf hc3
    refine V_aload_n dX7_plainAt_45 rfl ?_
    refine V_ldc2 q2219 dX7_plainAt_46 ?_
    obtain ⟨r5, hc4, hf⟩ := bd1_ex hf
    refine V_cV (av := [.long (394885 : Int64)]) (rest := []) (st' := [.int r5]) (mM_isWord_ok _ _ _ _ _ _ _ hc4) vcX7_287 (wM_k0 _ _ _) (by decide) rfl rfl (Nat.le_of_ble_eq_true rfl) dX7_plainAt_49 rfl ?_
    refine V_if_eq (tgt := 60) dX7_plainAt_52 (by decide) (fun hc6 => ?_) (fun hc6 => ?_)
    · have hf := if_t hf hc6
      refine V_bipush dX7_plainAt_60 kb_14 ?_
      cases some_ex hf
      exact V_iret hE dX7_plainAt_62
    · have hf := if_f hf hc6
      refine V_bipush dX7_plainAt_55 kb_13 ?_
      refine V_goto (tgt := 62) dX7_plainAt_57 (by decide) ?_
      cases some_ex hf
      exact V_iret hE dX7_plainAt_62
  · have hf := if_f hf hc3
    refine V_bipush dX7_plainAt_40 kb_12 ?_
    refine V_goto (tgt := 62) dX7_plainAt_42 (by decide) ?_
    cases some_ex hf
    exact V_iret hE dX7_plainAt_62
set_option maxHeartbeats 4000000 in
theorem mM_plainAt_ok (l : Launch) (D : DD) (z : ZZ) (h : Nat) (σ : SM) (r : Int32) (hf : mM_plainAt  σ = some r) : MA l D yX7_plainAt cX7_plainAt 1 (some .int) 2 [.ref h] (wM z h σ) (.returned (some (.int r))) (wM z h σ) := by
  refine MA.intro (own := RX7) (nm := "plainAt") (ls := [some (.ref h)]) (by decide) rfl rfl (Nat.le_of_ble_eq_true rfl) rfl (fun X hl hD hE => ?_)
  subst hl hD
  unfold mM_plainAt at hf
  refine V_aload_n dX7_plainAt_0 rfl ?_
  refine V_ldc2 q2218 dX7_plainAt_1 ?_
  obtain ⟨r2, hc1, hf⟩ := bd1_ex hf
  refine V_cV (av := [.long (763077 : Int64)]) (rest := []) (st' := [.int r2]) (mM_isWord_ok _ _ _ _ _ _ _ hc1) vcX7_287 (wM_k0 _ _ _) (by decide) rfl rfl (Nat.le_of_ble_eq_true rfl) dX7_plainAt_4 rfl ?_
  refine V_if_ne (tgt := 30) dX7_plainAt_7 (by decide) (fun hc3 => ?_) (fun hc3 => ?_)
  · have hf := if_f hf hc3
    exact mM_plainAt_30_v σ hE () hf
  · have hf := if_t hf hc3
    refine V_aload_n dX7_plainAt_10 rfl ?_
    refine V_ldc2 q2219 dX7_plainAt_11 ?_
    obtain ⟨r5, hc4, hf⟩ := bd1_ex hf
    refine V_cV (av := [.long (394885 : Int64)]) (rest := []) (st' := [.int r5]) (mM_isWord_ok _ _ _ _ _ _ _ hc4) vcX7_287 (wM_k0 _ _ _) (by decide) rfl rfl (Nat.le_of_ble_eq_true rfl) dX7_plainAt_14 rfl ?_
    refine V_if_ne (tgt := 30) dX7_plainAt_17 (by decide) (fun hc6 => ?_) (fun hc6 => ?_)
    · have hf := if_f hf hc6
      exact mM_plainAt_30_v σ hE () hf
    · have hf := if_t hf hc6
      refine V_aload_n dX7_plainAt_20 rfl ?_
      refine V_ldc2 q2220 dX7_plainAt_21 ?_
      obtain ⟨r8, hc7, hf⟩ := bd1_ex hf
      refine V_cV (av := [.long (773205170 : Int64)]) (rest := []) (st' := [.int r8]) (mM_isWord_ok _ _ _ _ _ _ _ hc7) vcX7_287 (wM_k0 _ _ _) (by decide) rfl rfl (Nat.le_of_ble_eq_true rfl) dX7_plainAt_24 rfl ?_
      refine V_if_eq (tgt := 63) dX7_plainAt_27 (by decide) (fun hc9 => ?_) (fun hc9 => ?_)
      · have hf := if_t hf hc9
        refine V_aload_n dX7_plainAt_63 rfl ?_
        refine V_ldc2 q2221 dX7_plainAt_64 ?_
        obtain ⟨r11, hc10, hf⟩ := bd1_ex hf
        refine V_cV (av := [.long (14145700 : Int64)]) (rest := []) (st' := [.int r11]) (mM_isWord_ok _ _ _ _ _ _ _ hc10) vcX7_287 (wM_k0 _ _ _) (by decide) rfl rfl (Nat.le_of_ble_eq_true rfl) dX7_plainAt_67 rfl ?_
        refine V_if_eq (tgt := 78) dX7_plainAt_70 (by decide) (fun hc12 => ?_) (fun hc12 => ?_)
        · have hf := if_t hf hc12
          refine V_aload_n dX7_plainAt_78 rfl ?_
          refine V_ldc2 q2222 dX7_plainAt_79 ?_
          obtain ⟨r14, hc13, hf⟩ := bd1_ex hf
          refine V_cV (av := [.long (86486190 : Int64)]) (rest := []) (st' := [.int r14]) (mM_isWord_ok _ _ _ _ _ _ _ hc13) vcX7_287 (wM_k0 _ _ _) (by decide) rfl rfl (Nat.le_of_ble_eq_true rfl) dX7_plainAt_82 rfl ?_
          refine V_if_eq (tgt := 93) dX7_plainAt_85 (by decide) (fun hc15 => ?_) (fun hc15 => ?_)
          · have hf := if_t hf hc15
            refine V_iconst dX7_plainAt_93 kc_m1 ?_
            cases some_ex hf
            exact V_iret hE dX7_plainAt_94
          · have hf := if_f hf hc15
            refine V_bipush dX7_plainAt_88 kb_16 ?_
            refine V_goto (tgt := 94) dX7_plainAt_90 (by decide) ?_
            cases some_ex hf
            exact V_iret hE dX7_plainAt_94
        · have hf := if_f hf hc12
          refine V_bipush dX7_plainAt_73 kb_15 ?_
          refine V_goto (tgt := 94) dX7_plainAt_75 (by decide) ?_
          cases some_ex hf
          exact V_iret hE dX7_plainAt_94
      · have hf := if_f hf hc9
        exact mM_plainAt_30_v σ hE () hf
set_option maxHeartbeats 4000000 in
theorem mM_emit_ok (l : Launch) (D : DD) (z : ZZ) (h : Nat) (p0 : Int32) (p1 : Int32) (σ : SM) (σ' : SM) (hf : mM_emit p0 p1 σ = some σ') : MA l D yX7_emit cX7_emit 3 none 1 [.ref h, .int p0, .int p1] (wM z h σ) (.returned none) (wM z h σ') := by
  refine MA.intro (own := RX7) (nm := "emit") (ls := [some (.ref h), some (.int p0), some (.int p1)]) (by decide) rfl rfl (Nat.le_of_ble_eq_true rfl) rfl (fun X hl hD hE => ?_)
  subst hl hD
  unfold mM_emit at hf
  refine V_aload_n dX7_emit_0 rfl ?_
  refine VM_getR fX7_37 ⟨rfl, rfl⟩ rfl dX7_emit_1 ?_
  refine V_aload_n dX7_emit_4 rfl ?_
  refine VM_getI fX7_265 rfl dX7_emit_5 ?_
  refine V_iload_n dX7_emit_8 rfl ?_
  obtain ⟨hb1, hf⟩ := ck_ex hf
  obtain ⟨σ2, hs3, hf⟩ := st1_ex hf
  refine VM_stI (n := 400) (k := (gI σ 0 19).toNatClampNeg) rfl hb1 rfl hs3 dX7_emit_9 ?_
  refine V_aload_n dX7_emit_10 rfl ?_
  refine VM_getR fX7_40 ⟨rfl, rfl⟩ rfl dX7_emit_11 ?_
  refine V_aload_n dX7_emit_14 rfl ?_
  refine VM_getI fX7_265 rfl dX7_emit_15 ?_
  refine V_iload_n dX7_emit_18 rfl ?_
  obtain ⟨hb4, hf⟩ := ck_ex hf
  obtain ⟨σ5, hs6, hf⟩ := st1_ex hf
  refine VM_stI (n := 400) (k := (gI σ2 0 19).toNatClampNeg) rfl hb4 rfl hs6 dX7_emit_19 ?_
  refine V_aload_n dX7_emit_20 rfl ?_
  refine V_dup dX7_emit_21 rfl ?_
  refine VM_getI fX7_265 rfl dX7_emit_22 ?_
  refine V_iconst dX7_emit_25 kc_1 ?_
  refine V_iadd dX7_emit_26 ?_
  obtain ⟨σ7, hs8, hf⟩ := st1_ex hf
  refine VM_putI fwX7_265 hs8 dX7_emit_27 ?_
  cases some_ex hf
  exact V_vret hE dX7_emit_30
set_option maxHeartbeats 4000000 in
theorem mM_leaf_19_v {X : CX} {w0 : AH} {z : ZZ} {h : Nat} {σ' : SM} (hE : XE X w0 4 none "leaf" (.returned none) (wM z h σ')) (v2 : Int32) (v3 : Int32) (t0 : Int32) (σ : SM) (hf : mM_leaf_19 v2 v3 t0 σ = some σ') : V X cX7_leaf RX7 4 4 (wM z h σ) 19 [some (.ref h), none, some (.int v2), some (.int v3)] [.int t0, .ref h] := by
  unfold mM_leaf_19 at hf
  obtain ⟨σ2, hc1, hf⟩ := bd1_ex hf
  refine V_cV (av := [.int t0]) (rest := []) (st' := []) (mM_must_ok _ _ _ _ _ _ _ hc1) vcX7_261 (wM_k0 _ _ _) (by decide) rfl rfl (Nat.le_of_ble_eq_true rfl) dX7_leaf_19 rfl ?_
  refine V_aload_n dX7_leaf_22 rfl ?_
  refine VM_getI fX7_226 rfl dX7_leaf_23 ?_
  refine V_if_ne (tgt := 45) dX7_leaf_26 (by decide) (fun hc3 => ?_) (fun hc3 => ?_)
  · have hf := if_f hf hc3
    cases some_ex hf
    exact V_vret hE dX7_leaf_45
  · have hf := if_t hf hc3
    refine V_aload_n dX7_leaf_29 rfl ?_
    refine V_iload_n dX7_leaf_30 rfl ?_
    refine V_iload_n dX7_leaf_31 rfl ?_
    obtain ⟨σ5, hc4, hf⟩ := bd1_ex hf
    refine V_cV (av := [.int v2, .int v3]) (rest := []) (st' := []) (mM_emit_ok _ _ _ _ _ _ _ _ hc4) vcX7_274 (wM_k0 _ _ _) (by decide) rfl rfl (Nat.le_of_ble_eq_true rfl) dX7_leaf_32 rfl ?_
    refine V_aload_n dX7_leaf_35 rfl ?_
    refine V_dup dX7_leaf_36 rfl ?_
    refine VM_getI fX7_327 rfl dX7_leaf_37 ?_
    refine V_iconst dX7_leaf_40 kc_1 ?_
    refine V_iadd dX7_leaf_41 ?_
    obtain ⟨σ6, hs7, hf⟩ := st1_ex hf
    refine VM_putI fwX7_327 hs7 dX7_leaf_42 ?_
    cases some_ex hf
    exact V_vret hE dX7_leaf_45
set_option maxHeartbeats 4000000 in
theorem mM_leaf_18_v {X : CX} {w0 : AH} {z : ZZ} {h : Nat} {σ' : SM} (hE : XE X w0 4 none "leaf" (.returned none) (wM z h σ')) (v2 : Int32) (v3 : Int32) (σ : SM) (hf : mM_leaf_18 v2 v3 σ = some σ') : V X cX7_leaf RX7 4 4 (wM z h σ) 18 [some (.ref h), none, some (.int v2), some (.int v3)] [.ref h] := by
  unfold mM_leaf_18 at hf
  refine V_iconst dX7_leaf_18 kc_0 ?_
  exact mM_leaf_19_v hE v2 v3 (0 : Int32) σ hf
set_option maxHeartbeats 4000000 in
theorem mM_leaf_ok (l : Launch) (D : DD) (z : ZZ) (h : Nat) (p0 : Int32) (p1 : Int32) (p2 : Int32) (σ : SM) (σ' : SM) (hf : mM_leaf p0 p1 p2 σ = some σ') : MA l D yX7_leaf cX7_leaf 4 none 4 [.ref h, .int p0, .int p1, .int p2] (wM z h σ) (.returned none) (wM z h σ') := by
  refine MA.intro (own := RX7) (nm := "leaf") (ls := [some (.ref h), some (.int p0), some (.int p1), some (.int p2)]) (by decide) rfl rfl (Nat.le_of_ble_eq_true rfl) rfl (fun X hl hD hE => ?_)
  subst hl hD
  unfold mM_leaf at hf
  refine V_aload_n dX7_leaf_0 rfl ?_
  refine V_iload_n dX7_leaf_1 rfl ?_
  refine V_if_eq (tgt := 18) dX7_leaf_2 (by decide) (fun hc1 => ?_) (fun hc1 => ?_)
  · have hf := if_t hf hc1
    refine V_keep [true, false, true, true] rfl ?_
    exact mM_leaf_18_v hE p1 p2 σ hf
  · have hf := if_f hf hc1
    refine V_aload_n dX7_leaf_5 rfl ?_
    refine VM_getI fX7_327 rfl dX7_leaf_6 ?_
    refine V_bipush dX7_leaf_9 kb_50 ?_
    refine V_icmp_ge (tgt := 18) dX7_leaf_11 (by decide) (fun hc2 => ?_) (fun hc2 => ?_)
    · have hf := if_t hf hc2
      refine V_keep [true, false, true, true] rfl ?_
      exact mM_leaf_18_v hE p1 p2 σ hf
    · have hf := if_f hf hc2
      refine V_iconst dX7_leaf_14 kc_1 ?_
      refine V_goto (tgt := 19) dX7_leaf_15 (by decide) ?_
      refine V_keep [true, false, true, true] rfl ?_
      exact mM_leaf_19_v hE p1 p2 (1 : Int32) σ hf
set_option maxHeartbeats 4000000 in
theorem mM_partAt_40_v {X : CX} {w0 : AH} {z : ZZ} {h : Nat} {r : Int32} (σ : SM) (hE : XE X w0 2 (some .int) "partAt" (.returned (some (.int r))) (wM z h σ)) (u : Unit) (hf : mM_partAt_40 σ u = some r) : V X cX7_partAt RX7 1 2 (wM z h σ) 40 [some (.ref h)] [] := by
  unfold mM_partAt_40 at hf
  refine V_aload_n dX7_partAt_40 rfl ?_
  refine V_ldc2 q2239 dX7_partAt_41 ?_
  obtain ⟨r2, hc1, hf⟩ := bd1_ex hf
  refine V_cV (av := [.long (1253 : Int64)]) (rest := []) (st' := [.int r2]) (mM_isWord_ok _ _ _ _ _ _ _ hc1) vcX7_287 (wM_k0 _ _ _) (by decide) rfl rfl (Nat.le_of_ble_eq_true rfl) dX7_partAt_44 rfl ?_
  refine V_if_eq (tgt := 54) dX7_partAt_47 (by decide) (fun hc3 => ?_) (fun hc3 => ?_)
  · have hf := if_t hf hc3
    refine V_aload_n dX7_partAt_54 rfl ?_
    refine V_ldc2 q2240 dX7_partAt_55 ?_
    obtain ⟨r5, hc4, hf⟩ := bd1_ex hf
    refine V_cV (av := [.long (8902245 : Int64)]) (rest := []) (st' := [.int r5]) (mM_isWord_ok _ _ _ _ _ _ _ hc4) vcX7_287 (wM_k0 _ _ _) (by decide) rfl rfl (Nat.le_of_ble_eq_true rfl) dX7_partAt_58 rfl ?_
    refine V_if_eq (tgt := 68) dX7_partAt_61 (by decide) (fun hc6 => ?_) (fun hc6 => ?_)
    · have hf := if_t hf hc6
      refine V_aload_n dX7_partAt_68 rfl ?_
      refine V_ldc2 q2241 dX7_partAt_69 ?_
      obtain ⟨r8, hc7, hf⟩ := bd1_ex hf
      refine V_cV (av := [.long (17171557 : Int64)]) (rest := []) (st' := [.int r8]) (mM_isWord_ok _ _ _ _ _ _ _ hc7) vcX7_287 (wM_k0 _ _ _) (by decide) rfl rfl (Nat.le_of_ble_eq_true rfl) dX7_partAt_72 rfl ?_
      refine V_if_eq (tgt := 82) dX7_partAt_75 (by decide) (fun hc9 => ?_) (fun hc9 => ?_)
      · have hf := if_t hf hc9
        refine V_iconst dX7_partAt_82 kc_4 ?_
        cases some_ex hf
        exact V_iret hE dX7_partAt_83
      · have hf := if_f hf hc9
        refine V_iconst dX7_partAt_78 kc_3 ?_
        refine V_goto (tgt := 83) dX7_partAt_79 (by decide) ?_
        cases some_ex hf
        exact V_iret hE dX7_partAt_83
    · have hf := if_f hf hc6
      refine V_iconst dX7_partAt_64 kc_2 ?_
      refine V_goto (tgt := 83) dX7_partAt_65 (by decide) ?_
      cases some_ex hf
      exact V_iret hE dX7_partAt_83
  · have hf := if_f hf hc3
    refine V_iconst dX7_partAt_50 kc_1 ?_
    refine V_goto (tgt := 83) dX7_partAt_51 (by decide) ?_
    cases some_ex hf
    exact V_iret hE dX7_partAt_83
set_option maxHeartbeats 4000000 in
theorem mM_partAt_124_v {X : CX} {w0 : AH} {z : ZZ} {h : Nat} {r : Int32} (σ : SM) (hE : XE X w0 2 (some .int) "partAt" (.returned (some (.int r))) (wM z h σ)) (u : Unit) (hf : mM_partAt_124 σ u = some r) : V X cX7_partAt RX7 1 2 (wM z h σ) 124 [some (.ref h)] [] := by
  unfold mM_partAt_124 at hf
  refine V_aload_n dX7_partAt_124 rfl ?_
  refine V_ldc2 q2243 dX7_partAt_125 ?_
  obtain ⟨r2, hc1, hf⟩ := bd1_ex hf
  refine V_cV (av := [.long (4153 : Int64)]) (rest := []) (st' := [.int r2]) (mM_isWord_ok _ _ _ _ _ _ _ hc1) vcX7_287 (wM_k0 _ _ _) (by decide) rfl rfl (Nat.le_of_ble_eq_true rfl) dX7_partAt_128 rfl ?_
  refine V_if_eq (tgt := 138) dX7_partAt_131 (by decide) (fun hc3 => ?_) (fun hc3 => ?_)
  · have hf := if_t hf hc3
    refine V_aload_n dX7_partAt_138 rfl ?_
    refine V_ldc2 q2244 dX7_partAt_139 ?_
    obtain ⟨r5, hc4, hf⟩ := bd1_ex hf
    refine V_cV (av := [.long (14726323 : Int64)]) (rest := []) (st' := [.int r5]) (mM_isWord_ok _ _ _ _ _ _ _ hc4) vcX7_287 (wM_k0 _ _ _) (by decide) rfl rfl (Nat.le_of_ble_eq_true rfl) dX7_partAt_142 rfl ?_
    refine V_if_eq (tgt := 153) dX7_partAt_145 (by decide) (fun hc6 => ?_) (fun hc6 => ?_)
    · have hf := if_t hf hc6
      refine V_aload_n dX7_partAt_153 rfl ?_
      refine V_ldc2 q2245 dX7_partAt_154 ?_
      obtain ⟨r8, hc7, hf⟩ := bd1_ex hf
      refine V_cV (av := [.long (538449491 : Int64)]) (rest := []) (st' := [.int r8]) (mM_isWord_ok _ _ _ _ _ _ _ hc7) vcX7_287 (wM_k0 _ _ _) (by decide) rfl rfl (Nat.le_of_ble_eq_true rfl) dX7_partAt_157 rfl ?_
      refine V_if_eq (tgt := 168) dX7_partAt_160 (by decide) (fun hc9 => ?_) (fun hc9 => ?_)
      · have hf := if_t hf hc9
        refine V_bipush dX7_partAt_168 kb_8 ?_
        cases some_ex hf
        exact V_iret hE dX7_partAt_170
      · have hf := if_f hf hc9
        refine V_bipush dX7_partAt_163 kb_7 ?_
        refine V_goto (tgt := 170) dX7_partAt_165 (by decide) ?_
        cases some_ex hf
        exact V_iret hE dX7_partAt_170
    · have hf := if_f hf hc6
      refine V_bipush dX7_partAt_148 kb_6 ?_
      refine V_goto (tgt := 170) dX7_partAt_150 (by decide) ?_
      cases some_ex hf
      exact V_iret hE dX7_partAt_170
  · have hf := if_f hf hc3
    refine V_iconst dX7_partAt_134 kc_5 ?_
    refine V_goto (tgt := 170) dX7_partAt_135 (by decide) ?_
    cases some_ex hf
    exact V_iret hE dX7_partAt_170
set_option maxHeartbeats 4000000 in
theorem mM_partAt_ok (l : Launch) (D : DD) (z : ZZ) (h : Nat) (σ : SM) (r : Int32) (hf : mM_partAt  σ = some r) : MA l D yX7_partAt cX7_partAt 1 (some .int) 2 [.ref h] (wM z h σ) (.returned (some (.int r))) (wM z h σ) := by
  refine MA.intro (own := RX7) (nm := "partAt") (ls := [some (.ref h)]) (by decide) rfl rfl (Nat.le_of_ble_eq_true rfl) rfl (fun X hl hD hE => ?_)
  subst hl hD
  unfold mM_partAt at hf
  refine V_aload_n dX7_partAt_0 rfl ?_
  refine V_ldc2 q2239 dX7_partAt_1 ?_
  obtain ⟨r2, hc1, hf⟩ := bd1_ex hf
  refine V_cV (av := [.long (1253 : Int64)]) (rest := []) (st' := [.int r2]) (mM_isWord_ok _ _ _ _ _ _ _ hc1) vcX7_287 (wM_k0 _ _ _) (by decide) rfl rfl (Nat.le_of_ble_eq_true rfl) dX7_partAt_4 rfl ?_
  refine V_if_ne (tgt := 40) dX7_partAt_7 (by decide) (fun hc3 => ?_) (fun hc3 => ?_)
  · have hf := if_f hf hc3
    exact mM_partAt_40_v σ hE () hf
  · have hf := if_t hf hc3
    refine V_aload_n dX7_partAt_10 rfl ?_
    refine V_ldc2 q2240 dX7_partAt_11 ?_
    obtain ⟨r5, hc4, hf⟩ := bd1_ex hf
    refine V_cV (av := [.long (8902245 : Int64)]) (rest := []) (st' := [.int r5]) (mM_isWord_ok _ _ _ _ _ _ _ hc4) vcX7_287 (wM_k0 _ _ _) (by decide) rfl rfl (Nat.le_of_ble_eq_true rfl) dX7_partAt_14 rfl ?_
    refine V_if_ne (tgt := 40) dX7_partAt_17 (by decide) (fun hc6 => ?_) (fun hc6 => ?_)
    · have hf := if_f hf hc6
      exact mM_partAt_40_v σ hE () hf
    · have hf := if_t hf hc6
      refine V_aload_n dX7_partAt_20 rfl ?_
      refine V_ldc2 q2241 dX7_partAt_21 ?_
      obtain ⟨r8, hc7, hf⟩ := bd1_ex hf
      refine V_cV (av := [.long (17171557 : Int64)]) (rest := []) (st' := [.int r8]) (mM_isWord_ok _ _ _ _ _ _ _ hc7) vcX7_287 (wM_k0 _ _ _) (by decide) rfl rfl (Nat.le_of_ble_eq_true rfl) dX7_partAt_24 rfl ?_
      refine V_if_ne (tgt := 40) dX7_partAt_27 (by decide) (fun hc9 => ?_) (fun hc9 => ?_)
      · have hf := if_f hf hc9
        exact mM_partAt_40_v σ hE () hf
      · have hf := if_t hf hc9
        refine V_aload_n dX7_partAt_30 rfl ?_
        refine V_ldc2 q2242 dX7_partAt_31 ?_
        obtain ⟨r11, hc10, hf⟩ := bd1_ex hf
        refine V_cV (av := [.long (627764 : Int64)]) (rest := []) (st' := [.int r11]) (mM_isWord_ok _ _ _ _ _ _ _ hc10) vcX7_287 (wM_k0 _ _ _) (by decide) rfl rfl (Nat.le_of_ble_eq_true rfl) dX7_partAt_34 rfl ?_
        refine V_if_eq (tgt := 84) dX7_partAt_37 (by decide) (fun hc12 => ?_) (fun hc12 => ?_)
        · have hf := if_t hf hc12
          refine V_aload_n dX7_partAt_84 rfl ?_
          refine V_ldc2 q2243 dX7_partAt_85 ?_
          obtain ⟨r14, hc13, hf⟩ := bd1_ex hf
          refine V_cV (av := [.long (4153 : Int64)]) (rest := []) (st' := [.int r14]) (mM_isWord_ok _ _ _ _ _ _ _ hc13) vcX7_287 (wM_k0 _ _ _) (by decide) rfl rfl (Nat.le_of_ble_eq_true rfl) dX7_partAt_88 rfl ?_
          refine V_if_ne (tgt := 124) dX7_partAt_91 (by decide) (fun hc15 => ?_) (fun hc15 => ?_)
          · have hf := if_f hf hc15
            exact mM_partAt_124_v σ hE () hf
          · have hf := if_t hf hc15
            refine V_aload_n dX7_partAt_94 rfl ?_
            refine V_ldc2 q2244 dX7_partAt_95 ?_
            obtain ⟨r17, hc16, hf⟩ := bd1_ex hf
            refine V_cV (av := [.long (14726323 : Int64)]) (rest := []) (st' := [.int r17]) (mM_isWord_ok _ _ _ _ _ _ _ hc16) vcX7_287 (wM_k0 _ _ _) (by decide) rfl rfl (Nat.le_of_ble_eq_true rfl) dX7_partAt_98 rfl ?_
            refine V_if_ne (tgt := 124) dX7_partAt_101 (by decide) (fun hc18 => ?_) (fun hc18 => ?_)
            · have hf := if_f hf hc18
              exact mM_partAt_124_v σ hE () hf
            · have hf := if_t hf hc18
              refine V_aload_n dX7_partAt_104 rfl ?_
              refine V_ldc2 q2245 dX7_partAt_105 ?_
              obtain ⟨r20, hc19, hf⟩ := bd1_ex hf
              refine V_cV (av := [.long (538449491 : Int64)]) (rest := []) (st' := [.int r20]) (mM_isWord_ok _ _ _ _ _ _ _ hc19) vcX7_287 (wM_k0 _ _ _) (by decide) rfl rfl (Nat.le_of_ble_eq_true rfl) dX7_partAt_108 rfl ?_
              refine V_if_ne (tgt := 124) dX7_partAt_111 (by decide) (fun hc21 => ?_) (fun hc21 => ?_)
              · have hf := if_f hf hc21
                exact mM_partAt_124_v σ hE () hf
              · have hf := if_t hf hc21
                refine V_aload_n dX7_partAt_114 rfl ?_
                refine V_ldc2 q2246 dX7_partAt_115 ?_
                obtain ⟨r23, hc22, hf⟩ := bd1_ex hf
                refine V_cV (av := [.long (7657646 : Int64)]) (rest := []) (st' := [.int r23]) (mM_isWord_ok _ _ _ _ _ _ _ hc22) vcX7_287 (wM_k0 _ _ _) (by decide) rfl rfl (Nat.le_of_ble_eq_true rfl) dX7_partAt_118 rfl ?_
                refine V_if_eq (tgt := 171) dX7_partAt_121 (by decide) (fun hc24 => ?_) (fun hc24 => ?_)
                · have hf := if_t hf hc24
                  refine V_aload_n dX7_partAt_171 rfl ?_
                  refine V_ldc2 q2247 dX7_partAt_172 ?_
                  obtain ⟨r26, hc25, hf⟩ := bd1_ex hf
                  refine V_cV (av := [.long (17076 : Int64)]) (rest := []) (st' := [.int r26]) (mM_isWord_ok _ _ _ _ _ _ _ hc25) vcX7_287 (wM_k0 _ _ _) (by decide) rfl rfl (Nat.le_of_ble_eq_true rfl) dX7_partAt_175 rfl ?_
                  refine V_if_eq (tgt := 186) dX7_partAt_178 (by decide) (fun hc27 => ?_) (fun hc27 => ?_)
                  · have hf := if_t hf hc27
                    refine V_aload_n dX7_partAt_186 rfl ?_
                    refine V_ldc2 q2248 dX7_partAt_187 ?_
                    obtain ⟨r29, hc28, hf⟩ := bd1_ex hf
                    refine V_cV (av := [.long (654812564 : Int64)]) (rest := []) (st' := [.int r29]) (mM_isWord_ok _ _ _ _ _ _ _ hc28) vcX7_287 (wM_k0 _ _ _) (by decide) rfl rfl (Nat.le_of_ble_eq_true rfl) dX7_partAt_190 rfl ?_
                    refine V_if_eq (tgt := 201) dX7_partAt_193 (by decide) (fun hc30 => ?_) (fun hc30 => ?_)
                    · have hf := if_t hf hc30
                      refine V_aload_n dX7_partAt_201 rfl ?_
                      refine V_ldc2 q2249 dX7_partAt_202 ?_
                      obtain ⟨r32, hc31, hf⟩ := bd1_ex hf
                      refine V_cV (av := [.long (409204 : Int64)]) (rest := []) (st' := [.int r32]) (mM_isWord_ok _ _ _ _ _ _ _ hc31) vcX7_287 (wM_k0 _ _ _) (by decide) rfl rfl (Nat.le_of_ble_eq_true rfl) dX7_partAt_205 rfl ?_
                      refine V_if_eq (tgt := 216) dX7_partAt_208 (by decide) (fun hc33 => ?_) (fun hc33 => ?_)
                      · have hf := if_t hf hc33
                        refine V_iconst dX7_partAt_216 kc_m1 ?_
                        cases some_ex hf
                        exact V_iret hE dX7_partAt_217
                      · have hf := if_f hf hc33
                        refine V_bipush dX7_partAt_211 kb_11 ?_
                        refine V_goto (tgt := 217) dX7_partAt_213 (by decide) ?_
                        cases some_ex hf
                        exact V_iret hE dX7_partAt_217
                    · have hf := if_f hf hc30
                      refine V_bipush dX7_partAt_196 kb_10 ?_
                      refine V_goto (tgt := 217) dX7_partAt_198 (by decide) ?_
                      cases some_ex hf
                      exact V_iret hE dX7_partAt_217
                  · have hf := if_f hf hc27
                    refine V_bipush dX7_partAt_181 kb_9 ?_
                    refine V_goto (tgt := 217) dX7_partAt_183 (by decide) ?_
                    cases some_ex hf
                    exact V_iret hE dX7_partAt_217
                · have hf := if_f hf hc24
                  exact mM_partAt_124_v σ hE () hf
        · have hf := if_f hf hc12
          exact mM_partAt_40_v σ hE () hf
set_option maxHeartbeats 4000000 in
theorem mM_readPart_85_v {X : CX} {w0 : AH} {z : ZZ} {h : Nat} {r : Int32} {σ' : SM} (hE : XE X w0 5 (some .int) "readPart" (.returned (some (.int r))) (wM z h σ')) (t0 : Int32) (t1 : Int32) (t2 : Int32) (σ : SM) (hf : mM_readPart_85 t0 t1 t2 σ = some (r, σ')) : V X cX7_readPart RX7 3 5 (wM z h σ) 85 [none, none, none] [.int t0, .int t1, .int t2, .ref h] := by
  unfold mM_readPart_85 at hf
  obtain ⟨σ2, hc1, hf⟩ := bd1_ex hf
  refine V_cV (av := [.int t2, .int t1, .int t0]) (rest := []) (st' := []) (mM_leaf_ok _ _ _ _ _ _ _ _ _ hc1) vcX7_342 (wM_k0 _ _ _) (by decide) rfl rfl (Nat.le_of_ble_eq_true rfl) dX7_readPart_85 rfl ?_
  refine V_iconst dX7_readPart_88 kc_3 ?_
  cases some_ex hf
  exact V_iret hE dX7_readPart_89
set_option maxHeartbeats 4000000 in
theorem mM_readPart_72_v {X : CX} {w0 : AH} {z : ZZ} {h : Nat} {r : Int32} {σ' : SM} (hE : XE X w0 5 (some .int) "readPart" (.returned (some (.int r))) (wM z h σ')) (v2 : Int32) (t0 : Int32) (t1 : Int32) (σ : SM) (hf : mM_readPart_72 v2 t0 t1 σ = some (r, σ')) : V X cX7_readPart RX7 3 5 (wM z h σ) 72 [some (.ref h), none, some (.int v2)] [.int t0, .int t1, .ref h] := by
  unfold mM_readPart_72 at hf
  refine V_iload_n dX7_readPart_72 rfl ?_
  refine V_if_eq (tgt := 84) dX7_readPart_73 (by decide) (fun hc1 => ?_) (fun hc1 => ?_)
  · have hf := if_t hf hc1
    refine V_iconst dX7_readPart_84 kc_0 ?_
    refine V_keep [false, true, false] rfl ?_
    exact mM_readPart_85_v hE (0 : Int32) t0 t1 σ hf
  · have hf := if_f hf hc1
    refine V_aload_n dX7_readPart_76 rfl ?_
    refine VM_getL fX7_236 dX7_readPart_77 ?_
    refine V_l2i dX7_readPart_80 ?_
    refine V_goto (tgt := 85) dX7_readPart_81 (by decide) ?_
    refine V_keep [false, true, false] rfl ?_
    exact mM_readPart_85_v hE ((gL σ 0 14).toInt32) t0 t1 σ hf
set_option maxHeartbeats 4000000 in
theorem mM_readPart_62_v {X : CX} {w0 : AH} {z : ZZ} {h : Nat} {r : Int32} {σ' : SM} (hE : XE X w0 5 (some .int) "readPart" (.returned (some (.int r))) (wM z h σ')) (v1 : Int32) (v2 : Int32) (t0 : Int32) (σ : SM) (hf : mM_readPart_62 v1 v2 t0 σ = some (r, σ')) : V X cX7_readPart RX7 3 5 (wM z h σ) 62 [some (.ref h), some (.int v1), some (.int v2)] [.int t0, .ref h] := by
  unfold mM_readPart_62 at hf
  refine V_iload_n dX7_readPart_62 rfl ?_
  refine V_iconst dX7_readPart_63 kc_m1 ?_
  refine V_icmp_ne (tgt := 71) dX7_readPart_64 (by decide) (fun hc1 => ?_) (fun hc1 => ?_)
  · have hf := if_f hf hc1
    refine V_iload_n dX7_readPart_71 rfl ?_
    refine V_keep [true, false, true] rfl ?_
    exact mM_readPart_72_v hE v2 v1 t0 σ hf
  · have hf := if_t hf hc1
    refine V_iconst dX7_readPart_67 kc_0 ?_
    refine V_goto (tgt := 72) dX7_readPart_68 (by decide) ?_
    refine V_keep [true, false, true] rfl ?_
    exact mM_readPart_72_v hE v2 (0 : Int32) t0 σ hf
set_option maxHeartbeats 4000000 in
theorem mM_readPart_57_v {X : CX} {w0 : AH} {z : ZZ} {h : Nat} {r : Int32} {σ' : SM} (hE : XE X w0 5 (some .int) "readPart" (.returned (some (.int r))) (wM z h σ')) (v1 : Int32) (v2 : Int32) (σ : SM) (hf : mM_readPart_57 v1 v2 σ = some (r, σ')) : V X cX7_readPart RX7 3 5 (wM z h σ) 57 [some (.ref h), some (.int v1), some (.int v2)] [.ref h] := by
  unfold mM_readPart_57 at hf
  refine V_iconst dX7_readPart_57 kc_1 ?_
  refine V_goto (tgt := 62) dX7_readPart_58 (by decide) ?_
  exact mM_readPart_62_v hE v1 v2 (1 : Int32) σ hf
set_option maxHeartbeats 4000000 in
theorem mM_readPart_46_v {X : CX} {w0 : AH} {z : ZZ} {h : Nat} {r : Int32} {σ' : SM} (hE : XE X w0 5 (some .int) "readPart" (.returned (some (.int r))) (wM z h σ')) (v1 : Int32) (t0 : Int32) (σ : SM) (hf : mM_readPart_46 v1 t0 σ = some (r, σ')) : V X cX7_readPart RX7 3 5 (wM z h σ) 46 [some (.ref h), some (.int v1), none] [.int t0] := by
  unfold mM_readPart_46 at hf
  refine V_istore_n (ls' := [some (.ref h), some (.int v1), some (.int t0)]) dX7_readPart_46 (by decide) rfl ?_
  refine V_aload_n dX7_readPart_47 rfl ?_
  refine V_iload_n dX7_readPart_48 rfl ?_
  refine V_iconst dX7_readPart_49 kc_m1 ?_
  refine V_icmp_ne (tgt := 57) dX7_readPart_50 (by decide) (fun hc1 => ?_) (fun hc1 => ?_)
  · have hf := if_f hf hc1
    exact mM_readPart_57_v hE v1 t0 σ hf
  · have hf := if_t hf hc1
    refine V_iload_n dX7_readPart_53 rfl ?_
    refine V_if_eq (tgt := 61) dX7_readPart_54 (by decide) (fun hc2 => ?_) (fun hc2 => ?_)
    · have hf := if_t hf hc2
      refine V_iconst dX7_readPart_61 kc_0 ?_
      exact mM_readPart_62_v hE v1 t0 (0 : Int32) σ hf
    · have hf := if_f hf hc2
      exact mM_readPart_57_v hE v1 t0 σ hf
set_option maxHeartbeats 4000000 in
theorem mM_readPart_45_v {X : CX} {w0 : AH} {z : ZZ} {h : Nat} {r : Int32} {σ' : SM} (hE : XE X w0 5 (some .int) "readPart" (.returned (some (.int r))) (wM z h σ')) (v1 : Int32) (σ : SM) (hf : mM_readPart_45 v1 σ = some (r, σ')) : V X cX7_readPart RX7 3 5 (wM z h σ) 45 [some (.ref h), some (.int v1), none] [] := by
  unfold mM_readPart_45 at hf
  refine V_iconst dX7_readPart_45 kc_0 ?_
  exact mM_readPart_46_v hE v1 (0 : Int32) σ hf
set_option maxHeartbeats 4000000 in
theorem mM_readPart_ok (l : Launch) (D : DD) (z : ZZ) (h : Nat) (σ : SM) (r : Int32) (σ' : SM) (hf : mM_readPart  σ = some (r, σ')) : MA l D yX7_readPart cX7_readPart 3 (some .int) 5 [.ref h] (wM z h σ) (.returned (some (.int r))) (wM z h σ') := by
  refine MA.intro (own := RX7) (nm := "readPart") (ls := [some (.ref h), none, none]) (by decide) rfl rfl (Nat.le_of_ble_eq_true rfl) rfl (fun X hl hD hE => ?_)
  subst hl hD
  unfold mM_readPart at hf
  refine V_aload_n dX7_readPart_0 rfl ?_
  refine V_bipush dX7_readPart_1 kb_91 ?_
  obtain ⟨r2, hc1, hf⟩ := bd1_ex hf
  refine V_cV (av := [.int (91 : Int32)]) (rest := []) (st' := [.int r2]) (mM_isSign_ok _ _ _ _ _ _ _ hc1) vcX7_330 (wM_k0 _ _ _) (by decide) rfl rfl (Nat.le_of_ble_eq_true rfl) dX7_readPart_3 rfl ?_
  refine V_if_eq (tgt := 17) dX7_readPart_6 (by decide) (fun hc3 => ?_) (fun hc3 => ?_)
  · have hf := if_t hf hc3
    refine V_aload_n dX7_readPart_17 rfl ?_
    obtain ⟨r5, hc4, hf⟩ := bd1_ex hf
    refine V_cV (av := []) (rest := []) (st' := [.int r5]) (mM_partAt_ok _ _ _ _ _ _ hc4) vcX7_336 (wM_k0 _ _ _) (by decide) rfl rfl (Nat.le_of_ble_eq_true rfl) dX7_readPart_18 rfl ?_
    refine V_istore_n (ls' := [some (.ref h), some (.int r5), none]) dX7_readPart_21 (by decide) rfl ?_
    refine V_aload_n dX7_readPart_22 rfl ?_
    refine VM_getI fX7_246 rfl dX7_readPart_23 ?_
    refine V_iconst dX7_readPart_26 kc_2 ?_
    refine V_icmp_ne (tgt := 45) dX7_readPart_27 (by decide) (fun hc6 => ?_) (fun hc6 => ?_)
    · have hf := if_f hf hc6
      exact mM_readPart_45_v hE r5 σ hf
    · have hf := if_t hf hc6
      refine V_aload_n dX7_readPart_30 rfl ?_
      refine VM_getL fX7_236 dX7_readPart_31 ?_
      refine V_ldc2 q2250 dX7_readPart_34 ?_
      refine V_lif_gt (tgt := 45) dX7_readPart_37 dX7_readPart_38 (by decide) (fun hc7 => ?_) (fun hc7 => ?_)
      · have hf := if_t hf hc7
        exact mM_readPart_45_v hE r5 σ hf
      · have hf := if_f hf hc7
        refine V_iconst dX7_readPart_41 kc_1 ?_
        refine V_goto (tgt := 46) dX7_readPart_42 (by decide) ?_
        exact mM_readPart_46_v hE r5 (1 : Int32) σ hf
  · have hf := if_f hf hc3
    refine V_aload_n dX7_readPart_9 rfl ?_
    refine V_bipush dX7_readPart_10 kb_31 ?_
    obtain ⟨σ9, hc8, hf⟩ := bd1_ex hf
    refine V_cV (av := [.int (31 : Int32)]) (rest := []) (st' := []) (mM_open_ok _ _ _ _ _ _ _ hc8) vcX7_333 (wM_k0 _ _ _) (by decide) rfl rfl (Nat.le_of_ble_eq_true rfl) dX7_readPart_12 rfl ?_
    refine V_iconst dX7_readPart_15 kc_1 ?_
    cases some_ex hf
    exact V_iret hE dX7_readPart_16
set_option maxHeartbeats 4000000 in
theorem mM_readPlain_ok (l : Launch) (D : DD) (z : ZZ) (h : Nat) (σ : SM) (r : Int32) (σ' : SM) (hf : mM_readPlain  σ = some (r, σ')) : MA l D yX7_readPlain cX7_readPlain 2 (some .int) 6 [.ref h] (wM z h σ) (.returned (some (.int r))) (wM z h σ') := by
  refine MA.intro (own := RX7) (nm := "readPlain") (ls := [some (.ref h), none]) (by decide) rfl rfl (Nat.le_of_ble_eq_true rfl) rfl (fun X hl hD hE => ?_)
  subst hl hD
  unfold mM_readPlain at hf
  refine V_aload_n dX7_readPlain_0 rfl ?_
  refine V_ldc2 q2201 dX7_readPlain_1 ?_
  obtain ⟨r2, hc1, hf⟩ := bd1_ex hf
  refine V_cV (av := [.long (14836 : Int64)]) (rest := []) (st' := [.int r2]) (mM_isWord_ok _ _ _ _ _ _ _ hc1) vcX7_287 (wM_k0 _ _ _) (by decide) rfl rfl (Nat.le_of_ble_eq_true rfl) dX7_readPlain_4 rfl ?_
  refine V_if_eq (tgt := 23) dX7_readPlain_7 (by decide) (fun hc3 => ?_) (fun hc3 => ?_)
  · have hf := if_t hf hc3
    refine V_aload_n dX7_readPlain_23 rfl ?_
    refine V_bipush dX7_readPlain_24 kb_40 ?_
    obtain ⟨r5, hc4, hf⟩ := bd1_ex hf
    refine V_cV (av := [.int (40 : Int32)]) (rest := []) (st' := [.int r5]) (mM_isSign_ok _ _ _ _ _ _ _ hc4) vcX7_330 (wM_k0 _ _ _) (by decide) rfl rfl (Nat.le_of_ble_eq_true rfl) dX7_readPlain_26 rfl ?_
    refine V_if_eq (tgt := 40) dX7_readPlain_29 (by decide) (fun hc6 => ?_) (fun hc6 => ?_)
    · have hf := if_t hf hc6
      refine V_aload_n dX7_readPlain_40 rfl ?_
      obtain ⟨r8, hc7, hf⟩ := bd1_ex hf
      refine V_cV (av := []) (rest := []) (st' := [.int r8]) (mM_plainAt_ok _ _ _ _ _ _ hc7) vcX7_348 (wM_k0 _ _ _) (by decide) rfl rfl (Nat.le_of_ble_eq_true rfl) dX7_readPlain_41 rfl ?_
      refine V_istore_n (ls' := [some (.ref h), some (.int r8)]) dX7_readPlain_44 (by decide) rfl ?_
      refine V_iload_n dX7_readPlain_45 rfl ?_
      refine V_iconst dX7_readPlain_46 kc_m1 ?_
      refine V_icmp_eq (tgt := 59) dX7_readPlain_47 (by decide) (fun hc9 => ?_) (fun hc9 => ?_)
      · have hf := if_t hf hc9
        refine V_aload_n dX7_readPlain_59 rfl ?_
        obtain ⟨r11, σ12, hc10, hf⟩ := bd2_ex hf
        refine V_cV (av := []) (rest := []) (st' := [.int r11]) (mM_readPart_ok _ _ _ _ _ _ _ hc10) vcX7_351 (wM_k0 _ _ _) (by decide) rfl rfl (Nat.le_of_ble_eq_true rfl) dX7_readPlain_60 rfl ?_
        cases some_ex hf
        exact V_iret hE dX7_readPlain_63
      · have hf := if_f hf hc9
        refine V_aload_n dX7_readPlain_50 rfl ?_
        refine V_iconst dX7_readPlain_51 kc_1 ?_
        refine V_iload_n dX7_readPlain_52 rfl ?_
        refine V_iconst dX7_readPlain_53 kc_0 ?_
        obtain ⟨σ14, hc13, hf⟩ := bd1_ex hf
        refine V_cV (av := [.int (1 : Int32), .int r8, .int (0 : Int32)]) (rest := []) (st' := []) (mM_leaf_ok _ _ _ _ _ _ _ _ _ hc13) vcX7_342 (wM_k0 _ _ _) (by decide) rfl rfl (Nat.le_of_ble_eq_true rfl) dX7_readPlain_54 rfl ?_
        refine V_iconst dX7_readPlain_57 kc_2 ?_
        cases some_ex hf
        exact V_iret hE dX7_readPlain_58
    · have hf := if_f hf hc6
      refine V_aload_n dX7_readPlain_32 rfl ?_
      refine V_bipush dX7_readPlain_33 kb_30 ?_
      obtain ⟨σ16, hc15, hf⟩ := bd1_ex hf
      refine V_cV (av := [.int (30 : Int32)]) (rest := []) (st' := []) (mM_open_ok _ _ _ _ _ _ _ hc15) vcX7_333 (wM_k0 _ _ _) (by decide) rfl rfl (Nat.le_of_ble_eq_true rfl) dX7_readPlain_35 rfl ?_
      refine V_iconst dX7_readPlain_38 kc_0 ?_
      cases some_ex hf
      exact V_iret hE dX7_readPlain_39
  · have hf := if_f hf hc3
    refine V_aload_n dX7_readPlain_10 rfl ?_
    refine V_bipush dX7_readPlain_11 kb_27 ?_
    refine V_iconst dX7_readPlain_13 kc_0 ?_
    obtain ⟨σ18, hc17, hf⟩ := bd1_ex hf
    refine V_cV (av := [.int (27 : Int32), .int (0 : Int32)]) (rest := []) (st' := []) (mM_push_ok _ _ _ _ _ _ _ _ hc17) vcX7_324 (wM_k0 _ _ _) (by decide) rfl rfl (Nat.le_of_ble_eq_true rfl) dX7_readPlain_14 rfl ?_
    refine V_aload_n dX7_readPlain_17 rfl ?_
    obtain ⟨σ20, hc19, hf⟩ := bd1_ex hf
    refine V_cV (av := []) (rest := []) (st' := []) (mM_next_ok _ _ _ _ _ _ hc19) vcX7_230 (wM_k0 _ _ _) (by decide) rfl rfl (Nat.le_of_ble_eq_true rfl) dX7_readPlain_18 rfl ?_
    refine V_iconst dX7_readPlain_21 kc_0 ?_
    cases some_ex hf
    exact V_iret hE dX7_readPlain_22
set_option maxHeartbeats 4000000 in
theorem mM_binds_ok (l : Launch) (D : DD) (w : AH) (p0 : Int32) (r : Int32) (hf : mM_binds p0 = some r) : MA l D yX7_binds cX7_binds 1 (some .int) 1 [.int p0] w (.returned (some (.int r))) w := by
  refine MA.intro (own := RX7) (nm := "binds") (ls := [some (.int p0)]) (by decide) rfl rfl (Nat.le_of_ble_eq_true rfl) rfl (fun X hl hD hE => ?_)
  subst hl hD
  unfold mM_binds at hf
  refine V_iload_n dX7_binds_0 rfl ?_
  refine V_bipush dX7_binds_1 kb_30 ?_
  refine V_icmp_lt (tgt := 10) dX7_binds_3 (by decide) (fun hc1 => ?_) (fun hc1 => ?_)
  · have hf := if_t hf hc1
    refine V_iload_n dX7_binds_10 rfl ?_
    refine V_bipush dX7_binds_11 kb_29 ?_
    refine V_icmp_ne (tgt := 20) dX7_binds_13 (by decide) (fun hc2 => ?_) (fun hc2 => ?_)
    · have hf := if_f hf hc2
      refine V_iload_n dX7_binds_20 rfl ?_
      refine V_bipush dX7_binds_21 kb_28 ?_
      refine V_icmp_ne (tgt := 30) dX7_binds_23 (by decide) (fun hc3 => ?_) (fun hc3 => ?_)
      · have hf := if_f hf hc3
        refine V_iload_n dX7_binds_30 rfl ?_
        refine V_bipush dX7_binds_31 kb_27 ?_
        refine V_icmp_ne (tgt := 40) dX7_binds_33 (by decide) (fun hc4 => ?_) (fun hc4 => ?_)
        · have hf := if_f hf hc4
          refine V_iload_n dX7_binds_40 rfl ?_
          refine V_bipush dX7_binds_41 kb_24 ?_
          refine V_icmp_lt (tgt := 50) dX7_binds_43 (by decide) (fun hc5 => ?_) (fun hc5 => ?_)
          · have hf := if_t hf hc5
            refine V_iload_n dX7_binds_50 rfl ?_
            refine V_bipush dX7_binds_51 kb_22 ?_
            refine V_icmp_lt (tgt := 61) dX7_binds_53 (by decide) (fun hc6 => ?_) (fun hc6 => ?_)
            · have hf := if_t hf hc6
              refine V_iconst dX7_binds_61 kc_5 ?_
              cases some_ex hf
              exact V_iret hE dX7_binds_62
            · have hf := if_f hf hc6
              refine V_bipush dX7_binds_56 kb_6 ?_
              refine V_goto (tgt := 62) dX7_binds_58 (by decide) ?_
              cases some_ex hf
              exact V_iret hE dX7_binds_62
          · have hf := if_f hf hc5
            refine V_iconst dX7_binds_46 kc_4 ?_
            refine V_goto (tgt := 62) dX7_binds_47 (by decide) ?_
            cases some_ex hf
            exact V_iret hE dX7_binds_62
        · have hf := if_t hf hc4
          refine V_iconst dX7_binds_36 kc_3 ?_
          refine V_goto (tgt := 62) dX7_binds_37 (by decide) ?_
          cases some_ex hf
          exact V_iret hE dX7_binds_62
      · have hf := if_t hf hc3
        refine V_iconst dX7_binds_26 kc_2 ?_
        refine V_goto (tgt := 62) dX7_binds_27 (by decide) ?_
        cases some_ex hf
        exact V_iret hE dX7_binds_62
    · have hf := if_t hf hc2
      refine V_iconst dX7_binds_16 kc_1 ?_
      refine V_goto (tgt := 62) dX7_binds_17 (by decide) ?_
      cases some_ex hf
      exact V_iret hE dX7_binds_62
  · have hf := if_f hf hc1
    refine V_iconst dX7_binds_6 kc_0 ?_
    refine V_goto (tgt := 62) dX7_binds_7 (by decide) ?_
    cases some_ex hf
    exact V_iret hE dX7_binds_62
set_option maxHeartbeats 4000000 in
theorem mM_settle_63_v {X : CX} {w0 : AH} {z : ZZ} {h : Nat} {σ' : SM} (hE : XE X w0 2 none "settle" (.returned none) (wM z h σ')) (k0 : Int32 → SM → Option (SM)) (hk0 : ∀ (v1 : Int32) (σ : SM), k0 v1 σ = some σ' → V X cX7_settle RX7 2 2 (wM z h σ) 0 [some (.ref h), some (.int v1)] []) (v1 : Int32) (σ : SM) (hf : mM_settle_63 k0 v1 σ = some σ') : V X cX7_settle RX7 2 2 (wM z h σ) 63 [some (.ref h), some (.int v1)] [] := by
  unfold mM_settle_63 at hf
  refine V_aload_n dX7_settle_63 rfl ?_
  refine VM_getR fX7_40 ⟨rfl, rfl⟩ rfl dX7_settle_64 ?_
  refine V_aload_n dX7_settle_67 rfl ?_
  refine VM_getR fX7_46 ⟨rfl, rfl⟩ rfl dX7_settle_68 ?_
  refine V_aload_n dX7_settle_71 rfl ?_
  refine VM_getI fX7_268 rfl dX7_settle_72 ?_
  obtain ⟨hb1, hf⟩ := ck_ex hf
  refine VM_ldI (n := 400) (k := (gI σ 0 25).toNatClampNeg) rfl hb1 rfl dX7_settle_75 ?_
  refine V_aload_n dX7_settle_76 rfl ?_
  refine VM_getI fX7_265 rfl dX7_settle_77 ?_
  obtain ⟨hb2, hf⟩ := ck_ex hf
  obtain ⟨σ3, hs4, hf⟩ := st1_ex hf
  refine VM_stI (n := 400) (k := (gI σ 11 ((gI σ 0 25).toNatClampNeg)).toNatClampNeg) rfl hb2 rfl hs4 dX7_settle_80 ?_
  refine V_goto (tgt := 0) dX7_settle_81 (by decide) ?_
  exact hk0 v1 σ3 hf
set_option maxHeartbeats 4000000 in
theorem mM_settle_0_v {X : CX} {w0 : AH} {z : ZZ} {h : Nat} {σ' : SM} (hE : XE X w0 2 none "settle" (.returned none) (wM z h σ')) (k0 : Int32 → SM → Option (SM)) (hk0 : ∀ (v1 : Int32) (σ : SM), k0 v1 σ = some σ' → V X cX7_settle RX7 2 2 (wM z h σ) 0 [some (.ref h), some (.int v1)] []) (v1 : Int32) (σ : SM) (hf : mM_settle_0 k0 v1 σ = some σ') : V X cX7_settle RX7 2 2 (wM z h σ) 0 [some (.ref h), some (.int v1)] [] := by
  unfold mM_settle_0 at hf
  refine V_aload_n dX7_settle_0 rfl ?_
  refine VM_getI fX7_268 rfl dX7_settle_1 ?_
  refine V_if_le (tgt := 101) dX7_settle_4 (by decide) (fun hc1 => ?_) (fun hc1 => ?_)
  · have hf := if_t hf hc1
    cases some_ex hf
    exact V_vret hE dX7_settle_101
  · have hf := if_f hf hc1
    refine V_aload_n dX7_settle_7 rfl ?_
    refine VM_getR fX7_43 ⟨rfl, rfl⟩ rfl dX7_settle_8 ?_
    refine V_aload_n dX7_settle_11 rfl ?_
    refine VM_getI fX7_268 rfl dX7_settle_12 ?_
    refine V_iconst dX7_settle_15 kc_1 ?_
    refine V_isub dX7_settle_16 ?_
    obtain ⟨hb2, hf⟩ := ck_ex hf
    refine VM_ldI (n := 400) (k := ((gI σ 0 25) - (1 : Int32)).toNatClampNeg) rfl hb2 rfl dX7_settle_17 ?_
    obtain ⟨r4, hc3, hf⟩ := bd1_ex hf
    refine V_cS (rest := []) (st' := [.int r4]) (mM_binds_ok _ _ _ _ _ hc3) scX7_271 (by decide) rfl rfl (Nat.le_of_ble_eq_true rfl) dX7_settle_18 rfl ?_
    refine V_iload_n dX7_settle_21 rfl ?_
    refine V_icmp_lt (tgt := 101) dX7_settle_22 (by decide) (fun hc5 => ?_) (fun hc5 => ?_)
    · have hf := if_t hf hc5
      cases some_ex hf
      exact V_vret hE dX7_settle_101
    · have hf := if_f hf hc5
      refine V_aload_n dX7_settle_25 rfl ?_
      refine V_dup dX7_settle_26 rfl ?_
      refine VM_getI fX7_268 rfl dX7_settle_27 ?_
      refine V_iconst dX7_settle_30 kc_1 ?_
      refine V_isub dX7_settle_31 ?_
      obtain ⟨σ6, hs7, hf⟩ := st1_ex hf
      refine VM_putI fwX7_268 hs7 dX7_settle_32 ?_
      refine V_aload_n dX7_settle_35 rfl ?_
      refine VM_getR fX7_43 ⟨rfl, rfl⟩ rfl dX7_settle_36 ?_
      refine V_aload_n dX7_settle_39 rfl ?_
      refine VM_getI fX7_268 rfl dX7_settle_40 ?_
      obtain ⟨hb8, hf⟩ := ck_ex hf
      refine VM_ldI (n := 400) (k := (gI σ6 0 25).toNatClampNeg) rfl hb8 rfl dX7_settle_43 ?_
      refine V_bipush dX7_settle_44 kb_28 ?_
      refine V_icmp_eq (tgt := 63) dX7_settle_46 (by decide) (fun hc9 => ?_) (fun hc9 => ?_)
      · have hf := if_t hf hc9
        exact mM_settle_63_v hE k0 hk0 v1 σ6 hf
      · have hf := if_f hf hc9
        refine V_aload_n dX7_settle_49 rfl ?_
        refine VM_getR fX7_43 ⟨rfl, rfl⟩ rfl dX7_settle_50 ?_
        refine V_aload_n dX7_settle_53 rfl ?_
        refine VM_getI fX7_268 rfl dX7_settle_54 ?_
        obtain ⟨hb10, hf⟩ := ck_ex hf
        refine VM_ldI (n := 400) (k := (gI σ6 0 25).toNatClampNeg) rfl hb10 rfl dX7_settle_57 ?_
        refine V_bipush dX7_settle_58 kb_29 ?_
        refine V_icmp_ne (tgt := 84) dX7_settle_60 (by decide) (fun hc11 => ?_) (fun hc11 => ?_)
        · have hf := if_f hf hc11
          refine V_aload_n dX7_settle_84 rfl ?_
          refine V_aload_n dX7_settle_85 rfl ?_
          refine VM_getR fX7_43 ⟨rfl, rfl⟩ rfl dX7_settle_86 ?_
          refine V_aload_n dX7_settle_89 rfl ?_
          refine VM_getI fX7_268 rfl dX7_settle_90 ?_
          obtain ⟨hb12, hf⟩ := ck_ex hf
          refine VM_ldI (n := 400) (k := (gI σ6 0 25).toNatClampNeg) rfl hb12 rfl dX7_settle_93 ?_
          refine V_iconst dX7_settle_94 kc_0 ?_
          obtain ⟨σ14, hc13, hf⟩ := bd1_ex hf
          refine V_cV (av := [.int (gI σ6 10 ((gI σ6 0 25).toNatClampNeg)), .int (0 : Int32)]) (rest := []) (st' := []) (mM_emit_ok _ _ _ _ _ _ _ _ hc13) vcX7_274 (wM_k0 _ _ _) (by decide) rfl rfl (Nat.le_of_ble_eq_true rfl) dX7_settle_95 rfl ?_
          refine V_goto (tgt := 0) dX7_settle_98 (by decide) ?_
          exact hk0 v1 σ14 hf
        · have hf := if_t hf hc11
          exact mM_settle_63_v hE k0 hk0 v1 σ6 hf
set_option maxHeartbeats 4000000 in
theorem mM_settle_ok (l : Launch) (D : DD) (z : ZZ) (h : Nat) (p0 : Int32) (σ : SM) (σ' : SM) (hf : mM_settle p0 σ = some σ') : MA l D yX7_settle cX7_settle 2 none 2 [.ref h, .int p0] (wM z h σ) (.returned none) (wM z h σ') := by
  refine MA.intro (own := RX7) (nm := "settle") (ls := [some (.ref h), some (.int p0)]) (by decide) rfl rfl (Nat.le_of_ble_eq_true rfl) rfl (fun X hl hD hE => ?_)
  subst hl hD
  unfold mM_settle at hf
  exact lq2_ex (P := fun v1 σ => V X cX7_settle RX7 2 2 (wM z h σ) 0 [some (.ref h), some (.int v1)] []) (fun k hk v1 σ hf => mM_settle_0_v hE k hk v1 σ hf) LF p0 σ hf
set_option maxHeartbeats 4000000 in
theorem mM_inner_33_v {X : CX} {w0 : AH} {z : ZZ} {h : Nat} {r : Int32} (σ : SM) (hE : XE X w0 1 (some .int) "inner" (.returned (some (.int r))) (wM z h σ)) (k4 : Int32 → Int32 → Option (Int32)) (hk4 : ∀ (v1 : Int32) (v2 : Int32), k4 v1 v2 = some r → V X cX7_inner RX7 3 1 (wM z h σ) 4 [some (.ref h), some (.int v1), some (.int v2)] []) (v2 : Int32) (t0 : Int32) (hf : mM_inner_33 σ k4 v2 t0 = some r) : V X cX7_inner RX7 3 1 (wM z h σ) 33 [some (.ref h), none, some (.int v2)] [.int t0] := by
  unfold mM_inner_33 at hf
  refine V_istore_n (ls' := [some (.ref h), some (.int t0), some (.int v2)]) dX7_inner_33 (by decide) rfl ?_
  refine V_inc (ls' := [some (.ref h), some (.int t0), some (.int (v2 + (1 : Int32)))]) dX7_inner_34 rfl kc_1 (by decide) rfl ?_
  refine V_goto (tgt := 4) dX7_inner_37 (by decide) ?_
  exact hk4 t0 (v2 + (1 : Int32)) hf
set_option maxHeartbeats 4000000 in
theorem mM_inner_4_v {X : CX} {w0 : AH} {z : ZZ} {h : Nat} {r : Int32} (σ : SM) (hE : XE X w0 1 (some .int) "inner" (.returned (some (.int r))) (wM z h σ)) (k4 : Int32 → Int32 → Option (Int32)) (hk4 : ∀ (v1 : Int32) (v2 : Int32), k4 v1 v2 = some r → V X cX7_inner RX7 3 1 (wM z h σ) 4 [some (.ref h), some (.int v1), some (.int v2)] []) (v1 : Int32) (v2 : Int32) (hf : mM_inner_4 σ k4 v1 v2 = some r) : V X cX7_inner RX7 3 1 (wM z h σ) 4 [some (.ref h), some (.int v1), some (.int v2)] [] := by
  unfold mM_inner_4 at hf
  refine V_iload_n dX7_inner_4 rfl ?_
  refine V_aload_n dX7_inner_5 rfl ?_
  refine VM_getI fX7_268 rfl dX7_inner_6 ?_
  refine V_icmp_ge (tgt := 40) dX7_inner_9 (by decide) (fun hc1 => ?_) (fun hc1 => ?_)
  · have hf := if_t hf hc1
    refine V_iload_n dX7_inner_40 rfl ?_
    cases some_ex hf
    exact V_iret hE dX7_inner_41
  · have hf := if_f hf hc1
    refine V_aload_n dX7_inner_12 rfl ?_
    refine VM_getR fX7_43 ⟨rfl, rfl⟩ rfl dX7_inner_13 ?_
    refine V_iload_n dX7_inner_16 rfl ?_
    obtain ⟨hb2, hf⟩ := ck_ex hf
    refine VM_ldI (n := 400) (k := v2.toNatClampNeg) rfl hb2 rfl dX7_inner_17 ?_
    refine V_bipush dX7_inner_18 kb_30 ?_
    refine V_icmp_lt (tgt := 32) dX7_inner_20 (by decide) (fun hc3 => ?_) (fun hc3 => ?_)
    · have hf := if_t hf hc3
      refine V_iload_n dX7_inner_32 rfl ?_
      refine V_keep [true, false, true] rfl ?_
      exact mM_inner_33_v σ hE k4 hk4 v2 v1 hf
    · have hf := if_f hf hc3
      refine V_aload_n dX7_inner_23 rfl ?_
      refine VM_getR fX7_43 ⟨rfl, rfl⟩ rfl dX7_inner_24 ?_
      refine V_iload_n dX7_inner_27 rfl ?_
      obtain ⟨hb4, hf⟩ := ck_ex hf
      refine VM_ldI (n := 400) (k := v2.toNatClampNeg) rfl hb4 rfl dX7_inner_28 ?_
      refine V_goto (tgt := 33) dX7_inner_29 (by decide) ?_
      refine V_keep [true, false, true] rfl ?_
      exact mM_inner_33_v σ hE k4 hk4 v2 (gI σ 10 (v2.toNatClampNeg)) hf
set_option maxHeartbeats 4000000 in
theorem mM_inner_ok (l : Launch) (D : DD) (z : ZZ) (h : Nat) (σ : SM) (r : Int32) (hf : mM_inner  σ = some r) : MA l D yX7_inner cX7_inner 3 (some .int) 1 [.ref h] (wM z h σ) (.returned (some (.int r))) (wM z h σ) := by
  refine MA.intro (own := RX7) (nm := "inner") (ls := [some (.ref h), none, none]) (by decide) rfl rfl (Nat.le_of_ble_eq_true rfl) rfl (fun X hl hD hE => ?_)
  subst hl hD
  unfold mM_inner at hf
  refine V_iconst dX7_inner_0 kc_m1 ?_
  refine V_istore_n (ls' := [some (.ref h), some (.int (-1 : Int32)), none]) dX7_inner_1 (by decide) rfl ?_
  refine V_iconst dX7_inner_2 kc_0 ?_
  refine V_istore_n (ls' := [some (.ref h), some (.int (-1 : Int32)), some (.int (0 : Int32))]) dX7_inner_3 (by decide) rfl ?_
  exact lq2_ex (P := fun v1 v2 => V X cX7_inner RX7 3 1 (wM z h σ) 4 [some (.ref h), some (.int v1), some (.int v2)] []) (fun k hk v1 v2 hf => mM_inner_4_v σ hE k hk v1 v2 hf) LF (-1 : Int32) (0 : Int32) hf
set_option maxHeartbeats 4000000 in
theorem mM_isCompared_36_v {X : CX} {w0 : AH} {z : ZZ} {h : Nat} {r : Int32} (σ : SM) (hE : XE X w0 2 (some .boolean) "isCompared" (.returned (some (.int r))) (wM z h σ)) (v1 : Int32) (hf : mM_isCompared_36 σ v1 = some r) : V X cX7_isCompared RX7 2 2 (wM z h σ) 36 [some (.ref h), some (.int v1)] [] := by
  unfold mM_isCompared_36 at hf
  refine V_iload_n dX7_isCompared_36 rfl ?_
  refine V_if_lt (tgt := 63) dX7_isCompared_37 (by decide) (fun hc1 => ?_) (fun hc1 => ?_)
  · have hf := if_t hf hc1
    refine V_iconst dX7_isCompared_63 kc_0 ?_
    cases some_ex hf
    exact V_zret hE (by decide) dX7_isCompared_64
  · have hf := if_f hf hc1
    refine V_aload_n dX7_isCompared_40 rfl ?_
    refine VM_getR fX7_43 ⟨rfl, rfl⟩ rfl dX7_isCompared_41 ?_
    refine V_iload_n dX7_isCompared_44 rfl ?_
    obtain ⟨hb2, hf⟩ := ck_ex hf
    refine VM_ldI (n := 400) (k := v1.toNatClampNeg) rfl hb2 rfl dX7_isCompared_45 ?_
    refine V_i2l dX7_isCompared_46 ?_
    refine V_ldc2 q2272 dX7_isCompared_47 ?_
    refine V_ldc2 q2273 dX7_isCompared_50 ?_
    obtain ⟨r4, hc3, hf⟩ := bd1_ex hf
    refine V_cS (rest := []) (st' := [.int r4]) (mM_in_ok _ _ _ _ _ _ _ hc3) scX7_121 (by decide) rfl rfl (Nat.le_of_ble_eq_true rfl) dX7_isCompared_53 rfl ?_
    refine V_if_eq (tgt := 63) dX7_isCompared_56 (by decide) (fun hc5 => ?_) (fun hc5 => ?_)
    · have hf := if_t hf hc5
      refine V_iconst dX7_isCompared_63 kc_0 ?_
      cases some_ex hf
      exact V_zret hE (by decide) dX7_isCompared_64
    · have hf := if_f hf hc5
      refine V_iconst dX7_isCompared_59 kc_1 ?_
      refine V_goto (tgt := 64) dX7_isCompared_60 (by decide) ?_
      cases some_ex hf
      exact V_zret hE (by decide) dX7_isCompared_64
set_option maxHeartbeats 4000000 in
theorem mM_isCompared_7_v {X : CX} {w0 : AH} {z : ZZ} {h : Nat} {r : Int32} (σ : SM) (hE : XE X w0 2 (some .boolean) "isCompared" (.returned (some (.int r))) (wM z h σ)) (k7 : Int32 → Option (Int32)) (hk7 : ∀ (v1 : Int32), k7 v1 = some r → V X cX7_isCompared RX7 2 2 (wM z h σ) 7 [some (.ref h), some (.int v1)] []) (v1 : Int32) (hf : mM_isCompared_7 σ k7 v1 = some r) : V X cX7_isCompared RX7 2 2 (wM z h σ) 7 [some (.ref h), some (.int v1)] [] := by
  unfold mM_isCompared_7 at hf
  refine V_iload_n dX7_isCompared_7 rfl ?_
  refine V_if_lt (tgt := 36) dX7_isCompared_8 (by decide) (fun hc1 => ?_) (fun hc1 => ?_)
  · have hf := if_t hf hc1
    exact mM_isCompared_36_v σ hE v1 hf
  · have hf := if_f hf hc1
    refine V_aload_n dX7_isCompared_11 rfl ?_
    refine VM_getR fX7_43 ⟨rfl, rfl⟩ rfl dX7_isCompared_12 ?_
    refine V_iload_n dX7_isCompared_15 rfl ?_
    obtain ⟨hb2, hf⟩ := ck_ex hf
    refine VM_ldI (n := 400) (k := v1.toNatClampNeg) rfl hb2 rfl dX7_isCompared_16 ?_
    refine V_i2l dX7_isCompared_17 ?_
    refine V_ldc2 q2270 dX7_isCompared_18 ?_
    refine V_ldc2 q2271 dX7_isCompared_21 ?_
    obtain ⟨r4, hc3, hf⟩ := bd1_ex hf
    refine V_cS (rest := []) (st' := [.int r4]) (mM_in_ok _ _ _ _ _ _ _ hc3) scX7_121 (by decide) rfl rfl (Nat.le_of_ble_eq_true rfl) dX7_isCompared_24 rfl ?_
    refine V_if_eq (tgt := 36) dX7_isCompared_27 (by decide) (fun hc5 => ?_) (fun hc5 => ?_)
    · have hf := if_t hf hc5
      exact mM_isCompared_36_v σ hE v1 hf
    · have hf := if_f hf hc5
      refine V_inc (ls' := [some (.ref h), some (.int (v1 + (-1 : Int32)))]) dX7_isCompared_30 rfl kc_m1 (by decide) rfl ?_
      refine V_goto (tgt := 7) dX7_isCompared_33 (by decide) ?_
      exact hk7 (v1 + (-1 : Int32)) hf
set_option maxHeartbeats 4000000 in
theorem mM_isCompared_ok (l : Launch) (D : DD) (z : ZZ) (h : Nat) (σ : SM) (r : Int32) (hf : mM_isCompared  σ = some r) : MA l D yX7_isCompared cX7_isCompared 2 (some .boolean) 2 [.ref h] (wM z h σ) (.returned (some (.int r))) (wM z h σ) := by
  refine MA.intro (own := RX7) (nm := "isCompared") (ls := [some (.ref h), none]) (by decide) rfl rfl (Nat.le_of_ble_eq_true rfl) rfl (fun X hl hD hE => ?_)
  subst hl hD
  unfold mM_isCompared at hf
  refine V_aload_n dX7_isCompared_0 rfl ?_
  refine VM_getI fX7_268 rfl dX7_isCompared_1 ?_
  refine V_iconst dX7_isCompared_4 kc_1 ?_
  refine V_isub dX7_isCompared_5 ?_
  refine V_istore_n (ls' := [some (.ref h), some (.int ((gI σ 0 25) - (1 : Int32)))]) dX7_isCompared_6 (by decide) rfl ?_
  exact lq1_ex (P := fun v1 => V X cX7_isCompared RX7 2 2 (wM z h σ) 7 [some (.ref h), some (.int v1)] []) (fun k hk v1 hf => mM_isCompared_7_v σ hE k hk v1 hf) LF ((gI σ 0 25) - (1 : Int32)) hf
set_option maxHeartbeats 4000000 in
theorem mM_behindSum_210_v {X : CX} {w0 : AH} {z : ZZ} {h : Nat} {r : Int32} {σ' : SM} (hE : XE X w0 4 (some .int) "behindSum" (.returned (some (.int r))) (wM z h σ')) (v2 : Int32) (t0 : Int32) (σ : SM) (hf : mM_behindSum_210 v2 t0 σ = some (r, σ')) : V X cX7_behindSum RX7 4 4 (wM z h σ) 210 [some (.ref h), none, some (.int v2), none] [.int t0, .ref h] := by
  unfold mM_behindSum_210 at hf
  obtain ⟨σ2, hc1, hf⟩ := bd1_ex hf
  refine V_cV (av := [.int t0]) (rest := []) (st' := []) (mM_must_ok _ _ _ _ _ _ _ hc1) vcX7_261 (wM_k0 _ _ _) (by decide) rfl rfl (Nat.le_of_ble_eq_true rfl) dX7_behindSum_210 rfl ?_
  refine V_aload_n dX7_behindSum_213 rfl ?_
  refine VM_getI fX7_226 rfl dX7_behindSum_214 ?_
  refine V_if_ne (tgt := 231) dX7_behindSum_217 (by decide) (fun hc3 => ?_) (fun hc3 => ?_)
  · have hf := if_f hf hc3
    refine V_iconst dX7_behindSum_231 kc_1 ?_
    cases some_ex hf
    exact V_iret hE dX7_behindSum_232
  · have hf := if_t hf hc3
    refine V_aload_n dX7_behindSum_220 rfl ?_
    refine V_iconst dX7_behindSum_221 kc_5 ?_
    obtain ⟨σ5, hc4, hf⟩ := bd1_ex hf
    refine V_cV (av := [.int (5 : Int32)]) (rest := []) (st' := []) (mM_settle_ok _ _ _ _ _ _ _ hc4) vcX7_354 (wM_k0 _ _ _) (by decide) rfl rfl (Nat.le_of_ble_eq_true rfl) dX7_behindSum_222 rfl ?_
    refine V_aload_n dX7_behindSum_225 rfl ?_
    refine V_iload_n dX7_behindSum_226 rfl ?_
    refine V_iconst dX7_behindSum_227 kc_0 ?_
    obtain ⟨σ7, hc6, hf⟩ := bd1_ex hf
    refine V_cV (av := [.int v2, .int (0 : Int32)]) (rest := []) (st' := []) (mM_push_ok _ _ _ _ _ _ _ _ hc6) vcX7_324 (wM_k0 _ _ _) (by decide) rfl rfl (Nat.le_of_ble_eq_true rfl) dX7_behindSum_228 rfl ?_
    refine V_iconst dX7_behindSum_231 kc_1 ?_
    cases some_ex hf
    exact V_iret hE dX7_behindSum_232
set_option maxHeartbeats 4000000 in
theorem mM_behindSum_205_v {X : CX} {w0 : AH} {z : ZZ} {h : Nat} {r : Int32} {σ' : SM} (hE : XE X w0 4 (some .int) "behindSum" (.returned (some (.int r))) (wM z h σ')) (v2 : Int32) (σ : SM) (hf : mM_behindSum_205 v2 σ = some (r, σ')) : V X cX7_behindSum RX7 4 4 (wM z h σ) 205 [some (.ref h), none, some (.int v2), none] [.ref h] := by
  unfold mM_behindSum_205 at hf
  refine V_iconst dX7_behindSum_205 kc_1 ?_
  refine V_goto (tgt := 210) dX7_behindSum_206 (by decide) ?_
  exact mM_behindSum_210_v hE v2 (1 : Int32) σ hf
set_option maxHeartbeats 4000000 in
theorem mM_behindSum_188_v {X : CX} {w0 : AH} {z : ZZ} {h : Nat} {r : Int32} {σ' : SM} (hE : XE X w0 4 (some .int) "behindSum" (.returned (some (.int r))) (wM z h σ')) (t0 : Int32) (σ : SM) (hf : mM_behindSum_188 t0 σ = some (r, σ')) : V X cX7_behindSum RX7 4 4 (wM z h σ) 188 [some (.ref h), none, none, none] [.int t0] := by
  unfold mM_behindSum_188 at hf
  refine V_istore_n (ls' := [some (.ref h), none, some (.int t0), none]) dX7_behindSum_188 (by decide) rfl ?_
  refine V_aload_n dX7_behindSum_189 rfl ?_
  refine V_iload_n dX7_behindSum_190 rfl ?_
  refine V_bipush dX7_behindSum_191 kb_26 ?_
  refine V_icmp_ne (tgt := 205) dX7_behindSum_193 (by decide) (fun hc1 => ?_) (fun hc1 => ?_)
  · have hf := if_f hf hc1
    exact mM_behindSum_205_v hE t0 σ hf
  · have hf := if_t hf hc1
    refine V_aload_n dX7_behindSum_196 rfl ?_
    refine V_bipush dX7_behindSum_197 kb_61 ?_
    obtain ⟨r3, hc2, hf⟩ := bd1_ex hf
    refine V_cV (av := [.int (61 : Int32)]) (rest := [.ref h]) (st' := [.int r3, .ref h]) (mM_isSign_ok _ _ _ _ _ _ _ hc2) vcX7_330 (wM_k0 _ _ _) (by decide) rfl rfl (Nat.le_of_ble_eq_true rfl) dX7_behindSum_199 rfl ?_
    refine V_if_eq (tgt := 209) dX7_behindSum_202 (by decide) (fun hc4 => ?_) (fun hc4 => ?_)
    · have hf := if_t hf hc4
      refine V_iconst dX7_behindSum_209 kc_0 ?_
      exact mM_behindSum_210_v hE t0 (0 : Int32) σ hf
    · have hf := if_f hf hc4
      exact mM_behindSum_205_v hE t0 σ hf
set_option maxHeartbeats 4000000 in
theorem mM_behindSum_149_v {X : CX} {w0 : AH} {z : ZZ} {h : Nat} {r : Int32} {σ' : SM} (hE : XE X w0 4 (some .int) "behindSum" (.returned (some (.int r))) (wM z h σ')) (σ : SM) (hf : mM_behindSum_149 σ = some (r, σ')) : V X cX7_behindSum RX7 4 4 (wM z h σ) 149 [some (.ref h), none, none, none] [] := by
  unfold mM_behindSum_149 at hf
  refine V_aload_n dX7_behindSum_149 rfl ?_
  obtain ⟨r2, hc1, hf⟩ := bd1_ex hf
  refine V_cV (av := []) (rest := []) (st' := [.int r2]) (mM_isCompared_ok _ _ _ _ _ _ hc1) vcX7_360 (wM_k0 _ _ _) (by decide) rfl rfl (Nat.le_of_ble_eq_true rfl) dX7_behindSum_150 rfl ?_
  refine V_if_eq (tgt := 158) dX7_behindSum_153 (by decide) (fun hc3 => ?_) (fun hc3 => ?_)
  · have hf := if_t hf hc3
    refine V_aload_n dX7_behindSum_158 rfl ?_
    refine V_bipush dX7_behindSum_159 kb_60 ?_
    obtain ⟨r5, hc4, hf⟩ := bd1_ex hf
    refine V_cV (av := [.int (60 : Int32)]) (rest := []) (st' := [.int r5]) (mM_isSign_ok _ _ _ _ _ _ _ hc4) vcX7_330 (wM_k0 _ _ _) (by decide) rfl rfl (Nat.le_of_ble_eq_true rfl) dX7_behindSum_161 rfl ?_
    refine V_if_eq (tgt := 172) dX7_behindSum_164 (by decide) (fun hc6 => ?_) (fun hc6 => ?_)
    · have hf := if_t hf hc6
      refine V_aload_n dX7_behindSum_172 rfl ?_
      refine V_bipush dX7_behindSum_173 kb_62 ?_
      obtain ⟨r8, hc7, hf⟩ := bd1_ex hf
      refine V_cV (av := [.int (62 : Int32)]) (rest := []) (st' := [.int r8]) (mM_isSign_ok _ _ _ _ _ _ _ hc7) vcX7_330 (wM_k0 _ _ _) (by decide) rfl rfl (Nat.le_of_ble_eq_true rfl) dX7_behindSum_175 rfl ?_
      refine V_if_eq (tgt := 186) dX7_behindSum_178 (by decide) (fun hc9 => ?_) (fun hc9 => ?_)
      · have hf := if_t hf hc9
        refine V_bipush dX7_behindSum_186 kb_26 ?_
        exact mM_behindSum_188_v hE (26 : Int32) σ hf
      · have hf := if_f hf hc9
        refine V_bipush dX7_behindSum_181 kb_25 ?_
        refine V_goto (tgt := 188) dX7_behindSum_183 (by decide) ?_
        exact mM_behindSum_188_v hE (25 : Int32) σ hf
    · have hf := if_f hf hc6
      refine V_bipush dX7_behindSum_167 kb_24 ?_
      refine V_goto (tgt := 188) dX7_behindSum_169 (by decide) ?_
      exact mM_behindSum_188_v hE (24 : Int32) σ hf
  · have hf := if_f hf hc3
    refine V_iconst dX7_behindSum_156 kc_2 ?_
    cases some_ex hf
    exact V_iret hE dX7_behindSum_157
set_option maxHeartbeats 4000000 in
theorem mM_behindSum_57_v {X : CX} {w0 : AH} {z : ZZ} {h : Nat} {r : Int32} {σ' : SM} (hE : XE X w0 4 (some .int) "behindSum" (.returned (some (.int r))) (wM z h σ')) (v1 : Int32) (t0 : Int32) (σ : SM) (hf : mM_behindSum_57 v1 t0 σ = some (r, σ')) : V X cX7_behindSum RX7 4 4 (wM z h σ) 57 [some (.ref h), some (.int v1), none, none] [.int t0] := by
  unfold mM_behindSum_57 at hf
  refine V_istore_n (ls' := [some (.ref h), some (.int v1), some (.int t0), none]) dX7_behindSum_57 (by decide) rfl ?_
  refine V_iload_n dX7_behindSum_58 rfl ?_
  refine V_iconst dX7_behindSum_59 kc_m1 ?_
  refine V_icmp_eq (tgt := 83) dX7_behindSum_60 (by decide) (fun hc1 => ?_) (fun hc1 => ?_)
  · have hf := if_t hf hc1
    refine V_aload_n dX7_behindSum_83 rfl ?_
    obtain ⟨r3, hc2, hf⟩ := bd1_ex hf
    refine V_cV (av := []) (rest := []) (st' := [.int r3]) (mM_inner_ok _ _ _ _ _ _ hc2) vcX7_357 (wM_k0 _ _ _) (by decide) rfl rfl (Nat.le_of_ble_eq_true rfl) dX7_behindSum_84 rfl ?_
    refine V_istore_n (ls' := [some (.ref h), some (.int v1), some (.int t0), some (.int r3)]) dX7_behindSum_87 (by decide) rfl ?_
    refine V_iload_n dX7_behindSum_88 rfl ?_
    refine V_bipush dX7_behindSum_89 kb_31 ?_
    refine V_icmp_ne (tgt := 138) dX7_behindSum_91 (by decide) (fun hc4 => ?_) (fun hc4 => ?_)
    · have hf := if_f hf hc4
      refine V_iload_n dX7_behindSum_138 rfl ?_
      refine V_iconst dX7_behindSum_139 kc_m1 ?_
      refine V_icmp_ne (tgt := 149) dX7_behindSum_140 (by decide) (fun hc5 => ?_) (fun hc5 => ?_)
      · have hf := if_f hf hc5
        refine V_keep [true, false, false, false] rfl ?_
        exact mM_behindSum_149_v hE σ hf
      · have hf := if_t hf hc5
        refine V_iload_n dX7_behindSum_143 rfl ?_
        refine V_if_ne (tgt := 149) dX7_behindSum_144 (by decide) (fun hc6 => ?_) (fun hc6 => ?_)
        · have hf := if_f hf hc6
          refine V_keep [true, false, false, false] rfl ?_
          exact mM_behindSum_149_v hE σ hf
        · have hf := if_t hf hc6
          refine V_iconst dX7_behindSum_147 kc_4 ?_
          cases some_ex hf
          exact V_iret hE dX7_behindSum_148
    · have hf := if_t hf hc4
      refine V_aload_n dX7_behindSum_94 rfl ?_
      refine V_aload_n dX7_behindSum_95 rfl ?_
      refine V_bipush dX7_behindSum_96 kb_93 ?_
      obtain ⟨r8, hc7, hf⟩ := bd1_ex hf
      refine V_cV (av := [.int (93 : Int32)]) (rest := [.ref h]) (st' := [.int r8, .ref h]) (mM_isSign_ok _ _ _ _ _ _ _ hc7) vcX7_330 (wM_k0 _ _ _) (by decide) rfl rfl (Nat.le_of_ble_eq_true rfl) dX7_behindSum_98 rfl ?_
      obtain ⟨σ10, hc9, hf⟩ := bd1_ex hf
      refine V_cV (av := [.int r8]) (rest := []) (st' := []) (mM_must_ok _ _ _ _ _ _ _ hc9) vcX7_261 (wM_k0 _ _ _) (by decide) rfl rfl (Nat.le_of_ble_eq_true rfl) dX7_behindSum_101 rfl ?_
      refine V_aload_n dX7_behindSum_104 rfl ?_
      refine VM_getI fX7_226 rfl dX7_behindSum_105 ?_
      refine V_if_ne (tgt := 136) dX7_behindSum_108 (by decide) (fun hc11 => ?_) (fun hc11 => ?_)
      · have hf := if_f hf hc11
        refine V_iconst dX7_behindSum_136 kc_3 ?_
        cases some_ex hf
        exact V_iret hE dX7_behindSum_137
      · have hf := if_t hf hc11
        refine V_aload_n dX7_behindSum_111 rfl ?_
        refine V_iconst dX7_behindSum_112 kc_5 ?_
        obtain ⟨σ13, hc12, hf⟩ := bd1_ex hf
        refine V_cV (av := [.int (5 : Int32)]) (rest := []) (st' := []) (mM_settle_ok _ _ _ _ _ _ _ hc12) vcX7_354 (wM_k0 _ _ _) (by decide) rfl rfl (Nat.le_of_ble_eq_true rfl) dX7_behindSum_113 rfl ?_
        refine V_aload_n dX7_behindSum_116 rfl ?_
        refine V_dup dX7_behindSum_117 rfl ?_
        refine VM_getI fX7_268 rfl dX7_behindSum_118 ?_
        refine V_iconst dX7_behindSum_121 kc_1 ?_
        refine V_isub dX7_behindSum_122 ?_
        obtain ⟨σ14, hs15, hf⟩ := st1_ex hf
        refine VM_putI fwX7_268 hs15 dX7_behindSum_123 ?_
        refine V_aload_n dX7_behindSum_126 rfl ?_
        refine V_dup dX7_behindSum_127 rfl ?_
        refine VM_getI fX7_321 rfl dX7_behindSum_128 ?_
        refine V_iconst dX7_behindSum_131 kc_1 ?_
        refine V_isub dX7_behindSum_132 ?_
        obtain ⟨σ16, hs17, hf⟩ := st1_ex hf
        refine VM_putI fwX7_321 hs17 dX7_behindSum_133 ?_
        refine V_iconst dX7_behindSum_136 kc_3 ?_
        cases some_ex hf
        exact V_iret hE dX7_behindSum_137
  · have hf := if_f hf hc1
    refine V_aload_n dX7_behindSum_63 rfl ?_
    refine V_iload_n dX7_behindSum_64 rfl ?_
    obtain ⟨r19, hc18, hf⟩ := bd1_ex hf
    refine V_cS (rest := [.ref h]) (st' := [.int r19, .ref h]) (mM_binds_ok _ _ _ _ _ hc18) scX7_271 (by decide) rfl rfl (Nat.le_of_ble_eq_true rfl) dX7_behindSum_65 rfl ?_
    obtain ⟨σ21, hc20, hf⟩ := bd1_ex hf
    refine V_cV (av := [.int r19]) (rest := []) (st' := []) (mM_settle_ok _ _ _ _ _ _ _ hc20) vcX7_354 (wM_k0 _ _ _) (by decide) rfl rfl (Nat.le_of_ble_eq_true rfl) dX7_behindSum_68 rfl ?_
    refine V_aload_n dX7_behindSum_71 rfl ?_
    refine V_iload_n dX7_behindSum_72 rfl ?_
    refine V_iconst dX7_behindSum_73 kc_0 ?_
    obtain ⟨σ23, hc22, hf⟩ := bd1_ex hf
    refine V_cV (av := [.int t0, .int (0 : Int32)]) (rest := []) (st' := []) (mM_push_ok _ _ _ _ _ _ _ _ hc22) vcX7_324 (wM_k0 _ _ _) (by decide) rfl rfl (Nat.le_of_ble_eq_true rfl) dX7_behindSum_74 rfl ?_
    refine V_aload_n dX7_behindSum_77 rfl ?_
    obtain ⟨σ25, hc24, hf⟩ := bd1_ex hf
    refine V_cV (av := []) (rest := []) (st' := []) (mM_next_ok _ _ _ _ _ _ hc24) vcX7_230 (wM_k0 _ _ _) (by decide) rfl rfl (Nat.le_of_ble_eq_true rfl) dX7_behindSum_78 rfl ?_
    refine V_iconst dX7_behindSum_81 kc_1 ?_
    cases some_ex hf
    exact V_iret hE dX7_behindSum_82
set_option maxHeartbeats 4000000 in
theorem mM_behindSum_ok (l : Launch) (D : DD) (z : ZZ) (h : Nat) (p0 : Int32) (σ : SM) (r : Int32) (σ' : SM) (hf : mM_behindSum p0 σ = some (r, σ')) : MA l D yX7_behindSum cX7_behindSum 4 (some .int) 4 [.ref h, .int p0] (wM z h σ) (.returned (some (.int r))) (wM z h σ') := by
  refine MA.intro (own := RX7) (nm := "behindSum") (ls := [some (.ref h), some (.int p0), none, none]) (by decide) rfl rfl (Nat.le_of_ble_eq_true rfl) rfl (fun X hl hD hE => ?_)
  subst hl hD
  unfold mM_behindSum at hf
  refine V_aload_n dX7_behindSum_0 rfl ?_
  refine V_bipush dX7_behindSum_1 kb_43 ?_
  obtain ⟨r2, hc1, hf⟩ := bd1_ex hf
  refine V_cV (av := [.int (43 : Int32)]) (rest := []) (st' := [.int r2]) (mM_isSign_ok _ _ _ _ _ _ _ hc1) vcX7_330 (wM_k0 _ _ _) (by decide) rfl rfl (Nat.le_of_ble_eq_true rfl) dX7_behindSum_3 rfl ?_
  refine V_if_eq (tgt := 14) dX7_behindSum_6 (by decide) (fun hc3 => ?_) (fun hc3 => ?_)
  · have hf := if_t hf hc3
    refine V_aload_n dX7_behindSum_14 rfl ?_
    refine V_bipush dX7_behindSum_15 kb_45 ?_
    obtain ⟨r5, hc4, hf⟩ := bd1_ex hf
    refine V_cV (av := [.int (45 : Int32)]) (rest := []) (st' := [.int r5]) (mM_isSign_ok _ _ _ _ _ _ _ hc4) vcX7_330 (wM_k0 _ _ _) (by decide) rfl rfl (Nat.le_of_ble_eq_true rfl) dX7_behindSum_17 rfl ?_
    refine V_if_eq (tgt := 28) dX7_behindSum_20 (by decide) (fun hc6 => ?_) (fun hc6 => ?_)
    · have hf := if_t hf hc6
      refine V_aload_n dX7_behindSum_28 rfl ?_
      refine V_bipush dX7_behindSum_29 kb_42 ?_
      obtain ⟨r8, hc7, hf⟩ := bd1_ex hf
      refine V_cV (av := [.int (42 : Int32)]) (rest := []) (st' := [.int r8]) (mM_isSign_ok _ _ _ _ _ _ _ hc7) vcX7_330 (wM_k0 _ _ _) (by decide) rfl rfl (Nat.le_of_ble_eq_true rfl) dX7_behindSum_31 rfl ?_
      refine V_if_eq (tgt := 42) dX7_behindSum_34 (by decide) (fun hc9 => ?_) (fun hc9 => ?_)
      · have hf := if_t hf hc9
        refine V_aload_n dX7_behindSum_42 rfl ?_
        refine V_bipush dX7_behindSum_43 kb_47 ?_
        obtain ⟨r11, hc10, hf⟩ := bd1_ex hf
        refine V_cV (av := [.int (47 : Int32)]) (rest := []) (st' := [.int r11]) (mM_isSign_ok _ _ _ _ _ _ _ hc10) vcX7_330 (wM_k0 _ _ _) (by decide) rfl rfl (Nat.le_of_ble_eq_true rfl) dX7_behindSum_45 rfl ?_
        refine V_if_eq (tgt := 56) dX7_behindSum_48 (by decide) (fun hc12 => ?_) (fun hc12 => ?_)
        · have hf := if_t hf hc12
          refine V_iconst dX7_behindSum_56 kc_m1 ?_
          exact mM_behindSum_57_v hE p0 (-1 : Int32) σ hf
        · have hf := if_f hf hc12
          refine V_bipush dX7_behindSum_51 kb_23 ?_
          refine V_goto (tgt := 57) dX7_behindSum_53 (by decide) ?_
          exact mM_behindSum_57_v hE p0 (23 : Int32) σ hf
      · have hf := if_f hf hc9
        refine V_bipush dX7_behindSum_37 kb_22 ?_
        refine V_goto (tgt := 57) dX7_behindSum_39 (by decide) ?_
        exact mM_behindSum_57_v hE p0 (22 : Int32) σ hf
    · have hf := if_f hf hc6
      refine V_bipush dX7_behindSum_23 kb_21 ?_
      refine V_goto (tgt := 57) dX7_behindSum_25 (by decide) ?_
      exact mM_behindSum_57_v hE p0 (21 : Int32) σ hf
  · have hf := if_f hf hc3
    refine V_bipush dX7_behindSum_9 kb_20 ?_
    refine V_goto (tgt := 57) dX7_behindSum_11 (by decide) ?_
    exact mM_behindSum_57_v hE p0 (20 : Int32) σ hf
set_option maxHeartbeats 4000000 in
theorem mM_behindTest_66_v {X : CX} {w0 : AH} {z : ZZ} {h : Nat} {r : Int32} {σ' : SM} (hE : XE X w0 4 (some .int) "behindTest" (.returned (some (.int r))) (wM z h σ')) (t0 : Int32) (σ : SM) (hf : mM_behindTest_66 t0 σ = some (r, σ')) : V X cX7_behindTest RX7 2 4 (wM z h σ) 66 [some (.ref h), none] [.int t0, .ref h] := by
  unfold mM_behindTest_66 at hf
  refine V_iconst dX7_behindTest_66 kc_0 ?_
  obtain ⟨σ2, hc1, hf⟩ := bd1_ex hf
  refine V_cV (av := [.int t0, .int (0 : Int32)]) (rest := []) (st' := []) (mM_emit_ok _ _ _ _ _ _ _ _ hc1) vcX7_274 (wM_k0 _ _ _) (by decide) rfl rfl (Nat.le_of_ble_eq_true rfl) dX7_behindTest_67 rfl ?_
  refine V_aload_n dX7_behindTest_70 rfl ?_
  obtain ⟨σ4, hc3, hf⟩ := bd1_ex hf
  refine V_cV (av := []) (rest := []) (st' := []) (mM_next_ok _ _ _ _ _ _ hc3) vcX7_230 (wM_k0 _ _ _) (by decide) rfl rfl (Nat.le_of_ble_eq_true rfl) dX7_behindTest_71 rfl ?_
  refine V_iconst dX7_behindTest_74 kc_0 ?_
  cases some_ex hf
  exact V_iret hE dX7_behindTest_75
set_option maxHeartbeats 4000000 in
theorem mM_behindTest_47_v {X : CX} {w0 : AH} {z : ZZ} {h : Nat} {r : Int32} {σ' : SM} (hE : XE X w0 4 (some .int) "behindTest" (.returned (some (.int r))) (wM z h σ')) (v1 : Int32) (t0 : Int32) (σ : SM) (hf : mM_behindTest_47 v1 t0 σ = some (r, σ')) : V X cX7_behindTest RX7 2 4 (wM z h σ) 47 [some (.ref h), some (.int v1)] [.int t0, .ref h] := by
  unfold mM_behindTest_47 at hf
  refine V_aload_n dX7_behindTest_47 rfl ?_
  refine VM_getI fX7_265 rfl dX7_behindTest_48 ?_
  obtain ⟨σ2, hc1, hf⟩ := bd1_ex hf
  refine V_cV (av := [.int t0, .int (gI σ 0 19)]) (rest := []) (st' := []) (mM_push_ok _ _ _ _ _ _ _ _ hc1) vcX7_324 (wM_k0 _ _ _) (by decide) rfl rfl (Nat.le_of_ble_eq_true rfl) dX7_behindTest_51 rfl ?_
  refine V_aload_n dX7_behindTest_54 rfl ?_
  refine V_iload_n dX7_behindTest_55 rfl ?_
  refine V_if_eq (tgt := 64) dX7_behindTest_56 (by decide) (fun hc3 => ?_) (fun hc3 => ?_)
  · have hf := if_t hf hc3
    refine V_bipush dX7_behindTest_64 kb_29 ?_
    refine V_keep [true, false] rfl ?_
    exact mM_behindTest_66_v hE (29 : Int32) σ2 hf
  · have hf := if_f hf hc3
    refine V_bipush dX7_behindTest_59 kb_28 ?_
    refine V_goto (tgt := 66) dX7_behindTest_61 (by decide) ?_
    refine V_keep [true, false] rfl ?_
    exact mM_behindTest_66_v hE (28 : Int32) σ2 hf
set_option maxHeartbeats 4000000 in
theorem mM_behindTest_32_v {X : CX} {w0 : AH} {z : ZZ} {h : Nat} {r : Int32} {σ' : SM} (hE : XE X w0 4 (some .int) "behindTest" (.returned (some (.int r))) (wM z h σ')) (v1 : Int32) (t0 : Int32) (σ : SM) (hf : mM_behindTest_32 v1 t0 σ = some (r, σ')) : V X cX7_behindTest RX7 2 4 (wM z h σ) 32 [some (.ref h), some (.int v1)] [.int t0, .ref h] := by
  unfold mM_behindTest_32 at hf
  obtain ⟨σ2, hc1, hf⟩ := bd1_ex hf
  refine V_cV (av := [.int t0]) (rest := []) (st' := []) (mM_settle_ok _ _ _ _ _ _ _ hc1) vcX7_354 (wM_k0 _ _ _) (by decide) rfl rfl (Nat.le_of_ble_eq_true rfl) dX7_behindTest_32 rfl ?_
  refine V_aload_n dX7_behindTest_35 rfl ?_
  refine V_iload_n dX7_behindTest_36 rfl ?_
  refine V_if_eq (tgt := 45) dX7_behindTest_37 (by decide) (fun hc3 => ?_) (fun hc3 => ?_)
  · have hf := if_t hf hc3
    refine V_bipush dX7_behindTest_45 kb_29 ?_
    exact mM_behindTest_47_v hE v1 (29 : Int32) σ2 hf
  · have hf := if_f hf hc3
    refine V_bipush dX7_behindTest_40 kb_28 ?_
    refine V_goto (tgt := 47) dX7_behindTest_42 (by decide) ?_
    exact mM_behindTest_47_v hE v1 (28 : Int32) σ2 hf
set_option maxHeartbeats 4000000 in
theorem mM_behindTest_22_v {X : CX} {w0 : AH} {z : ZZ} {h : Nat} {r : Int32} {σ' : SM} (hE : XE X w0 4 (some .int) "behindTest" (.returned (some (.int r))) (wM z h σ')) (v1 : Int32) (σ : SM) (hf : mM_behindTest_22 v1 σ = some (r, σ')) : V X cX7_behindTest RX7 2 4 (wM z h σ) 22 [some (.ref h), some (.int v1)] [] := by
  unfold mM_behindTest_22 at hf
  refine V_aload_n dX7_behindTest_22 rfl ?_
  refine V_iload_n dX7_behindTest_23 rfl ?_
  refine V_if_eq (tgt := 31) dX7_behindTest_24 (by decide) (fun hc1 => ?_) (fun hc1 => ?_)
  · have hf := if_t hf hc1
    refine V_iconst dX7_behindTest_31 kc_1 ?_
    exact mM_behindTest_32_v hE v1 (1 : Int32) σ hf
  · have hf := if_f hf hc1
    refine V_iconst dX7_behindTest_27 kc_2 ?_
    refine V_goto (tgt := 32) dX7_behindTest_28 (by decide) ?_
    exact mM_behindTest_32_v hE v1 (2 : Int32) σ hf
set_option maxHeartbeats 4000000 in
theorem mM_behindTest_ok (l : Launch) (D : DD) (z : ZZ) (h : Nat) (σ : SM) (r : Int32) (σ' : SM) (hf : mM_behindTest  σ = some (r, σ')) : MA l D yX7_behindTest cX7_behindTest 2 (some .int) 4 [.ref h] (wM z h σ) (.returned (some (.int r))) (wM z h σ') := by
  refine MA.intro (own := RX7) (nm := "behindTest") (ls := [some (.ref h), none]) (by decide) rfl rfl (Nat.le_of_ble_eq_true rfl) rfl (fun X hl hD hE => ?_)
  subst hl hD
  unfold mM_behindTest at hf
  refine V_aload_n dX7_behindTest_0 rfl ?_
  refine V_ldc2 q2278 dX7_behindTest_1 ?_
  obtain ⟨r2, hc1, hf⟩ := bd1_ex hf
  refine V_cV (av := [.long (1476 : Int64)]) (rest := []) (st' := [.int r2]) (mM_isWord_ok _ _ _ _ _ _ _ hc1) vcX7_287 (wM_k0 _ _ _) (by decide) rfl rfl (Nat.le_of_ble_eq_true rfl) dX7_behindTest_4 rfl ?_
  refine V_istore_n (ls' := [some (.ref h), some (.int r2)]) dX7_behindTest_7 (by decide) rfl ?_
  refine V_iload_n dX7_behindTest_8 rfl ?_
  refine V_if_ne (tgt := 22) dX7_behindTest_9 (by decide) (fun hc3 => ?_) (fun hc3 => ?_)
  · have hf := if_f hf hc3
    exact mM_behindTest_22_v hE r2 σ hf
  · have hf := if_t hf hc3
    refine V_aload_n dX7_behindTest_12 rfl ?_
    refine V_ldc2 q2279 dX7_behindTest_13 ?_
    obtain ⟨r5, hc4, hf⟩ := bd1_ex hf
    refine V_cV (av := [.long (498 : Int64)]) (rest := []) (st' := [.int r5]) (mM_isWord_ok _ _ _ _ _ _ _ hc4) vcX7_287 (wM_k0 _ _ _) (by decide) rfl rfl (Nat.le_of_ble_eq_true rfl) dX7_behindTest_16 rfl ?_
    refine V_if_eq (tgt := 76) dX7_behindTest_19 (by decide) (fun hc6 => ?_) (fun hc6 => ?_)
    · have hf := if_t hf hc6
      refine V_aload_n dX7_behindTest_76 rfl ?_
      obtain ⟨r8, hc7, hf⟩ := bd1_ex hf
      refine V_cV (av := []) (rest := []) (st' := [.int r8]) (mM_inner_ok _ _ _ _ _ _ hc7) vcX7_357 (wM_k0 _ _ _) (by decide) rfl rfl (Nat.le_of_ble_eq_true rfl) dX7_behindTest_77 rfl ?_
      refine V_iconst dX7_behindTest_80 kc_m1 ?_
      refine V_icmp_ne (tgt := 86) dX7_behindTest_81 (by decide) (fun hc9 => ?_) (fun hc9 => ?_)
      · have hf := if_f hf hc9
        refine V_aload_n dX7_behindTest_86 rfl ?_
        refine V_aload_n dX7_behindTest_87 rfl ?_
        refine V_bipush dX7_behindTest_88 kb_41 ?_
        obtain ⟨r11, hc10, hf⟩ := bd1_ex hf
        refine V_cV (av := [.int (41 : Int32)]) (rest := [.ref h]) (st' := [.int r11, .ref h]) (mM_isSign_ok _ _ _ _ _ _ _ hc10) vcX7_330 (wM_k0 _ _ _) (by decide) rfl rfl (Nat.le_of_ble_eq_true rfl) dX7_behindTest_90 rfl ?_
        obtain ⟨σ13, hc12, hf⟩ := bd1_ex hf
        refine V_cV (av := [.int r11]) (rest := []) (st' := []) (mM_must_ok _ _ _ _ _ _ _ hc12) vcX7_261 (wM_k0 _ _ _) (by decide) rfl rfl (Nat.le_of_ble_eq_true rfl) dX7_behindTest_93 rfl ?_
        refine V_aload_n dX7_behindTest_96 rfl ?_
        refine VM_getI fX7_226 rfl dX7_behindTest_97 ?_
        refine V_if_ne (tgt := 128) dX7_behindTest_100 (by decide) (fun hc14 => ?_) (fun hc14 => ?_)
        · have hf := if_f hf hc14
          refine V_iconst dX7_behindTest_128 kc_2 ?_
          cases some_ex hf
          exact V_iret hE dX7_behindTest_129
        · have hf := if_t hf hc14
          refine V_aload_n dX7_behindTest_103 rfl ?_
          refine V_iconst dX7_behindTest_104 kc_1 ?_
          obtain ⟨σ16, hc15, hf⟩ := bd1_ex hf
          refine V_cV (av := [.int (1 : Int32)]) (rest := []) (st' := []) (mM_settle_ok _ _ _ _ _ _ _ hc15) vcX7_354 (wM_k0 _ _ _) (by decide) rfl rfl (Nat.le_of_ble_eq_true rfl) dX7_behindTest_105 rfl ?_
          refine V_aload_n dX7_behindTest_108 rfl ?_
          refine V_dup dX7_behindTest_109 rfl ?_
          refine VM_getI fX7_268 rfl dX7_behindTest_110 ?_
          refine V_iconst dX7_behindTest_113 kc_1 ?_
          refine V_isub dX7_behindTest_114 ?_
          obtain ⟨σ17, hs18, hf⟩ := st1_ex hf
          refine VM_putI fwX7_268 hs18 dX7_behindTest_115 ?_
          refine V_aload_n dX7_behindTest_118 rfl ?_
          refine V_dup dX7_behindTest_119 rfl ?_
          refine VM_getI fX7_321 rfl dX7_behindTest_120 ?_
          refine V_iconst dX7_behindTest_123 kc_1 ?_
          refine V_isub dX7_behindTest_124 ?_
          obtain ⟨σ19, hs20, hf⟩ := st1_ex hf
          refine VM_putI fwX7_321 hs20 dX7_behindTest_125 ?_
          refine V_iconst dX7_behindTest_128 kc_2 ?_
          cases some_ex hf
          exact V_iret hE dX7_behindTest_129
      · have hf := if_t hf hc9
        refine V_iconst dX7_behindTest_84 kc_4 ?_
        cases some_ex hf
        exact V_iret hE dX7_behindTest_85
    · have hf := if_f hf hc6
      exact mM_behindTest_22_v hE r2 σ hf
set_option maxHeartbeats 4000000 in
theorem mM_readExpression_76_v {X : CX} {w0 : AH} {z : ZZ} {h : Nat} {σ' : SM} (hE : XE X w0 7 none "readExpression" (.returned none) (wM z h σ')) (σ : SM) (hf : mM_readExpression_76 σ = some σ') : V X cX7_readExpression RX7 3 7 (wM z h σ) 76 [some (.ref h), none, none] [] := by
  unfold mM_readExpression_76 at hf
  refine V_aload_n dX7_readExpression_76 rfl ?_
  refine V_iconst dX7_readExpression_77 kc_1 ?_
  obtain ⟨σ2, hc1, hf⟩ := bd1_ex hf
  refine V_cV (av := [.int (1 : Int32)]) (rest := []) (st' := []) (mM_settle_ok _ _ _ _ _ _ _ hc1) vcX7_354 (wM_k0 _ _ _) (by decide) rfl rfl (Nat.le_of_ble_eq_true rfl) dX7_readExpression_78 rfl ?_
  cases some_ex hf
  exact V_vret hE dX7_readExpression_81
set_option maxHeartbeats 4000000 in
theorem mM_readExpression_72_v {X : CX} {w0 : AH} {z : ZZ} {h : Nat} {σ' : SM} (hE : XE X w0 7 none "readExpression" (.returned none) (wM z h σ')) (k20 : Int32 → Int32 → SM → Option (SM)) (hk20 : ∀ (v1 : Int32) (v2 : Int32) (σ : SM), k20 v1 v2 σ = some σ' → V X cX7_readExpression RX7 3 7 (wM z h σ) 20 [some (.ref h), some (.int v1), some (.int v2)] []) (v1 : Int32) (t0 : Int32) (σ : SM) (hf : mM_readExpression_72 k20 v1 t0 σ = some σ') : V X cX7_readExpression RX7 3 7 (wM z h σ) 72 [some (.ref h), some (.int v1), none] [.int t0] := by
  unfold mM_readExpression_72 at hf
  refine V_istore_n (ls' := [some (.ref h), some (.int v1), some (.int t0)]) dX7_readExpression_72 (by decide) rfl ?_
  refine V_goto (tgt := 20) dX7_readExpression_73 (by decide) ?_
  exact hk20 v1 t0 σ hf
set_option maxHeartbeats 4000000 in
theorem mM_readExpression_20_v {X : CX} {w0 : AH} {z : ZZ} {h : Nat} {σ' : SM} (hE : XE X w0 7 none "readExpression" (.returned none) (wM z h σ')) (k20 : Int32 → Int32 → SM → Option (SM)) (hk20 : ∀ (v1 : Int32) (v2 : Int32) (σ : SM), k20 v1 v2 σ = some σ' → V X cX7_readExpression RX7 3 7 (wM z h σ) 20 [some (.ref h), some (.int v1), some (.int v2)] []) (v1 : Int32) (v2 : Int32) (σ : SM) (hf : mM_readExpression_20 k20 v1 v2 σ = some σ') : V X cX7_readExpression RX7 3 7 (wM z h σ) 20 [some (.ref h), some (.int v1), some (.int v2)] [] := by
  unfold mM_readExpression_20 at hf
  refine V_aload_n dX7_readExpression_20 rfl ?_
  refine VM_getI fX7_226 rfl dX7_readExpression_21 ?_
  refine V_if_ne (tgt := 76) dX7_readExpression_24 (by decide) (fun hc1 => ?_) (fun hc1 => ?_)
  · have hf := if_f hf hc1
    refine V_keep [true, false, false] rfl ?_
    exact mM_readExpression_76_v hE σ hf
  · have hf := if_t hf hc1
    refine V_iload_n dX7_readExpression_27 rfl ?_
    refine V_iconst dX7_readExpression_28 kc_4 ?_
    refine V_icmp_eq (tgt := 76) dX7_readExpression_29 (by decide) (fun hc2 => ?_) (fun hc2 => ?_)
    · have hf := if_t hf hc2
      refine V_keep [true, false, false] rfl ?_
      exact mM_readExpression_76_v hE σ hf
    · have hf := if_f hf hc2
      refine V_iload_n dX7_readExpression_32 rfl ?_
      refine V_if_ne (tgt := 43) dX7_readExpression_33 (by decide) (fun hc3 => ?_) (fun hc3 => ?_)
      · have hf := if_f hf hc3
        refine V_iload_n dX7_readExpression_43 rfl ?_
        refine V_iconst dX7_readExpression_44 kc_1 ?_
        refine V_icmp_ne (tgt := 55) dX7_readExpression_45 (by decide) (fun hc4 => ?_) (fun hc4 => ?_)
        · have hf := if_f hf hc4
          refine V_iload_n dX7_readExpression_55 rfl ?_
          refine V_iconst dX7_readExpression_56 kc_3 ?_
          refine V_icmp_ne (tgt := 68) dX7_readExpression_57 (by decide) (fun hc5 => ?_) (fun hc5 => ?_)
          · have hf := if_f hf hc5
            refine V_aload_n dX7_readExpression_68 rfl ?_
            obtain ⟨r7, σ8, hc6, hf⟩ := bd2_ex hf
            refine V_cV (av := []) (rest := []) (st' := [.int r7]) (mM_behindTest_ok _ _ _ _ _ _ _ hc6) vcX7_375 (wM_k0 _ _ _) (by decide) rfl rfl (Nat.le_of_ble_eq_true rfl) dX7_readExpression_69 rfl ?_
            refine V_keep [true, true, false] rfl ?_
            exact mM_readExpression_72_v hE k20 hk20 v1 r7 σ8 hf
          · have hf := if_t hf hc5
            refine V_aload_n dX7_readExpression_60 rfl ?_
            refine V_iload_n dX7_readExpression_61 rfl ?_
            obtain ⟨r10, σ11, hc9, hf⟩ := bd2_ex hf
            refine V_cV (av := [.int v1]) (rest := []) (st' := [.int r10]) (mM_behindSum_ok _ _ _ _ _ _ _ _ hc9) vcX7_371 (wM_k0 _ _ _) (by decide) rfl rfl (Nat.le_of_ble_eq_true rfl) dX7_readExpression_62 rfl ?_
            refine V_goto (tgt := 72) dX7_readExpression_65 (by decide) ?_
            refine V_keep [true, true, false] rfl ?_
            exact mM_readExpression_72_v hE k20 hk20 v1 r10 σ11 hf
        · have hf := if_t hf hc4
          refine V_aload_n dX7_readExpression_48 rfl ?_
          obtain ⟨r13, σ14, hc12, hf⟩ := bd2_ex hf
          refine V_cV (av := []) (rest := []) (st' := [.int r13]) (mM_readPart_ok _ _ _ _ _ _ _ hc12) vcX7_351 (wM_k0 _ _ _) (by decide) rfl rfl (Nat.le_of_ble_eq_true rfl) dX7_readExpression_49 rfl ?_
          refine V_goto (tgt := 72) dX7_readExpression_52 (by decide) ?_
          refine V_keep [true, true, false] rfl ?_
          exact mM_readExpression_72_v hE k20 hk20 v1 r13 σ14 hf
      · have hf := if_t hf hc3
        refine V_aload_n dX7_readExpression_36 rfl ?_
        obtain ⟨r16, σ17, hc15, hf⟩ := bd2_ex hf
        refine V_cV (av := []) (rest := []) (st' := [.int r16]) (mM_readPlain_ok _ _ _ _ _ _ _ hc15) vcX7_368 (wM_k0 _ _ _) (by decide) rfl rfl (Nat.le_of_ble_eq_true rfl) dX7_readExpression_37 rfl ?_
        refine V_goto (tgt := 72) dX7_readExpression_40 (by decide) ?_
        refine V_keep [true, true, false] rfl ?_
        exact mM_readExpression_72_v hE k20 hk20 v1 r16 σ17 hf
set_option maxHeartbeats 4000000 in
theorem mM_readExpression_19_v {X : CX} {w0 : AH} {z : ZZ} {h : Nat} {σ' : SM} (hE : XE X w0 7 none "readExpression" (.returned none) (wM z h σ')) (v1 : Int32) (t0 : Int32) (σ : SM) (hf : mM_readExpression_19 v1 t0 σ = some σ') : V X cX7_readExpression RX7 3 7 (wM z h σ) 19 [some (.ref h), some (.int v1), none] [.int t0] := by
  unfold mM_readExpression_19 at hf
  refine V_istore_n (ls' := [some (.ref h), some (.int v1), some (.int t0)]) dX7_readExpression_19 (by decide) rfl ?_
  exact lq3_ex (P := fun v1 v2 σ => V X cX7_readExpression RX7 3 7 (wM z h σ) 20 [some (.ref h), some (.int v1), some (.int v2)] []) (fun k hk v1 v2 σ hf => mM_readExpression_20_v hE k hk v1 v2 σ hf) LF v1 t0 σ hf
set_option maxHeartbeats 4000000 in
theorem mM_readExpression_ok (l : Launch) (D : DD) (z : ZZ) (h : Nat) (p0 : Int32) (σ : SM) (σ' : SM) (hf : mM_readExpression p0 σ = some σ') : MA l D yX7_readExpression cX7_readExpression 3 none 7 [.ref h, .int p0] (wM z h σ) (.returned none) (wM z h σ') := by
  refine MA.intro (own := RX7) (nm := "readExpression") (ls := [some (.ref h), some (.int p0), none]) (by decide) rfl rfl (Nat.le_of_ble_eq_true rfl) rfl (fun X hl hD hE => ?_)
  subst hl hD
  unfold mM_readExpression at hf
  refine V_aload_n dX7_readExpression_0 rfl ?_
  refine V_iconst dX7_readExpression_1 kc_0 ?_
  obtain ⟨σ1, hs2, hf⟩ := st1_ex hf
  refine VM_putI fwX7_268 hs2 dX7_readExpression_2 ?_
  refine V_aload_n dX7_readExpression_5 rfl ?_
  refine V_iconst dX7_readExpression_6 kc_0 ?_
  obtain ⟨σ3, hs4, hf⟩ := st1_ex hf
  refine VM_putI fwX7_321 hs4 dX7_readExpression_7 ?_
  refine V_iload_n dX7_readExpression_10 rfl ?_
  refine V_if_eq (tgt := 18) dX7_readExpression_11 (by decide) (fun hc5 => ?_) (fun hc5 => ?_)
  · have hf := if_t hf hc5
    refine V_iconst dX7_readExpression_18 kc_1 ?_
    exact mM_readExpression_19_v hE p0 (1 : Int32) σ3 hf
  · have hf := if_f hf hc5
    refine V_iconst dX7_readExpression_14 kc_0 ?_
    refine V_goto (tgt := 19) dX7_readExpression_15 (by decide) ?_
    exact mM_readExpression_19_v hE p0 (0 : Int32) σ3 hf
set_option maxHeartbeats 4000000 in
theorem mM_readClause_225_v {X : CX} {w0 : AH} {z : ZZ} {h : Nat} {σ' : SM} (hE : XE X w0 8 none "readClause" (.returned none) (wM z h σ')) (v2 : Int32) (σ : SM) (hf : mM_readClause_225 v2 σ = some σ') : V X cX7_readClause RX7 4 8 (wM z h σ) 225 [some (.ref h), none, some (.int v2), none] [] := by
  unfold mM_readClause_225 at hf
  refine V_aload_n dX7_readClause_225 rfl ?_
  refine VM_getR fX7_34 ⟨rfl, rfl⟩ rfl dX7_readClause_226 ?_
  refine V_iload_n dX7_readClause_229 rfl ?_
  refine V_bipush dX7_readClause_230 kb_6 ?_
  refine V_iadd dX7_readClause_232 ?_
  refine V_aload_n dX7_readClause_233 rfl ?_
  refine VM_getI fX7_265 rfl dX7_readClause_234 ?_
  obtain ⟨hb1, hf⟩ := ck_ex hf
  obtain ⟨σ2, hs3, hf⟩ := st1_ex hf
  refine VM_stI (n := 96) (k := (v2 + (6 : Int32)).toNatClampNeg) rfl hb1 rfl hs3 dX7_readClause_237 ?_
  cases some_ex hf
  exact V_vret hE dX7_readClause_238
set_option maxHeartbeats 4000000 in
theorem mM_readClause_175_v {X : CX} {w0 : AH} {z : ZZ} {h : Nat} {σ' : SM} (hE : XE X w0 8 none "readClause" (.returned none) (wM z h σ')) (v2 : Int32) (σ : SM) (hf : mM_readClause_175 v2 σ = some σ') : V X cX7_readClause RX7 4 8 (wM z h σ) 175 [some (.ref h), none, some (.int v2), none] [] := by
  unfold mM_readClause_175 at hf
  refine V_aload_n dX7_readClause_175 rfl ?_
  refine VM_getR fX7_34 ⟨rfl, rfl⟩ rfl dX7_readClause_176 ?_
  refine V_iload_n dX7_readClause_179 rfl ?_
  refine V_iconst dX7_readClause_180 kc_4 ?_
  refine V_iadd dX7_readClause_181 ?_
  refine V_aload_n dX7_readClause_182 rfl ?_
  refine VM_getI fX7_265 rfl dX7_readClause_183 ?_
  obtain ⟨hb1, hf⟩ := ck_ex hf
  obtain ⟨σ2, hs3, hf⟩ := st1_ex hf
  refine VM_stI (n := 96) (k := (v2 + (4 : Int32)).toNatClampNeg) rfl hb1 rfl hs3 dX7_readClause_186 ?_
  refine V_aload_n dX7_readClause_187 rfl ?_
  refine VM_getR fX7_34 ⟨rfl, rfl⟩ rfl dX7_readClause_188 ?_
  refine V_iload_n dX7_readClause_191 rfl ?_
  refine V_iconst dX7_readClause_192 kc_5 ?_
  refine V_iadd dX7_readClause_193 ?_
  refine V_aload_n dX7_readClause_194 rfl ?_
  refine VM_getI fX7_265 rfl dX7_readClause_195 ?_
  obtain ⟨hb4, hf⟩ := ck_ex hf
  obtain ⟨σ5, hs6, hf⟩ := st1_ex hf
  refine VM_stI (n := 96) (k := (v2 + (5 : Int32)).toNatClampNeg) rfl hb4 rfl hs6 dX7_readClause_198 ?_
  refine V_aload_n dX7_readClause_199 rfl ?_
  refine VM_getI fX7_226 rfl dX7_readClause_200 ?_
  refine V_if_ne (tgt := 225) dX7_readClause_203 (by decide) (fun hc7 => ?_) (fun hc7 => ?_)
  · have hf := if_f hf hc7
    exact mM_readClause_225_v hE v2 σ5 hf
  · have hf := if_t hf hc7
    refine V_aload_n dX7_readClause_206 rfl ?_
    refine V_ldc2 q2280 dX7_readClause_207 ?_
    obtain ⟨r9, hc8, hf⟩ := bd1_ex hf
    refine V_cV (av := [.long (294 : Int64)]) (rest := []) (st' := [.int r9]) (mM_isWord_ok _ _ _ _ _ _ _ hc8) vcX7_287 (wM_k0 _ _ _) (by decide) rfl rfl (Nat.le_of_ble_eq_true rfl) dX7_readClause_210 rfl ?_
    refine V_if_eq (tgt := 225) dX7_readClause_213 (by decide) (fun hc10 => ?_) (fun hc10 => ?_)
    · have hf := if_t hf hc10
      exact mM_readClause_225_v hE v2 σ5 hf
    · have hf := if_f hf hc10
      refine V_aload_n dX7_readClause_216 rfl ?_
      obtain ⟨σ12, hc11, hf⟩ := bd1_ex hf
      refine V_cV (av := []) (rest := []) (st' := []) (mM_next_ok _ _ _ _ _ _ hc11) vcX7_230 (wM_k0 _ _ _) (by decide) rfl rfl (Nat.le_of_ble_eq_true rfl) dX7_readClause_217 rfl ?_
      refine V_aload_n dX7_readClause_220 rfl ?_
      refine V_iconst dX7_readClause_221 kc_1 ?_
      obtain ⟨σ14, hc13, hf⟩ := bd1_ex hf
      refine V_cV (av := [.int (1 : Int32)]) (rest := []) (st' := []) (mM_readExpression_ok _ _ _ _ _ _ _ hc13) vcX7_412 (wM_k0 _ _ _) (by decide) rfl rfl (Nat.le_of_ble_eq_true rfl) dX7_readClause_222 rfl ?_
      exact mM_readClause_225_v hE v2 σ14 hf
set_option maxHeartbeats 4000000 in
theorem mM_readClause_153_v {X : CX} {w0 : AH} {z : ZZ} {h : Nat} {σ' : SM} (hE : XE X w0 8 none "readClause" (.returned none) (wM z h σ')) (v1 : Int32) (v2 : Int32) (σ : SM) (hf : mM_readClause_153 v1 v2 σ = some σ') : V X cX7_readClause RX7 4 8 (wM z h σ) 153 [some (.ref h), some (.int v1), some (.int v2), none] [] := by
  unfold mM_readClause_153 at hf
  refine V_aload_n dX7_readClause_153 rfl ?_
  refine VM_getR fX7_34 ⟨rfl, rfl⟩ rfl dX7_readClause_154 ?_
  refine V_iload_n dX7_readClause_157 rfl ?_
  refine V_iconst dX7_readClause_158 kc_3 ?_
  refine V_iadd dX7_readClause_159 ?_
  refine V_aload_n dX7_readClause_160 rfl ?_
  refine VM_getI fX7_265 rfl dX7_readClause_161 ?_
  obtain ⟨hb1, hf⟩ := ck_ex hf
  obtain ⟨σ2, hs3, hf⟩ := st1_ex hf
  refine VM_stI (n := 96) (k := (v2 + (3 : Int32)).toNatClampNeg) rfl hb1 rfl hs3 dX7_readClause_164 ?_
  refine V_iload_n dX7_readClause_165 rfl ?_
  refine V_iconst dX7_readClause_166 kc_5 ?_
  refine V_icmp_lt (tgt := 175) dX7_readClause_167 (by decide) (fun hc4 => ?_) (fun hc4 => ?_)
  · have hf := if_t hf hc4
    refine V_keep [true, false, true, true] rfl ?_
    exact mM_readClause_175_v hE v2 σ2 hf
  · have hf := if_f hf hc4
    refine V_aload_n dX7_readClause_170 rfl ?_
    refine V_iconst dX7_readClause_171 kc_0 ?_
    obtain ⟨σ6, hc5, hf⟩ := bd1_ex hf
    refine V_cV (av := [.int (0 : Int32)]) (rest := []) (st' := []) (mM_readExpression_ok _ _ _ _ _ _ _ hc5) vcX7_412 (wM_k0 _ _ _) (by decide) rfl rfl (Nat.le_of_ble_eq_true rfl) dX7_readClause_172 rfl ?_
    refine V_keep [true, false, true, true] rfl ?_
    exact mM_readClause_175_v hE v2 σ6 hf
set_option maxHeartbeats 4000000 in
theorem mM_readClause_46_v {X : CX} {w0 : AH} {z : ZZ} {h : Nat} {σ' : SM} (hE : XE X w0 8 none "readClause" (.returned none) (wM z h σ')) (k46 : Int32 → Int32 → Int32 → SM → Option (SM)) (hk46 : ∀ (v1 : Int32) (v2 : Int32) (v3 : Int32) (σ : SM), k46 v1 v2 v3 σ = some σ' → V X cX7_readClause RX7 4 8 (wM z h σ) 46 [some (.ref h), some (.int v1), some (.int v2), some (.int v3)] []) (v1 : Int32) (v2 : Int32) (v3 : Int32) (σ : SM) (hf : mM_readClause_46 k46 v1 v2 v3 σ = some σ') : V X cX7_readClause RX7 4 8 (wM z h σ) 46 [some (.ref h), some (.int v1), some (.int v2), some (.int v3)] [] := by
  unfold mM_readClause_46 at hf
  refine V_iload_n dX7_readClause_46 rfl ?_
  refine V_bipush dX7_readClause_47 kb_8 ?_
  refine V_icmp_ge (tgt := 67) dX7_readClause_49 (by decide) (fun hc1 => ?_) (fun hc1 => ?_)
  · have hf := if_t hf hc1
    refine V_aload_n dX7_readClause_67 rfl ?_
    refine VM_getR fX7_34 ⟨rfl, rfl⟩ rfl dX7_readClause_68 ?_
    refine V_iload_n dX7_readClause_71 rfl ?_
    refine V_iload_n dX7_readClause_72 rfl ?_
    obtain ⟨hb2, hf⟩ := ck_ex hf
    obtain ⟨σ3, hs4, hf⟩ := st1_ex hf
    refine VM_stI (n := 96) (k := v2.toNatClampNeg) rfl hb2 rfl hs4 dX7_readClause_73 ?_
    refine V_aload_n dX7_readClause_74 rfl ?_
    refine V_dup dX7_readClause_75 rfl ?_
    refine VM_getI fX7_397 rfl dX7_readClause_76 ?_
    refine V_iconst dX7_readClause_79 kc_1 ?_
    refine V_iadd dX7_readClause_80 ?_
    obtain ⟨σ5, hs6, hf⟩ := st1_ex hf
    refine VM_putI fwX7_397 hs6 dX7_readClause_81 ?_
    refine V_iload_n dX7_readClause_84 rfl ?_
    refine V_if_ne (tgt := 132) dX7_readClause_85 (by decide) (fun hc7 => ?_) (fun hc7 => ?_)
    · have hf := if_f hf hc7
      refine V_iload_n dX7_readClause_132 rfl ?_
      refine V_iconst dX7_readClause_133 kc_3 ?_
      refine V_icmp_ne (tgt := 153) dX7_readClause_134 (by decide) (fun hc8 => ?_) (fun hc8 => ?_)
      · have hf := if_f hf hc8
        refine V_keep [true, true, true, false] rfl ?_
        exact mM_readClause_153_v hE v1 v2 σ5 hf
      · have hf := if_t hf hc8
        refine V_aload_n dX7_readClause_137 rfl ?_
        refine VM_getR fX7_34 ⟨rfl, rfl⟩ rfl dX7_readClause_138 ?_
        refine V_iload_n dX7_readClause_141 rfl ?_
        refine V_iconst dX7_readClause_142 kc_1 ?_
        refine V_iadd dX7_readClause_143 ?_
        refine V_aload_n dX7_readClause_144 rfl ?_
        refine V_lconst dX7_readClause_145 kl_0 ?_
        refine V_ldc2 q2192 dX7_readClause_146 ?_
        obtain ⟨r10, σ11, hc9, hf⟩ := bd2_ex hf
        refine V_cV (av := [.long (0 : Int64), .long (9 : Int64)]) (rest := [.int (v2 + (1 : Int32)), .ref (h + 7)]) (st' := [.int r10, .int (v2 + (1 : Int32)), .ref (h + 7)]) (mM_number_ok _ _ _ _ _ _ _ _ _ hc9) vcX7_402 (wM_k0 _ _ _) (by decide) rfl rfl (Nat.le_of_ble_eq_true rfl) dX7_readClause_149 rfl ?_
        obtain ⟨hb12, hf⟩ := ck_ex hf
        obtain ⟨σ13, hs14, hf⟩ := st1_ex hf
        refine VM_stI (n := 96) (k := (v2 + (1 : Int32)).toNatClampNeg) rfl hb12 rfl hs14 dX7_readClause_152 ?_
        refine V_keep [true, true, true, false] rfl ?_
        exact mM_readClause_153_v hE v1 v2 σ13 hf
    · have hf := if_t hf hc7
      refine V_aload_n dX7_readClause_88 rfl ?_
      refine VM_getR fX7_34 ⟨rfl, rfl⟩ rfl dX7_readClause_89 ?_
      refine V_iload_n dX7_readClause_92 rfl ?_
      refine V_iconst dX7_readClause_93 kc_1 ?_
      refine V_iadd dX7_readClause_94 ?_
      refine V_aload_n dX7_readClause_95 rfl ?_
      refine V_lconst dX7_readClause_96 kl_0 ?_
      refine V_ldc2 q2185 dX7_readClause_97 ?_
      obtain ⟨r16, σ17, hc15, hf⟩ := bd2_ex hf
      refine V_cV (av := [.long (0 : Int64), .long (19 : Int64)]) (rest := [.int (v2 + (1 : Int32)), .ref (h + 7)]) (st' := [.int r16, .int (v2 + (1 : Int32)), .ref (h + 7)]) (mM_number_ok _ _ _ _ _ _ _ _ _ hc15) vcX7_402 (wM_k0 _ _ _) (by decide) rfl rfl (Nat.le_of_ble_eq_true rfl) dX7_readClause_100 rfl ?_
      obtain ⟨hb18, hf⟩ := ck_ex hf
      obtain ⟨σ19, hs20, hf⟩ := st1_ex hf
      refine VM_stI (n := 96) (k := (v2 + (1 : Int32)).toNatClampNeg) rfl hb18 rfl hs20 dX7_readClause_103 ?_
      refine V_aload_n dX7_readClause_104 rfl ?_
      refine V_aload_n dX7_readClause_105 rfl ?_
      refine V_ldc2 q2190 dX7_readClause_106 ?_
      obtain ⟨r22, hc21, hf⟩ := bd1_ex hf
      refine V_cV (av := [.long (113301093 : Int64)]) (rest := [.ref h]) (st' := [.int r22, .ref h]) (mM_isWord_ok _ _ _ _ _ _ _ hc21) vcX7_287 (wM_k0 _ _ _) (by decide) rfl rfl (Nat.le_of_ble_eq_true rfl) dX7_readClause_109 rfl ?_
      obtain ⟨σ24, hc23, hf⟩ := bd1_ex hf
      refine V_cV (av := [.int r22]) (rest := []) (st' := []) (mM_must_ok _ _ _ _ _ _ _ hc23) vcX7_261 (wM_k0 _ _ _) (by decide) rfl rfl (Nat.le_of_ble_eq_true rfl) dX7_readClause_112 rfl ?_
      refine V_aload_n dX7_readClause_115 rfl ?_
      refine VM_getR fX7_34 ⟨rfl, rfl⟩ rfl dX7_readClause_116 ?_
      refine V_iload_n dX7_readClause_119 rfl ?_
      refine V_iconst dX7_readClause_120 kc_2 ?_
      refine V_iadd dX7_readClause_121 ?_
      refine V_aload_n dX7_readClause_122 rfl ?_
      refine V_lconst dX7_readClause_123 kl_0 ?_
      refine V_ldc2 q2191 dX7_readClause_124 ?_
      obtain ⟨r26, σ27, hc25, hf⟩ := bd2_ex hf
      refine V_cV (av := [.long (0 : Int64), .long (11 : Int64)]) (rest := [.int (v2 + (2 : Int32)), .ref (h + 7)]) (st' := [.int r26, .int (v2 + (2 : Int32)), .ref (h + 7)]) (mM_number_ok _ _ _ _ _ _ _ _ _ hc25) vcX7_402 (wM_k0 _ _ _) (by decide) rfl rfl (Nat.le_of_ble_eq_true rfl) dX7_readClause_127 rfl ?_
      obtain ⟨hb28, hf⟩ := ck_ex hf
      obtain ⟨σ29, hs30, hf⟩ := st1_ex hf
      refine VM_stI (n := 96) (k := (v2 + (2 : Int32)).toNatClampNeg) rfl hb28 rfl hs30 dX7_readClause_130 ?_
      cases some_ex hf
      exact V_vret hE dX7_readClause_131
  · have hf := if_f hf hc1
    refine V_aload_n dX7_readClause_52 rfl ?_
    refine VM_getR fX7_34 ⟨rfl, rfl⟩ rfl dX7_readClause_53 ?_
    refine V_iload_n dX7_readClause_56 rfl ?_
    refine V_iload_n dX7_readClause_57 rfl ?_
    refine V_iadd dX7_readClause_58 ?_
    refine V_iconst dX7_readClause_59 kc_0 ?_
    obtain ⟨hb31, hf⟩ := ck_ex hf
    obtain ⟨σ32, hs33, hf⟩ := st1_ex hf
    refine VM_stI (n := 96) (k := (v2 + v3).toNatClampNeg) rfl hb31 rfl hs33 dX7_readClause_60 ?_
    refine V_inc (ls' := [some (.ref h), some (.int v1), some (.int v2), some (.int (v3 + (1 : Int32)))]) dX7_readClause_61 rfl kc_1 (by decide) rfl ?_
    refine V_goto (tgt := 46) dX7_readClause_64 (by decide) ?_
    exact hk46 v1 v2 (v3 + (1 : Int32)) σ32 hf
set_option maxHeartbeats 4000000 in
theorem mM_readClause_25_v {X : CX} {w0 : AH} {z : ZZ} {h : Nat} {σ' : SM} (hE : XE X w0 8 none "readClause" (.returned none) (wM z h σ')) (v1 : Int32) (t0 : Int32) (σ : SM) (hf : mM_readClause_25 v1 t0 σ = some σ') : V X cX7_readClause RX7 4 8 (wM z h σ) 25 [some (.ref h), some (.int v1), none, none] [.int t0, .ref h] := by
  unfold mM_readClause_25 at hf
  obtain ⟨σ2, hc1, hf⟩ := bd1_ex hf
  refine V_cV (av := [.int t0]) (rest := []) (st' := []) (mM_must_ok _ _ _ _ _ _ _ hc1) vcX7_261 (wM_k0 _ _ _) (by decide) rfl rfl (Nat.le_of_ble_eq_true rfl) dX7_readClause_25 rfl ?_
  refine V_aload_n dX7_readClause_28 rfl ?_
  refine VM_getI fX7_226 rfl dX7_readClause_29 ?_
  refine V_if_eq (tgt := 36) dX7_readClause_32 (by decide) (fun hc3 => ?_) (fun hc3 => ?_)
  · have hf := if_t hf hc3
    refine V_bipush dX7_readClause_36 kb_8 ?_
    refine V_aload_n dX7_readClause_38 rfl ?_
    refine VM_getI fX7_397 rfl dX7_readClause_39 ?_
    refine V_imul dX7_readClause_42 ?_
    refine V_istore_n (ls' := [some (.ref h), some (.int v1), some (.int ((8 : Int32) * (gI σ2 0 17))), none]) dX7_readClause_43 (by decide) rfl ?_
    refine V_iconst dX7_readClause_44 kc_0 ?_
    refine V_istore_n (ls' := [some (.ref h), some (.int v1), some (.int ((8 : Int32) * (gI σ2 0 17))), some (.int (0 : Int32))]) dX7_readClause_45 (by decide) rfl ?_
    exact lq4_ex (P := fun v1 v2 v3 σ => V X cX7_readClause RX7 4 8 (wM z h σ) 46 [some (.ref h), some (.int v1), some (.int v2), some (.int v3)] []) (fun k hk v1 v2 v3 σ hf => mM_readClause_46_v hE k hk v1 v2 v3 σ hf) LF v1 ((8 : Int32) * (gI σ2 0 17)) (0 : Int32) σ2 hf
  · have hf := if_f hf hc3
    cases some_ex hf
    exact V_vret hE dX7_readClause_35
set_option maxHeartbeats 4000000 in
theorem mM_readClause_24_v {X : CX} {w0 : AH} {z : ZZ} {h : Nat} {σ' : SM} (hE : XE X w0 8 none "readClause" (.returned none) (wM z h σ')) (v1 : Int32) (σ : SM) (hf : mM_readClause_24 v1 σ = some σ') : V X cX7_readClause RX7 4 8 (wM z h σ) 24 [some (.ref h), some (.int v1), none, none] [.ref h] := by
  unfold mM_readClause_24 at hf
  refine V_iconst dX7_readClause_24 kc_0 ?_
  exact mM_readClause_25_v hE v1 (0 : Int32) σ hf
set_option maxHeartbeats 4000000 in
theorem mM_readClause_ok (l : Launch) (D : DD) (z : ZZ) (h : Nat) (σ : SM) (σ' : SM) (hf : mM_readClause  σ = some σ') : MA l D yX7_readClause cX7_readClause 4 none 8 [.ref h] (wM z h σ) (.returned none) (wM z h σ') := by
  refine MA.intro (own := RX7) (nm := "readClause") (ls := [some (.ref h), none, none, none]) (by decide) rfl rfl (Nat.le_of_ble_eq_true rfl) rfl (fun X hl hD hE => ?_)
  subst hl hD
  unfold mM_readClause at hf
  refine V_aload_n dX7_readClause_0 rfl ?_
  obtain ⟨r2, hc1, hf⟩ := bd1_ex hf
  refine V_cV (av := []) (rest := []) (st' := [.int r2]) (mM_headAt_ok _ _ _ _ _ _ hc1) vcX7_394 (wM_k0 _ _ _) (by decide) rfl rfl (Nat.le_of_ble_eq_true rfl) dX7_readClause_1 rfl ?_
  refine V_istore_n (ls' := [some (.ref h), some (.int r2), none, none]) dX7_readClause_4 (by decide) rfl ?_
  refine V_aload_n dX7_readClause_5 rfl ?_
  refine V_iload_n dX7_readClause_6 rfl ?_
  refine V_iconst dX7_readClause_7 kc_m1 ?_
  refine V_icmp_eq (tgt := 24) dX7_readClause_8 (by decide) (fun hc3 => ?_) (fun hc3 => ?_)
  · have hf := if_t hf hc3
    exact mM_readClause_24_v hE r2 σ hf
  · have hf := if_f hf hc3
    refine V_aload_n dX7_readClause_11 rfl ?_
    refine VM_getI fX7_397 rfl dX7_readClause_12 ?_
    refine V_bipush dX7_readClause_15 kb_12 ?_
    refine V_icmp_ge (tgt := 24) dX7_readClause_17 (by decide) (fun hc4 => ?_) (fun hc4 => ?_)
    · have hf := if_t hf hc4
      exact mM_readClause_24_v hE r2 σ hf
    · have hf := if_f hf hc4
      refine V_iconst dX7_readClause_20 kc_1 ?_
      refine V_goto (tgt := 25) dX7_readClause_21 (by decide) ?_
      exact mM_readClause_25_v hE r2 (1 : Int32) σ hf
set_option maxHeartbeats 4000000 in
theorem mM_order_42_v {X : CX} {w0 : AH} {z : ZZ} {h : Nat} {r : Int32} {σ' : SM} (hE : XE X w0 9 (some .int) "order" (.returned (some (.int r))) (wM z h σ')) (t0 : Int32) (σ : SM) (hf : mM_order_42 t0 σ = some (r, σ')) : V X cX7_order RX7 4 9 (wM z h σ) 42 [none, none, none, none] [.int t0, .ref h] := by
  unfold mM_order_42 at hf
  obtain ⟨r2, σ3, hc1, hf⟩ := bd2_ex hf
  refine V_cV (av := [.int t0]) (rest := []) (st' := [.int r2]) (mM_told_ok _ _ _ _ _ _ _ _ hc1) vcX7_125 (wM_k0 _ _ _) (by decide) rfl rfl (Nat.le_of_ble_eq_true rfl) dX7_order_42 rfl ?_
  cases some_ex hf
  exact V_iret hE dX7_order_45
set_option maxHeartbeats 4000000 in
theorem mM_order_23_v {X : CX} {w0 : AH} {z : ZZ} {h : Nat} {r : Int32} {σ' : SM} (hE : XE X w0 9 (some .int) "order" (.returned (some (.int r))) (wM z h σ')) (v1 : Int32) (σ : SM) (hf : mM_order_23 v1 σ = some (r, σ')) : V X cX7_order RX7 4 9 (wM z h σ) 23 [some (.ref h), some (.int v1), none, none] [] := by
  unfold mM_order_23 at hf
  refine V_aload_n dX7_order_23 rfl ?_
  refine V_iconst dX7_order_24 kc_0 ?_
  obtain ⟨σ1, hs2, hf⟩ := st1_ex hf
  refine VM_putI fwX7_169 hs2 dX7_order_25 ?_
  refine V_aload_n dX7_order_28 rfl ?_
  refine V_iload_n dX7_order_29 rfl ?_
  obtain ⟨r4, hc3, hf⟩ := bd1_ex hf
  refine V_cS (rest := [.ref h]) (st' := [.int r4, .ref h]) (mM_isDay_ok _ _ _ _ _ hc3) scX7_159 (by decide) rfl rfl (Nat.le_of_ble_eq_true rfl) dX7_order_30 rfl ?_
  refine V_if_eq (tgt := 41) dX7_order_33 (by decide) (fun hc5 => ?_) (fun hc5 => ?_)
  · have hf := if_t hf hc5
    refine V_iconst dX7_order_41 kc_m1 ?_
    refine V_keep [false, false, true, true] rfl ?_
    exact mM_order_42_v hE (-1 : Int32) σ1 hf
  · have hf := if_f hf hc5
    refine V_bipush dX7_order_36 kb_m5 ?_
    refine V_goto (tgt := 42) dX7_order_38 (by decide) ?_
    refine V_keep [false, false, true, true] rfl ?_
    exact mM_order_42_v hE (-5 : Int32) σ1 hf
set_option maxHeartbeats 4000000 in
theorem mM_order_200_v {X : CX} {w0 : AH} {z : ZZ} {h : Nat} {r : Int32} {σ' : SM} (hE : XE X w0 9 (some .int) "order" (.returned (some (.int r))) (wM z h σ')) (k200 : Int32 → Int32 → SM → Option (Int32 × SM)) (hk200 : ∀ (v2 : Int32) (v3 : Int32) (σ : SM), k200 v2 v3 σ = some (r, σ') → V X cX7_order RX7 4 9 (wM z h σ) 200 [some (.ref h), none, some (.int v2), some (.int v3)] []) (v2 : Int32) (v3 : Int32) (σ : SM) (hf : mM_order_200 k200 v2 v3 σ = some (r, σ')) : V X cX7_order RX7 4 9 (wM z h σ) 200 [some (.ref h), none, some (.int v2), some (.int v3)] [] := by
  unfold mM_order_200 at hf
  refine V_iload_n dX7_order_200 rfl ?_
  refine V_aload_n dX7_order_201 rfl ?_
  refine VM_getI fX7_265 rfl dX7_order_202 ?_
  refine V_icmp_ge (tgt := 254) dX7_order_205 (by decide) (fun hc1 => ?_) (fun hc1 => ?_)
  · have hf := if_t hf hc1
    refine V_aload_n dX7_order_254 rfl ?_
    refine VM_getR fX7_7 ⟨rfl, rfl⟩ rfl dX7_order_255 ?_
    refine V_iconst dX7_order_258 kc_2 ?_
    refine V_dup2 dX7_order_259 rfl rfl ?_
    refine VM_ldI (n := 23016) (k := 2) rfl (by decide) (by decide) dX7_order_260 ?_
    refine V_iconst dX7_order_261 kc_1 ?_
    refine V_iadd dX7_order_262 ?_
    obtain ⟨σ2, hs3, hf⟩ := st1_ex hf
    refine VM_stI (n := 23016) (k := 2) rfl (by decide) (by decide) hs3 dX7_order_263 ?_
    refine V_aload_n dX7_order_264 rfl ?_
    refine V_aload_n dX7_order_265 rfl ?_
    refine VM_getR fX7_7 ⟨rfl, rfl⟩ rfl dX7_order_266 ?_
    refine V_iconst dX7_order_269 kc_2 ?_
    refine VM_ldI (n := 23016) (k := 2) rfl (by decide) (by decide) dX7_order_270 ?_
    refine V_iconst dX7_order_271 kc_1 ?_
    refine V_isub dX7_order_272 ?_
    obtain ⟨r5, σ6, hc4, hf⟩ := bd2_ex hf
    refine V_cV (av := [.int ((gI σ2 1 2) - (1 : Int32))]) (rest := []) (st' := [.int r5]) (mM_told_ok _ _ _ _ _ _ _ _ hc4) vcX7_125 (wM_k0 _ _ _) (by decide) rfl rfl (Nat.le_of_ble_eq_true rfl) dX7_order_273 rfl ?_
    cases some_ex hf
    exact V_iret hE dX7_order_276
  · have hf := if_f hf hc1
    refine V_aload_n dX7_order_208 rfl ?_
    refine VM_getR fX7_7 ⟨rfl, rfl⟩ rfl dX7_order_209 ?_
    refine V_iload_n dX7_order_212 rfl ?_
    refine V_bipush dX7_order_213 kb_98 ?_
    refine V_iadd dX7_order_215 ?_
    refine V_iconst dX7_order_216 kc_2 ?_
    refine V_iload_n dX7_order_217 rfl ?_
    refine V_imul dX7_order_218 ?_
    refine V_iadd dX7_order_219 ?_
    refine V_aload_n dX7_order_220 rfl ?_
    refine VM_getR fX7_37 ⟨rfl, rfl⟩ rfl dX7_order_221 ?_
    refine V_iload_n dX7_order_224 rfl ?_
    obtain ⟨hb7, hf⟩ := ck_ex hf
    refine VM_ldI (n := 400) (k := v3.toNatClampNeg) rfl hb7 rfl dX7_order_225 ?_
    obtain ⟨hb8, hf⟩ := ck_ex hf
    obtain ⟨σ9, hs10, hf⟩ := st1_ex hf
    refine VM_stI (n := 23016) (k := ((v2 + (98 : Int32)) + ((2 : Int32) * v3)).toNatClampNeg) rfl hb8 rfl hs10 dX7_order_226 ?_
    refine V_aload_n dX7_order_227 rfl ?_
    refine VM_getR fX7_7 ⟨rfl, rfl⟩ rfl dX7_order_228 ?_
    refine V_iload_n dX7_order_231 rfl ?_
    refine V_bipush dX7_order_232 kb_98 ?_
    refine V_iadd dX7_order_234 ?_
    refine V_iconst dX7_order_235 kc_2 ?_
    refine V_iload_n dX7_order_236 rfl ?_
    refine V_imul dX7_order_237 ?_
    refine V_iadd dX7_order_238 ?_
    refine V_iconst dX7_order_239 kc_1 ?_
    refine V_iadd dX7_order_240 ?_
    refine V_aload_n dX7_order_241 rfl ?_
    refine VM_getR fX7_40 ⟨rfl, rfl⟩ rfl dX7_order_242 ?_
    refine V_iload_n dX7_order_245 rfl ?_
    obtain ⟨hb11, hf⟩ := ck_ex hf
    refine VM_ldI (n := 400) (k := v3.toNatClampNeg) rfl hb11 rfl dX7_order_246 ?_
    obtain ⟨hb12, hf⟩ := ck_ex hf
    obtain ⟨σ13, hs14, hf⟩ := st1_ex hf
    refine VM_stI (n := 23016) (k := (((v2 + (98 : Int32)) + ((2 : Int32) * v3)) + (1 : Int32)).toNatClampNeg) rfl hb12 rfl hs14 dX7_order_247 ?_
    refine V_inc (ls' := [some (.ref h), none, some (.int v2), some (.int (v3 + (1 : Int32)))]) dX7_order_248 rfl kc_1 (by decide) rfl ?_
    refine V_goto (tgt := 200) dX7_order_251 (by decide) ?_
    exact hk200 v2 (v3 + (1 : Int32)) σ13 hf
set_option maxHeartbeats 4000000 in
theorem mM_order_165_v {X : CX} {w0 : AH} {z : ZZ} {h : Nat} {r : Int32} {σ' : SM} (hE : XE X w0 9 (some .int) "order" (.returned (some (.int r))) (wM z h σ')) (k165 : Int32 → Int32 → SM → Option (Int32 × SM)) (hk165 : ∀ (v2 : Int32) (v3 : Int32) (σ : SM), k165 v2 v3 σ = some (r, σ') → V X cX7_order RX7 4 9 (wM z h σ) 165 [some (.ref h), none, some (.int v2), some (.int v3)] []) (v2 : Int32) (v3 : Int32) (σ : SM) (hf : mM_order_165 k165 v2 v3 σ = some (r, σ')) : V X cX7_order RX7 4 9 (wM z h σ) 165 [some (.ref h), none, some (.int v2), some (.int v3)] [] := by
  unfold mM_order_165 at hf
  refine V_iload_n dX7_order_165 rfl ?_
  refine V_bipush dX7_order_166 kb_8 ?_
  refine V_aload_n dX7_order_168 rfl ?_
  refine VM_getI fX7_397 rfl dX7_order_169 ?_
  refine V_imul dX7_order_172 ?_
  refine V_icmp_ge (tgt := 198) dX7_order_173 (by decide) (fun hc1 => ?_) (fun hc1 => ?_)
  · have hf := if_t hf hc1
    refine V_iconst dX7_order_198 kc_0 ?_
    refine V_istore_n (ls' := [some (.ref h), none, some (.int v2), some (.int (0 : Int32))]) dX7_order_199 (by decide) rfl ?_
    exact lq3_ex (P := fun v2 v3 σ => V X cX7_order RX7 4 9 (wM z h σ) 200 [some (.ref h), none, some (.int v2), some (.int v3)] []) (fun k hk v2 v3 σ hf => mM_order_200_v hE k hk v2 v3 σ hf) LF v2 (0 : Int32) σ hf
  · have hf := if_f hf hc1
    refine V_aload_n dX7_order_176 rfl ?_
    refine VM_getR fX7_7 ⟨rfl, rfl⟩ rfl dX7_order_177 ?_
    refine V_iload_n dX7_order_180 rfl ?_
    refine V_iconst dX7_order_181 kc_2 ?_
    refine V_iadd dX7_order_182 ?_
    refine V_iload_n dX7_order_183 rfl ?_
    refine V_iadd dX7_order_184 ?_
    refine V_aload_n dX7_order_185 rfl ?_
    refine VM_getR fX7_34 ⟨rfl, rfl⟩ rfl dX7_order_186 ?_
    refine V_iload_n dX7_order_189 rfl ?_
    obtain ⟨hb2, hf⟩ := ck_ex hf
    refine VM_ldI (n := 96) (k := v3.toNatClampNeg) rfl hb2 rfl dX7_order_190 ?_
    obtain ⟨hb3, hf⟩ := ck_ex hf
    obtain ⟨σ4, hs5, hf⟩ := st1_ex hf
    refine VM_stI (n := 23016) (k := ((v2 + (2 : Int32)) + v3).toNatClampNeg) rfl hb3 rfl hs5 dX7_order_191 ?_
    refine V_inc (ls' := [some (.ref h), none, some (.int v2), some (.int (v3 + (1 : Int32)))]) dX7_order_192 rfl kc_1 (by decide) rfl ?_
    refine V_goto (tgt := 165) dX7_order_195 (by decide) ?_
    exact hk165 v2 (v3 + (1 : Int32)) σ4 hf
set_option maxHeartbeats 4000000 in
theorem mM_order_115_v {X : CX} {w0 : AH} {z : ZZ} {h : Nat} {r : Int32} {σ' : SM} (hE : XE X w0 9 (some .int) "order" (.returned (some (.int r))) (wM z h σ')) (v1 : Int32) (σ : SM) (hf : mM_order_115 v1 σ = some (r, σ')) : V X cX7_order RX7 4 9 (wM z h σ) 115 [some (.ref h), some (.int v1), none, none] [] := by
  unfold mM_order_115 at hf
  refine V_aload_n dX7_order_115 rfl ?_
  refine V_iconst dX7_order_116 kc_0 ?_
  obtain ⟨σ1, hs2, hf⟩ := st1_ex hf
  refine VM_putI fwX7_169 hs2 dX7_order_117 ?_
  refine V_aload_n dX7_order_120 rfl ?_
  refine VM_getI fX7_226 rfl dX7_order_121 ?_
  refine V_if_eq (tgt := 134) dX7_order_124 (by decide) (fun hc3 => ?_) (fun hc3 => ?_)
  · have hf := if_t hf hc3
    refine V_aload_n dX7_order_134 rfl ?_
    refine VM_getR fX7_7 ⟨rfl, rfl⟩ rfl dX7_order_135 ?_
    refine V_iconst dX7_order_138 kc_2 ?_
    refine VM_ldI (n := 23016) (k := 2) rfl (by decide) (by decide) dX7_order_139 ?_
    obtain ⟨r5, hc4, hf⟩ := bd1_ex hf
    refine V_cS (rest := []) (st' := [.int r5]) (mM_textAt_ok _ _ _ _ _ hc4) scX7_423 (by decide) rfl rfl (Nat.le_of_ble_eq_true rfl) dX7_order_140 rfl ?_
    refine V_istore_n (ls' := [some (.ref h), some (.int v1), some (.int r5), none]) dX7_order_143 (by decide) rfl ?_
    refine V_aload_n dX7_order_144 rfl ?_
    refine VM_getR fX7_7 ⟨rfl, rfl⟩ rfl dX7_order_145 ?_
    refine V_iload_n dX7_order_148 rfl ?_
    refine V_iload_n dX7_order_149 rfl ?_
    obtain ⟨hb6, hf⟩ := ck_ex hf
    obtain ⟨σ7, hs8, hf⟩ := st1_ex hf
    refine VM_stI (n := 23016) (k := r5.toNatClampNeg) rfl hb6 rfl hs8 dX7_order_150 ?_
    refine V_aload_n dX7_order_151 rfl ?_
    refine VM_getR fX7_7 ⟨rfl, rfl⟩ rfl dX7_order_152 ?_
    refine V_iload_n dX7_order_155 rfl ?_
    refine V_iconst dX7_order_156 kc_1 ?_
    refine V_iadd dX7_order_157 ?_
    refine V_aload_n dX7_order_158 rfl ?_
    refine VM_getI fX7_397 rfl dX7_order_159 ?_
    obtain ⟨hb9, hf⟩ := ck_ex hf
    obtain ⟨σ10, hs11, hf⟩ := st1_ex hf
    refine VM_stI (n := 23016) (k := (r5 + (1 : Int32)).toNatClampNeg) rfl hb9 rfl hs11 dX7_order_162 ?_
    refine V_iconst dX7_order_163 kc_0 ?_
    refine V_istore_n (ls' := [some (.ref h), some (.int v1), some (.int r5), some (.int (0 : Int32))]) dX7_order_164 (by decide) rfl ?_
    refine V_keep [true, false, true, true] rfl ?_
    exact lq3_ex (P := fun v2 v3 σ => V X cX7_order RX7 4 9 (wM z h σ) 165 [some (.ref h), none, some (.int v2), some (.int v3)] []) (fun k hk v2 v3 σ hf => mM_order_165_v hE k hk v2 v3 σ hf) LF r5 (0 : Int32) σ10 hf
  · have hf := if_f hf hc3
    refine V_aload_n dX7_order_127 rfl ?_
    refine V_bipush dX7_order_128 kb_m6 ?_
    obtain ⟨r13, σ14, hc12, hf⟩ := bd2_ex hf
    refine V_cV (av := [.int (-6 : Int32)]) (rest := []) (st' := [.int r13]) (mM_told_ok _ _ _ _ _ _ _ _ hc12) vcX7_125 (wM_k0 _ _ _) (by decide) rfl rfl (Nat.le_of_ble_eq_true rfl) dX7_order_130 rfl ?_
    cases some_ex hf
    exact V_iret hE dX7_order_133
set_option maxHeartbeats 4000000 in
theorem mM_order_96_v {X : CX} {w0 : AH} {z : ZZ} {h : Nat} {r : Int32} {σ' : SM} (hE : XE X w0 9 (some .int) "order" (.returned (some (.int r))) (wM z h σ')) (v1 : Int32) (σ : SM) (hf : mM_order_96 v1 σ = some (r, σ')) : V X cX7_order RX7 4 9 (wM z h σ) 96 [some (.ref h), some (.int v1), none, none] [] := by
  unfold mM_order_96 at hf
  refine V_aload_n dX7_order_96 rfl ?_
  refine VM_getI fX7_226 rfl dX7_order_97 ?_
  refine V_if_ne (tgt := 115) dX7_order_100 (by decide) (fun hc1 => ?_) (fun hc1 => ?_)
  · have hf := if_f hf hc1
    exact mM_order_115_v hE v1 σ hf
  · have hf := if_t hf hc1
    refine V_aload_n dX7_order_103 rfl ?_
    refine VM_getI fX7_246 rfl dX7_order_104 ?_
    refine V_if_eq (tgt := 115) dX7_order_107 (by decide) (fun hc2 => ?_) (fun hc2 => ?_)
    · have hf := if_t hf hc2
      exact mM_order_115_v hE v1 σ hf
    · have hf := if_f hf hc2
      refine V_aload_n dX7_order_110 rfl ?_
      refine V_iconst dX7_order_111 kc_0 ?_
      obtain ⟨σ4, hc3, hf⟩ := bd1_ex hf
      refine V_cV (av := [.int (0 : Int32)]) (rest := []) (st' := []) (mM_must_ok _ _ _ _ _ _ _ hc3) vcX7_261 (wM_k0 _ _ _) (by decide) rfl rfl (Nat.le_of_ble_eq_true rfl) dX7_order_112 rfl ?_
      exact mM_order_115_v hE v1 σ4 hf
set_option maxHeartbeats 4000000 in
theorem mM_order_69_v {X : CX} {w0 : AH} {z : ZZ} {h : Nat} {r : Int32} {σ' : SM} (hE : XE X w0 9 (some .int) "order" (.returned (some (.int r))) (wM z h σ')) (k69 : Int32 → SM → Option (Int32 × SM)) (hk69 : ∀ (v1 : Int32) (σ : SM), k69 v1 σ = some (r, σ') → V X cX7_order RX7 4 9 (wM z h σ) 69 [some (.ref h), some (.int v1), none, none] []) (v1 : Int32) (σ : SM) (hf : mM_order_69 k69 v1 σ = some (r, σ')) : V X cX7_order RX7 4 9 (wM z h σ) 69 [some (.ref h), some (.int v1), none, none] [] := by
  unfold mM_order_69 at hf
  refine V_aload_n dX7_order_69 rfl ?_
  refine VM_getI fX7_226 rfl dX7_order_70 ?_
  refine V_if_ne (tgt := 96) dX7_order_73 (by decide) (fun hc1 => ?_) (fun hc1 => ?_)
  · have hf := if_f hf hc1
    exact mM_order_96_v hE v1 σ hf
  · have hf := if_t hf hc1
    refine V_aload_n dX7_order_76 rfl ?_
    refine V_bipush dX7_order_77 kb_59 ?_
    obtain ⟨r3, hc2, hf⟩ := bd1_ex hf
    refine V_cV (av := [.int (59 : Int32)]) (rest := []) (st' := [.int r3]) (mM_isSign_ok _ _ _ _ _ _ _ hc2) vcX7_330 (wM_k0 _ _ _) (by decide) rfl rfl (Nat.le_of_ble_eq_true rfl) dX7_order_79 rfl ?_
    refine V_if_eq (tgt := 96) dX7_order_82 (by decide) (fun hc4 => ?_) (fun hc4 => ?_)
    · have hf := if_t hf hc4
      exact mM_order_96_v hE v1 σ hf
    · have hf := if_f hf hc4
      refine V_aload_n dX7_order_85 rfl ?_
      obtain ⟨σ6, hc5, hf⟩ := bd1_ex hf
      refine V_cV (av := []) (rest := []) (st' := []) (mM_next_ok _ _ _ _ _ _ hc5) vcX7_230 (wM_k0 _ _ _) (by decide) rfl rfl (Nat.le_of_ble_eq_true rfl) dX7_order_86 rfl ?_
      refine V_aload_n dX7_order_89 rfl ?_
      obtain ⟨σ8, hc7, hf⟩ := bd1_ex hf
      refine V_cV (av := []) (rest := []) (st' := []) (mM_readClause_ok _ _ _ _ _ _ hc7) vcX7_420 (wM_k0 _ _ _) (by decide) rfl rfl (Nat.le_of_ble_eq_true rfl) dX7_order_90 rfl ?_
      refine V_goto (tgt := 69) dX7_order_93 (by decide) ?_
      exact hk69 v1 σ8 hf
set_option maxHeartbeats 4000000 in
theorem mM_order_ok (l : Launch) (D : DD) (z : ZZ) (h : Nat) (p0 : Int32) (σ : SM) (r : Int32) (σ' : SM) (hf : mM_order p0 σ = some (r, σ')) : MA l D yX7_order cX7_order 4 (some .int) 9 [.ref h, .int p0] (wM z h σ) (.returned (some (.int r))) (wM z h σ') := by
  refine MA.intro (own := RX7) (nm := "order") (ls := [some (.ref h), some (.int p0), none, none]) (by decide) rfl rfl (Nat.le_of_ble_eq_true rfl) rfl (fun X hl hD hE => ?_)
  subst hl hD
  unfold mM_order at hf
  refine V_aload_n dX7_order_0 rfl ?_
  refine V_iconst dX7_order_1 kc_0 ?_
  obtain ⟨σ1, hs2, hf⟩ := st1_ex hf
  refine VM_putI fwX7_113 hs2 dX7_order_2 ?_
  refine V_iload_n dX7_order_5 rfl ?_
  obtain ⟨r4, hc3, hf⟩ := bd1_ex hf
  refine V_cS (rest := []) (st' := [.int r4]) (mM_isDay_ok _ _ _ _ _ hc3) scX7_159 (by decide) rfl rfl (Nat.le_of_ble_eq_true rfl) dX7_order_6 rfl ?_
  refine V_if_eq (tgt := 23) dX7_order_9 (by decide) (fun hc5 => ?_) (fun hc5 => ?_)
  · have hf := if_t hf hc5
    exact mM_order_23_v hE p0 σ1 hf
  · have hf := if_f hf hc5
    refine V_aload_n dX7_order_12 rfl ?_
    refine VM_getR fX7_7 ⟨rfl, rfl⟩ rfl dX7_order_13 ?_
    refine V_iconst dX7_order_16 kc_2 ?_
    refine VM_ldI (n := 23016) (k := 2) rfl (by decide) (by decide) dX7_order_17 ?_
    refine V_bipush dX7_order_18 kb_20 ?_
    refine V_icmp_ne (tgt := 46) dX7_order_20 (by decide) (fun hc6 => ?_) (fun hc6 => ?_)
    · have hf := if_f hf hc6
      refine V_aload_n dX7_order_46 rfl ?_
      obtain ⟨σ8, hc7, hf⟩ := bd1_ex hf
      refine V_cV (av := []) (rest := []) (st' := []) (mM_begin_ok _ _ _ _ _ _ hc7) vcX7_417 (wM_k0 _ _ _) (by decide) rfl rfl (Nat.le_of_ble_eq_true rfl) dX7_order_47 rfl ?_
      refine V_aload_n dX7_order_50 rfl ?_
      refine V_iconst dX7_order_51 kc_0 ?_
      obtain ⟨σ9, hs10, hf⟩ := st1_ex hf
      refine VM_putI fwX7_397 hs10 dX7_order_52 ?_
      refine V_aload_n dX7_order_55 rfl ?_
      refine V_iconst dX7_order_56 kc_0 ?_
      obtain ⟨σ11, hs12, hf⟩ := st1_ex hf
      refine VM_putI fwX7_265 hs12 dX7_order_57 ?_
      refine V_aload_n dX7_order_60 rfl ?_
      refine V_iconst dX7_order_61 kc_0 ?_
      obtain ⟨σ13, hs14, hf⟩ := st1_ex hf
      refine VM_putI fwX7_327 hs14 dX7_order_62 ?_
      refine V_aload_n dX7_order_65 rfl ?_
      obtain ⟨σ16, hc15, hf⟩ := bd1_ex hf
      refine V_cV (av := []) (rest := []) (st' := []) (mM_readClause_ok _ _ _ _ _ _ hc15) vcX7_420 (wM_k0 _ _ _) (by decide) rfl rfl (Nat.le_of_ble_eq_true rfl) dX7_order_66 rfl ?_
      exact lq2_ex (P := fun v1 σ => V X cX7_order RX7 4 9 (wM z h σ) 69 [some (.ref h), some (.int v1), none, none] []) (fun k hk v1 σ hf => mM_order_69_v hE k hk v1 σ hf) LF p0 σ16 hf
    · have hf := if_t hf hc6
      exact mM_order_23_v hE p0 σ1 hf
set_option maxHeartbeats 4000000 in
theorem mM_force_ok (l : Launch) (D : DD) (z : ZZ) (h : Nat) (p0 : Int32) (p1 : Int32) (p2 : Int32) (σ : SM) (r : Int32) (σ' : SM) (hf : mM_force p0 p1 p2 σ = some (r, σ')) : MA l D yX7_force cX7_force 4 (some .int) 4 [.ref h, .int p0, .int p1, .int p2] (wM z h σ) (.returned (some (.int r))) (wM z h σ') := by
  refine MA.intro (own := RX7) (nm := "force") (ls := [some (.ref h), some (.int p0), some (.int p1), some (.int p2)]) (by decide) rfl rfl (Nat.le_of_ble_eq_true rfl) rfl (fun X hl hD hE => ?_)
  subst hl hD
  unfold mM_force at hf
  refine V_aload_n dX7_force_0 rfl ?_
  refine V_iconst dX7_force_1 kc_0 ?_
  obtain ⟨σ1, hs2, hf⟩ := st1_ex hf
  refine VM_putI fwX7_113 hs2 dX7_force_2 ?_
  refine V_iload_n dX7_force_5 rfl ?_
  refine V_i2l dX7_force_6 ?_
  refine V_lconst dX7_force_7 kl_0 ?_
  refine V_aload_n dX7_force_8 rfl ?_
  refine VM_getR fX7_7 ⟨rfl, rfl⟩ rfl dX7_force_9 ?_
  refine V_iconst dX7_force_12 kc_2 ?_
  refine VM_ldI (n := 23016) (k := 2) rfl (by decide) (by decide) dX7_force_13 ?_
  refine V_i2l dX7_force_14 ?_
  refine V_lconst dX7_force_15 kl_1 ?_
  refine V_lsub dX7_force_16 ?_
  obtain ⟨r4, hc3, hf⟩ := bd1_ex hf
  refine V_cS (rest := []) (st' := [.int r4]) (mM_in_ok _ _ _ _ _ _ _ hc3) scX7_121 (by decide) rfl rfl (Nat.le_of_ble_eq_true rfl) dX7_force_17 rfl ?_
  refine V_if_eq (tgt := 53) dX7_force_20 (by decide) (fun hc5 => ?_) (fun hc5 => ?_)
  · have hf := if_t hf hc5
    refine V_iconst dX7_force_53 kc_m1 ?_
    cases some_ex hf
    exact V_iret hE dX7_force_54
  · have hf := if_f hf hc5
    refine V_iload_n dX7_force_23 rfl ?_
    refine V_i2l dX7_force_24 ?_
    refine V_lconst dX7_force_25 kl_0 ?_
    refine V_aload_n dX7_force_26 rfl ?_
    refine VM_getR fX7_7 ⟨rfl, rfl⟩ rfl dX7_force_27 ?_
    refine V_iload_n dX7_force_30 rfl ?_
    obtain ⟨r7, hc6, hf⟩ := bd1_ex hf
    refine V_cS (rest := [.ref (h + 1), .long (0 : Int64), .long (p1.toInt64)]) (st' := [.int r7, .ref (h + 1), .long (0 : Int64), .long (p1.toInt64)]) (mM_textAt_ok _ _ _ _ _ hc6) scX7_423 (by decide) rfl rfl (Nat.le_of_ble_eq_true rfl) dX7_force_31 rfl ?_
    refine V_iconst dX7_force_34 kc_1 ?_
    refine V_iadd dX7_force_35 ?_
    obtain ⟨hb8, hf⟩ := ck_ex hf
    refine VM_ldI (n := 23016) (k := (r7 + (1 : Int32)).toNatClampNeg) rfl hb8 rfl dX7_force_36 ?_
    refine V_i2l dX7_force_37 ?_
    refine V_lconst dX7_force_38 kl_1 ?_
    refine V_lsub dX7_force_39 ?_
    obtain ⟨r10, hc9, hf⟩ := bd1_ex hf
    refine V_cS (rest := []) (st' := [.int r10]) (mM_in_ok _ _ _ _ _ _ _ hc9) scX7_121 (by decide) rfl rfl (Nat.le_of_ble_eq_true rfl) dX7_force_40 rfl ?_
    refine V_if_eq (tgt := 53) dX7_force_43 (by decide) (fun hc11 => ?_) (fun hc11 => ?_)
    · have hf := if_t hf hc11
      refine V_iconst dX7_force_53 kc_m1 ?_
      cases some_ex hf
      exact V_iret hE dX7_force_54
    · have hf := if_f hf hc11
      refine V_iload_n dX7_force_46 rfl ?_
      obtain ⟨r13, hc12, hf⟩ := bd1_ex hf
      refine V_cS (rest := []) (st' := [.int r13]) (mM_isDay_ok _ _ _ _ _ hc12) scX7_159 (by decide) rfl rfl (Nat.le_of_ble_eq_true rfl) dX7_force_47 rfl ?_
      refine V_if_ne (tgt := 55) dX7_force_50 (by decide) (fun hc14 => ?_) (fun hc14 => ?_)
      · have hf := if_f hf hc14
        refine V_aload_n dX7_force_55 rfl ?_
        refine V_iload_n dX7_force_56 rfl ?_
        obtain ⟨σ16, hc15, hf⟩ := bd1_ex hf
        refine V_cV (av := [.int p2]) (rest := []) (st' := []) (mM_findForce_ok _ _ _ _ _ _ _ hc15) vcX7_199 (wM_k0 _ _ _) (by decide) rfl rfl (Nat.le_of_ble_eq_true rfl) dX7_force_57 rfl ?_
        refine V_aload_n dX7_force_60 rfl ?_
        refine VM_getR fX7_49 ⟨rfl, rfl⟩ rfl dX7_force_61 ?_
        refine V_iload_n dX7_force_64 rfl ?_
        obtain ⟨hb17, hf⟩ := ck_ex hf
        refine VM_ldZ (n := 20) (k := p0.toNatClampNeg) rfl hb17 rfl dX7_force_65 ?_
        refine V_if_eq (tgt := 87) dX7_force_66 (by decide) (fun hc18 => ?_) (fun hc18 => ?_)
        · have hf := if_t hf hc18
          refine V_iconst dX7_force_87 kc_0 ?_
          cases some_ex hf
          exact V_iret hE dX7_force_88
        · have hf := if_f hf hc18
          refine V_aload_n dX7_force_69 rfl ?_
          refine VM_getR fX7_52 ⟨rfl, rfl⟩ rfl dX7_force_70 ?_
          refine V_bipush dX7_force_73 kb_12 ?_
          refine V_iload_n dX7_force_75 rfl ?_
          refine V_imul dX7_force_76 ?_
          refine V_iload_n dX7_force_77 rfl ?_
          refine V_iadd dX7_force_78 ?_
          obtain ⟨hb19, hf⟩ := ck_ex hf
          refine VM_ldZ (n := 240) (k := (((12 : Int32) * p0) + p1).toNatClampNeg) rfl hb19 rfl dX7_force_79 ?_
          refine V_if_ne (tgt := 87) dX7_force_80 (by decide) (fun hc20 => ?_) (fun hc20 => ?_)
          · have hf := if_f hf hc20
            refine V_iconst dX7_force_87 kc_0 ?_
            cases some_ex hf
            exact V_iret hE dX7_force_88
          · have hf := if_t hf hc20
            refine V_iconst dX7_force_83 kc_1 ?_
            refine V_goto (tgt := 88) dX7_force_84 (by decide) ?_
            cases some_ex hf
            exact V_iret hE dX7_force_88
      · have hf := if_t hf hc14
        refine V_iconst dX7_force_53 kc_m1 ?_
        cases some_ex hf
        exact V_iret hE dX7_force_54
set_option maxHeartbeats 4000000 in
theorem mM_ruleOf_ok (l : Launch) (D : DD) (z : ZZ) (h : Nat) (p0 : Int32) (p1 : Int32) (σ : SM) (r : Int32) (σ' : SM) (hf : mM_ruleOf p0 p1 σ = some (r, σ')) : MA l D yX7_ruleOf cX7_ruleOf 3 (some .int) 5 [.ref h, .int p0, .int p1] (wM z h σ) (.returned (some (.int r))) (wM z h σ') := by
  refine MA.intro (own := RX7) (nm := "ruleOf") (ls := [some (.ref h), some (.int p0), some (.int p1)]) (by decide) rfl rfl (Nat.le_of_ble_eq_true rfl) rfl (fun X hl hD hE => ?_)
  subst hl hD
  unfold mM_ruleOf at hf
  refine V_aload_n dX7_ruleOf_0 rfl ?_
  refine V_iload_n dX7_ruleOf_1 rfl ?_
  refine V_iconst dX7_ruleOf_2 kc_m1 ?_
  obtain ⟨r2, σ3, hc1, hf⟩ := bd2_ex hf
  refine V_cV (av := [.int p0, .int (-1 : Int32)]) (rest := []) (st' := [.int r2]) (mM_find_ok _ _ _ _ _ _ _ _ _ hc1) vcX7_195 (wM_k0 _ _ _) (by decide) rfl rfl (Nat.le_of_ble_eq_true rfl) dX7_ruleOf_3 rfl ?_
  refine V_if_ne (tgt := 11) dX7_ruleOf_6 (by decide) (fun hc4 => ?_) (fun hc4 => ?_)
  · have hf := if_f hf hc4
    refine V_aload_n dX7_ruleOf_11 rfl ?_
    refine VM_getL fX7_462 dX7_ruleOf_12 ?_
    refine V_lconst dX7_ruleOf_15 kl_0 ?_
    refine V_lif_ge (tgt := 24) dX7_ruleOf_16 dX7_ruleOf_17 (by decide) (fun hc5 => ?_) (fun hc5 => ?_)
    · have hf := if_t hf hc5
      refine V_aload_n dX7_ruleOf_24 rfl ?_
      refine VM_getL fX7_462 dX7_ruleOf_25 ?_
      refine V_l2i dX7_ruleOf_28 ?_
      cases some_ex hf
      exact V_iret hE dX7_ruleOf_29
    · have hf := if_f hf hc5
      refine V_iconst dX7_ruleOf_20 kc_0 ?_
      refine V_goto (tgt := 29) dX7_ruleOf_21 (by decide) ?_
      cases some_ex hf
      exact V_iret hE dX7_ruleOf_29
  · have hf := if_t hf hc4
    refine V_iload_n dX7_ruleOf_9 rfl ?_
    cases some_ex hf
    exact V_iret hE dX7_ruleOf_10
set_option maxHeartbeats 4000000 in
theorem mM_setPlace_ok (l : Launch) (D : DD) (z : ZZ) (h : Nat) (p0 : Int32) (σ : SM) (σ' : SM) (hf : mM_setPlace p0 σ = some σ') : MA l D yX7_setPlace cX7_setPlace 2 none 2 [.ref h, .int p0] (wM z h σ) (.returned none) (wM z h σ') := by
  refine MA.intro (own := RX7) (nm := "setPlace") (ls := [some (.ref h), some (.int p0)]) (by decide) rfl rfl (Nat.le_of_ble_eq_true rfl) rfl (fun X hl hD hE => ?_)
  subst hl hD
  unfold mM_setPlace at hf
  refine V_aload_n dX7_setPlace_0 rfl ?_
  obtain ⟨σ2, hc1, hf⟩ := bd1_ex hf
  refine V_cV (av := []) (rest := []) (st' := []) (mM_setNothing_ok _ _ _ _ _ _ hc1) vcX7_429 (wM_k0 _ _ _) (by decide) rfl rfl (Nat.le_of_ble_eq_true rfl) dX7_setPlace_1 rfl ?_
  refine V_aload_n dX7_setPlace_4 rfl ?_
  refine VM_getR fX7_55 ⟨rfl, rfl⟩ rfl dX7_setPlace_5 ?_
  refine V_iconst dX7_setPlace_8 kc_3 ?_
  refine V_iload_n dX7_setPlace_9 rfl ?_
  refine V_i2l dX7_setPlace_10 ?_
  obtain ⟨σ3, hs4, hf⟩ := st1_ex hf
  refine VM_stL (n := 17) (k := 3) rfl (by decide) (by decide) hs4 dX7_setPlace_11 ?_
  refine V_aload_n dX7_setPlace_12 rfl ?_
  refine VM_getR fX7_55 ⟨rfl, rfl⟩ rfl dX7_setPlace_13 ?_
  refine V_iconst dX7_setPlace_16 kc_4 ?_
  refine V_aload_n dX7_setPlace_17 rfl ?_
  refine VM_getR fX7_7 ⟨rfl, rfl⟩ rfl dX7_setPlace_18 ?_
  refine V_iload_n dX7_setPlace_21 rfl ?_
  obtain ⟨r6, hc5, hf⟩ := bd1_ex hf
  refine V_cS (rest := [.ref (h + 1), .int (4 : Int32), .ref (h + 14)]) (st' := [.int r6, .ref (h + 1), .int (4 : Int32), .ref (h + 14)]) (mM_placeAt_ok _ _ _ _ _ hc5) scX7_133 (by decide) rfl rfl (Nat.le_of_ble_eq_true rfl) dX7_setPlace_22 rfl ?_
  obtain ⟨hb7, hf⟩ := ck_ex hf
  refine VM_ldI (n := 23016) (k := r6.toNatClampNeg) rfl hb7 rfl dX7_setPlace_25 ?_
  refine V_i2l dX7_setPlace_26 ?_
  obtain ⟨σ8, hs9, hf⟩ := st1_ex hf
  refine VM_stL (n := 17) (k := 4) rfl (by decide) (by decide) hs9 dX7_setPlace_27 ?_
  refine V_aload_n dX7_setPlace_28 rfl ?_
  refine VM_getR fX7_55 ⟨rfl, rfl⟩ rfl dX7_setPlace_29 ?_
  refine V_bipush dX7_setPlace_32 kb_6 ?_
  refine V_aload_n dX7_setPlace_34 rfl ?_
  refine VM_getR fX7_24 ⟨rfl, rfl⟩ rfl dX7_setPlace_35 ?_
  refine V_iload_n dX7_setPlace_38 rfl ?_
  obtain ⟨hb10, hf⟩ := ck_ex hf
  refine VM_ldI (n := 16) (k := p0.toNatClampNeg) rfl hb10 rfl dX7_setPlace_39 ?_
  refine V_i2l dX7_setPlace_40 ?_
  obtain ⟨σ11, hs12, hf⟩ := st1_ex hf
  refine VM_stL (n := 17) (k := 6) rfl (by decide) (by decide) hs12 dX7_setPlace_41 ?_
  cases some_ex hf
  exact V_vret hE dX7_setPlace_42
set_option maxHeartbeats 4000000 in
theorem mM_rule_32_v {X : CX} {w0 : AH} {z : ZZ} {h : Nat} {r : Int32} {σ' : SM} (hE : XE X w0 7 (some .int) "rule" (.returned (some (.int r))) (wM z h σ')) (v1 : Int32) (v2 : Int32) (v3 : Int32) (v4 : Int32) (σ : SM) (hf : mM_rule_32 v1 v2 v3 v4 σ = some (r, σ')) : V X cX7_rule RX7 5 7 (wM z h σ) 32 [some (.ref h), some (.int v1), some (.int v2), some (.int v3), some (.int v4)] [] := by
  unfold mM_rule_32 at hf
  refine V_iload_n dX7_rule_32 rfl ?_
  obtain ⟨r2, hc1, hf⟩ := bd1_ex hf
  refine V_cS (rest := []) (st' := [.int r2]) (mM_isDay_ok _ _ _ _ _ hc1) scX7_159 (by decide) rfl rfl (Nat.le_of_ble_eq_true rfl) dX7_rule_33 rfl ?_
  refine V_if_eq (tgt := 46) dX7_rule_36 (by decide) (fun hc3 => ?_) (fun hc3 => ?_)
  · have hf := if_t hf hc3
    refine V_iconst dX7_rule_46 kc_m1 ?_
    cases some_ex hf
    exact V_iret hE dX7_rule_47
  · have hf := if_f hf hc3
    refine V_iload_n dX7_rule_39 rfl ?_
    obtain ⟨r5, hc4, hf⟩ := bd1_ex hf
    refine V_cS (rest := []) (st' := [.int r5]) (mM_isDay_ok _ _ _ _ _ hc4) scX7_159 (by decide) rfl rfl (Nat.le_of_ble_eq_true rfl) dX7_rule_40 rfl ?_
    refine V_if_ne (tgt := 48) dX7_rule_43 (by decide) (fun hc6 => ?_) (fun hc6 => ?_)
    · have hf := if_f hf hc6
      refine V_aload_n dX7_rule_48 rfl ?_
      refine V_iload_n dX7_rule_49 rfl ?_
      refine V_iload_n dX7_rule_50 rfl ?_
      obtain ⟨σ8, hc7, hf⟩ := bd1_ex hf
      refine V_cV (av := [.int v2, .int v3]) (rest := []) (st' := []) (mM_knowBy_ok _ _ _ _ _ _ _ _ hc7) vcX7_205 (wM_k0 _ _ _) (by decide) rfl rfl (Nat.le_of_ble_eq_true rfl) dX7_rule_51 rfl ?_
      refine V_iload dX7_rule_54 rfl ?_
      refine V_iconst dX7_rule_56 kc_2 ?_
      refine V_icmp_ne (tgt := 72) dX7_rule_57 (by decide) (fun hc9 => ?_) (fun hc9 => ?_)
      · have hf := if_f hf hc9
        refine V_aload_n dX7_rule_72 rfl ?_
        refine V_iload_n dX7_rule_73 rfl ?_
        obtain ⟨σ11, hc10, hf⟩ := bd1_ex hf
        refine V_cV (av := [.int v1]) (rest := []) (st' := []) (mM_setPlace_ok _ _ _ _ _ _ _ hc10) vcX7_432 (wM_k0 _ _ _) (by decide) rfl rfl (Nat.le_of_ble_eq_true rfl) dX7_rule_74 rfl ?_
        refine V_iload dX7_rule_77 rfl ?_
        refine V_if_ne (tgt := 93) dX7_rule_79 (by decide) (fun hc12 => ?_) (fun hc12 => ?_)
        · have hf := if_f hf hc12
          refine V_aload_n dX7_rule_93 rfl ?_
          refine V_bipush dX7_rule_94 kb_6 ?_
          refine V_sipush dX7_rule_96 ks_200 ?_
          obtain ⟨r14, σ15, hc13, hf⟩ := bd2_ex hf
          refine V_cV (av := [.int (6 : Int32), .int (200 : Int32)]) (rest := []) (st' := [.int r14]) (mM_ruleOf_ok _ _ _ _ _ _ _ _ _ hc13) vcX7_468 (wM_k0 _ _ _) (by decide) rfl rfl (Nat.le_of_ble_eq_true rfl) dX7_rule_99 rfl ?_
          cases some_ex hf
          exact V_iret hE dX7_rule_102
        · have hf := if_t hf hc12
          refine V_aload_n dX7_rule_82 rfl ?_
          refine V_iconst dX7_rule_83 kc_5 ?_
          refine V_sipush dX7_rule_84 ks_1000 ?_
          obtain ⟨r17, σ18, hc16, hf⟩ := bd2_ex hf
          refine V_cV (av := [.int (5 : Int32), .int (1000 : Int32)]) (rest := []) (st' := [.int r17]) (mM_ruleOf_ok _ _ _ _ _ _ _ _ _ hc16) vcX7_468 (wM_k0 _ _ _) (by decide) rfl rfl (Nat.le_of_ble_eq_true rfl) dX7_rule_87 rfl ?_
          refine V_goto (tgt := 102) dX7_rule_90 (by decide) ?_
          cases some_ex hf
          exact V_iret hE dX7_rule_102
      · have hf := if_t hf hc9
        refine V_aload_n dX7_rule_60 rfl ?_
        obtain ⟨σ20, hc19, hf⟩ := bd1_ex hf
        refine V_cV (av := []) (rest := []) (st' := []) (mM_setNothing_ok _ _ _ _ _ _ hc19) vcX7_429 (wM_k0 _ _ _) (by decide) rfl rfl (Nat.le_of_ble_eq_true rfl) dX7_rule_61 rfl ?_
        refine V_aload_n dX7_rule_64 rfl ?_
        refine V_bipush dX7_rule_65 kb_7 ?_
        refine V_iconst dX7_rule_67 kc_0 ?_
        obtain ⟨r22, σ23, hc21, hf⟩ := bd2_ex hf
        refine V_cV (av := [.int (7 : Int32), .int (0 : Int32)]) (rest := []) (st' := [.int r22]) (mM_ruleOf_ok _ _ _ _ _ _ _ _ _ hc21) vcX7_468 (wM_k0 _ _ _) (by decide) rfl rfl (Nat.le_of_ble_eq_true rfl) dX7_rule_68 rfl ?_
        cases some_ex hf
        exact V_iret hE dX7_rule_71
    · have hf := if_t hf hc6
      refine V_iconst dX7_rule_46 kc_m1 ?_
      cases some_ex hf
      exact V_iret hE dX7_rule_47
set_option maxHeartbeats 4000000 in
theorem mM_rule_ok (l : Launch) (D : DD) (z : ZZ) (h : Nat) (p0 : Int32) (p1 : Int32) (p2 : Int32) (p3 : Int32) (σ : SM) (r : Int32) (σ' : SM) (hf : mM_rule p0 p1 p2 p3 σ = some (r, σ')) : MA l D yX7_rule cX7_rule 5 (some .int) 7 [.ref h, .int p0, .int p1, .int p2, .int p3] (wM z h σ) (.returned (some (.int r))) (wM z h σ') := by
  refine MA.intro (own := RX7) (nm := "rule") (ls := [some (.ref h), some (.int p0), some (.int p1), some (.int p2), some (.int p3)]) (by decide) rfl rfl (Nat.le_of_ble_eq_true rfl) rfl (fun X hl hD hE => ?_)
  subst hl hD
  unfold mM_rule at hf
  refine V_aload_n dX7_rule_0 rfl ?_
  refine V_iconst dX7_rule_1 kc_0 ?_
  obtain ⟨σ1, hs2, hf⟩ := st1_ex hf
  refine VM_putI fwX7_113 hs2 dX7_rule_2 ?_
  refine V_iload dX7_rule_5 rfl ?_
  refine V_i2l dX7_rule_7 ?_
  refine V_lconst dX7_rule_8 kl_0 ?_
  refine V_ldc2 q2108 dX7_rule_9 ?_
  obtain ⟨r4, hc3, hf⟩ := bd1_ex hf
  refine V_cS (rest := []) (st' := [.int r4]) (mM_in_ok _ _ _ _ _ _ _ hc3) scX7_121 (by decide) rfl rfl (Nat.le_of_ble_eq_true rfl) dX7_rule_12 rfl ?_
  refine V_if_eq (tgt := 46) dX7_rule_15 (by decide) (fun hc5 => ?_) (fun hc5 => ?_)
  · have hf := if_t hf hc5
    refine V_iconst dX7_rule_46 kc_m1 ?_
    cases some_ex hf
    exact V_iret hE dX7_rule_47
  · have hf := if_f hf hc5
    refine V_iload dX7_rule_18 rfl ?_
    refine V_iconst dX7_rule_20 kc_2 ?_
    refine V_icmp_ge (tgt := 32) dX7_rule_21 (by decide) (fun hc6 => ?_) (fun hc6 => ?_)
    · have hf := if_t hf hc6
      exact mM_rule_32_v hE p0 p1 p2 p3 σ1 hf
    · have hf := if_f hf hc6
      refine V_aload_n dX7_rule_24 rfl ?_
      refine V_iload_n dX7_rule_25 rfl ?_
      obtain ⟨r8, hc7, hf⟩ := bd1_ex hf
      refine V_cV (av := [.int p0]) (rest := []) (st' := [.int r8]) (mM_isPlace_ok _ _ _ _ _ _ _ hc7) vcX7_162 (wM_k0 _ _ _) (by decide) rfl rfl (Nat.le_of_ble_eq_true rfl) dX7_rule_26 rfl ?_
      refine V_if_eq (tgt := 46) dX7_rule_29 (by decide) (fun hc9 => ?_) (fun hc9 => ?_)
      · have hf := if_t hf hc9
        refine V_iconst dX7_rule_46 kc_m1 ?_
        cases some_ex hf
        exact V_iret hE dX7_rule_47
      · have hf := if_f hf hc9
        exact mM_rule_32_v hE p0 p1 p2 p3 σ1 hf
set_option maxHeartbeats 4000000 in
theorem mM_wish_22_v {X : CX} {w0 : AH} {z : ZZ} {h : Nat} {r : Int32} {σ' : SM} (hE : XE X w0 3 (some .int) "wish" (.returned (some (.int r))) (wM z h σ')) (k22 : Int32 → Int32 → SM → Option (Int32 × SM)) (hk22 : ∀ (v1 : Int32) (v2 : Int32) (σ : SM), k22 v1 v2 σ = some (r, σ') → V X cX7_wish RX7 3 3 (wM z h σ) 22 [some (.ref h), some (.int v1), some (.int v2)] []) (v1 : Int32) (v2 : Int32) (σ : SM) (hf : mM_wish_22 k22 v1 v2 σ = some (r, σ')) : V X cX7_wish RX7 3 3 (wM z h σ) 22 [some (.ref h), some (.int v1), some (.int v2)] [] := by
  unfold mM_wish_22 at hf
  refine V_iload_n dX7_wish_22 rfl ?_
  refine V_aload_n dX7_wish_23 rfl ?_
  refine VM_getI fX7_471 rfl dX7_wish_24 ?_
  refine V_icmp_ge (tgt := 53) dX7_wish_27 (by decide) (fun hc1 => ?_) (fun hc1 => ?_)
  · have hf := if_t hf hc1
    refine V_aload_n dX7_wish_53 rfl ?_
    refine VM_getI fX7_471 rfl dX7_wish_54 ?_
    refine V_bipush dX7_wish_57 kb_7 ?_
    refine V_icmp_ne (tgt := 69) dX7_wish_59 (by decide) (fun hc2 => ?_) (fun hc2 => ?_)
    · have hf := if_f hf hc2
      refine V_aload_n dX7_wish_69 rfl ?_
      refine VM_getR fX7_62 ⟨rfl, rfl⟩ rfl dX7_wish_70 ?_
      refine V_aload_n dX7_wish_73 rfl ?_
      refine VM_getI fX7_471 rfl dX7_wish_74 ?_
      refine V_iload_n dX7_wish_77 rfl ?_
      obtain ⟨hb3, hf⟩ := ck_ex hf
      obtain ⟨σ4, hs5, hf⟩ := st1_ex hf
      refine VM_stI (n := 7) (k := (gI σ 0 34).toNatClampNeg) rfl hb3 rfl hs5 dX7_wish_78 ?_
      refine V_aload_n dX7_wish_79 rfl ?_
      refine VM_getR fX7_65 ⟨rfl, rfl⟩ rfl dX7_wish_80 ?_
      refine V_aload_n dX7_wish_83 rfl ?_
      refine VM_getI fX7_471 rfl dX7_wish_84 ?_
      refine V_iconst dX7_wish_87 kc_0 ?_
      obtain ⟨hb6, hf⟩ := ck_ex hf
      obtain ⟨σ7, hs8, hf⟩ := st1_ex hf
      refine VM_stI (n := 7) (k := (gI σ4 0 34).toNatClampNeg) rfl hb6 rfl hs8 dX7_wish_88 ?_
      refine V_aload_n dX7_wish_89 rfl ?_
      refine VM_getR fX7_68 ⟨rfl, rfl⟩ rfl dX7_wish_90 ?_
      refine V_aload_n dX7_wish_93 rfl ?_
      refine VM_getI fX7_471 rfl dX7_wish_94 ?_
      refine V_sipush dX7_wish_97 ks_399 ?_
      obtain ⟨hb9, hf⟩ := ck_ex hf
      obtain ⟨σ10, hs11, hf⟩ := st1_ex hf
      refine VM_stI (n := 7) (k := (gI σ7 0 34).toNatClampNeg) rfl hb9 rfl hs11 dX7_wish_100 ?_
      refine V_aload_n dX7_wish_101 rfl ?_
      refine V_dup dX7_wish_102 rfl ?_
      refine VM_getI fX7_471 rfl dX7_wish_103 ?_
      refine V_iconst dX7_wish_106 kc_1 ?_
      refine V_iadd dX7_wish_107 ?_
      obtain ⟨σ12, hs13, hf⟩ := st1_ex hf
      refine VM_putI fwX7_471 hs13 dX7_wish_108 ?_
      refine V_aload_n dX7_wish_111 rfl ?_
      refine V_aload_n dX7_wish_112 rfl ?_
      refine VM_getI fX7_471 rfl dX7_wish_113 ?_
      obtain ⟨r15, σ16, hc14, hf⟩ := bd2_ex hf
      refine V_cV (av := [.int (gI σ12 0 34)]) (rest := []) (st' := [.int r15]) (mM_told_ok _ _ _ _ _ _ _ _ hc14) vcX7_125 (wM_k0 _ _ _) (by decide) rfl rfl (Nat.le_of_ble_eq_true rfl) dX7_wish_116 rfl ?_
      cases some_ex hf
      exact V_iret hE dX7_wish_119
    · have hf := if_t hf hc2
      refine V_aload_n dX7_wish_62 rfl ?_
      refine V_bipush dX7_wish_63 kb_m5 ?_
      obtain ⟨r18, σ19, hc17, hf⟩ := bd2_ex hf
      refine V_cV (av := [.int (-5 : Int32)]) (rest := []) (st' := [.int r18]) (mM_told_ok _ _ _ _ _ _ _ _ hc17) vcX7_125 (wM_k0 _ _ _) (by decide) rfl rfl (Nat.le_of_ble_eq_true rfl) dX7_wish_65 rfl ?_
      cases some_ex hf
      exact V_iret hE dX7_wish_68
  · have hf := if_f hf hc1
    refine V_aload_n dX7_wish_30 rfl ?_
    refine VM_getR fX7_62 ⟨rfl, rfl⟩ rfl dX7_wish_31 ?_
    refine V_iload_n dX7_wish_34 rfl ?_
    obtain ⟨hb20, hf⟩ := ck_ex hf
    refine VM_ldI (n := 7) (k := v2.toNatClampNeg) rfl hb20 rfl dX7_wish_35 ?_
    refine V_iload_n dX7_wish_36 rfl ?_
    refine V_icmp_ne (tgt := 47) dX7_wish_37 (by decide) (fun hc21 => ?_) (fun hc21 => ?_)
    · have hf := if_f hf hc21
      refine V_inc (ls' := [some (.ref h), some (.int v1), some (.int (v2 + (1 : Int32)))]) dX7_wish_47 rfl kc_1 (by decide) rfl ?_
      refine V_goto (tgt := 22) dX7_wish_50 (by decide) ?_
      exact hk22 v1 (v2 + (1 : Int32)) σ hf
    · have hf := if_t hf hc21
      refine V_aload_n dX7_wish_40 rfl ?_
      refine V_bipush dX7_wish_41 kb_m4 ?_
      obtain ⟨r23, σ24, hc22, hf⟩ := bd2_ex hf
      refine V_cV (av := [.int (-4 : Int32)]) (rest := []) (st' := [.int r23]) (mM_told_ok _ _ _ _ _ _ _ _ hc22) vcX7_125 (wM_k0 _ _ _) (by decide) rfl rfl (Nat.le_of_ble_eq_true rfl) dX7_wish_43 rfl ?_
      cases some_ex hf
      exact V_iret hE dX7_wish_46
set_option maxHeartbeats 4000000 in
theorem mM_wish_ok (l : Launch) (D : DD) (z : ZZ) (h : Nat) (p0 : Int32) (σ : SM) (r : Int32) (σ' : SM) (hf : mM_wish p0 σ = some (r, σ')) : MA l D yX7_wish cX7_wish 3 (some .int) 3 [.ref h, .int p0] (wM z h σ) (.returned (some (.int r))) (wM z h σ') := by
  refine MA.intro (own := RX7) (nm := "wish") (ls := [some (.ref h), some (.int p0), none]) (by decide) rfl rfl (Nat.le_of_ble_eq_true rfl) rfl (fun X hl hD hE => ?_)
  subst hl hD
  unfold mM_wish at hf
  refine V_aload_n dX7_wish_0 rfl ?_
  refine V_iconst dX7_wish_1 kc_0 ?_
  obtain ⟨σ1, hs2, hf⟩ := st1_ex hf
  refine VM_putI fwX7_113 hs2 dX7_wish_2 ?_
  refine V_aload_n dX7_wish_5 rfl ?_
  refine V_iload_n dX7_wish_6 rfl ?_
  obtain ⟨r4, hc3, hf⟩ := bd1_ex hf
  refine V_cV (av := [.int p0]) (rest := []) (st' := [.int r4]) (mM_isPlace_ok _ _ _ _ _ _ _ hc3) vcX7_162 (wM_k0 _ _ _) (by decide) rfl rfl (Nat.le_of_ble_eq_true rfl) dX7_wish_7 rfl ?_
  refine V_if_ne (tgt := 20) dX7_wish_10 (by decide) (fun hc5 => ?_) (fun hc5 => ?_)
  · have hf := if_f hf hc5
    refine V_iconst dX7_wish_20 kc_0 ?_
    refine V_istore_n (ls' := [some (.ref h), some (.int p0), some (.int (0 : Int32))]) dX7_wish_21 (by decide) rfl ?_
    exact lq3_ex (P := fun v1 v2 σ => V X cX7_wish RX7 3 3 (wM z h σ) 22 [some (.ref h), some (.int v1), some (.int v2)] []) (fun k hk v1 v2 σ hf => mM_wish_22_v hE k hk v1 v2 σ hf) LF p0 (0 : Int32) σ1 hf
  · have hf := if_t hf hc5
    refine V_aload_n dX7_wish_13 rfl ?_
    refine V_bipush dX7_wish_14 kb_m2 ?_
    obtain ⟨r7, σ8, hc6, hf⟩ := bd2_ex hf
    refine V_cV (av := [.int (-2 : Int32)]) (rest := []) (st' := [.int r7]) (mM_told_ok _ _ _ _ _ _ _ _ hc6) vcX7_125 (wM_k0 _ _ _) (by decide) rfl rfl (Nat.le_of_ble_eq_true rfl) dX7_wish_16 rfl ?_
    cases some_ex hf
    exact V_iret hE dX7_wish_19
set_option maxHeartbeats 4000000 in
theorem mM_clear_ok (l : Launch) (D : DD) (z : ZZ) (h : Nat) (σ : SM) (r : Int32) (σ' : SM) (hf : mM_clear  σ = some (r, σ')) : MA l D yX7_clear cX7_clear 2 (some .int) 1 [.ref h] (wM z h σ) (.returned (some (.int r))) (wM z h σ') := by
  refine MA.intro (own := RX7) (nm := "clear") (ls := [some (.ref h), none]) (by decide) rfl rfl (Nat.le_of_ble_eq_true rfl) rfl (fun X hl hD hE => ?_)
  subst hl hD
  unfold mM_clear at hf
  refine V_aload_n dX7_clear_0 rfl ?_
  refine V_iconst dX7_clear_1 kc_0 ?_
  obtain ⟨σ1, hs2, hf⟩ := st1_ex hf
  refine VM_putI fwX7_113 hs2 dX7_clear_2 ?_
  refine V_aload_n dX7_clear_5 rfl ?_
  refine VM_getI fX7_471 rfl dX7_clear_6 ?_
  refine V_istore_n (ls' := [some (.ref h), some (.int (gI σ1 0 34))]) dX7_clear_9 (by decide) rfl ?_
  refine V_aload_n dX7_clear_10 rfl ?_
  refine V_iconst dX7_clear_11 kc_0 ?_
  obtain ⟨σ3, hs4, hf⟩ := st1_ex hf
  refine VM_putI fwX7_471 hs4 dX7_clear_12 ?_
  refine V_iload_n dX7_clear_15 rfl ?_
  cases some_ex hf
  exact V_iret hE dX7_clear_16
set_option maxHeartbeats 4000000 in
theorem mM_areThere_34_v {X : CX} {w0 : AH} {z : ZZ} {h : Nat} {r : Int32} (σ : SM) (hE : XE X w0 3 (some .boolean) "areThere" (.returned (some (.int r))) (wM z h σ)) (k4 : Int32 → Int32 → Option (Int32)) (hk4 : ∀ (v1 : Int32) (v2 : Int32), k4 v1 v2 = some r → V X cX7_areThere RX7 3 3 (wM z h σ) 4 [some (.ref h), some (.int v1), some (.int v2)] []) (v2 : Int32) (t0 : Int32) (hf : mM_areThere_34 σ k4 v2 t0 = some r) : V X cX7_areThere RX7 3 3 (wM z h σ) 34 [some (.ref h), none, some (.int v2)] [.int t0] := by
  unfold mM_areThere_34 at hf
  refine V_istore_n (ls' := [some (.ref h), some (.int t0), some (.int v2)]) dX7_areThere_34 (by decide) rfl ?_
  refine V_inc (ls' := [some (.ref h), some (.int t0), some (.int (v2 + (1 : Int32)))]) dX7_areThere_35 rfl kc_1 (by decide) rfl ?_
  refine V_goto (tgt := 4) dX7_areThere_38 (by decide) ?_
  exact hk4 t0 (v2 + (1 : Int32)) hf
set_option maxHeartbeats 4000000 in
theorem mM_areThere_33_v {X : CX} {w0 : AH} {z : ZZ} {h : Nat} {r : Int32} (σ : SM) (hE : XE X w0 3 (some .boolean) "areThere" (.returned (some (.int r))) (wM z h σ)) (k4 : Int32 → Int32 → Option (Int32)) (hk4 : ∀ (v1 : Int32) (v2 : Int32), k4 v1 v2 = some r → V X cX7_areThere RX7 3 3 (wM z h σ) 4 [some (.ref h), some (.int v1), some (.int v2)] []) (v2 : Int32) (hf : mM_areThere_33 σ k4 v2 = some r) : V X cX7_areThere RX7 3 3 (wM z h σ) 33 [some (.ref h), none, some (.int v2)] [] := by
  unfold mM_areThere_33 at hf
  refine V_iconst dX7_areThere_33 kc_0 ?_
  exact mM_areThere_34_v σ hE k4 hk4 v2 (0 : Int32) hf
set_option maxHeartbeats 4000000 in
theorem mM_areThere_4_v {X : CX} {w0 : AH} {z : ZZ} {h : Nat} {r : Int32} (σ : SM) (hE : XE X w0 3 (some .boolean) "areThere" (.returned (some (.int r))) (wM z h σ)) (k4 : Int32 → Int32 → Option (Int32)) (hk4 : ∀ (v1 : Int32) (v2 : Int32), k4 v1 v2 = some r → V X cX7_areThere RX7 3 3 (wM z h σ) 4 [some (.ref h), some (.int v1), some (.int v2)] []) (v1 : Int32) (v2 : Int32) (hf : mM_areThere_4 σ k4 v1 v2 = some r) : V X cX7_areThere RX7 3 3 (wM z h σ) 4 [some (.ref h), some (.int v1), some (.int v2)] [] := by
  unfold mM_areThere_4 at hf
  refine V_iload_n dX7_areThere_4 rfl ?_
  refine V_aload_n dX7_areThere_5 rfl ?_
  refine VM_getI fX7_471 rfl dX7_areThere_6 ?_
  refine V_icmp_ge (tgt := 41) dX7_areThere_9 (by decide) (fun hc1 => ?_) (fun hc1 => ?_)
  · have hf := if_t hf hc1
    refine V_iload_n dX7_areThere_41 rfl ?_
    obtain ⟨hb2, hf⟩ := ck_ex hf
    cases some_ex hf
    exact V_zret hE (isZ_nar hb2) dX7_areThere_42
  · have hf := if_f hf hc1
    refine V_iload_n dX7_areThere_12 rfl ?_
    refine V_if_eq (tgt := 33) dX7_areThere_13 (by decide) (fun hc3 => ?_) (fun hc3 => ?_)
    · have hf := if_t hf hc3
      refine V_keep [true, false, true] rfl ?_
      exact mM_areThere_33_v σ hE k4 hk4 v2 hf
    · have hf := if_f hf hc3
      refine V_aload_n dX7_areThere_16 rfl ?_
      refine V_aload_n dX7_areThere_17 rfl ?_
      refine VM_getR fX7_62 ⟨rfl, rfl⟩ rfl dX7_areThere_18 ?_
      refine V_iload_n dX7_areThere_21 rfl ?_
      obtain ⟨hb4, hf⟩ := ck_ex hf
      refine VM_ldI (n := 7) (k := v2.toNatClampNeg) rfl hb4 rfl dX7_areThere_22 ?_
      obtain ⟨r6, hc5, hf⟩ := bd1_ex hf
      refine V_cV (av := [.int (gI σ 16 (v2.toNatClampNeg))]) (rest := []) (st' := [.int r6]) (mM_isPlace_ok _ _ _ _ _ _ _ hc5) vcX7_162 (wM_k0 _ _ _) (by decide) rfl rfl (Nat.le_of_ble_eq_true rfl) dX7_areThere_23 rfl ?_
      refine V_if_eq (tgt := 33) dX7_areThere_26 (by decide) (fun hc7 => ?_) (fun hc7 => ?_)
      · have hf := if_t hf hc7
        refine V_keep [true, false, true] rfl ?_
        exact mM_areThere_33_v σ hE k4 hk4 v2 hf
      · have hf := if_f hf hc7
        refine V_iconst dX7_areThere_29 kc_1 ?_
        refine V_goto (tgt := 34) dX7_areThere_30 (by decide) ?_
        refine V_keep [true, false, true] rfl ?_
        exact mM_areThere_34_v σ hE k4 hk4 v2 (1 : Int32) hf
set_option maxHeartbeats 4000000 in
theorem mM_areThere_ok (l : Launch) (D : DD) (z : ZZ) (h : Nat) (σ : SM) (r : Int32) (hf : mM_areThere  σ = some r) : MA l D yX7_areThere cX7_areThere 3 (some .boolean) 3 [.ref h] (wM z h σ) (.returned (some (.int r))) (wM z h σ) := by
  refine MA.intro (own := RX7) (nm := "areThere") (ls := [some (.ref h), none, none]) (by decide) rfl rfl (Nat.le_of_ble_eq_true rfl) rfl (fun X hl hD hE => ?_)
  subst hl hD
  unfold mM_areThere at hf
  refine V_iconst dX7_areThere_0 kc_1 ?_
  refine V_istore_n (ls' := [some (.ref h), some (.int (1 : Int32)), none]) dX7_areThere_1 (by decide) rfl ?_
  refine V_iconst dX7_areThere_2 kc_0 ?_
  refine V_istore_n (ls' := [some (.ref h), some (.int (1 : Int32)), some (.int (0 : Int32))]) dX7_areThere_3 (by decide) rfl ?_
  exact lq2_ex (P := fun v1 v2 => V X cX7_areThere RX7 3 3 (wM z h σ) 4 [some (.ref h), some (.int v1), some (.int v2)] []) (fun k hk v1 v2 hf => mM_areThere_4_v σ hE k hk v1 v2 hf) LF (1 : Int32) (0 : Int32) hf
