set_option maxRecDepth 100000
set_option maxHeartbeats 4000000 in
theorem fC_X0_lays_11_l {x : Nat} : ∀ (n : Nat) (v1 : Int32) (v3 : Int32) (w : AH), Lay x w → lq4 (mC_X0_lays_11) n x v1 v3 w = lq3 (fC_X0_lays_11 x) n v1 v3 w
  | 0, _, _, _, _ => rfl
  | n + 1, v1, v3, w, hL => fC_X0_lays_11_e (fC_X0_lays_11_l n) v1 v3 w hL
set_option maxHeartbeats 4000000 in
theorem fC_X0_lays_11_s {w' : AH} {x : Nat} {k11 : Int32 → Int32 → AH → Option (AH)} (hk11 : ∀ (v1 : Int32) (v3 : Int32) (w : AH), k11 v1 v3 w = some w' → Sc x w w') (v1 : Int32) (v3 : Int32) (w : AH) (hf : fC_X0_lays_11 x k11 v1 v3 w = some w') : Sc x w w' := by
  unfold fC_X0_lays_11 at hf
  have hx := Sc.refl (x := x) w
  by_cases hc15 : (hvi w x 19) ≤ v3
  · have hf := if_t hf hc15
    cases some_ex hf
    exact hx
  · have hf := if_f hf hc15
    obtain ⟨h1, hf⟩ := ck_ex hf
    obtain ⟨r4, w3, hc2, hf⟩ := bd2_ex hf
    have hx := hx.trans (fC_X0_ruleOf_s _ _ _ _ _ _ _ hc2)
    obtain ⟨h5, hf⟩ := ck_ex hf
    obtain ⟨w6, hs7, hf⟩ := st1_ex hf
    have hx := hx.trans (Sc.Ie hs7 (by unfold cS; omega))
    obtain ⟨h8, hf⟩ := ck_ex hf
    obtain ⟨r11, w10, hc9, hf⟩ := bd2_ex hf
    have hx := hx.trans (fC_X0_ruleOf_s _ _ _ _ _ _ _ hc9)
    obtain ⟨h12, hf⟩ := ck_ex hf
    obtain ⟨w13, hs14, hf⟩ := st1_ex hf
    have hx := hx.trans (Sc.Ie hs14 (by unfold cS; omega))
    exact hx.trans (hk11 v1 (v3 + (1 : Int32)) w13 hf)
set_option maxHeartbeats 4000000 in
theorem fC_X0_lays_11_t {w' : AH} {x : Nat} : ∀ (n : Nat) (v1 : Int32) (v3 : Int32) (w : AH), lq3 (fC_X0_lays_11 x) n v1 v3 w = some w' → Sc x w w'
  | 0, _, _, _, hf => nomatch hf
  | n + 1, v1, v3, w, hf => fC_X0_lays_11_s (fC_X0_lays_11_t n) v1 v3 w hf
set_option maxHeartbeats 4000000 in
theorem fC_X0_lays_e {x : Nat} {w : AH} (p0 : Int32) (p1 : Int32) (hL : Lay x w) : mC_X0_lays x p0 p1 w = fC_X0_lays x p0 p1 w := by
  unfold mC_X0_lays fC_X0_lays
  rewrite [ck_t (kq_0 hL)]
  rewrite [lr_0_9 hL, bd1_s]
  rewrite [ck_t (kq_39 hL)]
  rewrite [fC_X5_looks_e _ _ hL]
  refine bd1_cg (fun w2 hc1 => ?_)
  have hL := (fC_X5_looks_s _ _ _ _ hc1).1.lay hL
  exact fC_X0_lays_11_l LF p0 (0 : Int32) w2 hL
set_option maxHeartbeats 4000000 in
theorem fC_X0_lays_s {x : Nat} (p0 : Int32) (p1 : Int32) (w : AH) (w' : AH) (hf : fC_X0_lays x p0 p1 w = some w') : Sc x w w' := by
  unfold fC_X0_lays at hf
  have hx := Sc.refl (x := x) w
  obtain ⟨w2, hc1, hf⟩ := bd1_ex hf
  have hx := hx.trans (fC_X5_looks_s _ _ _ _ hc1)
  exact hx.trans (fC_X0_lays_11_t LF p0 (0 : Int32) w2 hf)
set_option maxHeartbeats 4000000 in
theorem fC_X1_far_e {x : Nat} {w : AH} (p0 : Int32) (p1 : Int32) (hL : Lay x w) : mC_X1_far (x + 1) p0 p1 w = fC_X1_far x p0 p1 w := by
  unfold mC_X1_far fC_X1_far
  rewrite [ck_t (kq_1 hL)]
  rewrite [lr_1_7 hL, bd1_s]
  rewrite [al_15 hL]
  refine ck_cg (fun h1 => ?_)
  rewrite [al_15 hL]
  refine ck_cg (fun h2 => ?_)
  refine st1_cg (fun r3 hr3 => ?_)
  rewrite [lr_1_8 hL, bd1_s]
  rewrite [al_16 hL]
  refine ck_cg (fun h4 => ?_)
  rewrite [al_16 hL]
  refine ck_cg (fun h5 => ?_)
  refine st1_cg (fun r6 hr6 => ?_)
  rfl
set_option maxHeartbeats 4000000 in
theorem fB_X0_leads_185_e {x : Nat} {R_X0_leads : Nat → Int32 → Int32 → Int32 → AH → Option (AH)} {r_X0_leads : Int32 → Int32 → Int32 → AH → Option (AH)} (hr_X0_leads : ∀ (p0 : Int32) (p1 : Int32) (p2 : Int32) (w : AH), Lay x w → R_X0_leads x p0 p1 p2 w = r_X0_leads p0 p1 p2 w) (hs_X0_leads : ∀ (p0 : Int32) (p1 : Int32) (p2 : Int32) (w : AH) (w' : AH), r_X0_leads p0 p1 p2 w = some w' → Sx x w w') {M67 : Nat → Int32 → Int32 → Int32 → Int32 → Int32 → AH → Option (AH)} {k67 : Int32 → Int32 → Int32 → Int32 → Int32 → AH → Option (AH)} (hk67 : ∀ (v1 : Int32) (v2 : Int32) (v3 : Int32) (v4 : Int32) (v5 : Int32) (w : AH), Lay x w → M67 x v1 v2 v3 v4 v5 w = k67 v1 v2 v3 v4 v5 w) (v1 : Int32) (v2 : Int32) (v3 : Int32) (v4 : Int32) (v5 : Int32) (w : AH) (hL : Lay x w) : mB_X0_leads_185 R_X0_leads M67 x v1 v2 v3 v4 v5 w = fB_X0_leads_185 x r_X0_leads k67 v1 v2 v3 v4 v5 w := by
  unfold mB_X0_leads_185 fB_X0_leads_185
  exact hk67 v1 v2 v3 v4 (v5 + (1 : Int32)) w hL
set_option maxHeartbeats 4000000 in
theorem fB_X0_leads_67_e {x : Nat} {R_X0_leads : Nat → Int32 → Int32 → Int32 → AH → Option (AH)} {r_X0_leads : Int32 → Int32 → Int32 → AH → Option (AH)} (hr_X0_leads : ∀ (p0 : Int32) (p1 : Int32) (p2 : Int32) (w : AH), Lay x w → R_X0_leads x p0 p1 p2 w = r_X0_leads p0 p1 p2 w) (hs_X0_leads : ∀ (p0 : Int32) (p1 : Int32) (p2 : Int32) (w : AH) (w' : AH), r_X0_leads p0 p1 p2 w = some w' → Sx x w w') {M67 : Nat → Int32 → Int32 → Int32 → Int32 → Int32 → AH → Option (AH)} {k67 : Int32 → Int32 → Int32 → Int32 → Int32 → AH → Option (AH)} (hk67 : ∀ (v1 : Int32) (v2 : Int32) (v3 : Int32) (v4 : Int32) (v5 : Int32) (w : AH), Lay x w → M67 x v1 v2 v3 v4 v5 w = k67 v1 v2 v3 v4 v5 w) (v1 : Int32) (v2 : Int32) (v3 : Int32) (v4 : Int32) (v5 : Int32) (w : AH) (hL : Lay x w) : mB_X0_leads_67 R_X0_leads M67 x v1 v2 v3 v4 v5 w = fB_X0_leads_67 x r_X0_leads k67 v1 v2 v3 v4 v5 w := by
  unfold mB_X0_leads_67 fB_X0_leads_67
  rewrite [ck_t (kq_0 hL)]
  refine if_cg (fun hc21 => ?_) (fun hc21 => ?_)
  · rfl
  · rewrite [lr_0_2 hL, bd1_s]
    rewrite [lr_0_10 hL, bd1_s]
    rewrite [al_43 hL]
    refine ck_cg (fun h1 => ?_)
    rewrite [al_43 hL]
    refine ck_cg (fun h2 => ?_)
    rewrite [ck_t (kq_1 hL)]
    rewrite [fC_X1_far_e _ _ hL]
    refine bd1_cg (fun r4 hc3 => ?_)
    refine if_cg (fun hc20 => ?_) (fun hc20 => ?_)
    · exact fB_X0_leads_185_e hr_X0_leads hs_X0_leads hk67 v1 v2 v3 v4 v5 w hL
    · rewrite [lr_0_14 hL, bd1_s]
      rewrite [al_47 hL]
      refine ck_cg (fun h5 => ?_)
      refine if_cg (fun hc19 => ?_) (fun hc19 => ?_)
      · exact fB_X0_leads_185_e hr_X0_leads hs_X0_leads hk67 v1 v2 v3 v4 v5 w hL
      · rewrite [lr_0_15 hL, bd1_s]
        rewrite [al_48 hL]
        refine ck_cg (fun h6 => ?_)
        rewrite [lr_0_13 hL, bd1_s]
        rewrite [al_46 hL]
        refine ck_cg (fun h7 => ?_)
        refine if_cg (fun hc18 => ?_) (fun hc18 => ?_)
        · refine st1_cg (fun w8 hs9 => ?_)
          have hL := Lay.I hs9 hL
          rewrite [ck_t (kq_0 hL)]
          rewrite [lr_0_16 hL, bd1_s]
          rewrite [al_49 hL]
          refine ck_cg (fun h10 => ?_)
          refine st1_cg (fun w11 hs12 => ?_)
          have hL := Lay.I hs12 hL
          rewrite [ck_t (kq_0 hL)]
          rewrite [hr_X0_leads _ _ _ _ hL]
          refine bd1_cg (fun w14 hc13 => ?_)
          have hL := (hs_X0_leads _ _ _ _ _ hc13).1.lay hL
          rewrite [ck_t (kq_0 hL)]
          rewrite [lr_0_15 hL, bd1_s]
          rewrite [al_48 hL]
          refine ck_cg (fun h15 => ?_)
          refine st1_cg (fun w16 hs17 => ?_)
          have hL := Lay.I hs17 hL
          exact fB_X0_leads_185_e hr_X0_leads hs_X0_leads hk67 v1 v2 v3 v4 v5 w16 hL
        · exact fB_X0_leads_185_e hr_X0_leads hs_X0_leads hk67 v1 v2 v3 v4 v5 w hL
set_option maxHeartbeats 4000000 in
theorem fB_X0_leads_67_l {x : Nat} {R_X0_leads : Nat → Int32 → Int32 → Int32 → AH → Option (AH)} {r_X0_leads : Int32 → Int32 → Int32 → AH → Option (AH)} (hr_X0_leads : ∀ (p0 : Int32) (p1 : Int32) (p2 : Int32) (w : AH), Lay x w → R_X0_leads x p0 p1 p2 w = r_X0_leads p0 p1 p2 w) (hs_X0_leads : ∀ (p0 : Int32) (p1 : Int32) (p2 : Int32) (w : AH) (w' : AH), r_X0_leads p0 p1 p2 w = some w' → Sx x w w') : ∀ (n : Nat) (v1 : Int32) (v2 : Int32) (v3 : Int32) (v4 : Int32) (v5 : Int32) (w : AH), Lay x w → lq7 (mB_X0_leads_67 R_X0_leads) n x v1 v2 v3 v4 v5 w = lq6 (fB_X0_leads_67 x r_X0_leads) n v1 v2 v3 v4 v5 w
  | 0, _, _, _, _, _, _, _ => rfl
  | n + 1, v1, v2, v3, v4, v5, w, hL => fB_X0_leads_67_e hr_X0_leads hs_X0_leads (fB_X0_leads_67_l hr_X0_leads hs_X0_leads n) v1 v2 v3 v4 v5 w hL
set_option maxHeartbeats 4000000 in
theorem fB_X0_leads_17_e {x : Nat} {R_X0_leads : Nat → Int32 → Int32 → Int32 → AH → Option (AH)} {r_X0_leads : Int32 → Int32 → Int32 → AH → Option (AH)} (hr_X0_leads : ∀ (p0 : Int32) (p1 : Int32) (p2 : Int32) (w : AH), Lay x w → R_X0_leads x p0 p1 p2 w = r_X0_leads p0 p1 p2 w) (hs_X0_leads : ∀ (p0 : Int32) (p1 : Int32) (p2 : Int32) (w : AH) (w' : AH), r_X0_leads p0 p1 p2 w = some w' → Sx x w w') (v1 : Int32) (v2 : Int32) (v3 : Int32) (w : AH) (hL : Lay x w) : mB_X0_leads_17 R_X0_leads x v1 v2 v3 w = fB_X0_leads_17 x r_X0_leads v1 v2 v3 w := by
  unfold mB_X0_leads_17 fB_X0_leads_17
  rewrite [ck_t (kq_0 hL)]
  refine if_cg (fun hc8 => ?_) (fun hc8 => ?_)
  · refine st1_cg (fun w3 hs4 => ?_)
    have hL := Lay.I hs4 hL
    rewrite [ck_t (kq_0 hL)]
    rewrite [lr_0_16 hL, bd1_s]
    rewrite [lr_0_17 hL, bd1_s]
    rewrite [ck_t (ke_49 hL)]
    rewrite [ck_t (ke_50 hL)]
    rewrite [kn_49 hL, kn_50 hL]
    refine ck_cg (fun h5 => ?_)
    refine st1_cg (fun w6 hs7 => ?_)
    have hL := Lay.cI hs7 hL
    rfl
  · rewrite [lr_0_9 hL, bd1_s]
    rewrite [ck_t (kq_39 hL)]
    rewrite [lr_39_2 hL, bd1_s]
    rewrite [lr_0_10 hL, bd1_s]
    rewrite [al_43 hL]
    refine ck_cg (fun h1 => ?_)
    rewrite [al_42 hL]
    refine ck_cg (fun h2 => ?_)
    exact fB_X0_leads_67_l hr_X0_leads hs_X0_leads LF v1 v2 v3 (hvi w (x + 42) ((hvi w (x + 43) (v1.toNatClampNeg)).toNatClampNeg)) (0 : Int32) w hL
set_option maxHeartbeats 4000000 in
theorem fB_X0_leads_185_s {w' : AH} {x : Nat} {r_X0_leads : Int32 → Int32 → Int32 → AH → Option (AH)} (hs_X0_leads : ∀ (p0 : Int32) (p1 : Int32) (p2 : Int32) (w : AH) (w' : AH), r_X0_leads p0 p1 p2 w = some w' → Sd x w w') {k67 : Int32 → Int32 → Int32 → Int32 → Int32 → AH → Option (AH)} (hk67 : ∀ (v1 : Int32) (v2 : Int32) (v3 : Int32) (v4 : Int32) (v5 : Int32) (w : AH), k67 v1 v2 v3 v4 v5 w = some w' → Sd x w w') (v1 : Int32) (v2 : Int32) (v3 : Int32) (v4 : Int32) (v5 : Int32) (w : AH) (hf : fB_X0_leads_185 x r_X0_leads k67 v1 v2 v3 v4 v5 w = some w') : Sd x w w' := by
  unfold fB_X0_leads_185 at hf
  have hx := Sd.refl (x := x) w
  exact hx.trans (hk67 v1 v2 v3 v4 (v5 + (1 : Int32)) w hf)
set_option maxHeartbeats 4000000 in
theorem fB_X0_leads_67_s {w' : AH} {x : Nat} {r_X0_leads : Int32 → Int32 → Int32 → AH → Option (AH)} (hs_X0_leads : ∀ (p0 : Int32) (p1 : Int32) (p2 : Int32) (w : AH) (w' : AH), r_X0_leads p0 p1 p2 w = some w' → Sd x w w') {k67 : Int32 → Int32 → Int32 → Int32 → Int32 → AH → Option (AH)} (hk67 : ∀ (v1 : Int32) (v2 : Int32) (v3 : Int32) (v4 : Int32) (v5 : Int32) (w : AH), k67 v1 v2 v3 v4 v5 w = some w' → Sd x w w') (v1 : Int32) (v2 : Int32) (v3 : Int32) (v4 : Int32) (v5 : Int32) (w : AH) (hf : fB_X0_leads_67 x r_X0_leads k67 v1 v2 v3 v4 v5 w = some w') : Sd x w w' := by
  unfold fB_X0_leads_67 at hf
  have hx := Sd.refl (x := x) w
  by_cases hc21 : (hvi w x 19) ≤ v5
  · have hf := if_t hf hc21
    cases some_ex hf
    exact hx
  · have hf := if_f hf hc21
    obtain ⟨h1, hf⟩ := ck_ex hf
    obtain ⟨h2, hf⟩ := ck_ex hf
    obtain ⟨r4, hc3, hf⟩ := bd1_ex hf
    by_cases hc20 : ((v2 >>> (v5 &&& 31)) &&& (1 : Int32)) = (0 : Int32)
    · have hf := if_t hf hc20
      exact hx.trans (fB_X0_leads_185_s hs_X0_leads hk67 v1 v2 v3 v4 v5 w hf)
    · have hf := if_f hf hc20
      obtain ⟨h5, hf⟩ := ck_ex hf
      by_cases hc19 : (hvi w (x + 47) (v1.toNatClampNeg)) < r4
      · have hf := if_t hf hc19
        exact hx.trans (fB_X0_leads_185_s hs_X0_leads hk67 v1 v2 v3 v4 v5 w hf)
      · have hf := if_f hf hc19
        obtain ⟨h6, hf⟩ := ck_ex hf
        obtain ⟨h7, hf⟩ := ck_ex hf
        by_cases hc18 : ((hvi w (x + 48) (v5.toNatClampNeg)) + v4) ≤ (hvi w (x + 46) (v5.toNatClampNeg))
        · have hf := if_t hf hc18
          obtain ⟨w8, hs9, hf⟩ := st1_ex hf
          have hx := hx.trans (Sd.Ie hs9 (by unfold dS; omega))
          obtain ⟨h10, hf⟩ := ck_ex hf
          obtain ⟨w11, hs12, hf⟩ := st1_ex hf
          have hx := hx.trans (Sd.Ie hs12 (by unfold dS; omega))
          obtain ⟨w14, hc13, hf⟩ := bd1_ex hf
          have hx := hx.trans (hs_X0_leads _ _ _ _ _ hc13)
          obtain ⟨h15, hf⟩ := ck_ex hf
          obtain ⟨w16, hs17, hf⟩ := st1_ex hf
          have hx := hx.trans (Sd.Ie hs17 (by unfold dS; omega))
          exact hx.trans (fB_X0_leads_185_s hs_X0_leads hk67 v1 v2 v3 v4 v5 w16 hf)
        · have hf := if_f hf hc18
          exact hx.trans (fB_X0_leads_185_s hs_X0_leads hk67 v1 v2 v3 v4 v5 w hf)
set_option maxHeartbeats 4000000 in
theorem fB_X0_leads_67_t {w' : AH} {x : Nat} {r_X0_leads : Int32 → Int32 → Int32 → AH → Option (AH)} (hs_X0_leads : ∀ (p0 : Int32) (p1 : Int32) (p2 : Int32) (w : AH) (w' : AH), r_X0_leads p0 p1 p2 w = some w' → Sd x w w') : ∀ (n : Nat) (v1 : Int32) (v2 : Int32) (v3 : Int32) (v4 : Int32) (v5 : Int32) (w : AH), lq6 (fB_X0_leads_67 x r_X0_leads) n v1 v2 v3 v4 v5 w = some w' → Sd x w w'
  | 0, _, _, _, _, _, _, hf => nomatch hf
  | n + 1, v1, v2, v3, v4, v5, w, hf => fB_X0_leads_67_s hs_X0_leads (fB_X0_leads_67_t hs_X0_leads n) v1 v2 v3 v4 v5 w hf
set_option maxHeartbeats 4000000 in
theorem fB_X0_leads_17_s {w' : AH} {x : Nat} {r_X0_leads : Int32 → Int32 → Int32 → AH → Option (AH)} (hs_X0_leads : ∀ (p0 : Int32) (p1 : Int32) (p2 : Int32) (w : AH) (w' : AH), r_X0_leads p0 p1 p2 w = some w' → Sd x w w') (v1 : Int32) (v2 : Int32) (v3 : Int32) (w : AH) (hf : fB_X0_leads_17 x r_X0_leads v1 v2 v3 w = some w') : Sd x w w' := by
  unfold fB_X0_leads_17 at hf
  have hx := Sd.refl (x := x) w
  by_cases hc8 : v1 = (hvi w x 19)
  · have hf := if_t hf hc8
    obtain ⟨w3, hs4, hf⟩ := st1_ex hf
    have hx := hx.trans (Sd.Ie hs4 (by unfold dS; omega))
    obtain ⟨h5, hf⟩ := ck_ex hf
    obtain ⟨w6, hs7, hf⟩ := st1_ex hf
    have hx := hx.trans (Sd.cIe hs7 (by unfold dS; omega))
    cases some_ex hf
    exact hx
  · have hf := if_f hf hc8
    obtain ⟨h1, hf⟩ := ck_ex hf
    obtain ⟨h2, hf⟩ := ck_ex hf
    exact hx.trans (fB_X0_leads_67_t hs_X0_leads LF v1 v2 v3 (hvi w (x + 42) ((hvi w (x + 43) (v1.toNatClampNeg)).toNatClampNeg)) (0 : Int32) w hf)
set_option maxHeartbeats 4000000 in
theorem fB_X0_leads_e {x : Nat} {w : AH} {R_X0_leads : Nat → Int32 → Int32 → Int32 → AH → Option (AH)} {r_X0_leads : Int32 → Int32 → Int32 → AH → Option (AH)} (hr_X0_leads : ∀ (p0 : Int32) (p1 : Int32) (p2 : Int32) (w : AH), Lay x w → R_X0_leads x p0 p1 p2 w = r_X0_leads p0 p1 p2 w) (hs_X0_leads : ∀ (p0 : Int32) (p1 : Int32) (p2 : Int32) (w : AH) (w' : AH), r_X0_leads p0 p1 p2 w = some w' → Sx x w w') (p0 : Int32) (p1 : Int32) (p2 : Int32) (hL : Lay x w) : mB_X0_leads R_X0_leads x p0 p1 p2 w = fB_X0_leads x r_X0_leads p0 p1 p2 w := by
  unfold mB_X0_leads fB_X0_leads
  rewrite [ck_t (kq_0 hL)]
  refine if_cg (fun hc2 => ?_) (fun hc2 => ?_)
  · exact fB_X0_leads_17_e hr_X0_leads hs_X0_leads p0 p1 p2 w hL
  · refine if_cg (fun hc1 => ?_) (fun hc1 => ?_)
    · exact fB_X0_leads_17_e hr_X0_leads hs_X0_leads p0 p1 p2 w hL
    · rfl
set_option maxHeartbeats 4000000 in
theorem fB_X0_leads_s {x : Nat} {r_X0_leads : Int32 → Int32 → Int32 → AH → Option (AH)} (hs_X0_leads : ∀ (p0 : Int32) (p1 : Int32) (p2 : Int32) (w : AH) (w' : AH), r_X0_leads p0 p1 p2 w = some w' → Sd x w w') (p0 : Int32) (p1 : Int32) (p2 : Int32) (w : AH) (w' : AH) (hf : fB_X0_leads x r_X0_leads p0 p1 p2 w = some w') : Sd x w w' := by
  unfold fB_X0_leads at hf
  have hx := Sd.refl (x := x) w
  by_cases hc2 : (hvi w x 22) = (-1 : Int32)
  · have hf := if_t hf hc2
    exact hx.trans (fB_X0_leads_17_s hs_X0_leads p0 p1 p2 w hf)
  · have hf := if_f hf hc2
    by_cases hc1 : p2 < (hvi w x 22)
    · have hf := if_t hf hc1
      exact hx.trans (fB_X0_leads_17_s hs_X0_leads p0 p1 p2 w hf)
    · have hf := if_f hf hc1
      cases some_ex hf
      exact hx
set_option maxHeartbeats 4000000 in
theorem fC_X0_leads_s {x : Nat} : ∀ (n : Nat) (p0 : Int32) (p1 : Int32) (p2 : Int32) (w : AH) (w' : AH), fC_X0_leads x n p0 p1 p2 w = some w' → Sd x w w'
  | 0, _, _, _, _, _, hf => nomatch hf
  | n + 1, p0, p1, p2, w, w', hf => fB_X0_leads_s (fC_X0_leads_s n) p0 p1 p2 w w' hf
set_option maxHeartbeats 4000000 in
theorem fC_X0_leads_eN {x : Nat} : ∀ (n : Nat) (p0 : Int32) (p1 : Int32) (p2 : Int32) (w : AH), Lay x w → mC_X0_leads n x p0 p1 p2 w = fC_X0_leads x n p0 p1 p2 w
  | 0, _, _, _, _, _ => rfl
  | n + 1, p0, p1, p2, w, hL => fB_X0_leads_e (fC_X0_leads_eN n) (fun p0 p1 p2 w w' hf => (fC_X0_leads_s n p0 p1 p2 w w' hf).sc.sx) p0 p1 p2 hL
set_option maxHeartbeats 4000000 in
theorem fC_X0_leads_e {x : Nat} {w : AH} (n : Nat) (p0 : Int32) (p1 : Int32) (p2 : Int32) (hL : Lay x w) : mC_X0_leads n x p0 p1 p2 w = fC_X0_leads x n p0 p1 p2 w := fC_X0_leads_eN n p0 p1 p2 w hL
set_option maxHeartbeats 4000000 in
theorem fC_X0_sumOf_7_e {x : Nat} {M7 : Nat → Int32 → Int32 → AH → Option (Int32 × AH)} {k7 : Int32 → Int32 → AH → Option (Int32 × AH)} (hk7 : ∀ (v1 : Int32) (v2 : Int32) (w : AH), Lay x w → M7 x v1 v2 w = k7 v1 v2 w) (v1 : Int32) (v2 : Int32) (w : AH) (hL : Lay x w) : mC_X0_sumOf_7 M7 x v1 v2 w = fC_X0_sumOf_7 x k7 v1 v2 w := by
  unfold mC_X0_sumOf_7 fC_X0_sumOf_7
  rewrite [ck_t (kq_0 hL)]
  refine if_cg (fun hc6 => ?_) (fun hc6 => ?_)
  · rewrite [fC_X0_leads_e 200 _ _ _ hL]
    refine bd1_cg (fun w2 hc1 => ?_)
    have hL := (fC_X0_leads_s 200 _ _ _ _ _ hc1).1.lay hL
    rewrite [ck_t (kq_0 hL)]
    rfl
  · rewrite [lr_0_15 hL, bd1_s]
    rewrite [al_48 hL]
    refine ck_cg (fun h3 => ?_)
    refine st1_cg (fun w4 hs5 => ?_)
    have hL := Lay.I hs5 hL
    exact hk7 v1 (v2 + (1 : Int32)) w4 hL
set_option maxHeartbeats 4000000 in
theorem fC_X0_sumOf_7_l {x : Nat} : ∀ (n : Nat) (v1 : Int32) (v2 : Int32) (w : AH), Lay x w → lq4 (mC_X0_sumOf_7) n x v1 v2 w = lq3 (fC_X0_sumOf_7 x) n v1 v2 w
  | 0, _, _, _, _ => rfl
  | n + 1, v1, v2, w, hL => fC_X0_sumOf_7_e (fC_X0_sumOf_7_l n) v1 v2 w hL
set_option maxHeartbeats 4000000 in
theorem fC_X0_sumOf_7_s {r : Int32} {w' : AH} {x : Nat} {k7 : Int32 → Int32 → AH → Option (Int32 × AH)} (hk7 : ∀ (v1 : Int32) (v2 : Int32) (w : AH), k7 v1 v2 w = some (r, w') → Sd x w w') (v1 : Int32) (v2 : Int32) (w : AH) (hf : fC_X0_sumOf_7 x k7 v1 v2 w = some (r, w')) : Sd x w w' := by
  unfold fC_X0_sumOf_7 at hf
  have hx := Sd.refl (x := x) w
  by_cases hc6 : (hvi w x 19) ≤ v2
  · have hf := if_t hf hc6
    obtain ⟨w2, hc1, hf⟩ := bd1_ex hf
    have hx := hx.trans (fC_X0_leads_s 200 _ _ _ _ _ hc1)
    cases some_ex hf
    exact hx
  · have hf := if_f hf hc6
    obtain ⟨h3, hf⟩ := ck_ex hf
    obtain ⟨w4, hs5, hf⟩ := st1_ex hf
    have hx := hx.trans (Sd.Ie hs5 (by unfold dS; omega))
    exact hx.trans (hk7 v1 (v2 + (1 : Int32)) w4 hf)
set_option maxHeartbeats 4000000 in
theorem fC_X0_sumOf_7_t {r : Int32} {w' : AH} {x : Nat} : ∀ (n : Nat) (v1 : Int32) (v2 : Int32) (w : AH), lq3 (fC_X0_sumOf_7 x) n v1 v2 w = some (r, w') → Sd x w w'
  | 0, _, _, _, hf => nomatch hf
  | n + 1, v1, v2, w, hf => fC_X0_sumOf_7_s (fC_X0_sumOf_7_t n) v1 v2 w hf
set_option maxHeartbeats 4000000 in
theorem fC_X0_sumOf_e {x : Nat} {w : AH} (p0 : Int32) (hL : Lay x w) : mC_X0_sumOf x p0 w = fC_X0_sumOf x p0 w := by
  unfold mC_X0_sumOf fC_X0_sumOf
  rewrite [ck_t (kq_0 hL)]
  refine st1_cg (fun w1 hs2 => ?_)
  have hL := Lay.I hs2 hL
  exact fC_X0_sumOf_7_l LF p0 (0 : Int32) w1 hL
set_option maxHeartbeats 4000000 in
theorem fC_X0_sumOf_s {x : Nat} (p0 : Int32) (w : AH) (r : Int32) (w' : AH) (hf : fC_X0_sumOf x p0 w = some (r, w')) : Sd x w w' := by
  unfold fC_X0_sumOf at hf
  have hx := Sd.refl (x := x) w
  obtain ⟨w1, hs2, hf⟩ := st1_ex hf
  have hx := hx.trans (Sd.Ie hs2 (by unfold dS; omega))
  exact hx.trans (fC_X0_sumOf_7_t LF p0 (0 : Int32) w1 hf)
set_option maxHeartbeats 4000000 in
theorem fC_X0_booths_143_e {x : Nat} (v3 : Int32) (v4 : Int32) (w : AH) (hL : Lay x w) : mC_X0_booths_143 x v3 v4 w = fC_X0_booths_143 x v3 v4 w := by
  unfold mC_X0_booths_143 fC_X0_booths_143
  refine if_cg (fun hc5 => ?_) (fun hc5 => ?_)
  · rfl
  · rewrite [ck_t (kq_0 hL)]
    refine st1_cg (fun w1 hs2 => ?_)
    have hL := Lay.I hs2 hL
    rewrite [ck_t (kq_0 hL)]
    refine st1_cg (fun w3 hs4 => ?_)
    have hL := Lay.I hs4 hL
    rfl
set_option maxHeartbeats 4000000 in
theorem fC_X0_booths_131_e {x : Nat} {M54 : Nat → Int32 → Int32 → Int32 → Int32 → AH → Option (Int32 × AH)} {k54 : Int32 → Int32 → Int32 → Int32 → AH → Option (Int32 × AH)} (hk54 : ∀ (v3 : Int32) (v4 : Int32) (v5 : Int32) (v6 : Int32) (w : AH), Lay x w → M54 x v3 v4 v5 v6 w = k54 v3 v4 v5 v6 w) (v3 : Int32) (v4 : Int32) (v5 : Int32) (v6 : Int32) (w : AH) (hL : Lay x w) : mC_X0_booths_131 M54 x v3 v4 v5 v6 w = fC_X0_booths_131 x k54 v3 v4 v5 v6 w := by
  unfold mC_X0_booths_131 fC_X0_booths_131
  exact hk54 v3 v4 v5 (v6 + (1 : Int32)) w hL
set_option maxHeartbeats 4000000 in
theorem fC_X0_booths_107_e {x : Nat} {M54 : Nat → Int32 → Int32 → Int32 → Int32 → AH → Option (Int32 × AH)} {k54 : Int32 → Int32 → Int32 → Int32 → AH → Option (Int32 × AH)} (hk54 : ∀ (v3 : Int32) (v4 : Int32) (v5 : Int32) (v6 : Int32) (w : AH), Lay x w → M54 x v3 v4 v5 v6 w = k54 v3 v4 v5 v6 w) (v5 : Int32) (v6 : Int32) (v7 : Int32) (w : AH) (hL : Lay x w) : mC_X0_booths_107 M54 x v5 v6 v7 w = fC_X0_booths_107 x k54 v5 v6 v7 w := by
  unfold mC_X0_booths_107 fC_X0_booths_107
  rewrite [ck_t (kq_0 hL)]
  rewrite [lr_0_17 hL, bd1_s]
  rewrite [lr_0_18 hL, bd1_s]
  rewrite [ck_t (ke_50 hL)]
  rewrite [ck_t (ke_51 hL)]
  rewrite [kn_50 hL, kn_51 hL]
  refine ck_cg (fun h1 => ?_)
  refine st1_cg (fun w2 hs3 => ?_)
  have hL := Lay.cI hs3 hL
  exact fC_X0_booths_131_e hk54 v6 v7 v5 v6 w2 hL
set_option maxHeartbeats 4000000 in
theorem fC_X0_booths_54_e {x : Nat} {M37 : Nat → Int32 → Int32 → Int32 → AH → Option (Int32 × AH)} {k37 : Int32 → Int32 → Int32 → AH → Option (Int32 × AH)} {M54 : Nat → Int32 → Int32 → Int32 → Int32 → AH → Option (Int32 × AH)} {k54 : Int32 → Int32 → Int32 → Int32 → AH → Option (Int32 × AH)} (hk37 : ∀ (v3 : Int32) (v4 : Int32) (v5 : Int32) (w : AH), Lay x w → M37 x v3 v4 v5 w = k37 v3 v4 v5 w) (hk54 : ∀ (v3 : Int32) (v4 : Int32) (v5 : Int32) (v6 : Int32) (w : AH), Lay x w → M54 x v3 v4 v5 v6 w = k54 v3 v4 v5 v6 w) (v3 : Int32) (v4 : Int32) (v5 : Int32) (v6 : Int32) (w : AH) (hL : Lay x w) : mC_X0_booths_54 M37 M54 x v3 v4 v5 v6 w = fC_X0_booths_54 x k37 k54 v3 v4 v5 v6 w := by
  unfold mC_X0_booths_54 fC_X0_booths_54
  rewrite [ck_t (kq_0 hL)]
  refine if_cg (fun hc10 => ?_) (fun hc10 => ?_)
  · exact hk37 v3 v4 (v5 + (1 : Int32)) w hL
  · refine bd1_cg (fun r2 hc1 => ?_)
    refine if_cg (fun hc9 => ?_) (fun hc9 => ?_)
    · rewrite [fC_X0_sumOf_e _ hL]
      refine bd2_cg (fun r5 w4 hc3 => ?_)
      have hL := (fC_X0_sumOf_s _ _ _ _ hc3).1.lay hL
      refine if_cg (fun hc8 => ?_) (fun hc8 => ?_)
      · exact fC_X0_booths_131_e hk54 v3 v4 v5 v6 w4 hL
      · refine if_cg (fun hc7 => ?_) (fun hc7 => ?_)
        · exact fC_X0_booths_107_e hk54 v5 v6 r5 w4 hL
        · refine if_cg (fun hc6 => ?_) (fun hc6 => ?_)
          · exact fC_X0_booths_107_e hk54 v5 v6 r5 w4 hL
          · exact fC_X0_booths_131_e hk54 v3 v4 v5 v6 w4 hL
    · exact fC_X0_booths_131_e hk54 v3 v4 v5 v6 w hL
set_option maxHeartbeats 4000000 in
theorem fC_X0_booths_54_l {x : Nat} {M37 : Nat → Int32 → Int32 → Int32 → AH → Option (Int32 × AH)} {k37 : Int32 → Int32 → Int32 → AH → Option (Int32 × AH)} (hk37 : ∀ (v3 : Int32) (v4 : Int32) (v5 : Int32) (w : AH), Lay x w → M37 x v3 v4 v5 w = k37 v3 v4 v5 w) : ∀ (n : Nat) (v3 : Int32) (v4 : Int32) (v5 : Int32) (v6 : Int32) (w : AH), Lay x w → lq6 (mC_X0_booths_54 M37) n x v3 v4 v5 v6 w = lq5 (fC_X0_booths_54 x k37) n v3 v4 v5 v6 w
  | 0, _, _, _, _, _, _ => rfl
  | n + 1, v3, v4, v5, v6, w, hL => fC_X0_booths_54_e hk37 (fC_X0_booths_54_l hk37 n) v3 v4 v5 v6 w hL
set_option maxHeartbeats 4000000 in
theorem fC_X0_booths_37_e {x : Nat} {M37 : Nat → Int32 → Int32 → Int32 → AH → Option (Int32 × AH)} {k37 : Int32 → Int32 → Int32 → AH → Option (Int32 × AH)} (hk37 : ∀ (v3 : Int32) (v4 : Int32) (v5 : Int32) (w : AH), Lay x w → M37 x v3 v4 v5 w = k37 v3 v4 v5 w) (v3 : Int32) (v4 : Int32) (v5 : Int32) (w : AH) (hL : Lay x w) : mC_X0_booths_37 M37 x v3 v4 v5 w = fC_X0_booths_37 x k37 v3 v4 v5 w := by
  unfold mC_X0_booths_37 fC_X0_booths_37
  rewrite [ck_t (kq_0 hL)]
  refine if_cg (fun hc2 => ?_) (fun hc2 => ?_)
  · exact fC_X0_booths_143_e v3 v4 w hL
  · refine if_cg (fun hc1 => ?_) (fun hc1 => ?_)
    · exact fC_X0_booths_54_l hk37 LF v3 v4 v5 (0 : Int32) w hL
    · exact fC_X0_booths_143_e v3 v4 w hL
set_option maxHeartbeats 4000000 in
theorem fC_X0_booths_37_l {x : Nat} : ∀ (n : Nat) (v3 : Int32) (v4 : Int32) (v5 : Int32) (w : AH), Lay x w → lq5 (mC_X0_booths_37) n x v3 v4 v5 w = lq4 (fC_X0_booths_37 x) n v3 v4 v5 w
  | 0, _, _, _, _, _ => rfl
  | n + 1, v3, v4, v5, w, hL => fC_X0_booths_37_e (fC_X0_booths_37_l n) v3 v4 v5 w hL
set_option maxHeartbeats 4000000 in
theorem fC_X0_booths_143_s {r : Int32} {w' : AH} {x : Nat} (v3 : Int32) (v4 : Int32) (w : AH) (hf : fC_X0_booths_143 x v3 v4 w = some (r, w')) : Sx x w w' := by
  unfold fC_X0_booths_143 at hf
  have hx := Sx.refl (x := x) w
  by_cases hc5 : v3 = (-1 : Int32)
  · have hf := if_t hf hc5
    cases some_ex hf
    exact hx
  · have hf := if_f hf hc5
    obtain ⟨w1, hs2, hf⟩ := st1_ex hf
    have hx := hx.trans (Sx.Ie hs2 (by omega))
    obtain ⟨w3, hs4, hf⟩ := st1_ex hf
    have hx := hx.trans (Sx.Ie hs4 (by omega))
    cases some_ex hf
    exact hx
set_option maxHeartbeats 4000000 in
theorem fC_X0_booths_131_s {r : Int32} {w' : AH} {x : Nat} {k54 : Int32 → Int32 → Int32 → Int32 → AH → Option (Int32 × AH)} (hk54 : ∀ (v3 : Int32) (v4 : Int32) (v5 : Int32) (v6 : Int32) (w : AH), k54 v3 v4 v5 v6 w = some (r, w') → Sx x w w') (v3 : Int32) (v4 : Int32) (v5 : Int32) (v6 : Int32) (w : AH) (hf : fC_X0_booths_131 x k54 v3 v4 v5 v6 w = some (r, w')) : Sx x w w' := by
  unfold fC_X0_booths_131 at hf
  have hx := Sx.refl (x := x) w
  exact hx.trans (hk54 v3 v4 v5 (v6 + (1 : Int32)) w hf)
set_option maxHeartbeats 4000000 in
theorem fC_X0_booths_107_s {r : Int32} {w' : AH} {x : Nat} {k54 : Int32 → Int32 → Int32 → Int32 → AH → Option (Int32 × AH)} (hk54 : ∀ (v3 : Int32) (v4 : Int32) (v5 : Int32) (v6 : Int32) (w : AH), k54 v3 v4 v5 v6 w = some (r, w') → Sx x w w') (v5 : Int32) (v6 : Int32) (v7 : Int32) (w : AH) (hf : fC_X0_booths_107 x k54 v5 v6 v7 w = some (r, w')) : Sx x w w' := by
  unfold fC_X0_booths_107 at hf
  have hx := Sx.refl (x := x) w
  obtain ⟨h1, hf⟩ := ck_ex hf
  obtain ⟨w2, hs3, hf⟩ := st1_ex hf
  have hx := hx.trans (Sx.cIe hs3 (by omega))
  exact hx.trans (fC_X0_booths_131_s hk54 v6 v7 v5 v6 w2 hf)
set_option maxHeartbeats 4000000 in
theorem fC_X0_booths_54_s {r : Int32} {w' : AH} {x : Nat} {k37 : Int32 → Int32 → Int32 → AH → Option (Int32 × AH)} {k54 : Int32 → Int32 → Int32 → Int32 → AH → Option (Int32 × AH)} (hk37 : ∀ (v3 : Int32) (v4 : Int32) (v5 : Int32) (w : AH), k37 v3 v4 v5 w = some (r, w') → Sx x w w') (hk54 : ∀ (v3 : Int32) (v4 : Int32) (v5 : Int32) (v6 : Int32) (w : AH), k54 v3 v4 v5 v6 w = some (r, w') → Sx x w w') (v3 : Int32) (v4 : Int32) (v5 : Int32) (v6 : Int32) (w : AH) (hf : fC_X0_booths_54 x k37 k54 v3 v4 v5 v6 w = some (r, w')) : Sx x w w' := by
  unfold fC_X0_booths_54 at hf
  have hx := Sx.refl (x := x) w
  by_cases hc10 : ((1 : Int32) <<< ((hvi w x 19) &&& 31)) ≤ v6
  · have hf := if_t hf hc10
    exact hx.trans (hk37 v3 v4 (v5 + (1 : Int32)) w hf)
  · have hf := if_f hf hc10
    obtain ⟨r2, hc1, hf⟩ := bd1_ex hf
    by_cases hc9 : r2 = v5
    · have hf := if_t hf hc9
      obtain ⟨r5, w4, hc3, hf⟩ := bd2_ex hf
      have hx := hx.trans (fC_X0_sumOf_s _ _ _ _ hc3).sc.sx
      by_cases hc8 : r5 = (-1 : Int32)
      · have hf := if_t hf hc8
        exact hx.trans (fC_X0_booths_131_s hk54 v3 v4 v5 v6 w4 hf)
      · have hf := if_f hf hc8
        by_cases hc7 : v3 = (-1 : Int32)
        · have hf := if_t hf hc7
          exact hx.trans (fC_X0_booths_107_s hk54 v5 v6 r5 w4 hf)
        · have hf := if_f hf hc7
          by_cases hc6 : r5 < v4
          · have hf := if_t hf hc6
            exact hx.trans (fC_X0_booths_107_s hk54 v5 v6 r5 w4 hf)
          · have hf := if_f hf hc6
            exact hx.trans (fC_X0_booths_131_s hk54 v3 v4 v5 v6 w4 hf)
    · have hf := if_f hf hc9
      exact hx.trans (fC_X0_booths_131_s hk54 v3 v4 v5 v6 w hf)
set_option maxHeartbeats 4000000 in
theorem fC_X0_booths_54_t {r : Int32} {w' : AH} {x : Nat} {k37 : Int32 → Int32 → Int32 → AH → Option (Int32 × AH)} (hk37 : ∀ (v3 : Int32) (v4 : Int32) (v5 : Int32) (w : AH), k37 v3 v4 v5 w = some (r, w') → Sx x w w') : ∀ (n : Nat) (v3 : Int32) (v4 : Int32) (v5 : Int32) (v6 : Int32) (w : AH), lq5 (fC_X0_booths_54 x k37) n v3 v4 v5 v6 w = some (r, w') → Sx x w w'
  | 0, _, _, _, _, _, hf => nomatch hf
  | n + 1, v3, v4, v5, v6, w, hf => fC_X0_booths_54_s hk37 (fC_X0_booths_54_t hk37 n) v3 v4 v5 v6 w hf
set_option maxHeartbeats 4000000 in
theorem fC_X0_booths_37_s {r : Int32} {w' : AH} {x : Nat} {k37 : Int32 → Int32 → Int32 → AH → Option (Int32 × AH)} (hk37 : ∀ (v3 : Int32) (v4 : Int32) (v5 : Int32) (w : AH), k37 v3 v4 v5 w = some (r, w') → Sx x w w') (v3 : Int32) (v4 : Int32) (v5 : Int32) (w : AH) (hf : fC_X0_booths_37 x k37 v3 v4 v5 w = some (r, w')) : Sx x w w' := by
  unfold fC_X0_booths_37 at hf
  have hx := Sx.refl (x := x) w
  by_cases hc2 : (hvi w x 19) < v5
  · have hf := if_t hf hc2
    exact hx.trans (fC_X0_booths_143_s v3 v4 w hf)
  · have hf := if_f hf hc2
    by_cases hc1 : v3 = (-1 : Int32)
    · have hf := if_t hf hc1
      exact hx.trans (fC_X0_booths_54_t hk37 LF v3 v4 v5 (0 : Int32) w hf)
    · have hf := if_f hf hc1
      exact hx.trans (fC_X0_booths_143_s v3 v4 w hf)
set_option maxHeartbeats 4000000 in
theorem fC_X0_booths_37_t {r : Int32} {w' : AH} {x : Nat} : ∀ (n : Nat) (v3 : Int32) (v4 : Int32) (v5 : Int32) (w : AH), lq4 (fC_X0_booths_37 x) n v3 v4 v5 w = some (r, w') → Sx x w w'
  | 0, _, _, _, _, hf => nomatch hf
  | n + 1, v3, v4, v5, w, hf => fC_X0_booths_37_s (fC_X0_booths_37_t n) v3 v4 v5 w hf
set_option maxHeartbeats 4000000 in
theorem fC_X0_booths_e {x : Nat} {w : AH} (p0 : Int32) (p1 : Int32) (hL : Lay x w) : mC_X0_booths x p0 p1 w = fC_X0_booths x p0 p1 w := by
  unfold mC_X0_booths fC_X0_booths
  refine bd1_cg (fun r2 hc1 => ?_)
  refine if_cg (fun hc11 => ?_) (fun hc11 => ?_)
  · rfl
  · refine bd1_cg (fun r4 hc3 => ?_)
    refine if_cg (fun hc10 => ?_) (fun hc10 => ?_)
    · rfl
    · rewrite [ck_t (kq_0 hL)]
      rewrite [fC_X0_areThere_e  hL]
      refine bd1_cg (fun r6 hc5 => ?_)
      refine if_cg (fun hc9 => ?_) (fun hc9 => ?_)
      · rfl
      · rewrite [fC_X0_lays_e _ _ hL]
        refine bd1_cg (fun w8 hc7 => ?_)
        have hL := (fC_X0_lays_s _ _ _ _ hc7).1.lay hL
        exact fC_X0_booths_37_l LF (-1 : Int32) (0 : Int32) (0 : Int32) w8 hL
set_option maxHeartbeats 4000000 in
theorem fC_X0_booths_s {x : Nat} (p0 : Int32) (p1 : Int32) (w : AH) (r : Int32) (w' : AH) (hf : fC_X0_booths x p0 p1 w = some (r, w')) : Sx x w w' := by
  unfold fC_X0_booths at hf
  have hx := Sx.refl (x := x) w
  obtain ⟨r2, hc1, hf⟩ := bd1_ex hf
  by_cases hc11 : r2 = (0 : Int32)
  · have hf := if_t hf hc11
    cases some_ex hf
    exact hx
  · have hf := if_f hf hc11
    obtain ⟨r4, hc3, hf⟩ := bd1_ex hf
    by_cases hc10 : r4 = (0 : Int32)
    · have hf := if_t hf hc10
      cases some_ex hf
      exact hx
    · have hf := if_f hf hc10
      obtain ⟨r6, hc5, hf⟩ := bd1_ex hf
      by_cases hc9 : r6 = (0 : Int32)
      · have hf := if_t hf hc9
        cases some_ex hf
        exact hx
      · have hf := if_f hf hc9
        obtain ⟨w8, hc7, hf⟩ := bd1_ex hf
        have hx := hx.trans (fC_X0_lays_s _ _ _ _ hc7).sx
        exact hx.trans (fC_X0_booths_37_t LF (-1 : Int32) (0 : Int32) (0 : Int32) w8 hf)
set_option maxHeartbeats 4000000 in
theorem fC_X0_led_e {x : Nat} {w : AH} (p0 : Int32) (hL : Lay x w) : mC_X0_led x p0 w = fC_X0_led x p0 w := by
  unfold mC_X0_led fC_X0_led
  rewrite [ck_t (kq_0 hL)]
  refine if_cg (fun hc6 => ?_) (fun hc6 => ?_)
  · rfl
  · refine bd1_cg (fun r2 hc1 => ?_)
    refine if_cg (fun hc5 => ?_) (fun hc5 => ?_)
    · rfl
    · refine if_cg (fun hc4 => ?_) (fun hc4 => ?_)
      · rfl
      · rewrite [lr_0_18 hL, bd1_s]
        rewrite [al_51 hL]
        refine ck_cg (fun h3 => ?_)
        rfl
set_option maxHeartbeats 4000000 in
theorem fC_X0_judge_e {x : Nat} {w : AH} (p0 : Int32) (p1 : Int32) (p2 : Int32) (hL : Lay x w) : mC_X0_judge x p0 p1 p2 w = fC_X0_judge x p0 p1 p2 w := by
  unfold mC_X0_judge fC_X0_judge
  refine bd1_cg (fun r2 hc1 => ?_)
  refine if_cg (fun hc16 => ?_) (fun hc16 => ?_)
  · rfl
  · refine bd1_cg (fun r4 hc3 => ?_)
    refine if_cg (fun hc15 => ?_) (fun hc15 => ?_)
    · rfl
    · refine if_cg (fun hc14 => ?_) (fun hc14 => ?_)
      · rfl
      · rewrite [ck_t (kq_0 hL)]
        refine if_cg (fun hc13 => ?_) (fun hc13 => ?_)
        · rewrite [fC_X0_areThere_e  hL]
          refine bd1_cg (fun r6 hc5 => ?_)
          refine if_cg (fun hc12 => ?_) (fun hc12 => ?_)
          · rfl
          · rewrite [fC_X0_lays_e _ _ hL]
            refine bd1_cg (fun w8 hc7 => ?_)
            have hL := (fC_X0_lays_s _ _ _ _ hc7).1.lay hL
            rewrite [ck_t (kq_0 hL)]
            rewrite [fC_X0_sumOf_e _ hL]
            refine bd2_cg (fun r11 w10 hc9 => ?_)
            have hL := (fC_X0_sumOf_s _ _ _ _ hc9).1.lay hL
            rfl
        · rfl
set_option maxHeartbeats 4000000 in
theorem fC_X0_judge_s {x : Nat} (p0 : Int32) (p1 : Int32) (p2 : Int32) (w : AH) (r : Int32) (w' : AH) (hf : fC_X0_judge x p0 p1 p2 w = some (r, w')) : Sc x w w' := by
  unfold fC_X0_judge at hf
  have hx := Sc.refl (x := x) w
  obtain ⟨r2, hc1, hf⟩ := bd1_ex hf
  by_cases hc16 : r2 = (0 : Int32)
  · have hf := if_t hf hc16
    cases some_ex hf
    exact hx
  · have hf := if_f hf hc16
    obtain ⟨r4, hc3, hf⟩ := bd1_ex hf
    by_cases hc15 : r4 = (0 : Int32)
    · have hf := if_t hf hc15
      cases some_ex hf
      exact hx
    · have hf := if_f hf hc15
      by_cases hc14 : p0 < (0 : Int32)
      · have hf := if_t hf hc14
        cases some_ex hf
        exact hx
      · have hf := if_f hf hc14
        by_cases hc13 : (p0 >>> ((hvi w x 19) &&& 31)) = (0 : Int32)
        · have hf := if_t hf hc13
          obtain ⟨r6, hc5, hf⟩ := bd1_ex hf
          by_cases hc12 : r6 = (0 : Int32)
          · have hf := if_t hf hc12
            cases some_ex hf
            exact hx
          · have hf := if_f hf hc12
            obtain ⟨w8, hc7, hf⟩ := bd1_ex hf
            have hx := hx.trans (fC_X0_lays_s _ _ _ _ hc7)
            obtain ⟨r11, w10, hc9, hf⟩ := bd2_ex hf
            have hx := hx.trans (fC_X0_sumOf_s _ _ _ _ hc9).sc
            cases some_ex hf
            exact hx
        · have hf := if_f hf hc13
          cases some_ex hf
          exact hx
set_option maxHeartbeats 4000000 in
theorem fC_X0_booth_e {x : Nat} {w : AH} (p0 : Int32) (hL : Lay x w) : mC_X0_booth x p0 w = fC_X0_booth x p0 w := by
  unfold mC_X0_booth fC_X0_booth
  rewrite [ck_t (kq_0 hL)]
  rewrite [fC_X0_isPlace_e _ hL]
  refine bd1_cg (fun r2 hc1 => ?_)
  refine if_cg (fun hc21 => ?_) (fun hc21 => ?_)
  · rewrite [fC_X0_refuse_e _ hL]
    refine bd2_cg (fun r20 w19 hc18 => ?_)
    have hL := (fC_X0_refuse_s _ _ _ _ hc18).1.lay hL
    rfl
  · rewrite [lr_0_2 hL, bd1_s]
    rewrite [ck_t (kq_1 hL)]
    refine if_cg (fun hc17 => ?_) (fun hc17 => ?_)
    · rewrite [fC_X0_refuse_e _ hL]
      refine bd2_cg (fun r16 w15 hc14 => ?_)
      have hL := (fC_X0_refuse_s _ _ _ _ hc14).1.lay hL
      rfl
    · rewrite [lr_1_14 hL, bd1_s]
      rewrite [al_22 hL]
      refine ck_cg (fun h3 => ?_)
      refine st1_cg (fun w4 hs5 => ?_)
      have hL := Lay.I hs5 hL
      rewrite [ck_t (kq_0 hL)]
      rewrite [lr_0_2 hL, bd1_s]
      rewrite [ck_t (kq_1 hL)]
      rewrite [lr_1_18 hL, bd1_s]
      rewrite [al_26 hL]
      refine ck_cg (fun h6 => ?_)
      refine st1_cg (fun w7 hs8 => ?_)
      have hL := Lay.I hs8 hL
      rewrite [ck_t (kq_0 hL)]
      rewrite [lr_0_2 hL, bd1_s]
      rewrite [ck_t (kq_1 hL)]
      refine st1_cg (fun w9 hs10 => ?_)
      have hL := Lay.I hs10 hL
      rewrite [ck_t (kq_0 hL)]
      rewrite [lr_0_2 hL, bd1_s]
      rewrite [ck_t (kq_1 hL)]
      rewrite [fC_X0_told_e _ hL]
      refine bd2_cg (fun r13 w12 hc11 => ?_)
      have hL := (fC_X0_told_s _ _ _ _ hc11).1.lay hL
      rfl
set_option maxHeartbeats 4000000 in
theorem fC_X0_booth_s {x : Nat} (p0 : Int32) (w : AH) (r : Int32) (w' : AH) (hf : fC_X0_booth x p0 w = some (r, w')) : Sx x w w' := by
  unfold fC_X0_booth at hf
  have hx := Sx.refl (x := x) w
  obtain ⟨r2, hc1, hf⟩ := bd1_ex hf
  by_cases hc21 : r2 = (0 : Int32)
  · have hf := if_t hf hc21
    obtain ⟨r20, w19, hc18, hf⟩ := bd2_ex hf
    have hx := hx.trans (fC_X0_refuse_s _ _ _ _ hc18)
    cases some_ex hf
    exact hx
  · have hf := if_f hf hc21
    by_cases hc17 : (hvi w (x + 1) 23) = (20 : Int32)
    · have hf := if_t hf hc17
      obtain ⟨r16, w15, hc14, hf⟩ := bd2_ex hf
      have hx := hx.trans (fC_X0_refuse_s _ _ _ _ hc14)
      cases some_ex hf
      exact hx
    · have hf := if_f hf hc17
      obtain ⟨h3, hf⟩ := ck_ex hf
      obtain ⟨w4, hs5, hf⟩ := st1_ex hf
      have hx := hx.trans (Sx.Ie hs5 (by omega))
      obtain ⟨h6, hf⟩ := ck_ex hf
      obtain ⟨w7, hs8, hf⟩ := st1_ex hf
      have hx := hx.trans (Sx.Ie hs8 (by omega))
      obtain ⟨w9, hs10, hf⟩ := st1_ex hf
      have hx := hx.trans (Sx.Ie hs10 (by omega))
      obtain ⟨r13, w12, hc11, hf⟩ := bd2_ex hf
      have hx := hx.trans (fC_X0_told_s _ _ _ _ hc11)
      cases some_ex hf
      exact hx
set_option maxHeartbeats 4000000 in
theorem fC_X0_isBooth_e {x : Nat} {w : AH} (p0 : Int32) (hL : Lay x w) : mC_X0_isBooth x p0 w = fC_X0_isBooth x p0 w := by
  unfold mC_X0_isBooth fC_X0_isBooth
  rewrite [ck_t (kq_0 hL)]
  rewrite [lr_0_2 hL, bd1_s]
  rewrite [ck_t (kq_1 hL)]
  refine bd1_cg (fun r2 hc1 => ?_)
  refine ck_cg (fun h3 => ?_)
  rfl
set_option maxHeartbeats 4000000 in
theorem fC_X0_box_e {x : Nat} {w : AH} (p0 : Int32) (p1 : Int32) (hL : Lay x w) : mC_X0_box x p0 p1 w = fC_X0_box x p0 p1 w := by
  unfold mC_X0_box fC_X0_box
  refine bd1_cg (fun r2 hc1 => ?_)
  refine if_cg (fun hc27 => ?_) (fun hc27 => ?_)
  · rewrite [ck_t (kq_0 hL)]
    rewrite [fC_X0_refuse_e _ hL]
    refine bd2_cg (fun r26 w25 hc24 => ?_)
    have hL := (fC_X0_refuse_s _ _ _ _ hc24).1.lay hL
    rfl
  · rewrite [ck_t (kq_0 hL)]
    rewrite [fC_X0_isBooth_e _ hL]
    refine bd1_cg (fun r4 hc3 => ?_)
    refine if_cg (fun hc23 => ?_) (fun hc23 => ?_)
    · rewrite [fC_X0_refuse_e _ hL]
      refine bd2_cg (fun r22 w21 hc20 => ?_)
      have hL := (fC_X0_refuse_s _ _ _ _ hc20).1.lay hL
      rfl
    · rewrite [lr_0_2 hL, bd1_s]
      rewrite [ck_t (kq_1 hL)]
      refine if_cg (fun hc19 => ?_) (fun hc19 => ?_)
      · rewrite [fC_X0_refuse_e _ hL]
        refine bd2_cg (fun r18 w17 hc16 => ?_)
        have hL := (fC_X0_refuse_s _ _ _ _ hc16).1.lay hL
        rfl
      · rewrite [lr_1_15 hL, bd1_s]
        rewrite [al_23 hL]
        refine ck_cg (fun h5 => ?_)
        refine st1_cg (fun w6 hs7 => ?_)
        have hL := Lay.I hs7 hL
        rewrite [ck_t (kq_0 hL)]
        rewrite [lr_0_2 hL, bd1_s]
        rewrite [ck_t (kq_1 hL)]
        rewrite [lr_1_16 hL, bd1_s]
        rewrite [al_24 hL]
        refine ck_cg (fun h8 => ?_)
        refine st1_cg (fun w9 hs10 => ?_)
        have hL := Lay.I hs10 hL
        rewrite [ck_t (kq_0 hL)]
        rewrite [lr_0_2 hL, bd1_s]
        rewrite [ck_t (kq_1 hL)]
        refine st1_cg (fun w11 hs12 => ?_)
        have hL := Lay.I hs12 hL
        rewrite [ck_t (kq_0 hL)]
        rewrite [lr_0_2 hL, bd1_s]
        rewrite [ck_t (kq_1 hL)]
        rewrite [fC_X0_told_e _ hL]
        refine bd2_cg (fun r15 w14 hc13 => ?_)
        have hL := (fC_X0_told_s _ _ _ _ hc13).1.lay hL
        rfl
set_option maxHeartbeats 4000000 in
theorem fC_X0_box_s {x : Nat} (p0 : Int32) (p1 : Int32) (w : AH) (r : Int32) (w' : AH) (hf : fC_X0_box x p0 p1 w = some (r, w')) : Sx x w w' := by
  unfold fC_X0_box at hf
  have hx := Sx.refl (x := x) w
  obtain ⟨r2, hc1, hf⟩ := bd1_ex hf
  by_cases hc27 : r2 = (0 : Int32)
  · have hf := if_t hf hc27
    obtain ⟨r26, w25, hc24, hf⟩ := bd2_ex hf
    have hx := hx.trans (fC_X0_refuse_s _ _ _ _ hc24)
    cases some_ex hf
    exact hx
  · have hf := if_f hf hc27
    obtain ⟨r4, hc3, hf⟩ := bd1_ex hf
    by_cases hc23 : r4 = (0 : Int32)
    · have hf := if_t hf hc23
      obtain ⟨r22, w21, hc20, hf⟩ := bd2_ex hf
      have hx := hx.trans (fC_X0_refuse_s _ _ _ _ hc20)
      cases some_ex hf
      exact hx
    · have hf := if_f hf hc23
      by_cases hc19 : (hvi w (x + 1) 24) = (40 : Int32)
      · have hf := if_t hf hc19
        obtain ⟨r18, w17, hc16, hf⟩ := bd2_ex hf
        have hx := hx.trans (fC_X0_refuse_s _ _ _ _ hc16)
        cases some_ex hf
        exact hx
      · have hf := if_f hf hc19
        obtain ⟨h5, hf⟩ := ck_ex hf
        obtain ⟨w6, hs7, hf⟩ := st1_ex hf
        have hx := hx.trans (Sx.Ie hs7 (by omega))
        obtain ⟨h8, hf⟩ := ck_ex hf
        obtain ⟨w9, hs10, hf⟩ := st1_ex hf
        have hx := hx.trans (Sx.Ie hs10 (by omega))
        obtain ⟨w11, hs12, hf⟩ := st1_ex hf
        have hx := hx.trans (Sx.Ie hs12 (by omega))
        obtain ⟨r15, w14, hc13, hf⟩ := bd2_ex hf
        have hx := hx.trans (fC_X0_told_s _ _ _ _ hc13)
        cases some_ex hf
        exact hx
set_option maxHeartbeats 4000000 in
theorem fC_X0_isBox_e {x : Nat} {w : AH} (p0 : Int32) (hL : Lay x w) : mC_X0_isBox x p0 w = fC_X0_isBox x p0 w := by
  unfold mC_X0_isBox fC_X0_isBox
  rewrite [ck_t (kq_0 hL)]
  rewrite [lr_0_2 hL, bd1_s]
  rewrite [ck_t (kq_1 hL)]
  refine bd1_cg (fun r2 hc1 => ?_)
  refine ck_cg (fun h3 => ?_)
  rfl
set_option maxHeartbeats 4000000 in
theorem fC_X0_handed_149_e {x : Nat} {w : AH} {M38 : Nat → Int32 → Int32 → Int32 → Int32 → Option Nat → Int32 → Int32 → Option (Option Nat)} {k38 : Int32 → Int32 → Int32 → Int32 → Option Nat → Int32 → Int32 → Option (Option Nat)} (hk38 : ∀ (v1 : Int32) (v2 : Int32) (v3 : Int32) (v4 : Int32) (v5 : Option Nat) (v6 : Int32) (v7 : Int32), Lay x w → M38 x v1 v2 v3 v4 v5 v6 v7 = k38 v1 v2 v3 v4 v5 v6 v7) (v1 : Int32) (v2 : Int32) (v3 : Int32) (v4 : Int32) (v5 : Option Nat) (v6 : Int32) (v7 : Int32) (hL : Lay x w) : mC_X0_handed_149 w M38 x v1 v2 v3 v4 v5 v6 v7 = fC_X0_handed_149 x w k38 v1 v2 v3 v4 v5 v6 v7 := by
  unfold mC_X0_handed_149 fC_X0_handed_149
  exact hk38 v1 v2 v3 v4 v5 v6 (v7 + (1 : Int32)) hL
set_option maxHeartbeats 4000000 in
theorem fC_X0_handed_145_e {x : Nat} {w : AH} {M38 : Nat → Int32 → Int32 → Int32 → Int32 → Option Nat → Int32 → Int32 → Option (Option Nat)} {k38 : Int32 → Int32 → Int32 → Int32 → Option Nat → Int32 → Int32 → Option (Option Nat)} (hk38 : ∀ (v1 : Int32) (v2 : Int32) (v3 : Int32) (v4 : Int32) (v5 : Option Nat) (v6 : Int32) (v7 : Int32), Lay x w → M38 x v1 v2 v3 v4 v5 v6 v7 = k38 v1 v2 v3 v4 v5 v6 v7) (v1 : Int32) (v2 : Int32) (v3 : Int32) (v4 : Int32) (v6 : Int32) (v7 : Int32) (v8 : Nat) (hL : Lay x w) : mC_X0_handed_145 w M38 x v1 v2 v3 v4 v6 v7 v8 = fC_X0_handed_145 x w k38 v1 v2 v3 v4 v6 v7 v8 := by
  unfold mC_X0_handed_145 fC_X0_handed_145
  exact fC_X0_handed_149_e hk38 v1 v2 v3 v4 (some v8) v6 v7 hL
set_option maxHeartbeats 4000000 in
theorem fC_X0_handed_127_e {x : Nat} {w : AH} {M38 : Nat → Int32 → Int32 → Int32 → Int32 → Option Nat → Int32 → Int32 → Option (Option Nat)} {k38 : Int32 → Int32 → Int32 → Int32 → Option Nat → Int32 → Int32 → Option (Option Nat)} (hk38 : ∀ (v1 : Int32) (v2 : Int32) (v3 : Int32) (v4 : Int32) (v5 : Option Nat) (v6 : Int32) (v7 : Int32), Lay x w → M38 x v1 v2 v3 v4 v5 v6 v7 = k38 v1 v2 v3 v4 v5 v6 v7) (v1 : Int32) (v2 : Int32) (v3 : Int32) (v4 : Int32) (v5 : Option Nat) (v6 : Int32) (v7 : Int32) (v8 : Nat) (hL : Lay x w) : mC_X0_handed_127 w M38 x v1 v2 v3 v4 v5 v6 v7 v8 = fC_X0_handed_127 x w k38 v1 v2 v3 v4 v5 v6 v7 v8 := by
  unfold mC_X0_handed_127 fC_X0_handed_127
  refine if_cg (fun hc5 => ?_) (fun hc5 => ?_)
  · exact fC_X0_handed_145_e hk38 v1 v2 v3 v4 v6 v7 v8 hL
  · refine ck_cg (fun h1 => ?_)
    refine bd1_cg (fun b2 hb2 => ?_)
    refine ck_cg (fun h3 => ?_)
    refine if_cg (fun hc4 => ?_) (fun hc4 => ?_)
    · exact fC_X0_handed_149_e hk38 v1 v2 v3 v4 (some b2) v6 v7 hL
    · exact fC_X0_handed_145_e hk38 v1 v2 v3 v4 v6 v7 v8 hL
set_option maxHeartbeats 4000000 in
theorem fC_X0_handed_38_e {x : Nat} {w : AH} {M38 : Nat → Int32 → Int32 → Int32 → Int32 → Option Nat → Int32 → Int32 → Option (Option Nat)} {k38 : Int32 → Int32 → Int32 → Int32 → Option Nat → Int32 → Int32 → Option (Option Nat)} (hk38 : ∀ (v1 : Int32) (v2 : Int32) (v3 : Int32) (v4 : Int32) (v5 : Option Nat) (v6 : Int32) (v7 : Int32), Lay x w → M38 x v1 v2 v3 v4 v5 v6 v7 = k38 v1 v2 v3 v4 v5 v6 v7) (v1 : Int32) (v2 : Int32) (v3 : Int32) (v4 : Int32) (v5 : Option Nat) (v6 : Int32) (v7 : Int32) (hL : Lay x w) : mC_X0_handed_38 w M38 x v1 v2 v3 v4 v5 v6 v7 = fC_X0_handed_38 x w k38 v1 v2 v3 v4 v5 v6 v7 := by
  unfold mC_X0_handed_38 fC_X0_handed_38
  rewrite [ck_t (kq_0 hL)]
  rewrite [lr_0_2 hL, bd1_s]
  rewrite [ck_t (kq_1 hL)]
  rewrite [lr_1_3 hL, bd1_s]
  rewrite [ck_t (kq_8 hL)]
  refine bd1_cg (fun r2 hc1 => ?_)
  refine if_cg (fun hc12 => ?_) (fun hc12 => ?_)
  · rfl
  · refine bd1_cg (fun r4 hc3 => ?_)
    refine ck_cg (fun h5 => ?_)
    refine if_cg (fun hc11 => ?_) (fun hc11 => ?_)
    · refine if_cg (fun hc10 => ?_) (fun hc10 => ?_)
      · exact fC_X0_handed_149_e hk38 v1 v2 v3 v4 v5 v6 v7 hL
      · refine if_cg (fun hc9 => ?_) (fun hc9 => ?_)
        · exact fC_X0_handed_149_e hk38 v1 v2 v3 v4 v5 v6 v7 hL
        · refine if_cg (fun hc8 => ?_) (fun hc8 => ?_)
          · exact fC_X0_handed_149_e hk38 v1 v2 v3 v4 v5 v6 v7 hL
          · refine if_cg (fun hc7 => ?_) (fun hc7 => ?_)
            · refine if_cg (fun hc6 => ?_) (fun hc6 => ?_)
              · exact fC_X0_handed_127_e hk38 v1 v2 v3 v4 v5 v6 v7 r4 hL
              · exact fC_X0_handed_149_e hk38 v1 v2 v3 v4 v5 v6 v7 hL
            · exact fC_X0_handed_127_e hk38 v1 v2 v3 v4 v5 v6 v7 r4 hL
    · exact fC_X0_handed_149_e hk38 v1 v2 v3 v4 v5 v6 v7 hL
set_option maxHeartbeats 4000000 in
theorem fC_X0_handed_38_l {x : Nat} {w : AH} : ∀ (n : Nat) (v1 : Int32) (v2 : Int32) (v3 : Int32) (v4 : Int32) (v5 : Option Nat) (v6 : Int32) (v7 : Int32), Lay x w → lq8 (mC_X0_handed_38 w) n x v1 v2 v3 v4 v5 v6 v7 = lq7 (fC_X0_handed_38 x w) n v1 v2 v3 v4 v5 v6 v7
  | 0, _, _, _, _, _, _, _, _ => rfl
  | n + 1, v1, v2, v3, v4, v5, v6, v7, hL => fC_X0_handed_38_e (fC_X0_handed_38_l n) v1 v2 v3 v4 v5 v6 v7 hL
set_option maxHeartbeats 4000000 in
theorem fC_X0_handed_33_e {x : Nat} {w : AH} (v1 : Int32) (v2 : Int32) (v3 : Int32) (v4 : Int32) (v5 : Option Nat) (t0 : Int32) (hL : Lay x w) : mC_X0_handed_33 w x v1 v2 v3 v4 v5 t0 = fC_X0_handed_33 x w v1 v2 v3 v4 v5 t0 := by
  unfold mC_X0_handed_33 fC_X0_handed_33
  exact fC_X0_handed_38_l LF v1 v2 v3 v4 v5 t0 (0 : Int32) hL
set_option maxHeartbeats 4000000 in
theorem fC_X0_handed_e {x : Nat} {w : AH} (p0 : Int32) (p1 : Int32) (p2 : Int32) (p3 : Int32) (hL : Lay x w) : mC_X0_handed x p0 p1 p2 p3 w = fC_X0_handed x p0 p1 p2 p3 w := by
  unfold mC_X0_handed fC_X0_handed
  refine if_cg (fun hc4 => ?_) (fun hc4 => ?_)
  · exact fC_X0_handed_33_e p0 p1 p2 p3 none (400 : Int32) hL
  · rewrite [ck_t (kq_0 hL)]
    rewrite [lr_0_2 hL, bd1_s]
    rewrite [ck_t (kq_1 hL)]
    rewrite [lr_1_3 hL, bd1_s]
    rewrite [ck_t (kq_8 hL)]
    refine bd1_cg (fun r2 hc1 => ?_)
    refine ck_cg (fun h3 => ?_)
    exact fC_X0_handed_33_e p0 p1 p2 p3 none (hvi w r2 2) hL
set_option maxHeartbeats 4000000 in
theorem fC_X0_held_e {x : Nat} {w : AH} (p0 : Int32) (p1 : Int32) (p2 : Int32) (hL : Lay x w) : mC_X0_held x p0 p1 p2 w = fC_X0_held x p0 p1 p2 w := by
  unfold mC_X0_held fC_X0_held
  rewrite [ck_t (kq_0 hL)]
  rewrite [fC_X0_isBox_e _ hL]
  refine bd1_cg (fun r2 hc1 => ?_)
  refine if_cg (fun hc14 => ?_) (fun hc14 => ?_)
  · rfl
  · refine bd1_cg (fun r4 hc3 => ?_)
    refine if_cg (fun hc13 => ?_) (fun hc13 => ?_)
    · rfl
    · refine bd1_cg (fun r6 hc5 => ?_)
      refine if_cg (fun hc12 => ?_) (fun hc12 => ?_)
      · rfl
      · rewrite [fC_X0_handed_e _ _ _ _ hL]
        refine bd1_cg (fun r8 hc7 => ?_)
        refine if_cg (fun hc11 => ?_) (fun hc11 => ?_)
        · rfl
        · refine bd1_cg (fun b9 hb9 => ?_)
          refine ck_cg (fun h10 => ?_)
          rfl
set_option maxHeartbeats 4000000 in
theorem fC_X0_breaks_105_e {x : Nat} {w : AH} {M5 : Nat → Int32 → Int32 → Int32 → Int32 → Option (Int32)} {k5 : Int32 → Int32 → Int32 → Int32 → Option (Int32)} (hk5 : ∀ (v1 : Int32) (v2 : Int32) (v3 : Int32) (v4 : Int32), Lay x w → M5 x v1 v2 v3 v4 = k5 v1 v2 v3 v4) (v1 : Int32) (v2 : Int32) (v3 : Int32) (v4 : Int32) (hL : Lay x w) : mC_X0_breaks_105 w M5 x v1 v2 v3 v4 = fC_X0_breaks_105 x w k5 v1 v2 v3 v4 := by
  unfold mC_X0_breaks_105 fC_X0_breaks_105
  exact hk5 v1 v2 v3 (v4 + (1 : Int32)) hL
set_option maxHeartbeats 4000000 in
theorem fC_X0_breaks_102_e {x : Nat} {w : AH} {M5 : Nat → Int32 → Int32 → Int32 → Int32 → Option (Int32)} {k5 : Int32 → Int32 → Int32 → Int32 → Option (Int32)} (hk5 : ∀ (v1 : Int32) (v2 : Int32) (v3 : Int32) (v4 : Int32), Lay x w → M5 x v1 v2 v3 v4 = k5 v1 v2 v3 v4) (v1 : Int32) (v2 : Int32) (v4 : Int32) (hL : Lay x w) : mC_X0_breaks_102 w M5 x v1 v2 v4 = fC_X0_breaks_102 x w k5 v1 v2 v4 := by
  unfold mC_X0_breaks_102 fC_X0_breaks_102
  exact fC_X0_breaks_105_e hk5 v1 v2 v4 v4 hL
set_option maxHeartbeats 4000000 in
theorem fC_X0_breaks_5_e {x : Nat} {w : AH} {M5 : Nat → Int32 → Int32 → Int32 → Int32 → Option (Int32)} {k5 : Int32 → Int32 → Int32 → Int32 → Option (Int32)} (hk5 : ∀ (v1 : Int32) (v2 : Int32) (v3 : Int32) (v4 : Int32), Lay x w → M5 x v1 v2 v3 v4 = k5 v1 v2 v3 v4) (v1 : Int32) (v2 : Int32) (v3 : Int32) (v4 : Int32) (hL : Lay x w) : mC_X0_breaks_5 w M5 x v1 v2 v3 v4 = fC_X0_breaks_5 x w k5 v1 v2 v3 v4 := by
  unfold mC_X0_breaks_5 fC_X0_breaks_5
  rewrite [ck_t (kq_0 hL)]
  rewrite [lr_0_2 hL, bd1_s]
  rewrite [ck_t (kq_1 hL)]
  rewrite [lr_1_3 hL, bd1_s]
  rewrite [ck_t (kq_8 hL)]
  refine bd1_cg (fun r2 hc1 => ?_)
  refine if_cg (fun hc15 => ?_) (fun hc15 => ?_)
  · rfl
  · refine bd1_cg (fun r4 hc3 => ?_)
    refine ck_cg (fun h5 => ?_)
    refine if_cg (fun hc14 => ?_) (fun hc14 => ?_)
    · refine if_cg (fun hc13 => ?_) (fun hc13 => ?_)
      · exact fC_X0_breaks_105_e hk5 v1 v2 v3 v4 hL
      · rewrite [lr_1_16 hL, bd1_s]
        rewrite [al_24 hL]
        refine ck_cg (fun h6 => ?_)
        refine if_cg (fun hc12 => ?_) (fun hc12 => ?_)
        · exact fC_X0_breaks_105_e hk5 v1 v2 v3 v4 hL
        · refine if_cg (fun hc11 => ?_) (fun hc11 => ?_)
          · exact fC_X0_breaks_102_e hk5 v1 v2 v4 hL
          · refine bd1_cg (fun r8 hc7 => ?_)
            refine ck_cg (fun h9 => ?_)
            refine if_cg (fun hc10 => ?_) (fun hc10 => ?_)
            · exact fC_X0_breaks_105_e hk5 v1 v2 v3 v4 hL
            · exact fC_X0_breaks_102_e hk5 v1 v2 v4 hL
    · exact fC_X0_breaks_105_e hk5 v1 v2 v3 v4 hL
set_option maxHeartbeats 4000000 in
theorem fC_X0_breaks_5_l {x : Nat} {w : AH} : ∀ (n : Nat) (v1 : Int32) (v2 : Int32) (v3 : Int32) (v4 : Int32), Lay x w → lq5 (mC_X0_breaks_5 w) n x v1 v2 v3 v4 = lq4 (fC_X0_breaks_5 x w) n v1 v2 v3 v4
  | 0, _, _, _, _, _ => rfl
  | n + 1, v1, v2, v3, v4, hL => fC_X0_breaks_5_e (fC_X0_breaks_5_l n) v1 v2 v3 v4 hL
set_option maxHeartbeats 4000000 in
theorem fC_X0_breaks_e {x : Nat} {w : AH} (p0 : Int32) (p1 : Int32) (hL : Lay x w) : mC_X0_breaks x p0 p1 w = fC_X0_breaks x p0 p1 w := by
  unfold mC_X0_breaks fC_X0_breaks
  exact fC_X0_breaks_5_l LF p0 p1 (-1 : Int32) (0 : Int32) hL
set_option maxHeartbeats 4000000 in
theorem fC_X0_broken_e {x : Nat} {w : AH} (p0 : Int32) (p1 : Int32) (p2 : Int32) (hL : Lay x w) : mC_X0_broken x p0 p1 p2 w = fC_X0_broken x p0 p1 p2 w := by
  unfold mC_X0_broken fC_X0_broken
  rewrite [ck_t (kq_0 hL)]
  rewrite [fC_X0_isBox_e _ hL]
  refine bd1_cg (fun r2 hc1 => ?_)
  refine if_cg (fun hc25 => ?_) (fun hc25 => ?_)
  · rfl
  · refine bd1_cg (fun r4 hc3 => ?_)
    refine if_cg (fun hc24 => ?_) (fun hc24 => ?_)
    · rfl
    · refine bd1_cg (fun r6 hc5 => ?_)
      refine if_cg (fun hc23 => ?_) (fun hc23 => ?_)
      · rfl
      · rewrite [fC_X0_breaks_e _ _ hL]
        refine bd1_cg (fun r8 hc7 => ?_)
        refine if_cg (fun hc22 => ?_) (fun hc22 => ?_)
        · rfl
        · refine if_cg (fun hc21 => ?_) (fun hc21 => ?_)
          · rewrite [fC_X0_handed_e _ _ _ _ hL]
            refine bd1_cg (fun r10 hc9 => ?_)
            refine if_cg (fun hc13 => ?_) (fun hc13 => ?_)
            · rfl
            · refine bd1_cg (fun b11 hb11 => ?_)
              refine ck_cg (fun h12 => ?_)
              rfl
          · refine if_cg (fun hc20 => ?_) (fun hc20 => ?_)
            · rewrite [lr_0_2 hL, bd1_s]
              rewrite [ck_t (kq_1 hL)]
              rewrite [lr_1_3 hL, bd1_s]
              rewrite [ck_t (kq_8 hL)]
              refine bd1_cg (fun r18 hc17 => ?_)
              refine ck_cg (fun h19 => ?_)
              rfl
            · rewrite [lr_0_2 hL, bd1_s]
              rewrite [ck_t (kq_1 hL)]
              rewrite [lr_1_3 hL, bd1_s]
              rewrite [ck_t (kq_8 hL)]
              refine bd1_cg (fun r15 hc14 => ?_)
              refine ck_cg (fun h16 => ?_)
              rfl
set_option maxHeartbeats 4000000 in
theorem fC_X6_empties_26_e {x : Nat} {M26 : Nat → Int32 → Int32 → AH → Option (AH)} {k26 : Int32 → Int32 → AH → Option (AH)} (hk26 : ∀ (v1 : Int32) (v2 : Int32) (w : AH), Lay x w → M26 (x + 52) v1 v2 w = k26 v1 v2 w) (v1 : Int32) (v2 : Int32) (w : AH) (hL : Lay x w) : mC_X6_empties_26 M26 (x + 52) v1 v2 w = fC_X6_empties_26 x k26 v1 v2 w := by
  unfold mC_X6_empties_26 fC_X6_empties_26
  refine if_cg (fun hc10 => ?_) (fun hc10 => ?_)
  · rewrite [ck_t (kq_52 hL)]
    rewrite [lr_52_1 hL, bd1_s]
    rewrite [al_54 hL]
    refine ck_cg (fun h1 => ?_)
    refine st1_cg (fun w2 hs3 => ?_)
    have hL := Lay.I hs3 hL
    rewrite [ck_t (kq_52 hL)]
    rewrite [lr_52_4 hL, bd1_s]
    rewrite [al_57 hL]
    refine ck_cg (fun h4 => ?_)
    refine st1_cg (fun w5 hs6 => ?_)
    have hL := Lay.I hs6 hL
    rfl
  · rewrite [ck_t (kq_52 hL)]
    rewrite [lr_52_2 hL, bd1_s]
    rewrite [al_55 hL]
    refine ck_cg (fun h7 => ?_)
    refine st1_cg (fun w8 hs9 => ?_)
    have hL := Lay.I hs9 hL
    exact hk26 v1 (v2 + (1 : Int32)) w8 hL
set_option maxHeartbeats 4000000 in
theorem fC_X6_empties_26_l {x : Nat} : ∀ (n : Nat) (v1 : Int32) (v2 : Int32) (w : AH), Lay x w → lq4 (mC_X6_empties_26) n (x + 52) v1 v2 w = lq3 (fC_X6_empties_26 x) n v1 v2 w
  | 0, _, _, _, _ => rfl
  | n + 1, v1, v2, w, hL => fC_X6_empties_26_e (fC_X6_empties_26_l n) v1 v2 w hL
set_option maxHeartbeats 4000000 in
theorem fC_X6_empties_2_e {x : Nat} {M2 : Nat → Int32 → Int32 → AH → Option (AH)} {k2 : Int32 → Int32 → AH → Option (AH)} (hk2 : ∀ (v1 : Int32) (v2 : Int32) (w : AH), Lay x w → M2 (x + 52) v1 v2 w = k2 v1 v2 w) (v1 : Int32) (v2 : Int32) (w : AH) (hL : Lay x w) : mC_X6_empties_2 M2 (x + 52) v1 v2 w = fC_X6_empties_2 x k2 v1 v2 w := by
  unfold mC_X6_empties_2 fC_X6_empties_2
  refine if_cg (fun hc4 => ?_) (fun hc4 => ?_)
  · exact fC_X6_empties_26_l LF v1 (0 : Int32) w hL
  · rewrite [ck_t (kq_52 hL)]
    rewrite [lr_52_0 hL, bd1_s]
    rewrite [al_53 hL]
    refine ck_cg (fun h1 => ?_)
    refine st1_cg (fun w2 hs3 => ?_)
    have hL := Lay.I hs3 hL
    exact hk2 v1 (v2 + (1 : Int32)) w2 hL
set_option maxHeartbeats 4000000 in
theorem fC_X6_empties_2_l {x : Nat} : ∀ (n : Nat) (v1 : Int32) (v2 : Int32) (w : AH), Lay x w → lq4 (mC_X6_empties_2) n (x + 52) v1 v2 w = lq3 (fC_X6_empties_2 x) n v1 v2 w
  | 0, _, _, _, _ => rfl
  | n + 1, v1, v2, w, hL => fC_X6_empties_2_e (fC_X6_empties_2_l n) v1 v2 w hL
set_option maxHeartbeats 4000000 in
theorem fC_X6_empties_26_s {w' : AH} {x : Nat} {k26 : Int32 → Int32 → AH → Option (AH)} (hk26 : ∀ (v1 : Int32) (v2 : Int32) (w : AH), k26 v1 v2 w = some w' → Sc x w w') (v1 : Int32) (v2 : Int32) (w : AH) (hf : fC_X6_empties_26 x k26 v1 v2 w = some w') : Sc x w w' := by
  unfold fC_X6_empties_26 at hf
  have hx := Sc.refl (x := x) w
  by_cases hc10 : (8 : Int32) ≤ v2
  · have hf := if_t hf hc10
    obtain ⟨h1, hf⟩ := ck_ex hf
    obtain ⟨w2, hs3, hf⟩ := st1_ex hf
    have hx := hx.trans (Sc.Ie hs3 (by unfold cS; omega))
    obtain ⟨h4, hf⟩ := ck_ex hf
    obtain ⟨w5, hs6, hf⟩ := st1_ex hf
    have hx := hx.trans (Sc.Ie hs6 (by unfold cS; omega))
    cases some_ex hf
    exact hx
  · have hf := if_f hf hc10
    obtain ⟨h7, hf⟩ := ck_ex hf
    obtain ⟨w8, hs9, hf⟩ := st1_ex hf
    have hx := hx.trans (Sc.Ie hs9 (by unfold cS; omega))
    exact hx.trans (hk26 v1 (v2 + (1 : Int32)) w8 hf)
set_option maxHeartbeats 4000000 in
theorem fC_X6_empties_26_t {w' : AH} {x : Nat} : ∀ (n : Nat) (v1 : Int32) (v2 : Int32) (w : AH), lq3 (fC_X6_empties_26 x) n v1 v2 w = some w' → Sc x w w'
  | 0, _, _, _, hf => nomatch hf
  | n + 1, v1, v2, w, hf => fC_X6_empties_26_s (fC_X6_empties_26_t n) v1 v2 w hf
set_option maxHeartbeats 4000000 in
theorem fC_X6_empties_2_s {w' : AH} {x : Nat} {k2 : Int32 → Int32 → AH → Option (AH)} (hk2 : ∀ (v1 : Int32) (v2 : Int32) (w : AH), k2 v1 v2 w = some w' → Sc x w w') (v1 : Int32) (v2 : Int32) (w : AH) (hf : fC_X6_empties_2 x k2 v1 v2 w = some w') : Sc x w w' := by
  unfold fC_X6_empties_2 at hf
  have hx := Sc.refl (x := x) w
  by_cases hc4 : (4 : Int32) ≤ v2
  · have hf := if_t hf hc4
    exact hx.trans (fC_X6_empties_26_t LF v1 (0 : Int32) w hf)
  · have hf := if_f hf hc4
    obtain ⟨h1, hf⟩ := ck_ex hf
    obtain ⟨w2, hs3, hf⟩ := st1_ex hf
    have hx := hx.trans (Sc.Ie hs3 (by unfold cS; omega))
    exact hx.trans (hk2 v1 (v2 + (1 : Int32)) w2 hf)
set_option maxHeartbeats 4000000 in
theorem fC_X6_empties_2_t {w' : AH} {x : Nat} : ∀ (n : Nat) (v1 : Int32) (v2 : Int32) (w : AH), lq3 (fC_X6_empties_2 x) n v1 v2 w = some w' → Sc x w w'
  | 0, _, _, _, hf => nomatch hf
  | n + 1, v1, v2, w, hf => fC_X6_empties_2_s (fC_X6_empties_2_t n) v1 v2 w hf
set_option maxHeartbeats 4000000 in
theorem fC_X6_empties_e {x : Nat} {w : AH} (p0 : Int32) (hL : Lay x w) : mC_X6_empties (x + 52) p0 w = fC_X6_empties x p0 w := by
  unfold mC_X6_empties fC_X6_empties
  exact fC_X6_empties_2_l LF p0 (0 : Int32) w hL
set_option maxHeartbeats 4000000 in
theorem fC_X6_empties_s {x : Nat} (p0 : Int32) (w : AH) (w' : AH) (hf : fC_X6_empties x p0 w = some w') : Sc x w w' := by
  unfold fC_X6_empties at hf
  have hx := Sc.refl (x := x) w
  exact hx.trans (fC_X6_empties_2_t LF p0 (0 : Int32) w hf)
set_option maxHeartbeats 4000000 in
theorem fC_X6_isLast_118_e {x : Nat} {w : AH} {M33 : Nat → Int32 → Nat → Int32 → Option (Int32)} {k33 : Int32 → Nat → Int32 → Option (Int32)} (hk33 : ∀ (v2 : Int32) (v3 : Nat) (v4 : Int32), Lay x w → M33 (x + 52) v2 v3 v4 = k33 v2 v3 v4) (v2 : Int32) (v3 : Nat) (v4 : Int32) (hL : Lay x w) : mC_X6_isLast_118 w M33 (x + 52) v2 v3 v4 = fC_X6_isLast_118 x w k33 v2 v3 v4 := by
  unfold mC_X6_isLast_118 fC_X6_isLast_118
  exact hk33 v2 v3 (v4 + (1 : Int32)) hL
set_option maxHeartbeats 4000000 in
theorem fC_X6_isLast_33_e {x : Nat} {w : AH} {M33 : Nat → Int32 → Nat → Int32 → Option (Int32)} {k33 : Int32 → Nat → Int32 → Option (Int32)} (hk33 : ∀ (v2 : Int32) (v3 : Nat) (v4 : Int32), Lay x w → M33 (x + 52) v2 v3 v4 = k33 v2 v3 v4) (v2 : Int32) (v3 : Nat) (v4 : Int32) (hL : Lay x w) : mC_X6_isLast_33 w M33 (x + 52) v2 v3 v4 = fC_X6_isLast_33 x w k33 v2 v3 v4 := by
  unfold mC_X6_isLast_33 fC_X6_isLast_33
  rewrite [ck_t (kq_52 hL)]
  rewrite [lr_52_9 hL, bd1_s]
  rewrite [ck_t (kq_0 hL)]
  rewrite [lr_0_2 hL, bd1_s]
  rewrite [ck_t (kq_1 hL)]
  rewrite [lr_1_5 hL, bd1_s]
  rewrite [ck_t (kq_12 hL)]
  refine bd1_cg (fun r2 hc1 => ?_)
  refine if_cg (fun hc11 => ?_) (fun hc11 => ?_)
  · rfl
  · refine bd1_cg (fun r4 hc3 => ?_)
    refine ck_cg (fun h5 => ?_)
    refine if_cg (fun hc10 => ?_) (fun hc10 => ?_)
    · exact fC_X6_isLast_118_e hk33 v2 v3 v4 hL
    · refine ck_cg (fun h6 => ?_)
      refine if_cg (fun hc9 => ?_) (fun hc9 => ?_)
      · refine if_cg (fun hc8 => ?_) (fun hc8 => ?_)
        · refine if_cg (fun hc7 => ?_) (fun hc7 => ?_)
          · rfl
          · exact fC_X6_isLast_118_e hk33 v2 v3 v4 hL
        · exact fC_X6_isLast_118_e hk33 v2 v3 v4 hL
      · exact fC_X6_isLast_118_e hk33 v2 v3 v4 hL
set_option maxHeartbeats 4000000 in
theorem fC_X6_isLast_33_l {x : Nat} {w : AH} : ∀ (n : Nat) (v2 : Int32) (v3 : Nat) (v4 : Int32), Lay x w → lq4 (mC_X6_isLast_33 w) n (x + 52) v2 v3 v4 = lq3 (fC_X6_isLast_33 x w) n v2 v3 v4
  | 0, _, _, _, _ => rfl
  | n + 1, v2, v3, v4, hL => fC_X6_isLast_33_e (fC_X6_isLast_33_l n) v2 v3 v4 hL
set_option maxHeartbeats 4000000 in
theorem fC_X6_isLast_e {x : Nat} {w : AH} (p0 : Int32) (p1 : Int32) (hL : Lay x w) : mC_X6_isLast (x + 52) p0 p1 w = fC_X6_isLast x p0 p1 w := by
  unfold mC_X6_isLast fC_X6_isLast
  rewrite [ck_t (kq_52 hL)]
  rewrite [lr_52_9 hL, bd1_s]
  rewrite [ck_t (kq_0 hL)]
  rewrite [lr_0_2 hL, bd1_s]
  rewrite [ck_t (kq_1 hL)]
  rewrite [lr_1_5 hL, bd1_s]
  rewrite [ck_t (kq_12 hL)]
  refine bd1_cg (fun r2 hc1 => ?_)
  refine ck_cg (fun h3 => ?_)
  refine if_cg (fun hc4 => ?_) (fun hc4 => ?_)
  · exact fC_X6_isLast_33_l LF p1 r2 (p0 + (1 : Int32)) hL
  · rfl
set_option maxHeartbeats 4000000 in
theorem fC_X6_lost_e {x : Nat} {w : AH} (p0 : Int32) (hL : Lay x w) : mC_X6_lost (x + 52) p0 w = fC_X6_lost x p0 w := by
  unfold mC_X6_lost fC_X6_lost
  rewrite [ck_t (kq_52 hL)]
  rewrite [lr_52_0 hL, bd1_s]
  rewrite [al_53 hL]
  refine ck_cg (fun h1 => ?_)
  rewrite [lr_52_1 hL, bd1_s]
  rewrite [al_54 hL]
  refine ck_cg (fun h2 => ?_)
  rewrite [al_53 hL]
  refine ck_cg (fun h3 => ?_)
  rfl
set_option maxHeartbeats 4000000 in
theorem fC_X6_asksAll_193_e {x : Nat} {M152 : Nat → Int32 → Int32 → AH → Option (AH)} {k152 : Int32 → Int32 → AH → Option (AH)} (hk152 : ∀ (v1 : Int32) (v2 : Int32) (w : AH), Lay x w → M152 (x + 52) v1 v2 w = k152 v1 v2 w) (v1 : Int32) (v2 : Int32) (t0 : Int32) (t1 : Int32) (w : AH) (hL : Lay x w) : mC_X6_asksAll_193 M152 (x + 52) v1 v2 t0 t1 (x + 58) w = fC_X6_asksAll_193 x k152 v1 v2 t0 t1 w := by
  unfold mC_X6_asksAll_193 fC_X6_asksAll_193
  rewrite [al_58 hL]
  refine ck_cg (fun h1 => ?_)
  refine ck_cg (fun h2 => ?_)
  refine st1_cg (fun w3 hs4 => ?_)
  have hL := Lay.I hs4 hL
  exact hk152 v1 (v2 + (1 : Int32)) w3 hL
set_option maxHeartbeats 4000000 in
theorem fC_X6_asksAll_152_e {x : Nat} {M152 : Nat → Int32 → Int32 → AH → Option (AH)} {k152 : Int32 → Int32 → AH → Option (AH)} (hk152 : ∀ (v1 : Int32) (v2 : Int32) (w : AH), Lay x w → M152 (x + 52) v1 v2 w = k152 v1 v2 w) (v1 : Int32) (v2 : Int32) (w : AH) (hL : Lay x w) : mC_X6_asksAll_152 M152 (x + 52) v1 v2 w = fC_X6_asksAll_152 x k152 v1 v2 w := by
  unfold mC_X6_asksAll_152 fC_X6_asksAll_152
  refine if_cg (fun hc15 => ?_) (fun hc15 => ?_)
  · rewrite [ck_t (kq_52 hL)]
    rewrite [lr_52_3 hL, bd1_s]
    rewrite [lr_52_9 hL, bd1_s]
    rewrite [ck_t (kq_0 hL)]
    rewrite [fC_X0_last_e _ _ _ hL]
    refine bd2_cg (fun r3 w2 hc1 => ?_)
    have hL := (fC_X0_last_s _ _ _ _ _ _ hc1).1.lay hL
    refine if_cg (fun hc10 => ?_) (fun hc10 => ?_)
    · rewrite [al_56 hL]
      refine ck_cg (fun h4 => ?_)
      refine st1_cg (fun w5 hs6 => ?_)
      have hL := Lay.I hs6 hL
      rfl
    · rewrite [al_56 hL]
      refine ck_cg (fun h7 => ?_)
      refine st1_cg (fun w8 hs9 => ?_)
      have hL := Lay.I hs9 hL
      rfl
  · rewrite [ck_t (kq_52 hL)]
    rewrite [lr_52_5 hL, bd1_s]
    rewrite [lr_52_9 hL, bd1_s]
    rewrite [ck_t (kq_0 hL)]
    rewrite [fC_X0_last_e _ _ _ hL]
    refine bd2_cg (fun r13 w12 hc11 => ?_)
    have hL := (fC_X0_last_s _ _ _ _ _ _ hc11).1.lay hL
    refine if_cg (fun hc14 => ?_) (fun hc14 => ?_)
    · exact fC_X6_asksAll_193_e hk152 v1 v2 (0 : Int32) (((10 : Int32) * v1) + v2) w12 hL
    · exact fC_X6_asksAll_193_e hk152 v1 v2 (1 : Int32) (((10 : Int32) * v1) + v2) w12 hL
set_option maxHeartbeats 4000000 in
theorem fC_X6_asksAll_152_l {x : Nat} : ∀ (n : Nat) (v1 : Int32) (v2 : Int32) (w : AH), Lay x w → lq4 (mC_X6_asksAll_152) n (x + 52) v1 v2 w = lq3 (fC_X6_asksAll_152 x) n v1 v2 w
  | 0, _, _, _, _ => rfl
  | n + 1, v1, v2, w, hL => fC_X6_asksAll_152_e (fC_X6_asksAll_152_l n) v1 v2 w hL
set_option maxHeartbeats 4000000 in
theorem fC_X6_asksAll_193_s {w' : AH} {x : Nat} {k152 : Int32 → Int32 → AH → Option (AH)} (hk152 : ∀ (v1 : Int32) (v2 : Int32) (w : AH), k152 v1 v2 w = some w' → Sc x w w') (v1 : Int32) (v2 : Int32) (t0 : Int32) (t1 : Int32) (w : AH) (hf : fC_X6_asksAll_193 x k152 v1 v2 t0 t1 w = some w') : Sc x w w' := by
  unfold fC_X6_asksAll_193 at hf
  have hx := Sc.refl (x := x) w
  obtain ⟨h1, hf⟩ := ck_ex hf
  obtain ⟨h2, hf⟩ := ck_ex hf
  obtain ⟨w3, hs4, hf⟩ := st1_ex hf
  have hx := hx.trans (Sc.Ie hs4 (by unfold cS; omega))
  exact hx.trans (hk152 v1 (v2 + (1 : Int32)) w3 hf)
set_option maxHeartbeats 4000000 in
theorem fC_X6_asksAll_152_s {w' : AH} {x : Nat} {k152 : Int32 → Int32 → AH → Option (AH)} (hk152 : ∀ (v1 : Int32) (v2 : Int32) (w : AH), k152 v1 v2 w = some w' → Sc x w w') (v1 : Int32) (v2 : Int32) (w : AH) (hf : fC_X6_asksAll_152 x k152 v1 v2 w = some w') : Sc x w w' := by
  unfold fC_X6_asksAll_152 at hf
  have hx := Sc.refl (x := x) w
  by_cases hc15 : (10 : Int32) ≤ v2
  · have hf := if_t hf hc15
    obtain ⟨r3, w2, hc1, hf⟩ := bd2_ex hf
    have hx := hx.trans (fC_X0_last_s _ _ _ _ _ _ hc1)
    by_cases hc10 : r3 = (-4000000000 : Int64)
    · have hf := if_t hf hc10
      obtain ⟨h4, hf⟩ := ck_ex hf
      obtain ⟨w5, hs6, hf⟩ := st1_ex hf
      have hx := hx.trans (Sc.Ie hs6 (by unfold cS; omega))
      cases some_ex hf
      exact hx
    · have hf := if_f hf hc10
      obtain ⟨h7, hf⟩ := ck_ex hf
      obtain ⟨w8, hs9, hf⟩ := st1_ex hf
      have hx := hx.trans (Sc.Ie hs9 (by unfold cS; omega))
      cases some_ex hf
      exact hx
  · have hf := if_f hf hc15
    obtain ⟨r13, w12, hc11, hf⟩ := bd2_ex hf
    have hx := hx.trans (fC_X0_last_s _ _ _ _ _ _ hc11)
    by_cases hc14 : r13 = (-4000000000 : Int64)
    · have hf := if_t hf hc14
      exact hx.trans (fC_X6_asksAll_193_s hk152 v1 v2 (0 : Int32) (((10 : Int32) * v1) + v2) w12 hf)
    · have hf := if_f hf hc14
      exact hx.trans (fC_X6_asksAll_193_s hk152 v1 v2 (1 : Int32) (((10 : Int32) * v1) + v2) w12 hf)
set_option maxHeartbeats 4000000 in
theorem fC_X6_asksAll_152_t {w' : AH} {x : Nat} : ∀ (n : Nat) (v1 : Int32) (v2 : Int32) (w : AH), lq3 (fC_X6_asksAll_152 x) n v1 v2 w = some w' → Sc x w w'
  | 0, _, _, _, hf => nomatch hf
  | n + 1, v1, v2, w, hf => fC_X6_asksAll_152_s (fC_X6_asksAll_152_t n) v1 v2 w hf
set_option maxHeartbeats 4000000 in
theorem fC_X6_asksAll_e {x : Nat} {w : AH} (p0 : Int32) (hL : Lay x w) : mC_X6_asksAll (x + 52) p0 w = fC_X6_asksAll x p0 w := by
  unfold mC_X6_asksAll fC_X6_asksAll
  rewrite [ck_t (kq_52 hL)]
  rewrite [lr_52_9 hL, bd1_s]
  rewrite [ck_t (kq_0 hL)]
  rewrite [lr_0_2 hL, bd1_s]
  rewrite [ck_t (kq_1 hL)]
  rewrite [lr_1_14 hL, bd1_s]
  rewrite [al_22 hL]
  refine ck_cg (fun h1 => ?_)
  rewrite [fC_X0_asksPlace_e _ _ hL]
  refine bd1_cg (fun w3 hc2 => ?_)
  have hL := (fC_X0_asksPlace_s _ _ _ _ hc2).1.lay hL
  rewrite [ck_t (kq_52 hL)]
  rewrite [lr_52_9 hL, bd1_s]
  rewrite [ck_t (kq_0 hL)]
  rewrite [lr_0_8 hL, bd1_s]
  rewrite [ck_t (kq_35 hL)]
  rewrite [lr_35_1 hL, bd1_s]
  rewrite [lr_52_0 hL, bd1_s]
  rewrite [al_53 hL]
  refine ck_cg (fun h4 => ?_)
  rewrite [al_37 hL]
  refine ck_cg (fun h5 => ?_)
  refine st1_cg (fun w6 hs7 => ?_)
  have hL := Lay.L hs7 hL
  rewrite [ck_t (kq_52 hL)]
  rewrite [lr_52_9 hL, bd1_s]
  rewrite [ck_t (kq_0 hL)]
  rewrite [lr_0_8 hL, bd1_s]
  rewrite [ck_t (kq_35 hL)]
  rewrite [lr_35_1 hL, bd1_s]
  rewrite [lr_52_0 hL, bd1_s]
  rewrite [al_53 hL]
  refine ck_cg (fun h8 => ?_)
  rewrite [al_37 hL]
  refine ck_cg (fun h9 => ?_)
  refine st1_cg (fun w10 hs11 => ?_)
  have hL := Lay.L hs11 hL
  rewrite [ck_t (kq_52 hL)]
  rewrite [lr_52_9 hL, bd1_s]
  rewrite [ck_t (kq_0 hL)]
  rewrite [lr_0_8 hL, bd1_s]
  rewrite [ck_t (kq_35 hL)]
  rewrite [lr_35_1 hL, bd1_s]
  rewrite [lr_52_1 hL, bd1_s]
  rewrite [al_54 hL]
  refine ck_cg (fun h12 => ?_)
  rewrite [al_37 hL]
  refine ck_cg (fun h13 => ?_)
  refine st1_cg (fun w14 hs15 => ?_)
  have hL := Lay.L hs15 hL
  rewrite [ck_t (kq_52 hL)]
  rewrite [lr_52_9 hL, bd1_s]
  rewrite [ck_t (kq_0 hL)]
  rewrite [lr_0_8 hL, bd1_s]
  rewrite [ck_t (kq_35 hL)]
  rewrite [lr_35_1 hL, bd1_s]
  rewrite [lr_52_0 hL, bd1_s]
  rewrite [al_53 hL]
  refine ck_cg (fun h16 => ?_)
  rewrite [al_37 hL]
  refine ck_cg (fun h17 => ?_)
  refine st1_cg (fun w18 hs19 => ?_)
  have hL := Lay.L hs19 hL
  rewrite [ck_t (kq_52 hL)]
  rewrite [lr_52_9 hL, bd1_s]
  rewrite [ck_t (kq_0 hL)]
  rewrite [lr_0_8 hL, bd1_s]
  rewrite [ck_t (kq_35 hL)]
  rewrite [lr_35_1 hL, bd1_s]
  rewrite [fC_X6_lost_e _ hL]
  refine bd1_cg (fun r21 hc20 => ?_)
  rewrite [al_37 hL]
  refine ck_cg (fun h22 => ?_)
  refine st1_cg (fun w23 hs24 => ?_)
  have hL := Lay.L hs24 hL
  rewrite [ck_t (kq_52 hL)]
  rewrite [lr_52_9 hL, bd1_s]
  rewrite [ck_t (kq_0 hL)]
  rewrite [lr_0_8 hL, bd1_s]
  rewrite [ck_t (kq_35 hL)]
  rewrite [lr_35_2 hL, bd1_s]
  rewrite [lr_52_4 hL, bd1_s]
  rewrite [al_57 hL]
  refine ck_cg (fun h25 => ?_)
  rewrite [al_38 hL]
  refine ck_cg (fun h26 => ?_)
  refine ck_cg (fun h27 => ?_)
  refine st1_cg (fun w28 hs29 => ?_)
  have hL := Lay.I hs29 hL
  exact fC_X6_asksAll_152_l LF p0 (0 : Int32) w28 hL
set_option maxHeartbeats 4000000 in
theorem fC_X6_asksAll_s {x : Nat} (p0 : Int32) (w : AH) (w' : AH) (hf : fC_X6_asksAll x p0 w = some w') : Sc x w w' := by
  unfold fC_X6_asksAll at hf
  have hx := Sc.refl (x := x) w
  obtain ⟨h1, hf⟩ := ck_ex hf
  obtain ⟨w3, hc2, hf⟩ := bd1_ex hf
  have hx := hx.trans (fC_X0_asksPlace_s _ _ _ _ hc2).sc
  obtain ⟨h4, hf⟩ := ck_ex hf
  obtain ⟨h5, hf⟩ := ck_ex hf
  obtain ⟨w6, hs7, hf⟩ := st1_ex hf
  have hx := hx.trans (Sc.Le hs7 (by omega))
  obtain ⟨h8, hf⟩ := ck_ex hf
  obtain ⟨h9, hf⟩ := ck_ex hf
  obtain ⟨w10, hs11, hf⟩ := st1_ex hf
  have hx := hx.trans (Sc.Le hs11 (by omega))
  obtain ⟨h12, hf⟩ := ck_ex hf
  obtain ⟨h13, hf⟩ := ck_ex hf
  obtain ⟨w14, hs15, hf⟩ := st1_ex hf
  have hx := hx.trans (Sc.Le hs15 (by omega))
  obtain ⟨h16, hf⟩ := ck_ex hf
  obtain ⟨h17, hf⟩ := ck_ex hf
  obtain ⟨w18, hs19, hf⟩ := st1_ex hf
  have hx := hx.trans (Sc.Le hs19 (by omega))
  obtain ⟨r21, hc20, hf⟩ := bd1_ex hf
  obtain ⟨h22, hf⟩ := ck_ex hf
  obtain ⟨w23, hs24, hf⟩ := st1_ex hf
  have hx := hx.trans (Sc.Le hs24 (by omega))
  obtain ⟨h25, hf⟩ := ck_ex hf
  obtain ⟨h26, hf⟩ := ck_ex hf
  obtain ⟨h27, hf⟩ := ck_ex hf
  obtain ⟨w28, hs29, hf⟩ := st1_ex hf
  have hx := hx.trans (Sc.Ie hs29 (by unfold cS; omega))
  exact hx.trans (fC_X6_asksAll_152_t LF p0 (0 : Int32) w28 hf)
set_option maxHeartbeats 4000000 in
theorem fC_X6_looks_447_e {x : Nat} {M334 : Nat → Int32 → Int32 → AH → Option (AH)} {k334 : Int32 → Int32 → AH → Option (AH)} (hk334 : ∀ (v2 : Int32) (v3 : Int32) (w : AH), Lay x w → M334 (x + 52) v2 v3 w = k334 v2 v3 w) (v2 : Int32) (v3 : Int32) (w : AH) (hL : Lay x w) : mC_X6_looks_447 M334 (x + 52) v2 v3 w = fC_X6_looks_447 x k334 v2 v3 w := by
  unfold mC_X6_looks_447 fC_X6_looks_447
  exact hk334 v2 (v3 + (1 : Int32)) w hL
set_option maxHeartbeats 4000000 in
theorem fC_X6_looks_334_e {x : Nat} {M334 : Nat → Int32 → Int32 → AH → Option (AH)} {k334 : Int32 → Int32 → AH → Option (AH)} (hk334 : ∀ (v2 : Int32) (v3 : Int32) (w : AH), Lay x w → M334 (x + 52) v2 v3 w = k334 v2 v3 w) (v2 : Int32) (v3 : Int32) (w : AH) (hL : Lay x w) : mC_X6_looks_334 M334 (x + 52) v2 v3 w = fC_X6_looks_334 x k334 v2 v3 w := by
  unfold mC_X6_looks_334 fC_X6_looks_334
  rewrite [ck_t (kq_52 hL)]
  rewrite [lr_52_9 hL, bd1_s]
  rewrite [ck_t (kq_0 hL)]
  rewrite [lr_0_2 hL, bd1_s]
  rewrite [ck_t (kq_1 hL)]
  rewrite [lr_1_5 hL, bd1_s]
  rewrite [ck_t (kq_12 hL)]
  refine bd1_cg (fun r2 hc1 => ?_)
  refine if_cg (fun hc16 => ?_) (fun hc16 => ?_)
  · rfl
  · refine bd1_cg (fun r4 hc3 => ?_)
    refine ck_cg (fun h5 => ?_)
    rewrite [lr_1_15 hL, bd1_s]
    rewrite [al_23 hL]
    refine ck_cg (fun h6 => ?_)
    rewrite [fC_X6_isLast_e _ _ hL]
    refine bd1_cg (fun r8 hc7 => ?_)
    refine if_cg (fun hc15 => ?_) (fun hc15 => ?_)
    · exact fC_X6_looks_447_e hk334 v2 v3 w hL
    · rewrite [lr_52_5 hL, bd1_s]
      rewrite [al_58 hL]
      refine ck_cg (fun h9 => ?_)
      refine if_cg (fun hc14 => ?_) (fun hc14 => ?_)
      · rewrite [lr_52_2 hL, bd1_s]
        rewrite [al_55 hL]
        refine ck_cg (fun h10 => ?_)
        rewrite [lr_1_17 hL, bd1_s]
        rewrite [al_25 hL]
        refine ck_cg (fun h11 => ?_)
        refine st1_cg (fun w12 hs13 => ?_)
        have hL := Lay.I hs13 hL
        exact fC_X6_looks_447_e hk334 v2 v3 w12 hL
      · exact fC_X6_looks_447_e hk334 v2 v3 w hL
set_option maxHeartbeats 4000000 in
theorem fC_X6_looks_334_l {x : Nat} : ∀ (n : Nat) (v2 : Int32) (v3 : Int32) (w : AH), Lay x w → lq4 (mC_X6_looks_334) n (x + 52) v2 v3 w = lq3 (fC_X6_looks_334 x) n v2 v3 w
  | 0, _, _, _, _ => rfl
  | n + 1, v2, v3, w, hL => fC_X6_looks_334_e (fC_X6_looks_334_l n) v2 v3 w hL
set_option maxHeartbeats 4000000 in
theorem fC_X6_looks_307_e {x : Nat} {M307 : Nat → Int32 → Int32 → AH → Option (AH)} {k307 : Int32 → Int32 → AH → Option (AH)} (hk307 : ∀ (v2 : Int32) (v3 : Int32) (w : AH), Lay x w → M307 (x + 52) v2 v3 w = k307 v2 v3 w) (v2 : Int32) (v3 : Int32) (w : AH) (hL : Lay x w) : mC_X6_looks_307 M307 (x + 52) v2 v3 w = fC_X6_looks_307 x k307 v2 v3 w := by
  unfold mC_X6_looks_307 fC_X6_looks_307
  rewrite [ck_t (kq_52 hL)]
  rewrite [lr_52_9 hL, bd1_s]
  rewrite [ck_t (kq_0 hL)]
  rewrite [lr_0_2 hL, bd1_s]
  rewrite [ck_t (kq_1 hL)]
  refine if_cg (fun hc3 => ?_) (fun hc3 => ?_)
  · exact fC_X6_looks_334_l LF v2 (0 : Int32) w hL
  · rewrite [fC_X6_asksAll_e _ hL]
    refine bd1_cg (fun w2 hc1 => ?_)
    have hL := (fC_X6_asksAll_s _ _ _ hc1).1.lay hL
    exact hk307 v2 (v3 + (1 : Int32)) w2 hL
set_option maxHeartbeats 4000000 in
theorem fC_X6_looks_307_l {x : Nat} : ∀ (n : Nat) (v2 : Int32) (v3 : Int32) (w : AH), Lay x w → lq4 (mC_X6_looks_307) n (x + 52) v2 v3 w = lq3 (fC_X6_looks_307 x) n v2 v3 w
  | 0, _, _, _, _ => rfl
  | n + 1, v2, v3, w, hL => fC_X6_looks_307_e (fC_X6_looks_307_l n) v2 v3 w hL
set_option maxHeartbeats 4000000 in
theorem fC_X6_looks_299_e {x : Nat} {M222 : Nat → Int32 → Int32 → AH → Option (AH)} {k222 : Int32 → Int32 → AH → Option (AH)} (hk222 : ∀ (v2 : Int32) (v3 : Int32) (w : AH), Lay x w → M222 (x + 52) v2 v3 w = k222 v2 v3 w) (v2 : Int32) (v3 : Int32) (w : AH) (hL : Lay x w) : mC_X6_looks_299 M222 (x + 52) v2 v3 w = fC_X6_looks_299 x k222 v2 v3 w := by
  unfold mC_X6_looks_299 fC_X6_looks_299
  exact hk222 v2 (v3 + (1 : Int32)) w hL
set_option maxHeartbeats 4000000 in
theorem fC_X6_looks_222_e {x : Nat} {M222 : Nat → Int32 → Int32 → AH → Option (AH)} {k222 : Int32 → Int32 → AH → Option (AH)} (hk222 : ∀ (v2 : Int32) (v3 : Int32) (w : AH), Lay x w → M222 (x + 52) v2 v3 w = k222 v2 v3 w) (v2 : Int32) (v3 : Int32) (w : AH) (hL : Lay x w) : mC_X6_looks_222 M222 (x + 52) v2 v3 w = fC_X6_looks_222 x k222 v2 v3 w := by
  unfold mC_X6_looks_222 fC_X6_looks_222
  rewrite [ck_t (kq_52 hL)]
  rewrite [lr_52_9 hL, bd1_s]
  rewrite [ck_t (kq_0 hL)]
  rewrite [lr_0_2 hL, bd1_s]
  rewrite [ck_t (kq_1 hL)]
  rewrite [lr_1_5 hL, bd1_s]
  rewrite [ck_t (kq_12 hL)]
  refine bd1_cg (fun r2 hc1 => ?_)
  refine if_cg (fun hc14 => ?_) (fun hc14 => ?_)
  · exact fC_X6_looks_307_l LF v2 (0 : Int32) w hL
  · rewrite [fC_X6_isLast_e _ _ hL]
    refine bd1_cg (fun r4 hc3 => ?_)
    refine if_cg (fun hc13 => ?_) (fun hc13 => ?_)
    · exact fC_X6_looks_299_e hk222 v2 v3 w hL
    · rewrite [lr_52_1 hL, bd1_s]
      rewrite [lr_1_15 hL, bd1_s]
      refine bd1_cg (fun r6 hc5 => ?_)
      refine ck_cg (fun h7 => ?_)
      rewrite [al_23 hL]
      refine ck_cg (fun h8 => ?_)
      rewrite [al_54 hL]
      refine ck_cg (fun h9 => ?_)
      rewrite [lr_1_17 hL, bd1_s]
      rewrite [al_25 hL]
      refine ck_cg (fun h10 => ?_)
      refine st1_cg (fun w11 hs12 => ?_)
      have hL := Lay.I hs12 hL
      exact fC_X6_looks_299_e hk222 v2 v3 w11 hL
set_option maxHeartbeats 4000000 in
theorem fC_X6_looks_222_l {x : Nat} : ∀ (n : Nat) (v2 : Int32) (v3 : Int32) (w : AH), Lay x w → lq4 (mC_X6_looks_222) n (x + 52) v2 v3 w = lq3 (fC_X6_looks_222 x) n v2 v3 w
  | 0, _, _, _, _ => rfl
  | n + 1, v2, v3, w, hL => fC_X6_looks_222_e (fC_X6_looks_222_l n) v2 v3 w hL
set_option maxHeartbeats 4000000 in
theorem fC_X6_looks_214_e {x : Nat} {M169 : Nat → Int32 → Int32 → AH → Option (AH)} {k169 : Int32 → Int32 → AH → Option (AH)} (hk169 : ∀ (v2 : Int32) (v3 : Int32) (w : AH), Lay x w → M169 (x + 52) v2 v3 w = k169 v2 v3 w) (v2 : Int32) (v3 : Int32) (w : AH) (hL : Lay x w) : mC_X6_looks_214 M169 (x + 52) v2 v3 w = fC_X6_looks_214 x k169 v2 v3 w := by
  unfold mC_X6_looks_214 fC_X6_looks_214
  exact hk169 v2 (v3 + (1 : Int32)) w hL
set_option maxHeartbeats 4000000 in
theorem fC_X6_looks_169_e {x : Nat} {M169 : Nat → Int32 → Int32 → AH → Option (AH)} {k169 : Int32 → Int32 → AH → Option (AH)} (hk169 : ∀ (v2 : Int32) (v3 : Int32) (w : AH), Lay x w → M169 (x + 52) v2 v3 w = k169 v2 v3 w) (v2 : Int32) (v3 : Int32) (w : AH) (hL : Lay x w) : mC_X6_looks_169 M169 (x + 52) v2 v3 w = fC_X6_looks_169 x k169 v2 v3 w := by
  unfold mC_X6_looks_169 fC_X6_looks_169
  rewrite [ck_t (kq_52 hL)]
  rewrite [lr_52_9 hL, bd1_s]
  rewrite [ck_t (kq_0 hL)]
  rewrite [lr_0_2 hL, bd1_s]
  rewrite [ck_t (kq_1 hL)]
  refine if_cg (fun hc8 => ?_) (fun hc8 => ?_)
  · exact fC_X6_looks_222_l LF v2 (0 : Int32) w hL
  · rewrite [fC_X0_breaks_e _ _ hL]
    refine bd1_cg (fun r2 hc1 => ?_)
    refine if_cg (fun hc7 => ?_) (fun hc7 => ?_)
    · exact fC_X6_looks_214_e hk169 v2 v3 w hL
    · rewrite [lr_52_4 hL, bd1_s]
      rewrite [lr_1_15 hL, bd1_s]
      rewrite [al_23 hL]
      refine ck_cg (fun h3 => ?_)
      rewrite [al_57 hL]
      refine ck_cg (fun h4 => ?_)
      refine st1_cg (fun w5 hs6 => ?_)
      have hL := Lay.I hs6 hL
      exact fC_X6_looks_214_e hk169 v2 v3 w5 hL
set_option maxHeartbeats 4000000 in
theorem fC_X6_looks_169_l {x : Nat} : ∀ (n : Nat) (v2 : Int32) (v3 : Int32) (w : AH), Lay x w → lq4 (mC_X6_looks_169) n (x + 52) v2 v3 w = lq3 (fC_X6_looks_169 x) n v2 v3 w
  | 0, _, _, _, _ => rfl
  | n + 1, v2, v3, w, hL => fC_X6_looks_169_e (fC_X6_looks_169_l n) v2 v3 w hL
set_option maxHeartbeats 4000000 in
theorem fC_X6_looks_161_e {x : Nat} {M93 : Nat → Int32 → Int32 → AH → Option (AH)} {k93 : Int32 → Int32 → AH → Option (AH)} (hk93 : ∀ (v2 : Int32) (v3 : Int32) (w : AH), Lay x w → M93 (x + 52) v2 v3 w = k93 v2 v3 w) (v2 : Int32) (v3 : Int32) (w : AH) (hL : Lay x w) : mC_X6_looks_161 M93 (x + 52) v2 v3 w = fC_X6_looks_161 x k93 v2 v3 w := by
  unfold mC_X6_looks_161 fC_X6_looks_161
  exact hk93 v2 (v3 + (1 : Int32)) w hL
set_option maxHeartbeats 4000000 in
theorem fC_X6_looks_93_e {x : Nat} {M93 : Nat → Int32 → Int32 → AH → Option (AH)} {k93 : Int32 → Int32 → AH → Option (AH)} (hk93 : ∀ (v2 : Int32) (v3 : Int32) (w : AH), Lay x w → M93 (x + 52) v2 v3 w = k93 v2 v3 w) (v2 : Int32) (v3 : Int32) (w : AH) (hL : Lay x w) : mC_X6_looks_93 M93 (x + 52) v2 v3 w = fC_X6_looks_93 x k93 v2 v3 w := by
  unfold mC_X6_looks_93 fC_X6_looks_93
  rewrite [ck_t (kq_52 hL)]
  rewrite [lr_52_9 hL, bd1_s]
  rewrite [ck_t (kq_0 hL)]
  rewrite [lr_0_2 hL, bd1_s]
  rewrite [ck_t (kq_1 hL)]
  rewrite [lr_1_4 hL, bd1_s]
  rewrite [ck_t (kq_10 hL)]
  refine bd1_cg (fun r2 hc1 => ?_)
  refine if_cg (fun hc10 => ?_) (fun hc10 => ?_)
  · exact fC_X6_looks_169_l LF v2 (0 : Int32) w hL
  · refine bd1_cg (fun r4 hc3 => ?_)
    refine ck_cg (fun h5 => ?_)
    refine if_cg (fun hc9 => ?_) (fun hc9 => ?_)
    · exact fC_X6_looks_161_e hk93 v2 v3 w hL
    · rewrite [lr_52_0 hL, bd1_s]
      rewrite [al_53 hL]
      refine ck_cg (fun h6 => ?_)
      refine st1_cg (fun w7 hs8 => ?_)
      have hL := Lay.I hs8 hL
      exact fC_X6_looks_161_e hk93 v2 v3 w7 hL
set_option maxHeartbeats 4000000 in
theorem fC_X6_looks_93_l {x : Nat} : ∀ (n : Nat) (v2 : Int32) (v3 : Int32) (w : AH), Lay x w → lq4 (mC_X6_looks_93) n (x + 52) v2 v3 w = lq3 (fC_X6_looks_93 x) n v2 v3 w
  | 0, _, _, _, _ => rfl
  | n + 1, v2, v3, w, hL => fC_X6_looks_93_e (fC_X6_looks_93_l n) v2 v3 w hL
set_option maxHeartbeats 4000000 in
theorem fC_X6_looks_66_e {x : Nat} {M66 : Nat → Int32 → Int32 → AH → Option (AH)} {k66 : Int32 → Int32 → AH → Option (AH)} (hk66 : ∀ (v2 : Int32) (v3 : Int32) (w : AH), Lay x w → M66 (x + 52) v2 v3 w = k66 v2 v3 w) (v2 : Int32) (v3 : Int32) (w : AH) (hL : Lay x w) : mC_X6_looks_66 M66 (x + 52) v2 v3 w = fC_X6_looks_66 x k66 v2 v3 w := by
  unfold mC_X6_looks_66 fC_X6_looks_66
  rewrite [ck_t (kq_52 hL)]
  rewrite [lr_52_9 hL, bd1_s]
  rewrite [ck_t (kq_0 hL)]
  rewrite [lr_0_2 hL, bd1_s]
  rewrite [ck_t (kq_1 hL)]
  refine if_cg (fun hc3 => ?_) (fun hc3 => ?_)
  · exact fC_X6_looks_93_l LF v2 (0 : Int32) w hL
  · rewrite [fC_X6_empties_e _ hL]
    refine bd1_cg (fun w2 hc1 => ?_)
    have hL := (fC_X6_empties_s _ _ _ hc1).1.lay hL
    exact hk66 v2 (v3 + (1 : Int32)) w2 hL
set_option maxHeartbeats 4000000 in
theorem fC_X6_looks_66_l {x : Nat} : ∀ (n : Nat) (v2 : Int32) (v3 : Int32) (w : AH), Lay x w → lq4 (mC_X6_looks_66) n (x + 52) v2 v3 w = lq3 (fC_X6_looks_66 x) n v2 v3 w
  | 0, _, _, _, _ => rfl
  | n + 1, v2, v3, w, hL => fC_X6_looks_66_e (fC_X6_looks_66_l n) v2 v3 w hL
set_option maxHeartbeats 4000000 in
theorem fC_X6_looks_43_e {x : Nat} (v1 : Int32) (v2 : Int32) (w : AH) (hL : Lay x w) : mC_X6_looks_43 (x + 52) v1 v2 w = fC_X6_looks_43 x v1 v2 w := by
  unfold mC_X6_looks_43 fC_X6_looks_43
  rewrite [ck_t (kq_52 hL)]
  refine st1_cg (fun w1 hs2 => ?_)
  have hL := Lay.I hs2 hL
  rewrite [ck_t (kq_52 hL)]
  refine st1_cg (fun w3 hs4 => ?_)
  have hL := Lay.I hs4 hL
  rewrite [ck_t (kq_52 hL)]
  rewrite [lr_52_9 hL, bd1_s]
  rewrite [ck_t (kq_0 hL)]
  refine st1_cg (fun w5 hs6 => ?_)
  have hL := Lay.I hs6 hL
  exact fC_X6_looks_66_l LF v2 (0 : Int32) w5 hL
set_option maxHeartbeats 4000000 in
theorem fC_X6_looks_447_s {w' : AH} {x : Nat} {k334 : Int32 → Int32 → AH → Option (AH)} (hk334 : ∀ (v2 : Int32) (v3 : Int32) (w : AH), k334 v2 v3 w = some w' → Sc x w w') (v2 : Int32) (v3 : Int32) (w : AH) (hf : fC_X6_looks_447 x k334 v2 v3 w = some w') : Sc x w w' := by
  unfold fC_X6_looks_447 at hf
  have hx := Sc.refl (x := x) w
  exact hx.trans (hk334 v2 (v3 + (1 : Int32)) w hf)
set_option maxHeartbeats 4000000 in
theorem fC_X6_looks_334_s {w' : AH} {x : Nat} {k334 : Int32 → Int32 → AH → Option (AH)} (hk334 : ∀ (v2 : Int32) (v3 : Int32) (w : AH), k334 v2 v3 w = some w' → Sc x w w') (v2 : Int32) (v3 : Int32) (w : AH) (hf : fC_X6_looks_334 x k334 v2 v3 w = some w') : Sc x w w' := by
  unfold fC_X6_looks_334 at hf
  have hx := Sc.refl (x := x) w
  obtain ⟨r2, hc1, hf⟩ := bd1_ex hf
  by_cases hc16 : r2 ≤ v3
  · have hf := if_t hf hc16
    cases some_ex hf
    exact hx
  · have hf := if_f hf hc16
    obtain ⟨r4, hc3, hf⟩ := bd1_ex hf
    obtain ⟨h5, hf⟩ := ck_ex hf
    obtain ⟨h6, hf⟩ := ck_ex hf
    obtain ⟨r8, hc7, hf⟩ := bd1_ex hf
    by_cases hc15 : r8 = (0 : Int32)
    · have hf := if_t hf hc15
      exact hx.trans (fC_X6_looks_447_s hk334 v2 v3 w hf)
    · have hf := if_f hf hc15
      obtain ⟨h9, hf⟩ := ck_ex hf
      by_cases hc14 : (hvi w (x + 58) ((((10 : Int32) * (hvi w (x + 23) ((hvi w r4 0).toNatClampNeg))) + (hvi w r4 2)).toNatClampNeg)) = (0 : Int32)
      · have hf := if_t hf hc14
        obtain ⟨h10, hf⟩ := ck_ex hf
        obtain ⟨h11, hf⟩ := ck_ex hf
        obtain ⟨w12, hs13, hf⟩ := st1_ex hf
        have hx := hx.trans (Sc.Ie hs13 (by unfold cS; omega))
        exact hx.trans (fC_X6_looks_447_s hk334 v2 v3 w12 hf)
      · have hf := if_f hf hc14
        exact hx.trans (fC_X6_looks_447_s hk334 v2 v3 w hf)
set_option maxHeartbeats 4000000 in
theorem fC_X6_looks_334_t {w' : AH} {x : Nat} : ∀ (n : Nat) (v2 : Int32) (v3 : Int32) (w : AH), lq3 (fC_X6_looks_334 x) n v2 v3 w = some w' → Sc x w w'
  | 0, _, _, _, hf => nomatch hf
  | n + 1, v2, v3, w, hf => fC_X6_looks_334_s (fC_X6_looks_334_t n) v2 v3 w hf
set_option maxHeartbeats 4000000 in
theorem fC_X6_looks_307_s {w' : AH} {x : Nat} {k307 : Int32 → Int32 → AH → Option (AH)} (hk307 : ∀ (v2 : Int32) (v3 : Int32) (w : AH), k307 v2 v3 w = some w' → Sc x w w') (v2 : Int32) (v3 : Int32) (w : AH) (hf : fC_X6_looks_307 x k307 v2 v3 w = some w') : Sc x w w' := by
  unfold fC_X6_looks_307 at hf
  have hx := Sc.refl (x := x) w
  by_cases hc3 : (hvi w (x + 1) 23) ≤ v3
  · have hf := if_t hf hc3
    exact hx.trans (fC_X6_looks_334_t LF v2 (0 : Int32) w hf)
  · have hf := if_f hf hc3
    obtain ⟨w2, hc1, hf⟩ := bd1_ex hf
    have hx := hx.trans (fC_X6_asksAll_s _ _ _ hc1)
    exact hx.trans (hk307 v2 (v3 + (1 : Int32)) w2 hf)
set_option maxHeartbeats 4000000 in
theorem fC_X6_looks_307_t {w' : AH} {x : Nat} : ∀ (n : Nat) (v2 : Int32) (v3 : Int32) (w : AH), lq3 (fC_X6_looks_307 x) n v2 v3 w = some w' → Sc x w w'
  | 0, _, _, _, hf => nomatch hf
  | n + 1, v2, v3, w, hf => fC_X6_looks_307_s (fC_X6_looks_307_t n) v2 v3 w hf
set_option maxHeartbeats 4000000 in
theorem fC_X6_looks_299_s {w' : AH} {x : Nat} {k222 : Int32 → Int32 → AH → Option (AH)} (hk222 : ∀ (v2 : Int32) (v3 : Int32) (w : AH), k222 v2 v3 w = some w' → Sc x w w') (v2 : Int32) (v3 : Int32) (w : AH) (hf : fC_X6_looks_299 x k222 v2 v3 w = some w') : Sc x w w' := by
  unfold fC_X6_looks_299 at hf
  have hx := Sc.refl (x := x) w
  exact hx.trans (hk222 v2 (v3 + (1 : Int32)) w hf)
set_option maxHeartbeats 4000000 in
theorem fC_X6_looks_222_s {w' : AH} {x : Nat} {k222 : Int32 → Int32 → AH → Option (AH)} (hk222 : ∀ (v2 : Int32) (v3 : Int32) (w : AH), k222 v2 v3 w = some w' → Sc x w w') (v2 : Int32) (v3 : Int32) (w : AH) (hf : fC_X6_looks_222 x k222 v2 v3 w = some w') : Sc x w w' := by
  unfold fC_X6_looks_222 at hf
  have hx := Sc.refl (x := x) w
  obtain ⟨r2, hc1, hf⟩ := bd1_ex hf
  by_cases hc14 : r2 ≤ v3
  · have hf := if_t hf hc14
    exact hx.trans (fC_X6_looks_307_t LF v2 (0 : Int32) w hf)
  · have hf := if_f hf hc14
    obtain ⟨r4, hc3, hf⟩ := bd1_ex hf
    by_cases hc13 : r4 = (0 : Int32)
    · have hf := if_t hf hc13
      exact hx.trans (fC_X6_looks_299_s hk222 v2 v3 w hf)
    · have hf := if_f hf hc13
      obtain ⟨r6, hc5, hf⟩ := bd1_ex hf
      obtain ⟨h7, hf⟩ := ck_ex hf
      obtain ⟨h8, hf⟩ := ck_ex hf
      obtain ⟨h9, hf⟩ := ck_ex hf
      obtain ⟨h10, hf⟩ := ck_ex hf
      obtain ⟨w11, hs12, hf⟩ := st1_ex hf
      have hx := hx.trans (Sc.Ie hs12 (by unfold cS; omega))
      exact hx.trans (fC_X6_looks_299_s hk222 v2 v3 w11 hf)
set_option maxHeartbeats 4000000 in
theorem fC_X6_looks_222_t {w' : AH} {x : Nat} : ∀ (n : Nat) (v2 : Int32) (v3 : Int32) (w : AH), lq3 (fC_X6_looks_222 x) n v2 v3 w = some w' → Sc x w w'
  | 0, _, _, _, hf => nomatch hf
  | n + 1, v2, v3, w, hf => fC_X6_looks_222_s (fC_X6_looks_222_t n) v2 v3 w hf
set_option maxHeartbeats 4000000 in
theorem fC_X6_looks_214_s {w' : AH} {x : Nat} {k169 : Int32 → Int32 → AH → Option (AH)} (hk169 : ∀ (v2 : Int32) (v3 : Int32) (w : AH), k169 v2 v3 w = some w' → Sc x w w') (v2 : Int32) (v3 : Int32) (w : AH) (hf : fC_X6_looks_214 x k169 v2 v3 w = some w') : Sc x w w' := by
  unfold fC_X6_looks_214 at hf
  have hx := Sc.refl (x := x) w
  exact hx.trans (hk169 v2 (v3 + (1 : Int32)) w hf)
set_option maxHeartbeats 4000000 in
theorem fC_X6_looks_169_s {w' : AH} {x : Nat} {k169 : Int32 → Int32 → AH → Option (AH)} (hk169 : ∀ (v2 : Int32) (v3 : Int32) (w : AH), k169 v2 v3 w = some w' → Sc x w w') (v2 : Int32) (v3 : Int32) (w : AH) (hf : fC_X6_looks_169 x k169 v2 v3 w = some w') : Sc x w w' := by
  unfold fC_X6_looks_169 at hf
  have hx := Sc.refl (x := x) w
  by_cases hc8 : (hvi w (x + 1) 24) ≤ v3
  · have hf := if_t hf hc8
    exact hx.trans (fC_X6_looks_222_t LF v2 (0 : Int32) w hf)
  · have hf := if_f hf hc8
    obtain ⟨r2, hc1, hf⟩ := bd1_ex hf
    by_cases hc7 : r2 = (-1 : Int32)
    · have hf := if_t hf hc7
      exact hx.trans (fC_X6_looks_214_s hk169 v2 v3 w hf)
    · have hf := if_f hf hc7
      obtain ⟨h3, hf⟩ := ck_ex hf
      obtain ⟨h4, hf⟩ := ck_ex hf
      obtain ⟨w5, hs6, hf⟩ := st1_ex hf
      have hx := hx.trans (Sc.Ie hs6 (by unfold cS; omega))
      exact hx.trans (fC_X6_looks_214_s hk169 v2 v3 w5 hf)
set_option maxHeartbeats 4000000 in
theorem fC_X6_looks_169_t {w' : AH} {x : Nat} : ∀ (n : Nat) (v2 : Int32) (v3 : Int32) (w : AH), lq3 (fC_X6_looks_169 x) n v2 v3 w = some w' → Sc x w w'
  | 0, _, _, _, hf => nomatch hf
  | n + 1, v2, v3, w, hf => fC_X6_looks_169_s (fC_X6_looks_169_t n) v2 v3 w hf
set_option maxHeartbeats 4000000 in
theorem fC_X6_looks_161_s {w' : AH} {x : Nat} {k93 : Int32 → Int32 → AH → Option (AH)} (hk93 : ∀ (v2 : Int32) (v3 : Int32) (w : AH), k93 v2 v3 w = some w' → Sc x w w') (v2 : Int32) (v3 : Int32) (w : AH) (hf : fC_X6_looks_161 x k93 v2 v3 w = some w') : Sc x w w' := by
  unfold fC_X6_looks_161 at hf
  have hx := Sc.refl (x := x) w
  exact hx.trans (hk93 v2 (v3 + (1 : Int32)) w hf)
set_option maxHeartbeats 4000000 in
theorem fC_X6_looks_93_s {w' : AH} {x : Nat} {k93 : Int32 → Int32 → AH → Option (AH)} (hk93 : ∀ (v2 : Int32) (v3 : Int32) (w : AH), k93 v2 v3 w = some w' → Sc x w w') (v2 : Int32) (v3 : Int32) (w : AH) (hf : fC_X6_looks_93 x k93 v2 v3 w = some w') : Sc x w w' := by
  unfold fC_X6_looks_93 at hf
  have hx := Sc.refl (x := x) w
  obtain ⟨r2, hc1, hf⟩ := bd1_ex hf
  by_cases hc10 : r2 ≤ v3
  · have hf := if_t hf hc10
    exact hx.trans (fC_X6_looks_169_t LF v2 (0 : Int32) w hf)
  · have hf := if_f hf hc10
    obtain ⟨r4, hc3, hf⟩ := bd1_ex hf
    obtain ⟨h5, hf⟩ := ck_ex hf
    by_cases hc9 : v2 < (hvi w r4 3)
    · have hf := if_t hf hc9
      exact hx.trans (fC_X6_looks_161_s hk93 v2 v3 w hf)
    · have hf := if_f hf hc9
      obtain ⟨h6, hf⟩ := ck_ex hf
      obtain ⟨w7, hs8, hf⟩ := st1_ex hf
      have hx := hx.trans (Sc.Ie hs8 (by unfold cS; omega))
      exact hx.trans (fC_X6_looks_161_s hk93 v2 v3 w7 hf)
set_option maxHeartbeats 4000000 in
theorem fC_X6_looks_93_t {w' : AH} {x : Nat} : ∀ (n : Nat) (v2 : Int32) (v3 : Int32) (w : AH), lq3 (fC_X6_looks_93 x) n v2 v3 w = some w' → Sc x w w'
  | 0, _, _, _, hf => nomatch hf
  | n + 1, v2, v3, w, hf => fC_X6_looks_93_s (fC_X6_looks_93_t n) v2 v3 w hf
set_option maxHeartbeats 4000000 in
theorem fC_X6_looks_66_s {w' : AH} {x : Nat} {k66 : Int32 → Int32 → AH → Option (AH)} (hk66 : ∀ (v2 : Int32) (v3 : Int32) (w : AH), k66 v2 v3 w = some w' → Sc x w w') (v2 : Int32) (v3 : Int32) (w : AH) (hf : fC_X6_looks_66 x k66 v2 v3 w = some w') : Sc x w w' := by
  unfold fC_X6_looks_66 at hf
  have hx := Sc.refl (x := x) w
  by_cases hc3 : (hvi w (x + 1) 23) ≤ v3
  · have hf := if_t hf hc3
    exact hx.trans (fC_X6_looks_93_t LF v2 (0 : Int32) w hf)
  · have hf := if_f hf hc3
    obtain ⟨w2, hc1, hf⟩ := bd1_ex hf
    have hx := hx.trans (fC_X6_empties_s _ _ _ hc1)
    exact hx.trans (hk66 v2 (v3 + (1 : Int32)) w2 hf)
set_option maxHeartbeats 4000000 in
theorem fC_X6_looks_66_t {w' : AH} {x : Nat} : ∀ (n : Nat) (v2 : Int32) (v3 : Int32) (w : AH), lq3 (fC_X6_looks_66 x) n v2 v3 w = some w' → Sc x w w'
  | 0, _, _, _, hf => nomatch hf
  | n + 1, v2, v3, w, hf => fC_X6_looks_66_s (fC_X6_looks_66_t n) v2 v3 w hf
set_option maxHeartbeats 4000000 in
theorem fC_X6_looks_43_s {w' : AH} {x : Nat} (v1 : Int32) (v2 : Int32) (w : AH) (hf : fC_X6_looks_43 x v1 v2 w = some w') : Sc x w w' := by
  unfold fC_X6_looks_43 at hf
  have hx := Sc.refl (x := x) w
  obtain ⟨w1, hs2, hf⟩ := st1_ex hf
  have hx := hx.trans (Sc.Ie hs2 (by unfold cS; omega))
  obtain ⟨w3, hs4, hf⟩ := st1_ex hf
  have hx := hx.trans (Sc.Ie hs4 (by unfold cS; omega))
  obtain ⟨w5, hs6, hf⟩ := st1_ex hf
  have hx := hx.trans (Sc.Ie hs6 (by unfold cS; omega))
  exact hx.trans (fC_X6_looks_66_t LF v2 (0 : Int32) w5 hf)
set_option maxHeartbeats 4000000 in
theorem fC_X6_looks_e {x : Nat} {w : AH} (p0 : Int32) (p1 : Int32) (hL : Lay x w) : mC_X6_looks (x + 52) p0 p1 w = fC_X6_looks x p0 p1 w := by
  unfold mC_X6_looks fC_X6_looks
  rewrite [ck_t (kq_52 hL)]
  rewrite [lr_52_9 hL, bd1_s]
  rewrite [ck_t (kq_0 hL)]
  rewrite [lr_0_9 hL, bd1_s]
  rewrite [ck_t (kq_39 hL)]
  rewrite [fC_X5_looks_e _ _ hL]
  refine bd1_cg (fun w2 hc1 => ?_)
  have hL := (fC_X5_looks_s _ _ _ _ hc1).1.lay hL
  rewrite [ck_t (kq_52 hL)]
  refine if_cg (fun hc5 => ?_) (fun hc5 => ?_)
  · refine if_cg (fun hc4 => ?_) (fun hc4 => ?_)
    · rewrite [lr_52_9 hL, bd1_s]
      rewrite [ck_t (kq_0 hL)]
      refine if_cg (fun hc3 => ?_) (fun hc3 => ?_)
      · rfl
      · exact fC_X6_looks_43_e p0 p1 w2 hL
    · exact fC_X6_looks_43_e p0 p1 w2 hL
  · exact fC_X6_looks_43_e p0 p1 w2 hL
set_option maxHeartbeats 4000000 in
theorem fC_X6_looks_s {x : Nat} (p0 : Int32) (p1 : Int32) (w : AH) (w' : AH) (hf : fC_X6_looks x p0 p1 w = some w') : Sc x w w' := by
  unfold fC_X6_looks at hf
  have hx := Sc.refl (x := x) w
  obtain ⟨w2, hc1, hf⟩ := bd1_ex hf
  have hx := hx.trans (fC_X5_looks_s _ _ _ _ hc1)
  by_cases hc5 : (hvi w2 (x + 52) 6) = p0
  · have hf := if_t hf hc5
    by_cases hc4 : (hvi w2 (x + 52) 7) = p1
    · have hf := if_t hf hc4
      by_cases hc3 : (hvi w2 (x + 52) 8) = (hvi w2 x 1)
      · have hf := if_t hf hc3
        cases some_ex hf
        exact hx
      · have hf := if_f hf hc3
        exact hx.trans (fC_X6_looks_43_s p0 p1 w2 hf)
    · have hf := if_f hf hc4
      exact hx.trans (fC_X6_looks_43_s p0 p1 w2 hf)
  · have hf := if_f hf hc5
    exact hx.trans (fC_X6_looks_43_s p0 p1 w2 hf)
set_option maxHeartbeats 4000000 in
theorem fC_X6_validOf_4_e {x : Nat} {w : AH} {M4 : Nat → Int32 → Int32 → Int32 → Option (Int32)} {k4 : Int32 → Int32 → Int32 → Option (Int32)} (hk4 : ∀ (v1 : Int32) (v2 : Int32) (v3 : Int32), Lay x w → M4 (x + 52) v1 v2 v3 = k4 v1 v2 v3) (v1 : Int32) (v2 : Int32) (v3 : Int32) (hL : Lay x w) : mC_X6_validOf_4 w M4 (x + 52) v1 v2 v3 = fC_X6_validOf_4 x w k4 v1 v2 v3 := by
  unfold mC_X6_validOf_4 fC_X6_validOf_4
  refine if_cg (fun hc2 => ?_) (fun hc2 => ?_)
  · rfl
  · rewrite [ck_t (kq_52 hL)]
    rewrite [lr_52_2 hL, bd1_s]
    rewrite [al_55 hL]
    refine ck_cg (fun h1 => ?_)
    exact hk4 v1 (v2 + (hvi w (x + 55) ((((8 : Int32) * v1) + v3).toNatClampNeg))) (v3 + (1 : Int32)) hL
set_option maxHeartbeats 4000000 in
theorem fC_X6_validOf_4_l {x : Nat} {w : AH} : ∀ (n : Nat) (v1 : Int32) (v2 : Int32) (v3 : Int32), Lay x w → lq4 (mC_X6_validOf_4 w) n (x + 52) v1 v2 v3 = lq3 (fC_X6_validOf_4 x w) n v1 v2 v3
  | 0, _, _, _, _ => rfl
  | n + 1, v1, v2, v3, hL => fC_X6_validOf_4_e (fC_X6_validOf_4_l n) v1 v2 v3 hL
set_option maxHeartbeats 4000000 in
theorem fC_X6_validOf_e {x : Nat} {w : AH} (p0 : Int32) (hL : Lay x w) : mC_X6_validOf (x + 52) p0 w = fC_X6_validOf x p0 w := by
  unfold mC_X6_validOf fC_X6_validOf
  exact fC_X6_validOf_4_l LF p0 (0 : Int32) (0 : Int32) hL
set_option maxHeartbeats 4000000 in
theorem fC_X0_tells_e {x : Nat} {w : AH} (p0 : Int32) (p1 : Int32) (p2 : Int32) (p3 : Int32) (hL : Lay x w) : mC_X0_tells x p0 p1 p2 p3 w = fC_X0_tells x p0 p1 p2 p3 w := by
  unfold mC_X0_tells fC_X0_tells
  rewrite [ck_t (kq_0 hL)]
  rewrite [fC_X0_isBooth_e _ hL]
  refine bd1_cg (fun r2 hc1 => ?_)
  refine if_cg (fun hc30 => ?_) (fun hc30 => ?_)
  · rfl
  · refine bd1_cg (fun r4 hc3 => ?_)
    refine if_cg (fun hc29 => ?_) (fun hc29 => ?_)
    · rfl
    · refine bd1_cg (fun r6 hc5 => ?_)
      refine if_cg (fun hc28 => ?_) (fun hc28 => ?_)
      · rfl
      · refine bd1_cg (fun r8 hc7 => ?_)
        refine if_cg (fun hc27 => ?_) (fun hc27 => ?_)
        · rfl
        · rewrite [lr_0_23 hL, bd1_s]
          rewrite [ck_t (kq_52 hL)]
          rewrite [fC_X6_looks_e _ _ hL]
          refine bd1_cg (fun w10 hc9 => ?_)
          have hL := (fC_X6_looks_s _ _ _ _ hc9).1.lay hL
          rewrite [ck_t (kq_0 hL)]
          rewrite [lr_0_23 hL, bd1_s]
          rewrite [ck_t (kq_52 hL)]
          rewrite [lr_52_0 hL, bd1_s]
          refine if_cg (fun hc26 => ?_) (fun hc26 => ?_)
          · refine if_cg (fun hw4 => ?_) (fun hw4 => ?_)
            · rewrite [lr_52_1 hL, bd1_s]
              rewrite [al_54 hL]
              refine ck_cg (fun h11 => ?_)
              rfl
            refine if_cg (fun hw5 => ?_) (fun hw5 => ?_)
            · rewrite [fC_X6_lost_e _ hL]
              refine bd1_cg (fun r13 hc12 => ?_)
              rfl
            refine if_cg (fun hw6 => ?_) (fun hw6 => ?_)
            · rewrite [al_53 hL]
              refine ck_cg (fun h14 => ?_)
              rewrite [al_53 hL]
              refine ck_cg (fun h15 => ?_)
              rewrite [al_53 hL]
              refine ck_cg (fun h16 => ?_)
              refine if_cg (fun hc20 => ?_) (fun hc20 => ?_)
              · rewrite [fC_X6_lost_e _ hL]
                refine bd1_cg (fun r18 hc17 => ?_)
                refine if_cg (fun hc19 => ?_) (fun hc19 => ?_)
                · rfl
                · rfl
              · rfl
            refine if_cg (fun hw7 => ?_) (fun hw7 => ?_)
            · rewrite [lr_52_3 hL, bd1_s]
              rewrite [al_56 hL]
              refine ck_cg (fun h21 => ?_)
              refine if_cg (fun hc22 => ?_) (fun hc22 => ?_)
              · rfl
              · rfl
            rewrite [fC_X6_validOf_e _ hL]
            refine bd1_cg (fun r24 hc23 => ?_)
            rfl
          · rewrite [al_53 hL]
            refine ck_cg (fun h25 => ?_)
            rfl
set_option maxHeartbeats 4000000 in
theorem fC_X0_tells_s {x : Nat} (p0 : Int32) (p1 : Int32) (p2 : Int32) (p3 : Int32) (w : AH) (r : Int32) (w' : AH) (hf : fC_X0_tells x p0 p1 p2 p3 w = some (r, w')) : Sc x w w' := by
  unfold fC_X0_tells at hf
  have hx := Sc.refl (x := x) w
  obtain ⟨r2, hc1, hf⟩ := bd1_ex hf
  by_cases hc30 : r2 = (0 : Int32)
  · have hf := if_t hf hc30
    cases some_ex hf
    exact hx
  · have hf := if_f hf hc30
    obtain ⟨r4, hc3, hf⟩ := bd1_ex hf
    by_cases hc29 : r4 = (0 : Int32)
    · have hf := if_t hf hc29
      cases some_ex hf
      exact hx
    · have hf := if_f hf hc29
      obtain ⟨r6, hc5, hf⟩ := bd1_ex hf
      by_cases hc28 : r6 = (0 : Int32)
      · have hf := if_t hf hc28
        cases some_ex hf
        exact hx
      · have hf := if_f hf hc28
        obtain ⟨r8, hc7, hf⟩ := bd1_ex hf
        by_cases hc27 : r8 = (0 : Int32)
        · have hf := if_t hf hc27
          cases some_ex hf
          exact hx
        · have hf := if_f hf hc27
          obtain ⟨w10, hc9, hf⟩ := bd1_ex hf
          have hx := hx.trans (fC_X6_looks_s _ _ _ _ hc9)
          by_cases hc26 : (4 : Int32) ≤ p3
          · have hf := if_t hf hc26
            by_cases hw4 : p3 = (4 : Int32)
            · have hf := if_t hf hw4
              obtain ⟨h11, hf⟩ := ck_ex hf
              cases some_ex hf
              exact hx
            replace hf := if_f hf hw4
            by_cases hw5 : p3 = (5 : Int32)
            · have hf := if_t hf hw5
              obtain ⟨r13, hc12, hf⟩ := bd1_ex hf
              cases some_ex hf
              exact hx
            replace hf := if_f hf hw5
            by_cases hw6 : p3 = (6 : Int32)
            · have hf := if_t hf hw6
              obtain ⟨h14, hf⟩ := ck_ex hf
              obtain ⟨h15, hf⟩ := ck_ex hf
              obtain ⟨h16, hf⟩ := ck_ex hf
              by_cases hc20 : (hvi w10 (x + 53) (((4 : Int32) * p0).toNatClampNeg)) = ((hvi w10 (x + 53) ((((4 : Int32) * p0) + (1 : Int32)).toNatClampNeg)) + (hvi w10 (x + 53) ((((4 : Int32) * p0) + (3 : Int32)).toNatClampNeg)))
              · have hf := if_t hf hc20
                obtain ⟨r18, hc17, hf⟩ := bd1_ex hf
                by_cases hc19 : r18 = (0 : Int32)
                · have hf := if_t hf hc19
                  cases some_ex hf
                  exact hx
                · have hf := if_f hf hc19
                  cases some_ex hf
                  exact hx
              · have hf := if_f hf hc20
                cases some_ex hf
                exact hx
            replace hf := if_f hf hw6
            by_cases hw7 : p3 = (7 : Int32)
            · have hf := if_t hf hw7
              obtain ⟨h21, hf⟩ := ck_ex hf
              by_cases hc22 : (hvi w10 (x + 56) (p0.toNatClampNeg)) = (0 : Int32)
              · have hf := if_t hf hc22
                cases some_ex hf
                exact hx
              · have hf := if_f hf hc22
                cases some_ex hf
                exact hx
            replace hf := if_f hf hw7
            obtain ⟨r24, hc23, hf⟩ := bd1_ex hf
            cases some_ex hf
            exact hx
          · have hf := if_f hf hc26
            obtain ⟨h25, hf⟩ := ck_ex hf
            cases some_ex hf
            exact hx
set_option maxHeartbeats 4000000 in
theorem fC_X0_keep_19_e {x : Nat} (w : AH) (hL : Lay x w) : mC_X0_keep_19 x w = fC_X0_keep_19 x w := by
  unfold mC_X0_keep_19 fC_X0_keep_19
  rewrite [ck_t (kq_0 hL)]
  rewrite [fC_X0_refuse_e _ hL]
  refine bd2_cg (fun r3 w2 hc1 => ?_)
  have hL := (fC_X0_refuse_s _ _ _ _ hc1).1.lay hL
  rfl
set_option maxHeartbeats 4000000 in
theorem fC_X0_keep_19_s {r : Int32} {w' : AH} {x : Nat} (w : AH) (hf : fC_X0_keep_19 x w = some (r, w')) : Sx x w w' := by
  unfold fC_X0_keep_19 at hf
  have hx := Sx.refl (x := x) w
  obtain ⟨r3, w2, hc1, hf⟩ := bd2_ex hf
  have hx := hx.trans (fC_X0_refuse_s _ _ _ _ hc1)
  cases some_ex hf
  exact hx
set_option maxHeartbeats 4000000 in
theorem fC_X0_keep_e {x : Nat} {w : AH} (p0 : Int32) (p1 : Int32) (hL : Lay x w) : mC_X0_keep x p0 p1 w = fC_X0_keep x p0 p1 w := by
  unfold mC_X0_keep fC_X0_keep
  refine bd1_cg (fun r2 hc1 => ?_)
  refine if_cg (fun hc16 => ?_) (fun hc16 => ?_)
  · exact fC_X0_keep_19_e w hL
  · refine bd1_cg (fun r4 hc3 => ?_)
    refine if_cg (fun hc15 => ?_) (fun hc15 => ?_)
    · exact fC_X0_keep_19_e w hL
    · rewrite [ck_t (kq_0 hL)]
      rewrite [lr_0_2 hL, bd1_s]
      rewrite [ck_t (kq_1 hL)]
      rewrite [lr_1_21 hL, bd1_s]
      rewrite [al_29 hL]
      refine ck_cg (fun h5 => ?_)
      refine if_cg (fun hc14 => ?_) (fun hc14 => ?_)
      · refine st1_cg (fun w6 hs7 => ?_)
        have hL := Lay.I hs7 hL
        rewrite [ck_t (kq_0 hL)]
        rewrite [fC_X0_told_e _ hL]
        refine bd2_cg (fun r10 w9 hc8 => ?_)
        have hL := (fC_X0_told_s _ _ _ _ hc8).1.lay hL
        rfl
      · rewrite [fC_X0_refuse_e _ hL]
        refine bd2_cg (fun r13 w12 hc11 => ?_)
        have hL := (fC_X0_refuse_s _ _ _ _ hc11).1.lay hL
        rfl
set_option maxHeartbeats 4000000 in
theorem fC_X0_keep_s {x : Nat} (p0 : Int32) (p1 : Int32) (w : AH) (r : Int32) (w' : AH) (hf : fC_X0_keep x p0 p1 w = some (r, w')) : Sx x w w' := by
  unfold fC_X0_keep at hf
  have hx := Sx.refl (x := x) w
  obtain ⟨r2, hc1, hf⟩ := bd1_ex hf
  by_cases hc16 : r2 = (0 : Int32)
  · have hf := if_t hf hc16
    exact hx.trans (fC_X0_keep_19_s w hf)
  · have hf := if_f hf hc16
    obtain ⟨r4, hc3, hf⟩ := bd1_ex hf
    by_cases hc15 : r4 = (0 : Int32)
    · have hf := if_t hf hc15
      exact hx.trans (fC_X0_keep_19_s w hf)
    · have hf := if_f hf hc15
      obtain ⟨h5, hf⟩ := ck_ex hf
      by_cases hc14 : (hvi w (x + 29) ((((8 : Int32) * p0) + p1).toNatClampNeg)) = (0 : Int32)
      · have hf := if_t hf hc14
        obtain ⟨w6, hs7, hf⟩ := st1_ex hf
        have hx := hx.trans (Sx.Ie hs7 (by omega))
        obtain ⟨r10, w9, hc8, hf⟩ := bd2_ex hf
        have hx := hx.trans (fC_X0_told_s _ _ _ _ hc8)
        cases some_ex hf
        exact hx
      · have hf := if_f hf hc14
        obtain ⟨r13, w12, hc11, hf⟩ := bd2_ex hf
        have hx := hx.trans (fC_X0_refuse_s _ _ _ _ hc11)
        cases some_ex hf
        exact hx
set_option maxHeartbeats 4000000 in
theorem fC_X0_seatOf_e {x : Nat} {w : AH} (p0 : Int32) (hL : Lay x w) : mC_X0_seatOf x p0 w = fC_X0_seatOf x p0 w := by
  unfold mC_X0_seatOf fC_X0_seatOf
  rewrite [ck_t (kq_0 hL)]
  rewrite [lr_0_2 hL, bd1_s]
  rewrite [ck_t (kq_1 hL)]
  rewrite [lr_1_6 hL, bd1_s]
  rewrite [lr_1_14 hL, bd1_s]
  rewrite [al_22 hL]
  refine ck_cg (fun h1 => ?_)
  rewrite [al_14 hL]
  refine ck_cg (fun h2 => ?_)
  rfl
set_option maxHeartbeats 4000000 in
theorem fC_X0_reckons_236_e {x : Nat} (v3 : Int32) (v4 : Int32) (w : AH) (hL : Lay x w) : mC_X0_reckons_236 x v3 v4 w = fC_X0_reckons_236 x v3 v4 w := by
  unfold mC_X0_reckons_236 fC_X0_reckons_236
  rewrite [ck_t (kq_0 hL)]
  refine if_cg (fun hc5 => ?_) (fun hc5 => ?_)
  · refine st1_cg (fun w3 hs4 => ?_)
    have hL := Lay.I hs4 hL
    rfl
  · refine st1_cg (fun w1 hs2 => ?_)
    have hL := Lay.I hs2 hL
    rfl
set_option maxHeartbeats 4000000 in
theorem fC_X0_reckons_219_e {x : Nat} {M142 : Nat → Int32 → Int32 → Int32 → Int32 → Int32 → AH → Option (AH)} {k142 : Int32 → Int32 → Int32 → Int32 → Int32 → AH → Option (AH)} (hk142 : ∀ (v1 : Int32) (v2 : Int32) (v3 : Int32) (v4 : Int32) (v5 : Int32) (w : AH), Lay x w → M142 x v1 v2 v3 v4 v5 w = k142 v1 v2 v3 v4 v5 w) (v1 : Int32) (v2 : Int32) (v3 : Int32) (v4 : Int32) (v5 : Int32) (w : AH) (hL : Lay x w) : mC_X0_reckons_219 M142 x v1 v2 v3 v4 v5 w = fC_X0_reckons_219 x k142 v1 v2 v3 v4 v5 w := by
  unfold mC_X0_reckons_219 fC_X0_reckons_219
  exact hk142 v1 v2 v3 v4 (v5 + (1 : Int32)) w hL
set_option maxHeartbeats 4000000 in
theorem fC_X0_reckons_174_e {x : Nat} {M142 : Nat → Int32 → Int32 → Int32 → Int32 → Int32 → AH → Option (AH)} {k142 : Int32 → Int32 → Int32 → Int32 → Int32 → AH → Option (AH)} (hk142 : ∀ (v1 : Int32) (v2 : Int32) (v3 : Int32) (v4 : Int32) (v5 : Int32) (w : AH), Lay x w → M142 x v1 v2 v3 v4 v5 w = k142 v1 v2 v3 v4 v5 w) (v1 : Int32) (v2 : Int32) (v3 : Int32) (v4 : Int32) (v5 : Int32) (w : AH) (hL : Lay x w) : mC_X0_reckons_174 M142 x v1 v2 v3 v4 v5 w = fC_X0_reckons_174 x k142 v1 v2 v3 v4 v5 w := by
  unfold mC_X0_reckons_174 fC_X0_reckons_174
  rewrite [ck_t (kq_0 hL)]
  rewrite [lr_0_24 hL, bd1_s]
  rewrite [al_59 hL]
  refine ck_cg (fun h1 => ?_)
  refine if_cg (fun hc5 => ?_) (fun hc5 => ?_)
  · refine st1_cg (fun r2 hr2 => ?_)
    exact fC_X0_reckons_219_e hk142 v1 v2 v3 r2 v5 w hL
  · refine st1_cg (fun w3 hs4 => ?_)
    have hL := Lay.I hs4 hL
    exact fC_X0_reckons_219_e hk142 v1 v2 (hvi w (x + 59) (v5.toNatClampNeg)) v3 v5 w3 hL
set_option maxHeartbeats 4000000 in
theorem fC_X0_reckons_142_e {x : Nat} {M142 : Nat → Int32 → Int32 → Int32 → Int32 → Int32 → AH → Option (AH)} {k142 : Int32 → Int32 → Int32 → Int32 → Int32 → AH → Option (AH)} (hk142 : ∀ (v1 : Int32) (v2 : Int32) (v3 : Int32) (v4 : Int32) (v5 : Int32) (w : AH), Lay x w → M142 x v1 v2 v3 v4 v5 w = k142 v1 v2 v3 v4 v5 w) (v1 : Int32) (v2 : Int32) (v3 : Int32) (v4 : Int32) (v5 : Int32) (w : AH) (hL : Lay x w) : mC_X0_reckons_142 M142 x v1 v2 v3 v4 v5 w = fC_X0_reckons_142 x k142 v1 v2 v3 v4 v5 w := by
  unfold mC_X0_reckons_142 fC_X0_reckons_142
  refine if_cg (fun hc7 => ?_) (fun hc7 => ?_)
  · refine if_cg (fun hc3 => ?_) (fun hc3 => ?_)
    · rewrite [ck_t (kq_0 hL)]
      refine st1_cg (fun w1 hs2 => ?_)
      have hL := Lay.I hs2 hL
      exact fC_X0_reckons_236_e v3 v4 w1 hL
    · exact fC_X0_reckons_236_e v3 v4 w hL
  · refine if_cg (fun hc6 => ?_) (fun hc6 => ?_)
    · exact fC_X0_reckons_174_e hk142 v1 v2 v3 v4 v5 w hL
    · rewrite [ck_t (kq_0 hL)]
      rewrite [lr_0_2 hL, bd1_s]
      rewrite [ck_t (kq_1 hL)]
      rewrite [lr_1_21 hL, bd1_s]
      rewrite [al_29 hL]
      refine ck_cg (fun h4 => ?_)
      refine if_cg (fun hc5 => ?_) (fun hc5 => ?_)
      · exact fC_X0_reckons_219_e hk142 v1 v2 v3 v4 v5 w hL
      · exact fC_X0_reckons_174_e hk142 v1 v2 v3 v4 v5 w hL
set_option maxHeartbeats 4000000 in
theorem fC_X0_reckons_142_l {x : Nat} : ∀ (n : Nat) (v1 : Int32) (v2 : Int32) (v3 : Int32) (v4 : Int32) (v5 : Int32) (w : AH), Lay x w → lq7 (mC_X0_reckons_142) n x v1 v2 v3 v4 v5 w = lq6 (fC_X0_reckons_142 x) n v1 v2 v3 v4 v5 w
  | 0, _, _, _, _, _, _, _ => rfl
  | n + 1, v1, v2, v3, v4, v5, w, hL => fC_X0_reckons_142_e (fC_X0_reckons_142_l n) v1 v2 v3 v4 v5 w hL
set_option maxHeartbeats 4000000 in
theorem fC_X0_reckons_122_e {x : Nat} {M90 : Nat → Int32 → Int32 → Int32 → AH → Option (AH)} {k90 : Int32 → Int32 → Int32 → AH → Option (AH)} (hk90 : ∀ (v1 : Int32) (v2 : Int32) (v3 : Int32) (w : AH), Lay x w → M90 x v1 v2 v3 w = k90 v1 v2 v3 w) (v1 : Int32) (v3 : Int32) (t0 : Int32) (w : AH) (hL : Lay x w) : mC_X0_reckons_122 M90 x v1 v3 t0 w = fC_X0_reckons_122 x k90 v1 v3 t0 w := by
  unfold mC_X0_reckons_122 fC_X0_reckons_122
  exact hk90 v1 t0 (v3 + (1 : Int32)) w hL
set_option maxHeartbeats 4000000 in
theorem fC_X0_reckons_117_e {x : Nat} {M90 : Nat → Int32 → Int32 → Int32 → AH → Option (AH)} {k90 : Int32 → Int32 → Int32 → AH → Option (AH)} (hk90 : ∀ (v1 : Int32) (v2 : Int32) (v3 : Int32) (w : AH), Lay x w → M90 x v1 v2 v3 w = k90 v1 v2 v3 w) (v1 : Int32) (v3 : Int32) (w : AH) (hL : Lay x w) : mC_X0_reckons_117 M90 x v1 v3 w = fC_X0_reckons_117 x k90 v1 v3 w := by
  unfold mC_X0_reckons_117 fC_X0_reckons_117
  exact fC_X0_reckons_122_e hk90 v1 v3 (1 : Int32) w hL
set_option maxHeartbeats 4000000 in
theorem fC_X0_reckons_90_e {x : Nat} {M90 : Nat → Int32 → Int32 → Int32 → AH → Option (AH)} {k90 : Int32 → Int32 → Int32 → AH → Option (AH)} (hk90 : ∀ (v1 : Int32) (v2 : Int32) (v3 : Int32) (w : AH), Lay x w → M90 x v1 v2 v3 w = k90 v1 v2 v3 w) (v1 : Int32) (v2 : Int32) (v3 : Int32) (w : AH) (hL : Lay x w) : mC_X0_reckons_90 M90 x v1 v2 v3 w = fC_X0_reckons_90 x k90 v1 v2 v3 w := by
  unfold mC_X0_reckons_90 fC_X0_reckons_90
  refine if_cg (fun hc6 => ?_) (fun hc6 => ?_)
  · rewrite [ck_t (kq_0 hL)]
    refine st1_cg (fun w1 hs2 => ?_)
    have hL := Lay.I hs2 hL
    exact fC_X0_reckons_142_l LF v1 v2 (0 : Int32) (0 : Int32) (0 : Int32) w1 hL
  · refine if_cg (fun hc5 => ?_) (fun hc5 => ?_)
    · rewrite [ck_t (kq_0 hL)]
      rewrite [lr_0_2 hL, bd1_s]
      rewrite [ck_t (kq_1 hL)]
      rewrite [lr_1_21 hL, bd1_s]
      rewrite [al_29 hL]
      refine ck_cg (fun h3 => ?_)
      refine if_cg (fun hc4 => ?_) (fun hc4 => ?_)
      · exact fC_X0_reckons_122_e hk90 v1 v3 (0 : Int32) w hL
      · exact fC_X0_reckons_117_e hk90 v1 v3 w hL
    · exact fC_X0_reckons_117_e hk90 v1 v3 w hL
set_option maxHeartbeats 4000000 in
theorem fC_X0_reckons_90_l {x : Nat} : ∀ (n : Nat) (v1 : Int32) (v2 : Int32) (v3 : Int32) (w : AH), Lay x w → lq5 (mC_X0_reckons_90) n x v1 v2 v3 w = lq4 (fC_X0_reckons_90 x) n v1 v2 v3 w
  | 0, _, _, _, _, _ => rfl
  | n + 1, v1, v2, v3, w, hL => fC_X0_reckons_90_e (fC_X0_reckons_90_l n) v1 v2 v3 w hL
set_option maxHeartbeats 4000000 in
theorem fC_X0_reckons_80_e {x : Nat} {M23 : Nat → Int32 → Int32 → AH → Option (AH)} {k23 : Int32 → Int32 → AH → Option (AH)} (hk23 : ∀ (v1 : Int32) (v2 : Int32) (w : AH), Lay x w → M23 x v1 v2 w = k23 v1 v2 w) (v1 : Int32) (v2 : Int32) (w : AH) (hL : Lay x w) : mC_X0_reckons_80 M23 x v1 v2 w = fC_X0_reckons_80 x k23 v1 v2 w := by
  unfold mC_X0_reckons_80 fC_X0_reckons_80
  exact hk23 v1 (v2 + (1 : Int32)) w hL
set_option maxHeartbeats 4000000 in
theorem fC_X0_reckons_45_e {x : Nat} {M23 : Nat → Int32 → Int32 → AH → Option (AH)} {k23 : Int32 → Int32 → AH → Option (AH)} {M45 : Nat → Int32 → Int32 → Int32 → AH → Option (AH)} {k45 : Int32 → Int32 → Int32 → AH → Option (AH)} (hk23 : ∀ (v1 : Int32) (v2 : Int32) (w : AH), Lay x w → M23 x v1 v2 w = k23 v1 v2 w) (hk45 : ∀ (v1 : Int32) (v2 : Int32) (v3 : Int32) (w : AH), Lay x w → M45 x v1 v2 v3 w = k45 v1 v2 v3 w) (v1 : Int32) (v2 : Int32) (v3 : Int32) (w : AH) (hL : Lay x w) : mC_X0_reckons_45 M23 M45 x v1 v2 v3 w = fC_X0_reckons_45 x k23 k45 v1 v2 v3 w := by
  unfold mC_X0_reckons_45 fC_X0_reckons_45
  refine if_cg (fun hc5 => ?_) (fun hc5 => ?_)
  · exact fC_X0_reckons_80_e hk23 v1 v2 w hL
  · rewrite [ck_t (kq_0 hL)]
    rewrite [lr_0_24 hL, bd1_s]
    rewrite [al_59 hL]
    refine ck_cg (fun h1 => ?_)
    rewrite [lr_0_23 hL, bd1_s]
    rewrite [ck_t (kq_52 hL)]
    rewrite [lr_52_2 hL, bd1_s]
    rewrite [al_55 hL]
    refine ck_cg (fun h2 => ?_)
    refine st1_cg (fun w3 hs4 => ?_)
    have hL := Lay.I hs4 hL
    exact hk45 v1 v2 (v3 + (1 : Int32)) w3 hL
set_option maxHeartbeats 4000000 in
theorem fC_X0_reckons_45_l {x : Nat} {M23 : Nat → Int32 → Int32 → AH → Option (AH)} {k23 : Int32 → Int32 → AH → Option (AH)} (hk23 : ∀ (v1 : Int32) (v2 : Int32) (w : AH), Lay x w → M23 x v1 v2 w = k23 v1 v2 w) : ∀ (n : Nat) (v1 : Int32) (v2 : Int32) (v3 : Int32) (w : AH), Lay x w → lq5 (mC_X0_reckons_45 M23) n x v1 v2 v3 w = lq4 (fC_X0_reckons_45 x k23) n v1 v2 v3 w
  | 0, _, _, _, _, _ => rfl
  | n + 1, v1, v2, v3, w, hL => fC_X0_reckons_45_e hk23 (fC_X0_reckons_45_l hk23 n) v1 v2 v3 w hL
set_option maxHeartbeats 4000000 in
theorem fC_X0_reckons_23_e {x : Nat} {M23 : Nat → Int32 → Int32 → AH → Option (AH)} {k23 : Int32 → Int32 → AH → Option (AH)} (hk23 : ∀ (v1 : Int32) (v2 : Int32) (w : AH), Lay x w → M23 x v1 v2 w = k23 v1 v2 w) (v1 : Int32) (v2 : Int32) (w : AH) (hL : Lay x w) : mC_X0_reckons_23 M23 x v1 v2 w = fC_X0_reckons_23 x k23 v1 v2 w := by
  unfold mC_X0_reckons_23 fC_X0_reckons_23
  rewrite [ck_t (kq_0 hL)]
  rewrite [lr_0_2 hL, bd1_s]
  rewrite [ck_t (kq_1 hL)]
  refine if_cg (fun hc4 => ?_) (fun hc4 => ?_)
  · exact fC_X0_reckons_90_l LF v1 (0 : Int32) (0 : Int32) w hL
  · rewrite [fC_X0_seatOf_e _ hL]
    refine bd1_cg (fun r2 hc1 => ?_)
    refine if_cg (fun hc3 => ?_) (fun hc3 => ?_)
    · exact fC_X0_reckons_45_l hk23 LF v1 v2 (0 : Int32) w hL
    · exact fC_X0_reckons_80_e hk23 v1 v2 w hL
set_option maxHeartbeats 4000000 in
theorem fC_X0_reckons_23_l {x : Nat} : ∀ (n : Nat) (v1 : Int32) (v2 : Int32) (w : AH), Lay x w → lq4 (mC_X0_reckons_23) n x v1 v2 w = lq3 (fC_X0_reckons_23 x) n v1 v2 w
  | 0, _, _, _, _ => rfl
  | n + 1, v1, v2, w, hL => fC_X0_reckons_23_e (fC_X0_reckons_23_l n) v1 v2 w hL
set_option maxHeartbeats 4000000 in
theorem fC_X0_reckons_2_e {x : Nat} {M2 : Nat → Int32 → Int32 → AH → Option (AH)} {k2 : Int32 → Int32 → AH → Option (AH)} (hk2 : ∀ (v1 : Int32) (v2 : Int32) (w : AH), Lay x w → M2 x v1 v2 w = k2 v1 v2 w) (v1 : Int32) (v2 : Int32) (w : AH) (hL : Lay x w) : mC_X0_reckons_2 M2 x v1 v2 w = fC_X0_reckons_2 x k2 v1 v2 w := by
  unfold mC_X0_reckons_2 fC_X0_reckons_2
  refine if_cg (fun hc4 => ?_) (fun hc4 => ?_)
  · exact fC_X0_reckons_23_l LF v1 (0 : Int32) w hL
  · rewrite [ck_t (kq_0 hL)]
    rewrite [lr_0_24 hL, bd1_s]
    rewrite [al_59 hL]
    refine ck_cg (fun h1 => ?_)
    refine st1_cg (fun w2 hs3 => ?_)
    have hL := Lay.I hs3 hL
    exact hk2 v1 (v2 + (1 : Int32)) w2 hL
set_option maxHeartbeats 4000000 in
theorem fC_X0_reckons_2_l {x : Nat} : ∀ (n : Nat) (v1 : Int32) (v2 : Int32) (w : AH), Lay x w → lq4 (mC_X0_reckons_2) n x v1 v2 w = lq3 (fC_X0_reckons_2 x) n v1 v2 w
  | 0, _, _, _, _ => rfl
  | n + 1, v1, v2, w, hL => fC_X0_reckons_2_e (fC_X0_reckons_2_l n) v1 v2 w hL
set_option maxHeartbeats 4000000 in
theorem fC_X0_reckons_236_s {w' : AH} {x : Nat} (v3 : Int32) (v4 : Int32) (w : AH) (hf : fC_X0_reckons_236 x v3 v4 w = some w') : Sd x w w' := by
  unfold fC_X0_reckons_236 at hf
  have hx := Sd.refl (x := x) w
  by_cases hc5 : (hvi w x 25) = (-1 : Int32)
  · have hf := if_t hf hc5
    obtain ⟨w3, hs4, hf⟩ := st1_ex hf
    have hx := hx.trans (Sd.Ie hs4 (by unfold dS; omega))
    cases some_ex hf
    exact hx
  · have hf := if_f hf hc5
    obtain ⟨w1, hs2, hf⟩ := st1_ex hf
    have hx := hx.trans (Sd.Ie hs2 (by unfold dS; omega))
    cases some_ex hf
    exact hx
set_option maxHeartbeats 4000000 in
theorem fC_X0_reckons_219_s {w' : AH} {x : Nat} {k142 : Int32 → Int32 → Int32 → Int32 → Int32 → AH → Option (AH)} (hk142 : ∀ (v1 : Int32) (v2 : Int32) (v3 : Int32) (v4 : Int32) (v5 : Int32) (w : AH), k142 v1 v2 v3 v4 v5 w = some w' → Sd x w w') (v1 : Int32) (v2 : Int32) (v3 : Int32) (v4 : Int32) (v5 : Int32) (w : AH) (hf : fC_X0_reckons_219 x k142 v1 v2 v3 v4 v5 w = some w') : Sd x w w' := by
  unfold fC_X0_reckons_219 at hf
  have hx := Sd.refl (x := x) w
  exact hx.trans (hk142 v1 v2 v3 v4 (v5 + (1 : Int32)) w hf)
set_option maxHeartbeats 4000000 in
theorem fC_X0_reckons_174_s {w' : AH} {x : Nat} {k142 : Int32 → Int32 → Int32 → Int32 → Int32 → AH → Option (AH)} (hk142 : ∀ (v1 : Int32) (v2 : Int32) (v3 : Int32) (v4 : Int32) (v5 : Int32) (w : AH), k142 v1 v2 v3 v4 v5 w = some w' → Sd x w w') (v1 : Int32) (v2 : Int32) (v3 : Int32) (v4 : Int32) (v5 : Int32) (w : AH) (hf : fC_X0_reckons_174 x k142 v1 v2 v3 v4 v5 w = some w') : Sd x w w' := by
  unfold fC_X0_reckons_174 at hf
  have hx := Sd.refl (x := x) w
  obtain ⟨h1, hf⟩ := ck_ex hf
  by_cases hc5 : (hvi w (x + 59) (v5.toNatClampNeg)) ≤ v3
  · have hf := if_t hf hc5
    obtain ⟨r2, hr2, hf⟩ := st1_ex hf
    exact hx.trans (fC_X0_reckons_219_s hk142 v1 v2 v3 r2 v5 w hf)
  · have hf := if_f hf hc5
    obtain ⟨w3, hs4, hf⟩ := st1_ex hf
    have hx := hx.trans (Sd.Ie hs4 (by unfold dS; omega))
    exact hx.trans (fC_X0_reckons_219_s hk142 v1 v2 (hvi w (x + 59) (v5.toNatClampNeg)) v3 v5 w3 hf)
set_option maxHeartbeats 4000000 in
theorem fC_X0_reckons_142_s {w' : AH} {x : Nat} {k142 : Int32 → Int32 → Int32 → Int32 → Int32 → AH → Option (AH)} (hk142 : ∀ (v1 : Int32) (v2 : Int32) (v3 : Int32) (v4 : Int32) (v5 : Int32) (w : AH), k142 v1 v2 v3 v4 v5 w = some w' → Sd x w w') (v1 : Int32) (v2 : Int32) (v3 : Int32) (v4 : Int32) (v5 : Int32) (w : AH) (hf : fC_X0_reckons_142 x k142 v1 v2 v3 v4 v5 w = some w') : Sd x w w' := by
  unfold fC_X0_reckons_142 at hf
  have hx := Sd.refl (x := x) w
  by_cases hc7 : (8 : Int32) ≤ v5
  · have hf := if_t hf hc7
    by_cases hc3 : v4 = v3
    · have hf := if_t hf hc3
      obtain ⟨w1, hs2, hf⟩ := st1_ex hf
      have hx := hx.trans (Sd.Ie hs2 (by unfold dS; omega))
      exact hx.trans (fC_X0_reckons_236_s v3 v4 w1 hf)
    · have hf := if_f hf hc3
      exact hx.trans (fC_X0_reckons_236_s v3 v4 w hf)
  · have hf := if_f hf hc7
    by_cases hc6 : v2 = (0 : Int32)
    · have hf := if_t hf hc6
      exact hx.trans (fC_X0_reckons_174_s hk142 v1 v2 v3 v4 v5 w hf)
    · have hf := if_f hf hc6
      obtain ⟨h4, hf⟩ := ck_ex hf
      by_cases hc5 : (hvi w (x + 29) ((((8 : Int32) * v1) + v5).toNatClampNeg)) = (0 : Int32)
      · have hf := if_t hf hc5
        exact hx.trans (fC_X0_reckons_219_s hk142 v1 v2 v3 v4 v5 w hf)
      · have hf := if_f hf hc5
        exact hx.trans (fC_X0_reckons_174_s hk142 v1 v2 v3 v4 v5 w hf)
set_option maxHeartbeats 4000000 in
theorem fC_X0_reckons_142_t {w' : AH} {x : Nat} : ∀ (n : Nat) (v1 : Int32) (v2 : Int32) (v3 : Int32) (v4 : Int32) (v5 : Int32) (w : AH), lq6 (fC_X0_reckons_142 x) n v1 v2 v3 v4 v5 w = some w' → Sd x w w'
  | 0, _, _, _, _, _, _, hf => nomatch hf
  | n + 1, v1, v2, v3, v4, v5, w, hf => fC_X0_reckons_142_s (fC_X0_reckons_142_t n) v1 v2 v3 v4 v5 w hf
set_option maxHeartbeats 4000000 in
theorem fC_X0_reckons_122_s {w' : AH} {x : Nat} {k90 : Int32 → Int32 → Int32 → AH → Option (AH)} (hk90 : ∀ (v1 : Int32) (v2 : Int32) (v3 : Int32) (w : AH), k90 v1 v2 v3 w = some w' → Sd x w w') (v1 : Int32) (v3 : Int32) (t0 : Int32) (w : AH) (hf : fC_X0_reckons_122 x k90 v1 v3 t0 w = some w') : Sd x w w' := by
  unfold fC_X0_reckons_122 at hf
  have hx := Sd.refl (x := x) w
  exact hx.trans (hk90 v1 t0 (v3 + (1 : Int32)) w hf)
set_option maxHeartbeats 4000000 in
theorem fC_X0_reckons_117_s {w' : AH} {x : Nat} {k90 : Int32 → Int32 → Int32 → AH → Option (AH)} (hk90 : ∀ (v1 : Int32) (v2 : Int32) (v3 : Int32) (w : AH), k90 v1 v2 v3 w = some w' → Sd x w w') (v1 : Int32) (v3 : Int32) (w : AH) (hf : fC_X0_reckons_117 x k90 v1 v3 w = some w') : Sd x w w' := by
  unfold fC_X0_reckons_117 at hf
  have hx := Sd.refl (x := x) w
  exact hx.trans (fC_X0_reckons_122_s hk90 v1 v3 (1 : Int32) w hf)
set_option maxHeartbeats 4000000 in
theorem fC_X0_reckons_90_s {w' : AH} {x : Nat} {k90 : Int32 → Int32 → Int32 → AH → Option (AH)} (hk90 : ∀ (v1 : Int32) (v2 : Int32) (v3 : Int32) (w : AH), k90 v1 v2 v3 w = some w' → Sd x w w') (v1 : Int32) (v2 : Int32) (v3 : Int32) (w : AH) (hf : fC_X0_reckons_90 x k90 v1 v2 v3 w = some w') : Sd x w w' := by
  unfold fC_X0_reckons_90 at hf
  have hx := Sd.refl (x := x) w
  by_cases hc6 : (8 : Int32) ≤ v3
  · have hf := if_t hf hc6
    obtain ⟨w1, hs2, hf⟩ := st1_ex hf
    have hx := hx.trans (Sd.Ie hs2 (by unfold dS; omega))
    exact hx.trans (fC_X0_reckons_142_t LF v1 v2 (0 : Int32) (0 : Int32) (0 : Int32) w1 hf)
  · have hf := if_f hf hc6
    by_cases hc5 : v2 = (0 : Int32)
    · have hf := if_t hf hc5
      obtain ⟨h3, hf⟩ := ck_ex hf
      by_cases hc4 : (hvi w (x + 29) ((((8 : Int32) * v1) + v3).toNatClampNeg)) = (0 : Int32)
      · have hf := if_t hf hc4
        exact hx.trans (fC_X0_reckons_122_s hk90 v1 v3 (0 : Int32) w hf)
      · have hf := if_f hf hc4
        exact hx.trans (fC_X0_reckons_117_s hk90 v1 v3 w hf)
    · have hf := if_f hf hc5
      exact hx.trans (fC_X0_reckons_117_s hk90 v1 v3 w hf)
