set_option maxRecDepth 100000
set_option maxHeartbeats 4000000 in
theorem fC_X0_reckons_90_t {w' : AH} {x : Nat} : ∀ (n : Nat) (v1 : Int32) (v2 : Int32) (v3 : Int32) (w : AH), lq4 (fC_X0_reckons_90 x) n v1 v2 v3 w = some w' → Sd x w w'
  | 0, _, _, _, _, hf => nomatch hf
  | n + 1, v1, v2, v3, w, hf => fC_X0_reckons_90_s (fC_X0_reckons_90_t n) v1 v2 v3 w hf
set_option maxHeartbeats 4000000 in
theorem fC_X0_reckons_80_s {w' : AH} {x : Nat} {k23 : Int32 → Int32 → AH → Option (AH)} (hk23 : ∀ (v1 : Int32) (v2 : Int32) (w : AH), k23 v1 v2 w = some w' → Sd x w w') (v1 : Int32) (v2 : Int32) (w : AH) (hf : fC_X0_reckons_80 x k23 v1 v2 w = some w') : Sd x w w' := by
  unfold fC_X0_reckons_80 at hf
  have hx := Sd.refl (x := x) w
  exact hx.trans (hk23 v1 (v2 + (1 : Int32)) w hf)
set_option maxHeartbeats 4000000 in
theorem fC_X0_reckons_45_s {w' : AH} {x : Nat} {k23 : Int32 → Int32 → AH → Option (AH)} {k45 : Int32 → Int32 → Int32 → AH → Option (AH)} (hk23 : ∀ (v1 : Int32) (v2 : Int32) (w : AH), k23 v1 v2 w = some w' → Sd x w w') (hk45 : ∀ (v1 : Int32) (v2 : Int32) (v3 : Int32) (w : AH), k45 v1 v2 v3 w = some w' → Sd x w w') (v1 : Int32) (v2 : Int32) (v3 : Int32) (w : AH) (hf : fC_X0_reckons_45 x k23 k45 v1 v2 v3 w = some w') : Sd x w w' := by
  unfold fC_X0_reckons_45 at hf
  have hx := Sd.refl (x := x) w
  by_cases hc5 : (8 : Int32) ≤ v3
  · have hf := if_t hf hc5
    exact hx.trans (fC_X0_reckons_80_s hk23 v1 v2 w hf)
  · have hf := if_f hf hc5
    obtain ⟨h1, hf⟩ := ck_ex hf
    obtain ⟨h2, hf⟩ := ck_ex hf
    obtain ⟨w3, hs4, hf⟩ := st1_ex hf
    have hx := hx.trans (Sd.Ie hs4 (by unfold dS; omega))
    exact hx.trans (hk45 v1 v2 (v3 + (1 : Int32)) w3 hf)
set_option maxHeartbeats 4000000 in
theorem fC_X0_reckons_45_t {w' : AH} {x : Nat} {k23 : Int32 → Int32 → AH → Option (AH)} (hk23 : ∀ (v1 : Int32) (v2 : Int32) (w : AH), k23 v1 v2 w = some w' → Sd x w w') : ∀ (n : Nat) (v1 : Int32) (v2 : Int32) (v3 : Int32) (w : AH), lq4 (fC_X0_reckons_45 x k23) n v1 v2 v3 w = some w' → Sd x w w'
  | 0, _, _, _, _, hf => nomatch hf
  | n + 1, v1, v2, v3, w, hf => fC_X0_reckons_45_s hk23 (fC_X0_reckons_45_t hk23 n) v1 v2 v3 w hf
set_option maxHeartbeats 4000000 in
theorem fC_X0_reckons_23_s {w' : AH} {x : Nat} {k23 : Int32 → Int32 → AH → Option (AH)} (hk23 : ∀ (v1 : Int32) (v2 : Int32) (w : AH), k23 v1 v2 w = some w' → Sd x w w') (v1 : Int32) (v2 : Int32) (w : AH) (hf : fC_X0_reckons_23 x k23 v1 v2 w = some w') : Sd x w w' := by
  unfold fC_X0_reckons_23 at hf
  have hx := Sd.refl (x := x) w
  by_cases hc4 : (hvi w (x + 1) 23) ≤ v2
  · have hf := if_t hf hc4
    exact hx.trans (fC_X0_reckons_90_t LF v1 (0 : Int32) (0 : Int32) w hf)
  · have hf := if_f hf hc4
    obtain ⟨r2, hc1, hf⟩ := bd1_ex hf
    by_cases hc3 : r2 = v1
    · have hf := if_t hf hc3
      exact hx.trans (fC_X0_reckons_45_t hk23 LF v1 v2 (0 : Int32) w hf)
    · have hf := if_f hf hc3
      exact hx.trans (fC_X0_reckons_80_s hk23 v1 v2 w hf)
set_option maxHeartbeats 4000000 in
theorem fC_X0_reckons_23_t {w' : AH} {x : Nat} : ∀ (n : Nat) (v1 : Int32) (v2 : Int32) (w : AH), lq3 (fC_X0_reckons_23 x) n v1 v2 w = some w' → Sd x w w'
  | 0, _, _, _, hf => nomatch hf
  | n + 1, v1, v2, w, hf => fC_X0_reckons_23_s (fC_X0_reckons_23_t n) v1 v2 w hf
set_option maxHeartbeats 4000000 in
theorem fC_X0_reckons_2_s {w' : AH} {x : Nat} {k2 : Int32 → Int32 → AH → Option (AH)} (hk2 : ∀ (v1 : Int32) (v2 : Int32) (w : AH), k2 v1 v2 w = some w' → Sd x w w') (v1 : Int32) (v2 : Int32) (w : AH) (hf : fC_X0_reckons_2 x k2 v1 v2 w = some w') : Sd x w w' := by
  unfold fC_X0_reckons_2 at hf
  have hx := Sd.refl (x := x) w
  by_cases hc4 : (8 : Int32) ≤ v2
  · have hf := if_t hf hc4
    exact hx.trans (fC_X0_reckons_23_t LF v1 (0 : Int32) w hf)
  · have hf := if_f hf hc4
    obtain ⟨h1, hf⟩ := ck_ex hf
    obtain ⟨w2, hs3, hf⟩ := st1_ex hf
    have hx := hx.trans (Sd.Ie hs3 (by unfold dS; omega))
    exact hx.trans (hk2 v1 (v2 + (1 : Int32)) w2 hf)
set_option maxHeartbeats 4000000 in
theorem fC_X0_reckons_2_t {w' : AH} {x : Nat} : ∀ (n : Nat) (v1 : Int32) (v2 : Int32) (w : AH), lq3 (fC_X0_reckons_2 x) n v1 v2 w = some w' → Sd x w w'
  | 0, _, _, _, hf => nomatch hf
  | n + 1, v1, v2, w, hf => fC_X0_reckons_2_s (fC_X0_reckons_2_t n) v1 v2 w hf
set_option maxHeartbeats 4000000 in
theorem fC_X0_reckons_e {x : Nat} {w : AH} (p0 : Int32) (hL : Lay x w) : mC_X0_reckons x p0 w = fC_X0_reckons x p0 w := by
  unfold mC_X0_reckons fC_X0_reckons
  exact fC_X0_reckons_2_l LF p0 (0 : Int32) w hL
set_option maxHeartbeats 4000000 in
theorem fC_X0_reckons_s {x : Nat} (p0 : Int32) (w : AH) (w' : AH) (hf : fC_X0_reckons x p0 w = some w') : Sd x w w' := by
  unfold fC_X0_reckons at hf
  have hx := Sd.refl (x := x) w
  exact hx.trans (fC_X0_reckons_2_t LF p0 (0 : Int32) w hf)
set_option maxHeartbeats 4000000 in
theorem fC_X0_doesHang_120_e {x : Nat} {w : AH} {M7 : Nat → Int32 → Int32 → Int32 → Int32 → Option (Int32)} {k7 : Int32 → Int32 → Int32 → Int32 → Option (Int32)} (hk7 : ∀ (v1 : Int32) (v2 : Int32) (v3 : Int32) (v4 : Int32), Lay x w → M7 x v1 v2 v3 v4 = k7 v1 v2 v3 v4) (v1 : Int32) (v2 : Int32) (v3 : Int32) (v4 : Int32) (hL : Lay x w) : mC_X0_doesHang_120 w M7 x v1 v2 v3 v4 = fC_X0_doesHang_120 x w k7 v1 v2 v3 v4 := by
  unfold mC_X0_doesHang_120 fC_X0_doesHang_120
  exact hk7 v1 v2 v3 (v4 + (1 : Int32)) hL
set_option maxHeartbeats 4000000 in
theorem fC_X0_doesHang_75_e {x : Nat} {w : AH} {M25 : Nat → Int32 → Int32 → Int32 → Int32 → Int32 → Int32 → Option (Int32)} {k25 : Int32 → Int32 → Int32 → Int32 → Int32 → Int32 → Option (Int32)} (hk25 : ∀ (v1 : Int32) (v2 : Int32) (v3 : Int32) (v4 : Int32) (v5 : Int32) (v6 : Int32), Lay x w → M25 x v1 v2 v3 v4 v5 v6 = k25 v1 v2 v3 v4 v5 v6) (v1 : Int32) (v2 : Int32) (v3 : Int32) (v4 : Int32) (v6 : Int32) (t0 : Int32) (hL : Lay x w) : mC_X0_doesHang_75 w M25 x v1 v2 v3 v4 v6 t0 = fC_X0_doesHang_75 x w k25 v1 v2 v3 v4 v6 t0 := by
  unfold mC_X0_doesHang_75 fC_X0_doesHang_75
  exact hk25 v1 v2 v3 v4 t0 (v6 + (1 : Int32)) hL
set_option maxHeartbeats 4000000 in
theorem fC_X0_doesHang_70_e {x : Nat} {w : AH} {M25 : Nat → Int32 → Int32 → Int32 → Int32 → Int32 → Int32 → Option (Int32)} {k25 : Int32 → Int32 → Int32 → Int32 → Int32 → Int32 → Option (Int32)} (hk25 : ∀ (v1 : Int32) (v2 : Int32) (v3 : Int32) (v4 : Int32) (v5 : Int32) (v6 : Int32), Lay x w → M25 x v1 v2 v3 v4 v5 v6 = k25 v1 v2 v3 v4 v5 v6) (v1 : Int32) (v2 : Int32) (v3 : Int32) (v4 : Int32) (v6 : Int32) (hL : Lay x w) : mC_X0_doesHang_70 w M25 x v1 v2 v3 v4 v6 = fC_X0_doesHang_70 x w k25 v1 v2 v3 v4 v6 := by
  unfold mC_X0_doesHang_70 fC_X0_doesHang_70
  exact fC_X0_doesHang_75_e hk25 v1 v2 v3 v4 v6 (1 : Int32) hL
set_option maxHeartbeats 4000000 in
theorem fC_X0_doesHang_74_e {x : Nat} {w : AH} {M25 : Nat → Int32 → Int32 → Int32 → Int32 → Int32 → Int32 → Option (Int32)} {k25 : Int32 → Int32 → Int32 → Int32 → Int32 → Int32 → Option (Int32)} (hk25 : ∀ (v1 : Int32) (v2 : Int32) (v3 : Int32) (v4 : Int32) (v5 : Int32) (v6 : Int32), Lay x w → M25 x v1 v2 v3 v4 v5 v6 = k25 v1 v2 v3 v4 v5 v6) (v1 : Int32) (v2 : Int32) (v3 : Int32) (v4 : Int32) (v6 : Int32) (hL : Lay x w) : mC_X0_doesHang_74 w M25 x v1 v2 v3 v4 v6 = fC_X0_doesHang_74 x w k25 v1 v2 v3 v4 v6 := by
  unfold mC_X0_doesHang_74 fC_X0_doesHang_74
  exact fC_X0_doesHang_75_e hk25 v1 v2 v3 v4 v6 (0 : Int32) hL
set_option maxHeartbeats 4000000 in
theorem fC_X0_doesHang_25_e {x : Nat} {w : AH} {M7 : Nat → Int32 → Int32 → Int32 → Int32 → Option (Int32)} {k7 : Int32 → Int32 → Int32 → Int32 → Option (Int32)} {M25 : Nat → Int32 → Int32 → Int32 → Int32 → Int32 → Int32 → Option (Int32)} {k25 : Int32 → Int32 → Int32 → Int32 → Int32 → Int32 → Option (Int32)} (hk7 : ∀ (v1 : Int32) (v2 : Int32) (v3 : Int32) (v4 : Int32), Lay x w → M7 x v1 v2 v3 v4 = k7 v1 v2 v3 v4) (hk25 : ∀ (v1 : Int32) (v2 : Int32) (v3 : Int32) (v4 : Int32) (v5 : Int32) (v6 : Int32), Lay x w → M25 x v1 v2 v3 v4 v5 v6 = k25 v1 v2 v3 v4 v5 v6) (v1 : Int32) (v2 : Int32) (v3 : Int32) (v4 : Int32) (v5 : Int32) (v6 : Int32) (hL : Lay x w) : mC_X0_doesHang_25 w M7 M25 x v1 v2 v3 v4 v5 v6 = fC_X0_doesHang_25 x w k7 k25 v1 v2 v3 v4 v5 v6 := by
  unfold mC_X0_doesHang_25 fC_X0_doesHang_25
  rewrite [ck_t (kq_0 hL)]
  rewrite [lr_0_2 hL, bd1_s]
  rewrite [ck_t (kq_1 hL)]
  refine if_cg (fun hc10 => ?_) (fun hc10 => ?_)
  · refine if_cg (fun hc4 => ?_) (fun hc4 => ?_)
    · exact fC_X0_doesHang_120_e hk7 v1 v2 v3 v4 hL
    · rewrite [lr_1_6 hL, bd1_s]
      rewrite [al_14 hL]
      refine ck_cg (fun h1 => ?_)
      refine if_cg (fun hc3 => ?_) (fun hc3 => ?_)
      · rewrite [lr_0_9 hL, bd1_s]
        rewrite [ck_t (kq_39 hL)]
        rewrite [lr_39_2 hL, bd1_s]
        rewrite [al_42 hL]
        refine ck_cg (fun h2 => ?_)
        exact fC_X0_doesHang_120_e hk7 v1 (v2 + (hvi w (x + 42) (v4.toNatClampNeg))) (1 : Int32) v4 hL
      · exact fC_X0_doesHang_120_e hk7 v1 v2 v3 v4 hL
  · refine if_cg (fun hc9 => ?_) (fun hc9 => ?_)
    · rewrite [lr_1_14 hL, bd1_s]
      rewrite [al_22 hL]
      refine ck_cg (fun h5 => ?_)
      refine if_cg (fun hc8 => ?_) (fun hc8 => ?_)
      · rewrite [lr_0_23 hL, bd1_s]
        rewrite [ck_t (kq_52 hL)]
        rewrite [lr_52_3 hL, bd1_s]
        rewrite [al_56 hL]
        refine ck_cg (fun h6 => ?_)
        refine if_cg (fun hc7 => ?_) (fun hc7 => ?_)
        · exact fC_X0_doesHang_74_e hk25 v1 v2 v3 v4 v6 hL
        · exact fC_X0_doesHang_70_e hk25 v1 v2 v3 v4 v6 hL
      · exact fC_X0_doesHang_74_e hk25 v1 v2 v3 v4 v6 hL
    · exact fC_X0_doesHang_70_e hk25 v1 v2 v3 v4 v6 hL
set_option maxHeartbeats 4000000 in
theorem fC_X0_doesHang_25_l {x : Nat} {w : AH} {M7 : Nat → Int32 → Int32 → Int32 → Int32 → Option (Int32)} {k7 : Int32 → Int32 → Int32 → Int32 → Option (Int32)} (hk7 : ∀ (v1 : Int32) (v2 : Int32) (v3 : Int32) (v4 : Int32), Lay x w → M7 x v1 v2 v3 v4 = k7 v1 v2 v3 v4) : ∀ (n : Nat) (v1 : Int32) (v2 : Int32) (v3 : Int32) (v4 : Int32) (v5 : Int32) (v6 : Int32), Lay x w → lq7 (mC_X0_doesHang_25 w M7) n x v1 v2 v3 v4 v5 v6 = lq6 (fC_X0_doesHang_25 x w k7) n v1 v2 v3 v4 v5 v6
  | 0, _, _, _, _, _, _, _ => rfl
  | n + 1, v1, v2, v3, v4, v5, v6, hL => fC_X0_doesHang_25_e hk7 (fC_X0_doesHang_25_l hk7 n) v1 v2 v3 v4 v5 v6 hL
set_option maxHeartbeats 4000000 in
theorem fC_X0_doesHang_7_e {x : Nat} {w : AH} {M7 : Nat → Int32 → Int32 → Int32 → Int32 → Option (Int32)} {k7 : Int32 → Int32 → Int32 → Int32 → Option (Int32)} (hk7 : ∀ (v1 : Int32) (v2 : Int32) (v3 : Int32) (v4 : Int32), Lay x w → M7 x v1 v2 v3 v4 = k7 v1 v2 v3 v4) (v1 : Int32) (v2 : Int32) (v3 : Int32) (v4 : Int32) (hL : Lay x w) : mC_X0_doesHang_7 w M7 x v1 v2 v3 v4 = fC_X0_doesHang_7 x w k7 v1 v2 v3 v4 := by
  unfold mC_X0_doesHang_7 fC_X0_doesHang_7
  rewrite [ck_t (kq_0 hL)]
  rewrite [lr_0_2 hL, bd1_s]
  rewrite [ck_t (kq_1 hL)]
  refine if_cg (fun hc3 => ?_) (fun hc3 => ?_)
  · refine if_cg (fun hc2 => ?_) (fun hc2 => ?_)
    · rfl
    · refine if_cg (fun hc1 => ?_) (fun hc1 => ?_)
      · rfl
      · rfl
  · exact fC_X0_doesHang_25_l hk7 LF v1 v2 v3 v4 (0 : Int32) (0 : Int32) hL
set_option maxHeartbeats 4000000 in
theorem fC_X0_doesHang_7_l {x : Nat} {w : AH} : ∀ (n : Nat) (v1 : Int32) (v2 : Int32) (v3 : Int32) (v4 : Int32), Lay x w → lq5 (mC_X0_doesHang_7 w) n x v1 v2 v3 v4 = lq4 (fC_X0_doesHang_7 x w) n v1 v2 v3 v4
  | 0, _, _, _, _, _ => rfl
  | n + 1, v1, v2, v3, v4, hL => fC_X0_doesHang_7_e (fC_X0_doesHang_7_l n) v1 v2 v3 v4 hL
set_option maxHeartbeats 4000000 in
theorem fC_X0_doesHang_e {x : Nat} {w : AH} (p0 : Int32) (hL : Lay x w) : mC_X0_doesHang x p0 w = fC_X0_doesHang x p0 w := by
  unfold mC_X0_doesHang fC_X0_doesHang
  exact fC_X0_doesHang_7_l LF p0 (0 : Int32) (0 : Int32) (0 : Int32) hL
set_option maxHeartbeats 4000000 in
theorem fC_X0_seat_e {x : Nat} {w : AH} (p0 : Int32) (p1 : Int32) (p2 : Int32) (p3 : Int32) (hL : Lay x w) : mC_X0_seat x p0 p1 p2 p3 w = fC_X0_seat x p0 p1 p2 p3 w := by
  unfold mC_X0_seat fC_X0_seat
  refine bd1_cg (fun r2 hc1 => ?_)
  refine if_cg (fun hc23 => ?_) (fun hc23 => ?_)
  · rfl
  · refine bd1_cg (fun r4 hc3 => ?_)
    refine if_cg (fun hc22 => ?_) (fun hc22 => ?_)
    · rfl
    · refine bd1_cg (fun r6 hc5 => ?_)
      refine if_cg (fun hc21 => ?_) (fun hc21 => ?_)
      · rfl
      · refine bd1_cg (fun r8 hc7 => ?_)
        refine if_cg (fun hc20 => ?_) (fun hc20 => ?_)
        · rfl
        · rewrite [ck_t (kq_0 hL)]
          rewrite [lr_0_23 hL, bd1_s]
          rewrite [ck_t (kq_52 hL)]
          rewrite [fC_X6_looks_e _ _ hL]
          refine bd1_cg (fun w10 hc9 => ?_)
          have hL := (fC_X6_looks_s _ _ _ _ hc9).1.lay hL
          rewrite [ck_t (kq_0 hL)]
          rewrite [fC_X0_reckons_e _ hL]
          refine bd1_cg (fun w12 hc11 => ?_)
          have hL := (fC_X0_reckons_s _ _ _ hc11).1.lay hL
          refine if_cg (fun hc19 => ?_) (fun hc19 => ?_)
          · refine if_cg (fun hc17 => ?_) (fun hc17 => ?_)
            · rewrite [ck_t (kq_0 hL)]
              rfl
            · refine if_cg (fun hc16 => ?_) (fun hc16 => ?_)
              · rewrite [ck_t (kq_0 hL)]
                rfl
              · rewrite [ck_t (kq_0 hL)]
                rewrite [fC_X0_doesHang_e _ hL]
                refine bd1_cg (fun r14 hc13 => ?_)
                refine if_cg (fun hc15 => ?_) (fun hc15 => ?_)
                · rfl
                · rfl
          · rewrite [ck_t (kq_0 hL)]
            rewrite [lr_0_24 hL, bd1_s]
            rewrite [al_59 hL]
            refine ck_cg (fun h18 => ?_)
            rfl
set_option maxHeartbeats 4000000 in
theorem fC_X0_seat_s {x : Nat} (p0 : Int32) (p1 : Int32) (p2 : Int32) (p3 : Int32) (w : AH) (r : Int32) (w' : AH) (hf : fC_X0_seat x p0 p1 p2 p3 w = some (r, w')) : Sc x w w' := by
  unfold fC_X0_seat at hf
  have hx := Sc.refl (x := x) w
  obtain ⟨r2, hc1, hf⟩ := bd1_ex hf
  by_cases hc23 : r2 = (0 : Int32)
  · have hf := if_t hf hc23
    cases some_ex hf
    exact hx
  · have hf := if_f hf hc23
    obtain ⟨r4, hc3, hf⟩ := bd1_ex hf
    by_cases hc22 : r4 = (0 : Int32)
    · have hf := if_t hf hc22
      cases some_ex hf
      exact hx
    · have hf := if_f hf hc22
      obtain ⟨r6, hc5, hf⟩ := bd1_ex hf
      by_cases hc21 : r6 = (0 : Int32)
      · have hf := if_t hf hc21
        cases some_ex hf
        exact hx
      · have hf := if_f hf hc21
        obtain ⟨r8, hc7, hf⟩ := bd1_ex hf
        by_cases hc20 : r8 = (0 : Int32)
        · have hf := if_t hf hc20
          cases some_ex hf
          exact hx
        · have hf := if_f hf hc20
          obtain ⟨w10, hc9, hf⟩ := bd1_ex hf
          have hx := hx.trans (fC_X6_looks_s _ _ _ _ hc9)
          obtain ⟨w12, hc11, hf⟩ := bd1_ex hf
          have hx := hx.trans (fC_X0_reckons_s _ _ _ hc11).sc
          by_cases hc19 : (8 : Int32) ≤ p3
          · have hf := if_t hf hc19
            by_cases hc17 : p3 = (8 : Int32)
            · have hf := if_t hf hc17
              cases some_ex hf
              exact hx
            · have hf := if_f hf hc17
              by_cases hc16 : p3 = (9 : Int32)
              · have hf := if_t hf hc16
                cases some_ex hf
                exact hx
              · have hf := if_f hf hc16
                obtain ⟨r14, hc13, hf⟩ := bd1_ex hf
                by_cases hc15 : r14 = (0 : Int32)
                · have hf := if_t hf hc15
                  cases some_ex hf
                  exact hx
                · have hf := if_f hf hc15
                  cases some_ex hf
                  exact hx
          · have hf := if_f hf hc19
            obtain ⟨h18, hf⟩ := ck_ex hf
            cases some_ex hf
            exact hx
set_option maxHeartbeats 4000000 in
theorem fC_X0_mayTell_28_e {x : Nat} {w : AH} {M5 : Nat → Int32 → Int32 → Int32 → Int32 → Option (Int32)} {k5 : Int32 → Int32 → Int32 → Int32 → Option (Int32)} (hk5 : ∀ (v1 : Int32) (v2 : Int32) (v3 : Int32) (v4 : Int32), Lay x w → M5 x v1 v2 v3 v4 = k5 v1 v2 v3 v4) (v1 : Int32) (v2 : Int32) (v4 : Int32) (t0 : Int32) (t1 : Int32) (hL : Lay x w) : mC_X0_mayTell_28 w M5 x v1 v2 v4 t0 t1 = fC_X0_mayTell_28 x w k5 v1 v2 v4 t0 t1 := by
  unfold mC_X0_mayTell_28 fC_X0_mayTell_28
  exact hk5 v1 v2 (t1 + t0) (v4 + (1 : Int32)) hL
set_option maxHeartbeats 4000000 in
theorem fC_X0_mayTell_5_e {x : Nat} {w : AH} {M5 : Nat → Int32 → Int32 → Int32 → Int32 → Option (Int32)} {k5 : Int32 → Int32 → Int32 → Int32 → Option (Int32)} (hk5 : ∀ (v1 : Int32) (v2 : Int32) (v3 : Int32) (v4 : Int32), Lay x w → M5 x v1 v2 v3 v4 = k5 v1 v2 v3 v4) (v1 : Int32) (v2 : Int32) (v3 : Int32) (v4 : Int32) (hL : Lay x w) : mC_X0_mayTell_5 w M5 x v1 v2 v3 v4 = fC_X0_mayTell_5 x w k5 v1 v2 v3 v4 := by
  unfold mC_X0_mayTell_5 fC_X0_mayTell_5
  refine if_cg (fun hc5 => ?_) (fun hc5 => ?_)
  · refine if_cg (fun hc2 => ?_) (fun hc2 => ?_)
    · rfl
    · refine if_cg (fun hc1 => ?_) (fun hc1 => ?_)
      · rfl
      · rfl
  · rewrite [ck_t (kq_0 hL)]
    rewrite [lr_0_28 hL, bd1_s]
    rewrite [al_61 hL]
    refine ck_cg (fun h3 => ?_)
    refine if_cg (fun hc4 => ?_) (fun hc4 => ?_)
    · exact fC_X0_mayTell_28_e hk5 v1 v2 v4 (0 : Int32) v3 hL
    · exact fC_X0_mayTell_28_e hk5 v1 v2 v4 (1 : Int32) v3 hL
set_option maxHeartbeats 4000000 in
theorem fC_X0_mayTell_5_l {x : Nat} {w : AH} : ∀ (n : Nat) (v1 : Int32) (v2 : Int32) (v3 : Int32) (v4 : Int32), Lay x w → lq5 (mC_X0_mayTell_5 w) n x v1 v2 v3 v4 = lq4 (fC_X0_mayTell_5 x w) n v1 v2 v3 v4
  | 0, _, _, _, _, _ => rfl
  | n + 1, v1, v2, v3, v4, hL => fC_X0_mayTell_5_e (fC_X0_mayTell_5_l n) v1 v2 v3 v4 hL
set_option maxHeartbeats 4000000 in
theorem fC_X0_mayTell_e {x : Nat} {w : AH} (p0 : Int32) (p1 : Int32) (hL : Lay x w) : mC_X0_mayTell x p0 p1 w = fC_X0_mayTell x p0 p1 w := by
  unfold mC_X0_mayTell fC_X0_mayTell
  exact fC_X0_mayTell_5_l LF p0 p1 (0 : Int32) (0 : Int32) hL
set_option maxHeartbeats 4000000 in
theorem fC_X0_hides_215_e {x : Nat} {M183 : Nat → Int32 → Int32 → Int32 → AH → Option (AH)} {k183 : Int32 → Int32 → Int32 → AH → Option (AH)} (hk183 : ∀ (v3 : Int32) (v4 : Int32) (v6 : Int32) (w : AH), Lay x w → M183 x v3 v4 v6 w = k183 v3 v4 v6 w) (v3 : Int32) (v4 : Int32) (v6 : Int32) (w : AH) (hL : Lay x w) : mC_X0_hides_215 M183 x v3 v4 v6 w = fC_X0_hides_215 x k183 v3 v4 v6 w := by
  unfold mC_X0_hides_215 fC_X0_hides_215
  exact hk183 v3 v4 (v6 + (1 : Int32)) w hL
set_option maxHeartbeats 4000000 in
theorem fC_X0_hides_183_e {x : Nat} {M183 : Nat → Int32 → Int32 → Int32 → AH → Option (AH)} {k183 : Int32 → Int32 → Int32 → AH → Option (AH)} (hk183 : ∀ (v3 : Int32) (v4 : Int32) (v6 : Int32) (w : AH), Lay x w → M183 x v3 v4 v6 w = k183 v3 v4 v6 w) (v3 : Int32) (v4 : Int32) (v6 : Int32) (w : AH) (hL : Lay x w) : mC_X0_hides_183 M183 x v3 v4 v6 w = fC_X0_hides_183 x k183 v3 v4 v6 w := by
  unfold mC_X0_hides_183 fC_X0_hides_183
  rewrite [ck_t (kq_0 hL)]
  rewrite [lr_0_2 hL, bd1_s]
  rewrite [ck_t (kq_1 hL)]
  refine if_cg (fun hc5 => ?_) (fun hc5 => ?_)
  · rfl
  · rewrite [lr_0_27 hL, bd1_s]
    rewrite [al_60 hL]
    refine ck_cg (fun h1 => ?_)
    refine if_cg (fun hc4 => ?_) (fun hc4 => ?_)
    · refine st1_cg (fun w2 hs3 => ?_)
      have hL := Lay.I hs3 hL
      exact fC_X0_hides_215_e hk183 v3 v4 v6 w2 hL
    · exact fC_X0_hides_215_e hk183 v3 v4 v6 w hL
set_option maxHeartbeats 4000000 in
theorem fC_X0_hides_183_l {x : Nat} : ∀ (n : Nat) (v3 : Int32) (v4 : Int32) (v6 : Int32) (w : AH), Lay x w → lq5 (mC_X0_hides_183) n x v3 v4 v6 w = lq4 (fC_X0_hides_183 x) n v3 v4 v6 w
  | 0, _, _, _, _, _ => rfl
  | n + 1, v3, v4, v6, w, hL => fC_X0_hides_183_e (fC_X0_hides_183_l n) v3 v4 v6 w hL
set_option maxHeartbeats 4000000 in
theorem fC_X0_hides_162_e {x : Nat} {M11 : Nat → Int32 → Int32 → Int32 → Int32 → Int32 → Int32 → AH → Option (AH)} {k11 : Int32 → Int32 → Int32 → Int32 → Int32 → Int32 → AH → Option (AH)} (hk11 : ∀ (v1 : Int32) (v2 : Int32) (v3 : Int32) (v4 : Int32) (v5 : Int32) (v6 : Int32) (w : AH), Lay x w → M11 x v1 v2 v3 v4 v5 v6 w = k11 v1 v2 v3 v4 v5 v6 w) (v1 : Int32) (v2 : Int32) (v3 : Int32) (v4 : Int32) (v5 : Int32) (v6 : Int32) (w : AH) (hL : Lay x w) : mC_X0_hides_162 M11 x v1 v2 v3 v4 v5 v6 w = fC_X0_hides_162 x k11 v1 v2 v3 v4 v5 v6 w := by
  unfold mC_X0_hides_162 fC_X0_hides_162
  exact hk11 v1 v2 v3 v4 v5 (v6 + (1 : Int32)) w hL
set_option maxHeartbeats 4000000 in
theorem fC_X0_hides_105_e {x : Nat} {M11 : Nat → Int32 → Int32 → Int32 → Int32 → Int32 → Int32 → AH → Option (AH)} {k11 : Int32 → Int32 → Int32 → Int32 → Int32 → Int32 → AH → Option (AH)} {M105 : Nat → Int32 → Int32 → Int32 → Int32 → Int32 → Int32 → Int32 → AH → Option (AH)} {k105 : Int32 → Int32 → Int32 → Int32 → Int32 → Int32 → Int32 → AH → Option (AH)} (hk11 : ∀ (v1 : Int32) (v2 : Int32) (v3 : Int32) (v4 : Int32) (v5 : Int32) (v6 : Int32) (w : AH), Lay x w → M11 x v1 v2 v3 v4 v5 v6 w = k11 v1 v2 v3 v4 v5 v6 w) (hk105 : ∀ (v1 : Int32) (v2 : Int32) (v3 : Int32) (v4 : Int32) (v5 : Int32) (v6 : Int32) (v7 : Int32) (w : AH), Lay x w → M105 x v1 v2 v3 v4 v5 v6 v7 w = k105 v1 v2 v3 v4 v5 v6 v7 w) (v1 : Int32) (v2 : Int32) (v3 : Int32) (v4 : Int32) (v5 : Int32) (v6 : Int32) (v7 : Int32) (w : AH) (hL : Lay x w) : mC_X0_hides_105 M11 M105 x v1 v2 v3 v4 v5 v6 v7 w = fC_X0_hides_105 x k11 k105 v1 v2 v3 v4 v5 v6 v7 w := by
  unfold mC_X0_hides_105 fC_X0_hides_105
  refine if_cg (fun hc8 => ?_) (fun hc8 => ?_)
  · rewrite [ck_t (kq_0 hL)]
    rewrite [fC_X0_mayTell_e _ _ hL]
    refine bd1_cg (fun r2 hc1 => ?_)
    refine if_cg (fun hc3 => ?_) (fun hc3 => ?_)
    · exact fC_X0_hides_162_e hk11 v1 v2 v3 v4 v5 v6 w hL
    · exact fC_X0_hides_162_e hk11 v1 v2 (-1 : Int32) v3 v5 v6 w hL
  · rewrite [ck_t (kq_0 hL)]
    rewrite [lr_0_28 hL, bd1_s]
    rewrite [al_61 hL]
    refine ck_cg (fun h4 => ?_)
    rewrite [lr_0_23 hL, bd1_s]
    rewrite [ck_t (kq_52 hL)]
    rewrite [lr_52_2 hL, bd1_s]
    rewrite [al_55 hL]
    refine ck_cg (fun h5 => ?_)
    refine st1_cg (fun w6 hs7 => ?_)
    have hL := Lay.I hs7 hL
    exact hk105 v1 v2 v3 v4 v5 v6 (v7 + (1 : Int32)) w6 hL
set_option maxHeartbeats 4000000 in
theorem fC_X0_hides_105_l {x : Nat} {M11 : Nat → Int32 → Int32 → Int32 → Int32 → Int32 → Int32 → AH → Option (AH)} {k11 : Int32 → Int32 → Int32 → Int32 → Int32 → Int32 → AH → Option (AH)} (hk11 : ∀ (v1 : Int32) (v2 : Int32) (v3 : Int32) (v4 : Int32) (v5 : Int32) (v6 : Int32) (w : AH), Lay x w → M11 x v1 v2 v3 v4 v5 v6 w = k11 v1 v2 v3 v4 v5 v6 w) : ∀ (n : Nat) (v1 : Int32) (v2 : Int32) (v3 : Int32) (v4 : Int32) (v5 : Int32) (v6 : Int32) (v7 : Int32) (w : AH), Lay x w → lq9 (mC_X0_hides_105 M11) n x v1 v2 v3 v4 v5 v6 v7 w = lq8 (fC_X0_hides_105 x k11) n v1 v2 v3 v4 v5 v6 v7 w
  | 0, _, _, _, _, _, _, _, _, _ => rfl
  | n + 1, v1, v2, v3, v4, v5, v6, v7, w, hL => fC_X0_hides_105_e hk11 (fC_X0_hides_105_l hk11 n) v1 v2 v3 v4 v5 v6 v7 w hL
set_option maxHeartbeats 4000000 in
theorem fC_X0_hides_79_e {x : Nat} {M11 : Nat → Int32 → Int32 → Int32 → Int32 → Int32 → Int32 → AH → Option (AH)} {k11 : Int32 → Int32 → Int32 → Int32 → Int32 → Int32 → AH → Option (AH)} (hk11 : ∀ (v1 : Int32) (v2 : Int32) (v3 : Int32) (v4 : Int32) (v5 : Int32) (v6 : Int32) (w : AH), Lay x w → M11 x v1 v2 v3 v4 v5 v6 w = k11 v1 v2 v3 v4 v5 v6 w) (v1 : Int32) (v2 : Int32) (v3 : Int32) (v4 : Int32) (v5 : Int32) (v6 : Int32) (w : AH) (hL : Lay x w) : mC_X0_hides_79 M11 x v1 v2 v3 v4 v5 v6 w = fC_X0_hides_79 x k11 v1 v2 v3 v4 v5 v6 w := by
  unfold mC_X0_hides_79 fC_X0_hides_79
  rewrite [ck_t (kq_0 hL)]
  rewrite [lr_0_27 hL, bd1_s]
  rewrite [al_60 hL]
  refine ck_cg (fun h1 => ?_)
  refine st1_cg (fun w2 hs3 => ?_)
  have hL := Lay.I hs3 hL
  rewrite [ck_t (kq_0 hL)]
  rewrite [lr_0_23 hL, bd1_s]
  rewrite [ck_t (kq_52 hL)]
  rewrite [lr_52_1 hL, bd1_s]
  rewrite [al_54 hL]
  refine ck_cg (fun h4 => ?_)
  exact fC_X0_hides_105_l hk11 LF v1 v2 v3 v4 (v5 + (hvi w2 (x + 54) (v6.toNatClampNeg))) v6 (0 : Int32) w2 hL
set_option maxHeartbeats 4000000 in
theorem fC_X0_hides_58_e {x : Nat} {M11 : Nat → Int32 → Int32 → Int32 → Int32 → Int32 → Int32 → AH → Option (AH)} {k11 : Int32 → Int32 → Int32 → Int32 → Int32 → Int32 → AH → Option (AH)} {M58 : Nat → Int32 → Int32 → Int32 → Int32 → Int32 → Int32 → Int32 → AH → Option (AH)} {k58 : Int32 → Int32 → Int32 → Int32 → Int32 → Int32 → Int32 → AH → Option (AH)} (hk11 : ∀ (v1 : Int32) (v2 : Int32) (v3 : Int32) (v4 : Int32) (v5 : Int32) (v6 : Int32) (w : AH), Lay x w → M11 x v1 v2 v3 v4 v5 v6 w = k11 v1 v2 v3 v4 v5 v6 w) (hk58 : ∀ (v1 : Int32) (v2 : Int32) (v3 : Int32) (v4 : Int32) (v5 : Int32) (v6 : Int32) (v7 : Int32) (w : AH), Lay x w → M58 x v1 v2 v3 v4 v5 v6 v7 w = k58 v1 v2 v3 v4 v5 v6 v7 w) (v1 : Int32) (v2 : Int32) (v3 : Int32) (v4 : Int32) (v5 : Int32) (v6 : Int32) (v7 : Int32) (w : AH) (hL : Lay x w) : mC_X0_hides_58 M11 M58 x v1 v2 v3 v4 v5 v6 v7 w = fC_X0_hides_58 x k11 k58 v1 v2 v3 v4 v5 v6 v7 w := by
  unfold mC_X0_hides_58 fC_X0_hides_58
  refine if_cg (fun hc4 => ?_) (fun hc4 => ?_)
  · exact fC_X0_hides_79_e hk11 v1 v2 v3 v4 v5 v6 w hL
  · rewrite [ck_t (kq_0 hL)]
    rewrite [lr_0_28 hL, bd1_s]
    rewrite [al_61 hL]
    refine ck_cg (fun h1 => ?_)
    refine st1_cg (fun w2 hs3 => ?_)
    have hL := Lay.I hs3 hL
    exact hk58 v1 v2 v3 v4 v5 v6 (v7 + (1 : Int32)) w2 hL
set_option maxHeartbeats 4000000 in
theorem fC_X0_hides_58_l {x : Nat} {M11 : Nat → Int32 → Int32 → Int32 → Int32 → Int32 → Int32 → AH → Option (AH)} {k11 : Int32 → Int32 → Int32 → Int32 → Int32 → Int32 → AH → Option (AH)} (hk11 : ∀ (v1 : Int32) (v2 : Int32) (v3 : Int32) (v4 : Int32) (v5 : Int32) (v6 : Int32) (w : AH), Lay x w → M11 x v1 v2 v3 v4 v5 v6 w = k11 v1 v2 v3 v4 v5 v6 w) : ∀ (n : Nat) (v1 : Int32) (v2 : Int32) (v3 : Int32) (v4 : Int32) (v5 : Int32) (v6 : Int32) (v7 : Int32) (w : AH), Lay x w → lq9 (mC_X0_hides_58 M11) n x v1 v2 v3 v4 v5 v6 v7 w = lq8 (fC_X0_hides_58 x k11) n v1 v2 v3 v4 v5 v6 v7 w
  | 0, _, _, _, _, _, _, _, _, _ => rfl
  | n + 1, v1, v2, v3, v4, v5, v6, v7, w, hL => fC_X0_hides_58_e hk11 (fC_X0_hides_58_l hk11 n) v1 v2 v3 v4 v5 v6 v7 w hL
set_option maxHeartbeats 4000000 in
theorem fC_X0_hides_11_e {x : Nat} {M11 : Nat → Int32 → Int32 → Int32 → Int32 → Int32 → Int32 → AH → Option (AH)} {k11 : Int32 → Int32 → Int32 → Int32 → Int32 → Int32 → AH → Option (AH)} (hk11 : ∀ (v1 : Int32) (v2 : Int32) (v3 : Int32) (v4 : Int32) (v5 : Int32) (v6 : Int32) (w : AH), Lay x w → M11 x v1 v2 v3 v4 v5 v6 w = k11 v1 v2 v3 v4 v5 v6 w) (v1 : Int32) (v2 : Int32) (v3 : Int32) (v4 : Int32) (v5 : Int32) (v6 : Int32) (w : AH) (hL : Lay x w) : mC_X0_hides_11 M11 x v1 v2 v3 v4 v5 v6 w = fC_X0_hides_11 x k11 v1 v2 v3 v4 v5 v6 w := by
  unfold mC_X0_hides_11 fC_X0_hides_11
  rewrite [ck_t (kq_0 hL)]
  rewrite [lr_0_2 hL, bd1_s]
  rewrite [ck_t (kq_1 hL)]
  refine if_cg (fun hc10 => ?_) (fun hc10 => ?_)
  · refine if_cg (fun hc2 => ?_) (fun hc2 => ?_)
    · rfl
    · refine if_cg (fun hc1 => ?_) (fun hc1 => ?_)
      · rfl
      · exact fC_X0_hides_183_l LF v3 v4 (0 : Int32) w hL
  · rewrite [lr_0_27 hL, bd1_s]
    rewrite [al_60 hL]
    refine ck_cg (fun h3 => ?_)
    refine st1_cg (fun w4 hs5 => ?_)
    have hL := Lay.I hs5 hL
    rewrite [ck_t (kq_0 hL)]
    rewrite [fC_X0_seatOf_e _ hL]
    refine bd1_cg (fun r7 hc6 => ?_)
    refine if_cg (fun hc9 => ?_) (fun hc9 => ?_)
    · refine if_cg (fun hc8 => ?_) (fun hc8 => ?_)
      · exact fC_X0_hides_58_l hk11 LF v1 v2 v6 v4 (0 : Int32) v6 (0 : Int32) w4 hL
      · exact fC_X0_hides_79_e hk11 v1 v2 v3 v4 v5 v6 w4 hL
    · exact fC_X0_hides_162_e hk11 v1 v2 v3 v4 v5 v6 w4 hL
set_option maxHeartbeats 4000000 in
theorem fC_X0_hides_11_l {x : Nat} : ∀ (n : Nat) (v1 : Int32) (v2 : Int32) (v3 : Int32) (v4 : Int32) (v5 : Int32) (v6 : Int32) (w : AH), Lay x w → lq8 (mC_X0_hides_11) n x v1 v2 v3 v4 v5 v6 w = lq7 (fC_X0_hides_11 x) n v1 v2 v3 v4 v5 v6 w
  | 0, _, _, _, _, _, _, _, _ => rfl
  | n + 1, v1, v2, v3, v4, v5, v6, w, hL => fC_X0_hides_11_e (fC_X0_hides_11_l n) v1 v2 v3 v4 v5 v6 w hL
set_option maxHeartbeats 4000000 in
theorem fC_X0_hides_215_s {w' : AH} {x : Nat} {k183 : Int32 → Int32 → Int32 → AH → Option (AH)} (hk183 : ∀ (v3 : Int32) (v4 : Int32) (v6 : Int32) (w : AH), k183 v3 v4 v6 w = some w' → Sd x w w') (v3 : Int32) (v4 : Int32) (v6 : Int32) (w : AH) (hf : fC_X0_hides_215 x k183 v3 v4 v6 w = some w') : Sd x w w' := by
  unfold fC_X0_hides_215 at hf
  have hx := Sd.refl (x := x) w
  exact hx.trans (hk183 v3 v4 (v6 + (1 : Int32)) w hf)
set_option maxHeartbeats 4000000 in
theorem fC_X0_hides_183_s {w' : AH} {x : Nat} {k183 : Int32 → Int32 → Int32 → AH → Option (AH)} (hk183 : ∀ (v3 : Int32) (v4 : Int32) (v6 : Int32) (w : AH), k183 v3 v4 v6 w = some w' → Sd x w w') (v3 : Int32) (v4 : Int32) (v6 : Int32) (w : AH) (hf : fC_X0_hides_183 x k183 v3 v4 v6 w = some w') : Sd x w w' := by
  unfold fC_X0_hides_183 at hf
  have hx := Sd.refl (x := x) w
  by_cases hc5 : (hvi w (x + 1) 23) ≤ v6
  · have hf := if_t hf hc5
    cases some_ex hf
    exact hx
  · have hf := if_f hf hc5
    obtain ⟨h1, hf⟩ := ck_ex hf
    by_cases hc4 : (hvi w (x + 60) (v6.toNatClampNeg)) = v3
    · have hf := if_t hf hc4
      obtain ⟨w2, hs3, hf⟩ := st1_ex hf
      have hx := hx.trans (Sd.Ie hs3 (by unfold dS; omega))
      exact hx.trans (fC_X0_hides_215_s hk183 v3 v4 v6 w2 hf)
    · have hf := if_f hf hc4
      exact hx.trans (fC_X0_hides_215_s hk183 v3 v4 v6 w hf)
set_option maxHeartbeats 4000000 in
theorem fC_X0_hides_183_t {w' : AH} {x : Nat} : ∀ (n : Nat) (v3 : Int32) (v4 : Int32) (v6 : Int32) (w : AH), lq4 (fC_X0_hides_183 x) n v3 v4 v6 w = some w' → Sd x w w'
  | 0, _, _, _, _, hf => nomatch hf
  | n + 1, v3, v4, v6, w, hf => fC_X0_hides_183_s (fC_X0_hides_183_t n) v3 v4 v6 w hf
set_option maxHeartbeats 4000000 in
theorem fC_X0_hides_162_s {w' : AH} {x : Nat} {k11 : Int32 → Int32 → Int32 → Int32 → Int32 → Int32 → AH → Option (AH)} (hk11 : ∀ (v1 : Int32) (v2 : Int32) (v3 : Int32) (v4 : Int32) (v5 : Int32) (v6 : Int32) (w : AH), k11 v1 v2 v3 v4 v5 v6 w = some w' → Sd x w w') (v1 : Int32) (v2 : Int32) (v3 : Int32) (v4 : Int32) (v5 : Int32) (v6 : Int32) (w : AH) (hf : fC_X0_hides_162 x k11 v1 v2 v3 v4 v5 v6 w = some w') : Sd x w w' := by
  unfold fC_X0_hides_162 at hf
  have hx := Sd.refl (x := x) w
  exact hx.trans (hk11 v1 v2 v3 v4 v5 (v6 + (1 : Int32)) w hf)
set_option maxHeartbeats 4000000 in
theorem fC_X0_hides_105_s {w' : AH} {x : Nat} {k11 : Int32 → Int32 → Int32 → Int32 → Int32 → Int32 → AH → Option (AH)} {k105 : Int32 → Int32 → Int32 → Int32 → Int32 → Int32 → Int32 → AH → Option (AH)} (hk11 : ∀ (v1 : Int32) (v2 : Int32) (v3 : Int32) (v4 : Int32) (v5 : Int32) (v6 : Int32) (w : AH), k11 v1 v2 v3 v4 v5 v6 w = some w' → Sd x w w') (hk105 : ∀ (v1 : Int32) (v2 : Int32) (v3 : Int32) (v4 : Int32) (v5 : Int32) (v6 : Int32) (v7 : Int32) (w : AH), k105 v1 v2 v3 v4 v5 v6 v7 w = some w' → Sd x w w') (v1 : Int32) (v2 : Int32) (v3 : Int32) (v4 : Int32) (v5 : Int32) (v6 : Int32) (v7 : Int32) (w : AH) (hf : fC_X0_hides_105 x k11 k105 v1 v2 v3 v4 v5 v6 v7 w = some w') : Sd x w w' := by
  unfold fC_X0_hides_105 at hf
  have hx := Sd.refl (x := x) w
  by_cases hc8 : (8 : Int32) ≤ v7
  · have hf := if_t hf hc8
    obtain ⟨r2, hc1, hf⟩ := bd1_ex hf
    by_cases hc3 : r2 = (0 : Int32)
    · have hf := if_t hf hc3
      exact hx.trans (fC_X0_hides_162_s hk11 v1 v2 v3 v4 v5 v6 w hf)
    · have hf := if_f hf hc3
      exact hx.trans (fC_X0_hides_162_s hk11 v1 v2 (-1 : Int32) v3 v5 v6 w hf)
  · have hf := if_f hf hc8
    obtain ⟨h4, hf⟩ := ck_ex hf
    obtain ⟨h5, hf⟩ := ck_ex hf
    obtain ⟨w6, hs7, hf⟩ := st1_ex hf
    have hx := hx.trans (Sd.Ie hs7 (by unfold dS; omega))
    exact hx.trans (hk105 v1 v2 v3 v4 v5 v6 (v7 + (1 : Int32)) w6 hf)
set_option maxHeartbeats 4000000 in
theorem fC_X0_hides_105_t {w' : AH} {x : Nat} {k11 : Int32 → Int32 → Int32 → Int32 → Int32 → Int32 → AH → Option (AH)} (hk11 : ∀ (v1 : Int32) (v2 : Int32) (v3 : Int32) (v4 : Int32) (v5 : Int32) (v6 : Int32) (w : AH), k11 v1 v2 v3 v4 v5 v6 w = some w' → Sd x w w') : ∀ (n : Nat) (v1 : Int32) (v2 : Int32) (v3 : Int32) (v4 : Int32) (v5 : Int32) (v6 : Int32) (v7 : Int32) (w : AH), lq8 (fC_X0_hides_105 x k11) n v1 v2 v3 v4 v5 v6 v7 w = some w' → Sd x w w'
  | 0, _, _, _, _, _, _, _, _, hf => nomatch hf
  | n + 1, v1, v2, v3, v4, v5, v6, v7, w, hf => fC_X0_hides_105_s hk11 (fC_X0_hides_105_t hk11 n) v1 v2 v3 v4 v5 v6 v7 w hf
set_option maxHeartbeats 4000000 in
theorem fC_X0_hides_79_s {w' : AH} {x : Nat} {k11 : Int32 → Int32 → Int32 → Int32 → Int32 → Int32 → AH → Option (AH)} (hk11 : ∀ (v1 : Int32) (v2 : Int32) (v3 : Int32) (v4 : Int32) (v5 : Int32) (v6 : Int32) (w : AH), k11 v1 v2 v3 v4 v5 v6 w = some w' → Sd x w w') (v1 : Int32) (v2 : Int32) (v3 : Int32) (v4 : Int32) (v5 : Int32) (v6 : Int32) (w : AH) (hf : fC_X0_hides_79 x k11 v1 v2 v3 v4 v5 v6 w = some w') : Sd x w w' := by
  unfold fC_X0_hides_79 at hf
  have hx := Sd.refl (x := x) w
  obtain ⟨h1, hf⟩ := ck_ex hf
  obtain ⟨w2, hs3, hf⟩ := st1_ex hf
  have hx := hx.trans (Sd.Ie hs3 (by unfold dS; omega))
  obtain ⟨h4, hf⟩ := ck_ex hf
  exact hx.trans (fC_X0_hides_105_t hk11 LF v1 v2 v3 v4 (v5 + (hvi w2 (x + 54) (v6.toNatClampNeg))) v6 (0 : Int32) w2 hf)
set_option maxHeartbeats 4000000 in
theorem fC_X0_hides_58_s {w' : AH} {x : Nat} {k11 : Int32 → Int32 → Int32 → Int32 → Int32 → Int32 → AH → Option (AH)} {k58 : Int32 → Int32 → Int32 → Int32 → Int32 → Int32 → Int32 → AH → Option (AH)} (hk11 : ∀ (v1 : Int32) (v2 : Int32) (v3 : Int32) (v4 : Int32) (v5 : Int32) (v6 : Int32) (w : AH), k11 v1 v2 v3 v4 v5 v6 w = some w' → Sd x w w') (hk58 : ∀ (v1 : Int32) (v2 : Int32) (v3 : Int32) (v4 : Int32) (v5 : Int32) (v6 : Int32) (v7 : Int32) (w : AH), k58 v1 v2 v3 v4 v5 v6 v7 w = some w' → Sd x w w') (v1 : Int32) (v2 : Int32) (v3 : Int32) (v4 : Int32) (v5 : Int32) (v6 : Int32) (v7 : Int32) (w : AH) (hf : fC_X0_hides_58 x k11 k58 v1 v2 v3 v4 v5 v6 v7 w = some w') : Sd x w w' := by
  unfold fC_X0_hides_58 at hf
  have hx := Sd.refl (x := x) w
  by_cases hc4 : (8 : Int32) ≤ v7
  · have hf := if_t hf hc4
    exact hx.trans (fC_X0_hides_79_s hk11 v1 v2 v3 v4 v5 v6 w hf)
  · have hf := if_f hf hc4
    obtain ⟨h1, hf⟩ := ck_ex hf
    obtain ⟨w2, hs3, hf⟩ := st1_ex hf
    have hx := hx.trans (Sd.Ie hs3 (by unfold dS; omega))
    exact hx.trans (hk58 v1 v2 v3 v4 v5 v6 (v7 + (1 : Int32)) w2 hf)
set_option maxHeartbeats 4000000 in
theorem fC_X0_hides_58_t {w' : AH} {x : Nat} {k11 : Int32 → Int32 → Int32 → Int32 → Int32 → Int32 → AH → Option (AH)} (hk11 : ∀ (v1 : Int32) (v2 : Int32) (v3 : Int32) (v4 : Int32) (v5 : Int32) (v6 : Int32) (w : AH), k11 v1 v2 v3 v4 v5 v6 w = some w' → Sd x w w') : ∀ (n : Nat) (v1 : Int32) (v2 : Int32) (v3 : Int32) (v4 : Int32) (v5 : Int32) (v6 : Int32) (v7 : Int32) (w : AH), lq8 (fC_X0_hides_58 x k11) n v1 v2 v3 v4 v5 v6 v7 w = some w' → Sd x w w'
  | 0, _, _, _, _, _, _, _, _, hf => nomatch hf
  | n + 1, v1, v2, v3, v4, v5, v6, v7, w, hf => fC_X0_hides_58_s hk11 (fC_X0_hides_58_t hk11 n) v1 v2 v3 v4 v5 v6 v7 w hf
set_option maxHeartbeats 4000000 in
theorem fC_X0_hides_11_s {w' : AH} {x : Nat} {k11 : Int32 → Int32 → Int32 → Int32 → Int32 → Int32 → AH → Option (AH)} (hk11 : ∀ (v1 : Int32) (v2 : Int32) (v3 : Int32) (v4 : Int32) (v5 : Int32) (v6 : Int32) (w : AH), k11 v1 v2 v3 v4 v5 v6 w = some w' → Sd x w w') (v1 : Int32) (v2 : Int32) (v3 : Int32) (v4 : Int32) (v5 : Int32) (v6 : Int32) (w : AH) (hf : fC_X0_hides_11 x k11 v1 v2 v3 v4 v5 v6 w = some w') : Sd x w w' := by
  unfold fC_X0_hides_11 at hf
  have hx := Sd.refl (x := x) w
  by_cases hc10 : (hvi w (x + 1) 23) ≤ v6
  · have hf := if_t hf hc10
    by_cases hc2 : v3 = (-1 : Int32)
    · have hf := if_t hf hc2
      cases some_ex hf
      exact hx
    · have hf := if_f hf hc2
      by_cases hc1 : v4 = (-1 : Int32)
      · have hf := if_t hf hc1
        cases some_ex hf
        exact hx
      · have hf := if_f hf hc1
        exact hx.trans (fC_X0_hides_183_t LF v3 v4 (0 : Int32) w hf)
  · have hf := if_f hf hc10
    obtain ⟨h3, hf⟩ := ck_ex hf
    obtain ⟨w4, hs5, hf⟩ := st1_ex hf
    have hx := hx.trans (Sd.Ie hs5 (by unfold dS; omega))
    obtain ⟨r7, hc6, hf⟩ := bd1_ex hf
    by_cases hc9 : r7 = v1
    · have hf := if_t hf hc9
      by_cases hc8 : v3 = (-1 : Int32)
      · have hf := if_t hf hc8
        exact hx.trans (fC_X0_hides_58_t hk11 LF v1 v2 v6 v4 (0 : Int32) v6 (0 : Int32) w4 hf)
      · have hf := if_f hf hc8
        exact hx.trans (fC_X0_hides_79_s hk11 v1 v2 v3 v4 v5 v6 w4 hf)
    · have hf := if_f hf hc9
      exact hx.trans (fC_X0_hides_162_s hk11 v1 v2 v3 v4 v5 v6 w4 hf)
set_option maxHeartbeats 4000000 in
theorem fC_X0_hides_11_t {w' : AH} {x : Nat} : ∀ (n : Nat) (v1 : Int32) (v2 : Int32) (v3 : Int32) (v4 : Int32) (v5 : Int32) (v6 : Int32) (w : AH), lq7 (fC_X0_hides_11 x) n v1 v2 v3 v4 v5 v6 w = some w' → Sd x w w'
  | 0, _, _, _, _, _, _, _, hf => nomatch hf
  | n + 1, v1, v2, v3, v4, v5, v6, w, hf => fC_X0_hides_11_s (fC_X0_hides_11_t n) v1 v2 v3 v4 v5 v6 w hf
set_option maxHeartbeats 4000000 in
theorem fC_X0_hides_e {x : Nat} {w : AH} (p0 : Int32) (p1 : Int32) (hL : Lay x w) : mC_X0_hides x p0 p1 w = fC_X0_hides x p0 p1 w := by
  unfold mC_X0_hides fC_X0_hides
  exact fC_X0_hides_11_l LF p0 p1 (-1 : Int32) (-1 : Int32) (0 : Int32) (0 : Int32) w hL
set_option maxHeartbeats 4000000 in
theorem fC_X0_hides_s {x : Nat} (p0 : Int32) (p1 : Int32) (w : AH) (w' : AH) (hf : fC_X0_hides x p0 p1 w = some w') : Sd x w w' := by
  unfold fC_X0_hides at hf
  have hx := Sd.refl (x := x) w
  exact hx.trans (fC_X0_hides_11_t LF p0 p1 (-1 : Int32) (-1 : Int32) (0 : Int32) (0 : Int32) w hf)
set_option maxHeartbeats 4000000 in
theorem fC_X0_hidden_143_e {x : Nat} {M75 : Nat → Int32 → Int32 → Int32 → Int32 → Int32 → AH → Option (Int32 × AH)} {k75 : Int32 → Int32 → Int32 → Int32 → Int32 → AH → Option (Int32 × AH)} (hk75 : ∀ (v1 : Int32) (v2 : Int32) (v5 : Int32) (v6 : Int32) (v7 : Int32) (w : AH), Lay x w → M75 x v1 v2 v5 v6 v7 w = k75 v1 v2 v5 v6 v7 w) (v1 : Int32) (v2 : Int32) (v5 : Int32) (v6 : Int32) (v7 : Int32) (w : AH) (hL : Lay x w) : mC_X0_hidden_143 M75 x v1 v2 v5 v6 v7 w = fC_X0_hidden_143 x k75 v1 v2 v5 v6 v7 w := by
  unfold mC_X0_hidden_143 fC_X0_hidden_143
  exact hk75 v1 v2 v5 v6 (v7 + (1 : Int32)) w hL
set_option maxHeartbeats 4000000 in
theorem fC_X0_hidden_140_e {x : Nat} {M75 : Nat → Int32 → Int32 → Int32 → Int32 → Int32 → AH → Option (Int32 × AH)} {k75 : Int32 → Int32 → Int32 → Int32 → Int32 → AH → Option (Int32 × AH)} (hk75 : ∀ (v1 : Int32) (v2 : Int32) (v5 : Int32) (v6 : Int32) (v7 : Int32) (w : AH), Lay x w → M75 x v1 v2 v5 v6 v7 w = k75 v1 v2 v5 v6 v7 w) (v1 : Int32) (v2 : Int32) (v5 : Int32) (v7 : Int32) (t0 : Int32) (t1 : Int32) (w : AH) (hL : Lay x w) : mC_X0_hidden_140 M75 x v1 v2 v5 v7 t0 t1 w = fC_X0_hidden_140 x k75 v1 v2 v5 v7 t0 t1 w := by
  unfold mC_X0_hidden_140 fC_X0_hidden_140
  exact fC_X0_hidden_143_e hk75 v1 v2 v5 (t1 + t0) v7 w hL
set_option maxHeartbeats 4000000 in
theorem fC_X0_hidden_75_e {x : Nat} {M75 : Nat → Int32 → Int32 → Int32 → Int32 → Int32 → AH → Option (Int32 × AH)} {k75 : Int32 → Int32 → Int32 → Int32 → Int32 → AH → Option (Int32 × AH)} (hk75 : ∀ (v1 : Int32) (v2 : Int32) (v5 : Int32) (v6 : Int32) (v7 : Int32) (w : AH), Lay x w → M75 x v1 v2 v5 v6 v7 w = k75 v1 v2 v5 v6 v7 w) (v1 : Int32) (v2 : Int32) (v5 : Int32) (v6 : Int32) (v7 : Int32) (w : AH) (hL : Lay x w) : mC_X0_hidden_75 M75 x v1 v2 v5 v6 v7 w = fC_X0_hidden_75 x k75 v1 v2 v5 v6 v7 w := by
  unfold mC_X0_hidden_75 fC_X0_hidden_75
  rewrite [ck_t (kq_0 hL)]
  rewrite [lr_0_2 hL, bd1_s]
  rewrite [ck_t (kq_1 hL)]
  refine if_cg (fun hc7 => ?_) (fun hc7 => ?_)
  · rfl
  · rewrite [lr_0_27 hL, bd1_s]
    rewrite [al_60 hL]
    refine ck_cg (fun h1 => ?_)
    refine if_cg (fun hc6 => ?_) (fun hc6 => ?_)
    · exact fC_X0_hidden_143_e hk75 v1 v2 v5 v6 v7 w hL
    · rewrite [al_60 hL]
      refine ck_cg (fun h2 => ?_)
      refine if_cg (fun hc5 => ?_) (fun hc5 => ?_)
      · refine if_cg (fun hc4 => ?_) (fun hc4 => ?_)
        · rewrite [lr_0_23 hL, bd1_s]
          rewrite [ck_t (kq_52 hL)]
          rewrite [lr_52_2 hL, bd1_s]
          rewrite [al_55 hL]
          refine ck_cg (fun h3 => ?_)
          exact fC_X0_hidden_140_e hk75 v1 v2 v5 v7 (hvi w (x + 55) ((((8 : Int32) * v7) + v2).toNatClampNeg)) v6 w hL
        · exact fC_X0_hidden_140_e hk75 v1 v2 v5 v7 (1 : Int32) v6 w hL
      · exact fC_X0_hidden_143_e hk75 v1 v2 v5 v6 v7 w hL
set_option maxHeartbeats 4000000 in
theorem fC_X0_hidden_75_l {x : Nat} : ∀ (n : Nat) (v1 : Int32) (v2 : Int32) (v5 : Int32) (v6 : Int32) (v7 : Int32) (w : AH), Lay x w → lq7 (mC_X0_hidden_75) n x v1 v2 v5 v6 v7 w = lq6 (fC_X0_hidden_75 x) n v1 v2 v5 v6 v7 w
  | 0, _, _, _, _, _, _, _ => rfl
  | n + 1, v1, v2, v5, v6, v7, w, hL => fC_X0_hidden_75_e (fC_X0_hidden_75_l n) v1 v2 v5 v6 v7 w hL
set_option maxHeartbeats 4000000 in
theorem fC_X0_hidden_143_s {r : Int32} {w' : AH} {x : Nat} {k75 : Int32 → Int32 → Int32 → Int32 → Int32 → AH → Option (Int32 × AH)} (hk75 : ∀ (v1 : Int32) (v2 : Int32) (v5 : Int32) (v6 : Int32) (v7 : Int32) (w : AH), k75 v1 v2 v5 v6 v7 w = some (r, w') → Sc x w w') (v1 : Int32) (v2 : Int32) (v5 : Int32) (v6 : Int32) (v7 : Int32) (w : AH) (hf : fC_X0_hidden_143 x k75 v1 v2 v5 v6 v7 w = some (r, w')) : Sc x w w' := by
  unfold fC_X0_hidden_143 at hf
  have hx := Sc.refl (x := x) w
  exact hx.trans (hk75 v1 v2 v5 v6 (v7 + (1 : Int32)) w hf)
set_option maxHeartbeats 4000000 in
theorem fC_X0_hidden_140_s {r : Int32} {w' : AH} {x : Nat} {k75 : Int32 → Int32 → Int32 → Int32 → Int32 → AH → Option (Int32 × AH)} (hk75 : ∀ (v1 : Int32) (v2 : Int32) (v5 : Int32) (v6 : Int32) (v7 : Int32) (w : AH), k75 v1 v2 v5 v6 v7 w = some (r, w') → Sc x w w') (v1 : Int32) (v2 : Int32) (v5 : Int32) (v7 : Int32) (t0 : Int32) (t1 : Int32) (w : AH) (hf : fC_X0_hidden_140 x k75 v1 v2 v5 v7 t0 t1 w = some (r, w')) : Sc x w w' := by
  unfold fC_X0_hidden_140 at hf
  have hx := Sc.refl (x := x) w
  exact hx.trans (fC_X0_hidden_143_s hk75 v1 v2 v5 (t1 + t0) v7 w hf)
set_option maxHeartbeats 4000000 in
theorem fC_X0_hidden_75_s {r : Int32} {w' : AH} {x : Nat} {k75 : Int32 → Int32 → Int32 → Int32 → Int32 → AH → Option (Int32 × AH)} (hk75 : ∀ (v1 : Int32) (v2 : Int32) (v5 : Int32) (v6 : Int32) (v7 : Int32) (w : AH), k75 v1 v2 v5 v6 v7 w = some (r, w') → Sc x w w') (v1 : Int32) (v2 : Int32) (v5 : Int32) (v6 : Int32) (v7 : Int32) (w : AH) (hf : fC_X0_hidden_75 x k75 v1 v2 v5 v6 v7 w = some (r, w')) : Sc x w w' := by
  unfold fC_X0_hidden_75 at hf
  have hx := Sc.refl (x := x) w
  by_cases hc7 : (hvi w (x + 1) 23) ≤ v7
  · have hf := if_t hf hc7
    cases some_ex hf
    exact hx
  · have hf := if_f hf hc7
    obtain ⟨h1, hf⟩ := ck_ex hf
    by_cases hc6 : (hvi w (x + 60) (v7.toNatClampNeg)) = (-1 : Int32)
    · have hf := if_t hf hc6
      exact hx.trans (fC_X0_hidden_143_s hk75 v1 v2 v5 v6 v7 w hf)
    · have hf := if_f hf hc6
      obtain ⟨h2, hf⟩ := ck_ex hf
      by_cases hc5 : (hvi w (x + 60) (v7.toNatClampNeg)) = (hvi w (x + 60) (v1.toNatClampNeg))
      · have hf := if_t hf hc5
        by_cases hc4 : v5 = (0 : Int32)
        · have hf := if_t hf hc4
          obtain ⟨h3, hf⟩ := ck_ex hf
          exact hx.trans (fC_X0_hidden_140_s hk75 v1 v2 v5 v7 (hvi w (x + 55) ((((8 : Int32) * v7) + v2).toNatClampNeg)) v6 w hf)
        · have hf := if_f hf hc4
          exact hx.trans (fC_X0_hidden_140_s hk75 v1 v2 v5 v7 (1 : Int32) v6 w hf)
      · have hf := if_f hf hc5
        exact hx.trans (fC_X0_hidden_143_s hk75 v1 v2 v5 v6 v7 w hf)
set_option maxHeartbeats 4000000 in
theorem fC_X0_hidden_75_t {r : Int32} {w' : AH} {x : Nat} : ∀ (n : Nat) (v1 : Int32) (v2 : Int32) (v5 : Int32) (v6 : Int32) (v7 : Int32) (w : AH), lq6 (fC_X0_hidden_75 x) n v1 v2 v5 v6 v7 w = some (r, w') → Sc x w w'
  | 0, _, _, _, _, _, _, hf => nomatch hf
  | n + 1, v1, v2, v5, v6, v7, w, hf => fC_X0_hidden_75_s (fC_X0_hidden_75_t n) v1 v2 v5 v6 v7 w hf
set_option maxHeartbeats 4000000 in
theorem fC_X0_hidden_e {x : Nat} {w : AH} (p0 : Int32) (p1 : Int32) (p2 : Int32) (p3 : Int32) (p4 : Int32) (hL : Lay x w) : mC_X0_hidden x p0 p1 p2 p3 p4 w = fC_X0_hidden x p0 p1 p2 p3 p4 w := by
  unfold mC_X0_hidden fC_X0_hidden
  rewrite [ck_t (kq_0 hL)]
  rewrite [fC_X0_isBooth_e _ hL]
  refine bd1_cg (fun r2 hc1 => ?_)
  refine if_cg (fun hc24 => ?_) (fun hc24 => ?_)
  · rfl
  · refine bd1_cg (fun r4 hc3 => ?_)
    refine if_cg (fun hc23 => ?_) (fun hc23 => ?_)
    · rfl
    · refine bd1_cg (fun r6 hc5 => ?_)
      refine if_cg (fun hc22 => ?_) (fun hc22 => ?_)
      · rfl
      · refine bd1_cg (fun r8 hc7 => ?_)
        refine if_cg (fun hc21 => ?_) (fun hc21 => ?_)
        · rfl
        · refine bd1_cg (fun r10 hc9 => ?_)
          refine if_cg (fun hc20 => ?_) (fun hc20 => ?_)
          · rfl
          · rewrite [lr_0_23 hL, bd1_s]
            rewrite [ck_t (kq_52 hL)]
            rewrite [fC_X6_looks_e _ _ hL]
            refine bd1_cg (fun w12 hc11 => ?_)
            have hL := (fC_X6_looks_s _ _ _ _ hc11).1.lay hL
            rewrite [ck_t (kq_0 hL)]
            rewrite [fC_X0_seatOf_e _ hL]
            refine bd1_cg (fun r14 hc13 => ?_)
            rewrite [fC_X0_fewOn_e _ hL]
            refine bd2_cg (fun r17 w16 hc15 => ?_)
            have hL := (fC_X0_fewOn_s _ _ _ _ hc15).1.lay hL
            rewrite [ck_t (kq_0 hL)]
            rewrite [fC_X0_hides_e _ _ hL]
            refine bd1_cg (fun w19 hc18 => ?_)
            have hL := (fC_X0_hides_s _ _ _ _ hc18).1.lay hL
            exact fC_X0_hidden_75_l LF p0 p1 p4 (0 : Int32) (0 : Int32) w19 hL
set_option maxHeartbeats 4000000 in
theorem fC_X0_hidden_s {x : Nat} (p0 : Int32) (p1 : Int32) (p2 : Int32) (p3 : Int32) (p4 : Int32) (w : AH) (r : Int32) (w' : AH) (hf : fC_X0_hidden x p0 p1 p2 p3 p4 w = some (r, w')) : Sc x w w' := by
  unfold fC_X0_hidden at hf
  have hx := Sc.refl (x := x) w
  obtain ⟨r2, hc1, hf⟩ := bd1_ex hf
  by_cases hc24 : r2 = (0 : Int32)
  · have hf := if_t hf hc24
    cases some_ex hf
    exact hx
  · have hf := if_f hf hc24
    obtain ⟨r4, hc3, hf⟩ := bd1_ex hf
    by_cases hc23 : r4 = (0 : Int32)
    · have hf := if_t hf hc23
      cases some_ex hf
      exact hx
    · have hf := if_f hf hc23
      obtain ⟨r6, hc5, hf⟩ := bd1_ex hf
      by_cases hc22 : r6 = (0 : Int32)
      · have hf := if_t hf hc22
        cases some_ex hf
        exact hx
      · have hf := if_f hf hc22
        obtain ⟨r8, hc7, hf⟩ := bd1_ex hf
        by_cases hc21 : r8 = (0 : Int32)
        · have hf := if_t hf hc21
          cases some_ex hf
          exact hx
        · have hf := if_f hf hc21
          obtain ⟨r10, hc9, hf⟩ := bd1_ex hf
          by_cases hc20 : r10 = (0 : Int32)
          · have hf := if_t hf hc20
            cases some_ex hf
            exact hx
          · have hf := if_f hf hc20
            obtain ⟨w12, hc11, hf⟩ := bd1_ex hf
            have hx := hx.trans (fC_X6_looks_s _ _ _ _ hc11)
            obtain ⟨r14, hc13, hf⟩ := bd1_ex hf
            obtain ⟨r17, w16, hc15, hf⟩ := bd2_ex hf
            have hx := hx.trans (fC_X0_fewOn_s _ _ _ _ hc15)
            obtain ⟨w19, hc18, hf⟩ := bd1_ex hf
            have hx := hx.trans (fC_X0_hides_s _ _ _ _ hc18).sc
            exact hx.trans (fC_X0_hidden_75_t LF p0 p1 p4 (0 : Int32) (0 : Int32) w19 hf)
set_option maxHeartbeats 4000000 in
theorem fC_X0_shares_296_e {x : Nat} {M227 : Nat → Int32 → Int32 → Int32 → AH → Option (Int32 × AH)} {k227 : Int32 → Int32 → Int32 → AH → Option (Int32 × AH)} (hk227 : ∀ (v2 : Int32) (v7 : Int32) (v8 : Int32) (w : AH), Lay x w → M227 x v2 v7 v8 w = k227 v2 v7 v8 w) (v2 : Int32) (v7 : Int32) (t0 : Int32) (t1 : Int32) (w : AH) (hL : Lay x w) : mC_X0_shares_296 M227 x v2 v7 t0 t1 w = fC_X0_shares_296 x k227 v2 v7 t0 t1 w := by
  unfold mC_X0_shares_296 fC_X0_shares_296
  exact hk227 v2 (v7 + (-1 : Int32)) (t1 + t0) w hL
set_option maxHeartbeats 4000000 in
theorem fC_X0_shares_267_e {x : Nat} {M238 : Nat → Int32 → Int32 → Int32 → Int32 → Int32 → AH → Option (Int32 × AH)} {k238 : Int32 → Int32 → Int32 → Int32 → Int32 → AH → Option (Int32 × AH)} (hk238 : ∀ (v2 : Int32) (v7 : Int32) (v8 : Int32) (v9 : Int32) (v10 : Int32) (w : AH), Lay x w → M238 x v2 v7 v8 v9 v10 w = k238 v2 v7 v8 v9 v10 w) (v2 : Int32) (v7 : Int32) (v8 : Int32) (v9 : Int32) (v10 : Int32) (w : AH) (hL : Lay x w) : mC_X0_shares_267 M238 x v2 v7 v8 v9 v10 w = fC_X0_shares_267 x k238 v2 v7 v8 v9 v10 w := by
  unfold mC_X0_shares_267 fC_X0_shares_267
  exact hk238 v2 v7 v8 v9 (v10 + (1 : Int32)) w hL
set_option maxHeartbeats 4000000 in
theorem fC_X0_shares_238_e {x : Nat} {M227 : Nat → Int32 → Int32 → Int32 → AH → Option (Int32 × AH)} {k227 : Int32 → Int32 → Int32 → AH → Option (Int32 × AH)} {M238 : Nat → Int32 → Int32 → Int32 → Int32 → Int32 → AH → Option (Int32 × AH)} {k238 : Int32 → Int32 → Int32 → Int32 → Int32 → AH → Option (Int32 × AH)} (hk227 : ∀ (v2 : Int32) (v7 : Int32) (v8 : Int32) (w : AH), Lay x w → M227 x v2 v7 v8 w = k227 v2 v7 v8 w) (hk238 : ∀ (v2 : Int32) (v7 : Int32) (v8 : Int32) (v9 : Int32) (v10 : Int32) (w : AH), Lay x w → M238 x v2 v7 v8 v9 v10 w = k238 v2 v7 v8 v9 v10 w) (v2 : Int32) (v7 : Int32) (v8 : Int32) (v9 : Int32) (v10 : Int32) (w : AH) (hL : Lay x w) : mC_X0_shares_238 M227 M238 x v2 v7 v8 v9 v10 w = fC_X0_shares_238 x k227 k238 v2 v7 v8 v9 v10 w := by
  unfold mC_X0_shares_238 fC_X0_shares_238
  refine if_cg (fun hc8 => ?_) (fun hc8 => ?_)
  · rewrite [ck_t (kq_0 hL)]
    rewrite [lr_0_29 hL, bd1_s]
    rewrite [al_62 hL]
    refine ck_cg (fun h1 => ?_)
    refine st1_cg (fun w2 hs3 => ?_)
    have hL := Lay.L hs3 hL
    refine if_cg (fun hc4 => ?_) (fun hc4 => ?_)
    · exact fC_X0_shares_296_e hk227 v2 v7 (1 : Int32) v8 w2 hL
    · exact fC_X0_shares_296_e hk227 v2 v7 (0 : Int32) v8 w2 hL
  · rewrite [ck_t (kq_0 hL)]
    rewrite [lr_0_29 hL, bd1_s]
    rewrite [al_62 hL]
    refine ck_cg (fun h5 => ?_)
    rewrite [al_62 hL]
    refine ck_cg (fun h6 => ?_)
    refine if_cg (fun hc7 => ?_) (fun hc7 => ?_)
    · exact fC_X0_shares_267_e hk238 v2 v7 v8 v9 v10 w hL
    · exact fC_X0_shares_267_e hk238 v2 v7 v8 v10 v10 w hL
set_option maxHeartbeats 4000000 in
theorem fC_X0_shares_238_l {x : Nat} {M227 : Nat → Int32 → Int32 → Int32 → AH → Option (Int32 × AH)} {k227 : Int32 → Int32 → Int32 → AH → Option (Int32 × AH)} (hk227 : ∀ (v2 : Int32) (v7 : Int32) (v8 : Int32) (w : AH), Lay x w → M227 x v2 v7 v8 w = k227 v2 v7 v8 w) : ∀ (n : Nat) (v2 : Int32) (v7 : Int32) (v8 : Int32) (v9 : Int32) (v10 : Int32) (w : AH), Lay x w → lq7 (mC_X0_shares_238 M227) n x v2 v7 v8 v9 v10 w = lq6 (fC_X0_shares_238 x k227) n v2 v7 v8 v9 v10 w
  | 0, _, _, _, _, _, _, _ => rfl
  | n + 1, v2, v7, v8, v9, v10, w, hL => fC_X0_shares_238_e hk227 (fC_X0_shares_238_l hk227 n) v2 v7 v8 v9 v10 w hL
set_option maxHeartbeats 4000000 in
theorem fC_X0_shares_227_e {x : Nat} {M227 : Nat → Int32 → Int32 → Int32 → AH → Option (Int32 × AH)} {k227 : Int32 → Int32 → Int32 → AH → Option (Int32 × AH)} (hk227 : ∀ (v2 : Int32) (v7 : Int32) (v8 : Int32) (w : AH), Lay x w → M227 x v2 v7 v8 w = k227 v2 v7 v8 w) (v2 : Int32) (v7 : Int32) (v8 : Int32) (w : AH) (hL : Lay x w) : mC_X0_shares_227 M227 x v2 v7 v8 w = fC_X0_shares_227 x k227 v2 v7 v8 w := by
  unfold mC_X0_shares_227 fC_X0_shares_227
  refine if_cg (fun hc1 => ?_) (fun hc1 => ?_)
  · rfl
  · exact fC_X0_shares_238_l hk227 LF v2 v7 v8 (0 : Int32) (1 : Int32) w hL
set_option maxHeartbeats 4000000 in
theorem fC_X0_shares_227_l {x : Nat} : ∀ (n : Nat) (v2 : Int32) (v7 : Int32) (v8 : Int32) (w : AH), Lay x w → lq5 (mC_X0_shares_227) n x v2 v7 v8 w = lq4 (fC_X0_shares_227 x) n v2 v7 v8 w
  | 0, _, _, _, _, _ => rfl
  | n + 1, v2, v7, v8, w, hL => fC_X0_shares_227_e (fC_X0_shares_227_l n) v2 v7 v8 w hL
set_option maxHeartbeats 4000000 in
theorem fC_X0_shares_218_e {x : Nat} {M152 : Nat → Int32 → Int32 → Int64 → Int32 → Int32 → Int32 → AH → Option (Int32 × AH)} {k152 : Int32 → Int32 → Int64 → Int32 → Int32 → Int32 → AH → Option (Int32 × AH)} (hk152 : ∀ (v1 : Int32) (v2 : Int32) (v5 : Int64) (v7 : Int32) (v8 : Int32) (v9 : Int32) (w : AH), Lay x w → M152 x v1 v2 v5 v7 v8 v9 w = k152 v1 v2 v5 v7 v8 v9 w) (v1 : Int32) (v2 : Int32) (v5 : Int64) (v7 : Int32) (v9 : Int32) (t0 : Int32) (t1 : Int32) (w : AH) (hL : Lay x w) : mC_X0_shares_218 M152 x v1 v2 v5 v7 v9 t0 t1 w = fC_X0_shares_218 x k152 v1 v2 v5 v7 v9 t0 t1 w := by
  unfold mC_X0_shares_218 fC_X0_shares_218
  exact hk152 v1 v2 v5 v7 (t1 + t0) (v9 + (1 : Int32)) w hL
set_option maxHeartbeats 4000000 in
theorem fC_X0_shares_152_e {x : Nat} {M152 : Nat → Int32 → Int32 → Int64 → Int32 → Int32 → Int32 → AH → Option (Int32 × AH)} {k152 : Int32 → Int32 → Int64 → Int32 → Int32 → Int32 → AH → Option (Int32 × AH)} (hk152 : ∀ (v1 : Int32) (v2 : Int32) (v5 : Int64) (v7 : Int32) (v8 : Int32) (v9 : Int32) (w : AH), Lay x w → M152 x v1 v2 v5 v7 v8 v9 w = k152 v1 v2 v5 v7 v8 v9 w) (v1 : Int32) (v2 : Int32) (v5 : Int64) (v7 : Int32) (v8 : Int32) (v9 : Int32) (w : AH) (hL : Lay x w) : mC_X0_shares_152 M152 x v1 v2 v5 v7 v8 v9 w = fC_X0_shares_152 x k152 v1 v2 v5 v7 v8 v9 w := by
  unfold mC_X0_shares_152 fC_X0_shares_152
  refine if_cg (fun hc8 => ?_) (fun hc8 => ?_)
  · exact fC_X0_shares_227_l LF v2 v7 v8 w hL
  · rewrite [ck_t (kq_0 hL)]
    rewrite [lr_0_24 hL, bd1_s]
    rewrite [al_59 hL]
    refine ck_cg (fun h1 => ?_)
    refine nzL_cg (fun hz2 => ?_)
    rewrite [lr_0_29 hL, bd1_s]
    refine nzL_cg (fun hz3 => ?_)
    rewrite [al_62 hL]
    refine ck_cg (fun h4 => ?_)
    refine st1_cg (fun w5 hs6 => ?_)
    have hL := Lay.L hs6 hL
    refine if_cg (fun hc7 => ?_) (fun hc7 => ?_)
    · exact fC_X0_shares_218_e hk152 v1 v2 v5 (v7 - ((v1.toInt64 * (hvi w (x + 59) (v9.toNatClampNeg)).toInt64) / v5).toInt32) v9 (((v1.toInt64 * (hvi w (x + 59) (v9.toNatClampNeg)).toInt64) / v5).toInt32) v8 w5 hL
    · exact fC_X0_shares_218_e hk152 v1 v2 v5 (v7 - ((v1.toInt64 * (hvi w (x + 59) (v9.toNatClampNeg)).toInt64) / v5).toInt32) v9 (0 : Int32) v8 w5 hL
set_option maxHeartbeats 4000000 in
theorem fC_X0_shares_152_l {x : Nat} : ∀ (n : Nat) (v1 : Int32) (v2 : Int32) (v5 : Int64) (v7 : Int32) (v8 : Int32) (v9 : Int32) (w : AH), Lay x w → lq8 (mC_X0_shares_152) n x v1 v2 v5 v7 v8 v9 w = lq7 (fC_X0_shares_152 x) n v1 v2 v5 v7 v8 v9 w
  | 0, _, _, _, _, _, _, _, _ => rfl
  | n + 1, v1, v2, v5, v7, v8, v9, w, hL => fC_X0_shares_152_e (fC_X0_shares_152_l n) v1 v2 v5 v7 v8 v9 w hL
set_option maxHeartbeats 4000000 in
theorem fC_X0_shares_71_e {x : Nat} {M53 : Nat → Int32 → Int32 → Int64 → Int32 → AH → Option (Int32 × AH)} {k53 : Int32 → Int32 → Int64 → Int32 → AH → Option (Int32 × AH)} {M71 : Nat → Int32 → Int32 → Int64 → Int32 → Int32 → AH → Option (Int32 × AH)} {k71 : Int32 → Int32 → Int64 → Int32 → Int32 → AH → Option (Int32 × AH)} (hk53 : ∀ (v1 : Int32) (v2 : Int32) (v5 : Int64) (v7 : Int32) (w : AH), Lay x w → M53 x v1 v2 v5 v7 w = k53 v1 v2 v5 v7 w) (hk71 : ∀ (v1 : Int32) (v2 : Int32) (v5 : Int64) (v7 : Int32) (v8 : Int32) (w : AH), Lay x w → M71 x v1 v2 v5 v7 v8 w = k71 v1 v2 v5 v7 v8 w) (v1 : Int32) (v2 : Int32) (v5 : Int64) (v7 : Int32) (v8 : Int32) (w : AH) (hL : Lay x w) : mC_X0_shares_71 M53 M71 x v1 v2 v5 v7 v8 w = fC_X0_shares_71 x k53 k71 v1 v2 v5 v7 v8 w := by
  unfold mC_X0_shares_71 fC_X0_shares_71
  rewrite [ck_t (kq_0 hL)]
  rewrite [lr_0_2 hL, bd1_s]
  rewrite [ck_t (kq_1 hL)]
  refine if_cg (fun hc6 => ?_) (fun hc6 => ?_)
  · rewrite [lr_0_24 hL, bd1_s]
    rewrite [al_59 hL]
    refine ck_cg (fun h1 => ?_)
    exact hk53 v1 v2 (v5 + (hvi w (x + 59) (v7.toNatClampNeg)).toInt64) (v7 + (1 : Int32)) w hL
  · rewrite [lr_0_24 hL, bd1_s]
    rewrite [al_59 hL]
    refine ck_cg (fun h2 => ?_)
    rewrite [lr_0_23 hL, bd1_s]
    rewrite [ck_t (kq_52 hL)]
    rewrite [lr_52_2 hL, bd1_s]
    rewrite [al_55 hL]
    refine ck_cg (fun h3 => ?_)
    refine st1_cg (fun w4 hs5 => ?_)
    have hL := Lay.I hs5 hL
    exact hk71 v1 v2 v5 v7 (v8 + (1 : Int32)) w4 hL
set_option maxHeartbeats 4000000 in
theorem fC_X0_shares_71_l {x : Nat} {M53 : Nat → Int32 → Int32 → Int64 → Int32 → AH → Option (Int32 × AH)} {k53 : Int32 → Int32 → Int64 → Int32 → AH → Option (Int32 × AH)} (hk53 : ∀ (v1 : Int32) (v2 : Int32) (v5 : Int64) (v7 : Int32) (w : AH), Lay x w → M53 x v1 v2 v5 v7 w = k53 v1 v2 v5 v7 w) : ∀ (n : Nat) (v1 : Int32) (v2 : Int32) (v5 : Int64) (v7 : Int32) (v8 : Int32) (w : AH), Lay x w → lq7 (mC_X0_shares_71 M53) n x v1 v2 v5 v7 v8 w = lq6 (fC_X0_shares_71 x k53) n v1 v2 v5 v7 v8 w
  | 0, _, _, _, _, _, _, _ => rfl
  | n + 1, v1, v2, v5, v7, v8, w, hL => fC_X0_shares_71_e hk53 (fC_X0_shares_71_l hk53 n) v1 v2 v5 v7 v8 w hL
set_option maxHeartbeats 4000000 in
theorem fC_X0_shares_53_e {x : Nat} {M53 : Nat → Int32 → Int32 → Int64 → Int32 → AH → Option (Int32 × AH)} {k53 : Int32 → Int32 → Int64 → Int32 → AH → Option (Int32 × AH)} (hk53 : ∀ (v1 : Int32) (v2 : Int32) (v5 : Int64) (v7 : Int32) (w : AH), Lay x w → M53 x v1 v2 v5 v7 w = k53 v1 v2 v5 v7 w) (v1 : Int32) (v2 : Int32) (v5 : Int64) (v7 : Int32) (w : AH) (hL : Lay x w) : mC_X0_shares_53 M53 x v1 v2 v5 v7 w = fC_X0_shares_53 x k53 v1 v2 v5 v7 w := by
  unfold mC_X0_shares_53 fC_X0_shares_53
  refine if_cg (fun hc5 => ?_) (fun hc5 => ?_)
  · refine if_cg (fun hc1 => ?_) (fun hc1 => ?_)
    · rfl
    · exact fC_X0_shares_152_l LF v1 v2 v5 v1 (0 : Int32) (0 : Int32) w hL
  · rewrite [ck_t (kq_0 hL)]
    rewrite [lr_0_24 hL, bd1_s]
    rewrite [al_59 hL]
    refine ck_cg (fun h2 => ?_)
    refine st1_cg (fun w3 hs4 => ?_)
    have hL := Lay.I hs4 hL
    exact fC_X0_shares_71_l hk53 LF v1 v2 v5 v7 (0 : Int32) w3 hL
set_option maxHeartbeats 4000000 in
theorem fC_X0_shares_53_l {x : Nat} : ∀ (n : Nat) (v1 : Int32) (v2 : Int32) (v5 : Int64) (v7 : Int32) (w : AH), Lay x w → lq6 (mC_X0_shares_53) n x v1 v2 v5 v7 w = lq5 (fC_X0_shares_53 x) n v1 v2 v5 v7 w
  | 0, _, _, _, _, _, _ => rfl
  | n + 1, v1, v2, v5, v7, w, hL => fC_X0_shares_53_e (fC_X0_shares_53_l n) v1 v2 v5 v7 w hL
set_option maxHeartbeats 4000000 in
theorem fC_X0_shares_296_s {r : Int32} {w' : AH} {x : Nat} {k227 : Int32 → Int32 → Int32 → AH → Option (Int32 × AH)} (hk227 : ∀ (v2 : Int32) (v7 : Int32) (v8 : Int32) (w : AH), k227 v2 v7 v8 w = some (r, w') → Sc x w w') (v2 : Int32) (v7 : Int32) (t0 : Int32) (t1 : Int32) (w : AH) (hf : fC_X0_shares_296 x k227 v2 v7 t0 t1 w = some (r, w')) : Sc x w w' := by
  unfold fC_X0_shares_296 at hf
  have hx := Sc.refl (x := x) w
  exact hx.trans (hk227 v2 (v7 + (-1 : Int32)) (t1 + t0) w hf)
set_option maxHeartbeats 4000000 in
theorem fC_X0_shares_267_s {r : Int32} {w' : AH} {x : Nat} {k238 : Int32 → Int32 → Int32 → Int32 → Int32 → AH → Option (Int32 × AH)} (hk238 : ∀ (v2 : Int32) (v7 : Int32) (v8 : Int32) (v9 : Int32) (v10 : Int32) (w : AH), k238 v2 v7 v8 v9 v10 w = some (r, w') → Sc x w w') (v2 : Int32) (v7 : Int32) (v8 : Int32) (v9 : Int32) (v10 : Int32) (w : AH) (hf : fC_X0_shares_267 x k238 v2 v7 v8 v9 v10 w = some (r, w')) : Sc x w w' := by
  unfold fC_X0_shares_267 at hf
  have hx := Sc.refl (x := x) w
  exact hx.trans (hk238 v2 v7 v8 v9 (v10 + (1 : Int32)) w hf)
set_option maxHeartbeats 4000000 in
theorem fC_X0_shares_238_s {r : Int32} {w' : AH} {x : Nat} {k227 : Int32 → Int32 → Int32 → AH → Option (Int32 × AH)} {k238 : Int32 → Int32 → Int32 → Int32 → Int32 → AH → Option (Int32 × AH)} (hk227 : ∀ (v2 : Int32) (v7 : Int32) (v8 : Int32) (w : AH), k227 v2 v7 v8 w = some (r, w') → Sc x w w') (hk238 : ∀ (v2 : Int32) (v7 : Int32) (v8 : Int32) (v9 : Int32) (v10 : Int32) (w : AH), k238 v2 v7 v8 v9 v10 w = some (r, w') → Sc x w w') (v2 : Int32) (v7 : Int32) (v8 : Int32) (v9 : Int32) (v10 : Int32) (w : AH) (hf : fC_X0_shares_238 x k227 k238 v2 v7 v8 v9 v10 w = some (r, w')) : Sc x w w' := by
  unfold fC_X0_shares_238 at hf
  have hx := Sc.refl (x := x) w
  by_cases hc8 : (8 : Int32) ≤ v10
  · have hf := if_t hf hc8
    obtain ⟨h1, hf⟩ := ck_ex hf
    obtain ⟨w2, hs3, hf⟩ := st1_ex hf
    have hx := hx.trans (Sc.Le hs3 (by omega))
    by_cases hc4 : v9 = v2
    · have hf := if_t hf hc4
      exact hx.trans (fC_X0_shares_296_s hk227 v2 v7 (1 : Int32) v8 w2 hf)
    · have hf := if_f hf hc4
      exact hx.trans (fC_X0_shares_296_s hk227 v2 v7 (0 : Int32) v8 w2 hf)
  · have hf := if_f hf hc8
    obtain ⟨h5, hf⟩ := ck_ex hf
    obtain ⟨h6, hf⟩ := ck_ex hf
    by_cases hc7 : (hvl w (x + 62) (v10.toNatClampNeg)) ≤ (hvl w (x + 62) (v9.toNatClampNeg))
    · have hf := if_t hf hc7
      exact hx.trans (fC_X0_shares_267_s hk238 v2 v7 v8 v9 v10 w hf)
    · have hf := if_f hf hc7
      exact hx.trans (fC_X0_shares_267_s hk238 v2 v7 v8 v10 v10 w hf)
set_option maxHeartbeats 4000000 in
theorem fC_X0_shares_238_t {r : Int32} {w' : AH} {x : Nat} {k227 : Int32 → Int32 → Int32 → AH → Option (Int32 × AH)} (hk227 : ∀ (v2 : Int32) (v7 : Int32) (v8 : Int32) (w : AH), k227 v2 v7 v8 w = some (r, w') → Sc x w w') : ∀ (n : Nat) (v2 : Int32) (v7 : Int32) (v8 : Int32) (v9 : Int32) (v10 : Int32) (w : AH), lq6 (fC_X0_shares_238 x k227) n v2 v7 v8 v9 v10 w = some (r, w') → Sc x w w'
  | 0, _, _, _, _, _, _, hf => nomatch hf
  | n + 1, v2, v7, v8, v9, v10, w, hf => fC_X0_shares_238_s hk227 (fC_X0_shares_238_t hk227 n) v2 v7 v8 v9 v10 w hf
set_option maxHeartbeats 4000000 in
theorem fC_X0_shares_227_s {r : Int32} {w' : AH} {x : Nat} {k227 : Int32 → Int32 → Int32 → AH → Option (Int32 × AH)} (hk227 : ∀ (v2 : Int32) (v7 : Int32) (v8 : Int32) (w : AH), k227 v2 v7 v8 w = some (r, w') → Sc x w w') (v2 : Int32) (v7 : Int32) (v8 : Int32) (w : AH) (hf : fC_X0_shares_227 x k227 v2 v7 v8 w = some (r, w')) : Sc x w w' := by
  unfold fC_X0_shares_227 at hf
  have hx := Sc.refl (x := x) w
  by_cases hc1 : v7 ≤ (0 : Int32)
  · have hf := if_t hf hc1
    cases some_ex hf
    exact hx
  · have hf := if_f hf hc1
    exact hx.trans (fC_X0_shares_238_t hk227 LF v2 v7 v8 (0 : Int32) (1 : Int32) w hf)
set_option maxHeartbeats 4000000 in
theorem fC_X0_shares_227_t {r : Int32} {w' : AH} {x : Nat} : ∀ (n : Nat) (v2 : Int32) (v7 : Int32) (v8 : Int32) (w : AH), lq4 (fC_X0_shares_227 x) n v2 v7 v8 w = some (r, w') → Sc x w w'
  | 0, _, _, _, _, hf => nomatch hf
  | n + 1, v2, v7, v8, w, hf => fC_X0_shares_227_s (fC_X0_shares_227_t n) v2 v7 v8 w hf
set_option maxHeartbeats 4000000 in
theorem fC_X0_shares_218_s {r : Int32} {w' : AH} {x : Nat} {k152 : Int32 → Int32 → Int64 → Int32 → Int32 → Int32 → AH → Option (Int32 × AH)} (hk152 : ∀ (v1 : Int32) (v2 : Int32) (v5 : Int64) (v7 : Int32) (v8 : Int32) (v9 : Int32) (w : AH), k152 v1 v2 v5 v7 v8 v9 w = some (r, w') → Sc x w w') (v1 : Int32) (v2 : Int32) (v5 : Int64) (v7 : Int32) (v9 : Int32) (t0 : Int32) (t1 : Int32) (w : AH) (hf : fC_X0_shares_218 x k152 v1 v2 v5 v7 v9 t0 t1 w = some (r, w')) : Sc x w w' := by
  unfold fC_X0_shares_218 at hf
  have hx := Sc.refl (x := x) w
  exact hx.trans (hk152 v1 v2 v5 v7 (t1 + t0) (v9 + (1 : Int32)) w hf)
set_option maxHeartbeats 4000000 in
theorem fC_X0_shares_152_s {r : Int32} {w' : AH} {x : Nat} {k152 : Int32 → Int32 → Int64 → Int32 → Int32 → Int32 → AH → Option (Int32 × AH)} (hk152 : ∀ (v1 : Int32) (v2 : Int32) (v5 : Int64) (v7 : Int32) (v8 : Int32) (v9 : Int32) (w : AH), k152 v1 v2 v5 v7 v8 v9 w = some (r, w') → Sc x w w') (v1 : Int32) (v2 : Int32) (v5 : Int64) (v7 : Int32) (v8 : Int32) (v9 : Int32) (w : AH) (hf : fC_X0_shares_152 x k152 v1 v2 v5 v7 v8 v9 w = some (r, w')) : Sc x w w' := by
  unfold fC_X0_shares_152 at hf
  have hx := Sc.refl (x := x) w
  by_cases hc8 : (8 : Int32) ≤ v9
  · have hf := if_t hf hc8
    exact hx.trans (fC_X0_shares_227_t LF v2 v7 v8 w hf)
  · have hf := if_f hf hc8
    obtain ⟨h1, hf⟩ := ck_ex hf
    obtain ⟨hz2, hf⟩ := nzL_ex hf
    obtain ⟨hz3, hf⟩ := nzL_ex hf
    obtain ⟨h4, hf⟩ := ck_ex hf
    obtain ⟨w5, hs6, hf⟩ := st1_ex hf
    have hx := hx.trans (Sc.Le hs6 (by omega))
    by_cases hc7 : v9 = v2
    · have hf := if_t hf hc7
      exact hx.trans (fC_X0_shares_218_s hk152 v1 v2 v5 (v7 - ((v1.toInt64 * (hvi w (x + 59) (v9.toNatClampNeg)).toInt64) / v5).toInt32) v9 (((v1.toInt64 * (hvi w (x + 59) (v9.toNatClampNeg)).toInt64) / v5).toInt32) v8 w5 hf)
    · have hf := if_f hf hc7
      exact hx.trans (fC_X0_shares_218_s hk152 v1 v2 v5 (v7 - ((v1.toInt64 * (hvi w (x + 59) (v9.toNatClampNeg)).toInt64) / v5).toInt32) v9 (0 : Int32) v8 w5 hf)
set_option maxHeartbeats 4000000 in
theorem fC_X0_shares_152_t {r : Int32} {w' : AH} {x : Nat} : ∀ (n : Nat) (v1 : Int32) (v2 : Int32) (v5 : Int64) (v7 : Int32) (v8 : Int32) (v9 : Int32) (w : AH), lq7 (fC_X0_shares_152 x) n v1 v2 v5 v7 v8 v9 w = some (r, w') → Sc x w w'
  | 0, _, _, _, _, _, _, _, hf => nomatch hf
  | n + 1, v1, v2, v5, v7, v8, v9, w, hf => fC_X0_shares_152_s (fC_X0_shares_152_t n) v1 v2 v5 v7 v8 v9 w hf
set_option maxHeartbeats 4000000 in
theorem fC_X0_shares_71_s {r : Int32} {w' : AH} {x : Nat} {k53 : Int32 → Int32 → Int64 → Int32 → AH → Option (Int32 × AH)} {k71 : Int32 → Int32 → Int64 → Int32 → Int32 → AH → Option (Int32 × AH)} (hk53 : ∀ (v1 : Int32) (v2 : Int32) (v5 : Int64) (v7 : Int32) (w : AH), k53 v1 v2 v5 v7 w = some (r, w') → Sc x w w') (hk71 : ∀ (v1 : Int32) (v2 : Int32) (v5 : Int64) (v7 : Int32) (v8 : Int32) (w : AH), k71 v1 v2 v5 v7 v8 w = some (r, w') → Sc x w w') (v1 : Int32) (v2 : Int32) (v5 : Int64) (v7 : Int32) (v8 : Int32) (w : AH) (hf : fC_X0_shares_71 x k53 k71 v1 v2 v5 v7 v8 w = some (r, w')) : Sc x w w' := by
  unfold fC_X0_shares_71 at hf
  have hx := Sc.refl (x := x) w
  by_cases hc6 : (hvi w (x + 1) 23) ≤ v8
  · have hf := if_t hf hc6
    obtain ⟨h1, hf⟩ := ck_ex hf
    exact hx.trans (hk53 v1 v2 (v5 + (hvi w (x + 59) (v7.toNatClampNeg)).toInt64) (v7 + (1 : Int32)) w hf)
  · have hf := if_f hf hc6
    obtain ⟨h2, hf⟩ := ck_ex hf
    obtain ⟨h3, hf⟩ := ck_ex hf
    obtain ⟨w4, hs5, hf⟩ := st1_ex hf
    have hx := hx.trans (Sc.Ie hs5 (by unfold cS; omega))
    exact hx.trans (hk71 v1 v2 v5 v7 (v8 + (1 : Int32)) w4 hf)
set_option maxHeartbeats 4000000 in
theorem fC_X0_shares_71_t {r : Int32} {w' : AH} {x : Nat} {k53 : Int32 → Int32 → Int64 → Int32 → AH → Option (Int32 × AH)} (hk53 : ∀ (v1 : Int32) (v2 : Int32) (v5 : Int64) (v7 : Int32) (w : AH), k53 v1 v2 v5 v7 w = some (r, w') → Sc x w w') : ∀ (n : Nat) (v1 : Int32) (v2 : Int32) (v5 : Int64) (v7 : Int32) (v8 : Int32) (w : AH), lq6 (fC_X0_shares_71 x k53) n v1 v2 v5 v7 v8 w = some (r, w') → Sc x w w'
  | 0, _, _, _, _, _, _, hf => nomatch hf
  | n + 1, v1, v2, v5, v7, v8, w, hf => fC_X0_shares_71_s hk53 (fC_X0_shares_71_t hk53 n) v1 v2 v5 v7 v8 w hf
set_option maxHeartbeats 4000000 in
theorem fC_X0_shares_53_s {r : Int32} {w' : AH} {x : Nat} {k53 : Int32 → Int32 → Int64 → Int32 → AH → Option (Int32 × AH)} (hk53 : ∀ (v1 : Int32) (v2 : Int32) (v5 : Int64) (v7 : Int32) (w : AH), k53 v1 v2 v5 v7 w = some (r, w') → Sc x w w') (v1 : Int32) (v2 : Int32) (v5 : Int64) (v7 : Int32) (w : AH) (hf : fC_X0_shares_53 x k53 v1 v2 v5 v7 w = some (r, w')) : Sc x w w' := by
  unfold fC_X0_shares_53 at hf
  have hx := Sc.refl (x := x) w
  by_cases hc5 : (8 : Int32) ≤ v7
  · have hf := if_t hf hc5
    by_cases hc1 : v5 = (0 : Int64)
    · have hf := if_t hf hc1
      cases some_ex hf
      exact hx
    · have hf := if_f hf hc1
      exact hx.trans (fC_X0_shares_152_t LF v1 v2 v5 v1 (0 : Int32) (0 : Int32) w hf)
  · have hf := if_f hf hc5
    obtain ⟨h2, hf⟩ := ck_ex hf
    obtain ⟨w3, hs4, hf⟩ := st1_ex hf
    have hx := hx.trans (Sc.Ie hs4 (by unfold cS; omega))
    exact hx.trans (fC_X0_shares_71_t hk53 LF v1 v2 v5 v7 (0 : Int32) w3 hf)
set_option maxHeartbeats 4000000 in
theorem fC_X0_shares_53_t {r : Int32} {w' : AH} {x : Nat} : ∀ (n : Nat) (v1 : Int32) (v2 : Int32) (v5 : Int64) (v7 : Int32) (w : AH), lq5 (fC_X0_shares_53 x) n v1 v2 v5 v7 w = some (r, w') → Sc x w w'
  | 0, _, _, _, _, _, hf => nomatch hf
  | n + 1, v1, v2, v5, v7, w, hf => fC_X0_shares_53_s (fC_X0_shares_53_t n) v1 v2 v5 v7 w hf
set_option maxHeartbeats 4000000 in
theorem fC_X0_shares_e {x : Nat} {w : AH} (p0 : Int32) (p1 : Int32) (p2 : Int32) (p3 : Int32) (hL : Lay x w) : mC_X0_shares x p0 p1 p2 p3 w = fC_X0_shares x p0 p1 p2 p3 w := by
  unfold mC_X0_shares fC_X0_shares
  refine bd1_cg (fun r2 hc1 => ?_)
  refine if_cg (fun hc14 => ?_) (fun hc14 => ?_)
  · rfl
  · refine bd1_cg (fun r4 hc3 => ?_)
    refine if_cg (fun hc13 => ?_) (fun hc13 => ?_)
    · rfl
    · refine bd1_cg (fun r6 hc5 => ?_)
      refine if_cg (fun hc12 => ?_) (fun hc12 => ?_)
      · rfl
      · refine bd1_cg (fun r8 hc7 => ?_)
        refine if_cg (fun hc11 => ?_) (fun hc11 => ?_)
        · rfl
        · rewrite [ck_t (kq_0 hL)]
          rewrite [lr_0_23 hL, bd1_s]
          rewrite [ck_t (kq_52 hL)]
          rewrite [fC_X6_looks_e _ _ hL]
          refine bd1_cg (fun w10 hc9 => ?_)
          have hL := (fC_X6_looks_s _ _ _ _ hc9).1.lay hL
          exact fC_X0_shares_53_l LF p0 p1 (0 : Int64) (0 : Int32) w10 hL
set_option maxHeartbeats 4000000 in
theorem fC_X0_shares_s {x : Nat} (p0 : Int32) (p1 : Int32) (p2 : Int32) (p3 : Int32) (w : AH) (r : Int32) (w' : AH) (hf : fC_X0_shares x p0 p1 p2 p3 w = some (r, w')) : Sc x w w' := by
  unfold fC_X0_shares at hf
  have hx := Sc.refl (x := x) w
  obtain ⟨r2, hc1, hf⟩ := bd1_ex hf
  by_cases hc14 : r2 = (0 : Int32)
  · have hf := if_t hf hc14
    cases some_ex hf
    exact hx
  · have hf := if_f hf hc14
    obtain ⟨r4, hc3, hf⟩ := bd1_ex hf
    by_cases hc13 : r4 = (0 : Int32)
    · have hf := if_t hf hc13
      cases some_ex hf
      exact hx
    · have hf := if_f hf hc13
      obtain ⟨r6, hc5, hf⟩ := bd1_ex hf
      by_cases hc12 : r6 = (0 : Int32)
      · have hf := if_t hf hc12
        cases some_ex hf
        exact hx
      · have hf := if_f hf hc12
        obtain ⟨r8, hc7, hf⟩ := bd1_ex hf
        by_cases hc11 : r8 = (0 : Int32)
        · have hf := if_t hf hc11
          cases some_ex hf
          exact hx
        · have hf := if_f hf hc11
          obtain ⟨w10, hc9, hf⟩ := bd1_ex hf
          have hx := hx.trans (fC_X6_looks_s _ _ _ _ hc9)
          exact hx.trans (fC_X0_shares_53_t LF p0 p1 (0 : Int64) (0 : Int32) w10 hf)
set_option maxHeartbeats 4000000 in
theorem fC_X0_terms_20_e {x : Nat} (w : AH) (hL : Lay x w) : mC_X0_terms_20 x w = fC_X0_terms_20 x w := by
  unfold mC_X0_terms_20 fC_X0_terms_20
  rewrite [ck_t (kq_0 hL)]
  rewrite [fC_X0_refuse_e _ hL]
  refine bd2_cg (fun r3 w2 hc1 => ?_)
  have hL := (fC_X0_refuse_s _ _ _ _ hc1).1.lay hL
  rfl
set_option maxHeartbeats 4000000 in
theorem fC_X0_terms_20_s {r : Int32} {w' : AH} {x : Nat} (w : AH) (hf : fC_X0_terms_20 x w = some (r, w')) : Sx x w w' := by
  unfold fC_X0_terms_20 at hf
  have hx := Sx.refl (x := x) w
  obtain ⟨r3, w2, hc1, hf⟩ := bd2_ex hf
  have hx := hx.trans (fC_X0_refuse_s _ _ _ _ hc1)
  cases some_ex hf
  exact hx
set_option maxHeartbeats 4000000 in
theorem fC_X0_terms_e {x : Nat} {w : AH} (p0 : Int32) (p1 : Int32) (hL : Lay x w) : mC_X0_terms x p0 p1 w = fC_X0_terms x p0 p1 w := by
  unfold mC_X0_terms fC_X0_terms
  refine bd1_cg (fun r2 hc1 => ?_)
  refine if_cg (fun hc13 => ?_) (fun hc13 => ?_)
  · exact fC_X0_terms_20_e w hL
  · refine bd1_cg (fun r4 hc3 => ?_)
    refine if_cg (fun hc12 => ?_) (fun hc12 => ?_)
    · exact fC_X0_terms_20_e w hL
    · rewrite [ck_t (kq_0 hL)]
      rewrite [lr_0_2 hL, bd1_s]
      rewrite [ck_t (kq_1 hL)]
      refine st1_cg (fun w5 hs6 => ?_)
      have hL := Lay.I hs6 hL
      rewrite [ck_t (kq_0 hL)]
      rewrite [lr_0_2 hL, bd1_s]
      rewrite [ck_t (kq_1 hL)]
      refine st1_cg (fun w7 hs8 => ?_)
      have hL := Lay.I hs8 hL
      rewrite [ck_t (kq_0 hL)]
      rewrite [fC_X0_done_e _ hL]
      refine bd2_cg (fun r11 w10 hc9 => ?_)
      have hL := (fC_X0_done_s _ _ _ _ hc9).1.lay hL
      rfl
set_option maxHeartbeats 4000000 in
theorem fC_X0_terms_s {x : Nat} (p0 : Int32) (p1 : Int32) (w : AH) (r : Int32) (w' : AH) (hf : fC_X0_terms x p0 p1 w = some (r, w')) : Sx x w w' := by
  unfold fC_X0_terms at hf
  have hx := Sx.refl (x := x) w
  obtain ⟨r2, hc1, hf⟩ := bd1_ex hf
  by_cases hc13 : r2 = (0 : Int32)
  · have hf := if_t hf hc13
    exact hx.trans (fC_X0_terms_20_s w hf)
  · have hf := if_f hf hc13
    obtain ⟨r4, hc3, hf⟩ := bd1_ex hf
    by_cases hc12 : r4 = (0 : Int32)
    · have hf := if_t hf hc12
      exact hx.trans (fC_X0_terms_20_s w hf)
    · have hf := if_f hf hc12
      obtain ⟨w5, hs6, hf⟩ := st1_ex hf
      have hx := hx.trans (Sx.Ie hs6 (by omega))
      obtain ⟨w7, hs8, hf⟩ := st1_ex hf
      have hx := hx.trans (Sx.Ie hs8 (by omega))
      obtain ⟨r11, w10, hc9, hf⟩ := bd2_ex hf
      have hx := hx.trans (fC_X0_done_s _ _ _ _ hc9)
      cases some_ex hf
      exact hx
set_option maxHeartbeats 4000000 in
theorem fC_X0_span_18_e {x : Nat} (w : AH) (hL : Lay x w) : mC_X0_span_18 x w = fC_X0_span_18 x w := by
  unfold mC_X0_span_18 fC_X0_span_18
  rewrite [ck_t (kq_0 hL)]
  rewrite [fC_X0_refuse_e _ hL]
  refine bd2_cg (fun r3 w2 hc1 => ?_)
  have hL := (fC_X0_refuse_s _ _ _ _ hc1).1.lay hL
  rfl
set_option maxHeartbeats 4000000 in
theorem fC_X0_span_18_s {r : Int32} {w' : AH} {x : Nat} (w : AH) (hf : fC_X0_span_18 x w = some (r, w')) : Sx x w w' := by
  unfold fC_X0_span_18 at hf
  have hx := Sx.refl (x := x) w
  obtain ⟨r3, w2, hc1, hf⟩ := bd2_ex hf
  have hx := hx.trans (fC_X0_refuse_s _ _ _ _ hc1)
  cases some_ex hf
  exact hx
set_option maxHeartbeats 4000000 in
theorem fC_X0_span_e {x : Nat} {w : AH} (p0 : Int32) (p1 : Int32) (p2 : Int32) (hL : Lay x w) : mC_X0_span x p0 p1 p2 w = fC_X0_span x p0 p1 p2 w := by
  unfold mC_X0_span fC_X0_span
  refine bd1_cg (fun r2 hc1 => ?_)
  refine if_cg (fun hc21 => ?_) (fun hc21 => ?_)
  · exact fC_X0_span_18_e w hL
  · refine bd1_cg (fun r4 hc3 => ?_)
    refine if_cg (fun hc20 => ?_) (fun hc20 => ?_)
    · exact fC_X0_span_18_e w hL
    · rewrite [ck_t (kq_0 hL)]
      refine bd1_cg (fun r6 hc5 => ?_)
      refine if_cg (fun hc19 => ?_) (fun hc19 => ?_)
      · rewrite [fC_X0_refuse_e _ hL]
        refine bd2_cg (fun r18 w17 hc16 => ?_)
        have hL := (fC_X0_refuse_s _ _ _ _ hc16).1.lay hL
        rfl
      · rewrite [lr_0_11 hL, bd1_s]
        rewrite [al_44 hL]
        refine ck_cg (fun h7 => ?_)
        refine st1_cg (fun w8 hs9 => ?_)
        have hL := Lay.I hs9 hL
        rewrite [ck_t (kq_0 hL)]
        rewrite [lr_0_12 hL, bd1_s]
        rewrite [al_45 hL]
        refine ck_cg (fun h10 => ?_)
        refine st1_cg (fun w11 hs12 => ?_)
        have hL := Lay.I hs12 hL
        rewrite [ck_t (kq_0 hL)]
        rewrite [fC_X0_done_e _ hL]
        refine bd2_cg (fun r15 w14 hc13 => ?_)
        have hL := (fC_X0_done_s _ _ _ _ hc13).1.lay hL
        rfl
set_option maxHeartbeats 4000000 in
theorem fC_X0_span_s {x : Nat} (p0 : Int32) (p1 : Int32) (p2 : Int32) (w : AH) (r : Int32) (w' : AH) (hf : fC_X0_span x p0 p1 p2 w = some (r, w')) : Sx x w w' := by
  unfold fC_X0_span at hf
  have hx := Sx.refl (x := x) w
  obtain ⟨r2, hc1, hf⟩ := bd1_ex hf
  by_cases hc21 : r2 = (0 : Int32)
  · have hf := if_t hf hc21
    exact hx.trans (fC_X0_span_18_s w hf)
  · have hf := if_f hf hc21
    obtain ⟨r4, hc3, hf⟩ := bd1_ex hf
    by_cases hc20 : r4 = (0 : Int32)
    · have hf := if_t hf hc20
      exact hx.trans (fC_X0_span_18_s w hf)
    · have hf := if_f hf hc20
      obtain ⟨r6, hc5, hf⟩ := bd1_ex hf
      by_cases hc19 : r6 = (0 : Int32)
      · have hf := if_t hf hc19
        obtain ⟨r18, w17, hc16, hf⟩ := bd2_ex hf
        have hx := hx.trans (fC_X0_refuse_s _ _ _ _ hc16)
        cases some_ex hf
        exact hx
      · have hf := if_f hf hc19
        obtain ⟨h7, hf⟩ := ck_ex hf
        obtain ⟨w8, hs9, hf⟩ := st1_ex hf
        have hx := hx.trans (Sx.Ie hs9 (by omega))
        obtain ⟨h10, hf⟩ := ck_ex hf
        obtain ⟨w11, hs12, hf⟩ := st1_ex hf
        have hx := hx.trans (Sx.Ie hs12 (by omega))
        obtain ⟨r15, w14, hc13, hf⟩ := bd2_ex hf
        have hx := hx.trans (fC_X0_done_s _ _ _ _ hc13)
        cases some_ex hf
        exact hx
set_option maxHeartbeats 4000000 in
theorem fC_X0_daysOf_e {x : Nat} {w : AH} (p0 : Int32) (p1 : Int32) (hL : Lay x w) : mC_X0_daysOf x p0 p1 w = fC_X0_daysOf x p0 p1 w := by
  unfold mC_X0_daysOf fC_X0_daysOf
  rewrite [ck_t (kq_0 hL)]
  rewrite [lr_0_2 hL, bd1_s]
  rewrite [ck_t (kq_1 hL)]
  rewrite [fC_X1_far_e _ _ hL]
  refine bd1_cg (fun r2 hc1 => ?_)
  refine nzI_cg (fun hz3 => ?_)
  rewrite [lr_1_6 hL, bd1_s]
  rewrite [al_14 hL]
  refine ck_cg (fun h4 => ?_)
  rewrite [al_14 hL]
  refine ck_cg (fun h5 => ?_)
  refine if_cg (fun hc6 => ?_) (fun hc6 => ?_)
  · rfl
  · rfl
set_option maxHeartbeats 4000000 in
theorem fB_X0_goes_187_e {x : Nat} {R_X0_goes : Nat → Int32 → Int32 → Int32 → Int32 → AH → Option (AH)} {r_X0_goes : Int32 → Int32 → Int32 → Int32 → AH → Option (AH)} (hr_X0_goes : ∀ (p0 : Int32) (p1 : Int32) (p2 : Int32) (p3 : Int32) (w : AH), Lay x w → R_X0_goes x p0 p1 p2 p3 w = r_X0_goes p0 p1 p2 p3 w) (hs_X0_goes : ∀ (p0 : Int32) (p1 : Int32) (p2 : Int32) (p3 : Int32) (w : AH) (w' : AH), r_X0_goes p0 p1 p2 p3 w = some w' → Sx x w w') {M75 : Nat → Int32 → Int32 → Int32 → Int32 → Int32 → AH → Option (AH)} {k75 : Int32 → Int32 → Int32 → Int32 → Int32 → AH → Option (AH)} (hk75 : ∀ (v1 : Int32) (v2 : Int32) (v3 : Int32) (v4 : Int32) (v5 : Int32) (w : AH), Lay x w → M75 x v1 v2 v3 v4 v5 w = k75 v1 v2 v3 v4 v5 w) (v1 : Int32) (v2 : Int32) (v3 : Int32) (v4 : Int32) (v5 : Int32) (w : AH) (hL : Lay x w) : mB_X0_goes_187 R_X0_goes M75 x v1 v2 v3 v4 v5 w = fB_X0_goes_187 x r_X0_goes k75 v1 v2 v3 v4 v5 w := by
  unfold mB_X0_goes_187 fB_X0_goes_187
  exact hk75 v1 v2 v3 v4 (v5 + (1 : Int32)) w hL
set_option maxHeartbeats 4000000 in
theorem fB_X0_goes_75_e {x : Nat} {R_X0_goes : Nat → Int32 → Int32 → Int32 → Int32 → AH → Option (AH)} {r_X0_goes : Int32 → Int32 → Int32 → Int32 → AH → Option (AH)} (hr_X0_goes : ∀ (p0 : Int32) (p1 : Int32) (p2 : Int32) (p3 : Int32) (w : AH), Lay x w → R_X0_goes x p0 p1 p2 p3 w = r_X0_goes p0 p1 p2 p3 w) (hs_X0_goes : ∀ (p0 : Int32) (p1 : Int32) (p2 : Int32) (p3 : Int32) (w : AH) (w' : AH), r_X0_goes p0 p1 p2 p3 w = some w' → Sx x w w') {M75 : Nat → Int32 → Int32 → Int32 → Int32 → Int32 → AH → Option (AH)} {k75 : Int32 → Int32 → Int32 → Int32 → Int32 → AH → Option (AH)} (hk75 : ∀ (v1 : Int32) (v2 : Int32) (v3 : Int32) (v4 : Int32) (v5 : Int32) (w : AH), Lay x w → M75 x v1 v2 v3 v4 v5 w = k75 v1 v2 v3 v4 v5 w) (v1 : Int32) (v2 : Int32) (v3 : Int32) (v4 : Int32) (v5 : Int32) (w : AH) (hL : Lay x w) : mB_X0_goes_75 R_X0_goes M75 x v1 v2 v3 v4 v5 w = fB_X0_goes_75 x r_X0_goes k75 v1 v2 v3 v4 v5 w := by
  unfold mB_X0_goes_75 fB_X0_goes_75
  rewrite [ck_t (kq_0 hL)]
  refine if_cg (fun hc19 => ?_) (fun hc19 => ?_)
  · rfl
  · refine if_cg (fun hc18 => ?_) (fun hc18 => ?_)
    · exact fB_X0_goes_187_e hr_X0_goes hs_X0_goes hk75 v1 v2 v3 v4 v5 w hL
    · rewrite [lr_0_10 hL, bd1_s]
      rewrite [al_43 hL]
      refine ck_cg (fun h1 => ?_)
      rewrite [fC_X0_daysOf_e _ _ hL]
      refine bd1_cg (fun r3 hc2 => ?_)
      rewrite [lr_0_11 hL, bd1_s]
      rewrite [al_44 hL]
      refine ck_cg (fun h4 => ?_)
      refine st1_cg (fun r5 hr5 => ?_)
      rewrite [lr_0_12 hL, bd1_s]
      rewrite [al_45 hL]
      refine ck_cg (fun h6 => ?_)
      refine if_cg (fun hc17 => ?_) (fun hc17 => ?_)
      · exact fB_X0_goes_187_e hr_X0_goes hs_X0_goes hk75 v1 v2 v3 v4 v5 w hL
      · refine if_cg (fun hc16 => ?_) (fun hc16 => ?_)
        · rewrite [lr_0_30 hL, bd1_s]
          rewrite [al_63 hL]
          refine ck_cg (fun h7 => ?_)
          refine st1_cg (fun w8 hs9 => ?_)
          have hL := Lay.I hs9 hL
          rewrite [ck_t (kq_0 hL)]
          rewrite [lr_0_31 hL, bd1_s]
          rewrite [al_64 hL]
          refine ck_cg (fun h10 => ?_)
          refine st1_cg (fun w11 hs12 => ?_)
          have hL := Lay.I hs12 hL
          rewrite [ck_t (kq_0 hL)]
          rewrite [lr_0_10 hL, bd1_s]
          rewrite [al_43 hL]
          refine ck_cg (fun h13 => ?_)
          rewrite [hr_X0_goes _ _ _ _ _ hL]
          refine bd1_cg (fun w15 hc14 => ?_)
          have hL := (hs_X0_goes _ _ _ _ _ _ hc14).1.lay hL
          exact fB_X0_goes_187_e hr_X0_goes hs_X0_goes hk75 v1 v2 v3 v4 v5 w15 hL
        · exact fB_X0_goes_187_e hr_X0_goes hs_X0_goes hk75 v1 v2 v3 v4 v5 w hL
set_option maxHeartbeats 4000000 in
theorem fB_X0_goes_75_l {x : Nat} {R_X0_goes : Nat → Int32 → Int32 → Int32 → Int32 → AH → Option (AH)} {r_X0_goes : Int32 → Int32 → Int32 → Int32 → AH → Option (AH)} (hr_X0_goes : ∀ (p0 : Int32) (p1 : Int32) (p2 : Int32) (p3 : Int32) (w : AH), Lay x w → R_X0_goes x p0 p1 p2 p3 w = r_X0_goes p0 p1 p2 p3 w) (hs_X0_goes : ∀ (p0 : Int32) (p1 : Int32) (p2 : Int32) (p3 : Int32) (w : AH) (w' : AH), r_X0_goes p0 p1 p2 p3 w = some w' → Sx x w w') : ∀ (n : Nat) (v1 : Int32) (v2 : Int32) (v3 : Int32) (v4 : Int32) (v5 : Int32) (w : AH), Lay x w → lq7 (mB_X0_goes_75 R_X0_goes) n x v1 v2 v3 v4 v5 w = lq6 (fB_X0_goes_75 x r_X0_goes) n v1 v2 v3 v4 v5 w
  | 0, _, _, _, _, _, _, _ => rfl
  | n + 1, v1, v2, v3, v4, v5, w, hL => fB_X0_goes_75_e hr_X0_goes hs_X0_goes (fB_X0_goes_75_l hr_X0_goes hs_X0_goes n) v1 v2 v3 v4 v5 w hL
set_option maxHeartbeats 4000000 in
theorem fB_X0_goes_72_e {x : Nat} {R_X0_goes : Nat → Int32 → Int32 → Int32 → Int32 → AH → Option (AH)} {r_X0_goes : Int32 → Int32 → Int32 → Int32 → AH → Option (AH)} (hr_X0_goes : ∀ (p0 : Int32) (p1 : Int32) (p2 : Int32) (p3 : Int32) (w : AH), Lay x w → R_X0_goes x p0 p1 p2 p3 w = r_X0_goes p0 p1 p2 p3 w) (hs_X0_goes : ∀ (p0 : Int32) (p1 : Int32) (p2 : Int32) (p3 : Int32) (w : AH) (w' : AH), r_X0_goes p0 p1 p2 p3 w = some w' → Sx x w w') (v1 : Int32) (v2 : Int32) (v3 : Int32) (v4 : Int32) (w : AH) (hL : Lay x w) : mB_X0_goes_72 R_X0_goes x v1 v2 v3 v4 w = fB_X0_goes_72 x r_X0_goes v1 v2 v3 v4 w := by
  unfold mB_X0_goes_72 fB_X0_goes_72
  exact fB_X0_goes_75_l hr_X0_goes hs_X0_goes LF v1 v2 v3 v4 (0 : Int32) w hL
set_option maxHeartbeats 4000000 in
theorem fB_X0_goes_39_e {x : Nat} {R_X0_goes : Nat → Int32 → Int32 → Int32 → Int32 → AH → Option (AH)} {r_X0_goes : Int32 → Int32 → Int32 → Int32 → AH → Option (AH)} (hr_X0_goes : ∀ (p0 : Int32) (p1 : Int32) (p2 : Int32) (p3 : Int32) (w : AH), Lay x w → R_X0_goes x p0 p1 p2 p3 w = r_X0_goes p0 p1 p2 p3 w) (hs_X0_goes : ∀ (p0 : Int32) (p1 : Int32) (p2 : Int32) (p3 : Int32) (w : AH) (w' : AH), r_X0_goes p0 p1 p2 p3 w = some w' → Sx x w w') (v1 : Int32) (v2 : Int32) (v3 : Int32) (v4 : Int32) (w : AH) (hL : Lay x w) : mB_X0_goes_39 R_X0_goes x v1 v2 v3 v4 w = fB_X0_goes_39 x r_X0_goes v1 v2 v3 v4 w := by
  unfold mB_X0_goes_39 fB_X0_goes_39
  rewrite [ck_t (kq_0 hL)]
  refine st1_cg (fun w1 hs2 => ?_)
  have hL := Lay.I hs2 hL
  rewrite [ck_t (kq_0 hL)]
  rewrite [lr_0_30 hL, bd1_s]
  rewrite [lr_0_32 hL, bd1_s]
  rewrite [ck_t (ke_63 hL)]
  rewrite [ck_t (ke_65 hL)]
  rewrite [kn_63 hL, kn_65 hL]
  refine ck_cg (fun h3 => ?_)
  refine st1_cg (fun w4 hs5 => ?_)
  have hL := Lay.cI hs5 hL
  rewrite [ck_t (kq_0 hL)]
  rewrite [lr_0_31 hL, bd1_s]
  rewrite [lr_0_33 hL, bd1_s]
  rewrite [ck_t (ke_64 hL)]
  rewrite [ck_t (ke_66 hL)]
  rewrite [kn_64 hL, kn_66 hL]
  refine ck_cg (fun h6 => ?_)
  refine st1_cg (fun w7 hs8 => ?_)
  have hL := Lay.cI hs8 hL
  exact fB_X0_goes_72_e hr_X0_goes hs_X0_goes v1 v2 v3 v4 w7 hL
set_option maxHeartbeats 4000000 in
theorem fB_X0_goes_187_s {w' : AH} {x : Nat} {r_X0_goes : Int32 → Int32 → Int32 → Int32 → AH → Option (AH)} (hs_X0_goes : ∀ (p0 : Int32) (p1 : Int32) (p2 : Int32) (p3 : Int32) (w : AH) (w' : AH), r_X0_goes p0 p1 p2 p3 w = some w' → Sx x w w') {k75 : Int32 → Int32 → Int32 → Int32 → Int32 → AH → Option (AH)} (hk75 : ∀ (v1 : Int32) (v2 : Int32) (v3 : Int32) (v4 : Int32) (v5 : Int32) (w : AH), k75 v1 v2 v3 v4 v5 w = some w' → Sx x w w') (v1 : Int32) (v2 : Int32) (v3 : Int32) (v4 : Int32) (v5 : Int32) (w : AH) (hf : fB_X0_goes_187 x r_X0_goes k75 v1 v2 v3 v4 v5 w = some w') : Sx x w w' := by
  unfold fB_X0_goes_187 at hf
  have hx := Sx.refl (x := x) w
  exact hx.trans (hk75 v1 v2 v3 v4 (v5 + (1 : Int32)) w hf)
set_option maxHeartbeats 4000000 in
theorem fB_X0_goes_75_s {w' : AH} {x : Nat} {r_X0_goes : Int32 → Int32 → Int32 → Int32 → AH → Option (AH)} (hs_X0_goes : ∀ (p0 : Int32) (p1 : Int32) (p2 : Int32) (p3 : Int32) (w : AH) (w' : AH), r_X0_goes p0 p1 p2 p3 w = some w' → Sx x w w') {k75 : Int32 → Int32 → Int32 → Int32 → Int32 → AH → Option (AH)} (hk75 : ∀ (v1 : Int32) (v2 : Int32) (v3 : Int32) (v4 : Int32) (v5 : Int32) (w : AH), k75 v1 v2 v3 v4 v5 w = some w' → Sx x w w') (v1 : Int32) (v2 : Int32) (v3 : Int32) (v4 : Int32) (v5 : Int32) (w : AH) (hf : fB_X0_goes_75 x r_X0_goes k75 v1 v2 v3 v4 v5 w = some w') : Sx x w w' := by
  unfold fB_X0_goes_75 at hf
  have hx := Sx.refl (x := x) w
  by_cases hc19 : (hvi w x 19) ≤ v5
  · have hf := if_t hf hc19
    cases some_ex hf
    exact hx
  · have hf := if_f hf hc19
    by_cases hc18 : ((v2 >>> (v5 &&& 31)) &&& (1 : Int32)) = (1 : Int32)
    · have hf := if_t hf hc18
      exact hx.trans (fB_X0_goes_187_s hs_X0_goes hk75 v1 v2 v3 v4 v5 w hf)
    · have hf := if_f hf hc18
      obtain ⟨h1, hf⟩ := ck_ex hf
      obtain ⟨r3, hc2, hf⟩ := bd1_ex hf
      obtain ⟨h4, hf⟩ := ck_ex hf
      obtain ⟨r5, hr5, hf⟩ := st1_ex hf
      obtain ⟨h6, hf⟩ := ck_ex hf
      by_cases hc17 : (hvi w (x + 45) (v5.toNatClampNeg)) < r5
      · have hf := if_t hf hc17
        exact hx.trans (fB_X0_goes_187_s hs_X0_goes hk75 v1 v2 v3 v4 v5 w hf)
      · have hf := if_f hf hc17
        by_cases hc16 : r5 < (400 : Int32)
        · have hf := if_t hf hc16
          obtain ⟨h7, hf⟩ := ck_ex hf
          obtain ⟨w8, hs9, hf⟩ := st1_ex hf
          have hx := hx.trans (Sx.Ie hs9 (by omega))
          obtain ⟨h10, hf⟩ := ck_ex hf
          obtain ⟨w11, hs12, hf⟩ := st1_ex hf
          have hx := hx.trans (Sx.Ie hs12 (by omega))
          obtain ⟨h13, hf⟩ := ck_ex hf
          obtain ⟨w15, hc14, hf⟩ := bd1_ex hf
          have hx := hx.trans (hs_X0_goes _ _ _ _ _ _ hc14)
          exact hx.trans (fB_X0_goes_187_s hs_X0_goes hk75 v1 v2 v3 v4 v5 w15 hf)
        · have hf := if_f hf hc16
          exact hx.trans (fB_X0_goes_187_s hs_X0_goes hk75 v1 v2 v3 v4 v5 w hf)
set_option maxHeartbeats 4000000 in
theorem fB_X0_goes_75_t {w' : AH} {x : Nat} {r_X0_goes : Int32 → Int32 → Int32 → Int32 → AH → Option (AH)} (hs_X0_goes : ∀ (p0 : Int32) (p1 : Int32) (p2 : Int32) (p3 : Int32) (w : AH) (w' : AH), r_X0_goes p0 p1 p2 p3 w = some w' → Sx x w w') : ∀ (n : Nat) (v1 : Int32) (v2 : Int32) (v3 : Int32) (v4 : Int32) (v5 : Int32) (w : AH), lq6 (fB_X0_goes_75 x r_X0_goes) n v1 v2 v3 v4 v5 w = some w' → Sx x w w'
  | 0, _, _, _, _, _, _, hf => nomatch hf
  | n + 1, v1, v2, v3, v4, v5, w, hf => fB_X0_goes_75_s hs_X0_goes (fB_X0_goes_75_t hs_X0_goes n) v1 v2 v3 v4 v5 w hf
set_option maxHeartbeats 4000000 in
theorem fB_X0_goes_72_s {w' : AH} {x : Nat} {r_X0_goes : Int32 → Int32 → Int32 → Int32 → AH → Option (AH)} (hs_X0_goes : ∀ (p0 : Int32) (p1 : Int32) (p2 : Int32) (p3 : Int32) (w : AH) (w' : AH), r_X0_goes p0 p1 p2 p3 w = some w' → Sx x w w') (v1 : Int32) (v2 : Int32) (v3 : Int32) (v4 : Int32) (w : AH) (hf : fB_X0_goes_72 x r_X0_goes v1 v2 v3 v4 w = some w') : Sx x w w' := by
  unfold fB_X0_goes_72 at hf
  have hx := Sx.refl (x := x) w
  exact hx.trans (fB_X0_goes_75_t hs_X0_goes LF v1 v2 v3 v4 (0 : Int32) w hf)
set_option maxHeartbeats 4000000 in
theorem fB_X0_goes_39_s {w' : AH} {x : Nat} {r_X0_goes : Int32 → Int32 → Int32 → Int32 → AH → Option (AH)} (hs_X0_goes : ∀ (p0 : Int32) (p1 : Int32) (p2 : Int32) (p3 : Int32) (w : AH) (w' : AH), r_X0_goes p0 p1 p2 p3 w = some w' → Sx x w w') (v1 : Int32) (v2 : Int32) (v3 : Int32) (v4 : Int32) (w : AH) (hf : fB_X0_goes_39 x r_X0_goes v1 v2 v3 v4 w = some w') : Sx x w w' := by
  unfold fB_X0_goes_39 at hf
  have hx := Sx.refl (x := x) w
  obtain ⟨w1, hs2, hf⟩ := st1_ex hf
  have hx := hx.trans (Sx.Ie hs2 (by omega))
  obtain ⟨h3, hf⟩ := ck_ex hf
  obtain ⟨w4, hs5, hf⟩ := st1_ex hf
  have hx := hx.trans (Sx.cIe hs5 (by omega))
  obtain ⟨h6, hf⟩ := ck_ex hf
  obtain ⟨w7, hs8, hf⟩ := st1_ex hf
  have hx := hx.trans (Sx.cIe hs8 (by omega))
  exact hx.trans (fB_X0_goes_72_s hs_X0_goes v1 v2 v3 v4 w7 hf)
set_option maxHeartbeats 4000000 in
theorem fB_X0_goes_e {x : Nat} {w : AH} {R_X0_goes : Nat → Int32 → Int32 → Int32 → Int32 → AH → Option (AH)} {r_X0_goes : Int32 → Int32 → Int32 → Int32 → AH → Option (AH)} (hr_X0_goes : ∀ (p0 : Int32) (p1 : Int32) (p2 : Int32) (p3 : Int32) (w : AH), Lay x w → R_X0_goes x p0 p1 p2 p3 w = r_X0_goes p0 p1 p2 p3 w) (hs_X0_goes : ∀ (p0 : Int32) (p1 : Int32) (p2 : Int32) (p3 : Int32) (w : AH) (w' : AH), r_X0_goes p0 p1 p2 p3 w = some w' → Sx x w w') (p0 : Int32) (p1 : Int32) (p2 : Int32) (p3 : Int32) (hL : Lay x w) : mB_X0_goes R_X0_goes x p0 p1 p2 p3 w = fB_X0_goes x r_X0_goes p0 p1 p2 p3 w := by
  unfold mB_X0_goes fB_X0_goes
  rewrite [ck_t (kq_0 hL)]
  refine if_cg (fun hc6 => ?_) (fun hc6 => ?_)
  · exact fB_X0_goes_39_e hr_X0_goes hs_X0_goes p0 p1 p2 p3 w hL
  · refine if_cg (fun hc5 => ?_) (fun hc5 => ?_)
    · refine if_cg (fun hc4 => ?_) (fun hc4 => ?_)
      · exact fB_X0_goes_72_e hr_X0_goes hs_X0_goes p0 p1 p2 p3 w hL
      · rewrite [lr_0_31 hL, bd1_s]
        rewrite [al_64 hL]
        refine ck_cg (fun h1 => ?_)
        rewrite [lr_0_33 hL, bd1_s]
        rewrite [al_66 hL]
        refine ck_cg (fun h2 => ?_)
        refine if_cg (fun hc3 => ?_) (fun hc3 => ?_)
        · exact fB_X0_goes_72_e hr_X0_goes hs_X0_goes p0 p1 p2 p3 w hL
        · exact fB_X0_goes_39_e hr_X0_goes hs_X0_goes p0 p1 p2 p3 w hL
    · exact fB_X0_goes_72_e hr_X0_goes hs_X0_goes p0 p1 p2 p3 w hL
set_option maxHeartbeats 4000000 in
theorem fB_X0_goes_s {x : Nat} {r_X0_goes : Int32 → Int32 → Int32 → Int32 → AH → Option (AH)} (hs_X0_goes : ∀ (p0 : Int32) (p1 : Int32) (p2 : Int32) (p3 : Int32) (w : AH) (w' : AH), r_X0_goes p0 p1 p2 p3 w = some w' → Sx x w w') (p0 : Int32) (p1 : Int32) (p2 : Int32) (p3 : Int32) (w : AH) (w' : AH) (hf : fB_X0_goes x r_X0_goes p0 p1 p2 p3 w = some w') : Sx x w w' := by
  unfold fB_X0_goes at hf
  have hx := Sx.refl (x := x) w
  by_cases hc6 : (hvi w x 35) < p0
  · have hf := if_t hf hc6
    exact hx.trans (fB_X0_goes_39_s hs_X0_goes p0 p1 p2 p3 w hf)
  · have hf := if_f hf hc6
    by_cases hc5 : p0 = (hvi w x 35)
    · have hf := if_t hf hc5
      by_cases hc4 : p0 ≤ (0 : Int32)
      · have hf := if_t hf hc4
        exact hx.trans (fB_X0_goes_72_s hs_X0_goes p0 p1 p2 p3 w hf)
      · have hf := if_f hf hc4
        obtain ⟨h1, hf⟩ := ck_ex hf
        obtain ⟨h2, hf⟩ := ck_ex hf
        by_cases hc3 : (hvi w (x + 66) ((p0 - (1 : Int32)).toNatClampNeg)) ≤ (hvi w (x + 64) ((p0 - (1 : Int32)).toNatClampNeg))
        · have hf := if_t hf hc3
          exact hx.trans (fB_X0_goes_72_s hs_X0_goes p0 p1 p2 p3 w hf)
        · have hf := if_f hf hc3
          exact hx.trans (fB_X0_goes_39_s hs_X0_goes p0 p1 p2 p3 w hf)
    · have hf := if_f hf hc5
      exact hx.trans (fB_X0_goes_72_s hs_X0_goes p0 p1 p2 p3 w hf)
set_option maxHeartbeats 4000000 in
theorem fC_X0_goes_s {x : Nat} : ∀ (n : Nat) (p0 : Int32) (p1 : Int32) (p2 : Int32) (p3 : Int32) (w : AH) (w' : AH), fC_X0_goes x n p0 p1 p2 p3 w = some w' → Sx x w w'
  | 0, _, _, _, _, _, _, hf => nomatch hf
  | n + 1, p0, p1, p2, p3, w, w', hf => fB_X0_goes_s (fC_X0_goes_s n) p0 p1 p2 p3 w w' hf
set_option maxHeartbeats 4000000 in
theorem fC_X0_goes_eN {x : Nat} : ∀ (n : Nat) (p0 : Int32) (p1 : Int32) (p2 : Int32) (p3 : Int32) (w : AH), Lay x w → mC_X0_goes n x p0 p1 p2 p3 w = fC_X0_goes x n p0 p1 p2 p3 w
  | 0, _, _, _, _, _, _ => rfl
  | n + 1, p0, p1, p2, p3, w, hL => fB_X0_goes_e (fC_X0_goes_eN n) (fun p0 p1 p2 p3 w w' hf => (fC_X0_goes_s n p0 p1 p2 p3 w w' hf)) p0 p1 p2 p3 hL
set_option maxHeartbeats 4000000 in
theorem fC_X0_goes_e {x : Nat} {w : AH} (n : Nat) (p0 : Int32) (p1 : Int32) (p2 : Int32) (p3 : Int32) (hL : Lay x w) : mC_X0_goes n x p0 p1 p2 p3 w = fC_X0_goes x n p0 p1 p2 p3 w := fC_X0_goes_eN n p0 p1 p2 p3 w hL
set_option maxHeartbeats 4000000 in
theorem fC_X0_way_e {x : Nat} {w : AH} (p0 : Int32) (p1 : Int32) (hL : Lay x w) : mC_X0_way x p0 p1 w = fC_X0_way x p0 p1 w := by
  unfold mC_X0_way fC_X0_way
  rewrite [ck_t (kq_0 hL)]
  rewrite [fC_X0_isPlace_e _ hL]
  refine bd1_cg (fun r2 hc1 => ?_)
  refine if_cg (fun hc15 => ?_) (fun hc15 => ?_)
  · rfl
  · refine bd1_cg (fun r4 hc3 => ?_)
    refine if_cg (fun hc14 => ?_) (fun hc14 => ?_)
    · rfl
    · rewrite [fC_X0_areThere_e  hL]
      refine bd1_cg (fun r6 hc5 => ?_)
      refine if_cg (fun hc13 => ?_) (fun hc13 => ?_)
      · rfl
      · refine st1_cg (fun w7 hs8 => ?_)
        have hL := Lay.I hs8 hL
        rewrite [ck_t (kq_0 hL)]
        rewrite [fC_X0_goes_e 200 _ _ _ _ hL]
        refine bd1_cg (fun w10 hc9 => ?_)
        have hL := (fC_X0_goes_s 200 _ _ _ _ _ _ hc9).1.lay hL
        rewrite [ck_t (kq_0 hL)]
        refine st1_cg (fun w11 hs12 => ?_)
        have hL := Lay.I hs12 hL
        rewrite [ck_t (kq_0 hL)]
        rfl
set_option maxHeartbeats 4000000 in
theorem fC_X0_way_s {x : Nat} (p0 : Int32) (p1 : Int32) (w : AH) (r : Int32) (w' : AH) (hf : fC_X0_way x p0 p1 w = some (r, w')) : Sx x w w' := by
  unfold fC_X0_way at hf
  have hx := Sx.refl (x := x) w
  obtain ⟨r2, hc1, hf⟩ := bd1_ex hf
  by_cases hc15 : r2 = (0 : Int32)
  · have hf := if_t hf hc15
    cases some_ex hf
    exact hx
  · have hf := if_f hf hc15
    obtain ⟨r4, hc3, hf⟩ := bd1_ex hf
    by_cases hc14 : r4 = (0 : Int32)
    · have hf := if_t hf hc14
      cases some_ex hf
      exact hx
    · have hf := if_f hf hc14
      obtain ⟨r6, hc5, hf⟩ := bd1_ex hf
      by_cases hc13 : r6 = (0 : Int32)
      · have hf := if_t hf hc13
        cases some_ex hf
        exact hx
      · have hf := if_f hf hc13
        obtain ⟨w7, hs8, hf⟩ := st1_ex hf
        have hx := hx.trans (Sx.Ie hs8 (by omega))
        obtain ⟨w10, hc9, hf⟩ := bd1_ex hf
        have hx := hx.trans (fC_X0_goes_s 200 _ _ _ _ _ _ hc9)
        obtain ⟨w11, hs12, hf⟩ := st1_ex hf
        have hx := hx.trans (Sx.Ie hs12 (by omega))
        cases some_ex hf
        exact hx
set_option maxHeartbeats 4000000 in
theorem fC_X0_leg_e {x : Nat} {w : AH} (p0 : Int32) (p1 : Int32) (hL : Lay x w) : mC_X0_leg x p0 p1 w = fC_X0_leg x p0 p1 w := by
  unfold mC_X0_leg fC_X0_leg
  rewrite [ck_t (kq_0 hL)]
  refine if_cg (fun hc10 => ?_) (fun hc10 => ?_)
  · rfl
  · refine bd1_cg (fun r2 hc1 => ?_)
    refine if_cg (fun hc9 => ?_) (fun hc9 => ?_)
    · rfl
    · refine bd1_cg (fun r4 hc3 => ?_)
      refine if_cg (fun hc8 => ?_) (fun hc8 => ?_)
      · rfl
      · refine if_cg (fun hc7 => ?_) (fun hc7 => ?_)
        · rewrite [lr_0_32 hL, bd1_s]
          rewrite [al_65 hL]
          refine ck_cg (fun h6 => ?_)
          rfl
        · rewrite [lr_0_33 hL, bd1_s]
          rewrite [al_66 hL]
          refine ck_cg (fun h5 => ?_)
          rfl
set_option maxHeartbeats 4000000 in
theorem fC_X0_doors_83_e {x : Nat} {w : AH} {M51 : Int32 → Int32 → Int32 → Int32 → Int32 → Int32 → Option (Int32)} {k51 : Int32 → Int32 → Int32 → Int32 → Int32 → Int32 → Option (Int32)} (hk51 : ∀ (v1 : Int32) (v2 : Int32) (v3 : Int32) (v4 : Int32) (v5 : Int32) (v6 : Int32), Lay x w → M51 v1 v2 v3 v4 v5 v6 = k51 v1 v2 v3 v4 v5 v6) (v1 : Int32) (v2 : Int32) (v3 : Int32) (v4 : Int32) (v5 : Int32) (v6 : Int32) (hL : Lay x w) : mC_X0_doors_83 w M51 v1 v2 v3 v4 v5 v6 = fC_X0_doors_83 x w k51 v1 v2 v3 v4 v5 v6 := by
  unfold mC_X0_doors_83 fC_X0_doors_83
  exact hk51 v1 v2 v3 v4 v5 (v6 + (1 : Int32)) hL
set_option maxHeartbeats 4000000 in
theorem fC_X0_doors_51_e {x : Nat} {w : AH} {M51 : Int32 → Int32 → Int32 → Int32 → Int32 → Int32 → Option (Int32)} {k51 : Int32 → Int32 → Int32 → Int32 → Int32 → Int32 → Option (Int32)} (hk51 : ∀ (v1 : Int32) (v2 : Int32) (v3 : Int32) (v4 : Int32) (v5 : Int32) (v6 : Int32), Lay x w → M51 v1 v2 v3 v4 v5 v6 = k51 v1 v2 v3 v4 v5 v6) (v1 : Int32) (v2 : Int32) (v3 : Int32) (v4 : Int32) (v5 : Int32) (v6 : Int32) (hL : Lay x w) : mC_X0_doors_51 w M51 v1 v2 v3 v4 v5 v6 = fC_X0_doors_51 x w k51 v1 v2 v3 v4 v5 v6 := by
  unfold mC_X0_doors_51 fC_X0_doors_51
  refine if_cg (fun hc5 => ?_) (fun hc5 => ?_)
  · rfl
  · refine bd1_cg (fun r2 hc1 => ?_)
    refine if_cg (fun hc4 => ?_) (fun hc4 => ?_)
    · exact fC_X0_doors_83_e hk51 v1 v2 v3 v4 v5 v6 hL
    · refine if_cg (fun hc3 => ?_) (fun hc3 => ?_)
      · rfl
      · exact fC_X0_doors_83_e hk51 v1 v2 v3 v4 v6 v6 hL
set_option maxHeartbeats 4000000 in
theorem fC_X0_doors_51_l {x : Nat} {w : AH} : ∀ (n : Nat) (v1 : Int32) (v2 : Int32) (v3 : Int32) (v4 : Int32) (v5 : Int32) (v6 : Int32), Lay x w → lq6 (mC_X0_doors_51 w) n v1 v2 v3 v4 v5 v6 = lq6 (fC_X0_doors_51 x w) n v1 v2 v3 v4 v5 v6
  | 0, _, _, _, _, _, _, _ => rfl
  | n + 1, v1, v2, v3, v4, v5, v6, hL => fC_X0_doors_51_e (fC_X0_doors_51_l n) v1 v2 v3 v4 v5 v6 hL
set_option maxHeartbeats 4000000 in
theorem fC_X0_doors_e {x : Nat} {w : AH} (p0 : Int32) (p1 : Int32) (p2 : Int32) (p3 : Int32) (hL : Lay x w) : mC_X0_doors x p0 p1 p2 p3 w = fC_X0_doors x p0 p1 p2 p3 w := by
  unfold mC_X0_doors fC_X0_doors
  refine bd1_cg (fun r2 hc1 => ?_)
  refine if_cg (fun hc13 => ?_) (fun hc13 => ?_)
  · rfl
  · refine st1_cg (fun r3 hr3 => ?_)
    refine bd1_cg (fun r5 hc4 => ?_)
    refine if_cg (fun hc12 => ?_) (fun hc12 => ?_)
    · rfl
    · refine bd1_cg (fun r7 hc6 => ?_)
      refine if_cg (fun hc11 => ?_) (fun hc11 => ?_)
      · rfl
      · refine bd1_cg (fun r9 hc8 => ?_)
        refine if_cg (fun hc10 => ?_) (fun hc10 => ?_)
        · rfl
        · exact fC_X0_doors_51_l LF p0 p1 p2 p3 (-1 : Int32) (0 : Int32) hL
set_option maxHeartbeats 4000000 in
theorem fC_X0_isOf_e {x : Nat} {w : AH} (p0 : Int32) (p1 : Int32) (hL : Lay x w) : mC_X0_isOf x p0 p1 w = fC_X0_isOf x p0 p1 w := by
  unfold mC_X0_isOf fC_X0_isOf
  rewrite [ck_t (kq_0 hL)]
  rewrite [lr_0_2 hL, bd1_s]
  rewrite [ck_t (kq_1 hL)]
  rewrite [lr_1_15 hL, bd1_s]
  rewrite [lr_1_5 hL, bd1_s]
  rewrite [ck_t (kq_12 hL)]
  refine bd1_cg (fun r2 hc1 => ?_)
  refine ck_cg (fun h3 => ?_)
  rewrite [al_23 hL]
  refine ck_cg (fun h4 => ?_)
  refine if_cg (fun hc5 => ?_) (fun hc5 => ?_)
  · rfl
  · rfl
set_option maxHeartbeats 4000000 in
theorem fC_X0_adds_2_97_e {x : Nat} {M17 : Nat → Int32 → Int32 → AH → Option (AH)} {k17 : Int32 → Int32 → AH → Option (AH)} (hk17 : ∀ (v1 : Int32) (v2 : Int32) (w : AH), Lay x w → M17 x v1 v2 w = k17 v1 v2 w) (v1 : Int32) (v2 : Int32) (w : AH) (hL : Lay x w) : mC_X0_adds_2_97 M17 x v1 v2 w = fC_X0_adds_2_97 x k17 v1 v2 w := by
  unfold mC_X0_adds_2_97 fC_X0_adds_2_97
  exact hk17 v1 (v2 + (1 : Int32)) w hL
set_option maxHeartbeats 4000000 in
theorem fC_X0_adds_2_17_e {x : Nat} {M17 : Nat → Int32 → Int32 → AH → Option (AH)} {k17 : Int32 → Int32 → AH → Option (AH)} (hk17 : ∀ (v1 : Int32) (v2 : Int32) (w : AH), Lay x w → M17 x v1 v2 w = k17 v1 v2 w) (v1 : Int32) (v2 : Int32) (w : AH) (hL : Lay x w) : mC_X0_adds_2_17 M17 x v1 v2 w = fC_X0_adds_2_17 x k17 v1 v2 w := by
  unfold mC_X0_adds_2_17 fC_X0_adds_2_17
  rewrite [ck_t (kq_0 hL)]
  rewrite [lr_0_2 hL, bd1_s]
  rewrite [ck_t (kq_1 hL)]
  rewrite [lr_1_5 hL, bd1_s]
  rewrite [ck_t (kq_12 hL)]
  refine bd1_cg (fun r2 hc1 => ?_)
  refine if_cg (fun hc14 => ?_) (fun hc14 => ?_)
  · rfl
  · rewrite [fC_X0_isOf_e _ _ hL]
    refine bd1_cg (fun r4 hc3 => ?_)
    refine if_cg (fun hc13 => ?_) (fun hc13 => ?_)
    · exact fC_X0_adds_2_97_e hk17 v1 v2 w hL
    · refine st1_cg (fun w5 hs6 => ?_)
      have hL := Lay.I hs6 hL
      rewrite [ck_t (kq_0 hL)]
      rewrite [lr_0_2 hL, bd1_s]
      rewrite [ck_t (kq_1 hL)]
      rewrite [lr_1_17 hL, bd1_s]
      rewrite [al_25 hL]
      refine ck_cg (fun h7 => ?_)
      refine st1_cg (fun w8 hs9 => ?_)
      have hL := Lay.L hs9 hL
      rewrite [ck_t (kq_0 hL)]
      rewrite [lr_0_2 hL, bd1_s]
      rewrite [ck_t (kq_1 hL)]
      rewrite [lr_1_17 hL, bd1_s]
      rewrite [al_25 hL]
      refine ck_cg (fun h10 => ?_)
      refine st1_cg (fun w11 hs12 => ?_)
      have hL := Lay.L hs12 hL
      exact fC_X0_adds_2_97_e hk17 v1 v2 w11 hL
set_option maxHeartbeats 4000000 in
theorem fC_X0_adds_2_17_l {x : Nat} : ∀ (n : Nat) (v1 : Int32) (v2 : Int32) (w : AH), Lay x w → lq4 (mC_X0_adds_2_17) n x v1 v2 w = lq3 (fC_X0_adds_2_17 x) n v1 v2 w
  | 0, _, _, _, _ => rfl
  | n + 1, v1, v2, w, hL => fC_X0_adds_2_17_e (fC_X0_adds_2_17_l n) v1 v2 w hL
set_option maxHeartbeats 4000000 in
theorem fC_X0_adds_2_97_s {w' : AH} {x : Nat} {k17 : Int32 → Int32 → AH → Option (AH)} (hk17 : ∀ (v1 : Int32) (v2 : Int32) (w : AH), k17 v1 v2 w = some w' → Sd x w w') (v1 : Int32) (v2 : Int32) (w : AH) (hf : fC_X0_adds_2_97 x k17 v1 v2 w = some w') : Sd x w w' := by
  unfold fC_X0_adds_2_97 at hf
  have hx := Sd.refl (x := x) w
  exact hx.trans (hk17 v1 (v2 + (1 : Int32)) w hf)
set_option maxHeartbeats 4000000 in
theorem fC_X0_adds_2_17_s {w' : AH} {x : Nat} {k17 : Int32 → Int32 → AH → Option (AH)} (hk17 : ∀ (v1 : Int32) (v2 : Int32) (w : AH), k17 v1 v2 w = some w' → Sd x w w') (v1 : Int32) (v2 : Int32) (w : AH) (hf : fC_X0_adds_2_17 x k17 v1 v2 w = some w') : Sd x w w' := by
  unfold fC_X0_adds_2_17 at hf
  have hx := Sd.refl (x := x) w
  obtain ⟨r2, hc1, hf⟩ := bd1_ex hf
  by_cases hc14 : r2 ≤ v2
  · have hf := if_t hf hc14
    cases some_ex hf
    exact hx
  · have hf := if_f hf hc14
    obtain ⟨r4, hc3, hf⟩ := bd1_ex hf
    by_cases hc13 : r4 = (0 : Int32)
    · have hf := if_t hf hc13
      exact hx.trans (fC_X0_adds_2_97_s hk17 v1 v2 w hf)
    · have hf := if_f hf hc13
      obtain ⟨w5, hs6, hf⟩ := st1_ex hf
      have hx := hx.trans (Sd.Ie hs6 (by unfold dS; omega))
      obtain ⟨h7, hf⟩ := ck_ex hf
      obtain ⟨w8, hs9, hf⟩ := st1_ex hf
      have hx := hx.trans (Sd.Le hs9 (by omega))
      obtain ⟨h10, hf⟩ := ck_ex hf
      obtain ⟨w11, hs12, hf⟩ := st1_ex hf
      have hx := hx.trans (Sd.Le hs12 (by omega))
      exact hx.trans (fC_X0_adds_2_97_s hk17 v1 v2 w11 hf)
set_option maxHeartbeats 4000000 in
theorem fC_X0_adds_2_17_t {w' : AH} {x : Nat} : ∀ (n : Nat) (v1 : Int32) (v2 : Int32) (w : AH), lq3 (fC_X0_adds_2_17 x) n v1 v2 w = some w' → Sd x w w'
  | 0, _, _, _, hf => nomatch hf
  | n + 1, v1, v2, w, hf => fC_X0_adds_2_17_s (fC_X0_adds_2_17_t n) v1 v2 w hf
set_option maxHeartbeats 4000000 in
theorem fC_X0_adds_2_e {x : Nat} {w : AH} (p0 : Int32) (hL : Lay x w) : mC_X0_adds_2 x p0 w = fC_X0_adds_2 x p0 w := by
  unfold mC_X0_adds_2 fC_X0_adds_2
  rewrite [ck_t (kq_0 hL)]
  refine st1_cg (fun w1 hs2 => ?_)
  have hL := Lay.L hs2 hL
  rewrite [ck_t (kq_0 hL)]
  refine st1_cg (fun w3 hs4 => ?_)
  have hL := Lay.L hs4 hL
  rewrite [ck_t (kq_0 hL)]
  refine st1_cg (fun w5 hs6 => ?_)
  have hL := Lay.I hs6 hL
  exact fC_X0_adds_2_17_l LF p0 (0 : Int32) w5 hL
set_option maxHeartbeats 4000000 in
theorem fC_X0_adds_2_s {x : Nat} (p0 : Int32) (w : AH) (w' : AH) (hf : fC_X0_adds_2 x p0 w = some w') : Sd x w w' := by
  unfold fC_X0_adds_2 at hf
  have hx := Sd.refl (x := x) w
  obtain ⟨w1, hs2, hf⟩ := st1_ex hf
  have hx := hx.trans (Sd.Le hs2 (by omega))
  obtain ⟨w3, hs4, hf⟩ := st1_ex hf
  have hx := hx.trans (Sd.Le hs4 (by omega))
  obtain ⟨w5, hs6, hf⟩ := st1_ex hf
  have hx := hx.trans (Sd.Ie hs6 (by unfold dS; omega))
  exact hx.trans (fC_X0_adds_2_17_t LF p0 (0 : Int32) w5 hf)
set_option maxHeartbeats 4000000 in
theorem fC_X0_seal_e {x : Nat} {w : AH} (p0 : Int32) (hL : Lay x w) : mC_X0_seal x p0 w = fC_X0_seal x p0 w := by
  unfold mC_X0_seal fC_X0_seal
  rewrite [ck_t (kq_0 hL)]
  rewrite [fC_X0_isBooth_e _ hL]
  refine bd1_cg (fun r2 hc1 => ?_)
  refine if_cg (fun hc20 => ?_) (fun hc20 => ?_)
  · rewrite [fC_X0_refuse_e _ hL]
    refine bd2_cg (fun r19 w18 hc17 => ?_)
    have hL := (fC_X0_refuse_s _ _ _ _ hc17).1.lay hL
    rfl
  · rewrite [fC_X0_adds_2_e _ hL]
    refine bd1_cg (fun w4 hc3 => ?_)
    have hL := (fC_X0_adds_2_s _ _ _ hc3).1.lay hL
    rewrite [ck_t (kq_0 hL)]
    rewrite [lr_0_2 hL, bd1_s]
    rewrite [ck_t (kq_1 hL)]
    rewrite [lr_1_18 hL, bd1_s]
    rewrite [al_26 hL]
    refine ck_cg (fun h5 => ?_)
    refine st1_cg (fun w6 hs7 => ?_)
    have hL := Lay.I hs7 hL
    rewrite [ck_t (kq_0 hL)]
    rewrite [lr_0_2 hL, bd1_s]
    rewrite [ck_t (kq_1 hL)]
    rewrite [lr_1_19 hL, bd1_s]
    rewrite [al_27 hL]
    refine ck_cg (fun h8 => ?_)
    refine st1_cg (fun w9 hs10 => ?_)
    have hL := Lay.L hs10 hL
    rewrite [ck_t (kq_0 hL)]
    rewrite [lr_0_2 hL, bd1_s]
    rewrite [ck_t (kq_1 hL)]
    rewrite [lr_1_20 hL, bd1_s]
    rewrite [al_28 hL]
    refine ck_cg (fun h11 => ?_)
    refine st1_cg (fun w12 hs13 => ?_)
    have hL := Lay.L hs13 hL
    rewrite [ck_t (kq_0 hL)]
    rewrite [fC_X0_done_e _ hL]
    refine bd2_cg (fun r16 w15 hc14 => ?_)
    have hL := (fC_X0_done_s _ _ _ _ hc14).1.lay hL
    rfl
set_option maxHeartbeats 4000000 in
theorem fC_X0_seal_s {x : Nat} (p0 : Int32) (w : AH) (r : Int32) (w' : AH) (hf : fC_X0_seal x p0 w = some (r, w')) : Sx x w w' := by
  unfold fC_X0_seal at hf
  have hx := Sx.refl (x := x) w
  obtain ⟨r2, hc1, hf⟩ := bd1_ex hf
  by_cases hc20 : r2 = (0 : Int32)
  · have hf := if_t hf hc20
    obtain ⟨r19, w18, hc17, hf⟩ := bd2_ex hf
    have hx := hx.trans (fC_X0_refuse_s _ _ _ _ hc17)
    cases some_ex hf
    exact hx
  · have hf := if_f hf hc20
    obtain ⟨w4, hc3, hf⟩ := bd1_ex hf
    have hx := hx.trans (fC_X0_adds_2_s _ _ _ hc3).sc.sx
    obtain ⟨h5, hf⟩ := ck_ex hf
    obtain ⟨w6, hs7, hf⟩ := st1_ex hf
    have hx := hx.trans (Sx.Ie hs7 (by omega))
    obtain ⟨h8, hf⟩ := ck_ex hf
    obtain ⟨w9, hs10, hf⟩ := st1_ex hf
    have hx := hx.trans (Sx.Le hs10 (by omega))
    obtain ⟨h11, hf⟩ := ck_ex hf
    obtain ⟨w12, hs13, hf⟩ := st1_ex hf
    have hx := hx.trans (Sx.Le hs13 (by omega))
    obtain ⟨r16, w15, hc14, hf⟩ := bd2_ex hf
    have hx := hx.trans (fC_X0_done_s _ _ _ _ hc14)
    cases some_ex hf
    exact hx
set_option maxHeartbeats 4000000 in
theorem fC_X0_alter_35_e {x : Nat} (w : AH) (hL : Lay x w) : mC_X0_alter_35 x w = fC_X0_alter_35 x w := by
  unfold mC_X0_alter_35 fC_X0_alter_35
  rewrite [ck_t (kq_0 hL)]
  rewrite [fC_X0_refuse_e _ hL]
  refine bd2_cg (fun r3 w2 hc1 => ?_)
  have hL := (fC_X0_refuse_s _ _ _ _ hc1).1.lay hL
  rfl
set_option maxHeartbeats 4000000 in
theorem fC_X0_alter_35_s {r : Int32} {w' : AH} {x : Nat} (w : AH) (hf : fC_X0_alter_35 x w = some (r, w')) : Sx x w w' := by
  unfold fC_X0_alter_35 at hf
  have hx := Sx.refl (x := x) w
  obtain ⟨r3, w2, hc1, hf⟩ := bd2_ex hf
  have hx := hx.trans (fC_X0_refuse_s _ _ _ _ hc1)
  cases some_ex hf
  exact hx
set_option maxHeartbeats 4000000 in
theorem fC_X0_alter_e {x : Nat} {w : AH} (p0 : Int32) (p1 : Int32) (hL : Lay x w) : mC_X0_alter x p0 p1 w = fC_X0_alter x p0 p1 w := by
  unfold mC_X0_alter fC_X0_alter
  refine bd1_cg (fun r2 hc1 => ?_)
  refine if_cg (fun hc17 => ?_) (fun hc17 => ?_)
  · rewrite [ck_t (kq_0 hL)]
    rewrite [fC_X0_refuse_e _ hL]
    refine bd2_cg (fun r16 w15 hc14 => ?_)
    have hL := (fC_X0_refuse_s _ _ _ _ hc14).1.lay hL
    rfl
  · refine if_cg (fun hc13 => ?_) (fun hc13 => ?_)
    · exact fC_X0_alter_35_e w hL
    · rewrite [ck_t (kq_0 hL)]
      rewrite [lr_0_2 hL, bd1_s]
      rewrite [ck_t (kq_1 hL)]
      rewrite [lr_1_5 hL, bd1_s]
      rewrite [ck_t (kq_12 hL)]
      refine bd1_cg (fun r4 hc3 => ?_)
      refine if_cg (fun hc12 => ?_) (fun hc12 => ?_)
      · rewrite [lr_1_17 hL, bd1_s]
        rewrite [al_25 hL]
        refine ck_cg (fun h5 => ?_)
        refine st1_cg (fun w6 hs7 => ?_)
        have hL := Lay.I hs7 hL
        rewrite [ck_t (kq_0 hL)]
        rewrite [lr_0_2 hL, bd1_s]
        rewrite [ck_t (kq_1 hL)]
        rewrite [lr_1_17 hL, bd1_s]
        rewrite [al_25 hL]
        refine ck_cg (fun h8 => ?_)
        rewrite [fC_X0_told_e _ hL]
        refine bd2_cg (fun r11 w10 hc9 => ?_)
        have hL := (fC_X0_told_s _ _ _ _ hc9).1.lay hL
        rfl
      · exact fC_X0_alter_35_e w hL
set_option maxHeartbeats 4000000 in
theorem fC_X0_alter_s {x : Nat} (p0 : Int32) (p1 : Int32) (w : AH) (r : Int32) (w' : AH) (hf : fC_X0_alter x p0 p1 w = some (r, w')) : Sx x w w' := by
  unfold fC_X0_alter at hf
  have hx := Sx.refl (x := x) w
  obtain ⟨r2, hc1, hf⟩ := bd1_ex hf
  by_cases hc17 : r2 = (0 : Int32)
  · have hf := if_t hf hc17
    obtain ⟨r16, w15, hc14, hf⟩ := bd2_ex hf
    have hx := hx.trans (fC_X0_refuse_s _ _ _ _ hc14)
    cases some_ex hf
    exact hx
  · have hf := if_f hf hc17
    by_cases hc13 : p0 < (0 : Int32)
    · have hf := if_t hf hc13
      exact hx.trans (fC_X0_alter_35_s w hf)
    · have hf := if_f hf hc13
      obtain ⟨r4, hc3, hf⟩ := bd1_ex hf
      by_cases hc12 : p0 < r4
      · have hf := if_t hf hc12
        obtain ⟨h5, hf⟩ := ck_ex hf
        obtain ⟨w6, hs7, hf⟩ := st1_ex hf
        have hx := hx.trans (Sx.Ie hs7 (by omega))
        obtain ⟨h8, hf⟩ := ck_ex hf
        obtain ⟨r11, w10, hc9, hf⟩ := bd2_ex hf
        have hx := hx.trans (fC_X0_told_s _ _ _ _ hc9)
        cases some_ex hf
        exact hx
      · have hf := if_f hf hc12
        exact hx.trans (fC_X0_alter_35_s w hf)
set_option maxHeartbeats 4000000 in
theorem fC_X0_found_151_e {x : Nat} {M100 : Nat → Int32 → Int64 → Int64 → Int32 → Int32 → AH → Option (Int32 × AH)} {k100 : Int32 → Int64 → Int64 → Int32 → Int32 → AH → Option (Int32 × AH)} (hk100 : ∀ (v1 : Int32) (v2 : Int64) (v4 : Int64) (v6 : Int32) (v7 : Int32) (w : AH), Lay x w → M100 x v1 v2 v4 v6 v7 w = k100 v1 v2 v4 v6 v7 w) (v1 : Int32) (v2 : Int64) (v4 : Int64) (v6 : Int32) (v7 : Int32) (w : AH) (hL : Lay x w) : mC_X0_found_151 M100 x v1 v2 v4 v6 v7 w = fC_X0_found_151 x k100 v1 v2 v4 v6 v7 w := by
  unfold mC_X0_found_151 fC_X0_found_151
  exact hk100 v1 v2 v4 v6 (v7 + (1 : Int32)) w hL
set_option maxHeartbeats 4000000 in
theorem fC_X0_found_100_e {x : Nat} {M100 : Nat → Int32 → Int64 → Int64 → Int32 → Int32 → AH → Option (Int32 × AH)} {k100 : Int32 → Int64 → Int64 → Int32 → Int32 → AH → Option (Int32 × AH)} (hk100 : ∀ (v1 : Int32) (v2 : Int64) (v4 : Int64) (v6 : Int32) (v7 : Int32) (w : AH), Lay x w → M100 x v1 v2 v4 v6 v7 w = k100 v1 v2 v4 v6 v7 w) (v1 : Int32) (v2 : Int64) (v4 : Int64) (v6 : Int32) (v7 : Int32) (w : AH) (hL : Lay x w) : mC_X0_found_100 M100 x v1 v2 v4 v6 v7 w = fC_X0_found_100 x k100 v1 v2 v4 v6 v7 w := by
  unfold mC_X0_found_100 fC_X0_found_100
  rewrite [ck_t (kq_0 hL)]
  rewrite [lr_0_2 hL, bd1_s]
  rewrite [ck_t (kq_1 hL)]
  rewrite [lr_1_5 hL, bd1_s]
  rewrite [ck_t (kq_12 hL)]
  refine bd1_cg (fun r2 hc1 => ?_)
  refine if_cg (fun hc8 => ?_) (fun hc8 => ?_)
  · rfl
  · refine if_cg (fun hc7 => ?_) (fun hc7 => ?_)
    · rfl
    · rewrite [fC_X0_isOf_e _ _ hL]
      refine bd1_cg (fun r4 hc3 => ?_)
      refine if_cg (fun hc6 => ?_) (fun hc6 => ?_)
      · exact fC_X0_found_151_e hk100 v1 v2 v4 v6 v7 w hL
      · refine if_cg (fun hc5 => ?_) (fun hc5 => ?_)
        · rfl
        · exact fC_X0_found_151_e hk100 v1 v2 v4 (v6 + (1 : Int32)) v7 w hL
set_option maxHeartbeats 4000000 in
theorem fC_X0_found_100_l {x : Nat} : ∀ (n : Nat) (v1 : Int32) (v2 : Int64) (v4 : Int64) (v6 : Int32) (v7 : Int32) (w : AH), Lay x w → lq7 (mC_X0_found_100) n x v1 v2 v4 v6 v7 w = lq6 (fC_X0_found_100 x) n v1 v2 v4 v6 v7 w
  | 0, _, _, _, _, _, _, _ => rfl
  | n + 1, v1, v2, v4, v6, v7, w, hL => fC_X0_found_100_e (fC_X0_found_100_l n) v1 v2 v4 v6 v7 w hL
set_option maxHeartbeats 4000000 in
theorem fC_X0_found_94_e {x : Nat} (v1 : Int32) (v2 : Int64) (v4 : Int64) (w : AH) (hL : Lay x w) : mC_X0_found_94 x v1 v2 v4 w = fC_X0_found_94 x v1 v2 v4 w := by
  unfold mC_X0_found_94 fC_X0_found_94
  exact fC_X0_found_100_l LF v1 v2 v4 (0 : Int32) (0 : Int32) w hL
set_option maxHeartbeats 4000000 in
theorem fC_X0_found_151_s {r : Int32} {w' : AH} {x : Nat} {k100 : Int32 → Int64 → Int64 → Int32 → Int32 → AH → Option (Int32 × AH)} (hk100 : ∀ (v1 : Int32) (v2 : Int64) (v4 : Int64) (v6 : Int32) (v7 : Int32) (w : AH), k100 v1 v2 v4 v6 v7 w = some (r, w') → Sd x w w') (v1 : Int32) (v2 : Int64) (v4 : Int64) (v6 : Int32) (v7 : Int32) (w : AH) (hf : fC_X0_found_151 x k100 v1 v2 v4 v6 v7 w = some (r, w')) : Sd x w w' := by
  unfold fC_X0_found_151 at hf
  have hx := Sd.refl (x := x) w
  exact hx.trans (hk100 v1 v2 v4 v6 (v7 + (1 : Int32)) w hf)
set_option maxHeartbeats 4000000 in
theorem fC_X0_found_100_s {r : Int32} {w' : AH} {x : Nat} {k100 : Int32 → Int64 → Int64 → Int32 → Int32 → AH → Option (Int32 × AH)} (hk100 : ∀ (v1 : Int32) (v2 : Int64) (v4 : Int64) (v6 : Int32) (v7 : Int32) (w : AH), k100 v1 v2 v4 v6 v7 w = some (r, w') → Sd x w w') (v1 : Int32) (v2 : Int64) (v4 : Int64) (v6 : Int32) (v7 : Int32) (w : AH) (hf : fC_X0_found_100 x k100 v1 v2 v4 v6 v7 w = some (r, w')) : Sd x w w' := by
  unfold fC_X0_found_100 at hf
  have hx := Sd.refl (x := x) w
  obtain ⟨r2, hc1, hf⟩ := bd1_ex hf
  by_cases hc8 : r2 ≤ v7
  · have hf := if_t hf hc8
    cases some_ex hf
    exact hx
  · have hf := if_f hf hc8
    by_cases hc7 : v2 = (0 : Int64)
    · have hf := if_t hf hc7
      cases some_ex hf
      exact hx
    · have hf := if_f hf hc7
      obtain ⟨r4, hc3, hf⟩ := bd1_ex hf
      by_cases hc6 : r4 = (0 : Int32)
      · have hf := if_t hf hc6
        exact hx.trans (fC_X0_found_151_s hk100 v1 v2 v4 v6 v7 w hf)
      · have hf := if_f hf hc6
        by_cases hc5 : ((v6 + (1 : Int32)).toInt64 * v2) = v4
        · have hf := if_t hf hc5
          cases some_ex hf
          exact hx
        · have hf := if_f hf hc5
          exact hx.trans (fC_X0_found_151_s hk100 v1 v2 v4 (v6 + (1 : Int32)) v7 w hf)
set_option maxHeartbeats 4000000 in
theorem fC_X0_found_100_t {r : Int32} {w' : AH} {x : Nat} : ∀ (n : Nat) (v1 : Int32) (v2 : Int64) (v4 : Int64) (v6 : Int32) (v7 : Int32) (w : AH), lq6 (fC_X0_found_100 x) n v1 v2 v4 v6 v7 w = some (r, w') → Sd x w w'
  | 0, _, _, _, _, _, _, hf => nomatch hf
  | n + 1, v1, v2, v4, v6, v7, w, hf => fC_X0_found_100_s (fC_X0_found_100_t n) v1 v2 v4 v6 v7 w hf
set_option maxHeartbeats 4000000 in
theorem fC_X0_found_94_s {r : Int32} {w' : AH} {x : Nat} (v1 : Int32) (v2 : Int64) (v4 : Int64) (w : AH) (hf : fC_X0_found_94 x v1 v2 v4 w = some (r, w')) : Sd x w w' := by
  unfold fC_X0_found_94 at hf
  have hx := Sd.refl (x := x) w
  exact hx.trans (fC_X0_found_100_t LF v1 v2 v4 (0 : Int32) (0 : Int32) w hf)
set_option maxHeartbeats 4000000 in
theorem fC_X0_found_e {x : Nat} {w : AH} (p0 : Int32) (hL : Lay x w) : mC_X0_found x p0 w = fC_X0_found x p0 w := by
  unfold mC_X0_found fC_X0_found
  rewrite [ck_t (kq_0 hL)]
  rewrite [fC_X0_isBooth_e _ hL]
  refine bd1_cg (fun r2 hc1 => ?_)
  refine if_cg (fun hc13 => ?_) (fun hc13 => ?_)
  · rfl
  · rewrite [lr_0_2 hL, bd1_s]
    rewrite [ck_t (kq_1 hL)]
    rewrite [lr_1_18 hL, bd1_s]
    rewrite [al_26 hL]
    refine ck_cg (fun h3 => ?_)
    refine if_cg (fun hc12 => ?_) (fun hc12 => ?_)
    · rfl
    · rewrite [fC_X0_adds_2_e _ hL]
      refine bd1_cg (fun w5 hc4 => ?_)
      have hL := (fC_X0_adds_2_s _ _ _ hc4).1.lay hL
      rewrite [ck_t (kq_0 hL)]
      rewrite [lr_0_2 hL, bd1_s]
      rewrite [ck_t (kq_1 hL)]
      rewrite [lr_1_18 hL, bd1_s]
      rewrite [al_26 hL]
      refine ck_cg (fun h6 => ?_)
      refine if_cg (fun hc11 => ?_) (fun hc11 => ?_)
      · rewrite [lr_1_19 hL, bd1_s]
        rewrite [al_27 hL]
        refine ck_cg (fun h7 => ?_)
        rewrite [lr_1_20 hL, bd1_s]
        rewrite [al_28 hL]
        refine ck_cg (fun h8 => ?_)
        refine if_cg (fun hc10 => ?_) (fun hc10 => ?_)
        · refine if_cg (fun hc9 => ?_) (fun hc9 => ?_)
          · rfl
          · exact fC_X0_found_94_e p0 ((hvl w5 x 36) - (hvl w5 (x + 27) (p0.toNatClampNeg))) ((hvl w5 x 37) - (hvl w5 (x + 28) (p0.toNatClampNeg))) w5 hL
        · exact fC_X0_found_94_e p0 ((hvl w5 x 36) - (hvl w5 (x + 27) (p0.toNatClampNeg))) ((hvl w5 x 37) - (hvl w5 (x + 28) (p0.toNatClampNeg))) w5 hL
      · rfl
set_option maxHeartbeats 4000000 in
theorem fC_X0_found_s {x : Nat} (p0 : Int32) (w : AH) (r : Int32) (w' : AH) (hf : fC_X0_found x p0 w = some (r, w')) : Sd x w w' := by
  unfold fC_X0_found at hf
  have hx := Sd.refl (x := x) w
  obtain ⟨r2, hc1, hf⟩ := bd1_ex hf
  by_cases hc13 : r2 = (0 : Int32)
  · have hf := if_t hf hc13
    cases some_ex hf
    exact hx
  · have hf := if_f hf hc13
    obtain ⟨h3, hf⟩ := ck_ex hf
    by_cases hc12 : (hvi w (x + 26) (p0.toNatClampNeg)) = (-1 : Int32)
    · have hf := if_t hf hc12
      cases some_ex hf
      exact hx
    · have hf := if_f hf hc12
      obtain ⟨w5, hc4, hf⟩ := bd1_ex hf
      have hx := hx.trans (fC_X0_adds_2_s _ _ _ hc4)
      obtain ⟨h6, hf⟩ := ck_ex hf
      by_cases hc11 : (hvi w5 x 38) = (hvi w5 (x + 26) (p0.toNatClampNeg))
      · have hf := if_t hf hc11
        obtain ⟨h7, hf⟩ := ck_ex hf
        obtain ⟨h8, hf⟩ := ck_ex hf
        by_cases hc10 : ((hvl w5 x 36) - (hvl w5 (x + 27) (p0.toNatClampNeg))) = (0 : Int64)
        · have hf := if_t hf hc10
          by_cases hc9 : ((hvl w5 x 37) - (hvl w5 (x + 28) (p0.toNatClampNeg))) = (0 : Int64)
          · have hf := if_t hf hc9
            cases some_ex hf
            exact hx
          · have hf := if_f hf hc9
            exact hx.trans (fC_X0_found_94_s p0 ((hvl w5 x 36) - (hvl w5 (x + 27) (p0.toNatClampNeg))) ((hvl w5 x 37) - (hvl w5 (x + 28) (p0.toNatClampNeg))) w5 hf)
        · have hf := if_f hf hc10
          exact hx.trans (fC_X0_found_94_s p0 ((hvl w5 x 36) - (hvl w5 (x + 27) (p0.toNatClampNeg))) ((hvl w5 x 37) - (hvl w5 (x + 28) (p0.toNatClampNeg))) w5 hf)
      · have hf := if_f hf hc11
        cases some_ex hf
        exact hx
set_option maxHeartbeats 4000000 in
theorem fC_X0_all_e {x : Nat} {w : AH} (p0 : Int32) (hL : Lay x w) : mC_X0_all x p0 w = fC_X0_all x p0 w := by
  unfold mC_X0_all fC_X0_all
  refine if_cg (fun hw0 => ?_) (fun hw0 => ?_)
  · rewrite [ck_t (kq_0 hL)]
    rewrite [lr_0_2 hL, bd1_s]
    rewrite [ck_t (kq_1 hL)]
    rfl
  refine if_cg (fun hw1 => ?_) (fun hw1 => ?_)
  · rewrite [ck_t (kq_0 hL)]
    rewrite [lr_0_2 hL, bd1_s]
    rewrite [ck_t (kq_1 hL)]
    rewrite [lr_1_1 hL, bd1_s]
    rewrite [ck_t (kq_4 hL)]
    refine bd1_cg (fun r2 hc1 => ?_)
    rfl
  refine if_cg (fun hw2 => ?_) (fun hw2 => ?_)
  · rewrite [ck_t (kq_0 hL)]
    rewrite [lr_0_2 hL, bd1_s]
    rewrite [ck_t (kq_1 hL)]
    rewrite [lr_1_0 hL, bd1_s]
    rewrite [ck_t (kq_2 hL)]
    refine bd1_cg (fun r4 hc3 => ?_)
    rfl
  refine if_cg (fun hw3 => ?_) (fun hw3 => ?_)
  · rewrite [ck_t (kq_0 hL)]
    rewrite [lr_0_2 hL, bd1_s]
    rewrite [ck_t (kq_1 hL)]
    rfl
  refine if_cg (fun hw4 => ?_) (fun hw4 => ?_)
  · rewrite [ck_t (kq_0 hL)]
    rewrite [lr_0_2 hL, bd1_s]
    rewrite [ck_t (kq_1 hL)]
    rfl
  refine if_cg (fun hw5 => ?_) (fun hw5 => ?_)
  · rewrite [ck_t (kq_0 hL)]
    rewrite [lr_0_2 hL, bd1_s]
    rewrite [ck_t (kq_1 hL)]
    rewrite [lr_1_3 hL, bd1_s]
    rewrite [ck_t (kq_8 hL)]
    refine bd1_cg (fun r6 hc5 => ?_)
    rfl
  refine if_cg (fun hw6 => ?_) (fun hw6 => ?_)
  · rewrite [ck_t (kq_0 hL)]
    rewrite [lr_0_2 hL, bd1_s]
    rewrite [ck_t (kq_1 hL)]
    rewrite [lr_1_5 hL, bd1_s]
    rewrite [ck_t (kq_12 hL)]
    refine bd1_cg (fun r8 hc7 => ?_)
    rfl
  refine if_cg (fun hw7 => ?_) (fun hw7 => ?_)
  · rewrite [ck_t (kq_0 hL)]
    rfl
  refine if_cg (fun hw8 => ?_) (fun hw8 => ?_)
  · rewrite [ck_t (kq_0 hL)]
    rfl
  rfl
set_option maxHeartbeats 4000000 in
theorem fC_X0_status_e {x : Nat} {w : AH} (hL : Lay x w) : mC_X0_status x w = fC_X0_status x w := by
  unfold mC_X0_status fC_X0_status
  rewrite [ck_t (kq_0 hL)]
  rfl
