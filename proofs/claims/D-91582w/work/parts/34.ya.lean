set_option maxRecDepth 100000
set_option maxHeartbeats 4000000 in
theorem fC_X0_refuse_e {x : Nat} {w : AH} (p0 : Int32) (hL : Lay x w) : mC_X0_refuse x p0 w = fC_X0_refuse x p0 w := by
  unfold mC_X0_refuse fC_X0_refuse
  rewrite [ck_t (kq_0 hL)]
  refine st1_cg (fun w1 hs2 => ?_)
  have hL := Lay.I hs2 hL
  rfl
set_option maxHeartbeats 4000000 in
theorem fC_X0_refuse_s {x : Nat} (p0 : Int32) (w : AH) (r : Int32) (w' : AH) (hf : fC_X0_refuse x p0 w = some (r, w')) : Sx x w w' := by
  unfold fC_X0_refuse at hf
  have hx := Sx.refl (x := x) w
  obtain ⟨w1, hs2, hf⟩ := st1_ex hf
  have hx := hx.trans (Sx.Ie hs2 (by omega))
  cases some_ex hf
  exact hx
set_option maxHeartbeats 4000000 in
theorem fC_X0_done_e {x : Nat} {w : AH} (p0 : Int32) (hL : Lay x w) : mC_X0_done x p0 w = fC_X0_done x p0 w := by
  unfold mC_X0_done fC_X0_done
  rewrite [ck_t (kq_0 hL)]
  refine st1_cg (fun w1 hs2 => ?_)
  have hL := Lay.I hs2 hL
  rfl
set_option maxHeartbeats 4000000 in
theorem fC_X0_done_s {x : Nat} (p0 : Int32) (w : AH) (r : Int32) (w' : AH) (hf : fC_X0_done x p0 w = some (r, w')) : Sx x w w' := by
  unfold fC_X0_done at hf
  have hx := Sx.refl (x := x) w
  obtain ⟨w1, hs2, hf⟩ := st1_ex hf
  have hx := hx.trans (Sx.Ie hs2 (by omega))
  cases some_ex hf
  exact hx
set_option maxHeartbeats 4000000 in
theorem fC_X0_told_e {x : Nat} {w : AH} (p0 : Int32) (hL : Lay x w) : mC_X0_told x p0 w = fC_X0_told x p0 w := by
  unfold mC_X0_told fC_X0_told
  rewrite [ck_t (kq_0 hL)]
  refine st1_cg (fun w1 hs2 => ?_)
  have hL := Lay.I hs2 hL
  rewrite [ck_t (kq_0 hL)]
  rewrite [fC_X0_done_e _ hL]
  refine bd2_cg (fun r5 w4 hc3 => ?_)
  have hL := (fC_X0_done_s _ _ _ _ hc3).1.lay hL
  rfl
set_option maxHeartbeats 4000000 in
theorem fC_X0_told_s {x : Nat} (p0 : Int32) (w : AH) (r : Int32) (w' : AH) (hf : fC_X0_told x p0 w = some (r, w')) : Sx x w w' := by
  unfold fC_X0_told at hf
  have hx := Sx.refl (x := x) w
  obtain ⟨w1, hs2, hf⟩ := st1_ex hf
  have hx := hx.trans (Sx.Ie hs2 (by omega))
  obtain ⟨r5, w4, hc3, hf⟩ := bd2_ex hf
  have hx := hx.trans (fC_X0_done_s _ _ _ _ hc3)
  cases some_ex hf
  exact hx
set_option maxHeartbeats 4000000 in
theorem fC_X0_place_29_e {x : Nat} (w : AH) (hL : Lay x w) : mC_X0_place_29 x w = fC_X0_place_29 x w := by
  unfold mC_X0_place_29 fC_X0_place_29
  rewrite [ck_t (kq_0 hL)]
  rewrite [fC_X0_refuse_e _ hL]
  refine bd2_cg (fun r3 w2 hc1 => ?_)
  have hL := (fC_X0_refuse_s _ _ _ _ hc1).1.lay hL
  rfl
set_option maxHeartbeats 4000000 in
theorem fC_X0_place_29_s {r : Int32} {w' : AH} {x : Nat} (w : AH) (hf : fC_X0_place_29 x w = some (r, w')) : Sx x w w' := by
  unfold fC_X0_place_29 at hf
  have hx := Sx.refl (x := x) w
  obtain ⟨r3, w2, hc1, hf⟩ := bd2_ex hf
  have hx := hx.trans (fC_X0_refuse_s _ _ _ _ hc1)
  cases some_ex hf
  exact hx
set_option maxHeartbeats 4000000 in
theorem fC_X0_place_e {x : Nat} {w : AH} (p0 : Int32) (p1 : Int32) (p2 : Int32) (hL : Lay x w) : mC_X0_place x p0 p1 p2 w = fC_X0_place x p0 p1 p2 w := by
  unfold mC_X0_place fC_X0_place
  refine bd1_cg (fun r2 hc1 => ?_)
  refine if_cg (fun hc27 => ?_) (fun hc27 => ?_)
  · exact fC_X0_place_29_e w hL
  · refine bd1_cg (fun r4 hc3 => ?_)
    refine if_cg (fun hc26 => ?_) (fun hc26 => ?_)
    · exact fC_X0_place_29_e w hL
    · refine bd1_cg (fun r6 hc5 => ?_)
      refine if_cg (fun hc25 => ?_) (fun hc25 => ?_)
      · exact fC_X0_place_29_e w hL
      · rewrite [ck_t (kq_0 hL)]
        rewrite [lr_0_2 hL, bd1_s]
        rewrite [ck_t (kq_1 hL)]
        refine if_cg (fun hc24 => ?_) (fun hc24 => ?_)
        · rewrite [fC_X0_refuse_e _ hL]
          refine bd2_cg (fun r23 w22 hc21 => ?_)
          have hL := (fC_X0_refuse_s _ _ _ _ hc21).1.lay hL
          rfl
        · rewrite [lr_1_6 hL, bd1_s]
          rewrite [al_14 hL]
          refine ck_cg (fun h7 => ?_)
          refine st1_cg (fun w8 hs9 => ?_)
          have hL := Lay.I hs9 hL
          rewrite [ck_t (kq_0 hL)]
          rewrite [lr_0_2 hL, bd1_s]
          rewrite [ck_t (kq_1 hL)]
          rewrite [lr_1_7 hL, bd1_s]
          rewrite [al_15 hL]
          refine ck_cg (fun h10 => ?_)
          refine st1_cg (fun w11 hs12 => ?_)
          have hL := Lay.I hs12 hL
          rewrite [ck_t (kq_0 hL)]
          rewrite [lr_0_2 hL, bd1_s]
          rewrite [ck_t (kq_1 hL)]
          rewrite [lr_1_8 hL, bd1_s]
          rewrite [al_16 hL]
          refine ck_cg (fun h13 => ?_)
          refine st1_cg (fun w14 hs15 => ?_)
          have hL := Lay.I hs15 hL
          rewrite [ck_t (kq_0 hL)]
          rewrite [lr_0_2 hL, bd1_s]
          rewrite [ck_t (kq_1 hL)]
          refine st1_cg (fun w16 hs17 => ?_)
          have hL := Lay.I hs17 hL
          rewrite [ck_t (kq_0 hL)]
          rewrite [lr_0_2 hL, bd1_s]
          rewrite [ck_t (kq_1 hL)]
          rewrite [fC_X0_told_e _ hL]
          refine bd2_cg (fun r20 w19 hc18 => ?_)
          have hL := (fC_X0_told_s _ _ _ _ hc18).1.lay hL
          rfl
set_option maxHeartbeats 4000000 in
theorem fC_X0_place_s {x : Nat} (p0 : Int32) (p1 : Int32) (p2 : Int32) (w : AH) (r : Int32) (w' : AH) (hf : fC_X0_place x p0 p1 p2 w = some (r, w')) : Sx x w w' := by
  unfold fC_X0_place at hf
  have hx := Sx.refl (x := x) w
  obtain ⟨r2, hc1, hf⟩ := bd1_ex hf
  by_cases hc27 : r2 = (0 : Int32)
  · have hf := if_t hf hc27
    exact hx.trans (fC_X0_place_29_s w hf)
  · have hf := if_f hf hc27
    obtain ⟨r4, hc3, hf⟩ := bd1_ex hf
    by_cases hc26 : r4 = (0 : Int32)
    · have hf := if_t hf hc26
      exact hx.trans (fC_X0_place_29_s w hf)
    · have hf := if_f hf hc26
      obtain ⟨r6, hc5, hf⟩ := bd1_ex hf
      by_cases hc25 : r6 = (0 : Int32)
      · have hf := if_t hf hc25
        exact hx.trans (fC_X0_place_29_s w hf)
      · have hf := if_f hf hc25
        by_cases hc24 : (hvi w (x + 1) 22) = (16 : Int32)
        · have hf := if_t hf hc24
          obtain ⟨r23, w22, hc21, hf⟩ := bd2_ex hf
          have hx := hx.trans (fC_X0_refuse_s _ _ _ _ hc21)
          cases some_ex hf
          exact hx
        · have hf := if_f hf hc24
          obtain ⟨h7, hf⟩ := ck_ex hf
          obtain ⟨w8, hs9, hf⟩ := st1_ex hf
          have hx := hx.trans (Sx.Ie hs9 (by omega))
          obtain ⟨h10, hf⟩ := ck_ex hf
          obtain ⟨w11, hs12, hf⟩ := st1_ex hf
          have hx := hx.trans (Sx.Ie hs12 (by omega))
          obtain ⟨h13, hf⟩ := ck_ex hf
          obtain ⟨w14, hs15, hf⟩ := st1_ex hf
          have hx := hx.trans (Sx.Ie hs15 (by omega))
          obtain ⟨w16, hs17, hf⟩ := st1_ex hf
          have hx := hx.trans (Sx.Ie hs17 (by omega))
          obtain ⟨r20, w19, hc18, hf⟩ := bd2_ex hf
          have hx := hx.trans (fC_X0_told_s _ _ _ _ hc18)
          cases some_ex hf
          exact hx
set_option maxHeartbeats 4000000 in
theorem fC_X0_isPlace_e {x : Nat} {w : AH} (p0 : Int32) (hL : Lay x w) : mC_X0_isPlace x p0 w = fC_X0_isPlace x p0 w := by
  unfold mC_X0_isPlace fC_X0_isPlace
  rewrite [ck_t (kq_0 hL)]
  rewrite [lr_0_2 hL, bd1_s]
  rewrite [ck_t (kq_1 hL)]
  refine bd1_cg (fun r2 hc1 => ?_)
  refine ck_cg (fun h3 => ?_)
  rfl
set_option maxHeartbeats 4000000 in
theorem fC_X0_isName_e {x : Nat} {w : AH} (p0 : Int32) (hL : Lay x w) : mC_X0_isName x p0 w = fC_X0_isName x p0 w := by
  unfold mC_X0_isName fC_X0_isName
  refine if_cg (fun hc4 => ?_) (fun hc4 => ?_)
  · rfl
  · rewrite [ck_t (kq_0 hL)]
    rewrite [lr_0_2 hL, bd1_s]
    rewrite [ck_t (kq_1 hL)]
    rewrite [lr_1_1 hL, bd1_s]
    rewrite [ck_t (kq_4 hL)]
    refine bd1_cg (fun r2 hc1 => ?_)
    refine if_cg (fun hc3 => ?_) (fun hc3 => ?_)
    · rfl
    · rfl
set_option maxHeartbeats 4000000 in
theorem fC_X0_off_14_e {x : Nat} (w : AH) (hL : Lay x w) : mC_X0_off_14 x w = fC_X0_off_14 x w := by
  unfold mC_X0_off_14 fC_X0_off_14
  rewrite [ck_t (kq_0 hL)]
  rewrite [fC_X0_refuse_e _ hL]
  refine bd2_cg (fun r3 w2 hc1 => ?_)
  have hL := (fC_X0_refuse_s _ _ _ _ hc1).1.lay hL
  rfl
set_option maxHeartbeats 4000000 in
theorem fC_X0_off_14_s {r : Int32} {w' : AH} {x : Nat} (w : AH) (hf : fC_X0_off_14 x w = some (r, w')) : Sx x w w' := by
  unfold fC_X0_off_14 at hf
  have hx := Sx.refl (x := x) w
  obtain ⟨r3, w2, hc1, hf⟩ := bd2_ex hf
  have hx := hx.trans (fC_X0_refuse_s _ _ _ _ hc1)
  cases some_ex hf
  exact hx
set_option maxHeartbeats 4000000 in
theorem fC_X0_off_e {x : Nat} {w : AH} (p0 : Int32) (p1 : Int32) (p2 : Int32) (hL : Lay x w) : mC_X0_off x p0 p1 p2 w = fC_X0_off x p0 p1 p2 w := by
  unfold mC_X0_off fC_X0_off
  refine bd1_cg (fun r2 hc1 => ?_)
  refine if_cg (fun hc25 => ?_) (fun hc25 => ?_)
  · exact fC_X0_off_14_e w hL
  · refine bd1_cg (fun r4 hc3 => ?_)
    refine if_cg (fun hc24 => ?_) (fun hc24 => ?_)
    · exact fC_X0_off_14_e w hL
    · rewrite [ck_t (kq_0 hL)]
      rewrite [fC_X0_isName_e _ hL]
      refine bd1_cg (fun r6 hc5 => ?_)
      refine if_cg (fun hc23 => ?_) (fun hc23 => ?_)
      · rewrite [fC_X0_refuse_e _ hL]
        refine bd2_cg (fun r22 w21 hc20 => ?_)
        have hL := (fC_X0_refuse_s _ _ _ _ hc20).1.lay hL
        rfl
      · rewrite [lr_0_2 hL, bd1_s]
        rewrite [ck_t (kq_1 hL)]
        rewrite [lr_1_9 hL, bd1_s]
        rewrite [al_17 hL]
        refine ck_cg (fun h7 => ?_)
        refine if_cg (fun hc19 => ?_) (fun hc19 => ?_)
        · refine st1_cg (fun w8 hs9 => ?_)
          have hL := Lay.I hs9 hL
          rewrite [ck_t (kq_0 hL)]
          rewrite [lr_0_2 hL, bd1_s]
          rewrite [ck_t (kq_1 hL)]
          rewrite [lr_1_10 hL, bd1_s]
          rewrite [al_18 hL]
          refine ck_cg (fun h10 => ?_)
          refine st1_cg (fun w11 hs12 => ?_)
          have hL := Lay.I hs12 hL
          rewrite [ck_t (kq_0 hL)]
          rewrite [fC_X0_told_e _ hL]
          refine bd2_cg (fun r15 w14 hc13 => ?_)
          have hL := (fC_X0_told_s _ _ _ _ hc13).1.lay hL
          rfl
        · rewrite [fC_X0_refuse_e _ hL]
          refine bd2_cg (fun r18 w17 hc16 => ?_)
          have hL := (fC_X0_refuse_s _ _ _ _ hc16).1.lay hL
          rfl
set_option maxHeartbeats 4000000 in
theorem fC_X0_off_s {x : Nat} (p0 : Int32) (p1 : Int32) (p2 : Int32) (w : AH) (r : Int32) (w' : AH) (hf : fC_X0_off x p0 p1 p2 w = some (r, w')) : Sx x w w' := by
  unfold fC_X0_off at hf
  have hx := Sx.refl (x := x) w
  obtain ⟨r2, hc1, hf⟩ := bd1_ex hf
  by_cases hc25 : r2 = (0 : Int32)
  · have hf := if_t hf hc25
    exact hx.trans (fC_X0_off_14_s w hf)
  · have hf := if_f hf hc25
    obtain ⟨r4, hc3, hf⟩ := bd1_ex hf
    by_cases hc24 : r4 = (0 : Int32)
    · have hf := if_t hf hc24
      exact hx.trans (fC_X0_off_14_s w hf)
    · have hf := if_f hf hc24
      obtain ⟨r6, hc5, hf⟩ := bd1_ex hf
      by_cases hc23 : r6 = (0 : Int32)
      · have hf := if_t hf hc23
        obtain ⟨r22, w21, hc20, hf⟩ := bd2_ex hf
        have hx := hx.trans (fC_X0_refuse_s _ _ _ _ hc20)
        cases some_ex hf
        exact hx
      · have hf := if_f hf hc23
        obtain ⟨h7, hf⟩ := ck_ex hf
        by_cases hc19 : (hvi w (x + 17) (p0.toNatClampNeg)) = (-1 : Int32)
        · have hf := if_t hf hc19
          obtain ⟨w8, hs9, hf⟩ := st1_ex hf
          have hx := hx.trans (Sx.Ie hs9 (by omega))
          obtain ⟨h10, hf⟩ := ck_ex hf
          obtain ⟨w11, hs12, hf⟩ := st1_ex hf
          have hx := hx.trans (Sx.Ie hs12 (by omega))
          obtain ⟨r15, w14, hc13, hf⟩ := bd2_ex hf
          have hx := hx.trans (fC_X0_told_s _ _ _ _ hc13)
          cases some_ex hf
          exact hx
        · have hf := if_f hf hc19
          obtain ⟨r18, w17, hc16, hf⟩ := bd2_ex hf
          have hx := hx.trans (fC_X0_refuse_s _ _ _ _ hc16)
          cases some_ex hf
          exact hx
set_option maxHeartbeats 4000000 in
theorem fC_X0_moved_15_e {x : Nat} (w : AH) (hL : Lay x w) : mC_X0_moved_15 x w = fC_X0_moved_15 x w := by
  unfold mC_X0_moved_15 fC_X0_moved_15
  rewrite [ck_t (kq_0 hL)]
  rewrite [fC_X0_refuse_e _ hL]
  refine bd2_cg (fun r3 w2 hc1 => ?_)
  have hL := (fC_X0_refuse_s _ _ _ _ hc1).1.lay hL
  rfl
set_option maxHeartbeats 4000000 in
theorem fC_X0_moved_37_e {x : Nat} (w : AH) (hL : Lay x w) : mC_X0_moved_37 x w = fC_X0_moved_37 x w := by
  unfold mC_X0_moved_37 fC_X0_moved_37
  rewrite [ck_t (kq_0 hL)]
  rewrite [fC_X0_refuse_e _ hL]
  refine bd2_cg (fun r3 w2 hc1 => ?_)
  have hL := (fC_X0_refuse_s _ _ _ _ hc1).1.lay hL
  rfl
set_option maxHeartbeats 4000000 in
theorem fC_X0_moved_15_s {r : Int32} {w' : AH} {x : Nat} (w : AH) (hf : fC_X0_moved_15 x w = some (r, w')) : Sx x w w' := by
  unfold fC_X0_moved_15 at hf
  have hx := Sx.refl (x := x) w
  obtain ⟨r3, w2, hc1, hf⟩ := bd2_ex hf
  have hx := hx.trans (fC_X0_refuse_s _ _ _ _ hc1)
  cases some_ex hf
  exact hx
set_option maxHeartbeats 4000000 in
theorem fC_X0_moved_37_s {r : Int32} {w' : AH} {x : Nat} (w : AH) (hf : fC_X0_moved_37 x w = some (r, w')) : Sx x w w' := by
  unfold fC_X0_moved_37 at hf
  have hx := Sx.refl (x := x) w
  obtain ⟨r3, w2, hc1, hf⟩ := bd2_ex hf
  have hx := hx.trans (fC_X0_refuse_s _ _ _ _ hc1)
  cases some_ex hf
  exact hx
set_option maxHeartbeats 4000000 in
theorem fC_X0_moved_e {x : Nat} {w : AH} (p0 : Int32) (p1 : Int32) (p2 : Int32) (p3 : Int32) (hL : Lay x w) : mC_X0_moved x p0 p1 p2 p3 w = fC_X0_moved x p0 p1 p2 p3 w := by
  unfold mC_X0_moved fC_X0_moved
  refine bd1_cg (fun r2 hc1 => ?_)
  refine if_cg (fun hc35 => ?_) (fun hc35 => ?_)
  · exact fC_X0_moved_15_e w hL
  · refine bd1_cg (fun r4 hc3 => ?_)
    refine if_cg (fun hc34 => ?_) (fun hc34 => ?_)
    · exact fC_X0_moved_15_e w hL
    · rewrite [ck_t (kq_0 hL)]
      rewrite [fC_X0_isName_e _ hL]
      refine bd1_cg (fun r6 hc5 => ?_)
      refine if_cg (fun hc33 => ?_) (fun hc33 => ?_)
      · exact fC_X0_moved_37_e w hL
      · rewrite [fC_X0_isPlace_e _ hL]
        refine bd1_cg (fun r8 hc7 => ?_)
        refine if_cg (fun hc32 => ?_) (fun hc32 => ?_)
        · exact fC_X0_moved_37_e w hL
        · rewrite [lr_0_2 hL, bd1_s]
          rewrite [ck_t (kq_1 hL)]
          rewrite [lr_1_1 hL, bd1_s]
          rewrite [ck_t (kq_4 hL)]
          refine bd1_cg (fun r10 hc9 => ?_)
          refine ck_cg (fun h11 => ?_)
          refine if_cg (fun hc31 => ?_) (fun hc31 => ?_)
          · rewrite [fC_X0_refuse_e _ hL]
            refine bd2_cg (fun r30 w29 hc28 => ?_)
            have hL := (fC_X0_refuse_s _ _ _ _ hc28).1.lay hL
            rfl
          · rewrite [lr_1_11 hL, bd1_s]
            rewrite [al_19 hL]
            refine ck_cg (fun h12 => ?_)
            refine if_cg (fun hc27 => ?_) (fun hc27 => ?_)
            · refine st1_cg (fun w13 hs14 => ?_)
              have hL := Lay.I hs14 hL
              rewrite [ck_t (kq_0 hL)]
              rewrite [lr_0_2 hL, bd1_s]
              rewrite [ck_t (kq_1 hL)]
              rewrite [lr_1_12 hL, bd1_s]
              rewrite [al_20 hL]
              refine ck_cg (fun h15 => ?_)
              refine st1_cg (fun w16 hs17 => ?_)
              have hL := Lay.I hs17 hL
              rewrite [ck_t (kq_0 hL)]
              rewrite [lr_0_2 hL, bd1_s]
              rewrite [ck_t (kq_1 hL)]
              rewrite [lr_1_13 hL, bd1_s]
              rewrite [al_21 hL]
              refine ck_cg (fun h18 => ?_)
              refine st1_cg (fun w19 hs20 => ?_)
              have hL := Lay.I hs20 hL
              rewrite [ck_t (kq_0 hL)]
              rewrite [fC_X0_told_e _ hL]
              refine bd2_cg (fun r23 w22 hc21 => ?_)
              have hL := (fC_X0_told_s _ _ _ _ hc21).1.lay hL
              rfl
            · rewrite [fC_X0_refuse_e _ hL]
              refine bd2_cg (fun r26 w25 hc24 => ?_)
              have hL := (fC_X0_refuse_s _ _ _ _ hc24).1.lay hL
              rfl
set_option maxHeartbeats 4000000 in
theorem fC_X0_moved_s {x : Nat} (p0 : Int32) (p1 : Int32) (p2 : Int32) (p3 : Int32) (w : AH) (r : Int32) (w' : AH) (hf : fC_X0_moved x p0 p1 p2 p3 w = some (r, w')) : Sx x w w' := by
  unfold fC_X0_moved at hf
  have hx := Sx.refl (x := x) w
  obtain ⟨r2, hc1, hf⟩ := bd1_ex hf
  by_cases hc35 : r2 = (0 : Int32)
  · have hf := if_t hf hc35
    exact hx.trans (fC_X0_moved_15_s w hf)
  · have hf := if_f hf hc35
    obtain ⟨r4, hc3, hf⟩ := bd1_ex hf
    by_cases hc34 : r4 = (0 : Int32)
    · have hf := if_t hf hc34
      exact hx.trans (fC_X0_moved_15_s w hf)
    · have hf := if_f hf hc34
      obtain ⟨r6, hc5, hf⟩ := bd1_ex hf
      by_cases hc33 : r6 = (0 : Int32)
      · have hf := if_t hf hc33
        exact hx.trans (fC_X0_moved_37_s w hf)
      · have hf := if_f hf hc33
        obtain ⟨r8, hc7, hf⟩ := bd1_ex hf
        by_cases hc32 : r8 = (0 : Int32)
        · have hf := if_t hf hc32
          exact hx.trans (fC_X0_moved_37_s w hf)
        · have hf := if_f hf hc32
          obtain ⟨r10, hc9, hf⟩ := bd1_ex hf
          obtain ⟨h11, hf⟩ := ck_ex hf
          by_cases hc31 : (hvi w r10 0) = p1
          · have hf := if_t hf hc31
            obtain ⟨r30, w29, hc28, hf⟩ := bd2_ex hf
            have hx := hx.trans (fC_X0_refuse_s _ _ _ _ hc28)
            cases some_ex hf
            exact hx
          · have hf := if_f hf hc31
            obtain ⟨h12, hf⟩ := ck_ex hf
            by_cases hc27 : (hvi w (x + 19) (p0.toNatClampNeg)) = (-1 : Int32)
            · have hf := if_t hf hc27
              obtain ⟨w13, hs14, hf⟩ := st1_ex hf
              have hx := hx.trans (Sx.Ie hs14 (by omega))
              obtain ⟨h15, hf⟩ := ck_ex hf
              obtain ⟨w16, hs17, hf⟩ := st1_ex hf
              have hx := hx.trans (Sx.Ie hs17 (by omega))
              obtain ⟨h18, hf⟩ := ck_ex hf
              obtain ⟨w19, hs20, hf⟩ := st1_ex hf
              have hx := hx.trans (Sx.Ie hs20 (by omega))
              obtain ⟨r23, w22, hc21, hf⟩ := bd2_ex hf
              have hx := hx.trans (fC_X0_told_s _ _ _ _ hc21)
              cases some_ex hf
              exact hx
            · have hf := if_f hf hc27
              obtain ⟨r26, w25, hc24, hf⟩ := bd2_ex hf
              have hx := hx.trans (fC_X0_refuse_s _ _ _ _ hc24)
              cases some_ex hf
              exact hx
set_option maxHeartbeats 4000000 in
theorem fC_X0_of_e {x : Nat} {w : AH} (p0 : Int32) (p1 : Int32) (hL : Lay x w) : mC_X0_of x p0 p1 w = fC_X0_of x p0 p1 w := by
  unfold mC_X0_of fC_X0_of
  rewrite [ck_t (kq_0 hL)]
  rewrite [fC_X0_isName_e _ hL]
  refine bd1_cg (fun r2 hc1 => ?_)
  refine if_cg (fun hc7 => ?_) (fun hc7 => ?_)
  · rfl
  · rewrite [lr_0_2 hL, bd1_s]
    rewrite [ck_t (kq_1 hL)]
    rewrite [lr_1_1 hL, bd1_s]
    rewrite [ck_t (kq_4 hL)]
    refine bd1_cg (fun r4 hc3 => ?_)
    refine ck_cg (fun h5 => ?_)
    refine if_cg (fun hw0 => ?_) (fun hw0 => ?_)
    · rfl
    refine if_cg (fun hw1 => ?_) (fun hw1 => ?_)
    · rfl
    refine if_cg (fun hw2 => ?_) (fun hw2 => ?_)
    · rfl
    refine if_cg (fun hw3 => ?_) (fun hw3 => ?_)
    · refine bd1_cg (fun r6 hr6 => ?_)
      rfl
    refine if_cg (fun hw4 => ?_) (fun hw4 => ?_)
    · rfl
    rfl
set_option maxHeartbeats 4000000 in
theorem fC_X0_hasMoved_e {x : Nat} {w : AH} (p0 : Int32) (p1 : Int32) (p2 : Int32) (hL : Lay x w) : mC_X0_hasMoved x p0 p1 p2 w = fC_X0_hasMoved x p0 p1 p2 w := by
  unfold mC_X0_hasMoved fC_X0_hasMoved
  rewrite [ck_t (kq_0 hL)]
  rewrite [lr_0_2 hL, bd1_s]
  rewrite [ck_t (kq_1 hL)]
  rewrite [lr_1_11 hL, bd1_s]
  rewrite [al_19 hL]
  refine ck_cg (fun h1 => ?_)
  refine if_cg (fun hc6 => ?_) (fun hc6 => ?_)
  · rfl
  · rewrite [lr_1_12 hL, bd1_s]
    rewrite [al_20 hL]
    refine ck_cg (fun h2 => ?_)
    refine if_cg (fun hc5 => ?_) (fun hc5 => ?_)
    · rfl
    · rewrite [lr_1_13 hL, bd1_s]
      rewrite [al_21 hL]
      refine ck_cg (fun h3 => ?_)
      refine if_cg (fun hc4 => ?_) (fun hc4 => ?_)
      · rfl
      · rfl
set_option maxHeartbeats 4000000 in
theorem fC_X0_placeOf_e {x : Nat} {w : AH} (p0 : Int32) (p1 : Int32) (p2 : Int32) (hL : Lay x w) : mC_X0_placeOf x p0 p1 p2 w = fC_X0_placeOf x p0 p1 p2 w := by
  unfold mC_X0_placeOf fC_X0_placeOf
  rewrite [ck_t (kq_0 hL)]
  rewrite [fC_X0_hasMoved_e _ _ _ hL]
  refine bd1_cg (fun r2 hc1 => ?_)
  refine if_cg (fun hc7 => ?_) (fun hc7 => ?_)
  · rewrite [lr_0_2 hL, bd1_s]
    rewrite [ck_t (kq_1 hL)]
    rewrite [lr_1_1 hL, bd1_s]
    rewrite [ck_t (kq_4 hL)]
    refine bd1_cg (fun r4 hc3 => ?_)
    refine ck_cg (fun h5 => ?_)
    rfl
  · rewrite [lr_0_2 hL, bd1_s]
    rewrite [ck_t (kq_1 hL)]
    rewrite [lr_1_11 hL, bd1_s]
    rewrite [al_19 hL]
    refine ck_cg (fun h6 => ?_)
    rfl
set_option maxHeartbeats 4000000 in
theorem fC_X0_where_e {x : Nat} {w : AH} (p0 : Int32) (p1 : Int32) (p2 : Int32) (hL : Lay x w) : mC_X0_where x p0 p1 p2 w = fC_X0_where x p0 p1 p2 w := by
  unfold mC_X0_where fC_X0_where
  rewrite [ck_t (kq_0 hL)]
  rewrite [fC_X0_isName_e _ hL]
  refine bd1_cg (fun r2 hc1 => ?_)
  refine if_cg (fun hc15 => ?_) (fun hc15 => ?_)
  · rfl
  · refine bd1_cg (fun r4 hc3 => ?_)
    refine if_cg (fun hc14 => ?_) (fun hc14 => ?_)
    · rfl
    · refine bd1_cg (fun r6 hc5 => ?_)
      refine if_cg (fun hc13 => ?_) (fun hc13 => ?_)
      · rfl
      · rewrite [lr_0_2 hL, bd1_s]
        rewrite [ck_t (kq_1 hL)]
        rewrite [lr_1_1 hL, bd1_s]
        rewrite [ck_t (kq_4 hL)]
        refine bd1_cg (fun r8 hc7 => ?_)
        refine ck_cg (fun h9 => ?_)
        refine if_cg (fun hc12 => ?_) (fun hc12 => ?_)
        · rfl
        · rewrite [fC_X0_placeOf_e _ _ _ hL]
          refine bd1_cg (fun r11 hc10 => ?_)
          rfl
set_option maxHeartbeats 4000000 in
theorem fC_X0_likeOf_121_e {x : Nat} {w : AH} {M76 : Nat → Nat → Int32 → Int32 → Option (Int32)} {k76 : Nat → Nat → Int32 → Int32 → Option (Int32)} (hk76 : ∀ (v3 : Nat) (v4 : Nat) (v5 : Int32) (v6 : Int32), Lay x w → M76 v3 v4 v5 v6 = k76 v3 v4 v5 v6) (v3 : Nat) (v4 : Nat) (v6 : Int32) (t0 : Int32) (t1 : Int32) (hL : Lay x w) : mC_X0_likeOf_121 w M76 v3 v4 v6 t0 t1 = fC_X0_likeOf_121 x w k76 v3 v4 v6 t0 t1 := by
  unfold mC_X0_likeOf_121 fC_X0_likeOf_121
  exact hk76 v3 v4 (t1 + t0) (v6 + (1 : Int32)) hL
set_option maxHeartbeats 4000000 in
theorem fC_X0_likeOf_76_e {x : Nat} {w : AH} {M76 : Nat → Nat → Int32 → Int32 → Option (Int32)} {k76 : Nat → Nat → Int32 → Int32 → Option (Int32)} (hk76 : ∀ (v3 : Nat) (v4 : Nat) (v5 : Int32) (v6 : Int32), Lay x w → M76 v3 v4 v5 v6 = k76 v3 v4 v5 v6) (v3 : Nat) (v4 : Nat) (v5 : Int32) (v6 : Int32) (hL : Lay x w) : mC_X0_likeOf_76 w M76 v3 v4 v5 v6 = fC_X0_likeOf_76 x w k76 v3 v4 v5 v6 := by
  unfold mC_X0_likeOf_76 fC_X0_likeOf_76
  refine if_cg (fun hc4 => ?_) (fun hc4 => ?_)
  · rfl
  · refine ck_cg (fun h1 => ?_)
    refine ck_cg (fun h2 => ?_)
    refine if_cg (fun hc3 => ?_) (fun hc3 => ?_)
    · exact fC_X0_likeOf_121_e hk76 v3 v4 v6 (1 : Int32) v5 hL
    · exact fC_X0_likeOf_121_e hk76 v3 v4 v6 (0 : Int32) v5 hL
set_option maxHeartbeats 4000000 in
theorem fC_X0_likeOf_76_l {x : Nat} {w : AH} : ∀ (n : Nat) (v3 : Nat) (v4 : Nat) (v5 : Int32) (v6 : Int32), Lay x w → lq4 (mC_X0_likeOf_76 w) n v3 v4 v5 v6 = lq4 (fC_X0_likeOf_76 x w) n v3 v4 v5 v6
  | 0, _, _, _, _, _ => rfl
  | n + 1, v3, v4, v5, v6, hL => fC_X0_likeOf_76_e (fC_X0_likeOf_76_l n) v3 v4 v5 v6 hL
set_option maxHeartbeats 4000000 in
theorem fC_X0_likeOf_70_e {x : Nat} {w : AH} (v3 : Nat) (v4 : Nat) (t0 : Int32) (t1 : Int32) (hL : Lay x w) : mC_X0_likeOf_70 w v3 v4 t0 t1 = fC_X0_likeOf_70 x w v3 v4 t0 t1 := by
  unfold mC_X0_likeOf_70 fC_X0_likeOf_70
  exact fC_X0_likeOf_76_l LF v3 v4 (t1 + t0) (0 : Int32) hL
set_option maxHeartbeats 4000000 in
theorem fC_X0_likeOf_48_e {x : Nat} {w : AH} (v3 : Nat) (v4 : Nat) (t0 : Int32) (hL : Lay x w) : mC_X0_likeOf_48 w v3 v4 t0 = fC_X0_likeOf_48 x w v3 v4 t0 := by
  unfold mC_X0_likeOf_48 fC_X0_likeOf_48
  refine ck_cg (fun h1 => ?_)
  refine ck_cg (fun h2 => ?_)
  refine st1_cg (fun r3 hr3 => ?_)
  refine if_cg (fun hc4 => ?_) (fun hc4 => ?_)
  · exact fC_X0_likeOf_70_e v3 v4 (0 : Int32) t0 hL
  · exact fC_X0_likeOf_70_e v3 v4 (1 : Int32) t0 hL
set_option maxHeartbeats 4000000 in
theorem fC_X0_likeOf_e {x : Nat} {w : AH} (p0 : Int32) (p1 : Int32) (hL : Lay x w) : mC_X0_likeOf x p0 p1 w = fC_X0_likeOf x p0 p1 w := by
  unfold mC_X0_likeOf fC_X0_likeOf
  rewrite [ck_t (kq_0 hL)]
  rewrite [lr_0_2 hL, bd1_s]
  rewrite [ck_t (kq_1 hL)]
  rewrite [lr_1_1 hL, bd1_s]
  rewrite [ck_t (kq_4 hL)]
  refine bd1_cg (fun r2 hc1 => ?_)
  refine ck_cg (fun h3 => ?_)
  refine bd1_cg (fun r5 hc4 => ?_)
  refine ck_cg (fun h6 => ?_)
  refine if_cg (fun hc7 => ?_) (fun hc7 => ?_)
  · exact fC_X0_likeOf_48_e r2 r5 (1 : Int32) hL
  · exact fC_X0_likeOf_48_e r2 r5 (0 : Int32) hL
set_option maxHeartbeats 4000000 in
theorem fC_X0_like_e {x : Nat} {w : AH} (p0 : Int32) (p1 : Int32) (hL : Lay x w) : mC_X0_like x p0 p1 w = fC_X0_like x p0 p1 w := by
  unfold mC_X0_like fC_X0_like
  rewrite [ck_t (kq_0 hL)]
  rewrite [fC_X0_isName_e _ hL]
  refine bd1_cg (fun r2 hc1 => ?_)
  refine if_cg (fun hc9 => ?_) (fun hc9 => ?_)
  · rfl
  · rewrite [fC_X0_isName_e _ hL]
    refine bd1_cg (fun r4 hc3 => ?_)
    refine if_cg (fun hc8 => ?_) (fun hc8 => ?_)
    · rfl
    · refine if_cg (fun hc7 => ?_) (fun hc7 => ?_)
      · rfl
      · rewrite [fC_X0_likeOf_e _ _ hL]
        refine bd1_cg (fun r6 hc5 => ?_)
        rfl
set_option maxHeartbeats 4000000 in
theorem fC_X0_four_3_e {x : Nat} {M3 : Nat → Int32 → Int32 → AH → Option (AH)} {k3 : Int32 → Int32 → AH → Option (AH)} (hk3 : ∀ (v1 : Int32) (v2 : Int32) (w : AH), Lay x w → M3 x v1 v2 w = k3 v1 v2 w) (v1 : Int32) (v2 : Int32) (w : AH) (hL : Lay x w) : mC_X0_four_3 M3 x v1 v2 w = fC_X0_four_3 x k3 v1 v2 w := by
  unfold mC_X0_four_3 fC_X0_four_3
  refine if_cg (fun hc6 => ?_) (fun hc6 => ?_)
  · rfl
  · rewrite [ck_t (kq_0 hL)]
    rewrite [lr_0_4 hL, bd1_s]
    rewrite [al_31 hL]
    refine ck_cg (fun h1 => ?_)
    refine st1_cg (fun w2 hs3 => ?_)
    have hL := Lay.I hs3 hL
    rewrite [ck_t (kq_0 hL)]
    refine st1_cg (fun w4 hs5 => ?_)
    have hL := Lay.I hs5 hL
    exact hk3 v1 (v2 + (-8 : Int32)) w4 hL
set_option maxHeartbeats 4000000 in
theorem fC_X0_four_3_l {x : Nat} : ∀ (n : Nat) (v1 : Int32) (v2 : Int32) (w : AH), Lay x w → lq4 (mC_X0_four_3) n x v1 v2 w = lq3 (fC_X0_four_3 x) n v1 v2 w
  | 0, _, _, _, _ => rfl
  | n + 1, v1, v2, w, hL => fC_X0_four_3_e (fC_X0_four_3_l n) v1 v2 w hL
set_option maxHeartbeats 4000000 in
theorem fC_X0_four_3_s {w' : AH} {x : Nat} {k3 : Int32 → Int32 → AH → Option (AH)} (hk3 : ∀ (v1 : Int32) (v2 : Int32) (w : AH), k3 v1 v2 w = some w' → Sx x w w') (v1 : Int32) (v2 : Int32) (w : AH) (hf : fC_X0_four_3 x k3 v1 v2 w = some w') : Sx x w w' := by
  unfold fC_X0_four_3 at hf
  have hx := Sx.refl (x := x) w
  by_cases hc6 : v2 < (0 : Int32)
  · have hf := if_t hf hc6
    cases some_ex hf
    exact hx
  · have hf := if_f hf hc6
    obtain ⟨h1, hf⟩ := ck_ex hf
    obtain ⟨w2, hs3, hf⟩ := st1_ex hf
    have hx := hx.trans (Sx.Ie hs3 (by omega))
    obtain ⟨w4, hs5, hf⟩ := st1_ex hf
    have hx := hx.trans (Sx.Ie hs5 (by omega))
    exact hx.trans (hk3 v1 (v2 + (-8 : Int32)) w4 hf)
set_option maxHeartbeats 4000000 in
theorem fC_X0_four_3_t {w' : AH} {x : Nat} : ∀ (n : Nat) (v1 : Int32) (v2 : Int32) (w : AH), lq3 (fC_X0_four_3 x) n v1 v2 w = some w' → Sx x w w'
  | 0, _, _, _, hf => nomatch hf
  | n + 1, v1, v2, w, hf => fC_X0_four_3_s (fC_X0_four_3_t n) v1 v2 w hf
set_option maxHeartbeats 4000000 in
theorem fC_X0_four_e {x : Nat} {w : AH} (p0 : Int32) (hL : Lay x w) : mC_X0_four x p0 w = fC_X0_four x p0 w := by
  unfold mC_X0_four fC_X0_four
  exact fC_X0_four_3_l LF p0 (24 : Int32) w hL
set_option maxHeartbeats 4000000 in
theorem fC_X0_four_s {x : Nat} (p0 : Int32) (w : AH) (w' : AH) (hf : fC_X0_four x p0 w = some w') : Sx x w w' := by
  unfold fC_X0_four at hf
  have hx := Sx.refl (x := x) w
  exact hx.trans (fC_X0_four_3_t LF p0 (24 : Int32) w hf)
set_option maxHeartbeats 4000000 in
theorem fC_X0_feed_e {x : Nat} {w : AH} (p0 : Int32) (p1 : Int32) (p2 : Int32) (p3 : Int32) (p4 : Int32) (hL : Lay x w) : mC_X0_feed x p0 p1 p2 p3 p4 w = fC_X0_feed x p0 p1 p2 p3 p4 w := by
  unfold mC_X0_feed fC_X0_feed
  rewrite [ck_t (kq_0 hL)]
  refine if_cg (fun hc11 => ?_) (fun hc11 => ?_)
  · rewrite [fC_X0_four_e _ hL]
    refine bd1_cg (fun w2 hc1 => ?_)
    have hL := (fC_X0_four_s _ _ _ hc1).1.lay hL
    rewrite [ck_t (kq_0 hL)]
    rewrite [fC_X0_four_e _ hL]
    refine bd1_cg (fun w4 hc3 => ?_)
    have hL := (fC_X0_four_s _ _ _ hc3).1.lay hL
    rewrite [ck_t (kq_0 hL)]
    rewrite [fC_X0_four_e _ hL]
    refine bd1_cg (fun w6 hc5 => ?_)
    have hL := (fC_X0_four_s _ _ _ hc5).1.lay hL
    rewrite [ck_t (kq_0 hL)]
    rewrite [fC_X0_four_e _ hL]
    refine bd1_cg (fun w8 hc7 => ?_)
    have hL := (fC_X0_four_s _ _ _ hc7).1.lay hL
    rewrite [ck_t (kq_0 hL)]
    rewrite [fC_X0_four_e _ hL]
    refine bd1_cg (fun w10 hc9 => ?_)
    have hL := (fC_X0_four_s _ _ _ hc9).1.lay hL
    rewrite [ck_t (kq_0 hL)]
    rfl
  · rfl
set_option maxHeartbeats 4000000 in
theorem fC_X0_feed_s {x : Nat} (p0 : Int32) (p1 : Int32) (p2 : Int32) (p3 : Int32) (p4 : Int32) (w : AH) (r : Int32) (w' : AH) (hf : fC_X0_feed x p0 p1 p2 p3 p4 w = some (r, w')) : Sx x w w' := by
  unfold fC_X0_feed at hf
  have hx := Sx.refl (x := x) w
  by_cases hc11 : ((hvi w x 5) + (20 : Int32)) ≤ (400 : Int32)
  · have hf := if_t hf hc11
    obtain ⟨w2, hc1, hf⟩ := bd1_ex hf
    have hx := hx.trans (fC_X0_four_s _ _ _ hc1)
    obtain ⟨w4, hc3, hf⟩ := bd1_ex hf
    have hx := hx.trans (fC_X0_four_s _ _ _ hc3)
    obtain ⟨w6, hc5, hf⟩ := bd1_ex hf
    have hx := hx.trans (fC_X0_four_s _ _ _ hc5)
    obtain ⟨w8, hc7, hf⟩ := bd1_ex hf
    have hx := hx.trans (fC_X0_four_s _ _ _ hc7)
    obtain ⟨w10, hc9, hf⟩ := bd1_ex hf
    have hx := hx.trans (fC_X0_four_s _ _ _ hc9)
    cases some_ex hf
    exact hx
  · have hf := if_f hf hc11
    cases some_ex hf
    exact hx
set_option maxHeartbeats 4000000 in
theorem fC_X0_end_e {x : Nat} {w : AH} (p0 : Int32) (hL : Lay x w) : mC_X0_end x p0 w = fC_X0_end x p0 w := by
  unfold mC_X0_end fC_X0_end
  refine if_cg (fun hc4 => ?_) (fun hc4 => ?_)
  · rfl
  · rewrite [ck_t (kq_0 hL)]
    refine if_cg (fun hc3 => ?_) (fun hc3 => ?_)
    · refine st1_cg (fun w1 hs2 => ?_)
      have hL := Lay.I hs2 hL
      rfl
    · rfl
set_option maxHeartbeats 4000000 in
theorem fC_X0_end_s {x : Nat} (p0 : Int32) (w : AH) (r : Int32) (w' : AH) (hf : fC_X0_end x p0 w = some (r, w')) : Sx x w w' := by
  unfold fC_X0_end at hf
  have hx := Sx.refl (x := x) w
  by_cases hc4 : p0 < (0 : Int32)
  · have hf := if_t hf hc4
    cases some_ex hf
    exact hx
  · have hf := if_f hf hc4
    by_cases hc3 : p0 ≤ (hvi w x 5)
    · have hf := if_t hf hc3
      obtain ⟨w1, hs2, hf⟩ := st1_ex hf
      have hx := hx.trans (Sx.Ie hs2 (by omega))
      cases some_ex hf
      exact hx
    · have hf := if_f hf hc3
      cases some_ex hf
      exact hx
set_option maxHeartbeats 4000000 in
theorem fC_X0_fault_e {x : Nat} {w : AH} (hL : Lay x w) : mC_X0_fault x w = fC_X0_fault x w := by
  unfold mC_X0_fault fC_X0_fault
  rewrite [ck_t (kq_0 hL)]
  rfl
set_option maxHeartbeats 4000000 in
theorem fC_X2_goes_105_e {x : Nat} {M2 : Nat → Nat → Int32 → AH → Option (AH)} {k2 : Nat → Int32 → AH → Option (AH)} (hk2 : ∀ (v1 : Nat) (v2 : Int32) (w : AH), Lay x w → M2 (x + 32) v1 v2 w = k2 v1 v2 w) (v1 : Nat) (v2 : Int32) (w : AH) (hL : Lay x w) : mC_X2_goes_105 M2 (x + 32) v1 v2 w = fC_X2_goes_105 x k2 v1 v2 w := by
  unfold mC_X2_goes_105 fC_X2_goes_105
  exact hk2 v1 (v2 + (1 : Int32)) w hL
set_option maxHeartbeats 4000000 in
theorem fC_X2_goes_42_e {x : Nat} {M2 : Nat → Nat → Int32 → AH → Option (AH)} {k2 : Nat → Int32 → AH → Option (AH)} (hk2 : ∀ (v1 : Nat) (v2 : Int32) (w : AH), Lay x w → M2 (x + 32) v1 v2 w = k2 v1 v2 w) (v1 : Nat) (v2 : Int32) (v3 : Int32) (t0 : Int32) (t1 : Int32) (w : AH) (hL : Lay x w) : mC_X2_goes_42 M2 (x + 32) v1 v2 v3 t0 t1 (x + 33) w = fC_X2_goes_42 x k2 v1 v2 v3 t0 t1 w := by
  unfold mC_X2_goes_42 fC_X2_goes_42
  rewrite [al_33 hL]
  refine ck_cg (fun h1 => ?_)
  refine ck_cg (fun h2 => ?_)
  refine st1_cg (fun w3 hs4 => ?_)
  have hL := Lay.I hs4 hL
  refine ck_cg (fun h5 => ?_)
  refine bd1_cg (fun b6 hb6 => ?_)
  refine ck_cg (fun h7 => ?_)
  refine bd1_cg (fun r9 hc8 => ?_)
  refine ck_cg (fun h10 => ?_)
  rewrite [ck_t (kq_32 hL)]
  rewrite [lr_32_0 hL, bd1_s]
  rewrite [al_33 hL]
  refine ck_cg (fun h11 => ?_)
  refine if_cg (fun hc17 => ?_) (fun hc17 => ?_)
  · exact fC_X2_goes_105_e hk2 v1 v2 w3 hL
  · refine if_cg (fun hc16 => ?_) (fun hc16 => ?_)
    · refine if_cg (fun hc15 => ?_) (fun hc15 => ?_)
      · exact fC_X2_goes_105_e hk2 v1 v2 w3 hL
      · rewrite [lr_32_1 hL, bd1_s]
        rewrite [al_34 hL]
        refine ck_cg (fun h12 => ?_)
        refine st1_cg (fun w13 hs14 => ?_)
        have hL := Lay.I hs14 hL
        exact fC_X2_goes_105_e hk2 v1 v2 w13 hL
    · exact fC_X2_goes_105_e hk2 v1 v2 w3 hL
set_option maxHeartbeats 4000000 in
theorem fC_X2_goes_2_e {x : Nat} {M2 : Nat → Nat → Int32 → AH → Option (AH)} {k2 : Nat → Int32 → AH → Option (AH)} (hk2 : ∀ (v1 : Nat) (v2 : Int32) (w : AH), Lay x w → M2 (x + 32) v1 v2 w = k2 v1 v2 w) (v1 : Nat) (v2 : Int32) (w : AH) (hL : Lay x w) : mC_X2_goes_2 M2 (x + 32) v1 v2 w = fC_X2_goes_2 x k2 v1 v2 w := by
  unfold mC_X2_goes_2 fC_X2_goes_2
  refine ck_cg (fun h1 => ?_)
  refine bd1_cg (fun b2 hb2 => ?_)
  refine ck_cg (fun h3 => ?_)
  refine bd1_cg (fun r5 hc4 => ?_)
  refine if_cg (fun hc8 => ?_) (fun hc8 => ?_)
  · rfl
  · rewrite [ck_t (kq_32 hL)]
    rewrite [lr_32_0 hL, bd1_s]
    rewrite [lr_32_1 hL, bd1_s]
    rewrite [al_34 hL]
    refine ck_cg (fun h6 => ?_)
    refine if_cg (fun hc7 => ?_) (fun hc7 => ?_)
    · exact fC_X2_goes_42_e hk2 v1 v2 (((12 : Int32) * (hvi w v1 0)) + v2) (1 : Int32) (((12 : Int32) * (hvi w v1 0)) + v2) w hL
    · exact fC_X2_goes_42_e hk2 v1 v2 (((12 : Int32) * (hvi w v1 0)) + v2) (0 : Int32) (((12 : Int32) * (hvi w v1 0)) + v2) w hL
set_option maxHeartbeats 4000000 in
theorem fC_X2_goes_2_l {x : Nat} : ∀ (n : Nat) (v1 : Nat) (v2 : Int32) (w : AH), Lay x w → lq4 (mC_X2_goes_2) n (x + 32) v1 v2 w = lq3 (fC_X2_goes_2 x) n v1 v2 w
  | 0, _, _, _, _ => rfl
  | n + 1, v1, v2, w, hL => fC_X2_goes_2_e (fC_X2_goes_2_l n) v1 v2 w hL
set_option maxHeartbeats 4000000 in
theorem fC_X2_goes_105_s {w' : AH} {x : Nat} {k2 : Nat → Int32 → AH → Option (AH)} (hk2 : ∀ (v1 : Nat) (v2 : Int32) (w : AH), k2 v1 v2 w = some w' → Sc x w w') (v1 : Nat) (v2 : Int32) (w : AH) (hf : fC_X2_goes_105 x k2 v1 v2 w = some w') : Sc x w w' := by
  unfold fC_X2_goes_105 at hf
  have hx := Sc.refl (x := x) w
  exact hx.trans (hk2 v1 (v2 + (1 : Int32)) w hf)
set_option maxHeartbeats 4000000 in
theorem fC_X2_goes_42_s {w' : AH} {x : Nat} {k2 : Nat → Int32 → AH → Option (AH)} (hk2 : ∀ (v1 : Nat) (v2 : Int32) (w : AH), k2 v1 v2 w = some w' → Sc x w w') (v1 : Nat) (v2 : Int32) (v3 : Int32) (t0 : Int32) (t1 : Int32) (w : AH) (hf : fC_X2_goes_42 x k2 v1 v2 v3 t0 t1 w = some w') : Sc x w w' := by
  unfold fC_X2_goes_42 at hf
  have hx := Sc.refl (x := x) w
  obtain ⟨h1, hf⟩ := ck_ex hf
  obtain ⟨h2, hf⟩ := ck_ex hf
  obtain ⟨w3, hs4, hf⟩ := st1_ex hf
  have hx := hx.trans (Sc.Ie hs4 (by unfold cS; omega))
  obtain ⟨h5, hf⟩ := ck_ex hf
  obtain ⟨b6, hb6, hf⟩ := bd1_ex hf
  obtain ⟨h7, hf⟩ := ck_ex hf
  obtain ⟨r9, hc8, hf⟩ := bd1_ex hf
  obtain ⟨h10, hf⟩ := ck_ex hf
  obtain ⟨h11, hf⟩ := ck_ex hf
  by_cases hc17 : (hvi w3 (x + 33) (v3.toNatClampNeg)) = (0 : Int32)
  · have hf := if_t hf hc17
    exact hx.trans (fC_X2_goes_105_s hk2 v1 v2 w3 hf)
  · have hf := if_f hf hc17
    by_cases hc16 : (hvi w3 r9 0) = (0 : Int32)
    · have hf := if_t hf hc16
      by_cases hc15 : (hvi w3 v1 0) ≤ (hvi w3 r9 1)
      · have hf := if_t hf hc15
        exact hx.trans (fC_X2_goes_105_s hk2 v1 v2 w3 hf)
      · have hf := if_f hf hc15
        obtain ⟨h12, hf⟩ := ck_ex hf
        obtain ⟨w13, hs14, hf⟩ := st1_ex hf
        have hx := hx.trans (Sc.Ie hs14 (by unfold cS; omega))
        exact hx.trans (fC_X2_goes_105_s hk2 v1 v2 w13 hf)
    · have hf := if_f hf hc16
      exact hx.trans (fC_X2_goes_105_s hk2 v1 v2 w3 hf)
set_option maxHeartbeats 4000000 in
theorem fC_X2_goes_2_s {w' : AH} {x : Nat} {k2 : Nat → Int32 → AH → Option (AH)} (hk2 : ∀ (v1 : Nat) (v2 : Int32) (w : AH), k2 v1 v2 w = some w' → Sc x w w') (v1 : Nat) (v2 : Int32) (w : AH) (hf : fC_X2_goes_2 x k2 v1 v2 w = some w') : Sc x w w' := by
  unfold fC_X2_goes_2 at hf
  have hx := Sc.refl (x := x) w
  obtain ⟨h1, hf⟩ := ck_ex hf
  obtain ⟨b2, hb2, hf⟩ := bd1_ex hf
  obtain ⟨h3, hf⟩ := ck_ex hf
  obtain ⟨r5, hc4, hf⟩ := bd1_ex hf
  by_cases hc8 : r5 ≤ v2
  · have hf := if_t hf hc8
    cases some_ex hf
    exact hx
  · have hf := if_f hf hc8
    obtain ⟨h6, hf⟩ := ck_ex hf
    by_cases hc7 : (hvi w (x + 34) ((((12 : Int32) * (hvi w v1 0)) + v2).toNatClampNeg)) = (0 : Int32)
    · have hf := if_t hf hc7
      exact hx.trans (fC_X2_goes_42_s hk2 v1 v2 (((12 : Int32) * (hvi w v1 0)) + v2) (1 : Int32) (((12 : Int32) * (hvi w v1 0)) + v2) w hf)
    · have hf := if_f hf hc7
      exact hx.trans (fC_X2_goes_42_s hk2 v1 v2 (((12 : Int32) * (hvi w v1 0)) + v2) (0 : Int32) (((12 : Int32) * (hvi w v1 0)) + v2) w hf)
set_option maxHeartbeats 4000000 in
theorem fC_X2_goes_2_t {w' : AH} {x : Nat} : ∀ (n : Nat) (v1 : Nat) (v2 : Int32) (w : AH), lq3 (fC_X2_goes_2 x) n v1 v2 w = some w' → Sc x w w'
  | 0, _, _, _, hf => nomatch hf
  | n + 1, v1, v2, w, hf => fC_X2_goes_2_s (fC_X2_goes_2_t n) v1 v2 w hf
set_option maxHeartbeats 4000000 in
theorem fC_X2_goes_e {x : Nat} {w : AH} (p0 : Nat) (hL : Lay x w) : mC_X2_goes (x + 32) p0 w = fC_X2_goes x p0 w := by
  unfold mC_X2_goes fC_X2_goes
  exact fC_X2_goes_2_l LF p0 (0 : Int32) w hL
set_option maxHeartbeats 4000000 in
theorem fC_X2_goes_s {x : Nat} (p0 : Nat) (w : AH) (w' : AH) (hf : fC_X2_goes x p0 w = some w') : Sc x w w' := by
  unfold fC_X2_goes at hf
  have hx := Sc.refl (x := x) w
  exact hx.trans (fC_X2_goes_2_t LF p0 (0 : Int32) w hf)
set_option maxHeartbeats 4000000 in
theorem fC_X2_looks_133_e {x : Nat} {M84 : Nat → Int32 → Int32 → AH → Option (AH)} {k84 : Int32 → Int32 → AH → Option (AH)} (hk84 : ∀ (v1 : Int32) (v2 : Int32) (w : AH), Lay x w → M84 (x + 32) v1 v2 w = k84 v1 v2 w) (v1 : Int32) (v2 : Int32) (w : AH) (hL : Lay x w) : mC_X2_looks_133 M84 (x + 32) v1 v2 w = fC_X2_looks_133 x k84 v1 v2 w := by
  unfold mC_X2_looks_133 fC_X2_looks_133
  exact hk84 v1 (v2 + (-1 : Int32)) w hL
set_option maxHeartbeats 4000000 in
theorem fC_X2_looks_84_e {x : Nat} {M84 : Nat → Int32 → Int32 → AH → Option (AH)} {k84 : Int32 → Int32 → AH → Option (AH)} (hk84 : ∀ (v1 : Int32) (v2 : Int32) (w : AH), Lay x w → M84 (x + 32) v1 v2 w = k84 v1 v2 w) (v1 : Int32) (v2 : Int32) (w : AH) (hL : Lay x w) : mC_X2_looks_84 M84 (x + 32) v1 v2 w = fC_X2_looks_84 x k84 v1 v2 w := by
  unfold mC_X2_looks_84 fC_X2_looks_84
  refine if_cg (fun hc10 => ?_) (fun hc10 => ?_)
  · rfl
  · rewrite [ck_t (kq_32 hL)]
    rewrite [lr_32_4 hL, bd1_s]
    rewrite [ck_t (kq_0 hL)]
    rewrite [lr_0_2 hL, bd1_s]
    rewrite [ck_t (kq_1 hL)]
    rewrite [lr_1_0 hL, bd1_s]
    rewrite [ck_t (kq_2 hL)]
    refine bd1_cg (fun r2 hc1 => ?_)
    refine ck_cg (fun h3 => ?_)
    refine if_cg (fun hc9 => ?_) (fun hc9 => ?_)
    · exact fC_X2_looks_133_e hk84 v1 v2 w hL
    · refine bd1_cg (fun r5 hc4 => ?_)
      refine ck_cg (fun h6 => ?_)
      rewrite [fC_X2_goes_e _ hL]
      refine bd1_cg (fun w8 hc7 => ?_)
      have hL := (fC_X2_goes_s _ _ _ hc7).1.lay hL
      exact fC_X2_looks_133_e hk84 v1 v2 w8 hL
set_option maxHeartbeats 4000000 in
theorem fC_X2_looks_84_l {x : Nat} : ∀ (n : Nat) (v1 : Int32) (v2 : Int32) (w : AH), Lay x w → lq4 (mC_X2_looks_84) n (x + 32) v1 v2 w = lq3 (fC_X2_looks_84 x) n v1 v2 w
  | 0, _, _, _, _ => rfl
  | n + 1, v1, v2, w, hL => fC_X2_looks_84_e (fC_X2_looks_84_l n) v1 v2 w hL
set_option maxHeartbeats 4000000 in
theorem fC_X2_looks_41_e {x : Nat} {M41 : Nat → Int32 → Int32 → AH → Option (AH)} {k41 : Int32 → Int32 → AH → Option (AH)} (hk41 : ∀ (v1 : Int32) (v2 : Int32) (w : AH), Lay x w → M41 (x + 32) v1 v2 w = k41 v1 v2 w) (v1 : Int32) (v2 : Int32) (w : AH) (hL : Lay x w) : mC_X2_looks_41 M41 (x + 32) v1 v2 w = fC_X2_looks_41 x k41 v1 v2 w := by
  unfold mC_X2_looks_41 fC_X2_looks_41
  refine if_cg (fun hc9 => ?_) (fun hc9 => ?_)
  · rewrite [ck_t (kq_32 hL)]
    rewrite [lr_32_4 hL, bd1_s]
    rewrite [ck_t (kq_0 hL)]
    rewrite [lr_0_2 hL, bd1_s]
    rewrite [ck_t (kq_1 hL)]
    rewrite [lr_1_0 hL, bd1_s]
    rewrite [ck_t (kq_2 hL)]
    refine bd1_cg (fun r2 hc1 => ?_)
    exact fC_X2_looks_84_l LF v1 (r2 - (1 : Int32)) w hL
  · rewrite [ck_t (kq_32 hL)]
    rewrite [lr_32_0 hL, bd1_s]
    rewrite [al_33 hL]
    refine ck_cg (fun h3 => ?_)
    refine st1_cg (fun w4 hs5 => ?_)
    have hL := Lay.I hs5 hL
    rewrite [ck_t (kq_32 hL)]
    rewrite [lr_32_1 hL, bd1_s]
    rewrite [al_34 hL]
    refine ck_cg (fun h6 => ?_)
    refine st1_cg (fun w7 hs8 => ?_)
    have hL := Lay.I hs8 hL
    exact hk41 v1 (v2 + (1 : Int32)) w7 hL
set_option maxHeartbeats 4000000 in
theorem fC_X2_looks_41_l {x : Nat} : ∀ (n : Nat) (v1 : Int32) (v2 : Int32) (w : AH), Lay x w → lq4 (mC_X2_looks_41) n (x + 32) v1 v2 w = lq3 (fC_X2_looks_41 x) n v1 v2 w
  | 0, _, _, _, _ => rfl
  | n + 1, v1, v2, w, hL => fC_X2_looks_41_e (fC_X2_looks_41_l n) v1 v2 w hL
set_option maxHeartbeats 4000000 in
theorem fC_X2_looks_23_e {x : Nat} (v1 : Int32) (w : AH) (hL : Lay x w) : mC_X2_looks_23 (x + 32) v1 w = fC_X2_looks_23 x v1 w := by
  unfold mC_X2_looks_23 fC_X2_looks_23
  rewrite [ck_t (kq_32 hL)]
  refine st1_cg (fun w1 hs2 => ?_)
  have hL := Lay.I hs2 hL
  rewrite [ck_t (kq_32 hL)]
  rewrite [lr_32_4 hL, bd1_s]
  rewrite [ck_t (kq_0 hL)]
  refine st1_cg (fun w3 hs4 => ?_)
  have hL := Lay.I hs4 hL
  exact fC_X2_looks_41_l LF v1 (0 : Int32) w3 hL
set_option maxHeartbeats 4000000 in
theorem fC_X2_looks_133_s {w' : AH} {x : Nat} {k84 : Int32 → Int32 → AH → Option (AH)} (hk84 : ∀ (v1 : Int32) (v2 : Int32) (w : AH), k84 v1 v2 w = some w' → Sc x w w') (v1 : Int32) (v2 : Int32) (w : AH) (hf : fC_X2_looks_133 x k84 v1 v2 w = some w') : Sc x w w' := by
  unfold fC_X2_looks_133 at hf
  have hx := Sc.refl (x := x) w
  exact hx.trans (hk84 v1 (v2 + (-1 : Int32)) w hf)
set_option maxHeartbeats 4000000 in
theorem fC_X2_looks_84_s {w' : AH} {x : Nat} {k84 : Int32 → Int32 → AH → Option (AH)} (hk84 : ∀ (v1 : Int32) (v2 : Int32) (w : AH), k84 v1 v2 w = some w' → Sc x w w') (v1 : Int32) (v2 : Int32) (w : AH) (hf : fC_X2_looks_84 x k84 v1 v2 w = some w') : Sc x w w' := by
  unfold fC_X2_looks_84 at hf
  have hx := Sc.refl (x := x) w
  by_cases hc10 : v2 < (0 : Int32)
  · have hf := if_t hf hc10
    cases some_ex hf
    exact hx
  · have hf := if_f hf hc10
    obtain ⟨r2, hc1, hf⟩ := bd1_ex hf
    obtain ⟨h3, hf⟩ := ck_ex hf
    by_cases hc9 : v1 < (hvi w r2 1)
    · have hf := if_t hf hc9
      exact hx.trans (fC_X2_looks_133_s hk84 v1 v2 w hf)
    · have hf := if_f hf hc9
      obtain ⟨r5, hc4, hf⟩ := bd1_ex hf
      obtain ⟨h6, hf⟩ := ck_ex hf
      obtain ⟨w8, hc7, hf⟩ := bd1_ex hf
      have hx := hx.trans (fC_X2_goes_s _ _ _ hc7)
      exact hx.trans (fC_X2_looks_133_s hk84 v1 v2 w8 hf)
set_option maxHeartbeats 4000000 in
theorem fC_X2_looks_84_t {w' : AH} {x : Nat} : ∀ (n : Nat) (v1 : Int32) (v2 : Int32) (w : AH), lq3 (fC_X2_looks_84 x) n v1 v2 w = some w' → Sc x w w'
  | 0, _, _, _, hf => nomatch hf
  | n + 1, v1, v2, w, hf => fC_X2_looks_84_s (fC_X2_looks_84_t n) v1 v2 w hf
set_option maxHeartbeats 4000000 in
theorem fC_X2_looks_41_s {w' : AH} {x : Nat} {k41 : Int32 → Int32 → AH → Option (AH)} (hk41 : ∀ (v1 : Int32) (v2 : Int32) (w : AH), k41 v1 v2 w = some w' → Sc x w w') (v1 : Int32) (v2 : Int32) (w : AH) (hf : fC_X2_looks_41 x k41 v1 v2 w = some w') : Sc x w w' := by
  unfold fC_X2_looks_41 at hf
  have hx := Sc.refl (x := x) w
  by_cases hc9 : (240 : Int32) ≤ v2
  · have hf := if_t hf hc9
    obtain ⟨r2, hc1, hf⟩ := bd1_ex hf
    exact hx.trans (fC_X2_looks_84_t LF v1 (r2 - (1 : Int32)) w hf)
  · have hf := if_f hf hc9
    obtain ⟨h3, hf⟩ := ck_ex hf
    obtain ⟨w4, hs5, hf⟩ := st1_ex hf
    have hx := hx.trans (Sc.Ie hs5 (by unfold cS; omega))
    obtain ⟨h6, hf⟩ := ck_ex hf
    obtain ⟨w7, hs8, hf⟩ := st1_ex hf
    have hx := hx.trans (Sc.Ie hs8 (by unfold cS; omega))
    exact hx.trans (hk41 v1 (v2 + (1 : Int32)) w7 hf)
set_option maxHeartbeats 4000000 in
theorem fC_X2_looks_41_t {w' : AH} {x : Nat} : ∀ (n : Nat) (v1 : Int32) (v2 : Int32) (w : AH), lq3 (fC_X2_looks_41 x) n v1 v2 w = some w' → Sc x w w'
  | 0, _, _, _, hf => nomatch hf
  | n + 1, v1, v2, w, hf => fC_X2_looks_41_s (fC_X2_looks_41_t n) v1 v2 w hf
set_option maxHeartbeats 4000000 in
theorem fC_X2_looks_23_s {w' : AH} {x : Nat} (v1 : Int32) (w : AH) (hf : fC_X2_looks_23 x v1 w = some w') : Sc x w w' := by
  unfold fC_X2_looks_23 at hf
  have hx := Sc.refl (x := x) w
  obtain ⟨w1, hs2, hf⟩ := st1_ex hf
  have hx := hx.trans (Sc.Ie hs2 (by unfold cS; omega))
  obtain ⟨w3, hs4, hf⟩ := st1_ex hf
  have hx := hx.trans (Sc.Ie hs4 (by unfold cS; omega))
  exact hx.trans (fC_X2_looks_41_t LF v1 (0 : Int32) w3 hf)
set_option maxHeartbeats 4000000 in
theorem fC_X2_looks_e {x : Nat} {w : AH} (p0 : Int32) (hL : Lay x w) : mC_X2_looks (x + 32) p0 w = fC_X2_looks x p0 w := by
  unfold mC_X2_looks fC_X2_looks
  rewrite [ck_t (kq_32 hL)]
  refine if_cg (fun hc2 => ?_) (fun hc2 => ?_)
  · rewrite [lr_32_4 hL, bd1_s]
    rewrite [ck_t (kq_0 hL)]
    refine if_cg (fun hc1 => ?_) (fun hc1 => ?_)
    · rfl
    · exact fC_X2_looks_23_e p0 w hL
  · exact fC_X2_looks_23_e p0 w hL
set_option maxHeartbeats 4000000 in
theorem fC_X2_looks_s {x : Nat} (p0 : Int32) (w : AH) (w' : AH) (hf : fC_X2_looks x p0 w = some w') : Sc x w w' := by
  unfold fC_X2_looks at hf
  have hx := Sc.refl (x := x) w
  by_cases hc2 : (hvi w (x + 32) 2) = p0
  · have hf := if_t hf hc2
    by_cases hc1 : (hvi w (x + 32) 3) = (hvi w x 1)
    · have hf := if_t hf hc1
      cases some_ex hf
      exact hx
    · have hf := if_f hf hc1
      exact hx.trans (fC_X2_looks_23_s p0 w hf)
  · have hf := if_f hf hc2
    exact hx.trans (fC_X2_looks_23_s p0 w hf)
set_option maxHeartbeats 4000000 in
theorem fC_X0_force_e {x : Nat} {w : AH} (p0 : Int32) (p1 : Int32) (p2 : Int32) (hL : Lay x w) : mC_X0_force x p0 p1 p2 w = fC_X0_force x p0 p1 p2 w := by
  unfold mC_X0_force fC_X0_force
  rewrite [ck_t (kq_0 hL)]
  rewrite [lr_0_2 hL, bd1_s]
  rewrite [ck_t (kq_1 hL)]
  rewrite [lr_1_0 hL, bd1_s]
  rewrite [ck_t (kq_2 hL)]
  refine bd1_cg (fun r2 hc1 => ?_)
  refine bd1_cg (fun r4 hc3 => ?_)
  refine if_cg (fun hc22 => ?_) (fun hc22 => ?_)
  · rfl
  · refine bd1_cg (fun r6 hc5 => ?_)
    refine ck_cg (fun h7 => ?_)
    refine bd1_cg (fun b8 hb8 => ?_)
    refine ck_cg (fun h9 => ?_)
    refine bd1_cg (fun r11 hc10 => ?_)
    refine bd1_cg (fun r13 hc12 => ?_)
    refine if_cg (fun hc21 => ?_) (fun hc21 => ?_)
    · rfl
    · refine bd1_cg (fun r15 hc14 => ?_)
      refine if_cg (fun hc20 => ?_) (fun hc20 => ?_)
      · rfl
      · rewrite [lr_0_7 hL, bd1_s]
        rewrite [ck_t (kq_32 hL)]
        rewrite [fC_X2_looks_e _ hL]
        refine bd1_cg (fun w17 hc16 => ?_)
        have hL := (fC_X2_looks_s _ _ _ hc16).1.lay hL
        rewrite [ck_t (kq_0 hL)]
        rewrite [lr_0_7 hL, bd1_s]
        rewrite [ck_t (kq_32 hL)]
        rewrite [lr_32_0 hL, bd1_s]
        rewrite [al_33 hL]
        refine ck_cg (fun h18 => ?_)
        refine if_cg (fun hc19 => ?_) (fun hc19 => ?_)
        · rfl
        · rfl
set_option maxHeartbeats 4000000 in
theorem fC_X0_force_s {x : Nat} (p0 : Int32) (p1 : Int32) (p2 : Int32) (w : AH) (r : Int32) (w' : AH) (hf : fC_X0_force x p0 p1 p2 w = some (r, w')) : Sc x w w' := by
  unfold fC_X0_force at hf
  have hx := Sc.refl (x := x) w
  obtain ⟨r2, hc1, hf⟩ := bd1_ex hf
  obtain ⟨r4, hc3, hf⟩ := bd1_ex hf
  by_cases hc22 : r4 = (0 : Int32)
  · have hf := if_t hf hc22
    cases some_ex hf
    exact hx
  · have hf := if_f hf hc22
    obtain ⟨r6, hc5, hf⟩ := bd1_ex hf
    obtain ⟨h7, hf⟩ := ck_ex hf
    obtain ⟨b8, hb8, hf⟩ := bd1_ex hf
    obtain ⟨h9, hf⟩ := ck_ex hf
    obtain ⟨r11, hc10, hf⟩ := bd1_ex hf
    obtain ⟨r13, hc12, hf⟩ := bd1_ex hf
    by_cases hc21 : r13 = (0 : Int32)
    · have hf := if_t hf hc21
      cases some_ex hf
      exact hx
    · have hf := if_f hf hc21
      obtain ⟨r15, hc14, hf⟩ := bd1_ex hf
      by_cases hc20 : r15 = (0 : Int32)
      · have hf := if_t hf hc20
        cases some_ex hf
        exact hx
      · have hf := if_f hf hc20
        obtain ⟨w17, hc16, hf⟩ := bd1_ex hf
        have hx := hx.trans (fC_X2_looks_s _ _ _ hc16)
        obtain ⟨h18, hf⟩ := ck_ex hf
        by_cases hc19 : (hvi w17 (x + 33) ((((12 : Int32) * p0) + p1).toNatClampNeg)) = (0 : Int32)
        · have hf := if_t hf hc19
          cases some_ex hf
          exact hx
        · have hf := if_f hf hc19
          cases some_ex hf
          exact hx
set_option maxHeartbeats 4000000 in
theorem fC_X3_empties_26_e {x : Nat} {M26 : Nat → Int32 → AH → Option (AH)} {k26 : Int32 → AH → Option (AH)} (hk26 : ∀ (v1 : Int32) (w : AH), Lay x w → M26 (x + 35) v1 w = k26 v1 w) (v1 : Int32) (w : AH) (hL : Lay x w) : mC_X3_empties_26 M26 (x + 35) v1 w = fC_X3_empties_26 x k26 v1 w := by
  unfold mC_X3_empties_26 fC_X3_empties_26
  rewrite [ck_t (kq_35 hL)]
  rewrite [lr_35_2 hL, bd1_s]
  rewrite [ck_t (kk_38 hL)]
  try rewrite [kn_38 hL]
  refine if_cg (fun hc4 => ?_) (fun hc4 => ?_)
  · rfl
  · rewrite [al_38 hL]
    refine ck_cg (fun h1 => ?_)
    refine st1_cg (fun w2 hs3 => ?_)
    have hL := Lay.I hs3 hL
    exact hk26 (v1 + (1 : Int32)) w2 hL
set_option maxHeartbeats 4000000 in
theorem fC_X3_empties_26_l {x : Nat} : ∀ (n : Nat) (v1 : Int32) (w : AH), Lay x w → lq3 (mC_X3_empties_26) n (x + 35) v1 w = lq2 (fC_X3_empties_26 x) n v1 w
  | 0, _, _, _ => rfl
  | n + 1, v1, w, hL => fC_X3_empties_26_e (fC_X3_empties_26_l n) v1 w hL
set_option maxHeartbeats 4000000 in
theorem fC_X3_empties_2_e {x : Nat} {M2 : Nat → Int32 → AH → Option (AH)} {k2 : Int32 → AH → Option (AH)} (hk2 : ∀ (v1 : Int32) (w : AH), Lay x w → M2 (x + 35) v1 w = k2 v1 w) (v1 : Int32) (w : AH) (hL : Lay x w) : mC_X3_empties_2 M2 (x + 35) v1 w = fC_X3_empties_2 x k2 v1 w := by
  unfold mC_X3_empties_2 fC_X3_empties_2
  rewrite [ck_t (kq_35 hL)]
  rewrite [lr_35_1 hL, bd1_s]
  rewrite [ck_t (kk_37 hL)]
  try rewrite [kn_37 hL]
  refine if_cg (fun hc4 => ?_) (fun hc4 => ?_)
  · exact fC_X3_empties_26_l LF (0 : Int32) w hL
  · rewrite [al_37 hL]
    refine ck_cg (fun h1 => ?_)
    refine st1_cg (fun w2 hs3 => ?_)
    have hL := Lay.L hs3 hL
    exact hk2 (v1 + (1 : Int32)) w2 hL
set_option maxHeartbeats 4000000 in
theorem fC_X3_empties_2_l {x : Nat} : ∀ (n : Nat) (v1 : Int32) (w : AH), Lay x w → lq3 (mC_X3_empties_2) n (x + 35) v1 w = lq2 (fC_X3_empties_2 x) n v1 w
  | 0, _, _, _ => rfl
  | n + 1, v1, w, hL => fC_X3_empties_2_e (fC_X3_empties_2_l n) v1 w hL
set_option maxHeartbeats 4000000 in
theorem fC_X3_empties_26_s {w' : AH} {x : Nat} {k26 : Int32 → AH → Option (AH)} (hk26 : ∀ (v1 : Int32) (w : AH), k26 v1 w = some w' → Sd x w w') (v1 : Int32) (w : AH) (hf : fC_X3_empties_26 x k26 v1 w = some w') : Sd x w w' := by
  unfold fC_X3_empties_26 at hf
  have hx := Sd.refl (x := x) w
  by_cases hc4 : (Int32.ofNat 5) ≤ v1
  · have hf := if_t hf hc4
    cases some_ex hf
    exact hx
  · have hf := if_f hf hc4
    obtain ⟨h1, hf⟩ := ck_ex hf
    obtain ⟨w2, hs3, hf⟩ := st1_ex hf
    have hx := hx.trans (Sd.Ie hs3 (by unfold dS; omega))
    exact hx.trans (hk26 (v1 + (1 : Int32)) w2 hf)
set_option maxHeartbeats 4000000 in
theorem fC_X3_empties_26_t {w' : AH} {x : Nat} : ∀ (n : Nat) (v1 : Int32) (w : AH), lq2 (fC_X3_empties_26 x) n v1 w = some w' → Sd x w w'
  | 0, _, _, hf => nomatch hf
  | n + 1, v1, w, hf => fC_X3_empties_26_s (fC_X3_empties_26_t n) v1 w hf
set_option maxHeartbeats 4000000 in
theorem fC_X3_empties_2_s {w' : AH} {x : Nat} {k2 : Int32 → AH → Option (AH)} (hk2 : ∀ (v1 : Int32) (w : AH), k2 v1 w = some w' → Sd x w w') (v1 : Int32) (w : AH) (hf : fC_X3_empties_2 x k2 v1 w = some w') : Sd x w w' := by
  unfold fC_X3_empties_2 at hf
  have hx := Sd.refl (x := x) w
  by_cases hc4 : (Int32.ofNat 11) ≤ v1
  · have hf := if_t hf hc4
    exact hx.trans (fC_X3_empties_26_t LF (0 : Int32) w hf)
  · have hf := if_f hf hc4
    obtain ⟨h1, hf⟩ := ck_ex hf
    obtain ⟨w2, hs3, hf⟩ := st1_ex hf
    have hx := hx.trans (Sd.Le hs3 (by omega))
    exact hx.trans (hk2 (v1 + (1 : Int32)) w2 hf)
set_option maxHeartbeats 4000000 in
theorem fC_X3_empties_2_t {w' : AH} {x : Nat} : ∀ (n : Nat) (v1 : Int32) (w : AH), lq2 (fC_X3_empties_2 x) n v1 w = some w' → Sd x w w'
  | 0, _, _, hf => nomatch hf
  | n + 1, v1, w, hf => fC_X3_empties_2_s (fC_X3_empties_2_t n) v1 w hf
set_option maxHeartbeats 4000000 in
theorem fC_X3_empties_e {x : Nat} {w : AH} (hL : Lay x w) : mC_X3_empties (x + 35) w = fC_X3_empties x w := by
  unfold mC_X3_empties fC_X3_empties
  exact fC_X3_empties_2_l LF (0 : Int32) w hL
set_option maxHeartbeats 4000000 in
theorem fC_X3_empties_s {x : Nat} (w : AH) (w' : AH) (hf : fC_X3_empties x w = some w') : Sd x w w' := by
  unfold fC_X3_empties at hf
  have hx := Sd.refl (x := x) w
  exact hx.trans (fC_X3_empties_2_t LF (0 : Int32) w hf)
set_option maxHeartbeats 4000000 in
theorem fC_X0_asks_e {x : Nat} {w : AH} (p0 : Int32) (hL : Lay x w) : mC_X0_asks x p0 w = fC_X0_asks x p0 w := by
  unfold mC_X0_asks fC_X0_asks
  rewrite [ck_t (kq_0 hL)]
  rewrite [lr_0_8 hL, bd1_s]
  rewrite [ck_t (kq_35 hL)]
  rewrite [fC_X3_empties_e  hL]
  refine bd1_cg (fun w2 hc1 => ?_)
  have hL := (fC_X3_empties_s _ _ hc1).1.lay hL
  rewrite [ck_t (kq_0 hL)]
  rewrite [lr_0_8 hL, bd1_s]
  rewrite [ck_t (kq_35 hL)]
  rewrite [lr_35_1 hL, bd1_s]
  rewrite [al_37 hL]
  refine ck_cg (fun h3 => ?_)
  refine st1_cg (fun w4 hs5 => ?_)
  have hL := Lay.L hs5 hL
  rfl
set_option maxHeartbeats 4000000 in
theorem fC_X0_asks_s {x : Nat} (p0 : Int32) (w : AH) (w' : AH) (hf : fC_X0_asks x p0 w = some w') : Sd x w w' := by
  unfold fC_X0_asks at hf
  have hx := Sd.refl (x := x) w
  obtain ⟨w2, hc1, hf⟩ := bd1_ex hf
  have hx := hx.trans (fC_X3_empties_s _ _ hc1)
  obtain ⟨h3, hf⟩ := ck_ex hf
  obtain ⟨w4, hs5, hf⟩ := st1_ex hf
  have hx := hx.trans (Sd.Le hs5 (by omega))
  cases some_ex hf
  exact hx
set_option maxHeartbeats 4000000 in
theorem fC_X0_last_152_e {x : Nat} {M54 : Nat → Int32 → Int32 → Int64 → Int32 → Nat → Int32 → AH → Option (Int64 × AH)} {k54 : Int32 → Int32 → Int64 → Int32 → Nat → Int32 → AH → Option (Int64 × AH)} (hk54 : ∀ (v1 : Int32) (v2 : Int32) (v4 : Int64) (v6 : Int32) (v7 : Nat) (v8 : Int32) (w : AH), Lay x w → M54 x v1 v2 v4 v6 v7 v8 w = k54 v1 v2 v4 v6 v7 v8 w) (v1 : Int32) (v2 : Int32) (v4 : Int64) (v6 : Int32) (v7 : Nat) (v8 : Int32) (w : AH) (hL : Lay x w) : mC_X0_last_152 M54 x v1 v2 v4 v6 v7 v8 w = fC_X0_last_152 x k54 v1 v2 v4 v6 v7 v8 w := by
  unfold mC_X0_last_152 fC_X0_last_152
  exact hk54 v1 v2 v4 v6 v7 (v8 + (1 : Int32)) w hL
set_option maxHeartbeats 4000000 in
theorem fC_X0_last_54_e {x : Nat} {M16 : Nat → Int32 → Int32 → Int64 → Int32 → AH → Option (Int64 × AH)} {k16 : Int32 → Int32 → Int64 → Int32 → AH → Option (Int64 × AH)} {M54 : Nat → Int32 → Int32 → Int64 → Int32 → Nat → Int32 → AH → Option (Int64 × AH)} {k54 : Int32 → Int32 → Int64 → Int32 → Nat → Int32 → AH → Option (Int64 × AH)} (hk16 : ∀ (v1 : Int32) (v2 : Int32) (v4 : Int64) (v6 : Int32) (w : AH), Lay x w → M16 x v1 v2 v4 v6 w = k16 v1 v2 v4 v6 w) (hk54 : ∀ (v1 : Int32) (v2 : Int32) (v4 : Int64) (v6 : Int32) (v7 : Nat) (v8 : Int32) (w : AH), Lay x w → M54 x v1 v2 v4 v6 v7 v8 w = k54 v1 v2 v4 v6 v7 v8 w) (v1 : Int32) (v2 : Int32) (v4 : Int64) (v6 : Int32) (v7 : Nat) (v8 : Int32) (w : AH) (hL : Lay x w) : mC_X0_last_54 M16 M54 x v1 v2 v4 v6 v7 v8 w = fC_X0_last_54 x k16 k54 v1 v2 v4 v6 v7 v8 w := by
  unfold mC_X0_last_54 fC_X0_last_54
  refine ck_cg (fun h1 => ?_)
  refine bd1_cg (fun r3 hc2 => ?_)
  refine if_cg (fun hc20 => ?_) (fun hc20 => ?_)
  · exact hk16 v1 v2 v4 (v6 + (1 : Int32)) w hL
  · rewrite [ck_t (kq_0 hL)]
    rewrite [lr_0_7 hL, bd1_s]
    rewrite [ck_t (kq_32 hL)]
    rewrite [lr_32_0 hL, bd1_s]
    rewrite [al_33 hL]
    refine ck_cg (fun h4 => ?_)
    refine if_cg (fun hc19 => ?_) (fun hc19 => ?_)
    · exact fC_X0_last_152_e hk54 v1 v2 v4 v6 v7 v8 w hL
    · refine bd1_cg (fun r6 hc5 => ?_)
      refine ck_cg (fun h7 => ?_)
      refine if_cg (fun hc18 => ?_) (fun hc18 => ?_)
      · refine bd1_cg (fun r9 hc8 => ?_)
        refine ck_cg (fun h10 => ?_)
        refine if_cg (fun hc17 => ?_) (fun hc17 => ?_)
        · refine bd1_cg (fun r12 hc11 => ?_)
          refine ck_cg (fun h13 => ?_)
          rewrite [lr_0_8 hL, bd1_s]
          refine bd1_cg (fun r15 hc14 => ?_)
          refine if_cg (fun hc16 => ?_) (fun hc16 => ?_)
          · exact fC_X0_last_152_e hk54 v1 v2 v4 v6 v7 v8 w hL
          · exact fC_X0_last_152_e hk54 v1 v2 r15 v6 v7 v8 w hL
        · exact fC_X0_last_152_e hk54 v1 v2 v4 v6 v7 v8 w hL
      · exact fC_X0_last_152_e hk54 v1 v2 v4 v6 v7 v8 w hL
set_option maxHeartbeats 4000000 in
theorem fC_X0_last_54_l {x : Nat} {M16 : Nat → Int32 → Int32 → Int64 → Int32 → AH → Option (Int64 × AH)} {k16 : Int32 → Int32 → Int64 → Int32 → AH → Option (Int64 × AH)} (hk16 : ∀ (v1 : Int32) (v2 : Int32) (v4 : Int64) (v6 : Int32) (w : AH), Lay x w → M16 x v1 v2 v4 v6 w = k16 v1 v2 v4 v6 w) : ∀ (n : Nat) (v1 : Int32) (v2 : Int32) (v4 : Int64) (v6 : Int32) (v7 : Nat) (v8 : Int32) (w : AH), Lay x w → lq8 (mC_X0_last_54 M16) n x v1 v2 v4 v6 v7 v8 w = lq7 (fC_X0_last_54 x k16) n v1 v2 v4 v6 v7 v8 w
  | 0, _, _, _, _, _, _, _, _ => rfl
  | n + 1, v1, v2, v4, v6, v7, v8, w, hL => fC_X0_last_54_e hk16 (fC_X0_last_54_l hk16 n) v1 v2 v4 v6 v7 v8 w hL
set_option maxHeartbeats 4000000 in
theorem fC_X0_last_16_e {x : Nat} {M16 : Nat → Int32 → Int32 → Int64 → Int32 → AH → Option (Int64 × AH)} {k16 : Int32 → Int32 → Int64 → Int32 → AH → Option (Int64 × AH)} (hk16 : ∀ (v1 : Int32) (v2 : Int32) (v4 : Int64) (v6 : Int32) (w : AH), Lay x w → M16 x v1 v2 v4 v6 w = k16 v1 v2 v4 v6 w) (v1 : Int32) (v2 : Int32) (v4 : Int64) (v6 : Int32) (w : AH) (hL : Lay x w) : mC_X0_last_16 M16 x v1 v2 v4 v6 w = fC_X0_last_16 x k16 v1 v2 v4 v6 w := by
  unfold mC_X0_last_16 fC_X0_last_16
  rewrite [ck_t (kq_0 hL)]
  rewrite [lr_0_2 hL, bd1_s]
  rewrite [ck_t (kq_1 hL)]
  rewrite [lr_1_0 hL, bd1_s]
  rewrite [ck_t (kq_2 hL)]
  refine bd1_cg (fun r2 hc1 => ?_)
  refine if_cg (fun hc7 => ?_) (fun hc7 => ?_)
  · rfl
  · refine bd1_cg (fun r4 hc3 => ?_)
    refine ck_cg (fun h5 => ?_)
    refine bd1_cg (fun b6 hb6 => ?_)
    exact fC_X0_last_54_l hk16 LF v1 v2 v4 v6 b6 (0 : Int32) w hL
set_option maxHeartbeats 4000000 in
theorem fC_X0_last_16_l {x : Nat} : ∀ (n : Nat) (v1 : Int32) (v2 : Int32) (v4 : Int64) (v6 : Int32) (w : AH), Lay x w → lq6 (mC_X0_last_16) n x v1 v2 v4 v6 w = lq5 (fC_X0_last_16 x) n v1 v2 v4 v6 w
  | 0, _, _, _, _, _, _ => rfl
  | n + 1, v1, v2, v4, v6, w, hL => fC_X0_last_16_e (fC_X0_last_16_l n) v1 v2 v4 v6 w hL
set_option maxHeartbeats 4000000 in
theorem fC_X0_last_152_s {r : Int64} {w' : AH} {x : Nat} {k54 : Int32 → Int32 → Int64 → Int32 → Nat → Int32 → AH → Option (Int64 × AH)} (hk54 : ∀ (v1 : Int32) (v2 : Int32) (v4 : Int64) (v6 : Int32) (v7 : Nat) (v8 : Int32) (w : AH), k54 v1 v2 v4 v6 v7 v8 w = some (r, w') → Sc x w w') (v1 : Int32) (v2 : Int32) (v4 : Int64) (v6 : Int32) (v7 : Nat) (v8 : Int32) (w : AH) (hf : fC_X0_last_152 x k54 v1 v2 v4 v6 v7 v8 w = some (r, w')) : Sc x w w' := by
  unfold fC_X0_last_152 at hf
  have hx := Sc.refl (x := x) w
  exact hx.trans (hk54 v1 v2 v4 v6 v7 (v8 + (1 : Int32)) w hf)
set_option maxHeartbeats 4000000 in
theorem fC_X0_last_54_s {r : Int64} {w' : AH} {x : Nat} {k16 : Int32 → Int32 → Int64 → Int32 → AH → Option (Int64 × AH)} {k54 : Int32 → Int32 → Int64 → Int32 → Nat → Int32 → AH → Option (Int64 × AH)} (hk16 : ∀ (v1 : Int32) (v2 : Int32) (v4 : Int64) (v6 : Int32) (w : AH), k16 v1 v2 v4 v6 w = some (r, w') → Sc x w w') (hk54 : ∀ (v1 : Int32) (v2 : Int32) (v4 : Int64) (v6 : Int32) (v7 : Nat) (v8 : Int32) (w : AH), k54 v1 v2 v4 v6 v7 v8 w = some (r, w') → Sc x w w') (v1 : Int32) (v2 : Int32) (v4 : Int64) (v6 : Int32) (v7 : Nat) (v8 : Int32) (w : AH) (hf : fC_X0_last_54 x k16 k54 v1 v2 v4 v6 v7 v8 w = some (r, w')) : Sc x w w' := by
  unfold fC_X0_last_54 at hf
  have hx := Sc.refl (x := x) w
  obtain ⟨h1, hf⟩ := ck_ex hf
  obtain ⟨r3, hc2, hf⟩ := bd1_ex hf
  by_cases hc20 : r3 ≤ v8
  · have hf := if_t hf hc20
    exact hx.trans (hk16 v1 v2 v4 (v6 + (1 : Int32)) w hf)
  · have hf := if_f hf hc20
    obtain ⟨h4, hf⟩ := ck_ex hf
    by_cases hc19 : (hvi w (x + 33) ((((12 : Int32) * v6) + v8).toNatClampNeg)) = (0 : Int32)
    · have hf := if_t hf hc19
      exact hx.trans (fC_X0_last_152_s hk54 v1 v2 v4 v6 v7 v8 w hf)
    · have hf := if_f hf hc19
      obtain ⟨r6, hc5, hf⟩ := bd1_ex hf
      obtain ⟨h7, hf⟩ := ck_ex hf
      by_cases hc18 : (hvi w r6 0) = v1
      · have hf := if_t hf hc18
        obtain ⟨r9, hc8, hf⟩ := bd1_ex hf
        obtain ⟨h10, hf⟩ := ck_ex hf
        by_cases hc17 : (hvi w r9 1) = v2
        · have hf := if_t hf hc17
          obtain ⟨r12, hc11, hf⟩ := bd1_ex hf
          obtain ⟨h13, hf⟩ := ck_ex hf
          obtain ⟨r15, hc14, hf⟩ := bd1_ex hf
          by_cases hc16 : r15 = (-4000000000 : Int64)
          · have hf := if_t hf hc16
            exact hx.trans (fC_X0_last_152_s hk54 v1 v2 v4 v6 v7 v8 w hf)
          · have hf := if_f hf hc16
            exact hx.trans (fC_X0_last_152_s hk54 v1 v2 r15 v6 v7 v8 w hf)
        · have hf := if_f hf hc17
          exact hx.trans (fC_X0_last_152_s hk54 v1 v2 v4 v6 v7 v8 w hf)
      · have hf := if_f hf hc18
        exact hx.trans (fC_X0_last_152_s hk54 v1 v2 v4 v6 v7 v8 w hf)
set_option maxHeartbeats 4000000 in
theorem fC_X0_last_54_t {r : Int64} {w' : AH} {x : Nat} {k16 : Int32 → Int32 → Int64 → Int32 → AH → Option (Int64 × AH)} (hk16 : ∀ (v1 : Int32) (v2 : Int32) (v4 : Int64) (v6 : Int32) (w : AH), k16 v1 v2 v4 v6 w = some (r, w') → Sc x w w') : ∀ (n : Nat) (v1 : Int32) (v2 : Int32) (v4 : Int64) (v6 : Int32) (v7 : Nat) (v8 : Int32) (w : AH), lq7 (fC_X0_last_54 x k16) n v1 v2 v4 v6 v7 v8 w = some (r, w') → Sc x w w'
  | 0, _, _, _, _, _, _, _, hf => nomatch hf
  | n + 1, v1, v2, v4, v6, v7, v8, w, hf => fC_X0_last_54_s hk16 (fC_X0_last_54_t hk16 n) v1 v2 v4 v6 v7 v8 w hf
set_option maxHeartbeats 4000000 in
theorem fC_X0_last_16_s {r : Int64} {w' : AH} {x : Nat} {k16 : Int32 → Int32 → Int64 → Int32 → AH → Option (Int64 × AH)} (hk16 : ∀ (v1 : Int32) (v2 : Int32) (v4 : Int64) (v6 : Int32) (w : AH), k16 v1 v2 v4 v6 w = some (r, w') → Sc x w w') (v1 : Int32) (v2 : Int32) (v4 : Int64) (v6 : Int32) (w : AH) (hf : fC_X0_last_16 x k16 v1 v2 v4 v6 w = some (r, w')) : Sc x w w' := by
  unfold fC_X0_last_16 at hf
  have hx := Sc.refl (x := x) w
  obtain ⟨r2, hc1, hf⟩ := bd1_ex hf
  by_cases hc7 : r2 ≤ v6
  · have hf := if_t hf hc7
    cases some_ex hf
    exact hx
  · have hf := if_f hf hc7
    obtain ⟨r4, hc3, hf⟩ := bd1_ex hf
    obtain ⟨h5, hf⟩ := ck_ex hf
    obtain ⟨b6, hb6, hf⟩ := bd1_ex hf
    exact hx.trans (fC_X0_last_54_t hk16 LF v1 v2 v4 v6 b6 (0 : Int32) w hf)
set_option maxHeartbeats 4000000 in
theorem fC_X0_last_16_t {r : Int64} {w' : AH} {x : Nat} : ∀ (n : Nat) (v1 : Int32) (v2 : Int32) (v4 : Int64) (v6 : Int32) (w : AH), lq5 (fC_X0_last_16 x) n v1 v2 v4 v6 w = some (r, w') → Sc x w w'
  | 0, _, _, _, _, _, hf => nomatch hf
  | n + 1, v1, v2, v4, v6, w, hf => fC_X0_last_16_s (fC_X0_last_16_t n) v1 v2 v4 v6 w hf
set_option maxHeartbeats 4000000 in
theorem fC_X0_last_e {x : Nat} {w : AH} (p0 : Int32) (p1 : Int32) (p2 : Int32) (hL : Lay x w) : mC_X0_last x p0 p1 p2 w = fC_X0_last x p0 p1 p2 w := by
  unfold mC_X0_last fC_X0_last
  rewrite [ck_t (kq_0 hL)]
  rewrite [lr_0_7 hL, bd1_s]
  rewrite [ck_t (kq_32 hL)]
  rewrite [fC_X2_looks_e _ hL]
  refine bd1_cg (fun w2 hc1 => ?_)
  have hL := (fC_X2_looks_s _ _ _ hc1).1.lay hL
  exact fC_X0_last_16_l LF p0 p1 (-4000000000 : Int64) (0 : Int32) w2 hL
set_option maxHeartbeats 4000000 in
theorem fC_X0_last_s {x : Nat} (p0 : Int32) (p1 : Int32) (p2 : Int32) (w : AH) (r : Int64) (w' : AH) (hf : fC_X0_last x p0 p1 p2 w = some (r, w')) : Sc x w w' := by
  unfold fC_X0_last at hf
  have hx := Sc.refl (x := x) w
  obtain ⟨w2, hc1, hf⟩ := bd1_ex hf
  have hx := hx.trans (fC_X2_looks_s _ _ _ hc1)
  exact hx.trans (fC_X0_last_16_t LF p0 p1 (-4000000000 : Int64) (0 : Int32) w2 hf)
set_option maxHeartbeats 4000000 in
theorem fC_X5_isOn_248_e {x : Nat} (v1 : Int32) (v2 : Int32) (v3 : Int32) (t0 : Int32) (t1 : Int32) (w : AH) (hL : Lay x w) : mC_X5_isOn_248 (x + 39) v1 v2 v3 t0 t1 (x + 38) w = fC_X5_isOn_248 x v1 v2 v3 t0 t1 w := by
  unfold mC_X5_isOn_248 fC_X5_isOn_248
  rewrite [al_38 hL]
  refine ck_cg (fun h1 => ?_)
  refine ck_cg (fun h2 => ?_)
  refine st1_cg (fun w3 hs4 => ?_)
  have hL := Lay.I hs4 hL
  rewrite [ck_t (kq_39 hL)]
  rewrite [lr_39_6 hL, bd1_s]
  rewrite [ck_t (kq_0 hL)]
  rewrite [lr_0_8 hL, bd1_s]
  rewrite [ck_t (kq_35 hL)]
  rewrite [lr_35_2 hL, bd1_s]
  rewrite [fC_X0_hasMoved_e _ _ _ hL]
  refine bd1_cg (fun r6 hc5 => ?_)
  rewrite [al_38 hL]
  refine ck_cg (fun h7 => ?_)
  refine ck_cg (fun h8 => ?_)
  refine st1_cg (fun w9 hs10 => ?_)
  have hL := Lay.I hs10 hL
  rewrite [ck_t (kq_39 hL)]
  rewrite [lr_39_6 hL, bd1_s]
  rewrite [ck_t (kq_0 hL)]
  rewrite [fC_X0_last_e _ _ _ hL]
  refine bd2_cg (fun r13 w12 hc11 => ?_)
  have hL := (fC_X0_last_s _ _ _ _ _ _ hc11).1.lay hL
  refine if_cg (fun hc18 => ?_) (fun hc18 => ?_)
  · rfl
  · rewrite [ck_t (kq_39 hL)]
    rewrite [lr_39_6 hL, bd1_s]
    rewrite [ck_t (kq_0 hL)]
    rewrite [fC_X0_last_e _ _ _ hL]
    refine bd2_cg (fun r16 w15 hc14 => ?_)
    have hL := (fC_X0_last_s _ _ _ _ _ _ hc14).1.lay hL
    refine if_cg (fun hc17 => ?_) (fun hc17 => ?_)
    · rfl
    · rfl
set_option maxHeartbeats 4000000 in
theorem fC_X5_isOn_222_e {x : Nat} (v1 : Int32) (v2 : Int32) (v3 : Int32) (v4 : Nat) (t0 : Int32) (t1 : Int32) (w : AH) (hL : Lay x w) : mC_X5_isOn_222 (x + 39) v1 v2 v3 v4 t0 t1 (x + 38) w = fC_X5_isOn_222 x v1 v2 v3 v4 t0 t1 w := by
  unfold mC_X5_isOn_222 fC_X5_isOn_222
  rewrite [al_38 hL]
  refine ck_cg (fun h1 => ?_)
  refine ck_cg (fun h2 => ?_)
  refine st1_cg (fun w3 hs4 => ?_)
  have hL := Lay.I hs4 hL
  rewrite [ck_t (kq_39 hL)]
  rewrite [lr_39_6 hL, bd1_s]
  rewrite [ck_t (kq_0 hL)]
  rewrite [lr_0_8 hL, bd1_s]
  rewrite [ck_t (kq_35 hL)]
  rewrite [lr_35_2 hL, bd1_s]
  refine bd1_cg (fun r5 hr5 => ?_)
  refine if_cg (fun hc6 => ?_) (fun hc6 => ?_)
  · exact fC_X5_isOn_248_e v1 v2 v3 (1 : Int32) (2 : Int32) w3 hL
  · exact fC_X5_isOn_248_e v1 v2 v3 (0 : Int32) (2 : Int32) w3 hL
set_option maxHeartbeats 4000000 in
theorem fC_X5_isOn_196_e {x : Nat} (v1 : Int32) (v2 : Int32) (v3 : Int32) (v4 : Nat) (t0 : Int32) (t1 : Int32) (w : AH) (hL : Lay x w) : mC_X5_isOn_196 (x + 39) v1 v2 v3 v4 t0 t1 (x + 38) w = fC_X5_isOn_196 x v1 v2 v3 v4 t0 t1 w := by
  unfold mC_X5_isOn_196 fC_X5_isOn_196
  rewrite [al_38 hL]
  refine ck_cg (fun h1 => ?_)
  refine ck_cg (fun h2 => ?_)
  refine st1_cg (fun w3 hs4 => ?_)
  have hL := Lay.I hs4 hL
  rewrite [ck_t (kq_39 hL)]
  rewrite [lr_39_6 hL, bd1_s]
  rewrite [ck_t (kq_0 hL)]
  rewrite [lr_0_8 hL, bd1_s]
  rewrite [ck_t (kq_35 hL)]
  rewrite [lr_35_2 hL, bd1_s]
  refine bd1_cg (fun r5 hr5 => ?_)
  refine if_cg (fun hc6 => ?_) (fun hc6 => ?_)
  · exact fC_X5_isOn_222_e v1 v2 v3 v4 (1 : Int32) (1 : Int32) w3 hL
  · exact fC_X5_isOn_222_e v1 v2 v3 v4 (0 : Int32) (1 : Int32) w3 hL
set_option maxHeartbeats 4000000 in
theorem fC_X5_isOn_78_e {x : Nat} (v1 : Int32) (v2 : Int32) (v3 : Int32) (v4 : Nat) (w : AH) (hL : Lay x w) : mC_X5_isOn_78 (x + 39) v1 v2 v3 v4 w = fC_X5_isOn_78 x v1 v2 v3 v4 w := by
  unfold mC_X5_isOn_78 fC_X5_isOn_78
  rewrite [ck_t (kq_39 hL)]
  rewrite [lr_39_6 hL, bd1_s]
  rewrite [ck_t (kq_0 hL)]
  rewrite [fC_X0_asks_e _ hL]
  refine bd1_cg (fun w2 hc1 => ?_)
  have hL := (fC_X0_asks_s _ _ _ hc1).1.lay hL
  rewrite [ck_t (kq_39 hL)]
  rewrite [lr_39_6 hL, bd1_s]
  rewrite [ck_t (kq_0 hL)]
  rewrite [lr_0_8 hL, bd1_s]
  rewrite [ck_t (kq_35 hL)]
  rewrite [lr_35_1 hL, bd1_s]
  refine ck_cg (fun h3 => ?_)
  rewrite [al_37 hL]
  refine ck_cg (fun h4 => ?_)
  refine st1_cg (fun w5 hs6 => ?_)
  have hL := Lay.L hs6 hL
  rewrite [ck_t (kq_39 hL)]
  rewrite [lr_39_6 hL, bd1_s]
  rewrite [ck_t (kq_0 hL)]
  rewrite [lr_0_8 hL, bd1_s]
  rewrite [ck_t (kq_35 hL)]
  rewrite [lr_35_1 hL, bd1_s]
  refine ck_cg (fun h7 => ?_)
  rewrite [al_37 hL]
  refine ck_cg (fun h8 => ?_)
  refine st1_cg (fun w9 hs10 => ?_)
  have hL := Lay.L hs10 hL
  rewrite [ck_t (kq_39 hL)]
  rewrite [lr_39_6 hL, bd1_s]
  rewrite [ck_t (kq_0 hL)]
  rewrite [lr_0_8 hL, bd1_s]
  rewrite [ck_t (kq_35 hL)]
  rewrite [lr_35_1 hL, bd1_s]
  rewrite [lr_39_1 hL, bd1_s]
  rewrite [al_41 hL]
  refine ck_cg (fun h11 => ?_)
  rewrite [al_37 hL]
  refine ck_cg (fun h12 => ?_)
  refine st1_cg (fun w13 hs14 => ?_)
  have hL := Lay.L hs14 hL
  rewrite [ck_t (kq_39 hL)]
  rewrite [lr_39_6 hL, bd1_s]
  rewrite [ck_t (kq_0 hL)]
  rewrite [lr_0_8 hL, bd1_s]
  rewrite [ck_t (kq_35 hL)]
  rewrite [lr_35_1 hL, bd1_s]
  rewrite [lr_0_2 hL, bd1_s]
  rewrite [ck_t (kq_1 hL)]
  rewrite [lr_1_6 hL, bd1_s]
  rewrite [lr_39_1 hL, bd1_s]
  rewrite [al_41 hL]
  refine ck_cg (fun h15 => ?_)
  rewrite [al_14 hL]
  refine ck_cg (fun h16 => ?_)
  rewrite [al_37 hL]
  refine ck_cg (fun h17 => ?_)
  refine st1_cg (fun w18 hs19 => ?_)
  have hL := Lay.L hs19 hL
  rewrite [ck_t (kq_39 hL)]
  rewrite [lr_39_6 hL, bd1_s]
  rewrite [ck_t (kq_0 hL)]
  rewrite [lr_0_8 hL, bd1_s]
  rewrite [ck_t (kq_35 hL)]
  rewrite [lr_35_2 hL, bd1_s]
  refine bd1_cg (fun r20 hr20 => ?_)
  refine if_cg (fun hc21 => ?_) (fun hc21 => ?_)
  · exact fC_X5_isOn_196_e v1 v2 v3 v4 (1 : Int32) (0 : Int32) w18 hL
  · exact fC_X5_isOn_196_e v1 v2 v3 v4 (0 : Int32) (0 : Int32) w18 hL
set_option maxHeartbeats 4000000 in
theorem fC_X5_isOn_248_s {r : Int32} {w' : AH} {x : Nat} (v1 : Int32) (v2 : Int32) (v3 : Int32) (t0 : Int32) (t1 : Int32) (w : AH) (hf : fC_X5_isOn_248 x v1 v2 v3 t0 t1 w = some (r, w')) : Sc x w w' := by
  unfold fC_X5_isOn_248 at hf
  have hx := Sc.refl (x := x) w
  obtain ⟨h1, hf⟩ := ck_ex hf
  obtain ⟨h2, hf⟩ := ck_ex hf
  obtain ⟨w3, hs4, hf⟩ := st1_ex hf
  have hx := hx.trans (Sc.Ie hs4 (by unfold cS; omega))
  obtain ⟨r6, hc5, hf⟩ := bd1_ex hf
  obtain ⟨h7, hf⟩ := ck_ex hf
  obtain ⟨h8, hf⟩ := ck_ex hf
  obtain ⟨w9, hs10, hf⟩ := st1_ex hf
  have hx := hx.trans (Sc.Ie hs10 (by unfold cS; omega))
  obtain ⟨r13, w12, hc11, hf⟩ := bd2_ex hf
  have hx := hx.trans (fC_X0_last_s _ _ _ _ _ _ hc11)
  by_cases hc18 : r13 = (-4000000000 : Int64)
  · have hf := if_t hf hc18
    cases some_ex hf
    exact hx
  · have hf := if_f hf hc18
    obtain ⟨r16, w15, hc14, hf⟩ := bd2_ex hf
    have hx := hx.trans (fC_X0_last_s _ _ _ _ _ _ hc14)
    by_cases hc17 : r16 = (-4000000000 : Int64)
    · have hf := if_t hf hc17
      cases some_ex hf
      exact hx
    · have hf := if_f hf hc17
      cases some_ex hf
      exact hx
set_option maxHeartbeats 4000000 in
theorem fC_X5_isOn_222_s {r : Int32} {w' : AH} {x : Nat} (v1 : Int32) (v2 : Int32) (v3 : Int32) (v4 : Nat) (t0 : Int32) (t1 : Int32) (w : AH) (hf : fC_X5_isOn_222 x v1 v2 v3 v4 t0 t1 w = some (r, w')) : Sc x w w' := by
  unfold fC_X5_isOn_222 at hf
  have hx := Sc.refl (x := x) w
  obtain ⟨h1, hf⟩ := ck_ex hf
  obtain ⟨h2, hf⟩ := ck_ex hf
  obtain ⟨w3, hs4, hf⟩ := st1_ex hf
  have hx := hx.trans (Sc.Ie hs4 (by unfold cS; omega))
  obtain ⟨r5, hr5, hf⟩ := bd1_ex hf
  by_cases hc6 : r5 = (3 : Int32)
  · have hf := if_t hf hc6
    exact hx.trans (fC_X5_isOn_248_s v1 v2 v3 (1 : Int32) (2 : Int32) w3 hf)
  · have hf := if_f hf hc6
    exact hx.trans (fC_X5_isOn_248_s v1 v2 v3 (0 : Int32) (2 : Int32) w3 hf)
set_option maxHeartbeats 4000000 in
theorem fC_X5_isOn_196_s {r : Int32} {w' : AH} {x : Nat} (v1 : Int32) (v2 : Int32) (v3 : Int32) (v4 : Nat) (t0 : Int32) (t1 : Int32) (w : AH) (hf : fC_X5_isOn_196 x v1 v2 v3 v4 t0 t1 w = some (r, w')) : Sc x w w' := by
  unfold fC_X5_isOn_196 at hf
  have hx := Sc.refl (x := x) w
  obtain ⟨h1, hf⟩ := ck_ex hf
  obtain ⟨h2, hf⟩ := ck_ex hf
  obtain ⟨w3, hs4, hf⟩ := st1_ex hf
  have hx := hx.trans (Sc.Ie hs4 (by unfold cS; omega))
  obtain ⟨r5, hr5, hf⟩ := bd1_ex hf
  by_cases hc6 : r5 = (2 : Int32)
  · have hf := if_t hf hc6
    exact hx.trans (fC_X5_isOn_222_s v1 v2 v3 v4 (1 : Int32) (1 : Int32) w3 hf)
  · have hf := if_f hf hc6
    exact hx.trans (fC_X5_isOn_222_s v1 v2 v3 v4 (0 : Int32) (1 : Int32) w3 hf)
set_option maxHeartbeats 4000000 in
theorem fC_X5_isOn_78_s {r : Int32} {w' : AH} {x : Nat} (v1 : Int32) (v2 : Int32) (v3 : Int32) (v4 : Nat) (w : AH) (hf : fC_X5_isOn_78 x v1 v2 v3 v4 w = some (r, w')) : Sc x w w' := by
  unfold fC_X5_isOn_78 at hf
  have hx := Sc.refl (x := x) w
  obtain ⟨w2, hc1, hf⟩ := bd1_ex hf
  have hx := hx.trans (fC_X0_asks_s _ _ _ hc1).sc
  obtain ⟨h3, hf⟩ := ck_ex hf
  obtain ⟨h4, hf⟩ := ck_ex hf
  obtain ⟨w5, hs6, hf⟩ := st1_ex hf
  have hx := hx.trans (Sc.Le hs6 (by omega))
  obtain ⟨h7, hf⟩ := ck_ex hf
  obtain ⟨h8, hf⟩ := ck_ex hf
  obtain ⟨w9, hs10, hf⟩ := st1_ex hf
  have hx := hx.trans (Sc.Le hs10 (by omega))
  obtain ⟨h11, hf⟩ := ck_ex hf
  obtain ⟨h12, hf⟩ := ck_ex hf
  obtain ⟨w13, hs14, hf⟩ := st1_ex hf
  have hx := hx.trans (Sc.Le hs14 (by omega))
  obtain ⟨h15, hf⟩ := ck_ex hf
  obtain ⟨h16, hf⟩ := ck_ex hf
  obtain ⟨h17, hf⟩ := ck_ex hf
  obtain ⟨w18, hs19, hf⟩ := st1_ex hf
  have hx := hx.trans (Sc.Le hs19 (by omega))
  obtain ⟨r20, hr20, hf⟩ := bd1_ex hf
  by_cases hc21 : r20 = (1 : Int32)
  · have hf := if_t hf hc21
    exact hx.trans (fC_X5_isOn_196_s v1 v2 v3 v4 (1 : Int32) (0 : Int32) w18 hf)
  · have hf := if_f hf hc21
    exact hx.trans (fC_X5_isOn_196_s v1 v2 v3 v4 (0 : Int32) (0 : Int32) w18 hf)
set_option maxHeartbeats 4000000 in
theorem fC_X5_isOn_e {x : Nat} {w : AH} (p0 : Int32) (p1 : Int32) (p2 : Int32) (hL : Lay x w) : mC_X5_isOn (x + 39) p0 p1 p2 w = fC_X5_isOn x p0 p1 p2 w := by
  unfold mC_X5_isOn fC_X5_isOn
  rewrite [ck_t (kq_39 hL)]
  rewrite [lr_39_6 hL, bd1_s]
  rewrite [ck_t (kq_0 hL)]
  rewrite [lr_0_2 hL, bd1_s]
  rewrite [ck_t (kq_1 hL)]
  rewrite [lr_1_1 hL, bd1_s]
  rewrite [ck_t (kq_4 hL)]
  refine bd1_cg (fun r2 hc1 => ?_)
  refine ck_cg (fun h3 => ?_)
  refine if_cg (fun hc9 => ?_) (fun hc9 => ?_)
  · rfl
  · rewrite [lr_1_9 hL, bd1_s]
    rewrite [al_17 hL]
    refine ck_cg (fun h4 => ?_)
    refine if_cg (fun hc8 => ?_) (fun hc8 => ?_)
    · exact fC_X5_isOn_78_e p0 p1 p2 r2 w hL
    · refine if_cg (fun hc7 => ?_) (fun hc7 => ?_)
      · exact fC_X5_isOn_78_e p0 p1 p2 r2 w hL
      · rewrite [lr_1_10 hL, bd1_s]
        rewrite [al_18 hL]
        refine ck_cg (fun h5 => ?_)
        refine if_cg (fun hc6 => ?_) (fun hc6 => ?_)
        · exact fC_X5_isOn_78_e p0 p1 p2 r2 w hL
        · rfl
set_option maxHeartbeats 4000000 in
theorem fC_X5_isOn_s {x : Nat} (p0 : Int32) (p1 : Int32) (p2 : Int32) (w : AH) (r : Int32) (w' : AH) (hf : fC_X5_isOn x p0 p1 p2 w = some (r, w')) : Sc x w w' := by
  unfold fC_X5_isOn at hf
  have hx := Sc.refl (x := x) w
  obtain ⟨r2, hc1, hf⟩ := bd1_ex hf
  obtain ⟨h3, hf⟩ := ck_ex hf
  by_cases hc9 : p2 < (hvi w r2 4)
  · have hf := if_t hf hc9
    cases some_ex hf
    exact hx
  · have hf := if_f hf hc9
    obtain ⟨h4, hf⟩ := ck_ex hf
    by_cases hc8 : (hvi w (x + 17) (p0.toNatClampNeg)) = (-1 : Int32)
    · have hf := if_t hf hc8
      exact hx.trans (fC_X5_isOn_78_s p0 p1 p2 r2 w hf)
    · have hf := if_f hf hc8
      by_cases hc7 : p1 < (hvi w (x + 17) (p0.toNatClampNeg))
      · have hf := if_t hf hc7
        exact hx.trans (fC_X5_isOn_78_s p0 p1 p2 r2 w hf)
      · have hf := if_f hf hc7
        obtain ⟨h5, hf⟩ := ck_ex hf
        by_cases hc6 : p2 < (hvi w (x + 18) (p0.toNatClampNeg))
        · have hf := if_t hf hc6
          exact hx.trans (fC_X5_isOn_78_s p0 p1 p2 r2 w hf)
        · have hf := if_f hf hc6
          cases some_ex hf
          exact hx
set_option maxHeartbeats 4000000 in
theorem fC_X5_looks_145_e {x : Nat} {M75 : Nat → Int32 → Int32 → Int32 → AH → Option (AH)} {k75 : Int32 → Int32 → Int32 → AH → Option (AH)} (hk75 : ∀ (v1 : Int32) (v2 : Int32) (v3 : Int32) (w : AH), Lay x w → M75 (x + 39) v1 v2 v3 w = k75 v1 v2 v3 w) (v1 : Int32) (v2 : Int32) (v3 : Int32) (w : AH) (hL : Lay x w) : mC_X5_looks_145 M75 (x + 39) v1 v2 v3 w = fC_X5_looks_145 x k75 v1 v2 v3 w := by
  unfold mC_X5_looks_145 fC_X5_looks_145
  exact hk75 v1 v2 (v3 + (1 : Int32)) w hL
set_option maxHeartbeats 4000000 in
theorem fC_X5_looks_75_e {x : Nat} {M75 : Nat → Int32 → Int32 → Int32 → AH → Option (AH)} {k75 : Int32 → Int32 → Int32 → AH → Option (AH)} (hk75 : ∀ (v1 : Int32) (v2 : Int32) (v3 : Int32) (w : AH), Lay x w → M75 (x + 39) v1 v2 v3 w = k75 v1 v2 v3 w) (v1 : Int32) (v2 : Int32) (v3 : Int32) (w : AH) (hL : Lay x w) : mC_X5_looks_75 M75 (x + 39) v1 v2 v3 w = fC_X5_looks_75 x k75 v1 v2 v3 w := by
  unfold mC_X5_looks_75 fC_X5_looks_75
  rewrite [ck_t (kq_39 hL)]
  rewrite [lr_39_6 hL, bd1_s]
  rewrite [ck_t (kq_0 hL)]
  rewrite [lr_0_2 hL, bd1_s]
  rewrite [ck_t (kq_1 hL)]
  rewrite [lr_1_1 hL, bd1_s]
  rewrite [ck_t (kq_4 hL)]
  refine bd1_cg (fun r2 hc1 => ?_)
  refine if_cg (fun hc21 => ?_) (fun hc21 => ?_)
  · rfl
  · rewrite [lr_39_1 hL, bd1_s]
    rewrite [fC_X0_placeOf_e _ _ _ hL]
    refine bd1_cg (fun r4 hc3 => ?_)
    rewrite [al_41 hL]
    refine ck_cg (fun h5 => ?_)
    refine st1_cg (fun w6 hs7 => ?_)
    have hL := Lay.I hs7 hL
    rewrite [ck_t (kq_39 hL)]
    rewrite [lr_39_0 hL, bd1_s]
    rewrite [fC_X5_isOn_e _ _ _ hL]
    refine bd2_cg (fun r10 w9 hc8 => ?_)
    have hL := (fC_X5_isOn_s _ _ _ _ _ _ hc8).1.lay hL
    rewrite [al_40 hL]
    refine ck_cg (fun h11 => ?_)
    refine ck_cg (fun h12 => ?_)
    refine st1_cg (fun w13 hs14 => ?_)
    have hL := Lay.I hs14 hL
    rewrite [ck_t (kq_39 hL)]
    rewrite [lr_39_0 hL, bd1_s]
    rewrite [al_40 hL]
    refine ck_cg (fun h15 => ?_)
    refine if_cg (fun hc20 => ?_) (fun hc20 => ?_)
    · exact fC_X5_looks_145_e hk75 v1 v2 v3 w13 hL
    · rewrite [lr_39_2 hL, bd1_s]
      rewrite [lr_39_1 hL, bd1_s]
      rewrite [al_41 hL]
      refine ck_cg (fun h16 => ?_)
      rewrite [al_42 hL]
      refine ck_cg (fun h17 => ?_)
      refine st1_cg (fun w18 hs19 => ?_)
      have hL := Lay.I hs19 hL
      exact fC_X5_looks_145_e hk75 v1 v2 v3 w18 hL
set_option maxHeartbeats 4000000 in
theorem fC_X5_looks_75_l {x : Nat} : ∀ (n : Nat) (v1 : Int32) (v2 : Int32) (v3 : Int32) (w : AH), Lay x w → lq5 (mC_X5_looks_75) n (x + 39) v1 v2 v3 w = lq4 (fC_X5_looks_75 x) n v1 v2 v3 w
  | 0, _, _, _, _, _ => rfl
  | n + 1, v1, v2, v3, w, hL => fC_X5_looks_75_e (fC_X5_looks_75_l n) v1 v2 v3 w hL
set_option maxHeartbeats 4000000 in
theorem fC_X5_looks_54_e {x : Nat} {M54 : Nat → Int32 → Int32 → Int32 → AH → Option (AH)} {k54 : Int32 → Int32 → Int32 → AH → Option (AH)} (hk54 : ∀ (v1 : Int32) (v2 : Int32) (v3 : Int32) (w : AH), Lay x w → M54 (x + 39) v1 v2 v3 w = k54 v1 v2 v3 w) (v1 : Int32) (v2 : Int32) (v3 : Int32) (w : AH) (hL : Lay x w) : mC_X5_looks_54 M54 (x + 39) v1 v2 v3 w = fC_X5_looks_54 x k54 v1 v2 v3 w := by
  unfold mC_X5_looks_54 fC_X5_looks_54
  refine if_cg (fun hc4 => ?_) (fun hc4 => ?_)
  · exact fC_X5_looks_75_l LF v1 v2 (0 : Int32) w hL
  · rewrite [ck_t (kq_39 hL)]
    rewrite [lr_39_2 hL, bd1_s]
    rewrite [al_42 hL]
    refine ck_cg (fun h1 => ?_)
    refine st1_cg (fun w2 hs3 => ?_)
    have hL := Lay.I hs3 hL
    exact hk54 v1 v2 (v3 + (1 : Int32)) w2 hL
set_option maxHeartbeats 4000000 in
theorem fC_X5_looks_54_l {x : Nat} : ∀ (n : Nat) (v1 : Int32) (v2 : Int32) (v3 : Int32) (w : AH), Lay x w → lq5 (mC_X5_looks_54) n (x + 39) v1 v2 v3 w = lq4 (fC_X5_looks_54 x) n v1 v2 v3 w
  | 0, _, _, _, _, _ => rfl
  | n + 1, v1, v2, v3, w, hL => fC_X5_looks_54_e (fC_X5_looks_54_l n) v1 v2 v3 w hL
set_option maxHeartbeats 4000000 in
theorem fC_X5_looks_31_e {x : Nat} (v1 : Int32) (v2 : Int32) (w : AH) (hL : Lay x w) : mC_X5_looks_31 (x + 39) v1 v2 w = fC_X5_looks_31 x v1 v2 w := by
  unfold mC_X5_looks_31 fC_X5_looks_31
  rewrite [ck_t (kq_39 hL)]
  refine st1_cg (fun w1 hs2 => ?_)
  have hL := Lay.I hs2 hL
  rewrite [ck_t (kq_39 hL)]
  refine st1_cg (fun w3 hs4 => ?_)
  have hL := Lay.I hs4 hL
  rewrite [ck_t (kq_39 hL)]
  rewrite [lr_39_6 hL, bd1_s]
  rewrite [ck_t (kq_0 hL)]
  refine st1_cg (fun w5 hs6 => ?_)
  have hL := Lay.I hs6 hL
  exact fC_X5_looks_54_l LF v1 v2 (0 : Int32) w5 hL
set_option maxHeartbeats 4000000 in
theorem fC_X5_looks_145_s {w' : AH} {x : Nat} {k75 : Int32 → Int32 → Int32 → AH → Option (AH)} (hk75 : ∀ (v1 : Int32) (v2 : Int32) (v3 : Int32) (w : AH), k75 v1 v2 v3 w = some w' → Sc x w w') (v1 : Int32) (v2 : Int32) (v3 : Int32) (w : AH) (hf : fC_X5_looks_145 x k75 v1 v2 v3 w = some w') : Sc x w w' := by
  unfold fC_X5_looks_145 at hf
  have hx := Sc.refl (x := x) w
  exact hx.trans (hk75 v1 v2 (v3 + (1 : Int32)) w hf)
set_option maxHeartbeats 4000000 in
theorem fC_X5_looks_75_s {w' : AH} {x : Nat} {k75 : Int32 → Int32 → Int32 → AH → Option (AH)} (hk75 : ∀ (v1 : Int32) (v2 : Int32) (v3 : Int32) (w : AH), k75 v1 v2 v3 w = some w' → Sc x w w') (v1 : Int32) (v2 : Int32) (v3 : Int32) (w : AH) (hf : fC_X5_looks_75 x k75 v1 v2 v3 w = some w') : Sc x w w' := by
  unfold fC_X5_looks_75 at hf
  have hx := Sc.refl (x := x) w
  obtain ⟨r2, hc1, hf⟩ := bd1_ex hf
  by_cases hc21 : r2 ≤ v3
  · have hf := if_t hf hc21
    cases some_ex hf
    exact hx
  · have hf := if_f hf hc21
    obtain ⟨r4, hc3, hf⟩ := bd1_ex hf
    obtain ⟨h5, hf⟩ := ck_ex hf
    obtain ⟨w6, hs7, hf⟩ := st1_ex hf
    have hx := hx.trans (Sc.Ie hs7 (by unfold cS; omega))
    obtain ⟨r10, w9, hc8, hf⟩ := bd2_ex hf
    have hx := hx.trans (fC_X5_isOn_s _ _ _ _ _ _ hc8)
    obtain ⟨h11, hf⟩ := ck_ex hf
    obtain ⟨h12, hf⟩ := ck_ex hf
    obtain ⟨w13, hs14, hf⟩ := st1_ex hf
    have hx := hx.trans (Sc.Ie hs14 (by unfold cS; omega))
    obtain ⟨h15, hf⟩ := ck_ex hf
    by_cases hc20 : (hvi w13 (x + 40) (v3.toNatClampNeg)) = (0 : Int32)
    · have hf := if_t hf hc20
      exact hx.trans (fC_X5_looks_145_s hk75 v1 v2 v3 w13 hf)
    · have hf := if_f hf hc20
      obtain ⟨h16, hf⟩ := ck_ex hf
      obtain ⟨h17, hf⟩ := ck_ex hf
      obtain ⟨w18, hs19, hf⟩ := st1_ex hf
      have hx := hx.trans (Sc.Ie hs19 (by unfold cS; omega))
      exact hx.trans (fC_X5_looks_145_s hk75 v1 v2 v3 w18 hf)
set_option maxHeartbeats 4000000 in
theorem fC_X5_looks_75_t {w' : AH} {x : Nat} : ∀ (n : Nat) (v1 : Int32) (v2 : Int32) (v3 : Int32) (w : AH), lq4 (fC_X5_looks_75 x) n v1 v2 v3 w = some w' → Sc x w w'
  | 0, _, _, _, _, hf => nomatch hf
  | n + 1, v1, v2, v3, w, hf => fC_X5_looks_75_s (fC_X5_looks_75_t n) v1 v2 v3 w hf
set_option maxHeartbeats 4000000 in
theorem fC_X5_looks_54_s {w' : AH} {x : Nat} {k54 : Int32 → Int32 → Int32 → AH → Option (AH)} (hk54 : ∀ (v1 : Int32) (v2 : Int32) (v3 : Int32) (w : AH), k54 v1 v2 v3 w = some w' → Sc x w w') (v1 : Int32) (v2 : Int32) (v3 : Int32) (w : AH) (hf : fC_X5_looks_54 x k54 v1 v2 v3 w = some w') : Sc x w w' := by
  unfold fC_X5_looks_54 at hf
  have hx := Sc.refl (x := x) w
  by_cases hc4 : (16 : Int32) ≤ v3
  · have hf := if_t hf hc4
    exact hx.trans (fC_X5_looks_75_t LF v1 v2 (0 : Int32) w hf)
  · have hf := if_f hf hc4
    obtain ⟨h1, hf⟩ := ck_ex hf
    obtain ⟨w2, hs3, hf⟩ := st1_ex hf
    have hx := hx.trans (Sc.Ie hs3 (by unfold cS; omega))
    exact hx.trans (hk54 v1 v2 (v3 + (1 : Int32)) w2 hf)
set_option maxHeartbeats 4000000 in
theorem fC_X5_looks_54_t {w' : AH} {x : Nat} : ∀ (n : Nat) (v1 : Int32) (v2 : Int32) (v3 : Int32) (w : AH), lq4 (fC_X5_looks_54 x) n v1 v2 v3 w = some w' → Sc x w w'
  | 0, _, _, _, _, hf => nomatch hf
  | n + 1, v1, v2, v3, w, hf => fC_X5_looks_54_s (fC_X5_looks_54_t n) v1 v2 v3 w hf
set_option maxHeartbeats 4000000 in
theorem fC_X5_looks_31_s {w' : AH} {x : Nat} (v1 : Int32) (v2 : Int32) (w : AH) (hf : fC_X5_looks_31 x v1 v2 w = some w') : Sc x w w' := by
  unfold fC_X5_looks_31 at hf
  have hx := Sc.refl (x := x) w
  obtain ⟨w1, hs2, hf⟩ := st1_ex hf
  have hx := hx.trans (Sc.Ie hs2 (by unfold cS; omega))
  obtain ⟨w3, hs4, hf⟩ := st1_ex hf
  have hx := hx.trans (Sc.Ie hs4 (by unfold cS; omega))
  obtain ⟨w5, hs6, hf⟩ := st1_ex hf
  have hx := hx.trans (Sc.Ie hs6 (by unfold cS; omega))
  exact hx.trans (fC_X5_looks_54_t LF v1 v2 (0 : Int32) w5 hf)
set_option maxHeartbeats 4000000 in
theorem fC_X5_looks_e {x : Nat} {w : AH} (p0 : Int32) (p1 : Int32) (hL : Lay x w) : mC_X5_looks (x + 39) p0 p1 w = fC_X5_looks x p0 p1 w := by
  unfold mC_X5_looks fC_X5_looks
  rewrite [ck_t (kq_39 hL)]
  refine if_cg (fun hc3 => ?_) (fun hc3 => ?_)
  · refine if_cg (fun hc2 => ?_) (fun hc2 => ?_)
    · rewrite [lr_39_6 hL, bd1_s]
      rewrite [ck_t (kq_0 hL)]
      refine if_cg (fun hc1 => ?_) (fun hc1 => ?_)
      · rfl
      · exact fC_X5_looks_31_e p0 p1 w hL
    · exact fC_X5_looks_31_e p0 p1 w hL
  · exact fC_X5_looks_31_e p0 p1 w hL
set_option maxHeartbeats 4000000 in
theorem fC_X5_looks_s {x : Nat} (p0 : Int32) (p1 : Int32) (w : AH) (w' : AH) (hf : fC_X5_looks x p0 p1 w = some w') : Sc x w w' := by
  unfold fC_X5_looks at hf
  have hx := Sc.refl (x := x) w
  by_cases hc3 : (hvi w (x + 39) 3) = p0
  · have hf := if_t hf hc3
    by_cases hc2 : (hvi w (x + 39) 4) = p1
    · have hf := if_t hf hc2
      by_cases hc1 : (hvi w (x + 39) 5) = (hvi w x 1)
      · have hf := if_t hf hc1
        cases some_ex hf
        exact hx
      · have hf := if_f hf hc1
        exact hx.trans (fC_X5_looks_31_s p0 p1 w hf)
    · have hf := if_f hf hc2
      exact hx.trans (fC_X5_looks_31_s p0 p1 w hf)
  · have hf := if_f hf hc3
    exact hx.trans (fC_X5_looks_31_s p0 p1 w hf)
set_option maxHeartbeats 4000000 in
theorem fC_X0_on_e {x : Nat} {w : AH} (p0 : Int32) (p1 : Int32) (p2 : Int32) (hL : Lay x w) : mC_X0_on x p0 p1 p2 w = fC_X0_on x p0 p1 p2 w := by
  unfold mC_X0_on fC_X0_on
  rewrite [ck_t (kq_0 hL)]
  rewrite [fC_X0_isName_e _ hL]
  refine bd1_cg (fun r2 hc1 => ?_)
  refine if_cg (fun hc13 => ?_) (fun hc13 => ?_)
  · rfl
  · refine bd1_cg (fun r4 hc3 => ?_)
    refine if_cg (fun hc12 => ?_) (fun hc12 => ?_)
    · rfl
    · refine bd1_cg (fun r6 hc5 => ?_)
      refine if_cg (fun hc11 => ?_) (fun hc11 => ?_)
      · rfl
      · rewrite [lr_0_9 hL, bd1_s]
        rewrite [ck_t (kq_39 hL)]
        rewrite [fC_X5_looks_e _ _ hL]
        refine bd1_cg (fun w8 hc7 => ?_)
        have hL := (fC_X5_looks_s _ _ _ _ hc7).1.lay hL
        rewrite [ck_t (kq_0 hL)]
        rewrite [lr_0_9 hL, bd1_s]
        rewrite [ck_t (kq_39 hL)]
        rewrite [lr_39_0 hL, bd1_s]
        rewrite [al_40 hL]
        refine ck_cg (fun h9 => ?_)
        refine if_cg (fun hc10 => ?_) (fun hc10 => ?_)
        · rfl
        · rfl
set_option maxHeartbeats 4000000 in
theorem fC_X0_on_s {x : Nat} (p0 : Int32) (p1 : Int32) (p2 : Int32) (w : AH) (r : Int32) (w' : AH) (hf : fC_X0_on x p0 p1 p2 w = some (r, w')) : Sc x w w' := by
  unfold fC_X0_on at hf
  have hx := Sc.refl (x := x) w
  obtain ⟨r2, hc1, hf⟩ := bd1_ex hf
  by_cases hc13 : r2 = (0 : Int32)
  · have hf := if_t hf hc13
    cases some_ex hf
    exact hx
  · have hf := if_f hf hc13
    obtain ⟨r4, hc3, hf⟩ := bd1_ex hf
    by_cases hc12 : r4 = (0 : Int32)
    · have hf := if_t hf hc12
      cases some_ex hf
      exact hx
    · have hf := if_f hf hc12
      obtain ⟨r6, hc5, hf⟩ := bd1_ex hf
      by_cases hc11 : r6 = (0 : Int32)
      · have hf := if_t hf hc11
        cases some_ex hf
        exact hx
      · have hf := if_f hf hc11
        obtain ⟨w8, hc7, hf⟩ := bd1_ex hf
        have hx := hx.trans (fC_X5_looks_s _ _ _ _ hc7)
        obtain ⟨h9, hf⟩ := ck_ex hf
        by_cases hc10 : (hvi w8 (x + 40) (p0.toNatClampNeg)) = (0 : Int32)
        · have hf := if_t hf hc10
          cases some_ex hf
          exact hx
        · have hf := if_f hf hc10
          cases some_ex hf
          exact hx
set_option maxHeartbeats 4000000 in
theorem fC_X0_roll_e {x : Nat} {w : AH} (p0 : Int32) (p1 : Int32) (p2 : Int32) (hL : Lay x w) : mC_X0_roll x p0 p1 p2 w = fC_X0_roll x p0 p1 p2 w := by
  unfold mC_X0_roll fC_X0_roll
  rewrite [ck_t (kq_0 hL)]
  rewrite [fC_X0_isPlace_e _ hL]
  refine bd1_cg (fun r2 hc1 => ?_)
  refine if_cg (fun hc12 => ?_) (fun hc12 => ?_)
  · rfl
  · refine bd1_cg (fun r4 hc3 => ?_)
    refine if_cg (fun hc11 => ?_) (fun hc11 => ?_)
    · rfl
    · refine bd1_cg (fun r6 hc5 => ?_)
      refine if_cg (fun hc10 => ?_) (fun hc10 => ?_)
      · rfl
      · rewrite [lr_0_9 hL, bd1_s]
        rewrite [ck_t (kq_39 hL)]
        rewrite [fC_X5_looks_e _ _ hL]
        refine bd1_cg (fun w8 hc7 => ?_)
        have hL := (fC_X5_looks_s _ _ _ _ hc7).1.lay hL
        rewrite [ck_t (kq_0 hL)]
        rewrite [lr_0_9 hL, bd1_s]
        rewrite [ck_t (kq_39 hL)]
        rewrite [lr_39_2 hL, bd1_s]
        rewrite [al_42 hL]
        refine ck_cg (fun h9 => ?_)
        rfl
set_option maxHeartbeats 4000000 in
theorem fC_X0_roll_s {x : Nat} (p0 : Int32) (p1 : Int32) (p2 : Int32) (w : AH) (r : Int32) (w' : AH) (hf : fC_X0_roll x p0 p1 p2 w = some (r, w')) : Sc x w w' := by
  unfold fC_X0_roll at hf
  have hx := Sc.refl (x := x) w
  obtain ⟨r2, hc1, hf⟩ := bd1_ex hf
  by_cases hc12 : r2 = (0 : Int32)
  · have hf := if_t hf hc12
    cases some_ex hf
    exact hx
  · have hf := if_f hf hc12
    obtain ⟨r4, hc3, hf⟩ := bd1_ex hf
    by_cases hc11 : r4 = (0 : Int32)
    · have hf := if_t hf hc11
      cases some_ex hf
      exact hx
    · have hf := if_f hf hc11
      obtain ⟨r6, hc5, hf⟩ := bd1_ex hf
      by_cases hc10 : r6 = (0 : Int32)
      · have hf := if_t hf hc10
        cases some_ex hf
        exact hx
      · have hf := if_f hf hc10
        obtain ⟨w8, hc7, hf⟩ := bd1_ex hf
        have hx := hx.trans (fC_X5_looks_s _ _ _ _ hc7)
        obtain ⟨h9, hf⟩ := ck_ex hf
        cases some_ex hf
        exact hx
set_option maxHeartbeats 4000000 in
theorem fC_X0_areBarred_102_e {x : Nat} {w : AH} {M2 : Nat → Int32 → Int32 → Int32 → Option (Int32)} {k2 : Int32 → Int32 → Int32 → Option (Int32)} (hk2 : ∀ (v1 : Int32) (v2 : Int32) (v3 : Int32), Lay x w → M2 x v1 v2 v3 = k2 v1 v2 v3) (v1 : Int32) (v2 : Int32) (v3 : Int32) (hL : Lay x w) : mC_X0_areBarred_102 w M2 x v1 v2 v3 = fC_X0_areBarred_102 x w k2 v1 v2 v3 := by
  unfold mC_X0_areBarred_102 fC_X0_areBarred_102
  exact hk2 v1 v2 (v3 + (1 : Int32)) hL
set_option maxHeartbeats 4000000 in
theorem fC_X0_areBarred_58_e {x : Nat} {w : AH} {M2 : Nat → Int32 → Int32 → Int32 → Option (Int32)} {k2 : Int32 → Int32 → Int32 → Option (Int32)} (hk2 : ∀ (v1 : Int32) (v2 : Int32) (v3 : Int32), Lay x w → M2 x v1 v2 v3 = k2 v1 v2 v3) (v1 : Int32) (v2 : Int32) (v3 : Int32) (hL : Lay x w) : mC_X0_areBarred_58 w M2 x v1 v2 v3 = fC_X0_areBarred_58 x w k2 v1 v2 v3 := by
  unfold mC_X0_areBarred_58 fC_X0_areBarred_58
  rewrite [ck_t (kq_0 hL)]
  rewrite [lr_0_2 hL, bd1_s]
  rewrite [ck_t (kq_1 hL)]
  rewrite [lr_1_2 hL, bd1_s]
  rewrite [ck_t (kq_6 hL)]
  refine bd1_cg (fun r2 hc1 => ?_)
  refine ck_cg (fun h3 => ?_)
  refine if_cg (fun hc8 => ?_) (fun hc8 => ?_)
  · refine bd1_cg (fun r5 hc4 => ?_)
    refine ck_cg (fun h6 => ?_)
    refine if_cg (fun hc7 => ?_) (fun hc7 => ?_)
    · rfl
    · exact fC_X0_areBarred_102_e hk2 v1 v2 v3 hL
  · exact fC_X0_areBarred_102_e hk2 v1 v2 v3 hL
set_option maxHeartbeats 4000000 in
theorem fC_X0_areBarred_2_e {x : Nat} {w : AH} {M2 : Nat → Int32 → Int32 → Int32 → Option (Int32)} {k2 : Int32 → Int32 → Int32 → Option (Int32)} (hk2 : ∀ (v1 : Int32) (v2 : Int32) (v3 : Int32), Lay x w → M2 x v1 v2 v3 = k2 v1 v2 v3) (v1 : Int32) (v2 : Int32) (v3 : Int32) (hL : Lay x w) : mC_X0_areBarred_2 w M2 x v1 v2 v3 = fC_X0_areBarred_2 x w k2 v1 v2 v3 := by
  unfold mC_X0_areBarred_2 fC_X0_areBarred_2
  rewrite [ck_t (kq_0 hL)]
  rewrite [lr_0_2 hL, bd1_s]
  rewrite [ck_t (kq_1 hL)]
  rewrite [lr_1_2 hL, bd1_s]
  rewrite [ck_t (kq_6 hL)]
  refine bd1_cg (fun r2 hc1 => ?_)
  refine if_cg (fun hc11 => ?_) (fun hc11 => ?_)
  · rfl
  · refine bd1_cg (fun r4 hc3 => ?_)
    refine ck_cg (fun h5 => ?_)
    refine if_cg (fun hc10 => ?_) (fun hc10 => ?_)
    · refine bd1_cg (fun r7 hc6 => ?_)
      refine ck_cg (fun h8 => ?_)
      refine if_cg (fun hc9 => ?_) (fun hc9 => ?_)
      · rfl
      · exact fC_X0_areBarred_58_e hk2 v1 v2 v3 hL
    · exact fC_X0_areBarred_58_e hk2 v1 v2 v3 hL
set_option maxHeartbeats 4000000 in
theorem fC_X0_areBarred_2_l {x : Nat} {w : AH} : ∀ (n : Nat) (v1 : Int32) (v2 : Int32) (v3 : Int32), Lay x w → lq4 (mC_X0_areBarred_2 w) n x v1 v2 v3 = lq3 (fC_X0_areBarred_2 x w) n v1 v2 v3
  | 0, _, _, _, _ => rfl
  | n + 1, v1, v2, v3, hL => fC_X0_areBarred_2_e (fC_X0_areBarred_2_l n) v1 v2 v3 hL
set_option maxHeartbeats 4000000 in
theorem fC_X0_areBarred_e {x : Nat} {w : AH} (p0 : Int32) (p1 : Int32) (hL : Lay x w) : mC_X0_areBarred x p0 p1 w = fC_X0_areBarred x p0 p1 w := by
  unfold mC_X0_areBarred fC_X0_areBarred
  exact fC_X0_areBarred_2_l LF p0 p1 (0 : Int32) hL
set_option maxHeartbeats 4000000 in
theorem fC_X0_twice_166_e {x : Nat} {M57 : Nat → Int32 → Int32 → Int32 → Int32 → AH → Option (Int32 × AH)} {k57 : Int32 → Int32 → Int32 → Int32 → AH → Option (Int32 × AH)} (hk57 : ∀ (v3 : Int32) (v4 : Int32) (v5 : Int32) (v6 : Int32) (w : AH), Lay x w → M57 x v3 v4 v5 v6 w = k57 v3 v4 v5 v6 w) (v3 : Int32) (v4 : Int32) (v5 : Int32) (v6 : Int32) (w : AH) (hL : Lay x w) : mC_X0_twice_166 M57 x v3 v4 v5 v6 w = fC_X0_twice_166 x k57 v3 v4 v5 v6 w := by
  unfold mC_X0_twice_166 fC_X0_twice_166
  exact hk57 v3 v4 v5 (v6 + (1 : Int32)) w hL
set_option maxHeartbeats 4000000 in
theorem fC_X0_twice_57_e {x : Nat} {M36 : Nat → Int32 → Int32 → Int32 → AH → Option (Int32 × AH)} {k36 : Int32 → Int32 → Int32 → AH → Option (Int32 × AH)} {M57 : Nat → Int32 → Int32 → Int32 → Int32 → AH → Option (Int32 × AH)} {k57 : Int32 → Int32 → Int32 → Int32 → AH → Option (Int32 × AH)} (hk36 : ∀ (v3 : Int32) (v4 : Int32) (v5 : Int32) (w : AH), Lay x w → M36 x v3 v4 v5 w = k36 v3 v4 v5 w) (hk57 : ∀ (v3 : Int32) (v4 : Int32) (v5 : Int32) (v6 : Int32) (w : AH), Lay x w → M57 x v3 v4 v5 v6 w = k57 v3 v4 v5 v6 w) (v3 : Int32) (v4 : Int32) (v5 : Int32) (v6 : Int32) (w : AH) (hL : Lay x w) : mC_X0_twice_57 M36 M57 x v3 v4 v5 v6 w = fC_X0_twice_57 x k36 k57 v3 v4 v5 v6 w := by
  unfold mC_X0_twice_57 fC_X0_twice_57
  rewrite [ck_t (kq_0 hL)]
  rewrite [lr_0_2 hL, bd1_s]
  rewrite [ck_t (kq_1 hL)]
  rewrite [lr_1_1 hL, bd1_s]
  rewrite [ck_t (kq_4 hL)]
  refine bd1_cg (fun r2 hc1 => ?_)
  refine if_cg (fun hc17 => ?_) (fun hc17 => ?_)
  · exact hk36 v3 v4 (v5 + (1 : Int32)) w hL
  · rewrite [lr_0_9 hL, bd1_s]
    rewrite [ck_t (kq_39 hL)]
    rewrite [lr_39_0 hL, bd1_s]
    rewrite [al_40 hL]
    refine ck_cg (fun h3 => ?_)
    refine if_cg (fun hc16 => ?_) (fun hc16 => ?_)
    · exact fC_X0_twice_166_e hk57 v3 v4 v5 v6 w hL
    · rewrite [al_40 hL]
      refine ck_cg (fun h4 => ?_)
      refine if_cg (fun hc15 => ?_) (fun hc15 => ?_)
      · exact fC_X0_twice_166_e hk57 v3 v4 v5 v6 w hL
      · rewrite [lr_39_1 hL, bd1_s]
        rewrite [al_41 hL]
        refine ck_cg (fun h5 => ?_)
        rewrite [al_41 hL]
        refine ck_cg (fun h6 => ?_)
        refine if_cg (fun hc14 => ?_) (fun hc14 => ?_)
        · exact fC_X0_twice_166_e hk57 v3 v4 v5 v6 w hL
        · rewrite [fC_X0_likeOf_e _ _ hL]
          refine bd1_cg (fun r8 hc7 => ?_)
          refine if_cg (fun hc13 => ?_) (fun hc13 => ?_)
          · exact fC_X0_twice_166_e hk57 v3 v4 v5 v6 w hL
          · rewrite [fC_X0_areBarred_e _ _ hL]
            refine bd1_cg (fun r10 hc9 => ?_)
            refine if_cg (fun hc12 => ?_) (fun hc12 => ?_)
            · refine if_cg (fun hc11 => ?_) (fun hc11 => ?_)
              · rfl
              · exact fC_X0_twice_166_e hk57 v3 (v4 + (1 : Int32)) v5 v6 w hL
            · exact fC_X0_twice_166_e hk57 v3 v4 v5 v6 w hL
set_option maxHeartbeats 4000000 in
theorem fC_X0_twice_57_l {x : Nat} {M36 : Nat → Int32 → Int32 → Int32 → AH → Option (Int32 × AH)} {k36 : Int32 → Int32 → Int32 → AH → Option (Int32 × AH)} (hk36 : ∀ (v3 : Int32) (v4 : Int32) (v5 : Int32) (w : AH), Lay x w → M36 x v3 v4 v5 w = k36 v3 v4 v5 w) : ∀ (n : Nat) (v3 : Int32) (v4 : Int32) (v5 : Int32) (v6 : Int32) (w : AH), Lay x w → lq6 (mC_X0_twice_57 M36) n x v3 v4 v5 v6 w = lq5 (fC_X0_twice_57 x k36) n v3 v4 v5 v6 w
  | 0, _, _, _, _, _, _ => rfl
  | n + 1, v3, v4, v5, v6, w, hL => fC_X0_twice_57_e hk36 (fC_X0_twice_57_l hk36 n) v3 v4 v5 v6 w hL
set_option maxHeartbeats 4000000 in
theorem fC_X0_twice_36_e {x : Nat} {M36 : Nat → Int32 → Int32 → Int32 → AH → Option (Int32 × AH)} {k36 : Int32 → Int32 → Int32 → AH → Option (Int32 × AH)} (hk36 : ∀ (v3 : Int32) (v4 : Int32) (v5 : Int32) (w : AH), Lay x w → M36 x v3 v4 v5 w = k36 v3 v4 v5 w) (v3 : Int32) (v4 : Int32) (v5 : Int32) (w : AH) (hL : Lay x w) : mC_X0_twice_36 M36 x v3 v4 v5 w = fC_X0_twice_36 x k36 v3 v4 v5 w := by
  unfold mC_X0_twice_36 fC_X0_twice_36
  rewrite [ck_t (kq_0 hL)]
  rewrite [lr_0_2 hL, bd1_s]
  rewrite [ck_t (kq_1 hL)]
  rewrite [lr_1_1 hL, bd1_s]
  rewrite [ck_t (kq_4 hL)]
  refine bd1_cg (fun r2 hc1 => ?_)
  refine if_cg (fun hc4 => ?_) (fun hc4 => ?_)
  · refine if_cg (fun hc3 => ?_) (fun hc3 => ?_)
    · rfl
    · rfl
  · exact fC_X0_twice_57_l hk36 LF v3 v4 v5 (v5 + (1 : Int32)) w hL
set_option maxHeartbeats 4000000 in
theorem fC_X0_twice_36_l {x : Nat} : ∀ (n : Nat) (v3 : Int32) (v4 : Int32) (v5 : Int32) (w : AH), Lay x w → lq5 (mC_X0_twice_36) n x v3 v4 v5 w = lq4 (fC_X0_twice_36 x) n v3 v4 v5 w
  | 0, _, _, _, _, _ => rfl
  | n + 1, v3, v4, v5, w, hL => fC_X0_twice_36_e (fC_X0_twice_36_l n) v3 v4 v5 w hL
set_option maxHeartbeats 4000000 in
theorem fC_X0_twice_166_s {r : Int32} {w' : AH} {x : Nat} {k57 : Int32 → Int32 → Int32 → Int32 → AH → Option (Int32 × AH)} (hk57 : ∀ (v3 : Int32) (v4 : Int32) (v5 : Int32) (v6 : Int32) (w : AH), k57 v3 v4 v5 v6 w = some (r, w') → Sc x w w') (v3 : Int32) (v4 : Int32) (v5 : Int32) (v6 : Int32) (w : AH) (hf : fC_X0_twice_166 x k57 v3 v4 v5 v6 w = some (r, w')) : Sc x w w' := by
  unfold fC_X0_twice_166 at hf
  have hx := Sc.refl (x := x) w
  exact hx.trans (hk57 v3 v4 v5 (v6 + (1 : Int32)) w hf)
set_option maxHeartbeats 4000000 in
theorem fC_X0_twice_57_s {r : Int32} {w' : AH} {x : Nat} {k36 : Int32 → Int32 → Int32 → AH → Option (Int32 × AH)} {k57 : Int32 → Int32 → Int32 → Int32 → AH → Option (Int32 × AH)} (hk36 : ∀ (v3 : Int32) (v4 : Int32) (v5 : Int32) (w : AH), k36 v3 v4 v5 w = some (r, w') → Sc x w w') (hk57 : ∀ (v3 : Int32) (v4 : Int32) (v5 : Int32) (v6 : Int32) (w : AH), k57 v3 v4 v5 v6 w = some (r, w') → Sc x w w') (v3 : Int32) (v4 : Int32) (v5 : Int32) (v6 : Int32) (w : AH) (hf : fC_X0_twice_57 x k36 k57 v3 v4 v5 v6 w = some (r, w')) : Sc x w w' := by
  unfold fC_X0_twice_57 at hf
  have hx := Sc.refl (x := x) w
  obtain ⟨r2, hc1, hf⟩ := bd1_ex hf
  by_cases hc17 : r2 ≤ v6
  · have hf := if_t hf hc17
    exact hx.trans (hk36 v3 v4 (v5 + (1 : Int32)) w hf)
  · have hf := if_f hf hc17
    obtain ⟨h3, hf⟩ := ck_ex hf
    by_cases hc16 : (hvi w (x + 40) (v5.toNatClampNeg)) = (0 : Int32)
    · have hf := if_t hf hc16
      exact hx.trans (fC_X0_twice_166_s hk57 v3 v4 v5 v6 w hf)
    · have hf := if_f hf hc16
      obtain ⟨h4, hf⟩ := ck_ex hf
      by_cases hc15 : (hvi w (x + 40) (v6.toNatClampNeg)) = (0 : Int32)
      · have hf := if_t hf hc15
        exact hx.trans (fC_X0_twice_166_s hk57 v3 v4 v5 v6 w hf)
      · have hf := if_f hf hc15
        obtain ⟨h5, hf⟩ := ck_ex hf
        obtain ⟨h6, hf⟩ := ck_ex hf
        by_cases hc14 : (hvi w (x + 41) (v5.toNatClampNeg)) = (hvi w (x + 41) (v6.toNatClampNeg))
        · have hf := if_t hf hc14
          exact hx.trans (fC_X0_twice_166_s hk57 v3 v4 v5 v6 w hf)
        · have hf := if_f hf hc14
          obtain ⟨r8, hc7, hf⟩ := bd1_ex hf
          by_cases hc13 : r8 < (5 : Int32)
          · have hf := if_t hf hc13
            exact hx.trans (fC_X0_twice_166_s hk57 v3 v4 v5 v6 w hf)
          · have hf := if_f hf hc13
            obtain ⟨r10, hc9, hf⟩ := bd1_ex hf
            by_cases hc12 : r10 = (0 : Int32)
            · have hf := if_t hf hc12
              by_cases hc11 : v4 = v3
              · have hf := if_t hf hc11
                cases some_ex hf
                exact hx
              · have hf := if_f hf hc11
                exact hx.trans (fC_X0_twice_166_s hk57 v3 (v4 + (1 : Int32)) v5 v6 w hf)
            · have hf := if_f hf hc12
              exact hx.trans (fC_X0_twice_166_s hk57 v3 v4 v5 v6 w hf)
set_option maxHeartbeats 4000000 in
theorem fC_X0_twice_57_t {r : Int32} {w' : AH} {x : Nat} {k36 : Int32 → Int32 → Int32 → AH → Option (Int32 × AH)} (hk36 : ∀ (v3 : Int32) (v4 : Int32) (v5 : Int32) (w : AH), k36 v3 v4 v5 w = some (r, w') → Sc x w w') : ∀ (n : Nat) (v3 : Int32) (v4 : Int32) (v5 : Int32) (v6 : Int32) (w : AH), lq5 (fC_X0_twice_57 x k36) n v3 v4 v5 v6 w = some (r, w') → Sc x w w'
  | 0, _, _, _, _, _, hf => nomatch hf
  | n + 1, v3, v4, v5, v6, w, hf => fC_X0_twice_57_s hk36 (fC_X0_twice_57_t hk36 n) v3 v4 v5 v6 w hf
set_option maxHeartbeats 4000000 in
theorem fC_X0_twice_36_s {r : Int32} {w' : AH} {x : Nat} {k36 : Int32 → Int32 → Int32 → AH → Option (Int32 × AH)} (hk36 : ∀ (v3 : Int32) (v4 : Int32) (v5 : Int32) (w : AH), k36 v3 v4 v5 w = some (r, w') → Sc x w w') (v3 : Int32) (v4 : Int32) (v5 : Int32) (w : AH) (hf : fC_X0_twice_36 x k36 v3 v4 v5 w = some (r, w')) : Sc x w w' := by
  unfold fC_X0_twice_36 at hf
  have hx := Sc.refl (x := x) w
  obtain ⟨r2, hc1, hf⟩ := bd1_ex hf
  by_cases hc4 : r2 ≤ v5
  · have hf := if_t hf hc4
    by_cases hc3 : v3 = (-1 : Int32)
    · have hf := if_t hf hc3
      cases some_ex hf
      exact hx
    · have hf := if_f hf hc3
      cases some_ex hf
      exact hx
  · have hf := if_f hf hc4
    exact hx.trans (fC_X0_twice_57_t hk36 LF v3 v4 v5 (v5 + (1 : Int32)) w hf)
set_option maxHeartbeats 4000000 in
theorem fC_X0_twice_36_t {r : Int32} {w' : AH} {x : Nat} : ∀ (n : Nat) (v3 : Int32) (v4 : Int32) (v5 : Int32) (w : AH), lq4 (fC_X0_twice_36 x) n v3 v4 v5 w = some (r, w') → Sc x w w'
  | 0, _, _, _, _, hf => nomatch hf
  | n + 1, v3, v4, v5, w, hf => fC_X0_twice_36_s (fC_X0_twice_36_t n) v3 v4 v5 w hf
set_option maxHeartbeats 4000000 in
theorem fC_X0_twice_e {x : Nat} {w : AH} (p0 : Int32) (p1 : Int32) (p2 : Int32) (hL : Lay x w) : mC_X0_twice x p0 p1 p2 w = fC_X0_twice x p0 p1 p2 w := by
  unfold mC_X0_twice fC_X0_twice
  refine bd1_cg (fun r2 hc1 => ?_)
  refine if_cg (fun hc9 => ?_) (fun hc9 => ?_)
  · rfl
  · refine bd1_cg (fun r4 hc3 => ?_)
    refine if_cg (fun hc8 => ?_) (fun hc8 => ?_)
    · rfl
    · refine if_cg (fun hc7 => ?_) (fun hc7 => ?_)
      · rewrite [ck_t (kq_0 hL)]
        rewrite [lr_0_9 hL, bd1_s]
        rewrite [ck_t (kq_39 hL)]
        rewrite [fC_X5_looks_e _ _ hL]
        refine bd1_cg (fun w6 hc5 => ?_)
        have hL := (fC_X5_looks_s _ _ _ _ hc5).1.lay hL
        exact fC_X0_twice_36_l LF p2 (0 : Int32) (0 : Int32) w6 hL
      · rfl
set_option maxHeartbeats 4000000 in
theorem fC_X0_twice_s {x : Nat} (p0 : Int32) (p1 : Int32) (p2 : Int32) (w : AH) (r : Int32) (w' : AH) (hf : fC_X0_twice x p0 p1 p2 w = some (r, w')) : Sc x w w' := by
  unfold fC_X0_twice at hf
  have hx := Sc.refl (x := x) w
  obtain ⟨r2, hc1, hf⟩ := bd1_ex hf
  by_cases hc9 : r2 = (0 : Int32)
  · have hf := if_t hf hc9
    cases some_ex hf
    exact hx
  · have hf := if_f hf hc9
    obtain ⟨r4, hc3, hf⟩ := bd1_ex hf
    by_cases hc8 : r4 = (0 : Int32)
    · have hf := if_t hf hc8
      cases some_ex hf
      exact hx
    · have hf := if_f hf hc8
      by_cases hc7 : (-1 : Int32) ≤ p2
      · have hf := if_t hf hc7
        obtain ⟨w6, hc5, hf⟩ := bd1_ex hf
        have hx := hx.trans (fC_X5_looks_s _ _ _ _ hc5)
        exact hx.trans (fC_X0_twice_36_t LF p2 (0 : Int32) (0 : Int32) w6 hf)
      · have hf := if_f hf hc7
        cases some_ex hf
        exact hx
set_option maxHeartbeats 4000000 in
theorem fC_X0_fewOn_e {x : Nat} {w : AH} (p0 : Int32) (hL : Lay x w) : mC_X0_fewOn x p0 w = fC_X0_fewOn x p0 w := by
  unfold mC_X0_fewOn fC_X0_fewOn
  rewrite [ck_t (kq_0 hL)]
  rewrite [fC_X0_asks_e _ hL]
  refine bd1_cg (fun w2 hc1 => ?_)
  have hL := (fC_X0_asks_s _ _ _ hc1).1.lay hL
  rewrite [ck_t (kq_0 hL)]
  rewrite [fC_X0_last_e _ _ _ hL]
  refine bd2_cg (fun r5 w4 hc3 => ?_)
  have hL := (fC_X0_last_s _ _ _ _ _ _ hc3).1.lay hL
  refine bd1_cg (fun r7 hc6 => ?_)
  rfl
set_option maxHeartbeats 4000000 in
theorem fC_X0_fewOn_s {x : Nat} (p0 : Int32) (w : AH) (r : Int32) (w' : AH) (hf : fC_X0_fewOn x p0 w = some (r, w')) : Sc x w w' := by
  unfold fC_X0_fewOn at hf
  have hx := Sc.refl (x := x) w
  obtain ⟨w2, hc1, hf⟩ := bd1_ex hf
  have hx := hx.trans (fC_X0_asks_s _ _ _ hc1).sc
  obtain ⟨r5, w4, hc3, hf⟩ := bd2_ex hf
  have hx := hx.trans (fC_X0_last_s _ _ _ _ _ _ hc3)
  obtain ⟨r7, hc6, hf⟩ := bd1_ex hf
  cases some_ex hf
  exact hx
set_option maxHeartbeats 4000000 in
theorem fC_X0_asksPlace_e {x : Nat} {w : AH} (p0 : Int32) (p1 : Int32) (hL : Lay x w) : mC_X0_asksPlace x p0 p1 w = fC_X0_asksPlace x p0 p1 w := by
  unfold mC_X0_asksPlace fC_X0_asksPlace
  rewrite [ck_t (kq_0 hL)]
  rewrite [fC_X0_asks_e _ hL]
  refine bd1_cg (fun w2 hc1 => ?_)
  have hL := (fC_X0_asks_s _ _ _ hc1).1.lay hL
  rewrite [ck_t (kq_0 hL)]
  rewrite [lr_0_8 hL, bd1_s]
  rewrite [ck_t (kq_35 hL)]
  rewrite [lr_35_1 hL, bd1_s]
  rewrite [al_37 hL]
  refine ck_cg (fun h3 => ?_)
  refine st1_cg (fun w4 hs5 => ?_)
  have hL := Lay.L hs5 hL
  rewrite [ck_t (kq_0 hL)]
  rewrite [lr_0_8 hL, bd1_s]
  rewrite [ck_t (kq_35 hL)]
  rewrite [lr_35_1 hL, bd1_s]
  rewrite [lr_0_2 hL, bd1_s]
  rewrite [ck_t (kq_1 hL)]
  rewrite [lr_1_6 hL, bd1_s]
  rewrite [al_14 hL]
  refine ck_cg (fun h6 => ?_)
  rewrite [al_37 hL]
  refine ck_cg (fun h7 => ?_)
  refine st1_cg (fun w8 hs9 => ?_)
  have hL := Lay.L hs9 hL
  rewrite [ck_t (kq_0 hL)]
  rewrite [lr_0_8 hL, bd1_s]
  rewrite [ck_t (kq_35 hL)]
  rewrite [lr_35_1 hL, bd1_s]
  rewrite [lr_0_9 hL, bd1_s]
  rewrite [ck_t (kq_39 hL)]
  rewrite [lr_39_2 hL, bd1_s]
  rewrite [al_42 hL]
  refine ck_cg (fun h10 => ?_)
  rewrite [al_37 hL]
  refine ck_cg (fun h11 => ?_)
  refine st1_cg (fun w12 hs13 => ?_)
  have hL := Lay.L hs13 hL
  rfl
set_option maxHeartbeats 4000000 in
theorem fC_X0_asksPlace_s {x : Nat} (p0 : Int32) (p1 : Int32) (w : AH) (w' : AH) (hf : fC_X0_asksPlace x p0 p1 w = some w') : Sd x w w' := by
  unfold fC_X0_asksPlace at hf
  have hx := Sd.refl (x := x) w
  obtain ⟨w2, hc1, hf⟩ := bd1_ex hf
  have hx := hx.trans (fC_X0_asks_s _ _ _ hc1)
  obtain ⟨h3, hf⟩ := ck_ex hf
  obtain ⟨w4, hs5, hf⟩ := st1_ex hf
  have hx := hx.trans (Sd.Le hs5 (by omega))
  obtain ⟨h6, hf⟩ := ck_ex hf
  obtain ⟨h7, hf⟩ := ck_ex hf
  obtain ⟨w8, hs9, hf⟩ := st1_ex hf
  have hx := hx.trans (Sd.Le hs9 (by omega))
  obtain ⟨h10, hf⟩ := ck_ex hf
  obtain ⟨h11, hf⟩ := ck_ex hf
  obtain ⟨w12, hs13, hf⟩ := st1_ex hf
  have hx := hx.trans (Sd.Le hs13 (by omega))
  cases some_ex hf
  exact hx
set_option maxHeartbeats 4000000 in
theorem fC_X0_ruleOf_e {x : Nat} {w : AH} (p0 : Int32) (p1 : Int32) (p2 : Int32) (p3 : Int32) (hL : Lay x w) : mC_X0_ruleOf x p0 p1 p2 p3 w = fC_X0_ruleOf x p0 p1 p2 p3 w := by
  unfold mC_X0_ruleOf fC_X0_ruleOf
  rewrite [ck_t (kq_0 hL)]
  rewrite [fC_X0_asksPlace_e _ _ hL]
  refine bd1_cg (fun w2 hc1 => ?_)
  have hL := (fC_X0_asksPlace_s _ _ _ _ hc1).1.lay hL
  rewrite [ck_t (kq_0 hL)]
  rewrite [fC_X0_last_e _ _ _ hL]
  refine bd2_cg (fun r5 w4 hc3 => ?_)
  have hL := (fC_X0_last_s _ _ _ _ _ _ hc3).1.lay hL
  refine bd1_cg (fun r7 hc6 => ?_)
  rfl
set_option maxHeartbeats 4000000 in
theorem fC_X0_ruleOf_s {x : Nat} (p0 : Int32) (p1 : Int32) (p2 : Int32) (p3 : Int32) (w : AH) (r : Int32) (w' : AH) (hf : fC_X0_ruleOf x p0 p1 p2 p3 w = some (r, w')) : Sc x w w' := by
  unfold fC_X0_ruleOf at hf
  have hx := Sc.refl (x := x) w
  obtain ⟨w2, hc1, hf⟩ := bd1_ex hf
  have hx := hx.trans (fC_X0_asksPlace_s _ _ _ _ hc1).sc
  obtain ⟨r5, w4, hc3, hf⟩ := bd2_ex hf
  have hx := hx.trans (fC_X0_last_s _ _ _ _ _ _ hc3)
  obtain ⟨r7, hc6, hf⟩ := bd1_ex hf
  cases some_ex hf
  exact hx
set_option maxHeartbeats 4000000 in
theorem fC_X0_rule_40_e {x : Nat} (v1 : Int32) (v2 : Int32) (v3 : Int32) (v4 : Int32) (w : AH) (hL : Lay x w) : mC_X0_rule_40 x v1 v2 v3 v4 w = fC_X0_rule_40 x v1 v2 v3 v4 w := by
  unfold mC_X0_rule_40 fC_X0_rule_40
  rewrite [ck_t (kq_0 hL)]
  rewrite [lr_0_9 hL, bd1_s]
  rewrite [ck_t (kq_39 hL)]
  rewrite [fC_X5_looks_e _ _ hL]
  refine bd1_cg (fun w2 hc1 => ?_)
  have hL := (fC_X5_looks_s _ _ _ _ hc1).1.lay hL
  refine if_cg (fun hc13 => ?_) (fun hc13 => ?_)
  · rewrite [ck_t (kq_0 hL)]
    rewrite [fC_X0_fewOn_e _ hL]
    refine bd2_cg (fun r12 w11 hc10 => ?_)
    have hL := (fC_X0_fewOn_s _ _ _ _ hc10).1.lay hL
    rfl
  · refine if_cg (fun hc9 => ?_) (fun hc9 => ?_)
    · rewrite [ck_t (kq_0 hL)]
      rewrite [fC_X0_ruleOf_e _ _ _ _ hL]
      refine bd2_cg (fun r8 w7 hc6 => ?_)
      have hL := (fC_X0_ruleOf_s _ _ _ _ _ _ _ hc6).1.lay hL
      rfl
    · rewrite [ck_t (kq_0 hL)]
      rewrite [fC_X0_ruleOf_e _ _ _ _ hL]
      refine bd2_cg (fun r5 w4 hc3 => ?_)
      have hL := (fC_X0_ruleOf_s _ _ _ _ _ _ _ hc3).1.lay hL
      rfl
set_option maxHeartbeats 4000000 in
theorem fC_X0_rule_40_s {r : Int32} {w' : AH} {x : Nat} (v1 : Int32) (v2 : Int32) (v3 : Int32) (v4 : Int32) (w : AH) (hf : fC_X0_rule_40 x v1 v2 v3 v4 w = some (r, w')) : Sc x w w' := by
  unfold fC_X0_rule_40 at hf
  have hx := Sc.refl (x := x) w
  obtain ⟨w2, hc1, hf⟩ := bd1_ex hf
  have hx := hx.trans (fC_X5_looks_s _ _ _ _ hc1)
  by_cases hc13 : v4 = (2 : Int32)
  · have hf := if_t hf hc13
    obtain ⟨r12, w11, hc10, hf⟩ := bd2_ex hf
    have hx := hx.trans (fC_X0_fewOn_s _ _ _ _ hc10)
    cases some_ex hf
    exact hx
  · have hf := if_f hf hc13
    by_cases hc9 : v4 = (0 : Int32)
    · have hf := if_t hf hc9
      obtain ⟨r8, w7, hc6, hf⟩ := bd2_ex hf
      have hx := hx.trans (fC_X0_ruleOf_s _ _ _ _ _ _ _ hc6)
      cases some_ex hf
      exact hx
    · have hf := if_f hf hc9
      obtain ⟨r5, w4, hc3, hf⟩ := bd2_ex hf
      have hx := hx.trans (fC_X0_ruleOf_s _ _ _ _ _ _ _ hc3)
      cases some_ex hf
      exact hx
set_option maxHeartbeats 4000000 in
theorem fC_X0_rule_e {x : Nat} {w : AH} (p0 : Int32) (p1 : Int32) (p2 : Int32) (p3 : Int32) (hL : Lay x w) : mC_X0_rule x p0 p1 p2 p3 w = fC_X0_rule x p0 p1 p2 p3 w := by
  unfold mC_X0_rule fC_X0_rule
  refine bd1_cg (fun r2 hc1 => ?_)
  refine if_cg (fun hc13 => ?_) (fun hc13 => ?_)
  · rfl
  · refine bd1_cg (fun r4 hc3 => ?_)
    refine if_cg (fun hc12 => ?_) (fun hc12 => ?_)
    · rfl
    · refine bd1_cg (fun r6 hc5 => ?_)
      refine if_cg (fun hc11 => ?_) (fun hc11 => ?_)
      · rfl
      · refine if_cg (fun hc10 => ?_) (fun hc10 => ?_)
        · exact fC_X0_rule_40_e p0 p1 p2 p3 w hL
        · rewrite [ck_t (kq_0 hL)]
          rewrite [fC_X0_isPlace_e _ hL]
          refine bd1_cg (fun r8 hc7 => ?_)
          refine if_cg (fun hc9 => ?_) (fun hc9 => ?_)
          · rfl
          · exact fC_X0_rule_40_e p0 p1 p2 p3 w hL
set_option maxHeartbeats 4000000 in
theorem fC_X0_rule_s {x : Nat} (p0 : Int32) (p1 : Int32) (p2 : Int32) (p3 : Int32) (w : AH) (r : Int32) (w' : AH) (hf : fC_X0_rule x p0 p1 p2 p3 w = some (r, w')) : Sc x w w' := by
  unfold fC_X0_rule at hf
  have hx := Sc.refl (x := x) w
  obtain ⟨r2, hc1, hf⟩ := bd1_ex hf
  by_cases hc13 : r2 = (0 : Int32)
  · have hf := if_t hf hc13
    cases some_ex hf
    exact hx
  · have hf := if_f hf hc13
    obtain ⟨r4, hc3, hf⟩ := bd1_ex hf
    by_cases hc12 : r4 = (0 : Int32)
    · have hf := if_t hf hc12
      cases some_ex hf
      exact hx
    · have hf := if_f hf hc12
      obtain ⟨r6, hc5, hf⟩ := bd1_ex hf
      by_cases hc11 : r6 = (0 : Int32)
      · have hf := if_t hf hc11
        cases some_ex hf
        exact hx
      · have hf := if_f hf hc11
        by_cases hc10 : (2 : Int32) ≤ p3
        · have hf := if_t hf hc10
          exact hx.trans (fC_X0_rule_40_s p0 p1 p2 p3 w hf)
        · have hf := if_f hf hc10
          obtain ⟨r8, hc7, hf⟩ := bd1_ex hf
          by_cases hc9 : r8 = (0 : Int32)
          · have hf := if_t hf hc9
            cases some_ex hf
            exact hx
          · have hf := if_f hf hc9
            exact hx.trans (fC_X0_rule_40_s p0 p1 p2 p3 w hf)
set_option maxHeartbeats 4000000 in
theorem fC_X0_wish_17_e {x : Nat} {M17 : Nat → Int32 → Int32 → AH → Option (Int32 × AH)} {k17 : Int32 → Int32 → AH → Option (Int32 × AH)} (hk17 : ∀ (v1 : Int32) (v2 : Int32) (w : AH), Lay x w → M17 x v1 v2 w = k17 v1 v2 w) (v1 : Int32) (v2 : Int32) (w : AH) (hL : Lay x w) : mC_X0_wish_17 M17 x v1 v2 w = fC_X0_wish_17 x k17 v1 v2 w := by
  unfold mC_X0_wish_17 fC_X0_wish_17
  rewrite [ck_t (kq_0 hL)]
  refine if_cg (fun hc24 => ?_) (fun hc24 => ?_)
  · refine if_cg (fun hc18 => ?_) (fun hc18 => ?_)
    · rewrite [fC_X0_refuse_e _ hL]
      refine bd2_cg (fun r17 w16 hc15 => ?_)
      have hL := (fC_X0_refuse_s _ _ _ _ hc15).1.lay hL
      rfl
    · rewrite [lr_0_10 hL, bd1_s]
      rewrite [al_43 hL]
      refine ck_cg (fun h1 => ?_)
      refine st1_cg (fun w2 hs3 => ?_)
      have hL := Lay.I hs3 hL
      rewrite [ck_t (kq_0 hL)]
      rewrite [lr_0_11 hL, bd1_s]
      rewrite [al_44 hL]
      refine ck_cg (fun h4 => ?_)
      refine st1_cg (fun w5 hs6 => ?_)
      have hL := Lay.I hs6 hL
      rewrite [ck_t (kq_0 hL)]
      rewrite [lr_0_12 hL, bd1_s]
      rewrite [al_45 hL]
      refine ck_cg (fun h7 => ?_)
      refine st1_cg (fun w8 hs9 => ?_)
      have hL := Lay.I hs9 hL
      rewrite [ck_t (kq_0 hL)]
      refine st1_cg (fun w10 hs11 => ?_)
      have hL := Lay.I hs11 hL
      rewrite [ck_t (kq_0 hL)]
      rewrite [fC_X0_done_e _ hL]
      refine bd2_cg (fun r14 w13 hc12 => ?_)
      have hL := (fC_X0_done_s _ _ _ _ hc12).1.lay hL
      rfl
  · rewrite [lr_0_10 hL, bd1_s]
    rewrite [al_43 hL]
    refine ck_cg (fun h19 => ?_)
    refine if_cg (fun hc23 => ?_) (fun hc23 => ?_)
    · rewrite [fC_X0_refuse_e _ hL]
      refine bd2_cg (fun r22 w21 hc20 => ?_)
      have hL := (fC_X0_refuse_s _ _ _ _ hc20).1.lay hL
      rfl
    · exact hk17 v1 (v2 + (1 : Int32)) w hL
set_option maxHeartbeats 4000000 in
theorem fC_X0_wish_17_l {x : Nat} : ∀ (n : Nat) (v1 : Int32) (v2 : Int32) (w : AH), Lay x w → lq4 (mC_X0_wish_17) n x v1 v2 w = lq3 (fC_X0_wish_17 x) n v1 v2 w
  | 0, _, _, _, _ => rfl
  | n + 1, v1, v2, w, hL => fC_X0_wish_17_e (fC_X0_wish_17_l n) v1 v2 w hL
set_option maxHeartbeats 4000000 in
theorem fC_X0_wish_17_s {r : Int32} {w' : AH} {x : Nat} {k17 : Int32 → Int32 → AH → Option (Int32 × AH)} (hk17 : ∀ (v1 : Int32) (v2 : Int32) (w : AH), k17 v1 v2 w = some (r, w') → Sx x w w') (v1 : Int32) (v2 : Int32) (w : AH) (hf : fC_X0_wish_17 x k17 v1 v2 w = some (r, w')) : Sx x w w' := by
  unfold fC_X0_wish_17 at hf
  have hx := Sx.refl (x := x) w
  by_cases hc24 : (hvi w x 19) ≤ v2
  · have hf := if_t hf hc24
    by_cases hc18 : (hvi w x 19) = (7 : Int32)
    · have hf := if_t hf hc18
      obtain ⟨r17, w16, hc15, hf⟩ := bd2_ex hf
      have hx := hx.trans (fC_X0_refuse_s _ _ _ _ hc15)
      cases some_ex hf
      exact hx
    · have hf := if_f hf hc18
      obtain ⟨h1, hf⟩ := ck_ex hf
      obtain ⟨w2, hs3, hf⟩ := st1_ex hf
      have hx := hx.trans (Sx.Ie hs3 (by omega))
      obtain ⟨h4, hf⟩ := ck_ex hf
      obtain ⟨w5, hs6, hf⟩ := st1_ex hf
      have hx := hx.trans (Sx.Ie hs6 (by omega))
      obtain ⟨h7, hf⟩ := ck_ex hf
      obtain ⟨w8, hs9, hf⟩ := st1_ex hf
      have hx := hx.trans (Sx.Ie hs9 (by omega))
      obtain ⟨w10, hs11, hf⟩ := st1_ex hf
      have hx := hx.trans (Sx.Ie hs11 (by omega))
      obtain ⟨r14, w13, hc12, hf⟩ := bd2_ex hf
      have hx := hx.trans (fC_X0_done_s _ _ _ _ hc12)
      cases some_ex hf
      exact hx
  · have hf := if_f hf hc24
    obtain ⟨h19, hf⟩ := ck_ex hf
    by_cases hc23 : (hvi w (x + 43) (v2.toNatClampNeg)) = v1
    · have hf := if_t hf hc23
      obtain ⟨r22, w21, hc20, hf⟩ := bd2_ex hf
      have hx := hx.trans (fC_X0_refuse_s _ _ _ _ hc20)
      cases some_ex hf
      exact hx
    · have hf := if_f hf hc23
      exact hx.trans (hk17 v1 (v2 + (1 : Int32)) w hf)
set_option maxHeartbeats 4000000 in
theorem fC_X0_wish_17_t {r : Int32} {w' : AH} {x : Nat} : ∀ (n : Nat) (v1 : Int32) (v2 : Int32) (w : AH), lq3 (fC_X0_wish_17 x) n v1 v2 w = some (r, w') → Sx x w w'
  | 0, _, _, _, hf => nomatch hf
  | n + 1, v1, v2, w, hf => fC_X0_wish_17_s (fC_X0_wish_17_t n) v1 v2 w hf
set_option maxHeartbeats 4000000 in
theorem fC_X0_wish_e {x : Nat} {w : AH} (p0 : Int32) (hL : Lay x w) : mC_X0_wish x p0 w = fC_X0_wish x p0 w := by
  unfold mC_X0_wish fC_X0_wish
  rewrite [ck_t (kq_0 hL)]
  rewrite [fC_X0_isPlace_e _ hL]
  refine bd1_cg (fun r2 hc1 => ?_)
  refine if_cg (fun hc6 => ?_) (fun hc6 => ?_)
  · rewrite [fC_X0_refuse_e _ hL]
    refine bd2_cg (fun r5 w4 hc3 => ?_)
    have hL := (fC_X0_refuse_s _ _ _ _ hc3).1.lay hL
    rfl
  · exact fC_X0_wish_17_l LF p0 (0 : Int32) w hL
set_option maxHeartbeats 4000000 in
theorem fC_X0_wish_s {x : Nat} (p0 : Int32) (w : AH) (r : Int32) (w' : AH) (hf : fC_X0_wish x p0 w = some (r, w')) : Sx x w w' := by
  unfold fC_X0_wish at hf
  have hx := Sx.refl (x := x) w
  obtain ⟨r2, hc1, hf⟩ := bd1_ex hf
  by_cases hc6 : r2 = (0 : Int32)
  · have hf := if_t hf hc6
    obtain ⟨r5, w4, hc3, hf⟩ := bd2_ex hf
    have hx := hx.trans (fC_X0_refuse_s _ _ _ _ hc3)
    cases some_ex hf
    exact hx
  · have hf := if_f hf hc6
    exact hx.trans (fC_X0_wish_17_t LF p0 (0 : Int32) w hf)
set_option maxHeartbeats 4000000 in
theorem fC_X0_clear_e {x : Nat} {w : AH} (hL : Lay x w) : mC_X0_clear x w = fC_X0_clear x w := by
  unfold mC_X0_clear fC_X0_clear
  rewrite [ck_t (kq_0 hL)]
  refine st1_cg (fun w1 hs2 => ?_)
  have hL := Lay.I hs2 hL
  rfl
set_option maxHeartbeats 4000000 in
theorem fC_X0_clear_s {x : Nat} (w : AH) (r : Int32) (w' : AH) (hf : fC_X0_clear x w = some (r, w')) : Sx x w w' := by
  unfold fC_X0_clear at hf
  have hx := Sx.refl (x := x) w
  obtain ⟨w1, hs2, hf⟩ := st1_ex hf
  have hx := hx.trans (Sx.Ie hs2 (by omega))
  cases some_ex hf
  exact hx
set_option maxHeartbeats 4000000 in
theorem fC_X0_areThere_2_e {x : Nat} {w : AH} {M2 : Nat → Int32 → Option (Int32)} {k2 : Int32 → Option (Int32)} (hk2 : ∀ (v1 : Int32), Lay x w → M2 x v1 = k2 v1) (v1 : Int32) (hL : Lay x w) : mC_X0_areThere_2 w M2 x v1 = fC_X0_areThere_2 x w k2 v1 := by
  unfold mC_X0_areThere_2 fC_X0_areThere_2
  rewrite [ck_t (kq_0 hL)]
  refine if_cg (fun hc5 => ?_) (fun hc5 => ?_)
  · rfl
  · rewrite [lr_0_10 hL, bd1_s]
    rewrite [al_43 hL]
    refine ck_cg (fun h1 => ?_)
    rewrite [fC_X0_isPlace_e _ hL]
    refine bd1_cg (fun r3 hc2 => ?_)
    refine if_cg (fun hc4 => ?_) (fun hc4 => ?_)
    · rfl
    · exact hk2 (v1 + (1 : Int32)) hL
set_option maxHeartbeats 4000000 in
theorem fC_X0_areThere_2_l {x : Nat} {w : AH} : ∀ (n : Nat) (v1 : Int32), Lay x w → lq2 (mC_X0_areThere_2 w) n x v1 = lq1 (fC_X0_areThere_2 x w) n v1
  | 0, _, _ => rfl
  | n + 1, v1, hL => fC_X0_areThere_2_e (fC_X0_areThere_2_l n) v1 hL
set_option maxHeartbeats 4000000 in
theorem fC_X0_areThere_e {x : Nat} {w : AH} (hL : Lay x w) : mC_X0_areThere x w = fC_X0_areThere x w := by
  unfold mC_X0_areThere fC_X0_areThere
  exact fC_X0_areThere_2_l LF (0 : Int32) hL
set_option maxHeartbeats 4000000 in
theorem fC_X0_lays_11_e {x : Nat} {M11 : Nat → Int32 → Int32 → AH → Option (AH)} {k11 : Int32 → Int32 → AH → Option (AH)} (hk11 : ∀ (v1 : Int32) (v3 : Int32) (w : AH), Lay x w → M11 x v1 v3 w = k11 v1 v3 w) (v1 : Int32) (v3 : Int32) (w : AH) (hL : Lay x w) : mC_X0_lays_11 M11 x v1 v3 w = fC_X0_lays_11 x k11 v1 v3 w := by
  unfold mC_X0_lays_11 fC_X0_lays_11
  rewrite [ck_t (kq_0 hL)]
  refine if_cg (fun hc15 => ?_) (fun hc15 => ?_)
  · rfl
  · rewrite [lr_0_13 hL, bd1_s]
    rewrite [lr_0_10 hL, bd1_s]
    rewrite [al_43 hL]
    refine ck_cg (fun h1 => ?_)
    rewrite [fC_X0_ruleOf_e _ _ _ _ hL]
    refine bd2_cg (fun r4 w3 hc2 => ?_)
    have hL := (fC_X0_ruleOf_s _ _ _ _ _ _ _ hc2).1.lay hL
    rewrite [al_46 hL]
    refine ck_cg (fun h5 => ?_)
    refine st1_cg (fun w6 hs7 => ?_)
    have hL := Lay.I hs7 hL
    rewrite [ck_t (kq_0 hL)]
    rewrite [lr_0_14 hL, bd1_s]
    rewrite [lr_0_10 hL, bd1_s]
    rewrite [al_43 hL]
    refine ck_cg (fun h8 => ?_)
    rewrite [fC_X0_ruleOf_e _ _ _ _ hL]
    refine bd2_cg (fun r11 w10 hc9 => ?_)
    have hL := (fC_X0_ruleOf_s _ _ _ _ _ _ _ hc9).1.lay hL
    rewrite [al_47 hL]
    refine ck_cg (fun h12 => ?_)
    refine st1_cg (fun w13 hs14 => ?_)
    have hL := Lay.I hs14 hL
    exact hk11 v1 (v3 + (1 : Int32)) w13 hL
