set_option maxRecDepth 100000
section O6
variable {ow ow' : Nat → Nat} {w w' wn : AH} {T T' : Nat → Int32} {x t : Nat} {σ σ' : SM} {L n : Nat}
theorem OpW.tolA (h : RelT ow' x w' σ') (h1 : hsz w' ≤ hsz w + 9000) (h2 : hns w' ≤ hns w + 110000) (h3 : hlc w' = hlc w) (h4 : hls w' = hls w) (he : hvi w' x 1 = hvi w x 1) (hv : hvi w x 1 ≤ 1000) (r : Int32) : OpW x w (some (r, siI (siI w' x 1 (hvi w' x 1 + 1)) x 0 0)) (some (r, sI σ' 0 1 0)) :=
  ⟨r, _, _, ow', rfl, rfl, h.told (by rw [he]; exact hv), h1, h2, h3, h4, Or.inr (by simp [vi_I, he])⟩
theorem addFour_M (m : Nat) (hm : m + 3 < 23016) (a b c d : Int32) : mM_addFour (Int32.ofNat m) a b c d σ = some (sI (sI (sI (sI σ 1 m a) 1 (m + 1) b) 1 (m + 2) c) 1 (m + 3) d) := by
  unfold mM_addFour
  rw [ck_t (bnd_nat (by omega) (by omega)), i_nat (by omega), st1_e, i_a 1 1 rfl, ck_t (bnd_nat (by omega) (by omega)), i_nat (by omega), st1_e, i_a 2 2 rfl, ck_t (bnd_nat (by omega) (by omega)), i_nat (by omega), st1_e, i_a 3 3 rfl, ck_t (bnd_nat (by omega) (by omega)), i_nat (by omega), st1_e]
theorem nNote_l {a b c d e : Int32} (h : Lay x w) (j : Nat) (hj : j < 67) : hkd (nNote w a b c d e) (x + j) = hkd w (x + j) := (nNote_o (by have := h.2.2; omega)).1
theorem rm5 (hm : Rm x w) : rmB w 5 = true := by
  have h1 := hm.1
  have h2 := hm.2.1
  unfold rmB
  simp only [Bool.and_eq_true, decide_eq_true_eq]
  omega
theorem sizeT_C {a : Nat} (h : LsT ow w a n (fun _ _ => True)) : mC_J2_size a w = some (Int32.ofNat n) := size_C h
theorem op_hand (hR : Rel ow x w σ) (hm : Rm x w) (a b c d e : Int32) : OpW x w (mC_X0_hand x a b c d e w) (mM_hand a b c d e σ) := by
  have hL := hR.L
  have s4 := size_C hR.T.2.2.2.2.2.2.2.2.2.2.2.1
  rw [show x + 1 + 7 = x + 8 by omega] at s4
  have k0 := hR.W.c1.2.2.2.2.2.1
  have e0 := hR.W.c2.2.2.2.2.2.1
  obtain ⟨n, hn⟩ : ∃ n, cn (gI σ 1) 5 = n := ⟨_, rfl⟩
  rw [hn] at e0 k0 s4
  unfold mC_X0_hand mM_hand
  rw [show ∀ f : SM → Option (Int32 × SM), st1 (sI σ 0 0 (0 : Int32)) f = f (sI σ 0 0 0) from fun _ => rfl]
  simp only [bd1_s, bd2_s, in_C, isDay_C, isDay_M, b2i_0, isZ_b, ck_tt, Bool.true_eq_false, Bool.false_eq_true, if_true, if_false, ref_F, told_0, told_1, told_2, told_3, told_4, told_5, told_6, in_M b 0 19 0 19 rfl rfl, in_M d 0 99999 0 99999 rfl rfl, mC_X0_hand_37, mM_hand_45, kq_0 hL, refuse_C hL, isBox_C hR.rt, isBox_M hR.thr.W, lr_0_2 hL, kq_1 hL, lr_1_3 hL, kq_8 hL, s4]
  have e2 : gI (sI σ 0 0 0) 1 5 = Int32.ofNat n := e0
  rw [show gI (sI σ 0 0 0) 1 = gI σ 1 from rfl, e0]
  by_cases h1 : inr b 0 19 = true
  case neg =>
    simp only [Bool.not_eq_true] at h1
    simp only [h1, if_true, if_false, Bool.true_eq_false]
    exact OpW.ref hR _
  by_cases h2 : dy c = true
  case neg =>
    simp only [Bool.not_eq_true] at h2
    simp only [h1, h2, if_true, if_false, Bool.true_eq_false]
    exact OpW.ref hR _
  by_cases h3 : inr d 0 99999 = true
  case neg =>
    simp only [Bool.not_eq_true] at h3
    simp only [h1, h2, h3, if_true, if_false, Bool.true_eq_false]
    exact OpW.ref hR _
  by_cases h4 : dy e = true
  case neg =>
    simp only [Bool.not_eq_true] at h4
    simp only [h1, h2, h3, h4, if_true, if_false, Bool.true_eq_false]
    exact OpW.ref hR _
  by_cases h5 : bel a (gI σ 1 4) = true
  case neg =>
    simp only [Bool.not_eq_true] at h5
    simp only [h1, h2, h3, h4, h5, if_true, if_false, Bool.true_eq_false]
    exact OpW.ref hR _
  simp only [h1, h2, h3, h4, h5, if_true, if_false, Bool.true_eq_false]
  by_cases h6 : n = 200
  · have h7 : Int32.ofNat n = 200 := by rw [h6]; rfl
    rw [if_pos h7, if_pos h7]
    exact OpW.ref hR _
  have h7 := i_eqL (n := n) (m := 200) (v := 200) rfl (by omega) (by omega) h6
  simp only [bel, Bool.and_eq_true, decide_eq_true_eq] at h5
  obtain ⟨w', ow', A, RT, LS, g1, g2, g3, g4, g5, hL'⟩ := hR.rt.thr.hand hm.1 hm.2.1 hn (by omega) (a := a) (b := b) (c := c) (d := d) (e := e) h5 (inr_ex h1) (inr_ex h2) (inr_ex h4)
  rw [if_neg h7, if_neg h7, ck_t (rm5 hm), st1_e, st1_e, note_C, bd1_s, ck_t (by rw [nNote_l hL 8 (by decide)]; exact kq_8 hL), A, bd2_s, ck_t (kq_0 hL'), lr_0_2 hL', bd1_s, ck_t (kq_1 hL'), lr_1_3 hL', bd1_s, ck_t (kq_8 hL'), sizeT_C LS, bd1_s, told_C hL', bd2_s]
  rw [i_am 2528 5 2528 5 rfl rfl, addFour_M _ (by omega), bd1_s, i_a 4 4 rfl, ck_t (bnd_nat (by omega) (by omega)), i_nat (by omega), st1_e, st1_e, show 2528 + 5 * n + 1 = 2529 + 5 * n by omega, show 2528 + 5 * n + 2 = 2530 + 5 * n by omega, show 2528 + 5 * n + 3 = 2531 + 5 * n by omega, show 2528 + 5 * n + 4 = 2532 + 5 * n by omega]
  simp (disch := omega) only [rowS_ne, rowS_eq, e2, i_a 1 1 rfl]
  rw [told_n (by omega), bd2_s]
  exact OpW.tolA RT (by omega) (by omega) g3 g4 g5 hm.2.2 _
theorem op_paper (hR : Rel ow x w σ) (hm : Rm x w) (a b c d : Int32) : OpW x w (mC_X0_paper x a b c d w) (mM_paper a b c d σ) := by
  have hL := hR.L
  have s4 := size_C hR.T.2.2.2.2.2.2.2.2.2.2.2.2.1
  rw [show x + 1 + 9 = x + 10 by omega] at s4
  have k0 := hR.W.c1.2.2.2.2.2.2.2.1
  have e0 := hR.W.c2.2.2.2.2.2.2.2.1
  obtain ⟨n, hn⟩ : ∃ n, cn (gI σ 1) 7 = n := ⟨_, rfl⟩
  rw [hn] at e0 k0 s4
  unfold mC_X0_paper mM_paper
  rw [show ∀ f : SM → Option (Int32 × SM), st1 (sI σ 0 0 (0 : Int32)) f = f (sI σ 0 0 0) from fun _ => rfl]
  simp only [bd1_s, bd2_s, in_C, isDay_C, isDay_M, b2i_0, isZ_b, ck_tt, Bool.true_eq_false, Bool.false_eq_true, if_true, if_false, ref_F, told_0, told_1, told_2, told_3, told_4, told_5, told_6, in_M b 0 3 0 3 rfl rfl, in_M c 0 100000 0 100000 rfl rfl, mC_X0_paper_28, mM_paper_37, kq_0 hL, refuse_C hL, isBooth_C hR.rt, isBooth_M hR.thr.W, lr_0_2 hL, kq_1 hL, lr_1_4 hL, kq_10 hL, s4]
  have e2 : gI (sI σ 0 0 0) 1 7 = Int32.ofNat n := e0
  rw [show gI (sI σ 0 0 0) 1 = gI σ 1 from rfl, e0]
  by_cases h1 : inr b 0 3 = true
  case neg =>
    simp only [Bool.not_eq_true] at h1
    simp only [h1, if_true, if_false, Bool.true_eq_false]
    exact OpW.ref hR _
  by_cases h3 : inr c 0 100000 = true
  case neg =>
    simp only [Bool.not_eq_true] at h3
    simp only [h1, h3, if_true, if_false, Bool.true_eq_false]
    exact OpW.ref hR _
  by_cases h4 : dy d = true
  case neg =>
    simp only [Bool.not_eq_true] at h4
    simp only [h1, h3, h4, if_true, if_false, Bool.true_eq_false]
    exact OpW.ref hR _
  by_cases h5 : bel a (gI σ 1 3) = true
  case neg =>
    simp only [Bool.not_eq_true] at h5
    simp only [h1, h3, h4, h5, if_true, if_false, Bool.true_eq_false]
    exact OpW.ref hR _
  simp only [h1, h3, h4, h5, if_true, if_false, Bool.true_eq_false]
  by_cases h6 : n = 120
  · have h7 : Int32.ofNat n = 120 := by rw [h6]; rfl
    rw [if_pos h7, if_pos h7]
    exact OpW.ref hR _
  have h7 := i_eqL (n := n) (m := 120) (v := 120) rfl (by omega) (by omega) h6
  simp only [bel, Bool.and_eq_true, decide_eq_true_eq] at h5
  obtain ⟨w', ow', A, RT, LS, g1, g2, g3, g4, g5, hL'⟩ := hR.rt.thr.paper hm.1 hm.2.1 hn (by omega) (a := a) (b := b) (c := c) (d := d) h5 (inr_ex h1) (inr_ex h3) (inr_ex h4)
  rw [if_neg h7, if_neg h7, ck_t (rm5 hm), st1_e, st1_e, note_C, bd1_s, ck_t (by rw [nNote_l hL 10 (by decide)]; exact kq_10 hL), A, bd2_s, ck_t (kq_0 hL'), lr_0_2 hL', bd1_s, ck_t (kq_1 hL'), lr_1_4 hL', bd1_s, ck_t (kq_10 hL'), sizeT_C LS, bd1_s, told_C hL', bd2_s]
  rw [i_am 3528 4 3528 4 rfl rfl, addFour_M _ (by omega), bd1_s, st1_e, show 3528 + 4 * n + 1 = 3529 + 4 * n by omega, show 3528 + 4 * n + 2 = 3530 + 4 * n by omega, show 3528 + 4 * n + 3 = 3531 + 4 * n by omega]
  simp (disch := omega) only [rowS_ne, rowS_eq, e2, i_a 1 1 rfl]
  rw [told_n (by omega), bd2_s]
  exact OpW.tolA RT (by omega) (by omega) g3 g4 g5 hm.2.2 _
theorem op_count (hR : Rel ow x w σ) (hm : Rm x w) (a b c d e : Int32) : OpW x w (mC_X0_count x a b c d e w) (mM_count a b c d e σ) := by
  have hL := hR.L
  have s4 := size_C hR.T.2.2.2.2.2.2.2.2.2.2.2.2.2
  rw [show x + 1 + 11 = x + 12 by omega] at s4
  have k0 := hR.W.c1.2.2.2.2.2.2.1
  have e0 := hR.W.c2.2.2.2.2.2.2.1
  obtain ⟨n, hn⟩ : ∃ n, cn (gI σ 1) 6 = n := ⟨_, rfl⟩
  rw [hn] at e0 k0 s4
  unfold mC_X0_count mM_count
  rw [show ∀ f : SM → Option (Int32 × SM), st1 (sI σ 0 0 (0 : Int32)) f = f (sI σ 0 0 0) from fun _ => rfl]
  simp only [bd1_s, bd2_s, in_C, isDay_C, isDay_M, b2i_0, isZ_b, ck_tt, Bool.true_eq_false, Bool.false_eq_true, if_true, if_false, ref_F, told_0, told_1, told_2, told_3, told_4, told_5, told_6, in_M b 0 7 0 7 rfl rfl, in_M c 0 9 0 9 rfl rfl, in_M d 0 10000 0 10000 rfl rfl, mC_X0_count_40, mM_count_50, kq_0 hL, refuse_C hL, isBox_C hR.rt, isBox_M hR.thr.W, lr_0_2 hL, kq_1 hL, lr_1_5 hL, kq_12 hL, s4]
  have e2 : gI (sI σ 0 0 0) 1 6 = Int32.ofNat n := e0
  rw [show gI (sI σ 0 0 0) 1 = gI σ 1 from rfl, e0]
  by_cases h1 : inr b 0 7 = true
  case neg =>
    simp only [Bool.not_eq_true] at h1
    simp only [h1, if_true, if_false, Bool.true_eq_false]
    exact OpW.ref hR _
  by_cases h2 : inr c 0 9 = true
  case neg =>
    simp only [Bool.not_eq_true] at h2
    simp only [h1, h2, if_true, if_false, Bool.true_eq_false]
    exact OpW.ref hR _
  by_cases h3 : inr d 0 10000 = true
  case neg =>
    simp only [Bool.not_eq_true] at h3
    simp only [h1, h2, h3, if_true, if_false, Bool.true_eq_false]
    exact OpW.ref hR _
  by_cases h4 : dy e = true
  case neg =>
    simp only [Bool.not_eq_true] at h4
    simp only [h1, h2, h3, h4, if_true, if_false, Bool.true_eq_false]
    exact OpW.ref hR _
  by_cases h5 : bel a (gI σ 1 4) = true
  case neg =>
    simp only [Bool.not_eq_true] at h5
    simp only [h1, h2, h3, h4, h5, if_true, if_false, Bool.true_eq_false]
    exact OpW.ref hR _
  simp only [h1, h2, h3, h4, h5, if_true, if_false, Bool.true_eq_false]
  by_cases h6 : n = 200
  · have h7 : Int32.ofNat n = 200 := by rw [h6]; rfl
    rw [if_pos h7, if_pos h7]
    exact OpW.ref hR _
  have h7 := i_eqL (n := n) (m := 200) (v := 200) rfl (by omega) (by omega) h6
  simp only [bel, Bool.and_eq_true, decide_eq_true_eq] at h5
  have hd : rg d 0 16383 := ⟨(inr_ex h3).1, by have := (inr_ex h3).2; grind⟩
  obtain ⟨w', ow', A, RT, LS, g1, g2, g3, g4, g5, hL'⟩ := hR.rt.thr.count hm.1 hm.2.1 hn (by omega) (a := a) (b := b) (c := c) (d := d) (e := e) h5 (inr_ex h1) (inr_ex h2) hd (inr_ex h4)
  have hL2 : Lay x (siI w' (x + 25) n d) := hL'
  rw [if_neg h7, if_neg h7, ck_t (rm5 hm), st1_e, st1_e, note_C, bd1_s, ck_t (by rw [nNote_l hL 12 (by decide)]; exact kq_12 hL), A, bd2_s, ck_t (kq_0 hL'), lr_0_2 hL', bd1_s, ck_t (kq_1 hL'), lr_1_17 hL', bd1_s, al_25 hL', ck_t (bnd_nat (by omega) (by omega)), i_nat (by omega), st1_e, ck_t (kq_0 hL2), told_C hL2, bd2_s]
  rw [i_am 4008 5 4008 5 rfl rfl, addFour_M _ (by omega), bd1_s, i_a 4 4 rfl, ck_t (bnd_nat (by omega) (by omega)), i_nat (by omega), st1_e, st1_e, show 4008 + 5 * n + 1 = 4009 + 5 * n by omega, show 4008 + 5 * n + 2 = 4010 + 5 * n by omega, show 4008 + 5 * n + 3 = 4011 + 5 * n by omega, show 4008 + 5 * n + 4 = 4012 + 5 * n by omega]
  simp (disch := omega) only [rowS_ne, rowS_eq, e2, i_a 1 1 rfl, i_s1]
  rw [told_n (by omega), bd2_s]
  exact OpW.tolA RT (show hsz w' ≤ _ by omega) (show hns w' ≤ _ by omega) g3 g4 (by rw [vi_I, if_neg (by omega)]; exact g5) hm.2.2 _
theorem op_apart (hR : Rel ow x w σ) (hm : Rm x w) (a b : Int32) : OpW x w (mC_X0_apart x a b w) (mM_apart a b σ) := by
  have hL := hR.L
  have s4 := size_C hR.T.2.2.2.2.2.2.2.2.2.2.1
  rw [show x + 1 + 5 = x + 6 by omega] at s4
  have k0 := hR.W.c1.2.2.2.2.2.2.2.2
  have e0 := hR.W.c2.2.2.2.2.2.2.2.2
  obtain ⟨n, hn⟩ : ∃ n, cn (gI σ 1) 8 = n := ⟨_, rfl⟩
  rw [hn] at e0 k0 s4
  unfold mC_X0_apart mM_apart
  rw [show ∀ f : SM → Option (Int32 × SM), st1 (sI σ 0 0 (0 : Int32)) f = f (sI σ 0 0 0) from fun _ => rfl]
  simp only [bd1_s, bd2_s, in_C, isDay_C, isDay_M, b2i_0, isZ_b, ck_tt, Bool.true_eq_false, Bool.false_eq_true, if_true, if_false, ref_F, told_0, told_1, told_2, told_3, told_4, told_5, told_6, mC_X0_apart_16, mM_apart_21, kq_0 hL, refuse_C hL, isName_C hR.rt, isName_M hR.thr.W, lr_0_2 hL, kq_1 hL, lr_1_2 hL, kq_6 hL, s4]
  have e2 : gI (sI σ 0 0 0) 1 8 = Int32.ofNat n := e0
  rw [show gI (sI σ 0 0 0) 1 = gI σ 1 from rfl, e0]
  by_cases h1 : bel a (gI σ 1 1) = true
  case neg =>
    simp only [Bool.not_eq_true] at h1
    simp only [h1, if_true, if_false, Bool.true_eq_false]
    exact OpW.ref hR _
  by_cases h2 : bel b (gI σ 1 1) = true
  case neg =>
    simp only [Bool.not_eq_true] at h2
    simp only [h1, h2, if_true, if_false, Bool.true_eq_false]
    exact OpW.ref hR _
  simp only [h1, h2, if_true, if_false, Bool.true_eq_false]
  by_cases h3 : a = b
  · rw [if_pos h3, if_pos h3]
    exact OpW.ref hR _
  rw [if_neg h3, if_neg h3]
  by_cases h6 : n = 40
  · have h7 : Int32.ofNat n = 40 := by rw [h6]; rfl
    rw [if_pos h7, if_pos h7]
    exact OpW.ref hR _
  have h7 := i_eqL (n := n) (m := 40) (v := 40) rfl (by omega) (by omega) h6
  obtain ⟨lo, hi, hab, hM⟩ : ∃ lo hi, ((a < b ∧ lo = a ∧ hi = b) ∨ (b < a ∧ lo = b ∧ hi = a)) ∧ (if b ≤ a then mM_apart_86 a b b (2268 + 2 * Int32.ofNat n) (sI σ 0 0 0) else mM_apart_86 a b a (2268 + 2 * Int32.ofNat n) (sI σ 0 0 0)) = some (Int32.ofNat (n + 1), sI (sI (sI (sI (sI σ 0 0 0) 1 (2268 + 2 * n) lo) 1 (2269 + 2 * n) hi) 1 8 (Int32.ofNat (n + 1))) 0 1 0) := by
    by_cases h8 : b ≤ a
    · refine ⟨b, a, Or.inr ⟨by grind, rfl, rfl⟩, ?_⟩
      unfold mM_apart_86 mM_apart_116
      rw [if_pos h8, i_am 2268 2 2268 2 rfl rfl, ck_t (bnd_nat (by omega) (by omega)), i_nat (by omega), st1_e, if_pos h8, rowS_ne (by omega), e2, i_am 2268 2 2268 2 rfl rfl, i_a 1 1 rfl, show 2268 + 2 * n + 1 = 2269 + 2 * n by omega, ck_t (bnd_nat (by omega) (by omega)), i_nat (by omega), st1_e, st1_e]
      simp (disch := omega) only [rowS_ne, rowS_eq, e2, i_a 1 1 rfl]
      rw [told_n (by omega), bd2_s]
    · refine ⟨a, b, Or.inl ⟨by grind, rfl, rfl⟩, ?_⟩
      unfold mM_apart_86 mM_apart_116
      rw [if_neg h8, i_am 2268 2 2268 2 rfl rfl, ck_t (bnd_nat (by omega) (by omega)), i_nat (by omega), st1_e, if_neg h8, rowS_ne (by omega), e2, i_am 2268 2 2268 2 rfl rfl, i_a 1 1 rfl, show 2268 + 2 * n + 1 = 2269 + 2 * n by omega, ck_t (bnd_nat (by omega) (by omega)), i_nat (by omega), st1_e, st1_e]
      simp (disch := omega) only [rowS_ne, rowS_eq, e2, i_a 1 1 rfl]
      rw [told_n (by omega), bd2_s]
  obtain ⟨w', ow', A, RT, LS, g1, g2, g3, g4, g5, hL'⟩ := hR.rt.thr.apart hm.1 hm.2.1 hn (by omega) hab
  rw [if_neg h7, if_neg h7, hM, ck_t (rm5 hm), st1_e, st1_e, note_C, bd1_s, ck_t (by rw [nNote_l hL 6 (by decide)]; exact kq_6 hL), A, bd2_s, ck_t (kq_0 hL'), lr_0_2 hL', bd1_s, ck_t (kq_1 hL'), lr_1_2 hL', bd1_s, ck_t (kq_6 hL'), sizeT_C LS, bd1_s, told_C hL', bd2_s]
  exact OpW.tolA RT (by omega) (by omega) g3 g4 g5 hm.2.2 _
end O6
