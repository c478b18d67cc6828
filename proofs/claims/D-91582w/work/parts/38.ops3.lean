set_option maxRecDepth 100000
section O3
variable {ow : Nat → Nat} {w w' : AH} {T T' : Nat → Int32} {x t : Nat} {σ σ' : SM}
theorem i_eqL {n m : Nat} {v : Int32} (hv : v = Int32.ofNat m) (hn : n < 2147483648) (hm : m < 2147483648) (h : n ≠ m) : ¬ Int32.ofNat n = v := by rw [hv, i_eq hn hm]; exact h
theorem i_la (a : Nat) (u : Int32) (hu : u = Int32.ofNat a) (n : Nat) : u + Int32.ofNat n = Int32.ofNat (a + n) := by rw [hu, Int32.ofNat_add]
theorem op_place (hR : Rel ow x w σ) (hm : Rm x w) (a b c : Int32) : OpW x w (mC_X0_place x a b c w) (mM_place a b c σ) := by
  rw [fC_X0_place_e _ _ _ hR.L]
  unfold fC_X0_place mM_place
  rw [show ∀ f : SM → Option (Int32 × SM), st1 (sI σ 0 0 (0 : Int32)) f = f (sI σ 0 0 0) from fun _ => rfl]
  simp only [bd1_s, bd2_s, in_C, isDay_C, isDay_M, b2i_0, isZ_b, ck_tt, Bool.true_eq_false, Bool.false_eq_true, if_true, if_false, ref_F, told_0, told_1, told_2, told_3, told_4, told_5, told_6, in_M a 0 5 0 5 rfl rfl, in_M b 0 99 0 99 rfl rfl, in_M c 0 99 0 99 rfl rfl, fC_X0_place_29, mM_place_41]
  by_cases h1 : inr a 0 5 = true
  case neg =>
    simp only [Bool.not_eq_true] at h1
    simp only [h1, if_true]
    exact OpW.ref hR _
  by_cases h2 : inr b 0 99 = true
  case neg =>
    simp only [Bool.not_eq_true] at h2
    simp only [h1, h2, if_true, if_false, Bool.true_eq_false]
    exact OpW.ref hR _
  by_cases h3 : inr c 0 99 = true
  case neg =>
    simp only [Bool.not_eq_true] at h3
    simp only [h1, h2, h3, if_true, if_false, Bool.true_eq_false]
    exact OpW.ref hR _
  simp only [h1, h2, h3, if_true, if_false, Bool.true_eq_false]
  have k0 := hR.W.c1.1
  have e0 := hR.W.c2.1
  have t21 := hR.T.2.1.1
  obtain ⟨n, hn⟩ : ∃ n, cn (gI σ 1) 0 = n := ⟨_, rfl⟩
  rw [hn] at e0 k0
  have e1 : hvi w (x + 1) 22 = Int32.ofNat n := t21.trans e0
  have e2 : gI (sI σ 0 0 0) 1 0 = Int32.ofNat n := e0
  rw [e1, e2]
  by_cases h4 : n = 16
  · have h5 : Int32.ofNat n = 16 := by rw [h4]; rfl
    rw [if_pos h5, if_pos h5]
    exact OpW.ref hR _
  · have h5 := i_eqL (n := n) (m := 16) (v := 16) rfl (by omega) (by omega) h4
    rw [if_neg h5, if_neg h5]
    rw [ck_t (bnd_nat (by omega) (by omega)), i_nat (by omega), st1_e, vi_I, if_neg (by omega), e1, ck_t (bnd_nat (by omega) (by omega)), i_nat (by omega), st1_e, vi_I, if_neg (by omega), vi_I, if_neg (by omega), e1, ck_t (bnd_nat (by omega) (by omega)), i_nat (by omega), st1_e, vi_I, if_neg (by omega), vi_I, if_neg (by omega), vi_I, if_neg (by omega), e1, st1_e, vi_I, if_pos ⟨rfl, rfl⟩, i_a 1 1 rfl, i_s1, tol_F, bd2_s]
    rw [placeAt_M, bd1_s, ck_t (bnd_nat (by omega) (by omega)), i_nat (by omega), st1_e, i_a 1 1 rfl, show 20 + 3 * n + 1 = 21 + 3 * n by omega, ck_t (bnd_nat (by omega) (by omega)), i_nat (by omega), st1_e, i_a 2 2 rfl, show 20 + 3 * n + 2 = 22 + 3 * n by omega, ck_t (bnd_nat (by omega) (by omega)), i_nat (by omega), st1_e, st1_e]
    simp (disch := omega) only [rowS_ne, rowS_eq, e2, i_a 1 1 rfl, i_s1]
    rw [told_n (by omega), bd2_s]
    exact OpW.tol (w := w) (hR.rt.thr.place hn (by omega) (inr_ex h1) (inr_ex h2) (inr_ex h3)) ⟨rfl, rfl, rfl⟩ (by simp [vi_I]) hm.2.2 _
theorem op_booth (hR : Rel ow x w σ) (hm : Rm x w) (a : Int32) : OpW x w (mC_X0_booth x a w) (mM_booth a σ) := by
  rw [fC_X0_booth_e _ hR.L]
  unfold fC_X0_booth mM_booth
  rw [show ∀ f : SM → Option (Int32 × SM), st1 (sI σ 0 0 (0 : Int32)) f = f (sI σ 0 0 0) from fun _ => rfl]
  rw [← fC_X0_isPlace_e _ hR.L, isPlace_C hR.rt, isPlace_M hR.thr.W]
  simp only [bd1_s, bd2_s, in_C, isDay_C, isDay_M, b2i_0, isZ_b, ck_tt, Bool.true_eq_false, Bool.false_eq_true, if_true, if_false, ref_F, told_0, told_1, told_2, told_3, told_4, told_5, told_6]
  rw [show gI (sI σ 0 0 0) 1 = gI σ 1 from rfl]
  by_cases h1 : bel a (gI σ 1 0) = true
  case neg =>
    simp only [Bool.not_eq_true] at h1
    simp only [h1, if_true]
    exact OpW.ref hR _
  simp only [h1, if_true, if_false, Bool.true_eq_false]
  have k0 := hR.W.c1.2.2.2.1
  have e0 := hR.W.c2.2.2.2.1
  have t21 := hR.T.2.2.2.1.1
  obtain ⟨n, hn⟩ : ∃ n, cn (gI σ 1) 3 = n := ⟨_, rfl⟩
  rw [hn] at e0 k0
  have e1 : hvi w (x + 1) 23 = Int32.ofNat n := t21.trans e0
  have e2 : gI (sI σ 0 0 0) 1 3 = Int32.ofNat n := e0
  rw [e1, e0]
  by_cases h4 : n = 20
  · have h5 : Int32.ofNat n = 20 := by rw [h4]; rfl
    rw [if_pos h5, if_pos h5]
    exact OpW.ref hR _
  · have h5 := i_eqL (n := n) (m := 20) (v := 20) rfl (by omega) (by omega) h4
    rw [if_neg h5, if_neg h5]
    simp only [bel, Bool.and_eq_true, decide_eq_true_eq] at h1
    rw [ck_t (bnd_nat (by omega) (by omega)), i_nat (by omega), st1_e, vi_I, if_neg (by omega), e1, ck_t (bnd_nat (by omega) (by omega)), i_nat (by omega), st1_e, vi_I, if_neg (by omega), vi_I, if_neg (by omega), e1, st1_e, vi_I, if_pos ⟨rfl, rfl⟩, i_a 1 1 rfl, i_s1, tol_F, bd2_s]
    rw [i_la 2348 2348 rfl, ck_t (bnd_nat (by omega) (by omega)), i_nat (by omega), st1_e, rowS_ne (by omega), e2, i_am 2368 4 2368 4 rfl rfl, ck_t (bnd_nat (by omega) (by omega)), i_nat (by omega), st1_e, st1_e]
    simp (disch := omega) only [rowS_ne, rowS_eq, e2, i_a 1 1 rfl, i_s1]
    rw [told_n (by omega), bd2_s]
    exact OpW.tol (w := w) (hR.rt.thr.booth hn (by omega) h1.1 h1.2) ⟨rfl, rfl, rfl⟩ (by simp [vi_I]) hm.2.2 _
theorem op_box (hR : Rel ow x w σ) (hm : Rm x w) (a b : Int32) : OpW x w (mC_X0_box x a b w) (mM_box a b σ) := by
  rw [fC_X0_box_e _ _ hR.L]
  unfold fC_X0_box mM_box
  rw [show ∀ f : SM → Option (Int32 × SM), st1 (sI σ 0 0 (0 : Int32)) f = f (sI σ 0 0 0) from fun _ => rfl]
  rw [← fC_X0_isBooth_e _ hR.L, isBooth_C hR.rt, isBooth_M hR.thr.W]
  simp only [bd1_s, bd2_s, in_C, isDay_C, isDay_M, b2i_0, isZ_b, ck_tt, Bool.true_eq_false, Bool.false_eq_true, if_true, if_false, ref_F, told_0, told_1, told_2, told_3, told_4, told_5, told_6, in_M b 0 99999 0 99999 rfl rfl]
  rw [show gI (sI σ 0 0 0) 1 = gI σ 1 from rfl]
  by_cases h0 : inr b 0 99999 = true
  case neg =>
    simp only [Bool.not_eq_true] at h0
    simp only [h0, if_true]
    exact OpW.ref hR _
  by_cases h1 : bel a (gI σ 1 3) = true
  case neg =>
    simp only [Bool.not_eq_true] at h1
    simp only [h0, h1, if_true, if_false, Bool.true_eq_false]
    exact OpW.ref hR _
  simp only [h0, h1, if_true, if_false, Bool.true_eq_false]
  have k0 := hR.W.c1.2.2.2.2.1
  have e0 := hR.W.c2.2.2.2.2.1
  have t21 := hR.T.2.2.2.2.1.1
  obtain ⟨n, hn⟩ : ∃ n, cn (gI σ 1) 4 = n := ⟨_, rfl⟩
  rw [hn] at e0 k0
  have e1 : hvi w (x + 1) 24 = Int32.ofNat n := t21.trans e0
  have e2 : gI (sI σ 0 0 0) 1 4 = Int32.ofNat n := e0
  rw [e1, e0]
  by_cases h4 : n = 40
  · have h5 : Int32.ofNat n = 40 := by rw [h4]; rfl
    rw [if_pos h5, if_pos h5]
    exact OpW.ref hR _
  · have h5 := i_eqL (n := n) (m := 40) (v := 40) rfl (by omega) (by omega) h4
    rw [if_neg h5, if_neg h5]
    simp only [bel, Bool.and_eq_true, decide_eq_true_eq] at h1
    rw [ck_t (bnd_nat (by omega) (by omega)), i_nat (by omega), st1_e, vi_I, if_neg (by omega), e1, ck_t (bnd_nat (by omega) (by omega)), i_nat (by omega), st1_e, vi_I, if_neg (by omega), vi_I, if_neg (by omega), e1, st1_e, vi_I, if_pos ⟨rfl, rfl⟩, i_a 1 1 rfl, i_s1, tol_F, bd2_s]
    rw [i_am 2448 2 2448 2 rfl rfl, ck_t (bnd_nat (by omega) (by omega)), i_nat (by omega), st1_e, rowS_ne (by omega), e2, i_am 2448 2 2448 2 rfl rfl, i_a 1 1 rfl, show 2448 + 2 * n + 1 = 2449 + 2 * n by omega, ck_t (bnd_nat (by omega) (by omega)), i_nat (by omega), st1_e, st1_e]
    simp (disch := omega) only [rowS_ne, rowS_eq, e2, i_a 1 1 rfl, i_s1]
    rw [told_n (by omega), bd2_s]
    exact OpW.tol (w := w) (hR.rt.thr.box hn (by omega) h1.1 h1.2) ⟨rfl, rfl, rfl⟩ (by simp [vi_I]) hm.2.2 _
theorem rg_ex {v : Int32} {m : Nat} {u : Int32} (hu : u = Int32.ofNat m) (h : rg v 0 u) (hm : m < 2147483648) : ∃ n, n ≤ m ∧ v = Int32.ofNat n := by
  subst hu
  exact ⟨_, rg_nat h hm⟩
theorem op_keep (hR : Rel ow x w σ) (hm : Rm x w) (a b : Int32) : OpW x w (mC_X0_keep x a b w) (mM_keep a b σ) := by
  rw [fC_X0_keep_e _ _ hR.L]
  unfold fC_X0_keep mM_keep
  rw [show ∀ f : SM → Option (Int32 × SM), st1 (sI σ 0 0 (0 : Int32)) f = f (sI σ 0 0 0) from fun _ => rfl]
  simp only [bd1_s, bd2_s, in_C, isDay_C, isDay_M, b2i_0, isZ_b, ck_tt, Bool.true_eq_false, Bool.false_eq_true, if_true, if_false, ref_F, told_0, told_1, told_2, told_3, told_4, told_5, told_6, in_M a 0 5 0 5 rfl rfl, in_M b 0 7 0 7 rfl rfl, fC_X0_keep_19, mM_keep_29]
  by_cases h0 : inr a 0 5 = true
  case neg =>
    simp only [Bool.not_eq_true] at h0
    simp only [h0, if_true]
    exact OpW.ref hR _
  by_cases h1 : inr b 0 7 = true
  case neg =>
    simp only [Bool.not_eq_true] at h1
    simp only [h0, h1, if_true, if_false, Bool.true_eq_false]
    exact OpW.ref hR _
  simp only [h0, h1, if_true, if_false, Bool.true_eq_false]
  obtain ⟨i, i1, rfl⟩ := rg_ex (m := 5) rfl (inr_ex h0) (by decide)
  obtain ⟨j, j1, rfl⟩ := rg_ex (m := 7) rfl (inr_ex h1) (by decide)
  have t7 := hR.T.2.2.2.2.2.2.1 (8 * i + j) (by omega)
  have q8 := hR.W.2.2.2.2.2.2.2.2.1 (8 * i + j) (by omega)
  rw [i_m 8 8 rfl, i_aa, ck_t (bnd_nat (by omega) (by omega)), i_nat (by omega), i_la 5008 5008 rfl, i_aa, ck_t (bnd_nat (by omega) (by omega)), i_nat (by omega), show 5008 + 8 * i + j = 5008 + (8 * i + j) by omega]
  rw [show x + 1 + 28 = x + 29 by omega] at t7
  rw [t7, show gI (sI σ 0 0 0) 1 (5008 + (8 * i + j)) = gI σ 1 (5008 + (8 * i + j)) from rfl]
  rcases q8 with q8 | q8
  · rw [q8, if_pos rfl, if_neg (by decide), st1_e, ck_t (bnd_nat (by omega) (by omega)), st1_e, tol_F, bd2_s]
    exact OpW.tol (w := w) (hR.rt.thr.keep (by omega)) ⟨rfl, rfl, rfl⟩ (by simp [vi_I]) hm.2.2 _
  · rw [q8, if_neg (by decide), if_pos rfl]
    exact OpW.ref hR _
theorem op_off (hR : Rel ow x w σ) (hm : Rm x w) (a b c : Int32) : OpW x w (mC_X0_off x a b c w) (mM_off a b c σ) := by
  rw [fC_X0_off_e _ _ _ hR.L]
  unfold fC_X0_off mM_off
  rw [show ∀ f : SM → Option (Int32 × SM), st1 (sI σ 0 0 (0 : Int32)) f = f (sI σ 0 0 0) from fun _ => rfl]
  rw [← fC_X0_isName_e _ hR.L, isName_C hR.rt, isName_M hR.thr.W]
  simp only [bd1_s, bd2_s, in_C, isDay_C, isDay_M, b2i_0, isZ_b, ck_tt, Bool.true_eq_false, Bool.false_eq_true, if_true, if_false, ref_F, told_0, told_1, told_2, told_3, told_4, told_5, told_6, fC_X0_off_14, mM_off_19]
  rw [show gI (sI σ 0 0 0) 1 = gI σ 1 from rfl]
  by_cases h0 : dy b = true
  case neg =>
    simp only [Bool.not_eq_true] at h0
    simp only [h0, if_true]
    exact OpW.ref hR _
  by_cases h1 : dy c = true
  case neg =>
    simp only [Bool.not_eq_true] at h1
    simp only [h0, h1, if_true, if_false, Bool.true_eq_false]
    exact OpW.ref hR _
  by_cases h2 : bel a (gI σ 1 1) = true
  case neg =>
    simp only [Bool.not_eq_true] at h2
    simp only [h0, h1, h2, if_true, if_false, Bool.true_eq_false]
    exact OpW.ref hR _
  simp only [h0, h1, h2, if_true, if_false, Bool.true_eq_false]
  have k0 := hR.W.c1.2.1
  rw [hR.W.c2.2.1] at h2
  obtain ⟨n, n1, rfl⟩ := bel_ex h2 (by omega)
  have t3 := (hR.T.2.2.1 n n1).1
  rw [show x + 1 + 16 = x + 17 by omega] at t3
  rw [ck_t (bnd_nat (by omega) (by omega)), i_nat (by omega), t3, nameAt_M, bd1_s, i_a 6 6 rfl, ck_t (bnd_nat (by omega) (by omega)), i_nat (by omega), show 68 + 11 * n + 6 = 74 + 11 * n by omega]
  by_cases h4 : gI σ 1 (74 + 11 * n) = -1
  · rw [if_pos h4, if_pos h4, st1_e, ck_t (bnd_nat (by omega) (by omega)), st1_e, tol_F, bd2_s, ck_t (bnd_nat (by omega) (by omega)), st1_e, i_a 1 1 rfl, ck_t (bnd_nat (by omega) (by omega)), i_nat (by omega), st1_e, show 74 + 11 * n + 1 = 75 + 11 * n by omega]
    exact OpW.tol (w := w) (hR.rt.thr.off n1 (inr_ex h0)) ⟨rfl, rfl, rfl⟩ (by simp [vi_I]) hm.2.2 _
  · rw [if_neg h4, if_neg h4]
    exact OpW.ref hR _
theorem checkIndex_C {i n : Nat} (hi : i < n) (hn : n < 2147483648) : mC_J12_checkIndex (Int32.ofNat i) (Int32.ofNat n) = some (Int32.ofNat i) := by
  have h1 : ¬ Int32.ofNat i < 0 := by
    have := i_pos (n := i) (by omega)
    grind
  have h2 : Int32.ofNat i < Int32.ofNat n := by rw [i_lt (by omega) hn]; omega
  unfold mC_J12_checkIndex mC_J13_checkIndex
  rw [if_neg h1, if_pos h2]
  rfl
theorem getE_C {a n e c : Nat} {E : Nat → Nat → Prop} (h1 : LsE w a n e c E) {i : Nat} (hi : i < n) : ∃ q, mC_J2_get a (Int32.ofNat i) w = some q ∧ E i q ∧ hvr w e i = some q := by
  obtain ⟨g1, g2, g3, g4, g5, g6, g7, g8, g9⟩ := h1
  obtain ⟨q, k1, k2⟩ := g9 i hi
  refine ⟨q, ?_, k2, k1⟩
  have hb : arB w e 5 (Int32.ofNat i) = true := by
    unfold arB
    rw [g4]
    simp [bnd_nat (n := i) (m := c) (by omega) (by omega)]
  have hk : kIn (hkd w a).1 [2] = true := by rw [g1]; rfl
  unfold mC_J2_get mC_J2_elementData
  rw [ck_t hk, g2, checkIndex_C hi (by omega), bd1_s, ck_t hk, g3, bd1_s, ck_t hb, i_nat (by omega), st1_e, k1]
  rfl
theorem get_C {a n : Nat} {E : Nat → Nat → Prop} (h : LsT ow w a n E) {i : Nat} (hi : i < n) : ∃ q, mC_J2_get a (Int32.ofNat i) w = some q ∧ E i q := by
  obtain ⟨e, c, h1, h2⟩ := h
  obtain ⟨q, k1, k2, k3⟩ := getE_C h1 hi
  exact ⟨q, k1, k2⟩
theorem name_k {n q : Nat} (h : NameAt ow w T n q) : kIn (hkd w q).1 [9, 10, 11, 12] = true := by
  obtain ⟨_, ⟨k, k1, k2, _⟩, _⟩ := h
  rw [k2]
  have : k = 0 ∨ k = 1 ∨ k = 2 ∨ k = 3 := by omega
  rcases this with rfl | rfl | rfl | rfl <;> rfl
theorem op_moved (hR : Rel ow x w σ) (hm : Rm x w) (a b c d : Int32) : OpW x w (mC_X0_moved x a b c d w) (mM_moved a b c d σ) := by
  rw [fC_X0_moved_e _ _ _ _ hR.L]
  unfold fC_X0_moved mM_moved
  rw [show ∀ f : SM → Option (Int32 × SM), st1 (sI σ 0 0 (0 : Int32)) f = f (sI σ 0 0 0) from fun _ => rfl]
  rw [← fC_X0_isName_e _ hR.L, isName_C hR.rt, isName_M hR.thr.W, ← fC_X0_isPlace_e _ hR.L, isPlace_C hR.rt, isPlace_M hR.thr.W]
  simp only [bd1_s, bd2_s, in_C, isDay_C, isDay_M, b2i_0, isZ_b, ck_tt, Bool.true_eq_false, Bool.false_eq_true, if_true, if_false, ref_F, told_0, told_1, told_2, told_3, told_4, told_5, told_6, fC_X0_moved_15, mM_moved_20, fC_X0_moved_37, mM_moved_42]
  rw [show gI (sI σ 0 0 0) 1 = gI σ 1 from rfl]
  by_cases h0 : dy c = true
  case neg =>
    simp only [Bool.not_eq_true] at h0
    simp only [h0, if_true]
    exact OpW.ref hR _
  by_cases h1 : dy d = true
  case neg =>
    simp only [Bool.not_eq_true] at h1
    simp only [h0, h1, if_true, if_false, Bool.true_eq_false]
    exact OpW.ref hR _
  by_cases h2 : bel a (gI σ 1 1) = true
  case neg =>
    simp only [Bool.not_eq_true] at h2
    simp only [h0, h1, h2, if_true, if_false, Bool.true_eq_false]
    exact OpW.ref hR _
  by_cases h3 : bel b (gI σ 1 0) = true
  case neg =>
    simp only [Bool.not_eq_true] at h3
    simp only [h0, h1, h2, h3, if_true, if_false, Bool.true_eq_false]
    exact OpW.ref hR _
  simp only [h0, h1, h2, h3, if_true, if_false, Bool.true_eq_false]
  have k0 := hR.W.c1.2.1
  rw [hR.W.c2.2.1] at h2
  obtain ⟨n, n1, rfl⟩ := bel_ex h2 (by omega)
  have t3 := (hR.T.2.2.1 n n1).2.2.1
  obtain ⟨q, g1, g2⟩ := get_C hR.T.2.2.2.2.2.2.2.2.2.1 n1
  rw [show x + 1 + 18 = x + 19 by omega] at t3
  rw [show x + 1 + 3 = x + 4 by omega] at g1
  have B1 := bnd_nat (n := n) (m := 200) (by omega) (by omega)
  have B2 := bnd_nat (n := 68 + 11 * n) (m := 23016) (by omega) (by omega)
  have B3 := bnd_nat (n := 76 + 11 * n) (m := 23016) (by omega) (by omega)
  have B4 := bnd_nat (n := 77 + 11 * n) (m := 23016) (by omega) (by omega)
  have B5 := bnd_nat (n := 78 + 11 * n) (m := 23016) (by omega) (by omega)
  have s1 : 68 + 11 * n + 8 = 76 + 11 * n := by omega
  have s2 : 76 + 11 * n + 1 = 77 + 11 * n := by omega
  have s3 : 76 + 11 * n + 2 = 78 + 11 * n := by omega
  rw [g1, bd1_s, ck_t (name_k g2), g2.2.2.1, nameAt_M]
  simp only [bd1_s, i_a 8 8 rfl, i_a 1 1 rfl, i_a 2 2 rfl, s1, s2, s3, B1, B2, B3, B4, B5, ck_tt, i_nat (show n < 2147483648 by omega), i_nat (show 68 + 11 * n < 2147483648 by omega), i_nat (show 76 + 11 * n < 2147483648 by omega), i_nat (show 77 + 11 * n < 2147483648 by omega), i_nat (show 78 + 11 * n < 2147483648 by omega), t3]
  by_cases h5 : gI σ 1 (68 + 11 * n) = b
  · rw [if_pos h5, if_pos h5]
    exact OpW.ref hR _
  · rw [if_neg h5, if_neg h5]
    by_cases h4 : gI σ 1 (76 + 11 * n) = -1
    · rw [if_pos h4, if_pos h4, st1_e, st1_e, st1_e, tol_F, bd2_s, st1_e, st1_e, st1_e]
      simp only [bel, Bool.and_eq_true, decide_eq_true_eq] at h3
      exact OpW.tol (w := w) (hR.rt.thr.moved n1 h3.1 h3.2) ⟨rfl, rfl, rfl⟩ (by simp [vi_I]) hm.2.2 _
    · rw [if_neg h4, if_neg h4]
      exact OpW.ref hR _
theorem xor_rg {a b : Int32} (h : rg a 0 16383) (g : rg b 0 255) : rg (a ^^^ b) 0 16383 := by
  obtain ⟨i, i1, rfl⟩ := rg_ex (m := 16383) rfl h (by decide)
  obtain ⟨j, j1, rfl⟩ := rg_ex (m := 255) rfl g (by decide)
  have e : Int32.ofNat i ^^^ Int32.ofNat j = Int32.ofNat (i ^^^ j) := by
    apply Int32.toBitVec.inj
    show BitVec.ofNat 32 i ^^^ BitVec.ofNat 32 j = BitVec.ofNat 32 (i ^^^ j)
    apply BitVec.eq_of_toNat_eq
    rw [BitVec.toNat_xor, BitVec.toNat_ofNat, BitVec.toNat_ofNat, BitVec.toNat_ofNat, Nat.xor_mod_two_pow]
  have l : i ^^^ j < 2 ^ 14 := Nat.xor_lt_two_pow (by omega) (by omega)
  rw [e]
  exact ⟨i_pos (by omega), (i_le (b := 16383) (by omega) (by decide)).mpr (by omega)⟩
theorem op_alter (hR : Rel ow x w σ) (hm : Rm x w) (a b : Int32) : OpW x w (mC_X0_alter x a b w) (mM_alter a b σ) := by
  have hW := hR.W
  have s6 := size_C hR.T.2.2.2.2.2.2.2.2.2.2.2.2.2
  rw [show x + 1 + 11 = x + 12 by omega] at s6
  rw [fC_X0_alter_e _ _ hR.L]
  unfold fC_X0_alter mM_alter
  rw [show ∀ f : SM → Option (Int32 × SM), st1 (sI σ 0 0 (0 : Int32)) f = f (sI σ 0 0 0) from fun _ => rfl]
  rw [show gI (sI σ 0 0 0) 1 = gI σ 1 from rfl, bel_M hW.1.2.2.2.2.2.2.1.1, s6]
  simp only [bd1_s, bd2_s, in_C, isDay_C, isDay_M, b2i_0, isZ_b, ck_tt, Bool.true_eq_false, Bool.false_eq_true, if_true, if_false, ref_F, told_0, told_1, told_2, told_3, told_4, told_5, told_6, in_M b 1 255 1 255 rfl rfl, fC_X0_alter_35]
  by_cases h0 : inr b 1 255 = true
  case neg =>
    simp only [Bool.not_eq_true] at h0
    simp only [h0, if_true]
    exact OpW.ref hR _
  simp only [h0, if_true, if_false, Bool.true_eq_false]
  have k0 := hW.c1.2.2.2.2.2.2.1
  rw [← hW.c2.2.2.2.2.2.2.1]
  by_cases h2 : bel a (gI σ 1 6) = true
  case neg =>
    simp only [Bool.not_eq_true] at h2
    have h2' := h2
    simp only [h2, if_true]
    by_cases h3 : a < 0
    · rw [if_pos h3]
      exact OpW.ref hR _
    · have : ¬ a < gI σ 1 6 := by
        intro h4
        have h5 : 0 ≤ a := by grind
        simp [bel, h4, h5] at h2
      rw [if_neg h3, if_neg this]
      exact OpW.ref hR _
  have h2' := h2
  simp only [bel, Bool.and_eq_true, decide_eq_true_eq] at h2'
  have h3 : ¬ a < 0 := by have := h2'.1; grind
  simp only [h2, if_true, if_false, Bool.true_eq_false]
  rw [if_neg h3, if_pos h2'.2]
  rw [hW.c2.2.2.2.2.2.2.1] at h2
  obtain ⟨n, n1, rfl⟩ := bel_ex h2 (by omega)
  have t6 := hR.T.2.2.2.2.2.1 n n1
  rw [show x + 1 + 24 = x + 25 by omega] at t6
  have B1 := bnd_nat (n := n) (m := 200) (by omega) (by omega)
  have B2 := bnd_nat (n := 4011 + 5 * n) (m := 23016) (by omega) (by omega)
  have s1 : 4008 + 5 * n + 3 = 4011 + 5 * n := by omega
  simp only [i_am 4008 5 4008 5 rfl rfl, i_a 3 3 rfl, s1, B1, B2, ck_tt, i_nat (show n < 2147483648 by omega), i_nat (show 4011 + 5 * n < 2147483648 by omega), t6]
  have v1 := xor_rg (hW.2.2.2.2.2.2.2.1 n n1).2.2.2.1 (b := b) ⟨by have := (inr_ex h0).1; grind, (inr_ex h0).2⟩
  rw [st1_e, st1_e, vi_I, if_pos ⟨rfl, rfl⟩, rowS_eq, tol_F, told_Mp v1.1, bd2_s, bd2_s]
  exact OpW.tol (w := w) (hR.rt.thr.alter n1 v1) ⟨rfl, rfl, rfl⟩ (by simp [vi_I]) hm.2.2 _
end O3
