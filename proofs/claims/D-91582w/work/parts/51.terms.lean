set_option maxRecDepth 100000
section TS
variable {ow : Nat → Nat} {w w' : AH} {T T' : Nat → Int32} {x : Nat} {σ σ' : SM}
/-- numbers of the Told were written that no cache asks -/
theorem RelT.relS (h : RelT ow x w' σ') (hR : Rel ow x w σ) (hs : hvi w' x 0 = gI σ' 0 1) (hE : EqS (gI σ 1) (gI σ' 1)) (hv : ∀ a i, ¬ (x + 1 ≤ a ∧ a ≤ x + 29) → hvi w' a i = hvi w a i) : Rel ow x w' σ' := by
  have c := hR.Cc.eqs hE hR.W
  have v1 : hvi w' x 1 = hvi w x 1 := hv _ _ (by omega)
  have V : ∀ j i, (32 ≤ j ∧ j ≤ 58) → hvi w' (x + j) i = hvi w (x + j) i := fun j i hj => hv _ _ (by omega)
  refine h.rel hs ?_
  have c2 : Cch x w' (gI σ' 1) := by
    unfold Cch Ver CFo CRo CDk DeskAt at c ⊢
    simp only [v1, V 32 _ (by decide), V 33 _ (by decide), V 39 _ (by decide), V 40 _ (by decide), V 41 _ (by decide), V 42 _ (by decide), V 52 _ (by decide), V 53 _ (by decide), V 54 _ (by decide), V 55 _ (by decide), V 56 _ (by decide)]
    exact c
  exact c2.2
theorem op_terms (hR : Rel ow x w σ) (a b : Int32) : OpW x w (mC_X0_terms x a b w) (mM_terms a b σ) := by
  rw [fC_X0_terms_e _ _ hR.L]
  unfold fC_X0_terms mM_terms
  rw [show ∀ f : SM → Option (Int32 × SM), st1 (sI σ 0 0 (0 : Int32)) f = f (sI σ 0 0 0) from fun _ => rfl]
  simp only [bd1_s, bd2_s, in_C, isDay_C, isDay_M, b2i_0, isZ_b, ck_tt, Bool.true_eq_false, Bool.false_eq_true, if_true, if_false, ref_F, told_0, told_1, told_2, told_3, told_4, told_5, told_6, in_M a 1 50 1 50 rfl rfl, in_M b 0 9 0 9 rfl rfl, fC_X0_terms_20, mM_terms_29]
  by_cases h1 : inr a 1 50 = true
  case neg =>
    simp only [Bool.not_eq_true] at h1
    simp only [h1, if_true, if_false, Bool.true_eq_false]
    exact OpW.ref hR _
  by_cases h2 : inr b 0 9 = true
  case neg =>
    simp only [Bool.not_eq_true] at h2
    simp only [h1, h2, if_true, if_false, Bool.true_eq_false]
    exact OpW.ref hR _
  simp only [h1, h2, if_true, if_false, Bool.true_eq_false]
  rw [st1_e, st1_e, don_F, bd2_s, st1_e, st1_e]
  refine OpW.don (ow := ow) (w := w) (w' := siI (siI w (x + 1) 25 a) (x + 1) 26 b) (σ' := sI (sI (sI σ 0 0 0) 1 9 a) 1 10 b) ?_ ⟨rfl, rfl, rfl⟩ (by simp [vi_I]) _
  refine (hR.rt.thr.terms (inr_ex h1) (inr_ex h2)).relS hR.thr (by simp [kd_I, kd_L, kd_R, vi_I, vi_L, vi_R, vl_I, vl_L, vl_R, vr_I, vr_L, vr_R, sz_I, sz_L, sz_R, st_I, st_L, st_R, rm_I, rm_L, rm_R, gI_sI, gI_sL, gL_sL, gL_sI]; exact hR.St) (fun i g1 g2 _ => by rw [rowS_ne g2, rowS_ne g1]) (fun q i hq => by rw [vi_I, if_neg (by omega), vi_I, if_neg (by omega)])
theorem l2i2l {y : Int64} (h0 : 0 ≤ y.toInt) (h1 : y.toInt ≤ 2147483647) : y.toInt32.toInt64 = y := by
  apply Int64.toInt.inj
  rw [Int32.toInt_toInt64, Int64.toInt_toInt32, Int.bmod_eq_of_le (by omega) (by omega)]
section SW
variable {b : Nat} {m s v : Int32}
theorem sealW (a1 : hvi w x 38 = m) (a2 : hvl w x 36 = s.toInt64) (a3 : hvl w x 37 = v.toInt64) : siL (siL (siI w (x + 26) b (hvi w x 38)) (x + 27) b (hvl (siI w (x + 26) b (hvi w x 38)) x 36)) (x + 28) b (hvl (siL (siI w (x + 26) b (hvi w x 38)) (x + 27) b (hvl (siI w (x + 26) b (hvi w x 38)) x 36)) x 37) = siL (siL (siI w (x + 26) b m) (x + 27) b s.toInt64) (x + 28) b v.toInt64 := by
  rw [vl_L, if_neg (by omega), vl_I, vl_I, a1, a2, a3]
theorem sealV : hvi (siL (siL (siI w (x + 26) b m) (x + 27) b s.toInt64) (x + 28) b v.toInt64) x 38 = hvi w x 38 := by rw [vi_L, vi_L, vi_I, if_neg (by omega)]
theorem sealJ : hvi (siL (siL (siI w (x + 26) b m) (x + 27) b s.toInt64) (x + 28) b v.toInt64) x 1 = hvi w x 1 := by rw [vi_L, vi_L, vi_I, if_neg (by omega)]
theorem sealS : gI (sI (sI (sI (sI σ 1 (2368 + 4 * b) 1) 1 (2369 + 4 * b) m) 1 (2370 + 4 * b) s) 1 (2371 + 4 * b) v) 0 59 = gI σ 0 59 := by rw [gI_sI, if_neg (by omega), gI_sI, if_neg (by omega), gI_sI, if_neg (by omega), gI_sI, if_neg (by omega)]
theorem sealO (h : hvi w x 0 = gI σ 0 1) : hvi (siL (siL (siI w (x + 26) b m) (x + 27) b s.toInt64) (x + 28) b v.toInt64) x 0 = gI (sI (sI (sI (sI σ 1 (2368 + 4 * b) 1) 1 (2369 + 4 * b) m) 1 (2370 + 4 * b) s) 1 (2371 + 4 * b) v) 0 1 := by rw [vi_L, vi_L, vi_I, if_neg (by omega), gI_sI, if_neg (by omega), gI_sI, if_neg (by omega), gI_sI, if_neg (by omega), gI_sI, if_neg (by omega)]; exact h
theorem sealE : b < 20 → EqS (gI σ 1) (gI (sI (sI (sI (sI σ 1 (2368 + 4 * b) 1) 1 (2369 + 4 * b) m) 1 (2370 + 4 * b) s) 1 (2371 + 4 * b) v) 1) := fun hb i g1 g2 g3 => by rw [rowS_ne (by omega), rowS_ne (by omega), rowS_ne (by omega), rowS_ne (by omega)]
theorem sealF : ∀ q i, ¬ (x + 1 ≤ q ∧ q ≤ x + 29) → hvi (siL (siL (siI w (x + 26) b m) (x + 27) b s.toInt64) (x + 28) b v.toInt64) q i = hvi w q i := fun q i hq => by rw [vi_L, vi_L, vi_I, if_neg (by omega)]
theorem sealI : Si w (siL (siL (siI w (x + 26) b m) (x + 27) b s.toInt64) (x + 28) b v.toInt64) := ⟨rfl, rfl, rfl⟩
end SW
theorem op_seal (hR : Rel ow x w σ) (p : Int32) : OpW x w (mC_X0_seal x p w) (mM_seal p σ) := by
  rw [fC_X0_seal_e _ hR.L]
  unfold fC_X0_seal mM_seal
  rw [show ∀ f : SM → Option (Int32 × SM), st1 (sI σ 0 0 (0 : Int32)) f = f (sI σ 0 0 0) from fun _ => rfl, isBo_F hR, isBooth_M hR.thr.W]
  simp only [bd1_s, bd2_s, in_C, isDay_C, isDay_M, b2i_0, isZ_b, ck_tt, Bool.true_eq_false, Bool.false_eq_true, if_true, if_false, ref_F, told_0, told_1, told_2, told_3, told_4, told_5, told_6]
  rw [show gI (sI σ 0 0 0) 1 = gI σ 1 from rfl]
  by_cases h1 : bel p (gI σ 1 3) = true
  case neg =>
    simp only [Bool.not_eq_true] at h1
    simp only [h1, if_true, if_false, Bool.true_eq_false]
    exact OpW.ref hR _
  simp only [h1, if_true, if_false, Bool.true_eq_false]
  have k3 := hR.W.c1.2.2.2.1
  have k6 := hR.W.c1.2.2.2.2.2.2.1
  rw [hR.W.c2.2.2.2.1] at h1
  obtain ⟨b, b1, rfl⟩ := bel_ex h1 (by omega)
  obtain ⟨w5, σ9, A, B, a1, a2, a3, ⟨a4, a5⟩, ⟨a6, a7⟩, a8, a9⟩ := adds_ok hR.thr.qq (Int32.ofNat b)
  rw [show gI (sI σ 0 0 0) 1 = gI σ 1 from rfl] at a5 a7 a9
  have sd := fC_X0_adds_2_s _ _ _ A
  have sm := mM_addBooth_s _ _ _ B
  have R5 : Rel ow x w5 σ9 := hR.thr.sd sd sm
  have e9 : gI σ9 1 = gI σ 1 := sm.row
  have r1 : (gL σ9 0 60).toInt32.toInt64 = gL σ9 0 60 := l2i2l a6 (by omega)
  have r2 : (gL σ9 0 61).toInt32.toInt64 = gL σ9 0 61 := l2i2l a8 (by omega)
  have m0 : 0 ≤ gI σ9 0 59 := Int32.le_iff_toInt_le.mpr a4
  have s1 : 2368 + 4 * b + 1 = 2369 + 4 * b := by omega
  have s2 : 2368 + 4 * b + 2 = 2370 + 4 * b := by omega
  have s3 : 2368 + 4 * b + 3 = 2371 + 4 * b := by omega
  rw [A, bd1_s, ck_t (bnd_nat (by omega) (by omega)), i_nat (by omega), st1_e, ck_t (bnd_nat (by omega) (by omega)), st1_e, ck_t (bnd_nat (by omega) (by omega)), st1_e, don_F, bd2_s, B, bd1_s, i_am 2368 4 2368 4 rfl rfl, addFour_M _ (by omega), bd1_s, s1, s2, s3]
  obtain ⟨m, hm⟩ : ∃ m, gI σ9 0 59 = m := ⟨_, rfl⟩
  obtain ⟨s, hs⟩ : ∃ s, (gL σ9 0 60).toInt32 = s := ⟨_, rfl⟩
  obtain ⟨v, hv⟩ : ∃ v, (gL σ9 0 61).toInt32 = v := ⟨_, rfl⟩
  rw [hm] at a1 m0
  rw [hs] at r1
  rw [hv] at r2
  rw [hm, hs, hv, sealW a1 (a2.trans r1.symm) (a3.trans r2.symm), sealV, sealS, hm, a1, told_Mp m0, bd2_s]
  have Z := (R5.rt.seal (s := s) (v := v) (by rw [e9]; exact b1) m0).relS R5 (sealO R5.St) (sealE (by omega)) (sealF)
  exact OpW.don (w := w) Z (sd.1.trans sealI) (by rw [sealJ]; exact sd.v1) _
end TS
