set_option maxRecDepth 100000
/-! ===== the tape, the wishes, ways: clear end span wish feed leg ===== -/
section O5
variable {ow : Nat → Nat} {w w' : AH} {T T' : Nat → Int32} {x t : Nat} {σ σ' : SM}
theorem Rel.ses (hR : Rel ow x w σ) (hs : Si w w') (hv : ∀ a i, ¬ (a = x ∧ i ≠ 1) → a ≠ x + 31 → ¬ (x + 43 ≤ a ∧ a ≤ x + 45) → a ≠ x + 51 → a ≠ x + 65 → a ≠ x + 66 → hvi w' a i = hvi w a i) (hl : ∀ a i, hvl w' a i = hvl w a i) (h1 : ∀ i, gI σ' 1 i = gI σ 1 i) (h2 : ∀ i, gI σ' 2 i = gI σ 2 i) (h3 : ∀ i, gI σ' 3 i = gI σ 3 i) (ta : Tap x w' σ') (ws : Wsh x w' σ') (le : Led x w' σ') (wy : Way x w' σ') (st : hvi w' x 0 = gI σ' 0 1) : Rel ow x w' σ' := by
  have e : gI σ' 1 = gI σ 1 := funext h1
  have hx : Sx x w w' := ⟨hs, fun a i ha => hv a i (by omega) (by omega) (by omega) (by omega) (by omega) (by omega), fun a i _ => hl a i⟩
  refine ⟨hs.lay hR.L, hs.oww hR.O, hs.con (hx.z hR.O) hR.Cn, ?_, ?_, hx.img hR.O hR.Im h2 h3, ta, ws, le, wy, st, ?_⟩
  · rw [e]
    exact hs.trep hR.T hR.W (fun j i hj => hv _ _ (by omega) (by omega) (by omega) (by omega) (by omega) (by omega)) (fun j i _ => hl _ i) (hx.z hR.O)
  · rw [e]; exact hR.W
  · rw [e]
    have c := hR.Cc
    have v1 : hvi w' x 1 = hvi w x 1 := hv _ _ (by omega) (by omega) (by omega) (by omega) (by omega) (by omega)
    have V : ∀ j i, (32 ≤ j ∧ j ≤ 42 ∨ 52 ≤ j ∧ j ≤ 58) → hvi w' (x + j) i = hvi w (x + j) i := fun j i hj => hv _ _ (by omega) (by omega) (by omega) (by omega) (by omega) (by omega)
    unfold Cch Ver CFo CRo CDk DeskAt at c ⊢
    simp only [v1, V 32 _ (by decide), V 33 _ (by decide), V 39 _ (by decide), V 40 _ (by decide), V 41 _ (by decide), V 42 _ (by decide), V 52 _ (by decide), V 53 _ (by decide), V 54 _ (by decide), V 55 _ (by decide), V 56 _ (by decide)]
    exact c
theorem op_clear (hR : Rel ow x w σ) : OpW x w (mC_X0_clear x w) (mM_clear σ) := by
  rw [fC_X0_clear_e hR.L]
  refine ⟨hvi w x 19, siI w x 19 0, sI (sI σ 0 0 0) 0 34 0, ow, rfl, ?_, ?_, Grw.si ⟨rfl, rfl, rfl⟩ (Or.inl (by simp [vi_I]))⟩
  · rw [hR.Ws.1]; rfl
  · refine hR.ses ⟨rfl, rfl, rfl⟩ (fun a i g _ _ _ _ _ => by rw [vi_I, if_neg (by omega)]) (fun _ _ => rfl) (fun _ => rfl) (fun _ => rfl) (fun _ => rfl) ?_ ?_ ?_ ?_ ?_
    · simpa [Tap, kd_I, kd_L, kd_R, vi_I, vi_L, vi_R, vl_I, vl_L, vl_R, vr_I, vr_L, vr_R, sz_I, sz_L, sz_R, st_I, st_L, st_R, rm_I, rm_L, rm_R, gI_sI, gI_sL, gL_sL, gL_sI] using hR.Ta
    · refine ⟨by simp [kd_I, kd_L, kd_R, vi_I, vi_L, vi_R, vl_I, vl_L, vl_R, vr_I, vr_L, vr_R, sz_I, sz_L, sz_R, st_I, st_L, st_R, rm_I, rm_L, rm_R, gI_sI, gI_sL, gL_sL, gL_sI], by simp [kd_I, kd_L, kd_R, vi_I, vi_L, vi_R, vl_I, vl_L, vl_R, vr_I, vr_L, vr_R, sz_I, sz_L, sz_R, st_I, st_L, st_R, rm_I, rm_L, rm_R, gI_sI, gI_sL, gL_sL, gL_sI, rg], fun i hi => ?_⟩
      simp [kd_I, kd_L, kd_R, vi_I, vi_L, vi_R, vl_I, vl_L, vl_R, vr_I, vr_L, vr_R, sz_I, sz_L, sz_R, st_I, st_L, st_R, rm_I, rm_L, rm_R, gI_sI, gI_sL, gL_sL, gL_sI] at hi
    · simpa [Led, kd_I, kd_L, kd_R, vi_I, vi_L, vi_R, vl_I, vl_L, vl_R, vr_I, vr_L, vr_R, sz_I, sz_L, sz_R, st_I, st_L, st_R, rm_I, rm_L, rm_R, gI_sI, gI_sL, gL_sL, gL_sI] using hR.Le
    · simpa [Way, kd_I, kd_L, kd_R, vi_I, vi_L, vi_R, vl_I, vl_L, vl_R, vr_I, vr_L, vr_R, sz_I, sz_L, sz_R, st_I, st_L, st_R, rm_I, rm_L, rm_R, gI_sI, gI_sL, gL_sL, gL_sI] using hR.Wy
    · simpa [kd_I, kd_L, kd_R, vi_I, vi_L, vi_R, vl_I, vl_L, vl_R, vr_I, vr_L, vr_R, sz_I, sz_L, sz_R, st_I, st_L, st_R, rm_I, rm_L, rm_R, gI_sI, gI_sL, gL_sL, gL_sI] using hR.St
theorem op_end (hR : Rel ow x w σ) (a : Int32) : OpW x w (mC_X0_end x a w) (mM_end a σ) := by
  rw [fC_X0_end_e _ hR.L]
  unfold fC_X0_end mM_end
  rw [show ∀ f : SM → Option (Int32 × SM), st1 (sI σ 0 0 (0 : Int32)) f = f (sI σ 0 0 0) from fun _ => rfl]
  obtain ⟨t1, t2, t3, t4⟩ := hR.Ta
  have e : gI (sI σ 0 0 0) 0 10 = gI σ 0 10 := by simp [kd_I, kd_L, kd_R, vi_I, vi_L, vi_R, vl_I, vl_L, vl_R, vr_I, vr_L, vr_R, sz_I, sz_L, sz_R, st_I, st_L, st_R, rm_I, rm_L, rm_R, gI_sI, gI_sL, gL_sL, gL_sI]
  rw [e, t1]
  by_cases h1 : a < 0
  · rw [if_pos h1, if_pos h1]
    exact ⟨_, _, _, ow, rfl, rfl, hR.thr, Grw.si (Si.refl w) (Or.inl rfl)⟩
  rw [if_neg h1, if_neg h1]
  by_cases h2 : a ≤ gI σ 0 10
  case neg =>
    rw [if_neg h2, if_neg h2]
    exact ⟨_, _, _, ow, rfl, rfl, hR.thr, Grw.si (Si.refl w) (Or.inl rfl)⟩
  rw [if_pos h2, if_pos h2, st1_e, st1_e]
  refine ⟨_, _, _, ow, rfl, rfl, ?_, Grw.si ⟨rfl, rfl, rfl⟩ (Or.inl (by simp [vi_I]))⟩
  refine hR.ses ⟨rfl, rfl, rfl⟩ (fun a i g _ _ _ _ _ => by rw [vi_I, if_neg (by omega)]) (fun _ _ => rfl) (fun _ => rfl) (fun _ => rfl) (fun _ => rfl) ?_ ?_ ?_ ?_ ?_
  · have h0 : 0 ≤ a := by grind
    have h3 : a ≤ 400 := by have := t2.2; grind
    obtain ⟨n, n1, n2⟩ := rg_ex (m := 400) rfl t2 (by decide)
    obtain ⟨m, m1, rfl⟩ := rg_ex (m := 400) (u := 400) rfl ⟨h0, h3⟩ (by decide)
    rw [n2, i_le (by omega) (by omega)] at h2
    rw [n2, i_nat (by omega)] at t4
    refine ⟨by simp [kd_I, kd_L, kd_R, vi_I, vi_L, vi_R, vl_I, vl_L, vl_R, vr_I, vr_L, vr_R, sz_I, sz_L, sz_R, st_I, st_L, st_R, rm_I, rm_L, rm_R, gI_sI, gI_sL, gL_sL, gL_sI], by simp [kd_I, kd_L, kd_R, vi_I, vi_L, vi_R, vl_I, vl_L, vl_R, vr_I, vr_L, vr_R, sz_I, sz_L, sz_R, st_I, st_L, st_R, rm_I, rm_L, rm_R, gI_sI, gI_sL, gL_sL, gL_sI]; exact ⟨h0, h3⟩, by simpa [kd_I, kd_L, kd_R, vi_I, vi_L, vi_R, vl_I, vl_L, vl_R, vr_I, vr_L, vr_R, sz_I, sz_L, sz_R, st_I, st_L, st_R, rm_I, rm_L, rm_R, gI_sI, gI_sL, gL_sL, gL_sI] using t3, fun i hi => ?_⟩
    simp [kd_I, kd_L, kd_R, vi_I, vi_L, vi_R, vl_I, vl_L, vl_R, vr_I, vr_L, vr_R, sz_I, sz_L, sz_R, st_I, st_L, st_R, rm_I, rm_L, rm_R, gI_sI, gI_sL, gL_sL, gL_sI] at hi ⊢
    rw [i_nat (by omega)] at hi
    exact t4 i (by omega)
  · simpa [Wsh, kd_I, kd_L, kd_R, vi_I, vi_L, vi_R, vl_I, vl_L, vl_R, vr_I, vr_L, vr_R, sz_I, sz_L, sz_R, st_I, st_L, st_R, rm_I, rm_L, rm_R, gI_sI, gI_sL, gL_sL, gL_sI] using hR.Ws
  · simpa [Led, kd_I, kd_L, kd_R, vi_I, vi_L, vi_R, vl_I, vl_L, vl_R, vr_I, vr_L, vr_R, sz_I, sz_L, sz_R, st_I, st_L, st_R, rm_I, rm_L, rm_R, gI_sI, gI_sL, gL_sL, gL_sI] using hR.Le
  · simpa [Way, kd_I, kd_L, kd_R, vi_I, vi_L, vi_R, vl_I, vl_L, vl_R, vr_I, vr_L, vr_R, sz_I, sz_L, sz_R, st_I, st_L, st_R, rm_I, rm_L, rm_R, gI_sI, gI_sL, gL_sL, gL_sI] using hR.Wy
  · simpa [kd_I, kd_L, kd_R, vi_I, vi_L, vi_R, vl_I, vl_L, vl_R, vr_I, vr_L, vr_R, sz_I, sz_L, sz_R, st_I, st_L, st_R, rm_I, rm_L, rm_R, gI_sI, gI_sL, gL_sL, gL_sI] using hR.St
theorem inr_sw {a b : Int32} : (inr a 0 399 = true ∧ inr b a 399 = true) ↔ (inr b 0 399 = true ∧ inr a 0 b = true) := by
  simp only [inr, Bool.and_eq_true, decide_eq_true_eq]
  grind
theorem op_span (hR : Rel ow x w σ) (a b c : Int32) : OpW x w (mC_X0_span x a b c w) (mM_span a b c σ) := by
  rw [fC_X0_span_e _ _ _ hR.L]
  unfold fC_X0_span mM_span
  rw [show ∀ f : SM → Option (Int32 × SM), st1 (sI σ 0 0 (0 : Int32)) f = f (sI σ 0 0 0) from fun _ => rfl]
  obtain ⟨t1, t2, t3⟩ := hR.Ws
  have e : gI (sI σ 0 0 0) 0 34 = gI σ 0 34 := by simp [kd_I, kd_L, kd_R, vi_I, vi_L, vi_R, vl_I, vl_L, vl_R, vr_I, vr_L, vr_R, sz_I, sz_L, sz_R, st_I, st_L, st_R, rm_I, rm_L, rm_R, gI_sI, gI_sL, gL_sL, gL_sI]
  rw [e, bel_M t2.1, t1, in_M b 0 c.toInt64 0 c rfl rfl]
  simp only [bd1_s, bd2_s, in_C, isDay_C, isDay_M, b2i_0, isZ_b, ck_tt, Bool.true_eq_false, Bool.false_eq_true, if_true, if_false, ref_F, told_0, told_1, told_2, told_3, told_4, told_5, told_6, fC_X0_span_18, mM_span_23, dy, inr_bel t2.1]
  have sw := @inr_sw b c
  by_cases h1 : inr b 0 399 = true ∧ inr c b 399 = true
  case neg =>
    have h2 : ¬ (inr c 0 399 = true ∧ inr b 0 c = true) := fun g => h1 (sw.mpr g)
    have A : OpW x w (some ((-1 : Int32), siI w x 0 (-1))) (some (-1, sI (sI σ 0 0 0) 0 1 (-1))) := OpW.ref hR _
    cases p1 : inr b 0 399 <;> cases p2 : inr c b 399 <;> cases p3 : inr c 0 399 <;> cases p4 : inr b 0 c <;> simp_all
  have h2 := sw.mp h1
  simp only [h1.1, h1.2, h2.1, h2.2, if_true, if_false, Bool.true_eq_false]
  by_cases h3 : bel a (gI σ 0 34) = true
  case neg =>
    simp only [Bool.not_eq_true] at h3
    simp only [h3, if_true, if_false, Bool.true_eq_false]
    exact OpW.ref hR _
  simp only [h3, if_true, if_false, Bool.true_eq_false]
  obtain ⟨n, n1, n2⟩ := rg_ex (m := 7) rfl t2 (by decide)
  rw [n2] at h3
  obtain ⟨m, m1, rfl⟩ := bel_ex h3 (by omega)
  rw [n2, i_nat (by omega)] at t3
  rw [ck_t (bnd_nat (by omega) (by omega)), i_nat (by omega), st1_e, ck_t (bnd_nat (by omega) (by omega)), st1_e, ck_t (bnd_nat (by omega) (by omega)), st1_e, ck_t (bnd_nat (by omega) (by omega)), st1_e, don_F, bd2_s]
  refine OpW.don (ow := ow) (w := w) (w' := siI (siI w (x + 44) m b) (x + 45) m c) (σ' := sI (sI (sI σ 0 0 0) 17 m b) 18 m c) ?_ ⟨rfl, rfl, rfl⟩ (by simp [vi_I]) _
  refine hR.ses ⟨rfl, rfl, rfl⟩ (fun a i _ _ g _ _ _ => by rw [vi_I, if_neg (by omega), vi_I, if_neg (by omega)]) (fun _ _ => rfl) (fun _ => rfl) (fun _ => rfl) (fun _ => rfl) ?_ ?_ ?_ ?_ ?_
  · simpa [Tap, kd_I, kd_L, kd_R, vi_I, vi_L, vi_R, vl_I, vl_L, vl_R, vr_I, vr_L, vr_R, sz_I, sz_L, sz_R, st_I, st_L, st_R, rm_I, rm_L, rm_R, gI_sI, gI_sL, gL_sL, gL_sI] using hR.Ta
  · refine ⟨by simpa [kd_I, kd_L, kd_R, vi_I, vi_L, vi_R, vl_I, vl_L, vl_R, vr_I, vr_L, vr_R, sz_I, sz_L, sz_R, st_I, st_L, st_R, rm_I, rm_L, rm_R, gI_sI, gI_sL, gL_sL, gL_sI] using t1, by simpa [kd_I, kd_L, kd_R, vi_I, vi_L, vi_R, vl_I, vl_L, vl_R, vr_I, vr_L, vr_R, sz_I, sz_L, sz_R, st_I, st_L, st_R, rm_I, rm_L, rm_R, gI_sI, gI_sL, gL_sL, gL_sI] using t2, fun i hi => ?_⟩
    simp [kd_I, kd_L, kd_R, vi_I, vi_L, vi_R, vl_I, vl_L, vl_R, vr_I, vr_L, vr_R, sz_I, sz_L, sz_R, st_I, st_L, st_R, rm_I, rm_L, rm_R, gI_sI, gI_sL, gL_sL, gL_sI, n2] at hi
    rw [i_nat (by omega)] at hi
    obtain ⟨g1, g2, g3⟩ := t3 i hi
    refine ⟨by simpa [kd_I, kd_L, kd_R, vi_I, vi_L, vi_R, vl_I, vl_L, vl_R, vr_I, vr_L, vr_R, sz_I, sz_L, sz_R, st_I, st_L, st_R, rm_I, rm_L, rm_R, gI_sI, gI_sL, gL_sL, gL_sI] using g1, ?_, ?_⟩
    · by_cases e : i = m
      · subst e
        simp [kd_I, kd_L, kd_R, vi_I, vi_L, vi_R, vl_I, vl_L, vl_R, vr_I, vr_L, vr_R, sz_I, sz_L, sz_R, st_I, st_L, st_R, rm_I, rm_L, rm_R, gI_sI, gI_sL, gL_sL, gL_sI]
        exact inr_ex h1.1
      · simpa [kd_I, kd_L, kd_R, vi_I, vi_L, vi_R, vl_I, vl_L, vl_R, vr_I, vr_L, vr_R, sz_I, sz_L, sz_R, st_I, st_L, st_R, rm_I, rm_L, rm_R, gI_sI, gI_sL, gL_sL, gL_sI, e] using g2
    · by_cases e : i = m
      · subst e
        simp [kd_I, kd_L, kd_R, vi_I, vi_L, vi_R, vl_I, vl_L, vl_R, vr_I, vr_L, vr_R, sz_I, sz_L, sz_R, st_I, st_L, st_R, rm_I, rm_L, rm_R, gI_sI, gI_sL, gL_sL, gL_sI]
        exact inr_ex h2.1
      · simpa [kd_I, kd_L, kd_R, vi_I, vi_L, vi_R, vl_I, vl_L, vl_R, vr_I, vr_L, vr_R, sz_I, sz_L, sz_R, st_I, st_L, st_R, rm_I, rm_L, rm_R, gI_sI, gI_sL, gL_sL, gL_sI, e] using g3
  · simpa [Led, kd_I, kd_L, kd_R, vi_I, vi_L, vi_R, vl_I, vl_L, vl_R, vr_I, vr_L, vr_R, sz_I, sz_L, sz_R, st_I, st_L, st_R, rm_I, rm_L, rm_R, gI_sI, gI_sL, gL_sL, gL_sI] using hR.Le
  · simpa [Way, kd_I, kd_L, kd_R, vi_I, vi_L, vi_R, vl_I, vl_L, vl_R, vr_I, vr_L, vr_R, sz_I, sz_L, sz_R, st_I, st_L, st_R, rm_I, rm_L, rm_R, gI_sI, gI_sL, gL_sL, gL_sI] using hR.Wy
  · simpa [kd_I, kd_L, kd_R, vi_I, vi_L, vi_R, vl_I, vl_L, vl_R, vr_I, vr_L, vr_R, sz_I, sz_L, sz_R, st_I, st_L, st_R, rm_I, rm_L, rm_R, gI_sI, gI_sL, gL_sL, gL_sI] using hR.St
theorem op_leg (hR : Rel ow x w σ) (a b : Int32) : OpR x w (mC_X0_leg x a b w) (mM_leg a b σ) := by
  rw [fC_X0_leg_e _ _ hR.L]
  unfold fC_X0_leg mM_leg
  rw [show ∀ f : SM → Option (Int32 × SM), st1 (sI σ 0 0 (0 : Int32)) f = f (sI σ 0 0 0) from fun _ => rfl]
  have e1 : gI (sI σ 0 0 0) 0 53 = gI σ 0 53 := by simp [kd_I, kd_L, kd_R, vi_I, vi_L, vi_R, vl_I, vl_L, vl_R, vr_I, vr_L, vr_R, sz_I, sz_L, sz_R, st_I, st_L, st_R, rm_I, rm_L, rm_R, gI_sI, gI_sL, gL_sL, gL_sI]
  have e2 : gI (sI σ 0 0 0) 0 54 = gI σ 0 54 := by simp [kd_I, kd_L, kd_R, vi_I, vi_L, vi_R, vl_I, vl_L, vl_R, vr_I, vr_L, vr_R, sz_I, sz_L, sz_R, st_I, st_L, st_R, rm_I, rm_L, rm_R, gI_sI, gI_sL, gL_sL, gL_sI]
  rw [e1, e2]
  rcases hR.Wy with ⟨h1, h2⟩ | ⟨h1, h2, h3, h4⟩
  · rw [if_pos h2, if_pos h1]
    exact ⟨_, _, ow, rfl, rfl, hR.thr⟩
  · have hn : hvi w x 34 ≠ -1 := by rw [h2]; have := h3.1; grind
    have hf : ¬ gI σ 0 53 = 0 := by rw [h1]; decide
    rw [if_neg hn, if_neg hf, h2, bel_M h3.1]
    simp only [bd1_s, bd2_s, in_C, isDay_C, isDay_M, b2i_0, isZ_b, ck_tt, Bool.true_eq_false, Bool.false_eq_true, if_true, if_false, ref_F, told_0, told_1, told_2, told_3, told_4, told_5, told_6, inr_bel h3.1]
    by_cases h5 : bel a (gI σ 0 54) = true
    case neg =>
      simp only [Bool.not_eq_true] at h5
      simp only [h5, if_true, if_false, Bool.true_eq_false]
      exact ⟨_, _, ow, rfl, rfl, hR.thr⟩
    simp only [h5, if_true, if_false, Bool.true_eq_false]
    obtain ⟨n, n1, n2⟩ := rg_ex (m := 7) rfl h3 (by decide)
    rw [n2] at h5
    obtain ⟨m, m1, rfl⟩ := bel_ex h5 (by omega)
    rw [n2, i_nat (by omega)] at h4
    have B := bnd_nat (n := m) (m := 7) (by omega) (by omega)
    simp only [B, ck_tt, i_nat (show m < 2147483648 by omega), (h4 m m1).1, (h4 m m1).2]
    by_cases p0 : b = 0
    · subst p0
      rw [if_neg (show ¬ inr 0 0 1 = false by decide), if_pos rfl, if_pos rfl]
      exact ⟨_, _, ow, rfl, rfl, hR.thr⟩
    by_cases p1 : b = 1
    · subst p1
      rw [if_neg (show ¬ inr 1 0 1 = false by decide), if_neg p0, if_neg p0, if_pos rfl]
      exact ⟨_, _, ow, rfl, rfl, hR.thr⟩
    have : inr b 0 1 = false := by
      rw [Bool.eq_false_iff]
      intro h
      obtain ⟨m, m1, rfl⟩ := rg_ex (m := 1) rfl (inr_ex h) (by decide)
      have : m = 0 ∨ m = 1 := by omega
      rcases this with rfl | rfl
      · exact p0 rfl
      · exact p1 rfl
    rw [if_pos this, if_neg p0, if_neg p1]
    exact ⟨_, _, ow, rfl, rfl, hR.thr⟩
theorem lq3_s {A B C R : Type} (F : (A → B → C → Option R) → A → B → C → Option R) (n : Nat) (a : A) (b : B) (c : C) : lq3 F (n + 1) a b c = F (lq3 F n) a b c := rfl
theorem wish_loop (hR : Rel ow x w σ) (p : Int32) (hp : rg p 0 15) {n : Nat} (hn : n ≤ 7) (h0 : gI σ 0 34 = Int32.ofNat n) : ∀ (j f i : Nat), i + j = n → j < f → OpW x w (lq3 (fC_X0_wish_17 x) f p (Int32.ofNat i) w) (lq3 mM_wish_22 f p (Int32.ofNat i) (sI σ 0 0 0)) := by
  obtain ⟨t1, t2, t3⟩ := hR.Ws
  rw [h0, i_nat (by omega)] at t3
  have e : gI (sI σ 0 0 0) 0 34 = Int32.ofNat n := by simp [kd_I, kd_L, kd_R, vi_I, vi_L, vi_R, vl_I, vl_L, vl_R, vr_I, vr_L, vr_R, sz_I, sz_L, sz_R, st_I, st_L, st_R, rm_I, rm_L, rm_R, gI_sI, gI_sL, gL_sL, gL_sI, h0]
  intro j
  induction j with
  | zero =>
    intro f i hi hf
    obtain ⟨f, rfl⟩ : ∃ g, f = g + 1 := ⟨f - 1, by omega⟩
    rw [lq3_s, lq3_s]
    unfold fC_X0_wish_17 mM_wish_22
    have hle : Int32.ofNat n ≤ Int32.ofNat i := by rw [i_le (by omega) (by omega)]; omega
    rw [t1, h0, e, if_pos hle, if_pos hle]
    by_cases h7 : n = 7
    · have h5 : Int32.ofNat n = 7 := by rw [h7]; rfl
      rw [if_pos h5, if_pos h5, ref_F, told_5, bd2_s, bd2_s]
      exact OpW.ref hR _
    · have h5 := i_eqL (n := n) (m := 7) (v := 7) rfl (by omega) (by omega) h7
      have tn := told_n (σ := sI (sI (sI (sI (sI σ 0 0 0) 16 n p) 17 n 0) 18 n 399) 0 34 (Int32.ofNat (n + 1))) (n := n + 1) (by omega)
      rw [if_neg h5, if_neg h5, ck_t (bnd_nat (by omega) (by omega)), i_nat (by omega), st1_e, vi_I, if_neg (by omega), t1, h0, ck_t (bnd_nat (by omega) (by omega)), i_nat (by omega), st1_e, vi_I, if_neg (by omega), vi_I, if_neg (by omega), t1, h0, ck_t (bnd_nat (by omega) (by omega)), i_nat (by omega), st1_e, vi_I, if_neg (by omega), vi_I, if_neg (by omega), vi_I, if_neg (by omega), t1, h0, st1_e, vi_I, if_pos ⟨rfl, rfl⟩, i_a 1 1 rfl, don_F, bd2_s]
      rw [ck_t (bnd_nat (by omega) (by omega)), st1_e, gI_sI, if_neg (by omega), e, ck_t (bnd_nat (by omega) (by omega)), i_nat (by omega), st1_e, gI_sI, if_neg (by omega), gI_sI, if_neg (by omega), e, ck_t (bnd_nat (by omega) (by omega)), i_nat (by omega), st1_e, gI_sI, if_neg (by omega), gI_sI, if_neg (by omega), gI_sI, if_neg (by omega), e, i_a 1 1 rfl, st1_e, gI_sI, if_pos ⟨rfl, rfl⟩, tn, bd2_s]
      refine OpW.don (ow := ow) (w := w) (w' := siI (siI (siI (siI w (x + 43) n p) (x + 44) n 0) (x + 45) n 399) x 19 (Int32.ofNat (n + 1))) (σ' := sI (sI (sI (sI (sI σ 0 0 0) 16 n p) 17 n 0) 18 n 399) 0 34 (Int32.ofNat (n + 1))) ?_ ⟨rfl, rfl, rfl⟩ (by simp [vi_I]) _
      refine hR.ses ⟨rfl, rfl, rfl⟩ (fun a i g _ g2 _ _ _ => by rw [vi_I, if_neg (by omega), vi_I, if_neg (by omega), vi_I, if_neg (by omega), vi_I, if_neg (by omega)]) (fun _ _ => rfl) (fun _ => rfl) (fun _ => rfl) (fun _ => rfl) ?_ ?_ ?_ ?_ ?_
      · simpa [Tap, kd_I, kd_L, kd_R, vi_I, vi_L, vi_R, vl_I, vl_L, vl_R, vr_I, vr_L, vr_R, sz_I, sz_L, sz_R, st_I, st_L, st_R, rm_I, rm_L, rm_R, gI_sI, gI_sL, gL_sL, gL_sI] using hR.Ta
      · refine ⟨by simp [kd_I, kd_L, kd_R, vi_I, vi_L, vi_R, vl_I, vl_L, vl_R, vr_I, vr_L, vr_R, sz_I, sz_L, sz_R, st_I, st_L, st_R, rm_I, rm_L, rm_R, gI_sI, gI_sL, gL_sL, gL_sI], ?_, fun i hi => ?_⟩
        · rw [gI_sI, if_pos ⟨rfl, rfl⟩]
          exact ⟨i_pos (by omega), (i_le (b := 7) (by omega) (by decide)).mpr (by omega)⟩
        · rw [gI_sI, if_pos ⟨rfl, rfl⟩, i_nat (by omega)] at hi
          by_cases e : i = n
          · subst e
            simp [kd_I, kd_L, kd_R, vi_I, vi_L, vi_R, vl_I, vl_L, vl_R, vr_I, vr_L, vr_R, sz_I, sz_L, sz_R, st_I, st_L, st_R, rm_I, rm_L, rm_R, gI_sI, gI_sL, gL_sL, gL_sI]
            exact ⟨hp, ⟨by decide, by decide⟩, ⟨by decide, by decide⟩⟩
          · simpa [kd_I, kd_L, kd_R, vi_I, vi_L, vi_R, vl_I, vl_L, vl_R, vr_I, vr_L, vr_R, sz_I, sz_L, sz_R, st_I, st_L, st_R, rm_I, rm_L, rm_R, gI_sI, gI_sL, gL_sL, gL_sI, e] using t3 i (by omega)
      · simpa [Led, kd_I, kd_L, kd_R, vi_I, vi_L, vi_R, vl_I, vl_L, vl_R, vr_I, vr_L, vr_R, sz_I, sz_L, sz_R, st_I, st_L, st_R, rm_I, rm_L, rm_R, gI_sI, gI_sL, gL_sL, gL_sI] using hR.Le
      · simpa [Way, kd_I, kd_L, kd_R, vi_I, vi_L, vi_R, vl_I, vl_L, vl_R, vr_I, vr_L, vr_R, sz_I, sz_L, sz_R, st_I, st_L, st_R, rm_I, rm_L, rm_R, gI_sI, gI_sL, gL_sL, gL_sI] using hR.Wy
      · simpa [kd_I, kd_L, kd_R, vi_I, vi_L, vi_R, vl_I, vl_L, vl_R, vr_I, vr_L, vr_R, sz_I, sz_L, sz_R, st_I, st_L, st_R, rm_I, rm_L, rm_R, gI_sI, gI_sL, gL_sL, gL_sI] using hR.St
  | succ j ih =>
    intro f i hi hf
    obtain ⟨f, rfl⟩ : ∃ g, f = g + 1 := ⟨f - 1, by omega⟩
    rw [lq3_s, lq3_s]
    unfold fC_X0_wish_17 mM_wish_22
    have hle : ¬ Int32.ofNat n ≤ Int32.ofNat i := by rw [i_le (by omega) (by omega)]; omega
    have e2 : gI (sI σ 0 0 0) 16 i = gI σ 16 i := by simp [kd_I, kd_L, kd_R, vi_I, vi_L, vi_R, vl_I, vl_L, vl_R, vr_I, vr_L, vr_R, sz_I, sz_L, sz_R, st_I, st_L, st_R, rm_I, rm_L, rm_R, gI_sI, gI_sL, gL_sL, gL_sI]
    rw [t1, h0, e, if_neg hle, if_neg hle, ck_t (bnd_nat (by omega) (by omega)), i_nat (by omega), (t3 i (by omega)).1.1, ck_t (bnd_nat (by omega) (by omega)), e2]
    by_cases h1 : gI σ 16 i = p
    · rw [if_pos h1, if_pos h1, ref_F, told_4, bd2_s, bd2_s]
      exact OpW.ref hR _
    · rw [if_neg h1, if_neg h1, i_a 1 1 rfl]
      exact ih f (i + 1) (by omega) (by omega)
theorem op_wish (hR : Rel ow x w σ) (p : Int32) : OpW x w (mC_X0_wish x p w) (mM_wish p σ) := by
  rw [fC_X0_wish_e _ hR.L]
  unfold fC_X0_wish mM_wish
  rw [show ∀ f : SM → Option (Int32 × SM), st1 (sI σ 0 0 (0 : Int32)) f = f (sI σ 0 0 0) from fun _ => rfl, isPl_F hR, isPlace_M hR.thr.W]
  simp only [bd1_s, bd2_s, in_C, isDay_C, isDay_M, b2i_0, isZ_b, ck_tt, Bool.true_eq_false, Bool.false_eq_true, if_true, if_false, ref_F, told_0, told_1, told_2, told_3, told_4, told_5, told_6]
  rw [show gI (sI σ 0 0 0) 1 = gI σ 1 from rfl]
  by_cases h1 : bel p (gI σ 1 0) = true
  case neg =>
    simp only [Bool.not_eq_true] at h1
    simp only [h1, if_true, if_false, Bool.true_eq_false]
    exact OpW.ref hR _
  simp only [h1, if_true, if_false, Bool.true_eq_false]
  have hp : rg p 0 15 := by
    have := hR.W.1.1.2
    simp only [bel, Bool.and_eq_true, decide_eq_true_eq] at h1
    exact ⟨h1.1, by have := h1.2; grind⟩
  obtain ⟨n, n1, n2⟩ := rg_ex (m := 7) rfl hR.Ws.2.1 (by decide)
  exact wish_loop hR p hp n1 n2 n LF 0 (by omega) (by unfold LF; omega)
theorem byte_sx (u : Int32) : u.toInt8.toInt32.toInt8.toInt32 = sxb (u &&& 255) ∧ rg (u &&& 255) 0 255 := by
  have hv : (u &&& 255).toInt = u.toInt % 256 := by
    have h1 : (u &&& 255).toBitVec = u.toBitVec &&& 255#32 := rfl
    have h2 : (u.toBitVec &&& 255#32).toNat = u.toBitVec.toNat % 256 := by
      rw [BitVec.toNat_and]
      exact Nat.and_two_pow_sub_one_eq_mod u.toBitVec.toNat 8
    have h3 : (u &&& 255).toInt = ((u.toBitVec &&& 255#32).toNat : Int) := by
      show (u &&& 255).toBitVec.toInt = _
      rw [h1, BitVec.toInt_eq_toNat_cond, if_pos (by rw [h2]; omega)]
    rw [h3, h2]
    show _ = u.toBitVec.toInt % 256
    rw [BitVec.toInt_eq_toNat_cond]
    split <;> omega
  have hr : rg (u &&& 255) 0 255 := by
    refine ⟨Int32.le_iff_toInt_le.mpr ?_, Int32.le_iff_toInt_le.mpr ?_⟩
    · rw [hv]; show (0 : Int) ≤ _; omega
    · rw [hv]; show _ ≤ (255 : Int); omega
  refine ⟨?_, hr⟩
  apply Int32.toInt.inj
  have e1 : u.toInt8.toInt32.toInt8 = u.toInt8 := by simp
  rw [e1, Int8.toInt_toInt32, Int32.toInt_toInt8]
  unfold sxb
  by_cases h : (u &&& 255) < 128
  · rw [if_pos h, hv]
    have := Int32.lt_iff_toInt_lt.mp h
    rw [hv] at this
    have t2 : (u.toInt % 256) < 128 := this
    rw [Int.bmod_def]
    simp only [Nat.reducePow, Int.cast_ofNat_Int]
    rw [if_pos (by omega)]
  · rw [if_neg h, Int32.toInt_sub, hv]
    have h' : ¬ u.toInt % 256 < 128 := fun g => h (Int32.lt_iff_toInt_lt.mpr (by rw [hv]; exact g))
    rw [Int.bmod_def]
    simp only [Nat.reducePow, Int.cast_ofNat_Int]
    rw [if_neg (by omega)]
    show _ = (u.toInt % 256 - 256).bmod (2 ^ 32)
    rw [Int.bmod_eq_of_le (by omega) (by omega)]
theorem byte_st (hR : Rel ow x w σ) {n : Nat} (hn : n < 400) (h0 : gI σ 0 10 = Int32.ofNat n) (u : Int32) : Rel ow x (siI (siI w (x + 31) n u.toInt8.toInt32.toInt8.toInt32) x 5 (Int32.ofNat (n + 1))) (sI (sI σ 6 n (u &&& 255)) 0 10 (Int32.ofNat (n + 1))) := by
  obtain ⟨b1, b2⟩ := byte_sx u
  obtain ⟨t1, t2, t3, t4⟩ := hR.Ta
  rw [h0, i_nat (by omega)] at t4
  refine hR.ses ⟨rfl, rfl, rfl⟩ (fun a i g g2 _ _ _ _ => by rw [vi_I, if_neg (by omega), vi_I, if_neg (by omega)]) (fun _ _ => rfl) (fun _ => rfl) (fun _ => rfl) (fun _ => rfl) ?_ ?_ ?_ ?_ ?_
  · refine ⟨by simp [kd_I, kd_L, kd_R, vi_I, vi_L, vi_R, vl_I, vl_L, vl_R, vr_I, vr_L, vr_R, sz_I, sz_L, sz_R, st_I, st_L, st_R, rm_I, rm_L, rm_R, gI_sI, gI_sL, gL_sL, gL_sI], ?_, by simpa [kd_I, kd_L, kd_R, vi_I, vi_L, vi_R, vl_I, vl_L, vl_R, vr_I, vr_L, vr_R, sz_I, sz_L, sz_R, st_I, st_L, st_R, rm_I, rm_L, rm_R, gI_sI, gI_sL, gL_sL, gL_sI] using t3, fun i hi => ?_⟩
    · rw [gI_sI, if_pos ⟨rfl, rfl⟩]
      exact ⟨i_pos (by omega), (i_le (b := 400) (by omega) (by decide)).mpr (by omega)⟩
    · rw [gI_sI, if_pos ⟨rfl, rfl⟩, i_nat (by omega)] at hi
      by_cases e : i = n
      · subst e
        rw [b1]
        simp [kd_I, kd_L, kd_R, vi_I, vi_L, vi_R, vl_I, vl_L, vl_R, vr_I, vr_L, vr_R, sz_I, sz_L, sz_R, st_I, st_L, st_R, rm_I, rm_L, rm_R, gI_sI, gI_sL, gL_sL, gL_sI]
        exact b2
      · simpa [kd_I, kd_L, kd_R, vi_I, vi_L, vi_R, vl_I, vl_L, vl_R, vr_I, vr_L, vr_R, sz_I, sz_L, sz_R, st_I, st_L, st_R, rm_I, rm_L, rm_R, gI_sI, gI_sL, gL_sL, gL_sI, e] using t4 i (by omega)
  · simpa [Wsh, kd_I, kd_L, kd_R, vi_I, vi_L, vi_R, vl_I, vl_L, vl_R, vr_I, vr_L, vr_R, sz_I, sz_L, sz_R, st_I, st_L, st_R, rm_I, rm_L, rm_R, gI_sI, gI_sL, gL_sL, gL_sI] using hR.Ws
  · simpa [Led, kd_I, kd_L, kd_R, vi_I, vi_L, vi_R, vl_I, vl_L, vl_R, vr_I, vr_L, vr_R, sz_I, sz_L, sz_R, st_I, st_L, st_R, rm_I, rm_L, rm_R, gI_sI, gI_sL, gL_sL, gL_sI] using hR.Le
  · simpa [Way, kd_I, kd_L, kd_R, vi_I, vi_L, vi_R, vl_I, vl_L, vl_R, vr_I, vr_L, vr_R, sz_I, sz_L, sz_R, st_I, st_L, st_R, rm_I, rm_L, rm_R, gI_sI, gI_sL, gL_sL, gL_sI] using hR.Wy
  · simpa [kd_I, kd_L, kd_R, vi_I, vi_L, vi_R, vl_I, vl_L, vl_R, vr_I, vr_L, vr_R, sz_I, sz_L, sz_R, st_I, st_L, st_R, rm_I, rm_L, rm_R, gI_sI, gI_sL, gL_sL, gL_sI] using hR.St
theorem four_ok (hR : Rel ow x w σ) {n : Nat} (hn : n + 4 ≤ 400) (h0 : gI σ 0 10 = Int32.ofNat n) (v : Int32) : ∃ w' σ', fC_X0_four x v w = some w' ∧ mM_four v σ = some σ' ∧ Rel ow x w' σ' ∧ gI σ' 0 10 = Int32.ofNat (n + 4) ∧ Si w w' ∧ hvi w' x 1 = hvi w x 1 := by
  have S : ∀ (w : AH) (σ : SM) (n f : Nat) (i : Int32), Rel ow x w σ → n < 400 → gI σ 0 10 = Int32.ofNat n → ¬ i < 0 → ∃ w' σ', lq3 (fC_X0_four_3 x) (f + 1) v i w = lq3 (fC_X0_four_3 x) f v (i + -8) w' ∧ lq3 mM_four_3 (f + 1) v i σ = lq3 mM_four_3 f v (i + -8) σ' ∧ Rel ow x w' σ' ∧ gI σ' 0 10 = Int32.ofNat (n + 1) ∧ Si w w' ∧ hvi w' x 1 = hvi w x 1 := by
    intro w σ n f i hR hn h0 hi
    have t1 := hR.Ta.1
    refine ⟨_, _, ?_, ?_, byte_st hR hn h0 (v >>> (i &&& 31)), by simp [kd_I, kd_L, kd_R, vi_I, vi_L, vi_R, vl_I, vl_L, vl_R, vr_I, vr_L, vr_R, sz_I, sz_L, sz_R, st_I, st_L, st_R, rm_I, rm_L, rm_R, gI_sI, gI_sL, gL_sL, gL_sI], ⟨rfl, rfl, rfl⟩, by simp [kd_I, kd_L, kd_R, vi_I, vi_L, vi_R, vl_I, vl_L, vl_R, vr_I, vr_L, vr_R, sz_I, sz_L, sz_R, st_I, st_L, st_R, rm_I, rm_L, rm_R, gI_sI, gI_sL, gL_sL, gL_sI]⟩
    · rw [lq3_s]
      unfold fC_X0_four_3
      rw [if_neg hi, t1, h0, ck_t (bnd_nat (by omega) (by omega)), i_nat (by omega), st1_e, vi_I, if_neg (by omega), t1, h0, i_a 1 1 rfl, st1_e]
    · rw [lq3_s]
      unfold mM_four_3
      rw [if_neg hi, h0, ck_t (bnd_nat (by omega) (by omega)), i_nat (by omega), st1_e, gI_sI, if_neg (by omega), h0, i_a 1 1 rfl, st1_e]
  unfold fC_X0_four mM_four
  obtain ⟨w1, σ1, a1, b1, r1, g1, s1, v1⟩ := S w σ n (999999995 + 1 + 1 + 1 + 1) 24 hR (by omega) h0 (by decide)
  obtain ⟨w2, σ2, a2, b2, r2, g2, s2, v2⟩ := S w1 σ1 (n + 1) (999999995 + 1 + 1 + 1) (24 + -8) r1 (by omega) g1 (by decide)
  obtain ⟨w3, σ3, a3, b3, r3, g3, s3, v3⟩ := S w2 σ2 (n + 1 + 1) (999999995 + 1 + 1) (24 + -8 + -8) r2 (by omega) g2 (by decide)
  obtain ⟨w4, σ4, a4, b4, r4, g4, s4, v4⟩ := S w3 σ3 (n + 1 + 1 + 1) (999999995 + 1) (24 + -8 + -8 + -8) r3 (by omega) g3 (by decide)
  refine ⟨w4, σ4, ?_, ?_, r4, g4, ((s1.trans s2).trans s3).trans s4, by rw [v4, v3, v2, v1]⟩
  · rw [LF5, a1, a2, a3, a4, lq3_s]
    unfold fC_X0_four_3
    rw [if_pos (by decide)]
  · rw [LF5, b1, b2, b3, b4, lq3_s]
    unfold mM_four_3
    rw [if_pos (by decide)]
theorem op_feed (hR : Rel ow x w σ) (a b c d e : Int32) : OpW x w (mC_X0_feed x a b c d e w) (mM_feed a b c d e σ) := by
  rw [fC_X0_feed_e _ _ _ _ _ hR.L]
  unfold fC_X0_feed mM_feed
  rw [show ∀ f : SM → Option (Int32 × SM), st1 (sI σ 0 0 (0 : Int32)) f = f (sI σ 0 0 0) from fun _ => rfl]
  obtain ⟨t1, t2, t3, t4⟩ := hR.Ta
  obtain ⟨n, n1, n2⟩ := rg_ex (m := 400) rfl t2 (by decide)
  have e0 : gI (sI σ 0 0 0) 0 10 = Int32.ofNat n := by simp [kd_I, kd_L, kd_R, vi_I, vi_L, vi_R, vl_I, vl_L, vl_R, vr_I, vr_L, vr_R, sz_I, sz_L, sz_R, st_I, st_L, st_R, rm_I, rm_L, rm_R, gI_sI, gI_sL, gL_sL, gL_sI, n2]
  rw [t1, e0, n2, i_a 20 20 rfl]
  by_cases h1 : n + 20 ≤ 400
  case neg =>
    have h2 : ¬ Int32.ofNat (n + 20) ≤ 400 := by rw [show (400 : Int32) = Int32.ofNat 400 from rfl, i_le (by omega) (by decide)]; exact h1
    rw [if_neg h2, if_neg h2]
    exact ⟨_, _, _, ow, rfl, rfl, hR.thr, Grw.si (Si.refl w) (Or.inl rfl)⟩
  have h2 : Int32.ofNat (n + 20) ≤ 400 := by rw [show (400 : Int32) = Int32.ofNat 400 from rfl, i_le (by omega) (by decide)]; exact h1
  rw [if_pos h2, if_pos h2]
  obtain ⟨w1, σ1, a1, b1, r1, g1, s1, v1⟩ := four_ok hR.thr (by omega) e0 a
  obtain ⟨w2, σ2, a2, b2, r2, g2, s2, v2⟩ := four_ok r1 (by omega) g1 b
  obtain ⟨w3, σ3, a3, b3, r3, g3, s3, v3⟩ := four_ok r2 (by omega) g2 c
  obtain ⟨w4, σ4, a4, b4, r4, g4, s4, v4⟩ := four_ok r3 (by omega) g3 d
  obtain ⟨w5, σ5, a5, b5, r5, g5, s5, v5⟩ := four_ok r4 (by omega) g4 e
  rw [a1, bd1_s, a2, bd1_s, a3, bd1_s, a4, bd1_s, a5, bd1_s, b1, bd1_s, b2, bd1_s, b3, bd1_s, b4, bd1_s, b5, bd1_s, r5.Ta.1]
  exact ⟨_, _, _, ow, rfl, rfl, r5, Grw.si ((((s1.trans s2).trans s3).trans s4).trans s5) (Or.inl (by rw [v5, v4, v3, v2, v1]))⟩
end O5
