set_option maxRecDepth 100000
section O7
variable {ow ow' : Nat → Nat} {w w' wn : AH} {T T' : Nat → Int32} {x t : Nat} {σ σ' : SM} {L n : Nat}
theorem QQ.cou (h : QQ ow x w T) {c : Nat} (hc : c < cn T 6) : ∃ q, mC_J2_get (x + 12) (Int32.ofNat c) w = some q ∧ CountAt ow w T c q := by
  have := get_C h.2.2.1.2.2.2.2.2.2.2.2.2.2.2.2.2 hc
  rw [show x + 1 + 11 = x + 12 by omega] at this
  exact this
theorem QQ.han (h : QQ ow x w T) {c : Nat} (hc : c < cn T 5) : ∃ q, mC_J2_get (x + 8) (Int32.ofNat c) w = some q ∧ HandAt ow w T c q := by
  have := get_C h.2.2.1.2.2.2.2.2.2.2.2.2.2.2.1 hc
  rw [show x + 1 + 7 = x + 8 by omega] at this
  exact this
theorem QQ.s6 (h : QQ ow x w T) : mC_J2_size (x + 12) w = some (Int32.ofNat (cn T 6)) := by
  have := size_C h.2.2.1.2.2.2.2.2.2.2.2.2.2.2.2.2
  rw [show x + 1 + 11 = x + 12 by omega] at this
  exact this
theorem QQ.s5 (h : QQ ow x w T) : mC_J2_size (x + 8) w = some (Int32.ofNat (cn T 5)) := by
  have := size_C h.2.2.1.2.2.2.2.2.2.2.2.2.2.2.1
  rw [show x + 1 + 7 = x + 8 by omega] at this
  exact this
theorem note_k {q : Nat} {a b c d e : Int32} (h : NoteAt ow w q a b c d e) : kIn (hkd w q).1 [14] = true := by rw [h.2.1]; rfl
/-- the box of a telling -/
theorem WF.bx (hW : WF T) {c : Nat} (hc : c < cn T 6) : ∃ b, b < cn T 4 ∧ T (4008 + 5 * c) = Int32.ofNat b := by
  obtain ⟨⟨h1, h2⟩, _⟩ := hW.2.2.2.2.2.2.2.1 c hc
  have k := hW.c1.2.2.2.2.1
  rw [hW.c2.2.2.2.2.1] at h2
  exact bel_ex (v := T (4008 + 5 * c)) (n := cn T 4) (by simp [bel, h1, h2]) (by omega)
theorem isOf_C (h : QQ ow x w T) {c : Nat} (hc : c < cn T 6) (b : Int32) : fC_X0_isOf x (Int32.ofNat c) b w = some (b2i (decide (booOf T c = b))) := by
  obtain ⟨q, q1, q2⟩ := h.cou hc
  obtain ⟨u, u1, u2⟩ := h.2.2.2.bx hc
  have k := h.2.2.2.c1.2.2.2.2.1
  have t5 := (h.2.2.1.2.2.2.2.1.2 u u1).1
  rw [show x + 1 + 22 = x + 23 by omega] at t5
  unfold fC_X0_isOf booOf
  rw [q1, bd1_s, ck_t (note_k q2), q2.2.2.1, u2, ck_t (bnd_nat (by omega) (by omega)), i_nat (by omega), t5]
  by_cases e : T (2448 + 2 * u) = b
  · rw [if_pos e, decide_eq_true e]; rfl
  · rw [if_neg e, decide_eq_false e]; rfl
theorem boothOf_M (hW : WF (gI σ 1)) {c : Nat} (hc : c < cn (gI σ 1) 6) : mM_boothOf (Int32.ofNat c) σ = some (booOf (gI σ 1) c) := by
  obtain ⟨u, u1, u2⟩ := hW.bx hc
  have k := hW.c1.2.2.2.2.1
  have k6 := hW.c1.2.2.2.2.2.2.1
  unfold mM_boothOf booOf
  rw [i_am 4008 5 4008 5 rfl rfl, ck_t (bnd_nat (by omega) (by omega)), i_nat (by omega), u2, i_am 2448 2 2448 2 rfl rfl, ck_t (bnd_nat (by omega) (by omega)), i_nat (by omega), i_nat (by omega)]
def AB (x : Nat) (w : AH) (σ : SM) (i : Nat) : Prop := hvi w x 38 = gI σ 0 59 ∧ hvl w x 36 = gL σ 0 60 ∧ hvl w x 37 = gL σ 0 61 ∧ (0 ≤ (gI σ 0 59).toInt ∧ (gI σ 0 59).toInt ≤ i) ∧ (0 ≤ (gL σ 0 60).toInt ∧ (gL σ 0 60).toInt ≤ 16383 * i) ∧ (0 ≤ (gL σ 0 61).toInt ∧ (gL σ 0 61).toInt ≤ 3276600 * i)
theorem i32_add1 {v : Int32} {m : Int} (h0 : 0 ≤ v.toInt) (h1 : v.toInt ≤ m) (hm : m < 1000000) : (v + 1).toInt = v.toInt + 1 := by
  rw [Int32.toInt_add]
  show (v.toInt + 1).bmod (2 ^ 32) = _
  rw [Int.bmod_eq_of_le (by omega) (by omega)]
theorem i64_add {a b : Int64} (h0 : 0 ≤ a.toInt) (h1 : a.toInt ≤ 1000000000000) (g0 : 0 ≤ b.toInt) (g1 : b.toInt ≤ 1000000000000) : (a + b).toInt = a.toInt + b.toInt := by
  rw [Int64.toInt_add, Int.bmod_eq_of_le (by omega) (by omega)]
theorem i64_mul {a b : Int32} (h0 : 0 ≤ a.toInt) (h1 : a.toInt ≤ 1000000) (g0 : 0 ≤ b.toInt) (g1 : b.toInt ≤ 1000000) : (a.toInt64 * b.toInt64).toInt = a.toInt * b.toInt := by
  have p0 : 0 ≤ a.toInt * b.toInt := Int.mul_nonneg h0 g0
  have p1 : a.toInt * b.toInt ≤ 1000000 * 1000000 := Int.mul_le_mul h1 g1 g0 (by decide)
  rw [Int64.toInt_mul, Int32.toInt_toInt64, Int32.toInt_toInt64, Int.bmod_eq_of_le (by omega) (by omega)]
theorem adds_loop (p : Int32) : ∀ (j f i : Nat) (w : AH) (σ : SM), QQ ow x w (gI σ 1) → i + j = cn (gI σ 1) 6 → j < f → AB x w σ i → ∃ w' σ', lq3 (fC_X0_adds_2_17 x) f p (Int32.ofNat i) w = some w' ∧ lq3 mM_addBooth_17 f p (Int32.ofNat i) σ = some σ' ∧ AB x w' σ' (cn (gI σ 1) 6) := by
  intro j
  induction j with
  | zero =>
    intro f i w σ hq hi hf hA
    obtain ⟨f, rfl⟩ : ∃ g, f = g + 1 := ⟨f - 1, by omega⟩
    have k := hq.2.2.2.c1.2.2.2.2.2.2.1
    have e := hq.2.2.2.c2.2.2.2.2.2.2.1
    have hle : Int32.ofNat (cn (gI σ 1) 6) ≤ Int32.ofNat i := by rw [i_le (by omega) (by omega)]; omega
    refine ⟨w, σ, ?_, ?_, by rw [← hi]; exact hA⟩
    · rw [lq3_s]
      unfold fC_X0_adds_2_17
      rw [hq.s6, bd1_s, if_pos hle]
    · rw [lq3_s]
      unfold mM_addBooth_17
      rw [e, if_pos hle]
  | succ j ih =>
    intro f i w σ hq hi hf hA
    obtain ⟨f, rfl⟩ : ∃ g, f = g + 1 := ⟨f - 1, by omega⟩
    have k := hq.2.2.2.c1.2.2.2.2.2.2.1
    have e := hq.2.2.2.c2.2.2.2.2.2.2.1
    have hc : i < cn (gI σ 1) 6 := by omega
    have hle : ¬ Int32.ofNat (cn (gI σ 1) 6) ≤ Int32.ofNat i := by rw [i_le (by omega) (by omega)]; omega
    rw [lq3_s, lq3_s]
    unfold fC_X0_adds_2_17 mM_addBooth_17 fC_X0_adds_2_97 mM_addBooth_101
    rw [hq.s6, bd1_s, if_neg hle, isOf_C hq hc, bd1_s, e, if_neg hle, boothOf_M hq.2.2.2 hc, bd1_s, i_a 1 1 rfl]
    simp only [b2i_0]
    by_cases hb : booOf (gI σ 1) i = p
    · rw [if_neg (by simp [hb]), if_pos hb]
      have t6 := hq.2.2.1.2.2.2.2.2.1 i hc
      rw [show x + 1 + 24 = x + 25 by omega] at t6
      have wr := (hq.2.2.2.2.2.2.2.2.2.2.1 i hc).2.2.2.1
      obtain ⟨a1, a2, a3, ⟨a4, a5⟩, ⟨a6, a7⟩, a8, a9⟩ := hA
      have v0 : 0 ≤ (gI σ 1 (4011 + 5 * i)).toInt := Int32.le_iff_toInt_le.mp wr.1
      have v1 : (gI σ 1 (4011 + 5 * i)).toInt ≤ 16383 := Int32.le_iff_toInt_le.mp wr.2
      have s1 : 4008 + 5 * i + 3 = 4011 + 5 * i := by omega
      have B1 := bnd_nat (n := i) (m := 200) (by omega) (by omega)
      have B2 := bnd_nat (n := 4011 + 5 * i) (m := 23016) (by omega) (by omega)
      simp only [i_am 4008 5 4008 5 rfl rfl, i_a 3 3 rfl, s1, B1, B2, ck_tt, i_nat (show i < 2147483648 by omega), i_nat (show 4011 + 5 * i < 2147483648 by omega)]
      rw [st1_e, st1_e, st1_e, st1_e, st1_e, st1_e]
      have m1 := i32_add1 a4 a5 (by omega)
      have m2 : (gL σ 0 60 + (gI σ 1 (4011 + 5 * i)).toInt64).toInt = (gL σ 0 60).toInt + (gI σ 1 (4011 + 5 * i)).toInt := by
        rw [i64_add a6 (by omega) (by rw [Int32.toInt_toInt64]; exact v0) (by rw [Int32.toInt_toInt64]; omega), Int32.toInt_toInt64]
      have m3 := i64_mul v0 (by omega) (show 0 ≤ (gI σ 0 59 + 1).toInt by omega) (by omega)
      have m4 : 0 ≤ (gI σ 1 (4011 + 5 * i)).toInt * (gI σ 0 59 + 1).toInt := Int.mul_nonneg v0 (by omega)
      have m5 : (gI σ 1 (4011 + 5 * i)).toInt * (gI σ 0 59 + 1).toInt ≤ 16383 * 200 := Int.mul_le_mul v1 (by omega) (by omega) (by decide)
      have m6 := i64_add a8 (by omega) (show 0 ≤ ((gI σ 1 (4011 + 5 * i)).toInt64 * (gI σ 0 59 + 1).toInt64).toInt by rw [m3]; exact m4) (by rw [m3]; omega)
      rw [m3] at m6
      refine ih f (i + 1) _ _ (hq.sc ((Sc.I 38 _ (by unfold cS; omega)).trans ((Sc.L 36 _ (Or.inl rfl)).trans (Sc.L 37 _ (Or.inl rfl))))) (show i + 1 + j = cn (gI σ 1) 6 by omega) (by omega) ⟨?_, ?_, ?_, ⟨?_, ?_⟩, ⟨?_, ?_⟩, ?_, ?_⟩
      · simp [kd_I, kd_L, kd_R, vi_I, vi_L, vi_R, vl_I, vl_L, vl_R, vr_I, vr_L, vr_R, sz_I, sz_L, sz_R, st_I, st_L, st_R, rm_I, rm_L, rm_R, gI_sI, gI_sL, gL_sL, gL_sI, a1]
      · simp [kd_I, kd_L, kd_R, vi_I, vi_L, vi_R, vl_I, vl_L, vl_R, vr_I, vr_L, vr_R, sz_I, sz_L, sz_R, st_I, st_L, st_R, rm_I, rm_L, rm_R, gI_sI, gI_sL, gL_sL, gL_sI, a2, t6]
      · simp [kd_I, kd_L, kd_R, vi_I, vi_L, vi_R, vl_I, vl_L, vl_R, vr_I, vr_L, vr_R, sz_I, sz_L, sz_R, st_I, st_L, st_R, rm_I, rm_L, rm_R, gI_sI, gI_sL, gL_sL, gL_sI, a1, a3, t6, Int64.mul_comm]
      · show 0 ≤ (gI σ 0 59 + 1).toInt; omega
      · show (gI σ 0 59 + 1).toInt ≤ _; omega
      · show 0 ≤ (gL σ 0 60 + (gI σ 1 (4011 + 5 * i)).toInt64).toInt; omega
      · show (gL σ 0 60 + (gI σ 1 (4011 + 5 * i)).toInt64).toInt ≤ _; omega
      · show 0 ≤ (gL σ 0 61 + (gI σ 1 (4011 + 5 * i)).toInt64 * (gI σ 0 59 + 1).toInt64).toInt; omega
      · show (gL σ 0 61 + (gI σ 1 (4011 + 5 * i)).toInt64 * (gI σ 0 59 + 1).toInt64).toInt ≤ _; omega
    · rw [if_pos (by simp [hb]), if_neg hb]
      exact ih f (i + 1) w σ hq (by omega) (by omega) (by
        obtain ⟨a1, a2, a3, ⟨a4, a5⟩, ⟨a6, a7⟩, a8, a9⟩ := hA
        exact ⟨a1, a2, a3, ⟨a4, by omega⟩, ⟨a6, by omega⟩, a8, by omega⟩)
theorem adds_ok (hq : QQ ow x w (gI σ 1)) (p : Int32) : ∃ w' σ', fC_X0_adds_2 x p w = some w' ∧ mM_addBooth p σ = some σ' ∧ AB x w' σ' (cn (gI σ 1) 6) := by
  unfold fC_X0_adds_2 mM_addBooth
  rw [st1_e, st1_e, st1_e, st1_e, st1_e, st1_e]
  have k := hq.2.2.2.c1.2.2.2.2.2.2.1
  refine adds_loop (ow := ow) p (cn (gI σ 1) 6) LF 0 _ _ (hq.sc ((Sc.L 36 _ (Or.inl rfl)).trans ((Sc.L 37 _ (Or.inl rfl)).trans (Sc.I 38 _ (by unfold cS; omega))))) (show 0 + cn (gI σ 1) 6 = cn (gI σ 1) 6 by omega) (by unfold LF; omega) ⟨?_, ?_, ?_, ⟨?_, ?_⟩, ⟨?_, ?_⟩, ?_, ?_⟩
  all_goals simp [kd_I, kd_L, kd_R, vi_I, vi_L, vi_R, vl_I, vl_L, vl_R, vr_I, vr_L, vr_R, sz_I, sz_L, sz_R, st_I, st_L, st_R, rm_I, rm_L, rm_R, gI_sI, gI_sL, gL_sL, gL_sI]
theorem lq6_s {A B C D E F R : Type} (G : (A → B → C → D → E → F → Option R) → A → B → C → D → E → F → Option R) (n : Nat) (a : A) (b : B) (c : C) (d : D) (e : E) (f : F) : lq6 G (n + 1) a b c d e f = G (lq6 G n) a b c d e f := rfl
theorem found_loop (hq : QQ ow x w (gI σ 1)) (p : Int32) (u v : Int64) (hu : ¬ u = 0) : ∀ (j f i : Nat) (k : Int32), i + j = cn (gI σ 1) 6 → j < f → ∃ r, lq6 (fC_X0_found_100 x) f p u v k (Int32.ofNat i) w = some (r, w) ∧ lq6 mM_found_119 f p u v k (Int32.ofNat i) σ = some (r, σ) := by
  have kc := hq.2.2.2.c1.2.2.2.2.2.2.1
  have e := hq.2.2.2.c2.2.2.2.2.2.2.1
  intro j
  induction j with
  | zero =>
    intro f i k hi hf
    obtain ⟨f, rfl⟩ : ∃ g, f = g + 1 := ⟨f - 1, by omega⟩
    have hle : Int32.ofNat (cn (gI σ 1) 6) ≤ Int32.ofNat i := by rw [i_le (by omega) (by omega)]; omega
    refine ⟨-2, ?_, ?_⟩
    · rw [lq6_s]
      unfold fC_X0_found_100
      rw [hq.s6, bd1_s, if_pos hle]
    · rw [lq6_s]
      unfold mM_found_119
      rw [e, if_pos hle]
  | succ j ih =>
    intro f i k hi hf
    obtain ⟨f, rfl⟩ : ∃ g, f = g + 1 := ⟨f - 1, by omega⟩
    have hc : i < cn (gI σ 1) 6 := by omega
    have hle : ¬ Int32.ofNat (cn (gI σ 1) 6) ≤ Int32.ofNat i := by rw [i_le (by omega) (by omega)]; omega
    rw [lq6_s, lq6_s]
    unfold fC_X0_found_100 mM_found_119 fC_X0_found_151 mM_found_158
    rw [hq.s6, bd1_s, if_neg hle, if_neg hu, isOf_C hq hc, bd1_s, e, if_neg hle, boothOf_M hq.2.2.2 hc, bd1_s, i_a 1 1 rfl]
    simp only [b2i_0]
    by_cases hb : booOf (gI σ 1) i = p
    · rw [if_neg (by simp [hb]), if_pos hb, Int64.mul_comm u]
      by_cases h2 : (k + 1).toInt64 * u = v
      · rw [if_pos h2, if_pos h2]
        exact ⟨_, rfl, rfl⟩
      · rw [if_neg h2, if_neg h2]
        exact ih f (i + 1) (k + 1) (by omega) (by omega)
    · rw [if_pos (by simp [hb]), if_neg hb]
      exact ih f (i + 1) k (by omega) (by omega)
theorem fnd0 (hq : QQ ow x w (gI σ 1)) (p : Int32) (v : Int64) : fC_X0_found_94 x p 0 v w = some (-2, w) := by
  have kc := hq.2.2.2.c1.2.2.2.2.2.2.1
  unfold fC_X0_found_94
  rw [LF5, lq6_s]
  unfold fC_X0_found_100
  rw [hq.s6, bd1_s]
  by_cases h : Int32.ofNat (cn (gI σ 1) 6) ≤ 0
  · rw [if_pos h]
  · rw [if_neg h, if_pos rfl]
/-- only scratch was written that is no cache -/
theorem Rel.sd (hR : Rel ow x w σ) (h : Sd x w w') (g : ScM σ σ') : Rel ow x w' σ' := by
  refine hR.sc h.sc g ?_
  have c := hR.Cc
  have v1 : hvi w' x 1 = hvi w x 1 := h.2.1 _ _ (by unfold dS; omega)
  have V : ∀ j i, (32 ≤ j ∧ j ≤ 33 ∨ 39 ≤ j ∧ j ≤ 42 ∨ 52 ≤ j ∧ j ≤ 56) → hvi w' (x + j) i = hvi w (x + j) i := fun j i hj => h.2.1 _ _ (by unfold dS; omega)
  unfold Cch Ver CFo CRo CDk DeskAt at c ⊢
  simp only [v1, V 32 _ (by decide), V 33 _ (by decide), V 39 _ (by decide), V 40 _ (by decide), V 41 _ (by decide), V 42 _ (by decide), V 52 _ (by decide), V 53 _ (by decide), V 54 _ (by decide), V 55 _ (by decide), V 56 _ (by decide)]
  exact c
theorem Sd.v1 (h : Sd x w w') : hvi w' x 1 = hvi w x 1 := h.2.1 _ _ (by unfold dS; omega)
theorem isBo_F (h : Rel ow x w σ) (p : Int32) : fC_X0_isBooth x p w = some (b2i (bel p (gI σ 1 3))) := by rw [← fC_X0_isBooth_e _ h.L, isBooth_C h.rt]
theorem op_found (hR : Rel ow x w σ) (p : Int32) : OpW x w (mC_X0_found x p w) (mM_found p σ) := by
  rw [fC_X0_found_e _ hR.L]
  unfold fC_X0_found mM_found
  rw [show ∀ f : SM → Option (Int32 × SM), st1 (sI σ 0 0 (0 : Int32)) f = f (sI σ 0 0 0) from fun _ => rfl, isBo_F hR, isBooth_M hR.thr.W]
  simp only [bd1_s, bd2_s, in_C, isDay_C, isDay_M, b2i_0, isZ_b, ck_tt, Bool.true_eq_false, Bool.false_eq_true, if_true, if_false, ref_F, told_0, told_1, told_2, told_3, told_4, told_5, told_6]
  rw [show gI (sI σ 0 0 0) 1 = gI σ 1 from rfl]
  have fin : ∀ r : Int32, OpW x w (some (r, w)) (some (r, sI σ 0 0 0)) := fun r => ⟨_, _, _, ow, rfl, rfl, hR.thr, Grw.si (Si.refl w) (Or.inl rfl)⟩
  by_cases h1 : bel p (gI σ 1 3) = true
  case neg =>
    simp only [Bool.not_eq_true] at h1
    simp only [h1, if_true, if_false, Bool.true_eq_false]
    exact fin _
  simp only [h1, if_true, if_false, Bool.true_eq_false]
  have k3 := hR.W.c1.2.2.2.1
  rw [hR.W.c2.2.2.2.1] at h1
  obtain ⟨b, b1, rfl⟩ := bel_ex h1 (by omega)
  have t4 := (hR.T.2.2.2.1.2 b b1).2
  simp only [show x + 1 + 25 = x + 26 by omega, show x + 1 + 26 = x + 27 by omega, show x + 1 + 27 = x + 28 by omega] at t4
  rw [ck_t (bnd_nat (by omega) (by omega)), i_nat (by omega), i_am 2368 4 2368 4 rfl rfl, ck_t (bnd_nat (by omega) (by omega)), i_nat (by omega)]
  rcases t4 with ⟨u1, u2⟩ | ⟨u1, u2, u3, u4, u5⟩
  · rw [if_pos u2, if_pos u1]
    exact fin _
  have hn1 : ¬ hvi w (x + 26) b = -1 := by rw [u3]; grind
  have hn2 : ¬ gI σ 1 (2368 + 4 * b) = 0 := by rw [u1]; decide
  rw [if_neg hn1, if_neg hn2]
  obtain ⟨w5, σ9, A, B, a1, a2, a3, _⟩ := adds_ok hR.thr.qq (Int32.ofNat b)
  have sd := fC_X0_adds_2_s _ _ _ A
  have sm := mM_addBooth_s _ _ _ B
  have R5 : Rel ow x w5 σ9 := hR.thr.sd sd sm
  have v26 : ∀ i, hvi w5 (x + 26) i = hvi w (x + 26) i := fun i => sd.2.1 _ _ (by unfold dS; omega)
  have v27 : ∀ i, hvl w5 (x + 27) i = hvl w (x + 27) i := fun i => sd.2.2 _ _ (by omega)
  have v28 : ∀ i, hvl w5 (x + 28) i = hvl w (x + 28) i := fun i => sd.2.2 _ _ (by omega)
  have e9 : gI σ9 1 = gI σ 1 := sm.row
  have fin5 : ∀ r : Int32, OpW x w (some (r, w5)) (some (r, σ9)) := fun r => ⟨_, _, _, ow, rfl, rfl, R5, Grw.si sd.1 (Or.inl sd.v1)⟩
  rw [A, bd1_s, B, bd1_s]
  have B1 := bnd_nat (n := b) (m := 20) (by omega) (by omega)
  have B2 := bnd_nat (n := 2369 + 4 * b) (m := 23016) (by omega) (by omega)
  have B3 := bnd_nat (n := 2370 + 4 * b) (m := 23016) (by omega) (by omega)
  have B4 := bnd_nat (n := 2371 + 4 * b) (m := 23016) (by omega) (by omega)
  have s1 : 2368 + 4 * b + 1 = 2369 + 4 * b := by omega
  have s2 : 2368 + 4 * b + 2 = 2370 + 4 * b := by omega
  have s3 : 2368 + 4 * b + 3 = 2371 + 4 * b := by omega
  simp only [i_am 2368 4 2368 4 rfl rfl, i_a 1 1 rfl, i_a 2 2 rfl, i_a 3 3 rfl, s1, s2, s3, B1, B2, B3, B4, ck_tt, i_nat (show b < 2147483648 by omega), i_nat (show 2369 + 4 * b < 2147483648 by omega), i_nat (show 2370 + 4 * b < 2147483648 by omega), i_nat (show 2371 + 4 * b < 2147483648 by omega), v26, v27, v28, e9, u3, u4, u5, a1, a2, a3]
  by_cases h2 : gI σ9 0 59 = gI σ 1 (2369 + 4 * b)
  case neg =>
    rw [if_neg h2, if_neg h2]
    exact fin5 _
  rw [if_pos h2, if_pos h2]
  by_cases h3 : gL σ9 0 60 - (gI σ 1 (2370 + 4 * b)).toInt64 = 0
  · rw [if_pos h3, if_pos h3]
    by_cases h4 : gL σ9 0 61 - (gI σ 1 (2371 + 4 * b)).toInt64 = 0
    · rw [if_pos h4, if_pos h4]
      exact fin5 _
    · rw [if_neg h4, if_neg h4, h3, fnd0 R5.qq]
      exact fin5 _
  · rw [if_neg h3, if_neg h3]
    have kc := R5.W.c1.2.2.2.2.2.2.1
    obtain ⟨r, r1, r2⟩ := found_loop R5.qq (Int32.ofNat b) _ (gL σ9 0 61 - (gI σ 1 (2371 + 4 * b)).toInt64) h3 (cn (gI σ9 1) 6) LF 0 0 (by omega) (by unfold LF; omega)
    unfold fC_X0_found_94
    rw [show (0 : Int32) = Int32.ofNat 0 from rfl] at *
    rw [r1, r2]
    exact fin5 _
end O7
