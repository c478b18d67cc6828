set_option maxRecDepth 100000
/-! ===== operations: first ones ===== -/
def Grw (x : Nat) (w w' : AH) : Prop := hsz w' ≤ hsz w + 9000 ∧ hns w' ≤ hns w + 110000 ∧ hlc w' = hlc w ∧ hls w' = hls w ∧ (hvi w' x 1 = hvi w x 1 ∨ hvi w' x 1 = hvi w x 1 + 1)
/-- room for a call -/
def Rm (x : Nat) (w : AH) : Prop := hsz w + 9000 ≤ hlc w ∧ hns w + 110000 ≤ hls w ∧ hvi w x 1 ≤ 1000
def OpW (x : Nat) (w : AH) (mc : Option (Int32 × AH)) (mm : Option (Int32 × SM)) : Prop := ∃ r w' σ' ow', mc = some (r, w') ∧ mm = some (r, σ') ∧ Rel ow' x w' σ' ∧ Grw x w w'
def OpR (x : Nat) (w : AH) (mc : Option Int32) (mm : Option (Int32 × SM)) : Prop := ∃ r σ' ow', mc = some r ∧ mm = some (r, σ') ∧ Rel ow' x w σ'
theorem Grw.si {x : Nat} {w w' : AH} (h : Si w w') (hv : hvi w' x 1 = hvi w x 1 ∨ hvi w' x 1 = hvi w x 1 + 1) : Grw x w w' := by unfold Grw hsz hns hlc hls; rw [h.1]; exact ⟨by omega, by omega, rfl, rfl, hv⟩
theorem kIn_c (k c : Nat) (cs : List Nat) : kIn k (c :: cs) = (k == 10 + c || kIn k cs) := rfl
theorem kIn_n (k : Nat) : kIn k [] = false := rfl
theorem b2i_0 (b : Bool) : (b2i b = 0) = (b = false) := by cases b <;> decide
theorem isZ_b (b : Bool) : isZ (b2i b) = true := by cases b <;> rfl
def inr (a lo hi : Int32) : Bool := decide (lo ≤ a) && decide (a ≤ hi)
theorem in_C (a lo hi : Int32) : mC_X0_in a lo hi = some (b2i (inr a lo hi)) := by
  unfold mC_X0_in inr
  by_cases h1 : a < lo
  · have : ¬ lo ≤ a := by grind
    simp [h1, this, b2i]
  · have : lo ≤ a := by grind
    by_cases h2 : hi < a
    · have : ¬ a ≤ hi := by grind
      simp [*, b2i]
    · have : a ≤ hi := by grind
      simp [*, b2i]
theorem in_M (a : Int32) (l h : Int64) (lo hi : Int32) (h1 : l = lo.toInt64) (h2 : h = hi.toInt64) : mM_in a.toInt64 l h = some (b2i (inr a lo hi)) := by
  subst h1 h2
  unfold mM_in inr
  simp only [Int32.toInt64_lt]
  by_cases h1 : a < lo
  · have : ¬ lo ≤ a := by grind
    simp [h1, this, b2i]
  · have : lo ≤ a := by grind
    by_cases h2 : hi < a
    · have : ¬ a ≤ hi := by grind
      simp [*, b2i]
    · have : a ≤ hi := by grind
      simp [*, b2i]
def dy (d : Int32) : Bool := inr d 0 399
theorem isDay_C (d : Int32) : mC_X0_isDay d = some (b2i (dy d)) := by simp [mC_X0_isDay, in_C, bd1_s, isZ_b, ck_tt, dy]
theorem isDay_M (d : Int32) : mM_isDay d = some (b2i (dy d)) := by simp [mM_isDay, in_M d 0 399 0 399 rfl rfl, bd1_s, isZ_b, ck_tt, dy]
theorem sub1_64 {v : Int32} (h : 0 ≤ v) : v.toInt64 - 1 = (v - 1).toInt64 := by
  apply Int64.toInt.inj
  have h1 := v.toInt_lt
  have h2 : 0 ≤ v.toInt := Int32.le_iff_toInt_le.mp h
  rw [Int64.toInt_sub, Int32.toInt_toInt64, Int32.toInt_toInt64, Int32.toInt_sub]
  show (v.toInt - 1).bmod (2 ^ 64) = (v.toInt - 1).bmod (2 ^ 32)
  rw [Int.bmod_eq_of_le (by omega) (by omega), Int.bmod_eq_of_le (by omega) (by omega)]
/-- whether v is one of the first n -/
def bel (v n : Int32) : Bool := decide (0 ≤ v) && decide (v < n)
theorem inr_bel {v n : Int32} (h : 0 ≤ n) : inr v 0 (n - 1) = bel v n := by
  unfold inr bel
  congr 1
  have : (v ≤ n - 1) ↔ v < n := by grind
  simp [this]
theorem bel_M {v n : Int32} (h : 0 ≤ n) : mM_in v.toInt64 0 (n.toInt64 - 1) = some (b2i (bel v n)) := by
  rw [in_M v 0 _ 0 (n - 1) rfl (sub1_64 h), inr_bel h]
theorem bel_ex {v : Int32} {n : Nat} (h : bel v (Int32.ofNat n) = true) (hn : n < 2147483648) : ∃ m, m < n ∧ v = Int32.ofNat m := by
  simp only [bel, Bool.and_eq_true, decide_eq_true_eq] at h
  refine ⟨v.toNatClampNeg, ?_, (i_of h.1).symm⟩
  have h2 := h.2
  rw [← i_of h.1, i_lt v.toNatClampNeg_lt hn] at h2
  exact h2
section OP
variable {ow : Nat → Nat} {w : AH} {x : Nat} {σ : SM}
theorem Rel.thr (hR : Rel ow x w σ) : Rel ow x w (sI σ 0 0 0) := hR.sc (Sc.refl w) (ScM.sI 0 0 0 (by unfold mO; omega)) hR.2.2.2.2.2.2.2.2.2.2.2
theorem Rel.L (hR : Rel ow x w σ) : Lay x w := hR.1
theorem Rel.O (hR : Rel ow x w σ) : Ow x ow w := hR.2.1
theorem Rel.Cn (hR : Rel ow x w σ) : Con ow w := hR.2.2.1
theorem Rel.T (hR : Rel ow x w σ) : TRep ow w (x + 1) (gI σ 1) := hR.2.2.2.1
theorem Rel.W (hR : Rel ow x w σ) : WF (gI σ 1) := hR.2.2.2.2.1
theorem Rel.Im (hR : Rel ow x w σ) : Img ow x w σ := hR.2.2.2.2.2.1
theorem Rel.Ta (hR : Rel ow x w σ) : Tap x w σ := hR.2.2.2.2.2.2.1
theorem Rel.Ws (hR : Rel ow x w σ) : Wsh x w σ := hR.2.2.2.2.2.2.2.1
theorem Rel.Le (hR : Rel ow x w σ) : Led x w σ := hR.2.2.2.2.2.2.2.2.1
theorem Rel.Wy (hR : Rel ow x w σ) : Way x w σ := hR.2.2.2.2.2.2.2.2.2.1
theorem Rel.St (hR : Rel ow x w σ) : hvi w x 0 = gI σ 0 1 := hR.2.2.2.2.2.2.2.2.2.2.1
theorem Rel.Cc (hR : Rel ow x w σ) : Cch x w (gI σ 1) := hR.2.2.2.2.2.2.2.2.2.2.2
theorem op_status (hR : Rel ow x w σ) : OpR x w (mC_X0_status x w) (mM_status σ) :=
  ⟨hvi w x 0, _, ow, by simp [mC_X0_status, ck_tt, st1_e, bd1_s, bd2_s, kIn_c, kIn_n, arB, arK, b2i_0, isZ_b, in_C, isDay_C, isDay_M, kd_I, kd_L, kd_R, vi_I, vi_L, vi_R, vl_I, vl_L, vl_R, vr_I, vr_L, vr_R, sz_I, sz_L, sz_R, st_I, st_L, st_R, rm_I, rm_L, rm_R, gI_sI, gI_sL, gL_sL, gL_sI, lk_0 hR.L], by simp [mM_status, ck_tt, st1_e, bd1_s, bd2_s, kIn_c, kIn_n, arB, arK, b2i_0, isZ_b, in_C, isDay_C, isDay_M, kd_I, kd_L, kd_R, vi_I, vi_L, vi_R, vl_I, vl_L, vl_R, vr_I, vr_L, vr_R, sz_I, sz_L, sz_R, st_I, st_L, st_R, rm_I, rm_L, rm_R, gI_sI, gI_sL, gL_sL, gL_sI, hR.St], hR.thr⟩
theorem op_fault (hR : Rel ow x w σ) : OpR x w (mC_X0_fault x w) (mM_fault σ) :=
  ⟨hvi w x 6, _, ow, by simp [mC_X0_fault, ck_tt, st1_e, bd1_s, bd2_s, kIn_c, kIn_n, arB, arK, b2i_0, isZ_b, in_C, isDay_C, isDay_M, kd_I, kd_L, kd_R, vi_I, vi_L, vi_R, vl_I, vl_L, vl_R, vr_I, vr_L, vr_R, sz_I, sz_L, sz_R, st_I, st_L, st_R, rm_I, rm_L, rm_R, gI_sI, gI_sL, gL_sL, gL_sI, lk_0 hR.L], by simp [mM_fault, ck_tt, st1_e, bd1_s, bd2_s, kIn_c, kIn_n, arB, arK, b2i_0, isZ_b, in_C, isDay_C, isDay_M, kd_I, kd_L, kd_R, vi_I, vi_L, vi_R, vl_I, vl_L, vl_R, vr_I, vr_L, vr_R, sz_I, sz_L, sz_R, st_I, st_L, st_R, rm_I, rm_L, rm_R, gI_sI, gI_sL, gL_sL, gL_sI, hR.Ta.2.2.1], hR.thr⟩
theorem size_C {a n : Nat} {E : Nat → Nat → Prop} (h : LsT ow w a n E) : mC_J2_size a w = some (Int32.ofNat n) := by
  obtain ⟨e, c, h1, h2⟩ := h
  simp [mC_J2_size, ck_tt, st1_e, bd1_s, bd2_s, kIn_c, kIn_n, arB, arK, b2i_0, isZ_b, in_C, isDay_C, isDay_M, kd_I, kd_L, kd_R, vi_I, vi_L, vi_R, vl_I, vl_L, vl_R, vr_I, vr_L, vr_R, sz_I, sz_L, sz_R, st_I, st_L, st_R, rm_I, rm_L, rm_R, gI_sI, gI_sL, gL_sL, gL_sI, h1.1, h1.2.1]
theorem op_all (hR : Rel ow x w σ) (p : Int32) : OpR x w (mC_X0_all x p w) (mM_all p σ) := by
  obtain ⟨t1, t2, t3, t4, t5, t6, t7, t8, l1, l2, l3, l4, l5, l6⟩ := hR.T
  obtain ⟨c0, c1, c2, c3, c4, c5, c6, c7, c8⟩ := hR.W.c2
  have hL := hR.L
  have s1 := size_C l1
  have s2 := size_C l2
  have s4 := size_C l4
  have s6 := size_C l6
  simp only [Nat.add_assoc, Nat.reduceAdd, ← c1, ← c2, ← c5, ← c6] at s1 s2 s4 s6
  unfold mC_X0_all mM_all
  simp only [ck_tt, st1_e, bd1_s, bd2_s, kIn_c, kIn_n, arB, arK, b2i_0, isZ_b, in_C, isDay_C, isDay_M, kd_I, kd_L, kd_R, vi_I, vi_L, vi_R, vl_I, vl_L, vl_R, vr_I, vr_L, vr_R, sz_I, sz_L, sz_R, st_I, st_L, st_R, rm_I, rm_L, rm_R, gI_sI, gI_sL, gL_sL, gL_sI, lk_0 hL, lk_1 hL, lk_2 hL, lk_4 hL, lk_8 hL, lk_12 hL, lr_0_2 hL, lr_0_3 hL, lr_0_4 hL, lr_0_7 hL, lr_0_8 hL, lr_0_9 hL, lr_0_10 hL, lr_0_11 hL, lr_0_12 hL, lr_0_13 hL, lr_0_14 hL, lr_0_15 hL, lr_0_16 hL, lr_0_17 hL, lr_0_18 hL, lr_0_23 hL, lr_0_24 hL, lr_0_27 hL, lr_0_28 hL, lr_0_29 hL, lr_0_30 hL, lr_0_31 hL, lr_0_32 hL, lr_0_33 hL, lr_1_0 hL, lr_1_1 hL, lr_1_2 hL, lr_1_3 hL, lr_1_4 hL, lr_1_5 hL, lr_1_6 hL, lr_1_7 hL, lr_1_8 hL, lr_1_9 hL, lr_1_10 hL, lr_1_11 hL, lr_1_12 hL, lr_1_13 hL, lr_1_14 hL, lr_1_15 hL, lr_1_16 hL, lr_1_17 hL, lr_1_18 hL, lr_1_19 hL, lr_1_20 hL, lr_1_21 hL, s1, s2, s4, s6, t2.1, t4.1, t5.1, hR.Ws.1, hR.Ta.1, beq_self_eq_true, Bool.true_or, Nat.reduceAdd, Nat.reduceBEq, Nat.reduceEqDiff, false_and, if_false]
  by_cases p0 : p = 0
  · rw [if_pos p0, if_pos p0]
    exact ⟨gI σ 1 0, _, ow, rfl, rfl, hR.thr⟩
  rw [if_neg p0, if_neg p0]
  by_cases p1 : p = 1
  · rw [if_pos p1, if_pos p1]
    exact ⟨gI σ 1 1, _, ow, rfl, rfl, hR.thr⟩
  rw [if_neg p1, if_neg p1]
  by_cases p2 : p = 2
  · rw [if_pos p2, if_pos p2]
    exact ⟨gI σ 1 2, _, ow, rfl, rfl, hR.thr⟩
  rw [if_neg p2, if_neg p2]
  by_cases p3 : p = 3
  · rw [if_pos p3, if_pos p3]
    exact ⟨gI σ 1 3, _, ow, rfl, rfl, hR.thr⟩
  rw [if_neg p3, if_neg p3]
  by_cases p4 : p = 4
  · rw [if_pos p4, if_pos p4]
    exact ⟨gI σ 1 4, _, ow, rfl, rfl, hR.thr⟩
  rw [if_neg p4, if_neg p4]
  by_cases p5 : p = 5
  · rw [if_pos p5, if_pos p5]
    exact ⟨gI σ 1 5, _, ow, rfl, rfl, hR.thr⟩
  rw [if_neg p5, if_neg p5]
  by_cases p6 : p = 6
  · rw [if_pos p6, if_pos p6]
    exact ⟨gI σ 1 6, _, ow, rfl, rfl, hR.thr⟩
  rw [if_neg p6, if_neg p6]
  by_cases p7 : p = 7
  · rw [if_pos p7, if_pos p7]
    exact ⟨gI σ 0 34, _, ow, rfl, rfl, hR.thr⟩
  rw [if_neg p7, if_neg p7]
  by_cases p8 : p = 8
  · rw [if_pos p8, if_pos p8]
    exact ⟨gI σ 0 10, _, ow, rfl, rfl, hR.thr⟩
  rw [if_neg p8, if_neg p8]
  exact ⟨-1, _, ow, rfl, rfl, hR.thr⟩
theorem op_led (hR : Rel ow x w σ) (p : Int32) : OpR x w (mC_X0_led x p w) (mM_led p σ) := by
  have hL := hR.L
  rcases hR.Le with ⟨h1, h2⟩ | ⟨h1, h2, h3, h4, h5⟩
  · exact ⟨-1, _, ow, by simp [mC_X0_led, ck_tt, st1_e, bd1_s, bd2_s, kIn_c, kIn_n, arB, arK, b2i_0, isZ_b, in_C, isDay_C, isDay_M, kd_I, kd_L, kd_R, vi_I, vi_L, vi_R, vl_I, vl_L, vl_R, vr_I, vr_L, vr_R, sz_I, sz_L, sz_R, st_I, st_L, st_R, rm_I, rm_L, rm_R, gI_sI, gI_sL, gL_sL, gL_sI, lk_0 hL, h2], by simp [mM_led, ck_tt, st1_e, bd1_s, bd2_s, kIn_c, kIn_n, arB, arK, b2i_0, isZ_b, in_C, isDay_C, isDay_M, kd_I, kd_L, kd_R, vi_I, vi_L, vi_R, vl_I, vl_L, vl_R, vr_I, vr_L, vr_R, sz_I, sz_L, sz_R, st_I, st_L, st_R, rm_I, rm_L, rm_R, gI_sI, gI_sL, gL_sL, gL_sI, h1], hR.thr⟩
  · have hn : hvi w x 20 ≠ -1 := by rw [h2]; have := h3.1; grind
    by_cases hp : p = -1
    · subst hp
      refine ⟨gI σ 0 45, _, ow, ?_, ?_, hR.thr⟩
      · have : inr (-1) (-1) (gI σ 0 44 - 1) = true := by
          have a1 := h3.1
          have a2 := h3.2
          simp only [inr, Bool.and_eq_true, decide_eq_true_eq]
          grind
        simp [mC_X0_led, ck_tt, st1_e, bd1_s, bd2_s, kIn_c, kIn_n, arB, arK, b2i_0, isZ_b, in_C, isDay_C, isDay_M, kd_I, kd_L, kd_R, vi_I, vi_L, vi_R, vl_I, vl_L, vl_R, vr_I, vr_L, vr_R, sz_I, sz_L, sz_R, st_I, st_L, st_R, rm_I, rm_L, rm_R, gI_sI, gI_sL, gL_sL, gL_sI, lk_0 hL, hn, h4]
        simp [h2, this]
      · simp [mM_led, ck_tt, st1_e, bd1_s, bd2_s, kIn_c, kIn_n, arB, arK, b2i_0, isZ_b, in_C, isDay_C, isDay_M, kd_I, kd_L, kd_R, vi_I, vi_L, vi_R, vl_I, vl_L, vl_R, vr_I, vr_L, vr_R, sz_I, sz_L, sz_R, st_I, st_L, st_R, rm_I, rm_L, rm_R, gI_sI, gI_sL, gL_sL, gL_sI, h1]
    · have e := bel_M (v := p) h3.1
      have i1 : inr p (-1) (gI σ 0 44 - 1) = bel p (gI σ 0 44) := by
        have a1 := h3.1
        have a2 := h3.2
        unfold inr bel
        have q1 : (-1 ≤ p ∧ p ≤ gI σ 0 44 - 1) ↔ (0 ≤ p ∧ p < gI σ 0 44) := by grind
        rw [← Bool.decide_and, ← Bool.decide_and]
        exact decide_eq_decide.mpr q1
      by_cases hb : bel p (gI σ 0 44) = true
      · obtain ⟨c, e2⟩ := rg_nat (m := 7) h3 (by decide)
        have hb' := hb
        rw [e2] at hb'
        obtain ⟨m, g1, g2⟩ := bel_ex hb' (by omega)
        refine ⟨gI σ 24 m, _, ow, ?_, ?_, hR.thr⟩
        · have := bnd_nat (n := m) (m := 7) (by omega) (by omega)
          have n1 := i_nat (n := m) (by omega)
          simp [mC_X0_led, ck_tt, st1_e, bd1_s, bd2_s, kIn_c, kIn_n, arB, arK, b2i_0, isZ_b, in_C, isDay_C, isDay_M, kd_I, kd_L, kd_R, vi_I, vi_L, vi_R, vl_I, vl_L, vl_R, vr_I, vr_L, vr_R, sz_I, sz_L, sz_R, st_I, st_L, st_R, rm_I, rm_L, rm_R, gI_sI, gI_sL, gL_sL, gL_sI, lk_0 hL, hn, hp, lr_0_18 hL, lk_51 hL]
          simp [h2, i1, hb]
          simp [g2, this, n1, h5 m g1, ck_tt, st1_e, bd1_s, bd2_s, kIn_c, kIn_n, arB, arK, b2i_0, isZ_b, in_C, isDay_C, isDay_M, kd_I, kd_L, kd_R, vi_I, vi_L, vi_R, vl_I, vl_L, vl_R, vr_I, vr_L, vr_R, sz_I, sz_L, sz_R, st_I, st_L, st_R, rm_I, rm_L, rm_R, gI_sI, gI_sL, gL_sL, gL_sI]
        · have := bnd_nat (n := m) (m := 7) (by omega) (by omega)
          have n1 := i_nat (n := m) (by omega)
          simp [mM_led, ck_tt, st1_e, bd1_s, bd2_s, kIn_c, kIn_n, arB, arK, b2i_0, isZ_b, in_C, isDay_C, isDay_M, kd_I, kd_L, kd_R, vi_I, vi_L, vi_R, vl_I, vl_L, vl_R, vr_I, vr_L, vr_R, sz_I, sz_L, sz_R, st_I, st_L, st_R, rm_I, rm_L, rm_R, gI_sI, gI_sL, gL_sL, gL_sI, h1, hp, e, hb]
          simp [g2, this, n1, ck_tt, st1_e, bd1_s, bd2_s, kIn_c, kIn_n, arB, arK, b2i_0, isZ_b, in_C, isDay_C, isDay_M, kd_I, kd_L, kd_R, vi_I, vi_L, vi_R, vl_I, vl_L, vl_R, vr_I, vr_L, vr_R, sz_I, sz_L, sz_R, st_I, st_L, st_R, rm_I, rm_L, rm_R, gI_sI, gI_sL, gL_sL, gL_sI]
      · refine ⟨-1, _, ow, ?_, ?_, hR.thr⟩
        · simp [mC_X0_led, ck_tt, st1_e, bd1_s, bd2_s, kIn_c, kIn_n, arB, arK, b2i_0, isZ_b, in_C, isDay_C, isDay_M, kd_I, kd_L, kd_R, vi_I, vi_L, vi_R, vl_I, vl_L, vl_R, vr_I, vr_L, vr_R, sz_I, sz_L, sz_R, st_I, st_L, st_R, rm_I, rm_L, rm_R, gI_sI, gI_sL, gL_sL, gL_sI, lk_0 hL, hn, i1, hb, hp]
          simp [h2, i1, hb]
        · simp [mM_led, ck_tt, st1_e, bd1_s, bd2_s, kIn_c, kIn_n, arB, arK, b2i_0, isZ_b, in_C, isDay_C, isDay_M, kd_I, kd_L, kd_R, vi_I, vi_L, vi_R, vl_I, vl_L, vl_R, vr_I, vr_L, vr_R, sz_I, sz_L, sz_R, st_I, st_L, st_R, rm_I, rm_L, rm_R, gI_sI, gI_sL, gL_sL, gL_sI, h1, hp, e, hb]
end OP
