set_option maxRecDepth 100000
/-! ===== groups of a row stay; told, done, refused ===== -/
section TD
variable {ow : Nat → Nat} {w w' : AH} {T T' : Nat → Int32} {x t : Nat} {σ σ' : SM}
theorem TPl.fr (h : TPl w t T) (hn : cn T 0 ≤ 16) (hi : hvi w' t 22 = hvi w t 22) (h13 : ∀ i, hvi w' (t + 13) i = hvi w (t + 13) i) (h14 : ∀ i, hvi w' (t + 14) i = hvi w (t + 14) i) (h15 : ∀ i, hvi w' (t + 15) i = hvi w (t + 15) i) (c : T' 0 = T 0) (e : EqT 20 68 T T') : TPl w' t T' := by
  refine ⟨by rw [hi, c]; exact h.1, fun p hp => ?_⟩
  rw [cn_eq c] at hp
  rw [h13, h14, h15, e _ (by omega) (by omega), e _ (by omega) (by omega), e _ (by omega) (by omega)]
  exact h.2 p hp
theorem TNm.fr (h : TNm w t T) (hn : cn T 1 ≤ 200) (hi : ∀ j i, 16 ≤ j → j ≤ 20 → hvi w' (t + j) i = hvi w (t + j) i) (c : T' 1 = T 1) (e : EqT 68 2268 T T') : TNm w' t T' := by
  intro n hp
  rw [cn_eq c] at hp
  rw [hi 16 _ (by decide) (by decide), hi 17 _ (by decide) (by decide), hi 18 _ (by decide) (by decide), hi 19 _ (by decide) (by decide), hi 20 _ (by decide) (by decide), e (74 + 11 * n) (by omega) (by omega), e (75 + 11 * n) (by omega) (by omega), e (76 + 11 * n) (by omega) (by omega), e (77 + 11 * n) (by omega) (by omega), e (78 + 11 * n) (by omega) (by omega)]
  exact h n hp
theorem TBo.fr (h : TBo w t T) (hn : cn T 3 ≤ 20) (h0 : hvi w' t 23 = hvi w t 23) (h21 : ∀ i, hvi w' (t + 21) i = hvi w (t + 21) i) (h25 : ∀ i, hvi w' (t + 25) i = hvi w (t + 25) i) (h26 : ∀ i, hvl w' (t + 26) i = hvl w (t + 26) i) (h27 : ∀ i, hvl w' (t + 27) i = hvl w (t + 27) i) (c : T' 3 = T 3) (e : EqT 2348 2448 T T') : TBo w' t T' := by
  refine ⟨by rw [h0, c]; exact h.1, fun b hb => ?_⟩
  rw [cn_eq c] at hb
  rw [h21, h25, h26, h27, e (2348 + b) (by omega) (by omega), e (2368 + 4 * b) (by omega) (by omega), e (2369 + 4 * b) (by omega) (by omega), e (2370 + 4 * b) (by omega) (by omega), e (2371 + 4 * b) (by omega) (by omega)]
  exact h.2 b hb
theorem TBx.fr (h : TBx w t T) (hn : cn T 4 ≤ 40) (h0 : hvi w' t 24 = hvi w t 24) (h22 : ∀ i, hvi w' (t + 22) i = hvi w (t + 22) i) (h23 : ∀ i, hvi w' (t + 23) i = hvi w (t + 23) i) (c : T' 4 = T 4) (e : EqT 2448 2528 T T') : TBx w' t T' := by
  refine ⟨by rw [h0, c]; exact h.1, fun b hb => ?_⟩
  rw [cn_eq c] at hb
  rw [h22, h23, e (2448 + 2 * b) (by omega) (by omega), e (2449 + 2 * b) (by omega) (by omega)]
  exact h.2 b hb
theorem TNu.fr (h : TNu w t T) (hn : cn T 6 ≤ 200) (h24 : ∀ i, hvi w' (t + 24) i = hvi w (t + 24) i) (c : T' 6 = T 6) (e : EqT 4008 5008 T T') : TNu w' t T' := by
  intro b hb
  rw [cn_eq c] at hb
  rw [h24, e _ (by omega) (by omega)]
  exact h b hb
theorem TKp.fr (h : TKp w t T) (h28 : ∀ i, hvi w' (t + 28) i = hvi w (t + 28) i) (e : EqT 5008 5056 T T') : TKp w' t T' := by
  intro b hb
  rw [h28, e _ (by omega) (by omega)]
  exact h b hb
theorem TPc.fr (h : TPc w t T) (h1 : hvi w' t 25 = hvi w t 25) (h2 : hvi w' t 26 = hvi w t 26) (c1 : T' 9 = T 9) (c2 : T' 10 = T 10) : TPc w' t T' := ⟨by rw [h1, c1]; exact h.1, by rw [h2, c2]; exact h.2⟩
/-- the relation without what is laid out -/
def RelT (ow : Nat → Nat) (x : Nat) (w : AH) (σ : SM) : Prop :=
  Lay x w ∧ Ow x ow w ∧ Con ow w ∧ TRep ow w (x + 1) (gI σ 1) ∧ WF (gI σ 1) ∧ Img ow x w σ ∧ Tap x w σ ∧ Wsh x w σ ∧ Led x w σ ∧ Way x w σ ∧ Ver x w
theorem Rel.rt (h : Rel ow x w σ) : RelT ow x w σ := ⟨h.L, h.O, h.Cn, h.T, h.W, h.Im, h.Ta, h.Ws, h.Le, h.Wy, h.Cc.1⟩
theorem RelT.sc (hR : RelT ow x w σ) (h : Sc x w w') (g : ScM σ σ') (hC : Ver x w') : RelT ow x w' σ' := by
  obtain ⟨h1, h2, h3, h4, h5, h6, h7, h8, h9, h10, h11⟩ := hR
  have hx := h.sx
  have o : ∀ j i, mO j i → gI σ' j i = gI σ j i := g
  have v : ∀ a i, ¬ cS x a i → hvi w' a i = hvi w a i := h.2.1
  have O0 : ∀ i, (i = 1 ∨ i = 10 ∨ i = 15 ∨ i = 34 ∨ i = 43 ∨ i = 44 ∨ i = 45 ∨ i = 53 ∨ i = 54) → gI σ' 0 i = gI σ 0 i := fun i hi => o 0 i (Or.inl ⟨rfl, hi⟩)
  have V0 : ∀ i, ¬ (i = 22 ∨ i = 25 ∨ i = 26 ∨ i = 35 ∨ i = 38) → hvi w' x i = hvi w x i := fun i hi => v x i (by unfold cS; omega)
  refine ⟨h.1.lay h1, h.1.oww h2, h.1.con (hx.z h2) h3, ?_, ?_, hx.img h2 h6 (fun i => o 2 i (by unfold mO; omega)) (fun i => o 3 i (by unfold mO; omega)), ?_, ?_, ?_, ?_, hC⟩
  · rw [g.row]
    exact h.1.trep h4 h5 (fun j i hj => v _ _ (by unfold cS; omega)) (fun j i hj => h.2.2 _ _ (by omega)) (hx.z h2)
  · rw [g.row]; exact h5
  · unfold Tap at h7 ⊢
    rw [V0 5 (by omega), V0 6 (by omega), O0 10 (by omega), O0 15 (by omega)]
    simp only [(fun i => v (x + 31) i (by unfold cS; omega) : ∀ i, hvi w' (x + 31) i = hvi w (x + 31) i), (fun i => o 6 i (by unfold mO; omega) : ∀ i, gI σ' 6 i = gI σ 6 i)]
    exact h7
  · unfold Wsh at h8 ⊢
    rw [V0 19 (by omega), O0 34 (by omega)]
    simp only [(fun i => v (x + 43) i (by unfold cS; omega) : ∀ i, hvi w' (x + 43) i = hvi w (x + 43) i), (fun i => v (x + 44) i (by unfold cS; omega) : ∀ i, hvi w' (x + 44) i = hvi w (x + 44) i), (fun i => v (x + 45) i (by unfold cS; omega) : ∀ i, hvi w' (x + 45) i = hvi w (x + 45) i), (fun i => o 16 i (by unfold mO; omega) : ∀ i, gI σ' 16 i = gI σ 16 i), (fun i => o 17 i (by unfold mO; omega) : ∀ i, gI σ' 17 i = gI σ 17 i), (fun i => o 18 i (by unfold mO; omega) : ∀ i, gI σ' 18 i = gI σ 18 i)]
    exact h8
  · unfold Led at h9 ⊢
    rw [V0 20 (by omega), V0 21 (by omega), O0 43 (by omega), O0 44 (by omega), O0 45 (by omega)]
    simp only [(fun i => v (x + 51) i (by unfold cS; omega) : ∀ i, hvi w' (x + 51) i = hvi w (x + 51) i), (fun i => o 24 i (by unfold mO; omega) : ∀ i, gI σ' 24 i = gI σ 24 i)]
    exact h9
  · unfold Way at h10 ⊢
    rw [V0 34 (by omega), O0 53 (by omega), O0 54 (by omega)]
    simp only [(fun i => v (x + 65) i (by unfold cS; omega) : ∀ i, hvi w' (x + 65) i = hvi w (x + 65) i), (fun i => v (x + 66) i (by unfold cS; omega) : ∀ i, hvi w' (x + 66) i = hvi w (x + 66) i), (fun i => o 29 i (by unfold mO; omega) : ∀ i, gI σ' 29 i = gI σ 29 i), (fun i => o 30 i (by unfold mO; omega) : ∀ i, gI σ' 30 i = gI σ 30 i)]
    exact h10
theorem RelT.thr (h : RelT ow x w σ) : RelT ow x w (sI σ 0 0 0) := h.sc (Sc.refl w) (ScM.sI 0 0 0 (by unfold mO; omega)) h.2.2.2.2.2.2.2.2.2.2
/-- only the Told at x + 1 and the row change -/
theorem RelT.now (hR : RelT ow x w σ) (hs : Si w w') (hv : ∀ a i, ¬ (x + 1 ≤ a ∧ a ≤ x + 29) → hvi w' a i = hvi w a i) (hl : ∀ a i, ¬ (x + 1 ≤ a ∧ a ≤ x + 29) → hvl w' a i = hvl w a i) (hg : ∀ j i, j ≠ 1 → mO j i → gI σ' j i = gI σ j i) (hT : TRep ow w' (x + 1) (gI σ' 1)) (hW : WF (gI σ' 1)) : RelT ow x w' σ' := by
  obtain ⟨h1, h2, h3, h4, h5, h6, h7, h8, h9, h10, h11⟩ := hR
  have hx : Sx x w w' := ⟨hs, fun a i ha => hv a i (by omega), fun a i ha => hl a i (by omega)⟩
  have V : ∀ j i, (j = 0 ∨ 30 ≤ j) → hvi w' (x + j) i = hvi w (x + j) i := fun j i hj => hv _ i (by omega)
  have V0 : ∀ i, hvi w' x i = hvi w x i := fun i => hv _ i (by omega)
  refine ⟨hs.lay h1, hs.oww h2, hs.con (hx.z h2) h3, hT, hW, hx.img h2 h6 (fun i => hg 2 i (by decide) (by unfold mO; omega)) (fun i => hg 3 i (by decide) (by unfold mO; omega)), ?_, ?_, ?_, ?_, ?_⟩
  · unfold Tap at h7 ⊢
    simp only [V0, V 31 _ (by decide), (fun i => hg 6 i (by decide) (by unfold mO; omega) : ∀ i, gI σ' 6 i = gI σ 6 i), hg 0 10 (by decide) (by unfold mO; omega), hg 0 15 (by decide) (by unfold mO; omega)]
    exact h7
  · unfold Wsh at h8 ⊢
    simp only [V0, V 43 _ (by decide), V 44 _ (by decide), V 45 _ (by decide), hg 0 34 (by decide) (by unfold mO; omega), (fun i => hg 16 i (by decide) (by unfold mO; omega) : ∀ i, gI σ' 16 i = gI σ 16 i), (fun i => hg 17 i (by decide) (by unfold mO; omega) : ∀ i, gI σ' 17 i = gI σ 17 i), (fun i => hg 18 i (by decide) (by unfold mO; omega) : ∀ i, gI σ' 18 i = gI σ 18 i)]
    exact h8
  · unfold Led at h9 ⊢
    simp only [V0, V 51 _ (by decide), hg 0 43 (by decide) (by unfold mO; omega), hg 0 44 (by decide) (by unfold mO; omega), hg 0 45 (by decide) (by unfold mO; omega), (fun i => hg 24 i (by decide) (by unfold mO; omega) : ∀ i, gI σ' 24 i = gI σ 24 i)]
    exact h9
  · unfold Way at h10 ⊢
    simp only [V0, V 65 _ (by decide), V 66 _ (by decide), hg 0 53 (by decide) (by unfold mO; omega), hg 0 54 (by decide) (by unfold mO; omega), (fun i => hg 29 i (by decide) (by unfold mO; omega) : ∀ i, gI σ' 29 i = gI σ 29 i), (fun i => hg 30 i (by decide) (by unfold mO; omega) : ∀ i, gI σ' 30 i = gI σ 30 i)]
    exact h10
  · unfold Ver at h11 ⊢
    simp only [V0, V 32 _ (by decide), V 39 _ (by decide), V 52 _ (by decide)]
    exact h11
theorem refuse_C (hL : Lay x w) (c : Int32) : mC_X0_refuse x c w = some (c, siI w x 0 c) := by simp [mC_X0_refuse, lk_0 hL, ck_tt, st1_e, bd1_s, bd2_s, kIn_c, kIn_n, arB, arK, b2i_0, isZ_b, in_C, isDay_C, isDay_M, kd_I, kd_L, kd_R, vi_I, vi_L, vi_R, vl_I, vl_L, vl_R, vr_I, vr_L, vr_R, sz_I, sz_L, sz_R, st_I, st_L, st_R, rm_I, rm_L, rm_R, gI_sI, gI_sL, gL_sL, gL_sI]
theorem done_C (hL : Lay x w) (c : Int32) : mC_X0_done x c w = some (c, siI w x 0 0) := by simp [mC_X0_done, lk_0 hL, ck_tt, st1_e, bd1_s, bd2_s, kIn_c, kIn_n, arB, arK, b2i_0, isZ_b, in_C, isDay_C, isDay_M, kd_I, kd_L, kd_R, vi_I, vi_L, vi_R, vl_I, vl_L, vl_R, vr_I, vr_L, vr_R, sz_I, sz_L, sz_R, st_I, st_L, st_R, rm_I, rm_L, rm_R, gI_sI, gI_sL, gL_sL, gL_sI]
theorem told_C (hL : Lay x w) (c : Int32) : mC_X0_told x c w = some (c, siI (siI w x 1 (hvi w x 1 + 1)) x 0 0) := by
  have : Lay x (siI w x 1 (hvi w x 1 + 1)) := hL
  simp [mC_X0_told, lk_0 hL, ck_tt, st1_e, bd1_s, bd2_s, kIn_c, kIn_n, arB, arK, b2i_0, isZ_b, in_C, isDay_C, isDay_M, kd_I, kd_L, kd_R, vi_I, vi_L, vi_R, vl_I, vl_L, vl_R, vr_I, vr_L, vr_R, sz_I, sz_L, sz_R, st_I, st_L, st_R, rm_I, rm_L, rm_R, gI_sI, gI_sL, gL_sL, gL_sI, done_C this]
theorem told_Mn {c : Int32} (h : c < 0) : mM_told c σ = some (c, sI σ 0 1 c) := by
  have : ¬ 0 ≤ c := by grind
  simp [mM_told, ck_tt, st1_e, bd1_s, bd2_s, kIn_c, kIn_n, arB, arK, b2i_0, isZ_b, in_C, isDay_C, isDay_M, kd_I, kd_L, kd_R, vi_I, vi_L, vi_R, vl_I, vl_L, vl_R, vr_I, vr_L, vr_R, sz_I, sz_L, sz_R, st_I, st_L, st_R, rm_I, rm_L, rm_R, gI_sI, gI_sL, gL_sL, gL_sI, this]
theorem told_Mp {c : Int32} (h : 0 ≤ c) : mM_told c σ = some (c, sI σ 0 1 0) := by simp [mM_told, ck_tt, st1_e, bd1_s, bd2_s, kIn_c, kIn_n, arB, arK, b2i_0, isZ_b, in_C, isDay_C, isDay_M, kd_I, kd_L, kd_R, vi_I, vi_L, vi_R, vl_I, vl_L, vl_R, vr_I, vr_L, vr_R, sz_I, sz_L, sz_R, st_I, st_L, st_R, rm_I, rm_L, rm_R, gI_sI, gI_sL, gL_sL, gL_sI, h]
theorem RelT.stat (h : RelT ow x w σ) (c : Int32) : RelT ow x (siI w x 0 c) (sI σ 0 1 c) := by
  obtain ⟨h1, h2, h3, h4, h5, h6, h7, h8, h9, h10, h11⟩ := h
  have hx : Sx x w (siI w x 0 c) := Sx.one (by omega) 0 c
  refine ⟨h1, h2, hx.1.con (hx.z h2) h3, hx.1.trep h4 h5 (fun j i hj => ?_) (fun j i hj => rfl) (hx.z h2), h5, hx.img h2 h6 (fun _ => rfl) (fun _ => rfl), ?_, ?_, ?_, ?_, ?_⟩
  · rw [vi_I, if_neg (by omega)]
  · simpa [Tap, kd_I, kd_L, kd_R, vi_I, vi_L, vi_R, vl_I, vl_L, vl_R, vr_I, vr_L, vr_R, sz_I, sz_L, sz_R, st_I, st_L, st_R, rm_I, rm_L, rm_R, gI_sI, gI_sL, gL_sL, gL_sI] using h7
  · simpa [Wsh, kd_I, kd_L, kd_R, vi_I, vi_L, vi_R, vl_I, vl_L, vl_R, vr_I, vr_L, vr_R, sz_I, sz_L, sz_R, st_I, st_L, st_R, rm_I, rm_L, rm_R, gI_sI, gI_sL, gL_sL, gL_sI] using h8
  · simpa [Led, kd_I, kd_L, kd_R, vi_I, vi_L, vi_R, vl_I, vl_L, vl_R, vr_I, vr_L, vr_R, sz_I, sz_L, sz_R, st_I, st_L, st_R, rm_I, rm_L, rm_R, gI_sI, gI_sL, gL_sL, gL_sI] using h9
  · simpa [Way, kd_I, kd_L, kd_R, vi_I, vi_L, vi_R, vl_I, vl_L, vl_R, vr_I, vr_L, vr_R, sz_I, sz_L, sz_R, st_I, st_L, st_R, rm_I, rm_L, rm_R, gI_sI, gI_sL, gL_sL, gL_sI] using h10
  · simpa [Ver, kd_I, kd_L, kd_R, vi_I, vi_L, vi_R, vl_I, vl_L, vl_R, vr_I, vr_L, vr_R, sz_I, sz_L, sz_R, st_I, st_L, st_R, rm_I, rm_L, rm_R, gI_sI, gI_sL, gL_sL, gL_sI] using h11
theorem RelT.rel (h : RelT ow x w σ) (hs : hvi w x 0 = gI σ 0 1) (hC : CFo x w (gI σ 1) ∧ CRo x w (gI σ 1) ∧ CDk x w (gI σ 1)) : Rel ow x w σ := by
  obtain ⟨h1, h2, h3, h4, h5, h6, h7, h8, h9, h10, h11⟩ := h
  exact ⟨h1, h2, h3, h4, h5, h6, h7, h8, h9, h10, hs, h11, hC⟩
theorem Rel.stat (h : Rel ow x w σ) (c : Int32) : Rel ow x (siI w x 0 c) (sI σ 0 1 c) := by
  refine (h.rt.stat c).rel (by simp [kd_I, kd_L, kd_R, vi_I, vi_L, vi_R, vl_I, vl_L, vl_R, vr_I, vr_L, vr_R, sz_I, sz_L, sz_R, st_I, st_L, st_R, rm_I, rm_L, rm_R, gI_sI, gI_sL, gL_sL, gL_sI]) ?_
  obtain ⟨_, h2, h3, h4⟩ := h.Cc
  rw [show gI (sI σ 0 1 c) 1 = gI σ 1 from rfl]
  refine ⟨?_, ?_, ?_⟩
  · simpa [CFo, kd_I, kd_L, kd_R, vi_I, vi_L, vi_R, vl_I, vl_L, vl_R, vr_I, vr_L, vr_R, sz_I, sz_L, sz_R, st_I, st_L, st_R, rm_I, rm_L, rm_R, gI_sI, gI_sL, gL_sL, gL_sI] using h2
  · simpa [CRo, kd_I, kd_L, kd_R, vi_I, vi_L, vi_R, vl_I, vl_L, vl_R, vr_I, vr_L, vr_R, sz_I, sz_L, sz_R, st_I, st_L, st_R, rm_I, rm_L, rm_R, gI_sI, gI_sL, gL_sL, gL_sI] using h3
  · simpa [CDk, DeskAt, kd_I, kd_L, kd_R, vi_I, vi_L, vi_R, vl_I, vl_L, vl_R, vr_I, vr_L, vr_R, sz_I, sz_L, sz_R, st_I, st_L, st_R, rm_I, rm_L, rm_R, gI_sI, gI_sL, gL_sL, gL_sI] using h4
theorem RelT.told (h : RelT ow x w σ) (hv : hvi w x 1 ≤ 1000) : Rel ow x (siI (siI w x 1 (hvi w x 1 + 1)) x 0 0) (sI σ 0 1 0) := by
  have h' : RelT ow x (siI w x 1 (hvi w x 1 + 1)) σ := by
    obtain ⟨h1, h2, h3, h4, h5, h6, h7, h8, h9, h10, v, g1, g2, g3, g4, g5⟩ := h
    have hx : Sx x w (siI w x 1 (hvi w x 1 + 1)) := Sx.one (by omega) 1 _
    refine ⟨h1, h2, hx.1.con (hx.z h2) h3, hx.1.trep h4 h5 (fun j i hj => ?_) (fun j i hj => rfl) (hx.z h2), h5, hx.img h2 h6 (fun _ => rfl) (fun _ => rfl), ?_, ?_, ?_, ?_, ?_⟩
    · rw [vi_I, if_neg (by omega)]
    · simpa [Tap, kd_I, kd_L, kd_R, vi_I, vi_L, vi_R, vl_I, vl_L, vl_R, vr_I, vr_L, vr_R, sz_I, sz_L, sz_R, st_I, st_L, st_R, rm_I, rm_L, rm_R, gI_sI, gI_sL, gL_sL, gL_sI] using h7
    · simpa [Wsh, kd_I, kd_L, kd_R, vi_I, vi_L, vi_R, vl_I, vl_L, vl_R, vr_I, vr_L, vr_R, sz_I, sz_L, sz_R, st_I, st_L, st_R, rm_I, rm_L, rm_R, gI_sI, gI_sL, gL_sL, gL_sI] using h8
    · simpa [Led, kd_I, kd_L, kd_R, vi_I, vi_L, vi_R, vl_I, vl_L, vl_R, vr_I, vr_L, vr_R, sz_I, sz_L, sz_R, st_I, st_L, st_R, rm_I, rm_L, rm_R, gI_sI, gI_sL, gL_sL, gL_sI] using h9
    · simpa [Way, kd_I, kd_L, kd_R, vi_I, vi_L, vi_R, vl_I, vl_L, vl_R, vr_I, vr_L, vr_R, sz_I, sz_L, sz_R, st_I, st_L, st_R, rm_I, rm_L, rm_R, gI_sI, gI_sL, gL_sL, gL_sI] using h10
    · rw [g2] at hv
      rw [show (1000 : Int32) = Int32.ofNat 1000 from rfl, i_le (by omega) (by decide)] at hv
      refine ⟨v + 1, by omega, by simp [kd_I, kd_L, kd_R, vi_I, vi_L, vi_R, vl_I, vl_L, vl_R, vr_I, vr_L, vr_R, sz_I, sz_L, sz_R, st_I, st_L, st_R, rm_I, rm_L, rm_R, gI_sI, gI_sL, gL_sL, gL_sI, g2], ?_, ?_, ?_⟩
      all_goals
        have : hvi w x 1 ≤ hvi w x 1 + 1 := by
          rw [g2, i_succ, i_le (by omega) (by omega)]; omega
        simp [kd_I, kd_L, kd_R, vi_I, vi_L, vi_R, vl_I, vl_L, vl_R, vr_I, vr_L, vr_R, sz_I, sz_L, sz_R, st_I, st_L, st_R, rm_I, rm_L, rm_R, gI_sI, gI_sL, gL_sL, gL_sI]
        grind
  have hlt : hvi w x 1 < hvi w x 1 + 1 := by
    obtain ⟨v, g1, g2, _⟩ := h.2.2.2.2.2.2.2.2.2.2
    rw [g2] at hv ⊢
    rw [show (1000 : Int32) = Int32.ofNat 1000 from rfl, i_le (by omega) (by decide)] at hv
    rw [i_succ, i_lt (by omega) (by omega)]; omega
  obtain ⟨v, g1, g2, g3, g4, g5⟩ := h.2.2.2.2.2.2.2.2.2.2
  refine (h'.stat 0).rel (by simp [kd_I, kd_L, kd_R, vi_I, vi_L, vi_R, vl_I, vl_L, vl_R, vr_I, vr_L, vr_R, sz_I, sz_L, sz_R, st_I, st_L, st_R, rm_I, rm_L, rm_R, gI_sI, gI_sL, gL_sL, gL_sI]) ⟨?_, ?_, ?_⟩
  · intro e
    simp [kd_I, kd_L, kd_R, vi_I, vi_L, vi_R, vl_I, vl_L, vl_R, vr_I, vr_L, vr_R, sz_I, sz_L, sz_R, st_I, st_L, st_R, rm_I, rm_L, rm_R, gI_sI, gI_sL, gL_sL, gL_sI] at e
    grind
  · intro e
    simp [kd_I, kd_L, kd_R, vi_I, vi_L, vi_R, vl_I, vl_L, vl_R, vr_I, vr_L, vr_R, sz_I, sz_L, sz_R, st_I, st_L, st_R, rm_I, rm_L, rm_R, gI_sI, gI_sL, gL_sL, gL_sI] at e
    grind
  · intro e
    simp [kd_I, kd_L, kd_R, vi_I, vi_L, vi_R, vl_I, vl_L, vl_R, vr_I, vr_L, vr_R, sz_I, sz_L, sz_R, st_I, st_L, st_R, rm_I, rm_L, rm_R, gI_sI, gI_sL, gL_sL, gL_sI] at e
    grind
theorem Rel.V (hR : Rel ow x w σ) : Ver x w := hR.Cc.1
theorem OpW.ref (hR : Rel ow x w σ) (c : Int32) : OpW x w (some (c, siI w x 0 c)) (some (c, sI (sI σ 0 0 0) 0 1 c)) := ⟨c, _, _, ow, rfl, rfl, hR.thr.stat c, Grw.si ⟨rfl, rfl, rfl⟩ (Or.inl (by simp [vi_I]))⟩
theorem OpW.tol (h : RelT ow x w' σ') (hs : Si w w') (he : hvi w' x 1 = hvi w x 1) (hv : hvi w x 1 ≤ 1000) (r : Int32) : OpW x w (some (r, siI (siI w' x 1 (hvi w' x 1 + 1)) x 0 0)) (some (r, sI σ' 0 1 0)) :=
  ⟨r, _, _, ow, rfl, rfl, h.told (by rw [he]; exact hv), Grw.si (hs.trans ⟨rfl, rfl, rfl⟩) (Or.inr (by simp [vi_I, he]))⟩
theorem OpW.don (h : Rel ow x w' σ') (hs : Si w w') (he : hvi w' x 1 = hvi w x 1) (r : Int32) : OpW x w (some (r, siI w' x 0 0)) (some (r, sI σ' 0 1 0)) :=
  ⟨r, _, _, ow, rfl, rfl, h.stat 0, Grw.si (hs.trans ⟨rfl, rfl, rfl⟩) (Or.inl (by simp [vi_I, he]))⟩
theorem told_1 : mM_told (-1) σ = some (-1, sI σ 0 1 (-1)) := told_Mn (by decide)
theorem told_2 : mM_told (-2) σ = some (-2, sI σ 0 1 (-2)) := told_Mn (by decide)
theorem told_3 : mM_told (-3) σ = some (-3, sI σ 0 1 (-3)) := told_Mn (by decide)
theorem told_4 : mM_told (-4) σ = some (-4, sI σ 0 1 (-4)) := told_Mn (by decide)
theorem told_5 : mM_told (-5) σ = some (-5, sI σ 0 1 (-5)) := told_Mn (by decide)
theorem told_6 : mM_told (-6) σ = some (-6, sI σ 0 1 (-6)) := told_Mn (by decide)
theorem told_0 : mM_told 0 σ = some (0, sI σ 0 1 0) := told_Mp (by decide)
theorem i_a (b : Nat) (v : Int32) (hv : v = Int32.ofNat b) (a : Nat) : Int32.ofNat a + v = Int32.ofNat (a + b) := by rw [hv, Int32.ofNat_add]
theorem i_am (a b : Nat) (u v : Int32) (hu : u = Int32.ofNat a) (hv : v = Int32.ofNat b) (n : Nat) : u + v * Int32.ofNat n = Int32.ofNat (a + b * n) := by rw [hu, hv, Int32.ofNat_add, Int32.ofNat_mul]
theorem i_m (b : Nat) (v : Int32) (hv : v = Int32.ofNat b) (n : Nat) : v * Int32.ofNat n = Int32.ofNat (b * n) := by rw [hv, Int32.ofNat_mul]
theorem i_aa (a b : Nat) : Int32.ofNat a + Int32.ofNat b = Int32.ofNat (a + b) := (Int32.ofNat_add a b).symm
theorem isPlace_C (hR : RelT ow x w σ) (p : Int32) : mC_X0_isPlace x p w = some (b2i (bel p (gI σ 1 0))) := by
  have hL := hR.1
  have h0 := hR.2.2.2.2.1.1.1.1
  simp [mC_X0_isPlace, ck_tt, st1_e, bd1_s, bd2_s, kIn_c, kIn_n, arB, arK, b2i_0, isZ_b, in_C, isDay_C, isDay_M, kd_I, kd_L, kd_R, vi_I, vi_L, vi_R, vl_I, vl_L, vl_R, vr_I, vr_L, vr_R, sz_I, sz_L, sz_R, st_I, st_L, st_R, rm_I, rm_L, rm_R, gI_sI, gI_sL, gL_sL, gL_sI, lk_0 hL, lk_1 hL, lr_0_2 hL, lr_0_3 hL, lr_0_4 hL, lr_0_7 hL, lr_0_8 hL, lr_0_9 hL, lr_0_10 hL, lr_0_11 hL, lr_0_12 hL, lr_0_13 hL, lr_0_14 hL, lr_0_15 hL, lr_0_16 hL, lr_0_17 hL, lr_0_18 hL, lr_0_23 hL, lr_0_24 hL, lr_0_27 hL, lr_0_28 hL, lr_0_29 hL, lr_0_30 hL, lr_0_31 hL, lr_0_32 hL, lr_0_33 hL, lr_1_0 hL, lr_1_1 hL, lr_1_2 hL, lr_1_3 hL, lr_1_4 hL, lr_1_5 hL, lr_1_6 hL, lr_1_7 hL, lr_1_8 hL, lr_1_9 hL, lr_1_10 hL, lr_1_11 hL, lr_1_12 hL, lr_1_13 hL, lr_1_14 hL, lr_1_15 hL, lr_1_16 hL, lr_1_17 hL, lr_1_18 hL, lr_1_19 hL, lr_1_20 hL, lr_1_21 hL, hR.2.2.2.1.2.1.1, inr_bel h0]
theorem isPlace_M (hW : WF (gI σ 1)) (p : Int32) : mM_isPlace p σ = some (b2i (bel p (gI σ 1 0))) := by simp [mM_isPlace, ck_tt, st1_e, bd1_s, bd2_s, kIn_c, kIn_n, arB, arK, b2i_0, isZ_b, in_C, isDay_C, isDay_M, kd_I, kd_L, kd_R, vi_I, vi_L, vi_R, vl_I, vl_L, vl_R, vr_I, vr_L, vr_R, sz_I, sz_L, sz_R, st_I, st_L, st_R, rm_I, rm_L, rm_R, gI_sI, gI_sL, gL_sL, gL_sI, bel_M hW.1.1.1]
theorem isName_C (hR : RelT ow x w σ) (p : Int32) : mC_X0_isName x p w = some (b2i (bel p (gI σ 1 1))) := by
  have hL := hR.1
  have s2 := size_C hR.2.2.2.1.2.2.2.2.2.2.2.2.2.1
  simp only [Nat.add_assoc, Nat.reduceAdd, ← hR.2.2.2.2.1.c2.2.1] at s2
  by_cases h : p < 0
  · have : ¬ 0 ≤ p := by grind
    simp [mC_X0_isName, bel, this, b2i, h]
  · have h' : 0 ≤ p := by grind
    simp [mC_X0_isName, ck_tt, st1_e, bd1_s, bd2_s, kIn_c, kIn_n, arB, arK, b2i_0, isZ_b, in_C, isDay_C, isDay_M, kd_I, kd_L, kd_R, vi_I, vi_L, vi_R, vl_I, vl_L, vl_R, vr_I, vr_L, vr_R, sz_I, sz_L, sz_R, st_I, st_L, st_R, rm_I, rm_L, rm_R, gI_sI, gI_sL, gL_sL, gL_sI, lk_0 hL, lk_1 hL, lk_4 hL, lr_0_2 hL, lr_0_3 hL, lr_0_4 hL, lr_0_7 hL, lr_0_8 hL, lr_0_9 hL, lr_0_10 hL, lr_0_11 hL, lr_0_12 hL, lr_0_13 hL, lr_0_14 hL, lr_0_15 hL, lr_0_16 hL, lr_0_17 hL, lr_0_18 hL, lr_0_23 hL, lr_0_24 hL, lr_0_27 hL, lr_0_28 hL, lr_0_29 hL, lr_0_30 hL, lr_0_31 hL, lr_0_32 hL, lr_0_33 hL, lr_1_0 hL, lr_1_1 hL, lr_1_2 hL, lr_1_3 hL, lr_1_4 hL, lr_1_5 hL, lr_1_6 hL, lr_1_7 hL, lr_1_8 hL, lr_1_9 hL, lr_1_10 hL, lr_1_11 hL, lr_1_12 hL, lr_1_13 hL, lr_1_14 hL, lr_1_15 hL, lr_1_16 hL, lr_1_17 hL, lr_1_18 hL, lr_1_19 hL, lr_1_20 hL, lr_1_21 hL, s2, bel, h, h']
    by_cases h2 : gI σ 1 1 ≤ p
    · have : ¬ p < gI σ 1 1 := by grind
      simp [h2, b2i]
    · have : p < gI σ 1 1 := by grind
      simp [h2, this, b2i]
theorem isName_M (hW : WF (gI σ 1)) (p : Int32) : mM_isName p σ = some (b2i (bel p (gI σ 1 1))) := by simp [mM_isName, ck_tt, st1_e, bd1_s, bd2_s, kIn_c, kIn_n, arB, arK, b2i_0, isZ_b, in_C, isDay_C, isDay_M, kd_I, kd_L, kd_R, vi_I, vi_L, vi_R, vl_I, vl_L, vl_R, vr_I, vr_L, vr_R, sz_I, sz_L, sz_R, st_I, st_L, st_R, rm_I, rm_L, rm_R, gI_sI, gI_sL, gL_sL, gL_sI, bel_M hW.1.2.1.1]
theorem isBooth_C (hR : RelT ow x w σ) (p : Int32) : mC_X0_isBooth x p w = some (b2i (bel p (gI σ 1 3))) := by
  have hL := hR.1
  have h0 := hR.2.2.2.2.1.1.2.2.2.1.1
  simp [mC_X0_isBooth, ck_tt, st1_e, bd1_s, bd2_s, kIn_c, kIn_n, arB, arK, b2i_0, isZ_b, in_C, isDay_C, isDay_M, kd_I, kd_L, kd_R, vi_I, vi_L, vi_R, vl_I, vl_L, vl_R, vr_I, vr_L, vr_R, sz_I, sz_L, sz_R, st_I, st_L, st_R, rm_I, rm_L, rm_R, gI_sI, gI_sL, gL_sL, gL_sI, lk_0 hL, lk_1 hL, lr_0_2 hL, lr_0_3 hL, lr_0_4 hL, lr_0_7 hL, lr_0_8 hL, lr_0_9 hL, lr_0_10 hL, lr_0_11 hL, lr_0_12 hL, lr_0_13 hL, lr_0_14 hL, lr_0_15 hL, lr_0_16 hL, lr_0_17 hL, lr_0_18 hL, lr_0_23 hL, lr_0_24 hL, lr_0_27 hL, lr_0_28 hL, lr_0_29 hL, lr_0_30 hL, lr_0_31 hL, lr_0_32 hL, lr_0_33 hL, lr_1_0 hL, lr_1_1 hL, lr_1_2 hL, lr_1_3 hL, lr_1_4 hL, lr_1_5 hL, lr_1_6 hL, lr_1_7 hL, lr_1_8 hL, lr_1_9 hL, lr_1_10 hL, lr_1_11 hL, lr_1_12 hL, lr_1_13 hL, lr_1_14 hL, lr_1_15 hL, lr_1_16 hL, lr_1_17 hL, lr_1_18 hL, lr_1_19 hL, lr_1_20 hL, lr_1_21 hL, hR.2.2.2.1.2.2.2.1.1, inr_bel h0]
theorem isBooth_M (hW : WF (gI σ 1)) (p : Int32) : mM_isBooth p σ = some (b2i (bel p (gI σ 1 3))) := by simp [mM_isBooth, ck_tt, st1_e, bd1_s, bd2_s, kIn_c, kIn_n, arB, arK, b2i_0, isZ_b, in_C, isDay_C, isDay_M, kd_I, kd_L, kd_R, vi_I, vi_L, vi_R, vl_I, vl_L, vl_R, vr_I, vr_L, vr_R, sz_I, sz_L, sz_R, st_I, st_L, st_R, rm_I, rm_L, rm_R, gI_sI, gI_sL, gL_sL, gL_sI, bel_M hW.1.2.2.2.1.1]
theorem isBox_C (hR : RelT ow x w σ) (p : Int32) : mC_X0_isBox x p w = some (b2i (bel p (gI σ 1 4))) := by
  have hL := hR.1
  have h0 := hR.2.2.2.2.1.1.2.2.2.2.1.1
  simp [mC_X0_isBox, ck_tt, st1_e, bd1_s, bd2_s, kIn_c, kIn_n, arB, arK, b2i_0, isZ_b, in_C, isDay_C, isDay_M, kd_I, kd_L, kd_R, vi_I, vi_L, vi_R, vl_I, vl_L, vl_R, vr_I, vr_L, vr_R, sz_I, sz_L, sz_R, st_I, st_L, st_R, rm_I, rm_L, rm_R, gI_sI, gI_sL, gL_sL, gL_sI, lk_0 hL, lk_1 hL, lr_0_2 hL, lr_0_3 hL, lr_0_4 hL, lr_0_7 hL, lr_0_8 hL, lr_0_9 hL, lr_0_10 hL, lr_0_11 hL, lr_0_12 hL, lr_0_13 hL, lr_0_14 hL, lr_0_15 hL, lr_0_16 hL, lr_0_17 hL, lr_0_18 hL, lr_0_23 hL, lr_0_24 hL, lr_0_27 hL, lr_0_28 hL, lr_0_29 hL, lr_0_30 hL, lr_0_31 hL, lr_0_32 hL, lr_0_33 hL, lr_1_0 hL, lr_1_1 hL, lr_1_2 hL, lr_1_3 hL, lr_1_4 hL, lr_1_5 hL, lr_1_6 hL, lr_1_7 hL, lr_1_8 hL, lr_1_9 hL, lr_1_10 hL, lr_1_11 hL, lr_1_12 hL, lr_1_13 hL, lr_1_14 hL, lr_1_15 hL, lr_1_16 hL, lr_1_17 hL, lr_1_18 hL, lr_1_19 hL, lr_1_20 hL, lr_1_21 hL, hR.2.2.2.1.2.2.2.2.1.1, inr_bel h0]
theorem isBox_M (hW : WF (gI σ 1)) (p : Int32) : mM_isBox p σ = some (b2i (bel p (gI σ 1 4))) := by simp [mM_isBox, ck_tt, st1_e, bd1_s, bd2_s, kIn_c, kIn_n, arB, arK, b2i_0, isZ_b, in_C, isDay_C, isDay_M, kd_I, kd_L, kd_R, vi_I, vi_L, vi_R, vl_I, vl_L, vl_R, vr_I, vr_L, vr_R, sz_I, sz_L, sz_R, st_I, st_L, st_R, rm_I, rm_L, rm_R, gI_sI, gI_sL, gL_sL, gL_sI, bel_M hW.1.2.2.2.2.1.1]
theorem rowS_ne {a i : Nat} {u : Int32} (h : i ≠ a) : gI (sI σ 1 a u) 1 i = gI σ 1 i := by rw [gI_sI, if_neg (by omega)]
theorem rowS_eq {a : Nat} {u : Int32} : gI (sI σ 1 a u) 1 a = u := by rw [gI_sI, if_pos ⟨rfl, rfl⟩]
theorem rowS_j {j a i : Nat} {u : Int32} (h : j ≠ 1) : gI (sI σ j a u) 1 i = gI σ 1 i := by rw [gI_sI, if_neg (by omega)]
end TD
