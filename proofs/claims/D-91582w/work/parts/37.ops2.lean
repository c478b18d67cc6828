set_option maxRecDepth 100000
/-! ===== operations that write numbers of the Told alone ===== -/
section O2
variable {ow : Nat → Nat} {w w' : AH} {T T' : Nat → Int32} {x t : Nat} {σ σ' : SM}
theorem placeAt_M (n : Nat) : mM_placeAt (Int32.ofNat n) = some (Int32.ofNat (20 + 3 * n)) := by simp [mM_placeAt]
theorem nameAt_M (n : Nat) : mM_nameAt (Int32.ofNat n) = some (Int32.ofNat (68 + 11 * n)) := by simp [mM_nameAt]
theorem inr_ex {a lo hi : Int32} (h : inr a lo hi = true) : rg a lo hi := by simpa [inr, rg] using h
theorem ref_F (c : Int32) : fC_X0_refuse x c w = some (c, siI w x 0 c) := rfl
theorem don_F (c : Int32) : fC_X0_done x c w = some (c, siI w x 0 0) := rfl
theorem tol_F (c : Int32) : fC_X0_told x c w = some (c, siI (siI w x 1 (hvi w x 1 + 1)) x 0 0) := rfl
theorem i_pos {n : Nat} (h : n < 2147483648) : (0 : Int32) ≤ Int32.ofNat n := by rw [show (0 : Int32) = Int32.ofNat 0 from rfl, i_le (by decide) h]; omega
theorem i_s1 (n : Nat) : Int32.ofNat (n + 1) - 1 = Int32.ofNat n := by rw [← i_a 1 1 rfl n]; grind
theorem told_n {n : Nat} (h : n < 2147483648) : mM_told (Int32.ofNat n) σ = some (Int32.ofNat n, sI σ 0 1 0) := told_Mp (i_pos h)
theorem RelT.place (hR : RelT ow x w σ) {n : Nat} {a b c : Int32} (hn : cn (gI σ 1) 0 = n) (h4 : n < 16) (h1 : rg a 0 5) (h2 : rg b 0 99) (h3 : rg c 0 99) : RelT ow x (siI (siI (siI (siI w (x + 14) n a) (x + 15) n b) (x + 16) n c) (x + 1) 22 (Int32.ofNat (n + 1))) (sI (sI (sI (sI σ 1 (20 + 3 * n) a) 1 (21 + 3 * n) b) 1 (22 + 3 * n) c) 1 0 (Int32.ofNat (n + 1))) := by
  have hW := hR.2.2.2.2.1
  obtain ⟨t1, t2, t3, t4, t5, t6, t7, t8, t9⟩ := hR.2.2.2.1
  have kc := hW.c1
  obtain ⟨⟨u0, u1, u2, u3, u4, u5, u6, u7, u8, u9, u10⟩, q1, q2, q3, q4, q5, q6, q7, q8, q9⟩ := hW
  have hs : Si w (siI (siI (siI (siI w (x + 14) n a) (x + 15) n b) (x + 16) n c) (x + 1) 22 (Int32.ofNat (n + 1))) := ⟨rfl, rfl, rfl⟩
  have G : ∀ q i, (¬ (q = x + 14 ∧ i = n) ∧ ¬ (q = x + 15 ∧ i = n) ∧ ¬ (q = x + 16 ∧ i = n) ∧ ¬ (q = x + 1 ∧ i = 22)) → hvi (siI (siI (siI (siI w (x + 14) n a) (x + 15) n b) (x + 16) n c) (x + 1) 22 (Int32.ofNat (n + 1))) q i = hvi w q i := by
    intro q i h
    obtain ⟨g0, g1, g2, g3⟩ := h
    skip
    rw [vi_I, if_neg g3, vi_I, if_neg g2, vi_I, if_neg g1, vi_I, if_neg g0]
  have GL : ∀ q i, (True) → hvl (siI (siI (siI (siI w (x + 14) n a) (x + 15) n b) (x + 16) n c) (x + 1) 22 (Int32.ofNat (n + 1))) q i = hvl w q i := by
    intro q i h
    skip
    rfl
  have Gr : ∀ i, (i ≠ (20 + 3 * n) ∧ i ≠ (21 + 3 * n) ∧ i ≠ (22 + 3 * n) ∧ i ≠ 0) → gI (sI (sI (sI (sI σ 1 (20 + 3 * n) a) 1 (21 + 3 * n) b) 1 (22 + 3 * n) c) 1 0 (Int32.ofNat (n + 1))) 1 i = gI σ 1 i := by
    intro i h
    obtain ⟨g0, g1, g2, g3⟩ := h
    rw [rowS_ne g3, rowS_ne g2, rowS_ne g1, rowS_ne g0]
  have G0 : hvi (siI (siI (siI (siI w (x + 14) n a) (x + 15) n b) (x + 16) n c) (x + 1) 22 (Int32.ofNat (n + 1))) (x + 14) n = a := by
    skip
    rw [vi_I, if_neg (by omega), vi_I, if_neg (by omega), vi_I, if_neg (by omega), vi_I, if_pos ⟨rfl, rfl⟩]
  have G1 : hvi (siI (siI (siI (siI w (x + 14) n a) (x + 15) n b) (x + 16) n c) (x + 1) 22 (Int32.ofNat (n + 1))) (x + 15) n = b := by
    skip
    rw [vi_I, if_neg (by omega), vi_I, if_neg (by omega), vi_I, if_pos ⟨rfl, rfl⟩]
  have G2 : hvi (siI (siI (siI (siI w (x + 14) n a) (x + 15) n b) (x + 16) n c) (x + 1) 22 (Int32.ofNat (n + 1))) (x + 16) n = c := by
    skip
    rw [vi_I, if_neg (by omega), vi_I, if_pos ⟨rfl, rfl⟩]
  have G3 : hvi (siI (siI (siI (siI w (x + 14) n a) (x + 15) n b) (x + 16) n c) (x + 1) 22 (Int32.ofNat (n + 1))) (x + 1) 22 = (Int32.ofNat (n + 1)) := by
    skip
    rw [vi_I, if_pos ⟨rfl, rfl⟩]
  have R0 : gI (sI (sI (sI (sI σ 1 (20 + 3 * n) a) 1 (21 + 3 * n) b) 1 (22 + 3 * n) c) 1 0 (Int32.ofNat (n + 1))) 1 ((20 + 3 * n)) = a := by
    rw [rowS_ne (by omega), rowS_ne (by omega), rowS_ne (by omega), rowS_eq]
  have R1 : gI (sI (sI (sI (sI σ 1 (20 + 3 * n) a) 1 (21 + 3 * n) b) 1 (22 + 3 * n) c) 1 0 (Int32.ofNat (n + 1))) 1 ((21 + 3 * n)) = b := by
    rw [rowS_ne (by omega), rowS_ne (by omega), rowS_eq]
  have R2 : gI (sI (sI (sI (sI σ 1 (20 + 3 * n) a) 1 (21 + 3 * n) b) 1 (22 + 3 * n) c) 1 0 (Int32.ofNat (n + 1))) 1 ((22 + 3 * n)) = c := by
    rw [rowS_ne (by omega), rowS_eq]
  have R3 : gI (sI (sI (sI (sI σ 1 (20 + 3 * n) a) 1 (21 + 3 * n) b) 1 (22 + 3 * n) c) 1 0 (Int32.ofNat (n + 1))) 1 (0) = (Int32.ofNat (n + 1)) := by
    rw [rowS_eq]
  have hz : ∀ q i, ow q = 1 → hvi (siI (siI (siI (siI w (x + 14) n a) (x + 15) n b) (x + 16) n c) (x + 1) 22 (Int32.ofNat (n + 1))) q i = hvi w q i := fun q i hq => by
    have := hR.2.1.ne hq
    exact G q i (by omega)
  refine hR.now hs (fun q i hq => G q i (by omega)) (fun q i hq => GL q i (by first | exact trivial | omega)) (fun j i hj _ => ?_) ?_ ?_
  · rw [gI_sI, if_neg (by omega), gI_sI, if_neg (by omega), gI_sI, if_neg (by omega), gI_sI, if_neg (by omega)]
  · generalize hw' : siI (siI (siI (siI w (x + 14) n a) (x + 15) n b) (x + 16) n c) (x + 1) 22 (Int32.ofNat (n + 1)) = w' at *
    generalize hT' : gI (sI (sI (sI (sI σ 1 (20 + 3 * n) a) 1 (21 + 3 * n) b) 1 (22 + 3 * n) c) 1 0 (Int32.ofNat (n + 1))) 1 = T' at *
    refine ⟨hs.tlay t1, ?_, ?_, ?_, ?_, ?_, ?_, ?_, ?_⟩
    · refine ⟨G3.trans R3.symm, fun p hp => ?_⟩
      have hp' : p < n + 1 := by unfold cn at hp; rw [R3, i_nat (by omega)] at hp; exact hp
      by_cases hpn : p = n
      · subst hpn
        exact ⟨G0.trans R0.symm, G1.trans R1.symm, G2.trans R2.symm⟩
      · rw [G _ _ (by omega), G _ _ (by omega), G _ _ (by omega), Gr _ (by omega), Gr _ (by omega), Gr _ (by omega)]
        exact t2.2 p (by omega)
    · exact t3.fr kc.2.1 (fun j i _ _ => G _ _ (by omega)) (Gr _ (by omega)) (fun i _ _ => Gr _ (by omega))
    · exact t4.fr kc.2.2.2.1 (G _ _ (by omega)) (fun i => G _ _ (by omega)) (fun i => G _ _ (by omega)) (fun i => GL _ _ (by first | exact trivial | omega)) (fun i => GL _ _ (by first | exact trivial | omega)) (Gr _ (by omega)) (fun i _ _ => Gr _ (by omega))
    · exact t5.fr kc.2.2.2.2.1 (G _ _ (by omega)) (fun i => G _ _ (by omega)) (fun i => G _ _ (by omega)) (Gr _ (by omega)) (fun i _ _ => Gr _ (by omega))
    · exact t6.fr kc.2.2.2.2.2.2.1 (fun i => G _ _ (by omega)) (Gr _ (by omega)) (fun i _ _ => Gr _ (by omega))
    · exact t7.fr (fun i => G _ _ (by omega)) (fun i _ _ => Gr _ (by omega))
    · exact t8.fr (G _ _ (by omega)) (G _ _ (by omega)) (Gr _ (by omega)) (Gr _ (by omega))
    · exact hs.tls t9 hR.2.2.2.2.1 (fun j _ _ => G _ _ (by omega)) hz (Gr _ (by omega)) (Gr _ (by omega)) (Gr _ (by omega)) (Gr _ (by omega)) (Gr _ (by omega)) (Gr _ (by omega)) (fun n _ => ⟨Gr _ (by omega), Gr _ (by omega), Gr _ (by omega), Gr _ (by omega), Gr _ (by omega), Gr _ (by omega)⟩) (fun i _ _ => Gr _ (by omega)) (fun i _ _ => Gr _ (by omega)) (fun c _ => ⟨Gr _ (by omega), Gr _ (by omega), Gr _ (by omega), Gr _ (by omega)⟩) (fun i _ _ => Gr _ (by omega)) (fun i _ _ => Gr _ (by omega))
  · generalize hT' : gI (sI (sI (sI (sI σ 1 (20 + 3 * n) a) 1 (21 + 3 * n) b) 1 (22 + 3 * n) c) 1 0 (Int32.ofNat (n + 1))) 1 = T' at *
    refine ⟨⟨by rw [R3]; exact ⟨i_pos (by omega), (i_le (b := 16) (by omega) (by decide)).mpr (by omega)⟩, by rw [Gr 1 (by omega)]; exact u1, by rw [Gr 2 (by omega)]; exact u2, by rw [Gr 3 (by omega)]; exact u3, by rw [Gr 4 (by omega)]; exact u4, by rw [Gr 5 (by omega)]; exact u5, by rw [Gr 6 (by omega)]; exact u6, by rw [Gr 7 (by omega)]; exact u7, by rw [Gr 8 (by omega)]; exact u8, by rw [Gr 9 (by omega)]; exact u9, by rw [Gr 10 (by omega)]; exact u10⟩, ?_, ?_, ?_, ?_, ?_, ?_, ?_, ?_, ?_⟩
    · intro p hp
      have hp' : p < n + 1 := by unfold cn at hp; rw [R3, i_nat (by omega)] at hp; exact hp
      by_cases hpn : p = n
      · subst hpn
        rw [R0, R1, R2]
        exact ⟨h1, h2, h3⟩
      · rw [Gr _ (by omega), Gr _ (by omega), Gr _ (by omega)]
        exact q1 p (by omega)
    · exact W2.fr q2 kc.2.1 (Gr _ (by omega)) (by rw [R3, hR.2.2.2.2.1.c2.1, hn, i_le (by omega) (by omega)]; omega) (fun i _ _ => Gr _ (by omega))
    · exact W3.fr q3 kc.2.2.2.1 (Gr _ (by omega)) (by rw [R3, hR.2.2.2.2.1.c2.1, hn, i_le (by omega) (by omega)]; omega) (fun i _ _ => Gr _ (by omega))
    · exact W4.fr q4 kc.2.2.2.2.1 (Gr _ (by omega)) (by rw [Gr 3 (by omega)]; exact Int32.le_refl _) (fun i _ _ => Gr _ (by omega))
    · exact W5.fr q5 kc.2.2.2.2.2.1 (Gr _ (by omega)) (by rw [Gr 4 (by omega)]; exact Int32.le_refl _) (fun i _ _ => Gr _ (by omega))
    · exact W6.fr q6 kc.2.2.2.2.2.2.2.1 (Gr _ (by omega)) (by rw [Gr 3 (by omega)]; exact Int32.le_refl _) (fun i _ _ => Gr _ (by omega))
    · exact W7.fr q7 kc.2.2.2.2.2.2.1 (Gr _ (by omega)) (by rw [Gr 4 (by omega)]; exact Int32.le_refl _) (fun i _ _ => Gr _ (by omega))
    · exact W8.fr q8 (fun i _ _ => Gr _ (by omega))
    · exact W9.fr q9 kc.2.2.1 (Gr _ (by omega)) (fun i _ _ => Gr _ (by omega))
theorem RelT.keep (hR : RelT ow x w σ) {m : Nat} (hm : m < 48) : RelT ow x (siI w (x + 29) m 1) (sI σ 1 (5008 + m) 1) := by
  have hW := hR.2.2.2.2.1
  obtain ⟨t1, t2, t3, t4, t5, t6, t7, t8, t9⟩ := hR.2.2.2.1
  have kc := hW.c1
  obtain ⟨⟨u0, u1, u2, u3, u4, u5, u6, u7, u8, u9, u10⟩, q1, q2, q3, q4, q5, q6, q7, q8, q9⟩ := hW
  have hs : Si w (siI w (x + 29) m 1) := ⟨rfl, rfl, rfl⟩
  have G : ∀ q i, (¬ (q = x + 29 ∧ i = m)) → hvi (siI w (x + 29) m 1) q i = hvi w q i := by
    intro q i h
    have g0 := h
    skip
    rw [vi_I, if_neg g0]
  have GL : ∀ q i, (True) → hvl (siI w (x + 29) m 1) q i = hvl w q i := by
    intro q i h
    skip
    rfl
  have Gr : ∀ i, (i ≠ (5008 + m)) → gI (sI σ 1 (5008 + m) 1) 1 i = gI σ 1 i := by
    intro i h
    have g0 := h
    rw [rowS_ne g0]
  have G0 : hvi (siI w (x + 29) m 1) (x + 29) m = 1 := by
    skip
    rw [vi_I, if_pos ⟨rfl, rfl⟩]
  have R0 : gI (sI σ 1 (5008 + m) 1) 1 ((5008 + m)) = 1 := by
    rw [rowS_eq]
  have hz : ∀ q i, ow q = 1 → hvi (siI w (x + 29) m 1) q i = hvi w q i := fun q i hq => by
    have := hR.2.1.ne hq
    exact G q i (by omega)
  refine hR.now hs (fun q i hq => G q i (by omega)) (fun q i hq => GL q i (by first | exact trivial | omega)) (fun j i hj _ => ?_) ?_ ?_
  · rw [gI_sI, if_neg (by omega)]
  · generalize hw' : siI w (x + 29) m 1 = w' at *
    generalize hT' : gI (sI σ 1 (5008 + m) 1) 1 = T' at *
    refine ⟨hs.tlay t1, ?_, ?_, ?_, ?_, ?_, ?_, ?_, ?_⟩
    · exact t2.fr kc.1 (G _ _ (by omega)) (fun i => G _ _ (by omega)) (fun i => G _ _ (by omega)) (fun i => G _ _ (by omega)) (Gr _ (by omega)) (fun i _ _ => Gr _ (by omega))
    · exact t3.fr kc.2.1 (fun j i _ _ => G _ _ (by omega)) (Gr _ (by omega)) (fun i _ _ => Gr _ (by omega))
    · exact t4.fr kc.2.2.2.1 (G _ _ (by omega)) (fun i => G _ _ (by omega)) (fun i => G _ _ (by omega)) (fun i => GL _ _ (by first | exact trivial | omega)) (fun i => GL _ _ (by first | exact trivial | omega)) (Gr _ (by omega)) (fun i _ _ => Gr _ (by omega))
    · exact t5.fr kc.2.2.2.2.1 (G _ _ (by omega)) (fun i => G _ _ (by omega)) (fun i => G _ _ (by omega)) (Gr _ (by omega)) (fun i _ _ => Gr _ (by omega))
    · exact t6.fr kc.2.2.2.2.2.2.1 (fun i => G _ _ (by omega)) (Gr _ (by omega)) (fun i _ _ => Gr _ (by omega))
    · intro k hk
      by_cases e : k = m
      · subst e
        exact G0.trans R0.symm
      · rw [G _ _ (by omega), Gr _ (by omega)]
        exact t7 k hk
    · exact t8.fr (G _ _ (by omega)) (G _ _ (by omega)) (Gr _ (by omega)) (Gr _ (by omega))
    · exact hs.tls t9 hR.2.2.2.2.1 (fun j _ _ => G _ _ (by omega)) hz (Gr _ (by omega)) (Gr _ (by omega)) (Gr _ (by omega)) (Gr _ (by omega)) (Gr _ (by omega)) (Gr _ (by omega)) (fun n _ => ⟨Gr _ (by omega), Gr _ (by omega), Gr _ (by omega), Gr _ (by omega), Gr _ (by omega), Gr _ (by omega)⟩) (fun i _ _ => Gr _ (by omega)) (fun i _ _ => Gr _ (by omega)) (fun c _ => ⟨Gr _ (by omega), Gr _ (by omega), Gr _ (by omega), Gr _ (by omega)⟩) (fun i _ _ => Gr _ (by omega)) (fun i _ _ => Gr _ (by omega))
  · generalize hT' : gI (sI σ 1 (5008 + m) 1) 1 = T' at *
    refine ⟨⟨by rw [Gr 0 (by omega)]; exact u0, by rw [Gr 1 (by omega)]; exact u1, by rw [Gr 2 (by omega)]; exact u2, by rw [Gr 3 (by omega)]; exact u3, by rw [Gr 4 (by omega)]; exact u4, by rw [Gr 5 (by omega)]; exact u5, by rw [Gr 6 (by omega)]; exact u6, by rw [Gr 7 (by omega)]; exact u7, by rw [Gr 8 (by omega)]; exact u8, by rw [Gr 9 (by omega)]; exact u9, by rw [Gr 10 (by omega)]; exact u10⟩, ?_, ?_, ?_, ?_, ?_, ?_, ?_, ?_, ?_⟩
    · exact W1.fr q1 kc.1 (Gr _ (by omega)) (fun i _ _ => Gr _ (by omega))
    · exact W2.fr q2 kc.2.1 (Gr _ (by omega)) (by rw [Gr 0 (by omega)]; exact Int32.le_refl _) (fun i _ _ => Gr _ (by omega))
    · exact W3.fr q3 kc.2.2.2.1 (Gr _ (by omega)) (by rw [Gr 0 (by omega)]; exact Int32.le_refl _) (fun i _ _ => Gr _ (by omega))
    · exact W4.fr q4 kc.2.2.2.2.1 (Gr _ (by omega)) (by rw [Gr 3 (by omega)]; exact Int32.le_refl _) (fun i _ _ => Gr _ (by omega))
    · exact W5.fr q5 kc.2.2.2.2.2.1 (Gr _ (by omega)) (by rw [Gr 4 (by omega)]; exact Int32.le_refl _) (fun i _ _ => Gr _ (by omega))
    · exact W6.fr q6 kc.2.2.2.2.2.2.2.1 (Gr _ (by omega)) (by rw [Gr 3 (by omega)]; exact Int32.le_refl _) (fun i _ _ => Gr _ (by omega))
    · exact W7.fr q7 kc.2.2.2.2.2.2.1 (Gr _ (by omega)) (by rw [Gr 4 (by omega)]; exact Int32.le_refl _) (fun i _ _ => Gr _ (by omega))
    · intro k hk
      by_cases e : k = m
      · subst e
        exact Or.inr R0
      · rw [Gr _ (by omega)]
        exact q8 k hk
    · exact W9.fr q9 kc.2.2.1 (Gr _ (by omega)) (fun i _ _ => Gr _ (by omega))
theorem RelT.booth (hR : RelT ow x w σ) {n : Nat} {p0 : Int32} (hn : cn (gI σ 1) 3 = n) (h4 : n < 20) (h1 : 0 ≤ p0) (h2 : p0 < gI σ 1 0) : RelT ow x (siI (siI (siI w (x + 22) n p0) (x + 26) n (-1)) (x + 1) 23 (Int32.ofNat (n + 1))) (sI (sI (sI σ 1 (2348 + n) p0) 1 (2368 + 4 * n) 0) 1 3 (Int32.ofNat (n + 1))) := by
  have hW := hR.2.2.2.2.1
  obtain ⟨t1, t2, t3, t4, t5, t6, t7, t8, t9⟩ := hR.2.2.2.1
  have kc := hW.c1
  obtain ⟨⟨u0, u1, u2, u3, u4, u5, u6, u7, u8, u9, u10⟩, q1, q2, q3, q4, q5, q6, q7, q8, q9⟩ := hW
  have hs : Si w (siI (siI (siI w (x + 22) n p0) (x + 26) n (-1)) (x + 1) 23 (Int32.ofNat (n + 1))) := ⟨rfl, rfl, rfl⟩
  have G : ∀ q i, (¬ (q = x + 22 ∧ i = n) ∧ ¬ (q = x + 26 ∧ i = n) ∧ ¬ (q = x + 1 ∧ i = 23)) → hvi (siI (siI (siI w (x + 22) n p0) (x + 26) n (-1)) (x + 1) 23 (Int32.ofNat (n + 1))) q i = hvi w q i := by
    intro q i h
    obtain ⟨g0, g1, g2⟩ := h
    skip
    rw [vi_I, if_neg g2, vi_I, if_neg g1, vi_I, if_neg g0]
  have GL : ∀ q i, (True) → hvl (siI (siI (siI w (x + 22) n p0) (x + 26) n (-1)) (x + 1) 23 (Int32.ofNat (n + 1))) q i = hvl w q i := by
    intro q i h
    skip
    rfl
  have Gr : ∀ i, (i ≠ (2348 + n) ∧ i ≠ (2368 + 4 * n) ∧ i ≠ 3) → gI (sI (sI (sI σ 1 (2348 + n) p0) 1 (2368 + 4 * n) 0) 1 3 (Int32.ofNat (n + 1))) 1 i = gI σ 1 i := by
    intro i h
    obtain ⟨g0, g1, g2⟩ := h
    rw [rowS_ne g2, rowS_ne g1, rowS_ne g0]
  have G0 : hvi (siI (siI (siI w (x + 22) n p0) (x + 26) n (-1)) (x + 1) 23 (Int32.ofNat (n + 1))) (x + 22) n = p0 := by
    skip
    rw [vi_I, if_neg (by omega), vi_I, if_neg (by omega), vi_I, if_pos ⟨rfl, rfl⟩]
  have G1 : hvi (siI (siI (siI w (x + 22) n p0) (x + 26) n (-1)) (x + 1) 23 (Int32.ofNat (n + 1))) (x + 26) n = (-1) := by
    skip
    rw [vi_I, if_neg (by omega), vi_I, if_pos ⟨rfl, rfl⟩]
  have G2 : hvi (siI (siI (siI w (x + 22) n p0) (x + 26) n (-1)) (x + 1) 23 (Int32.ofNat (n + 1))) (x + 1) 23 = (Int32.ofNat (n + 1)) := by
    skip
    rw [vi_I, if_pos ⟨rfl, rfl⟩]
  have R0 : gI (sI (sI (sI σ 1 (2348 + n) p0) 1 (2368 + 4 * n) 0) 1 3 (Int32.ofNat (n + 1))) 1 ((2348 + n)) = p0 := by
    rw [rowS_ne (by omega), rowS_ne (by omega), rowS_eq]
  have R1 : gI (sI (sI (sI σ 1 (2348 + n) p0) 1 (2368 + 4 * n) 0) 1 3 (Int32.ofNat (n + 1))) 1 ((2368 + 4 * n)) = 0 := by
    rw [rowS_ne (by omega), rowS_eq]
  have R2 : gI (sI (sI (sI σ 1 (2348 + n) p0) 1 (2368 + 4 * n) 0) 1 3 (Int32.ofNat (n + 1))) 1 (3) = (Int32.ofNat (n + 1)) := by
    rw [rowS_eq]
  have hz : ∀ q i, ow q = 1 → hvi (siI (siI (siI w (x + 22) n p0) (x + 26) n (-1)) (x + 1) 23 (Int32.ofNat (n + 1))) q i = hvi w q i := fun q i hq => by
    have := hR.2.1.ne hq
    exact G q i (by omega)
  refine hR.now hs (fun q i hq => G q i (by omega)) (fun q i hq => GL q i (by first | exact trivial | omega)) (fun j i hj _ => ?_) ?_ ?_
  · rw [gI_sI, if_neg (by omega), gI_sI, if_neg (by omega), gI_sI, if_neg (by omega)]
  · generalize hw' : siI (siI (siI w (x + 22) n p0) (x + 26) n (-1)) (x + 1) 23 (Int32.ofNat (n + 1)) = w' at *
    generalize hT' : gI (sI (sI (sI σ 1 (2348 + n) p0) 1 (2368 + 4 * n) 0) 1 3 (Int32.ofNat (n + 1))) 1 = T' at *
    refine ⟨hs.tlay t1, ?_, ?_, ?_, ?_, ?_, ?_, ?_, ?_⟩
    · exact t2.fr kc.1 (G _ _ (by omega)) (fun i => G _ _ (by omega)) (fun i => G _ _ (by omega)) (fun i => G _ _ (by omega)) (Gr _ (by omega)) (fun i _ _ => Gr _ (by omega))
    · exact t3.fr kc.2.1 (fun j i _ _ => G _ _ (by omega)) (Gr _ (by omega)) (fun i _ _ => Gr _ (by omega))
    · refine ⟨G2.trans R2.symm, fun p hp => ?_⟩
      have hp' : p < n + 1 := by unfold cn at hp; rw [R2, i_nat (by omega)] at hp; exact hp
      by_cases e : p = n
      · subst e
        exact ⟨G0.trans R0.symm, Or.inl ⟨R1, G1⟩⟩
      · rw [G (x + 1 + 21) p (by omega), G (x + 1 + 25) p (by omega), GL (x + 1 + 26) p (by first | exact trivial | omega), GL (x + 1 + 27) p (by first | exact trivial | omega), Gr (2348 + p) (by omega), Gr (2368 + 4 * p) (by omega), Gr (2369 + 4 * p) (by omega), Gr (2370 + 4 * p) (by omega), Gr (2371 + 4 * p) (by omega)]
        exact t4.2 p (by omega)
    · exact t5.fr kc.2.2.2.2.1 (G _ _ (by omega)) (fun i => G _ _ (by omega)) (fun i => G _ _ (by omega)) (Gr _ (by omega)) (fun i _ _ => Gr _ (by omega))
    · exact t6.fr kc.2.2.2.2.2.2.1 (fun i => G _ _ (by omega)) (Gr _ (by omega)) (fun i _ _ => Gr _ (by omega))
    · exact t7.fr (fun i => G _ _ (by omega)) (fun i _ _ => Gr _ (by omega))
    · exact t8.fr (G _ _ (by omega)) (G _ _ (by omega)) (Gr _ (by omega)) (Gr _ (by omega))
    · exact hs.tls t9 hR.2.2.2.2.1 (fun j _ _ => G _ _ (by omega)) hz (Gr _ (by omega)) (Gr _ (by omega)) (Gr _ (by omega)) (Gr _ (by omega)) (Gr _ (by omega)) (Gr _ (by omega)) (fun n _ => ⟨Gr _ (by omega), Gr _ (by omega), Gr _ (by omega), Gr _ (by omega), Gr _ (by omega), Gr _ (by omega)⟩) (fun i _ _ => Gr _ (by omega)) (fun i _ _ => Gr _ (by omega)) (fun c _ => ⟨Gr _ (by omega), Gr _ (by omega), Gr _ (by omega), Gr _ (by omega)⟩) (fun i _ _ => Gr _ (by omega)) (fun i _ _ => Gr _ (by omega))
  · generalize hT' : gI (sI (sI (sI σ 1 (2348 + n) p0) 1 (2368 + 4 * n) 0) 1 3 (Int32.ofNat (n + 1))) 1 = T' at *
    refine ⟨⟨by rw [Gr 0 (by omega)]; exact u0, by rw [Gr 1 (by omega)]; exact u1, by rw [Gr 2 (by omega)]; exact u2, by rw [R2]; exact ⟨i_pos (by omega), (i_le (b := 20) (by omega) (by decide)).mpr (by omega)⟩, by rw [Gr 4 (by omega)]; exact u4, by rw [Gr 5 (by omega)]; exact u5, by rw [Gr 6 (by omega)]; exact u6, by rw [Gr 7 (by omega)]; exact u7, by rw [Gr 8 (by omega)]; exact u8, by rw [Gr 9 (by omega)]; exact u9, by rw [Gr 10 (by omega)]; exact u10⟩, ?_, ?_, ?_, ?_, ?_, ?_, ?_, ?_, ?_⟩
    · exact W1.fr q1 kc.1 (Gr _ (by omega)) (fun i _ _ => Gr _ (by omega))
    · exact W2.fr q2 kc.2.1 (Gr _ (by omega)) (by rw [Gr 0 (by omega)]; exact Int32.le_refl _) (fun i _ _ => Gr _ (by omega))
    · intro p hp
      have hp' : p < n + 1 := by unfold cn at hp; rw [R2, i_nat (by omega)] at hp; exact hp
      by_cases e : p = n
      · subst e
        rw [R0, Gr 0 (by omega)]
        exact ⟨h1, h2⟩
      · rw [Gr (2348 + p) (by omega), Gr 0 (by omega)]
        exact q3 p (by omega)
    · exact W4.fr q4 kc.2.2.2.2.1 (Gr _ (by omega)) (by rw [R2, hR.2.2.2.2.1.c2.2.2.2.1, hn, i_le (by omega) (by omega)]; omega) (fun i _ _ => Gr _ (by omega))
    · exact W5.fr q5 kc.2.2.2.2.2.1 (Gr _ (by omega)) (by rw [Gr 4 (by omega)]; exact Int32.le_refl _) (fun i _ _ => Gr _ (by omega))
    · exact W6.fr q6 kc.2.2.2.2.2.2.2.1 (Gr _ (by omega)) (by rw [R2, hR.2.2.2.2.1.c2.2.2.2.1, hn, i_le (by omega) (by omega)]; omega) (fun i _ _ => Gr _ (by omega))
    · exact W7.fr q7 kc.2.2.2.2.2.2.1 (Gr _ (by omega)) (by rw [Gr 4 (by omega)]; exact Int32.le_refl _) (fun i _ _ => Gr _ (by omega))
    · exact W8.fr q8 (fun i _ _ => Gr _ (by omega))
    · exact W9.fr q9 kc.2.2.1 (Gr _ (by omega)) (fun i _ _ => Gr _ (by omega))
theorem RelT.box (hR : RelT ow x w σ) {n : Nat} {b s : Int32} (hn : cn (gI σ 1) 4 = n) (h4 : n < 40) (h1 : 0 ≤ b) (h2 : b < gI σ 1 3) : RelT ow x (siI (siI (siI w (x + 23) n b) (x + 24) n s) (x + 1) 24 (Int32.ofNat (n + 1))) (sI (sI (sI σ 1 (2448 + 2 * n) b) 1 (2449 + 2 * n) s) 1 4 (Int32.ofNat (n + 1))) := by
  have hW := hR.2.2.2.2.1
  obtain ⟨t1, t2, t3, t4, t5, t6, t7, t8, t9⟩ := hR.2.2.2.1
  have kc := hW.c1
  obtain ⟨⟨u0, u1, u2, u3, u4, u5, u6, u7, u8, u9, u10⟩, q1, q2, q3, q4, q5, q6, q7, q8, q9⟩ := hW
  have hs : Si w (siI (siI (siI w (x + 23) n b) (x + 24) n s) (x + 1) 24 (Int32.ofNat (n + 1))) := ⟨rfl, rfl, rfl⟩
  have G : ∀ q i, (¬ (q = x + 23 ∧ i = n) ∧ ¬ (q = x + 24 ∧ i = n) ∧ ¬ (q = x + 1 ∧ i = 24)) → hvi (siI (siI (siI w (x + 23) n b) (x + 24) n s) (x + 1) 24 (Int32.ofNat (n + 1))) q i = hvi w q i := by
    intro q i h
    obtain ⟨g0, g1, g2⟩ := h
    skip
    rw [vi_I, if_neg g2, vi_I, if_neg g1, vi_I, if_neg g0]
  have GL : ∀ q i, (True) → hvl (siI (siI (siI w (x + 23) n b) (x + 24) n s) (x + 1) 24 (Int32.ofNat (n + 1))) q i = hvl w q i := by
    intro q i h
    skip
    rfl
  have Gr : ∀ i, (i ≠ (2448 + 2 * n) ∧ i ≠ (2449 + 2 * n) ∧ i ≠ 4) → gI (sI (sI (sI σ 1 (2448 + 2 * n) b) 1 (2449 + 2 * n) s) 1 4 (Int32.ofNat (n + 1))) 1 i = gI σ 1 i := by
    intro i h
    obtain ⟨g0, g1, g2⟩ := h
    rw [rowS_ne g2, rowS_ne g1, rowS_ne g0]
  have G0 : hvi (siI (siI (siI w (x + 23) n b) (x + 24) n s) (x + 1) 24 (Int32.ofNat (n + 1))) (x + 23) n = b := by
    skip
    rw [vi_I, if_neg (by omega), vi_I, if_neg (by omega), vi_I, if_pos ⟨rfl, rfl⟩]
  have G1 : hvi (siI (siI (siI w (x + 23) n b) (x + 24) n s) (x + 1) 24 (Int32.ofNat (n + 1))) (x + 24) n = s := by
    skip
    rw [vi_I, if_neg (by omega), vi_I, if_pos ⟨rfl, rfl⟩]
  have G2 : hvi (siI (siI (siI w (x + 23) n b) (x + 24) n s) (x + 1) 24 (Int32.ofNat (n + 1))) (x + 1) 24 = (Int32.ofNat (n + 1)) := by
    skip
    rw [vi_I, if_pos ⟨rfl, rfl⟩]
  have R0 : gI (sI (sI (sI σ 1 (2448 + 2 * n) b) 1 (2449 + 2 * n) s) 1 4 (Int32.ofNat (n + 1))) 1 ((2448 + 2 * n)) = b := by
    rw [rowS_ne (by omega), rowS_ne (by omega), rowS_eq]
  have R1 : gI (sI (sI (sI σ 1 (2448 + 2 * n) b) 1 (2449 + 2 * n) s) 1 4 (Int32.ofNat (n + 1))) 1 ((2449 + 2 * n)) = s := by
    rw [rowS_ne (by omega), rowS_eq]
  have R2 : gI (sI (sI (sI σ 1 (2448 + 2 * n) b) 1 (2449 + 2 * n) s) 1 4 (Int32.ofNat (n + 1))) 1 (4) = (Int32.ofNat (n + 1)) := by
    rw [rowS_eq]
  have hz : ∀ q i, ow q = 1 → hvi (siI (siI (siI w (x + 23) n b) (x + 24) n s) (x + 1) 24 (Int32.ofNat (n + 1))) q i = hvi w q i := fun q i hq => by
    have := hR.2.1.ne hq
    exact G q i (by omega)
  refine hR.now hs (fun q i hq => G q i (by omega)) (fun q i hq => GL q i (by first | exact trivial | omega)) (fun j i hj _ => ?_) ?_ ?_
  · rw [gI_sI, if_neg (by omega), gI_sI, if_neg (by omega), gI_sI, if_neg (by omega)]
  · generalize hw' : siI (siI (siI w (x + 23) n b) (x + 24) n s) (x + 1) 24 (Int32.ofNat (n + 1)) = w' at *
    generalize hT' : gI (sI (sI (sI σ 1 (2448 + 2 * n) b) 1 (2449 + 2 * n) s) 1 4 (Int32.ofNat (n + 1))) 1 = T' at *
    refine ⟨hs.tlay t1, ?_, ?_, ?_, ?_, ?_, ?_, ?_, ?_⟩
    · exact t2.fr kc.1 (G _ _ (by omega)) (fun i => G _ _ (by omega)) (fun i => G _ _ (by omega)) (fun i => G _ _ (by omega)) (Gr _ (by omega)) (fun i _ _ => Gr _ (by omega))
    · exact t3.fr kc.2.1 (fun j i _ _ => G _ _ (by omega)) (Gr _ (by omega)) (fun i _ _ => Gr _ (by omega))
    · exact t4.fr kc.2.2.2.1 (G _ _ (by omega)) (fun i => G _ _ (by omega)) (fun i => G _ _ (by omega)) (fun i => GL _ _ (by first | exact trivial | omega)) (fun i => GL _ _ (by first | exact trivial | omega)) (Gr _ (by omega)) (fun i _ _ => Gr _ (by omega))
    · refine ⟨G2.trans R2.symm, fun p hp => ?_⟩
      have hp' : p < n + 1 := by unfold cn at hp; rw [R2, i_nat (by omega)] at hp; exact hp
      by_cases e : p = n
      · subst e
        exact ⟨G0.trans R0.symm, G1.trans R1.symm⟩
      · rw [G (x + 1 + 22) p (by omega), G (x + 1 + 23) p (by omega), Gr (2448 + 2 * p) (by omega), Gr (2449 + 2 * p) (by omega)]
        exact t5.2 p (by omega)
    · exact t6.fr kc.2.2.2.2.2.2.1 (fun i => G _ _ (by omega)) (Gr _ (by omega)) (fun i _ _ => Gr _ (by omega))
    · exact t7.fr (fun i => G _ _ (by omega)) (fun i _ _ => Gr _ (by omega))
    · exact t8.fr (G _ _ (by omega)) (G _ _ (by omega)) (Gr _ (by omega)) (Gr _ (by omega))
    · exact hs.tls t9 hR.2.2.2.2.1 (fun j _ _ => G _ _ (by omega)) hz (Gr _ (by omega)) (Gr _ (by omega)) (Gr _ (by omega)) (Gr _ (by omega)) (Gr _ (by omega)) (Gr _ (by omega)) (fun n _ => ⟨Gr _ (by omega), Gr _ (by omega), Gr _ (by omega), Gr _ (by omega), Gr _ (by omega), Gr _ (by omega)⟩) (fun i _ _ => Gr _ (by omega)) (fun i _ _ => Gr _ (by omega)) (fun c _ => ⟨Gr _ (by omega), Gr _ (by omega), Gr _ (by omega), Gr _ (by omega)⟩) (fun i _ _ => Gr _ (by omega)) (fun i _ _ => Gr _ (by omega))
  · generalize hT' : gI (sI (sI (sI σ 1 (2448 + 2 * n) b) 1 (2449 + 2 * n) s) 1 4 (Int32.ofNat (n + 1))) 1 = T' at *
    refine ⟨⟨by rw [Gr 0 (by omega)]; exact u0, by rw [Gr 1 (by omega)]; exact u1, by rw [Gr 2 (by omega)]; exact u2, by rw [Gr 3 (by omega)]; exact u3, by rw [R2]; exact ⟨i_pos (by omega), (i_le (b := 40) (by omega) (by decide)).mpr (by omega)⟩, by rw [Gr 5 (by omega)]; exact u5, by rw [Gr 6 (by omega)]; exact u6, by rw [Gr 7 (by omega)]; exact u7, by rw [Gr 8 (by omega)]; exact u8, by rw [Gr 9 (by omega)]; exact u9, by rw [Gr 10 (by omega)]; exact u10⟩, ?_, ?_, ?_, ?_, ?_, ?_, ?_, ?_, ?_⟩
    · exact W1.fr q1 kc.1 (Gr _ (by omega)) (fun i _ _ => Gr _ (by omega))
    · exact W2.fr q2 kc.2.1 (Gr _ (by omega)) (by rw [Gr 0 (by omega)]; exact Int32.le_refl _) (fun i _ _ => Gr _ (by omega))
    · exact W3.fr q3 kc.2.2.2.1 (Gr _ (by omega)) (by rw [Gr 0 (by omega)]; exact Int32.le_refl _) (fun i _ _ => Gr _ (by omega))
    · intro p hp
      have hp' : p < n + 1 := by unfold cn at hp; rw [R2, i_nat (by omega)] at hp; exact hp
      by_cases e : p = n
      · subst e
        rw [R0, Gr 3 (by omega)]
        exact ⟨h1, h2⟩
      · rw [Gr (2448 + 2 * p) (by omega), Gr 3 (by omega)]
        exact q4 p (by omega)
    · exact W5.fr q5 kc.2.2.2.2.2.1 (Gr _ (by omega)) (by rw [R2, hR.2.2.2.2.1.c2.2.2.2.2.1, hn, i_le (by omega) (by omega)]; omega) (fun i _ _ => Gr _ (by omega))
    · exact W6.fr q6 kc.2.2.2.2.2.2.2.1 (Gr _ (by omega)) (by rw [Gr 3 (by omega)]; exact Int32.le_refl _) (fun i _ _ => Gr _ (by omega))
    · exact W7.fr q7 kc.2.2.2.2.2.2.1 (Gr _ (by omega)) (by rw [R2, hR.2.2.2.2.1.c2.2.2.2.2.1, hn, i_le (by omega) (by omega)]; omega) (fun i _ _ => Gr _ (by omega))
    · exact W8.fr q8 (fun i _ _ => Gr _ (by omega))
    · exact W9.fr q9 kc.2.2.1 (Gr _ (by omega)) (fun i _ _ => Gr _ (by omega))
theorem RelT.off (hR : RelT ow x w σ) {n : Nat} {d k : Int32} (hn : n < cn (gI σ 1) 1) (h1 : rg d 0 399) : RelT ow x (siI (siI w (x + 17) n d) (x + 18) n k) (sI (sI σ 1 (74 + 11 * n) d) 1 (75 + 11 * n) k) := by
  have hW := hR.2.2.2.2.1
  obtain ⟨t1, t2, t3, t4, t5, t6, t7, t8, t9⟩ := hR.2.2.2.1
  have kc := hW.c1
  obtain ⟨⟨u0, u1, u2, u3, u4, u5, u6, u7, u8, u9, u10⟩, q1, q2, q3, q4, q5, q6, q7, q8, q9⟩ := hW
  have hs : Si w (siI (siI w (x + 17) n d) (x + 18) n k) := ⟨rfl, rfl, rfl⟩
  have G : ∀ q i, (¬ (q = x + 17 ∧ i = n) ∧ ¬ (q = x + 18 ∧ i = n)) → hvi (siI (siI w (x + 17) n d) (x + 18) n k) q i = hvi w q i := by
    intro q i h
    obtain ⟨g0, g1⟩ := h
    skip
    rw [vi_I, if_neg g1, vi_I, if_neg g0]
  have GL : ∀ q i, (True) → hvl (siI (siI w (x + 17) n d) (x + 18) n k) q i = hvl w q i := by
    intro q i h
    skip
    rfl
  have Gr : ∀ i, (i ≠ (74 + 11 * n) ∧ i ≠ (75 + 11 * n)) → gI (sI (sI σ 1 (74 + 11 * n) d) 1 (75 + 11 * n) k) 1 i = gI σ 1 i := by
    intro i h
    obtain ⟨g0, g1⟩ := h
    rw [rowS_ne g1, rowS_ne g0]
  have G0 : hvi (siI (siI w (x + 17) n d) (x + 18) n k) (x + 17) n = d := by
    skip
    rw [vi_I, if_neg (by omega), vi_I, if_pos ⟨rfl, rfl⟩]
  have G1 : hvi (siI (siI w (x + 17) n d) (x + 18) n k) (x + 18) n = k := by
    skip
    rw [vi_I, if_pos ⟨rfl, rfl⟩]
  have R0 : gI (sI (sI σ 1 (74 + 11 * n) d) 1 (75 + 11 * n) k) 1 ((74 + 11 * n)) = d := by
    rw [rowS_ne (by omega), rowS_eq]
  have R1 : gI (sI (sI σ 1 (74 + 11 * n) d) 1 (75 + 11 * n) k) 1 ((75 + 11 * n)) = k := by
    rw [rowS_eq]
  have hz : ∀ q i, ow q = 1 → hvi (siI (siI w (x + 17) n d) (x + 18) n k) q i = hvi w q i := fun q i hq => by
    have := hR.2.1.ne hq
    exact G q i (by omega)
  refine hR.now hs (fun q i hq => G q i (by omega)) (fun q i hq => GL q i (by first | exact trivial | omega)) (fun j i hj _ => ?_) ?_ ?_
  · rw [gI_sI, if_neg (by omega), gI_sI, if_neg (by omega)]
  · generalize hw' : siI (siI w (x + 17) n d) (x + 18) n k = w' at *
    generalize hT' : gI (sI (sI σ 1 (74 + 11 * n) d) 1 (75 + 11 * n) k) 1 = T' at *
    refine ⟨hs.tlay t1, ?_, ?_, ?_, ?_, ?_, ?_, ?_, ?_⟩
    · exact t2.fr kc.1 (G _ _ (by omega)) (fun i => G _ _ (by omega)) (fun i => G _ _ (by omega)) (fun i => G _ _ (by omega)) (Gr _ (by omega)) (fun i _ _ => Gr _ (by omega))
    · intro p hp
      rw [cn_eq (Gr 1 (by omega))] at hp
      by_cases e : p = n
      · subst e
        rw [G (x + 1 + 18) p (by omega), G (x + 1 + 19) p (by omega), G (x + 1 + 20) p (by omega), Gr (76 + 11 * p) (by omega), Gr (77 + 11 * p) (by omega), Gr (78 + 11 * p) (by omega)]
        exact ⟨G0.trans R0.symm, fun _ => G1.trans R1.symm, (t3 p hp).2.2.1, (t3 p hp).2.2.2⟩
      · rw [G (x + 1 + 16) p (by omega), G (x + 1 + 17) p (by omega), G (x + 1 + 18) p (by omega), G (x + 1 + 19) p (by omega), G (x + 1 + 20) p (by omega), Gr (74 + 11 * p) (by omega), Gr (75 + 11 * p) (by omega), Gr (76 + 11 * p) (by omega), Gr (77 + 11 * p) (by omega), Gr (78 + 11 * p) (by omega)]
        exact t3 p hp
    · exact t4.fr kc.2.2.2.1 (G _ _ (by omega)) (fun i => G _ _ (by omega)) (fun i => G _ _ (by omega)) (fun i => GL _ _ (by first | exact trivial | omega)) (fun i => GL _ _ (by first | exact trivial | omega)) (Gr _ (by omega)) (fun i _ _ => Gr _ (by omega))
    · exact t5.fr kc.2.2.2.2.1 (G _ _ (by omega)) (fun i => G _ _ (by omega)) (fun i => G _ _ (by omega)) (Gr _ (by omega)) (fun i _ _ => Gr _ (by omega))
    · exact t6.fr kc.2.2.2.2.2.2.1 (fun i => G _ _ (by omega)) (Gr _ (by omega)) (fun i _ _ => Gr _ (by omega))
    · exact t7.fr (fun i => G _ _ (by omega)) (fun i _ _ => Gr _ (by omega))
    · exact t8.fr (G _ _ (by omega)) (G _ _ (by omega)) (Gr _ (by omega)) (Gr _ (by omega))
    · exact hs.tls t9 hR.2.2.2.2.1 (fun j _ _ => G _ _ (by omega)) hz (Gr _ (by omega)) (Gr _ (by omega)) (Gr _ (by omega)) (Gr _ (by omega)) (Gr _ (by omega)) (Gr _ (by omega)) (fun n _ => ⟨Gr _ (by omega), Gr _ (by omega), Gr _ (by omega), Gr _ (by omega), Gr _ (by omega), Gr _ (by omega)⟩) (fun i _ _ => Gr _ (by omega)) (fun i _ _ => Gr _ (by omega)) (fun c _ => ⟨Gr _ (by omega), Gr _ (by omega), Gr _ (by omega), Gr _ (by omega)⟩) (fun i _ _ => Gr _ (by omega)) (fun i _ _ => Gr _ (by omega))
  · generalize hT' : gI (sI (sI σ 1 (74 + 11 * n) d) 1 (75 + 11 * n) k) 1 = T' at *
    refine ⟨⟨by rw [Gr 0 (by omega)]; exact u0, by rw [Gr 1 (by omega)]; exact u1, by rw [Gr 2 (by omega)]; exact u2, by rw [Gr 3 (by omega)]; exact u3, by rw [Gr 4 (by omega)]; exact u4, by rw [Gr 5 (by omega)]; exact u5, by rw [Gr 6 (by omega)]; exact u6, by rw [Gr 7 (by omega)]; exact u7, by rw [Gr 8 (by omega)]; exact u8, by rw [Gr 9 (by omega)]; exact u9, by rw [Gr 10 (by omega)]; exact u10⟩, ?_, ?_, ?_, ?_, ?_, ?_, ?_, ?_, ?_⟩
    · exact W1.fr q1 kc.1 (Gr _ (by omega)) (fun i _ _ => Gr _ (by omega))
    · intro p hp
      rw [cn_eq (Gr 1 (by omega))] at hp
      by_cases e : p = n
      · subst e
        rw [Gr (68 + 11 * p) (by omega), Gr (69 + 11 * p) (by omega), Gr (70 + 11 * p) (by omega), Gr (71 + 11 * p) (by omega), Gr (73 + 11 * p) (by omega), Gr (76 + 11 * p) (by omega), R0, Gr 0 (by omega)]
        obtain ⟨z1, z2, z3, z4, z5, z6, z7⟩ := q2 p hp
        exact ⟨z1, z2, z3, z4, z5, ⟨Int32.le_trans (by decide) h1.1, h1.2⟩, z7⟩
      · rw [Gr (68 + 11 * p) (by omega), Gr (69 + 11 * p) (by omega), Gr (70 + 11 * p) (by omega), Gr (71 + 11 * p) (by omega), Gr (73 + 11 * p) (by omega), Gr (74 + 11 * p) (by omega), Gr (76 + 11 * p) (by omega), Gr 0 (by omega)]
        exact q2 p hp
    · exact W3.fr q3 kc.2.2.2.1 (Gr _ (by omega)) (by rw [Gr 0 (by omega)]; exact Int32.le_refl _) (fun i _ _ => Gr _ (by omega))
    · exact W4.fr q4 kc.2.2.2.2.1 (Gr _ (by omega)) (by rw [Gr 3 (by omega)]; exact Int32.le_refl _) (fun i _ _ => Gr _ (by omega))
    · exact W5.fr q5 kc.2.2.2.2.2.1 (Gr _ (by omega)) (by rw [Gr 4 (by omega)]; exact Int32.le_refl _) (fun i _ _ => Gr _ (by omega))
    · exact W6.fr q6 kc.2.2.2.2.2.2.2.1 (Gr _ (by omega)) (by rw [Gr 3 (by omega)]; exact Int32.le_refl _) (fun i _ _ => Gr _ (by omega))
    · exact W7.fr q7 kc.2.2.2.2.2.2.1 (Gr _ (by omega)) (by rw [Gr 4 (by omega)]; exact Int32.le_refl _) (fun i _ _ => Gr _ (by omega))
    · exact W8.fr q8 (fun i _ _ => Gr _ (by omega))
    · exact W9.fr q9 kc.2.2.1 (Gr _ (by omega)) (fun i _ _ => Gr _ (by omega))
theorem RelT.moved (hR : RelT ow x w σ) {n : Nat} {p0 d k : Int32} (hn : n < cn (gI σ 1) 1) (h1 : 0 ≤ p0) (h2 : p0 < gI σ 1 0) : RelT ow x (siI (siI (siI w (x + 19) n p0) (x + 20) n d) (x + 21) n k) (sI (sI (sI σ 1 (76 + 11 * n) p0) 1 (77 + 11 * n) d) 1 (78 + 11 * n) k) := by
  have hW := hR.2.2.2.2.1
  obtain ⟨t1, t2, t3, t4, t5, t6, t7, t8, t9⟩ := hR.2.2.2.1
  have kc := hW.c1
  obtain ⟨⟨u0, u1, u2, u3, u4, u5, u6, u7, u8, u9, u10⟩, q1, q2, q3, q4, q5, q6, q7, q8, q9⟩ := hW
  have hs : Si w (siI (siI (siI w (x + 19) n p0) (x + 20) n d) (x + 21) n k) := ⟨rfl, rfl, rfl⟩
  have G : ∀ q i, (¬ (q = x + 19 ∧ i = n) ∧ ¬ (q = x + 20 ∧ i = n) ∧ ¬ (q = x + 21 ∧ i = n)) → hvi (siI (siI (siI w (x + 19) n p0) (x + 20) n d) (x + 21) n k) q i = hvi w q i := by
    intro q i h
    obtain ⟨g0, g1, g2⟩ := h
    skip
    rw [vi_I, if_neg g2, vi_I, if_neg g1, vi_I, if_neg g0]
  have GL : ∀ q i, (True) → hvl (siI (siI (siI w (x + 19) n p0) (x + 20) n d) (x + 21) n k) q i = hvl w q i := by
    intro q i h
    skip
    rfl
  have Gr : ∀ i, (i ≠ (76 + 11 * n) ∧ i ≠ (77 + 11 * n) ∧ i ≠ (78 + 11 * n)) → gI (sI (sI (sI σ 1 (76 + 11 * n) p0) 1 (77 + 11 * n) d) 1 (78 + 11 * n) k) 1 i = gI σ 1 i := by
    intro i h
    obtain ⟨g0, g1, g2⟩ := h
    rw [rowS_ne g2, rowS_ne g1, rowS_ne g0]
  have G0 : hvi (siI (siI (siI w (x + 19) n p0) (x + 20) n d) (x + 21) n k) (x + 19) n = p0 := by
    skip
    rw [vi_I, if_neg (by omega), vi_I, if_neg (by omega), vi_I, if_pos ⟨rfl, rfl⟩]
  have G1 : hvi (siI (siI (siI w (x + 19) n p0) (x + 20) n d) (x + 21) n k) (x + 20) n = d := by
    skip
    rw [vi_I, if_neg (by omega), vi_I, if_pos ⟨rfl, rfl⟩]
  have G2 : hvi (siI (siI (siI w (x + 19) n p0) (x + 20) n d) (x + 21) n k) (x + 21) n = k := by
    skip
    rw [vi_I, if_pos ⟨rfl, rfl⟩]
  have R0 : gI (sI (sI (sI σ 1 (76 + 11 * n) p0) 1 (77 + 11 * n) d) 1 (78 + 11 * n) k) 1 ((76 + 11 * n)) = p0 := by
    rw [rowS_ne (by omega), rowS_ne (by omega), rowS_eq]
  have R1 : gI (sI (sI (sI σ 1 (76 + 11 * n) p0) 1 (77 + 11 * n) d) 1 (78 + 11 * n) k) 1 ((77 + 11 * n)) = d := by
    rw [rowS_ne (by omega), rowS_eq]
  have R2 : gI (sI (sI (sI σ 1 (76 + 11 * n) p0) 1 (77 + 11 * n) d) 1 (78 + 11 * n) k) 1 ((78 + 11 * n)) = k := by
    rw [rowS_eq]
  have hz : ∀ q i, ow q = 1 → hvi (siI (siI (siI w (x + 19) n p0) (x + 20) n d) (x + 21) n k) q i = hvi w q i := fun q i hq => by
    have := hR.2.1.ne hq
    exact G q i (by omega)
  refine hR.now hs (fun q i hq => G q i (by omega)) (fun q i hq => GL q i (by first | exact trivial | omega)) (fun j i hj _ => ?_) ?_ ?_
  · rw [gI_sI, if_neg (by omega), gI_sI, if_neg (by omega), gI_sI, if_neg (by omega)]
  · generalize hw' : siI (siI (siI w (x + 19) n p0) (x + 20) n d) (x + 21) n k = w' at *
    generalize hT' : gI (sI (sI (sI σ 1 (76 + 11 * n) p0) 1 (77 + 11 * n) d) 1 (78 + 11 * n) k) 1 = T' at *
    refine ⟨hs.tlay t1, ?_, ?_, ?_, ?_, ?_, ?_, ?_, ?_⟩
    · exact t2.fr kc.1 (G _ _ (by omega)) (fun i => G _ _ (by omega)) (fun i => G _ _ (by omega)) (fun i => G _ _ (by omega)) (Gr _ (by omega)) (fun i _ _ => Gr _ (by omega))
    · intro p hp
      rw [cn_eq (Gr 1 (by omega))] at hp
      by_cases e : p = n
      · subst e
        rw [G (x + 1 + 16) p (by omega), G (x + 1 + 17) p (by omega), Gr (74 + 11 * p) (by omega), Gr (75 + 11 * p) (by omega)]
        exact ⟨(t3 p hp).1, (t3 p hp).2.1, G0.trans R0.symm, fun _ => ⟨G1.trans R1.symm, G2.trans R2.symm⟩⟩
      · rw [G (x + 1 + 16) p (by omega), G (x + 1 + 17) p (by omega), G (x + 1 + 18) p (by omega), G (x + 1 + 19) p (by omega), G (x + 1 + 20) p (by omega), Gr (74 + 11 * p) (by omega), Gr (75 + 11 * p) (by omega), Gr (76 + 11 * p) (by omega), Gr (77 + 11 * p) (by omega), Gr (78 + 11 * p) (by omega)]
        exact t3 p hp
    · exact t4.fr kc.2.2.2.1 (G _ _ (by omega)) (fun i => G _ _ (by omega)) (fun i => G _ _ (by omega)) (fun i => GL _ _ (by first | exact trivial | omega)) (fun i => GL _ _ (by first | exact trivial | omega)) (Gr _ (by omega)) (fun i _ _ => Gr _ (by omega))
    · exact t5.fr kc.2.2.2.2.1 (G _ _ (by omega)) (fun i => G _ _ (by omega)) (fun i => G _ _ (by omega)) (Gr _ (by omega)) (fun i _ _ => Gr _ (by omega))
    · exact t6.fr kc.2.2.2.2.2.2.1 (fun i => G _ _ (by omega)) (Gr _ (by omega)) (fun i _ _ => Gr _ (by omega))
    · exact t7.fr (fun i => G _ _ (by omega)) (fun i _ _ => Gr _ (by omega))
    · exact t8.fr (G _ _ (by omega)) (G _ _ (by omega)) (Gr _ (by omega)) (Gr _ (by omega))
    · exact hs.tls t9 hR.2.2.2.2.1 (fun j _ _ => G _ _ (by omega)) hz (Gr _ (by omega)) (Gr _ (by omega)) (Gr _ (by omega)) (Gr _ (by omega)) (Gr _ (by omega)) (Gr _ (by omega)) (fun n _ => ⟨Gr _ (by omega), Gr _ (by omega), Gr _ (by omega), Gr _ (by omega), Gr _ (by omega), Gr _ (by omega)⟩) (fun i _ _ => Gr _ (by omega)) (fun i _ _ => Gr _ (by omega)) (fun c _ => ⟨Gr _ (by omega), Gr _ (by omega), Gr _ (by omega), Gr _ (by omega)⟩) (fun i _ _ => Gr _ (by omega)) (fun i _ _ => Gr _ (by omega))
  · generalize hT' : gI (sI (sI (sI σ 1 (76 + 11 * n) p0) 1 (77 + 11 * n) d) 1 (78 + 11 * n) k) 1 = T' at *
    refine ⟨⟨by rw [Gr 0 (by omega)]; exact u0, by rw [Gr 1 (by omega)]; exact u1, by rw [Gr 2 (by omega)]; exact u2, by rw [Gr 3 (by omega)]; exact u3, by rw [Gr 4 (by omega)]; exact u4, by rw [Gr 5 (by omega)]; exact u5, by rw [Gr 6 (by omega)]; exact u6, by rw [Gr 7 (by omega)]; exact u7, by rw [Gr 8 (by omega)]; exact u8, by rw [Gr 9 (by omega)]; exact u9, by rw [Gr 10 (by omega)]; exact u10⟩, ?_, ?_, ?_, ?_, ?_, ?_, ?_, ?_, ?_⟩
    · exact W1.fr q1 kc.1 (Gr _ (by omega)) (fun i _ _ => Gr _ (by omega))
    · intro p hp
      rw [cn_eq (Gr 1 (by omega))] at hp
      by_cases e : p = n
      · subst e
        rw [Gr (68 + 11 * p) (by omega), Gr (69 + 11 * p) (by omega), Gr (70 + 11 * p) (by omega), Gr (71 + 11 * p) (by omega), Gr (73 + 11 * p) (by omega), Gr (74 + 11 * p) (by omega), R0, Gr 0 (by omega)]
        obtain ⟨z1, z2, z3, z4, z5, z6, z7⟩ := q2 p hp
        exact ⟨z1, z2, z3, z4, z5, z6, Or.inr ⟨h1, h2⟩⟩
      · rw [Gr (68 + 11 * p) (by omega), Gr (69 + 11 * p) (by omega), Gr (70 + 11 * p) (by omega), Gr (71 + 11 * p) (by omega), Gr (73 + 11 * p) (by omega), Gr (74 + 11 * p) (by omega), Gr (76 + 11 * p) (by omega), Gr 0 (by omega)]
        exact q2 p hp
    · exact W3.fr q3 kc.2.2.2.1 (Gr _ (by omega)) (by rw [Gr 0 (by omega)]; exact Int32.le_refl _) (fun i _ _ => Gr _ (by omega))
    · exact W4.fr q4 kc.2.2.2.2.1 (Gr _ (by omega)) (by rw [Gr 3 (by omega)]; exact Int32.le_refl _) (fun i _ _ => Gr _ (by omega))
    · exact W5.fr q5 kc.2.2.2.2.2.1 (Gr _ (by omega)) (by rw [Gr 4 (by omega)]; exact Int32.le_refl _) (fun i _ _ => Gr _ (by omega))
    · exact W6.fr q6 kc.2.2.2.2.2.2.2.1 (Gr _ (by omega)) (by rw [Gr 3 (by omega)]; exact Int32.le_refl _) (fun i _ _ => Gr _ (by omega))
    · exact W7.fr q7 kc.2.2.2.2.2.2.1 (Gr _ (by omega)) (by rw [Gr 4 (by omega)]; exact Int32.le_refl _) (fun i _ _ => Gr _ (by omega))
    · exact W8.fr q8 (fun i _ _ => Gr _ (by omega))
    · exact W9.fr q9 kc.2.2.1 (Gr _ (by omega)) (fun i _ _ => Gr _ (by omega))
theorem RelT.alter (hR : RelT ow x w σ) {c : Nat} {v : Int32} (hn : c < cn (gI σ 1) 6) (h1 : rg v 0 16383) : RelT ow x (siI w (x + 25) c v) (sI σ 1 (4011 + 5 * c) v) := by
  have hW := hR.2.2.2.2.1
  obtain ⟨t1, t2, t3, t4, t5, t6, t7, t8, t9⟩ := hR.2.2.2.1
  have kc := hW.c1
  obtain ⟨⟨u0, u1, u2, u3, u4, u5, u6, u7, u8, u9, u10⟩, q1, q2, q3, q4, q5, q6, q7, q8, q9⟩ := hW
  have hs : Si w (siI w (x + 25) c v) := ⟨rfl, rfl, rfl⟩
  have G : ∀ q i, (¬ (q = x + 25 ∧ i = c)) → hvi (siI w (x + 25) c v) q i = hvi w q i := by
    intro q i h
    have g0 := h
    skip
    rw [vi_I, if_neg g0]
  have GL : ∀ q i, (True) → hvl (siI w (x + 25) c v) q i = hvl w q i := by
    intro q i h
    skip
    rfl
  have Gr : ∀ i, (i ≠ (4011 + 5 * c)) → gI (sI σ 1 (4011 + 5 * c) v) 1 i = gI σ 1 i := by
    intro i h
    have g0 := h
    rw [rowS_ne g0]
  have G0 : hvi (siI w (x + 25) c v) (x + 25) c = v := by
    skip
    rw [vi_I, if_pos ⟨rfl, rfl⟩]
  have R0 : gI (sI σ 1 (4011 + 5 * c) v) 1 ((4011 + 5 * c)) = v := by
    rw [rowS_eq]
  have hz : ∀ q i, ow q = 1 → hvi (siI w (x + 25) c v) q i = hvi w q i := fun q i hq => by
    have := hR.2.1.ne hq
    exact G q i (by omega)
  refine hR.now hs (fun q i hq => G q i (by omega)) (fun q i hq => GL q i (by first | exact trivial | omega)) (fun j i hj _ => ?_) ?_ ?_
  · rw [gI_sI, if_neg (by omega)]
  · generalize hw' : siI w (x + 25) c v = w' at *
    generalize hT' : gI (sI σ 1 (4011 + 5 * c) v) 1 = T' at *
    refine ⟨hs.tlay t1, ?_, ?_, ?_, ?_, ?_, ?_, ?_, ?_⟩
    · exact t2.fr kc.1 (G _ _ (by omega)) (fun i => G _ _ (by omega)) (fun i => G _ _ (by omega)) (fun i => G _ _ (by omega)) (Gr _ (by omega)) (fun i _ _ => Gr _ (by omega))
    · exact t3.fr kc.2.1 (fun j i _ _ => G _ _ (by omega)) (Gr _ (by omega)) (fun i _ _ => Gr _ (by omega))
    · exact t4.fr kc.2.2.2.1 (G _ _ (by omega)) (fun i => G _ _ (by omega)) (fun i => G _ _ (by omega)) (fun i => GL _ _ (by first | exact trivial | omega)) (fun i => GL _ _ (by first | exact trivial | omega)) (Gr _ (by omega)) (fun i _ _ => Gr _ (by omega))
    · exact t5.fr kc.2.2.2.2.1 (G _ _ (by omega)) (fun i => G _ _ (by omega)) (fun i => G _ _ (by omega)) (Gr _ (by omega)) (fun i _ _ => Gr _ (by omega))
    · intro p hp
      rw [cn_eq (Gr 6 (by omega))] at hp
      by_cases e : p = c
      · subst e
        exact G0.trans R0.symm
      · rw [G _ _ (by omega), Gr _ (by omega)]
        exact t6 p hp
    · exact t7.fr (fun i => G _ _ (by omega)) (fun i _ _ => Gr _ (by omega))
    · exact t8.fr (G _ _ (by omega)) (G _ _ (by omega)) (Gr _ (by omega)) (Gr _ (by omega))
    · exact hs.tls t9 hR.2.2.2.2.1 (fun j _ _ => G _ _ (by omega)) hz (Gr _ (by omega)) (Gr _ (by omega)) (Gr _ (by omega)) (Gr _ (by omega)) (Gr _ (by omega)) (Gr _ (by omega)) (fun n _ => ⟨Gr _ (by omega), Gr _ (by omega), Gr _ (by omega), Gr _ (by omega), Gr _ (by omega), Gr _ (by omega)⟩) (fun i _ _ => Gr _ (by omega)) (fun i _ _ => Gr _ (by omega)) (fun c _ => ⟨Gr _ (by omega), Gr _ (by omega), Gr _ (by omega), Gr _ (by omega)⟩) (fun i _ _ => Gr _ (by omega)) (fun i _ _ => Gr _ (by omega))
  · generalize hT' : gI (sI σ 1 (4011 + 5 * c) v) 1 = T' at *
    refine ⟨⟨by rw [Gr 0 (by omega)]; exact u0, by rw [Gr 1 (by omega)]; exact u1, by rw [Gr 2 (by omega)]; exact u2, by rw [Gr 3 (by omega)]; exact u3, by rw [Gr 4 (by omega)]; exact u4, by rw [Gr 5 (by omega)]; exact u5, by rw [Gr 6 (by omega)]; exact u6, by rw [Gr 7 (by omega)]; exact u7, by rw [Gr 8 (by omega)]; exact u8, by rw [Gr 9 (by omega)]; exact u9, by rw [Gr 10 (by omega)]; exact u10⟩, ?_, ?_, ?_, ?_, ?_, ?_, ?_, ?_, ?_⟩
    · exact W1.fr q1 kc.1 (Gr _ (by omega)) (fun i _ _ => Gr _ (by omega))
    · exact W2.fr q2 kc.2.1 (Gr _ (by omega)) (by rw [Gr 0 (by omega)]; exact Int32.le_refl _) (fun i _ _ => Gr _ (by omega))
    · exact W3.fr q3 kc.2.2.2.1 (Gr _ (by omega)) (by rw [Gr 0 (by omega)]; exact Int32.le_refl _) (fun i _ _ => Gr _ (by omega))
    · exact W4.fr q4 kc.2.2.2.2.1 (Gr _ (by omega)) (by rw [Gr 3 (by omega)]; exact Int32.le_refl _) (fun i _ _ => Gr _ (by omega))
    · exact W5.fr q5 kc.2.2.2.2.2.1 (Gr _ (by omega)) (by rw [Gr 4 (by omega)]; exact Int32.le_refl _) (fun i _ _ => Gr _ (by omega))
    · exact W6.fr q6 kc.2.2.2.2.2.2.2.1 (Gr _ (by omega)) (by rw [Gr 3 (by omega)]; exact Int32.le_refl _) (fun i _ _ => Gr _ (by omega))
    · intro p hp
      rw [cn_eq (Gr 6 (by omega))] at hp
      by_cases e : p = c
      · subst e
        rw [Gr (4008 + 5 * p) (by omega), Gr (4009 + 5 * p) (by omega), Gr (4010 + 5 * p) (by omega), Gr (4012 + 5 * p) (by omega), R0, Gr 4 (by omega)]
        obtain ⟨z1, z2, z3, z4, z5⟩ := q7 p hp
        exact ⟨z1, z2, z3, h1, z5⟩
      · rw [Gr (4008 + 5 * p) (by omega), Gr (4009 + 5 * p) (by omega), Gr (4010 + 5 * p) (by omega), Gr (4011 + 5 * p) (by omega), Gr (4012 + 5 * p) (by omega), Gr 4 (by omega)]
        exact q7 p hp
    · exact W8.fr q8 (fun i _ _ => Gr _ (by omega))
    · exact W9.fr q9 kc.2.2.1 (Gr _ (by omega)) (fun i _ _ => Gr _ (by omega))
theorem RelT.terms (hR : RelT ow x w σ) {a b : Int32} (h1 : rg a 1 50) (h2 : rg b 0 9) : RelT ow x (siI (siI w (x + 1) 25 a) (x + 1) 26 b) (sI (sI σ 1 9 a) 1 10 b) := by
  have hW := hR.2.2.2.2.1
  obtain ⟨t1, t2, t3, t4, t5, t6, t7, t8, t9⟩ := hR.2.2.2.1
  have kc := hW.c1
  obtain ⟨⟨u0, u1, u2, u3, u4, u5, u6, u7, u8, u9, u10⟩, q1, q2, q3, q4, q5, q6, q7, q8, q9⟩ := hW
  have hs : Si w (siI (siI w (x + 1) 25 a) (x + 1) 26 b) := ⟨rfl, rfl, rfl⟩
  have G : ∀ q i, (¬ (q = x + 1 ∧ i = 25) ∧ ¬ (q = x + 1 ∧ i = 26)) → hvi (siI (siI w (x + 1) 25 a) (x + 1) 26 b) q i = hvi w q i := by
    intro q i h
    obtain ⟨g0, g1⟩ := h
    skip
    rw [vi_I, if_neg g1, vi_I, if_neg g0]
  have GL : ∀ q i, (True) → hvl (siI (siI w (x + 1) 25 a) (x + 1) 26 b) q i = hvl w q i := by
    intro q i h
    skip
    rfl
  have Gr : ∀ i, (i ≠ 9 ∧ i ≠ 10) → gI (sI (sI σ 1 9 a) 1 10 b) 1 i = gI σ 1 i := by
    intro i h
    obtain ⟨g0, g1⟩ := h
    rw [rowS_ne g1, rowS_ne g0]
  have G0 : hvi (siI (siI w (x + 1) 25 a) (x + 1) 26 b) (x + 1) 25 = a := by
    skip
    rw [vi_I, if_neg (by omega), vi_I, if_pos ⟨rfl, rfl⟩]
  have G1 : hvi (siI (siI w (x + 1) 25 a) (x + 1) 26 b) (x + 1) 26 = b := by
    skip
    rw [vi_I, if_pos ⟨rfl, rfl⟩]
  have R0 : gI (sI (sI σ 1 9 a) 1 10 b) 1 (9) = a := by
    rw [rowS_ne (by omega), rowS_eq]
  have R1 : gI (sI (sI σ 1 9 a) 1 10 b) 1 (10) = b := by
    rw [rowS_eq]
  have hz : ∀ q i, ow q = 1 → hvi (siI (siI w (x + 1) 25 a) (x + 1) 26 b) q i = hvi w q i := fun q i hq => by
    have := hR.2.1.ne hq
    exact G q i (by omega)
  refine hR.now hs (fun q i hq => G q i (by omega)) (fun q i hq => GL q i (by first | exact trivial | omega)) (fun j i hj _ => ?_) ?_ ?_
  · rw [gI_sI, if_neg (by omega), gI_sI, if_neg (by omega)]
  · generalize hw' : siI (siI w (x + 1) 25 a) (x + 1) 26 b = w' at *
    generalize hT' : gI (sI (sI σ 1 9 a) 1 10 b) 1 = T' at *
    refine ⟨hs.tlay t1, ?_, ?_, ?_, ?_, ?_, ?_, ?_, ?_⟩
    · exact t2.fr kc.1 (G _ _ (by omega)) (fun i => G _ _ (by omega)) (fun i => G _ _ (by omega)) (fun i => G _ _ (by omega)) (Gr _ (by omega)) (fun i _ _ => Gr _ (by omega))
    · exact t3.fr kc.2.1 (fun j i _ _ => G _ _ (by omega)) (Gr _ (by omega)) (fun i _ _ => Gr _ (by omega))
    · exact t4.fr kc.2.2.2.1 (G _ _ (by omega)) (fun i => G _ _ (by omega)) (fun i => G _ _ (by omega)) (fun i => GL _ _ (by first | exact trivial | omega)) (fun i => GL _ _ (by first | exact trivial | omega)) (Gr _ (by omega)) (fun i _ _ => Gr _ (by omega))
    · exact t5.fr kc.2.2.2.2.1 (G _ _ (by omega)) (fun i => G _ _ (by omega)) (fun i => G _ _ (by omega)) (Gr _ (by omega)) (fun i _ _ => Gr _ (by omega))
    · exact t6.fr kc.2.2.2.2.2.2.1 (fun i => G _ _ (by omega)) (Gr _ (by omega)) (fun i _ _ => Gr _ (by omega))
    · exact t7.fr (fun i => G _ _ (by omega)) (fun i _ _ => Gr _ (by omega))
    · exact ⟨G0.trans R0.symm, G1.trans R1.symm⟩
    · exact hs.tls t9 hR.2.2.2.2.1 (fun j _ _ => G _ _ (by omega)) hz (Gr _ (by omega)) (Gr _ (by omega)) (Gr _ (by omega)) (Gr _ (by omega)) (Gr _ (by omega)) (Gr _ (by omega)) (fun n _ => ⟨Gr _ (by omega), Gr _ (by omega), Gr _ (by omega), Gr _ (by omega), Gr _ (by omega), Gr _ (by omega)⟩) (fun i _ _ => Gr _ (by omega)) (fun i _ _ => Gr _ (by omega)) (fun c _ => ⟨Gr _ (by omega), Gr _ (by omega), Gr _ (by omega), Gr _ (by omega)⟩) (fun i _ _ => Gr _ (by omega)) (fun i _ _ => Gr _ (by omega))
  · generalize hT' : gI (sI (sI σ 1 9 a) 1 10 b) 1 = T' at *
    refine ⟨⟨by rw [Gr 0 (by omega)]; exact u0, by rw [Gr 1 (by omega)]; exact u1, by rw [Gr 2 (by omega)]; exact u2, by rw [Gr 3 (by omega)]; exact u3, by rw [Gr 4 (by omega)]; exact u4, by rw [Gr 5 (by omega)]; exact u5, by rw [Gr 6 (by omega)]; exact u6, by rw [Gr 7 (by omega)]; exact u7, by rw [Gr 8 (by omega)]; exact u8, by rw [R0]; exact h1, by rw [R1]; exact h2⟩, ?_, ?_, ?_, ?_, ?_, ?_, ?_, ?_, ?_⟩
    · exact W1.fr q1 kc.1 (Gr _ (by omega)) (fun i _ _ => Gr _ (by omega))
    · exact W2.fr q2 kc.2.1 (Gr _ (by omega)) (by rw [Gr 0 (by omega)]; exact Int32.le_refl _) (fun i _ _ => Gr _ (by omega))
    · exact W3.fr q3 kc.2.2.2.1 (Gr _ (by omega)) (by rw [Gr 0 (by omega)]; exact Int32.le_refl _) (fun i _ _ => Gr _ (by omega))
    · exact W4.fr q4 kc.2.2.2.2.1 (Gr _ (by omega)) (by rw [Gr 3 (by omega)]; exact Int32.le_refl _) (fun i _ _ => Gr _ (by omega))
    · exact W5.fr q5 kc.2.2.2.2.2.1 (Gr _ (by omega)) (by rw [Gr 4 (by omega)]; exact Int32.le_refl _) (fun i _ _ => Gr _ (by omega))
    · exact W6.fr q6 kc.2.2.2.2.2.2.2.1 (Gr _ (by omega)) (by rw [Gr 3 (by omega)]; exact Int32.le_refl _) (fun i _ _ => Gr _ (by omega))
    · exact W7.fr q7 kc.2.2.2.2.2.2.1 (Gr _ (by omega)) (by rw [Gr 4 (by omega)]; exact Int32.le_refl _) (fun i _ _ => Gr _ (by omega))
    · exact W8.fr q8 (fun i _ _ => Gr _ (by omega))
    · exact W9.fr q9 kc.2.2.1 (Gr _ (by omega)) (fun i _ _ => Gr _ (by omega))
theorem RelT.seal (hR : RelT ow x w σ) {b : Nat} {m s v : Int32} (hb : b < cn (gI σ 1) 3) (h1 : 0 ≤ m) : RelT ow x (siL (siL (siI w (x + 26) b m) (x + 27) b s.toInt64) (x + 28) b v.toInt64) (sI (sI (sI (sI σ 1 (2368 + 4 * b) 1) 1 (2369 + 4 * b) m) 1 (2370 + 4 * b) s) 1 (2371 + 4 * b) v) := by
  have hW := hR.2.2.2.2.1
  obtain ⟨t1, t2, t3, t4, t5, t6, t7, t8, t9⟩ := hR.2.2.2.1
  have kc := hW.c1
  obtain ⟨⟨u0, u1, u2, u3, u4, u5, u6, u7, u8, u9, u10⟩, q1, q2, q3, q4, q5, q6, q7, q8, q9⟩ := hW
  have hs : Si w (siL (siL (siI w (x + 26) b m) (x + 27) b s.toInt64) (x + 28) b v.toInt64) := ⟨rfl, rfl, rfl⟩
  have G : ∀ q i, (¬ (q = x + 26 ∧ i = b)) → hvi (siL (siL (siI w (x + 26) b m) (x + 27) b s.toInt64) (x + 28) b v.toInt64) q i = hvi w q i := by
    intro q i h
    have g0 := h
    rw [vi_L, vi_L]
    rw [vi_I, if_neg g0]
  have GL : ∀ q i, (¬ (q = x + 27 ∧ i = b) ∧ ¬ (q = x + 28 ∧ i = b)) → hvl (siL (siL (siI w (x + 26) b m) (x + 27) b s.toInt64) (x + 28) b v.toInt64) q i = hvl w q i := by
    intro q i h
    obtain ⟨g0, g1⟩ := h
    rw [vl_L, if_neg g1, vl_L, if_neg g0]
    rfl
  have Gr : ∀ i, (i ≠ (2368 + 4 * b) ∧ i ≠ (2369 + 4 * b) ∧ i ≠ (2370 + 4 * b) ∧ i ≠ (2371 + 4 * b)) → gI (sI (sI (sI (sI σ 1 (2368 + 4 * b) 1) 1 (2369 + 4 * b) m) 1 (2370 + 4 * b) s) 1 (2371 + 4 * b) v) 1 i = gI σ 1 i := by
    intro i h
    obtain ⟨g0, g1, g2, g3⟩ := h
    rw [rowS_ne g3, rowS_ne g2, rowS_ne g1, rowS_ne g0]
  have G0 : hvi (siL (siL (siI w (x + 26) b m) (x + 27) b s.toInt64) (x + 28) b v.toInt64) (x + 26) b = m := by
    rw [vi_L, vi_L]
    rw [vi_I, if_pos ⟨rfl, rfl⟩]
  have L0 : hvl (siL (siL (siI w (x + 26) b m) (x + 27) b s.toInt64) (x + 28) b v.toInt64) (x + 27) b = s.toInt64 := by
    rw [vl_L, if_neg (by omega), vl_L, if_pos ⟨rfl, rfl⟩]
  have L1 : hvl (siL (siL (siI w (x + 26) b m) (x + 27) b s.toInt64) (x + 28) b v.toInt64) (x + 28) b = v.toInt64 := by
    rw [vl_L, if_pos ⟨rfl, rfl⟩]
  have R0 : gI (sI (sI (sI (sI σ 1 (2368 + 4 * b) 1) 1 (2369 + 4 * b) m) 1 (2370 + 4 * b) s) 1 (2371 + 4 * b) v) 1 ((2368 + 4 * b)) = 1 := by
    rw [rowS_ne (by omega), rowS_ne (by omega), rowS_ne (by omega), rowS_eq]
  have R1 : gI (sI (sI (sI (sI σ 1 (2368 + 4 * b) 1) 1 (2369 + 4 * b) m) 1 (2370 + 4 * b) s) 1 (2371 + 4 * b) v) 1 ((2369 + 4 * b)) = m := by
    rw [rowS_ne (by omega), rowS_ne (by omega), rowS_eq]
  have R2 : gI (sI (sI (sI (sI σ 1 (2368 + 4 * b) 1) 1 (2369 + 4 * b) m) 1 (2370 + 4 * b) s) 1 (2371 + 4 * b) v) 1 ((2370 + 4 * b)) = s := by
    rw [rowS_ne (by omega), rowS_eq]
  have R3 : gI (sI (sI (sI (sI σ 1 (2368 + 4 * b) 1) 1 (2369 + 4 * b) m) 1 (2370 + 4 * b) s) 1 (2371 + 4 * b) v) 1 ((2371 + 4 * b)) = v := by
    rw [rowS_eq]
  have hz : ∀ q i, ow q = 1 → hvi (siL (siL (siI w (x + 26) b m) (x + 27) b s.toInt64) (x + 28) b v.toInt64) q i = hvi w q i := fun q i hq => by
    have := hR.2.1.ne hq
    exact G q i (by omega)
  refine hR.now hs (fun q i hq => G q i (by omega)) (fun q i hq => GL q i (by first | exact trivial | omega)) (fun j i hj _ => ?_) ?_ ?_
  · rw [gI_sI, if_neg (by omega), gI_sI, if_neg (by omega), gI_sI, if_neg (by omega), gI_sI, if_neg (by omega)]
  · generalize hw' : siL (siL (siI w (x + 26) b m) (x + 27) b s.toInt64) (x + 28) b v.toInt64 = w' at *
    generalize hT' : gI (sI (sI (sI (sI σ 1 (2368 + 4 * b) 1) 1 (2369 + 4 * b) m) 1 (2370 + 4 * b) s) 1 (2371 + 4 * b) v) 1 = T' at *
    refine ⟨hs.tlay t1, ?_, ?_, ?_, ?_, ?_, ?_, ?_, ?_⟩
    · exact t2.fr kc.1 (G _ _ (by omega)) (fun i => G _ _ (by omega)) (fun i => G _ _ (by omega)) (fun i => G _ _ (by omega)) (Gr _ (by omega)) (fun i _ _ => Gr _ (by omega))
    · exact t3.fr kc.2.1 (fun j i _ _ => G _ _ (by omega)) (Gr _ (by omega)) (fun i _ _ => Gr _ (by omega))
    · refine ⟨by rw [G _ _ (by omega), Gr _ (by omega)]; exact t4.1, fun p hp => ?_⟩
      rw [cn_eq (Gr 3 (by omega))] at hp
      have := t4.2 p hp
      by_cases e : p = b
      · subst e
        rw [G (x + 1 + 21) p (by omega), Gr (2348 + p) (by omega), R0, R1, R2, R3]
        exact ⟨this.1, Or.inr ⟨rfl, h1, G0, L0, L1⟩⟩
      · rw [G (x + 1 + 21) p (by omega), G (x + 1 + 25) p (by omega), GL (x + 1 + 26) p (by omega), GL (x + 1 + 27) p (by omega), Gr (2348 + p) (by omega), Gr (2368 + 4 * p) (by omega), Gr (2369 + 4 * p) (by omega), Gr (2370 + 4 * p) (by omega), Gr (2371 + 4 * p) (by omega)]
        exact this
    · exact t5.fr kc.2.2.2.2.1 (G _ _ (by omega)) (fun i => G _ _ (by omega)) (fun i => G _ _ (by omega)) (Gr _ (by omega)) (fun i _ _ => Gr _ (by omega))
    · exact t6.fr kc.2.2.2.2.2.2.1 (fun i => G _ _ (by omega)) (Gr _ (by omega)) (fun i _ _ => Gr _ (by omega))
    · exact t7.fr (fun i => G _ _ (by omega)) (fun i _ _ => Gr _ (by omega))
    · exact t8.fr (G _ _ (by omega)) (G _ _ (by omega)) (Gr _ (by omega)) (Gr _ (by omega))
    · exact hs.tls t9 hR.2.2.2.2.1 (fun j _ _ => G _ _ (by omega)) hz (Gr _ (by omega)) (Gr _ (by omega)) (Gr _ (by omega)) (Gr _ (by omega)) (Gr _ (by omega)) (Gr _ (by omega)) (fun n _ => ⟨Gr _ (by omega), Gr _ (by omega), Gr _ (by omega), Gr _ (by omega), Gr _ (by omega), Gr _ (by omega)⟩) (fun i _ _ => Gr _ (by omega)) (fun i _ _ => Gr _ (by omega)) (fun c _ => ⟨Gr _ (by omega), Gr _ (by omega), Gr _ (by omega), Gr _ (by omega)⟩) (fun i _ _ => Gr _ (by omega)) (fun i _ _ => Gr _ (by omega))
  · generalize hT' : gI (sI (sI (sI (sI σ 1 (2368 + 4 * b) 1) 1 (2369 + 4 * b) m) 1 (2370 + 4 * b) s) 1 (2371 + 4 * b) v) 1 = T' at *
    refine ⟨⟨by rw [Gr 0 (by omega)]; exact u0, by rw [Gr 1 (by omega)]; exact u1, by rw [Gr 2 (by omega)]; exact u2, by rw [Gr 3 (by omega)]; exact u3, by rw [Gr 4 (by omega)]; exact u4, by rw [Gr 5 (by omega)]; exact u5, by rw [Gr 6 (by omega)]; exact u6, by rw [Gr 7 (by omega)]; exact u7, by rw [Gr 8 (by omega)]; exact u8, by rw [Gr 9 (by omega)]; exact u9, by rw [Gr 10 (by omega)]; exact u10⟩, ?_, ?_, ?_, ?_, ?_, ?_, ?_, ?_, ?_⟩
    · exact W1.fr q1 kc.1 (Gr _ (by omega)) (fun i _ _ => Gr _ (by omega))
    · exact W2.fr q2 kc.2.1 (Gr _ (by omega)) (by rw [Gr 0 (by omega)]; exact Int32.le_refl _) (fun i _ _ => Gr _ (by omega))
    · exact W3.fr q3 kc.2.2.2.1 (Gr _ (by omega)) (by rw [Gr 0 (by omega)]; exact Int32.le_refl _) (fun i _ _ => Gr _ (by omega))
    · exact W4.fr q4 kc.2.2.2.2.1 (Gr _ (by omega)) (by rw [Gr 3 (by omega)]; exact Int32.le_refl _) (fun i _ _ => Gr _ (by omega))
    · exact W5.fr q5 kc.2.2.2.2.2.1 (Gr _ (by omega)) (by rw [Gr 4 (by omega)]; exact Int32.le_refl _) (fun i _ _ => Gr _ (by omega))
    · exact W6.fr q6 kc.2.2.2.2.2.2.2.1 (Gr _ (by omega)) (by rw [Gr 3 (by omega)]; exact Int32.le_refl _) (fun i _ _ => Gr _ (by omega))
    · exact W7.fr q7 kc.2.2.2.2.2.2.1 (Gr _ (by omega)) (by rw [Gr 4 (by omega)]; exact Int32.le_refl _) (fun i _ _ => Gr _ (by omega))
    · exact W8.fr q8 (fun i _ _ => Gr _ (by omega))
    · exact W9.fr q9 kc.2.2.1 (Gr _ (by omega)) (fun i _ _ => Gr _ (by omega))

end O2
