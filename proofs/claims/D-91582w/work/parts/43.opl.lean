set_option maxRecDepth 100000
section OL
variable {ow ow' : Nat → Nat} {w w' wn : AH} {T T' : Nat → Int32} {x t : Nat} {σ σ' : SM} {L n : Nat} {E E' : Nat → Nat → Prop}
theorem RelT.imgsz {k j : Nat} (hR : RelT ow x w σ) (hk : k < 2) (ht : hvr w (x + 30) k = some t) (hj : (tK j).1 ≠ 0) : t + j < hsz w := by
  have hlt : j < 29 := by
    by_cases g : j < 29
    · exact g
    · exfalso
      apply hj
      obtain ⟨k, rfl⟩ : ∃ k, j = k + 29 := ⟨j - 29, by omega⟩
      rfl
  rcases hR.2.2.2.2.2.1.1 k hk with ⟨_, g⟩ | ⟨_, t', g2, _, _, g5, _⟩
  · rw [g] at ht; cases ht
  · rw [g2] at ht
    cases ht
    have := g5.1.2.2
    omega
theorem Ul.lay {X : Nat → Prop} (h : Ul ow L X w w') (h1 : Lay x w) (h2 : Ow x ow w) (hL : x + 2 ≤ L ∧ L ≤ x + 12) : Lay x w' := by
  refine ⟨fun j hj => ?_, fun j k r hr => ?_, Nat.le_trans h1.2.2 h.2.2.1⟩
  · by_cases g : x + j = L
    · rw [g, h.2.1, ← g]; exact h1.1 j hj
    · have hlt : j < 67 := by
        by_cases g : j < 67
        · exact g
        · exfalso
          apply hj
          obtain ⟨k, rfl⟩ : ∃ k, j = k + 67 := ⟨j - 67, by omega⟩
          rfl
      rw [(h.1 (x + j) (by have := h1.2.2; omega) g (by rw [h2.1 j hj]; omega)).1]
      exact h1.1 j hj
  · have hj := fR_j hr
    have hf : (fK j).1 ≠ 0 := by rcases hj with rfl | rfl | rfl | rfl | rfl | rfl <;> decide
    rw [(h.1 (x + j) (by have := h1.2.2; omega) (by omega) (by rw [h2.1 j hf]; omega)).2.2.2 k]
    exact h1.2.1 j k r hr
theorem RelT.apart (hR : RelT ow x w σ) (hm1 : hsz w + 9000 ≤ hlc w) (hm2 : hns w + 110000 ≤ hls w) {n : Nat} (hn : cn (gI σ 1) 8 = n) (h4 : n < 40) {a b lo hi : Int32} (hab : (a < b ∧ lo = a ∧ hi = b) ∨ (b < a ∧ lo = b ∧ hi = a)) : ∃ w' ow', mC_J2_add (x + 6) (hsz w) (nNote w a b 0 0 0) = some (1, w') ∧ RelT ow' x w' (sI (sI (sI σ 1 (2268 + 2 * n) lo) 1 (2269 + 2 * n) hi) 1 8 (Int32.ofNat (n + 1))) ∧ LsT ow' w' (x + 6) (n + 1) (fun _ _ => True) ∧ hsz w' ≤ hsz w + 2 ∧ hns w' ≤ hns w + 2008 ∧ hlc w' = hlc w ∧ hls w' = hls w ∧ hvi w' x 1 = hvi w x 1 ∧ Lay x w' := by
  have hW := hR.2.2.2.2.1
  obtain ⟨t1, t2, t3, t4, t5, t6, t7, t8, t9⟩ := hR.2.2.2.1
  have kc := hW.c1
  obtain ⟨⟨u0, u1, u2, u3, u4, u5, u6, u7, u8, u9, u10⟩, q1, q2, q3, q4, q5, q6, q7, q8, q9⟩ := hW
  obtain ⟨l1, l2, l3, l4, l5, l6⟩ := t9
  have hl := l3
  rw [hn, show x + 1 + 5 = x + 6 by omega] at hl
  obtain ⟨w', ow', A, U, OX, OO, O0, ⟨z1, z2, z3, z4⟩, ⟨e', c', LE, oe⟩, s1, s2, s3, s4⟩ := addG (wn := nNote w a b 0 0 0) hR.2.1 hR.1.2.2 hm1 hm2 hR.2.2.1.1 hl ⟨by omega, by omega⟩ (hR.2.1.1 6 (by decide)) (by omega) (fun i p _ hp => (by obtain ⟨_, _, _, _, _, k1, _⟩ := hp; exact note_ok k1)) rfl (by show hns w + 5 ≤ hns w + 8; omega) rfl rfl rfl (fun b hb => nNote_o hb) (by unfold nNote; simp only [kd_I]; rw [kd_N, if_pos rfl]; decide)
  have NA : NoteAt ow' w' (hsz w) a b 0 0 0 := nNote_n z1 ⟨z2, z3⟩
  obtain ⟨TL, v1, vi, vl, FH, LF⟩ := TRep.gr hR U ⟨by omega, by omega⟩ (hR.2.1.1 6 (by decide)) (fun _ g => g.elim) OX
  have V : ∀ j i, 13 ≤ j → j ≤ 28 → hvi w' (x + 1 + j) i = hvi w (x + 1 + j) i := fun j i a b => by rw [show x + 1 + j = x + (j + 1) by omega]; exact vi (j + 1) (by omega) (by omega) (fun g => g) i
  have VL : ∀ j i, 13 ≤ j → j ≤ 28 → hvl w' (x + 1 + j) i = hvl w (x + 1 + j) i := fun j i a b => by rw [show x + 1 + j = x + (j + 1) by omega]; exact vl (j + 1) (by omega) (by omega) i
  have Gr : ∀ i, (i ≠ (2268 + 2 * n) ∧ i ≠ (2269 + 2 * n) ∧ i ≠ 8) → gI (sI (sI (sI σ 1 (2268 + 2 * n) lo) 1 (2269 + 2 * n) hi) 1 8 (Int32.ofNat (n + 1))) 1 i = gI σ 1 i := by
    intro i h
    obtain ⟨g0, g1, g2⟩ := h
    rw [rowS_ne g2, rowS_ne g1, rowS_ne g0]
  have R0 : gI (sI (sI (sI σ 1 (2268 + 2 * n) lo) 1 (2269 + 2 * n) hi) 1 8 (Int32.ofNat (n + 1))) 1 ((2268 + 2 * n)) = lo := by
    rw [rowS_ne (by omega), rowS_ne (by omega), rowS_eq]
  have R1 : gI (sI (sI (sI σ 1 (2268 + 2 * n) lo) 1 (2269 + 2 * n) hi) 1 8 (Int32.ofNat (n + 1))) 1 ((2269 + 2 * n)) = hi := by
    rw [rowS_ne (by omega), rowS_eq]
  have R2 : gI (sI (sI (sI σ 1 (2268 + 2 * n) lo) 1 (2269 + 2 * n) hi) 1 8 (Int32.ofNat (n + 1))) 1 (8) = (Int32.ofNat (n + 1)) := by
    rw [rowS_eq]
  have hcn : cn (gI (sI (sI (sI σ 1 (2268 + 2 * n) lo) 1 (2269 + 2 * n) hi) 1 8 (Int32.ofNat (n + 1))) 1) 8 = n + 1 := by unfold cn; rw [R2, i_nat (by omega)]
  refine ⟨w', ow', A, hR.al U ⟨by omega, by omega⟩ (hR.2.1.1 6 (by decide)) (fun _ g => g.elim) OX OO (fun k t hk ht j hj h0 => O0 _ (hR.imgsz hk ht hj) h0) (fun j i hj _ => ?_) ?_ ?_, ⟨e', c', LE.fr rfl rfl rfl rfl (fun _ => rfl) (Nat.le_refl _) (fun _ _ _ _ => trivial), oe⟩, s1, s2, s3, s4, ?_, ?_⟩
  · rw [gI_sI, if_neg (by omega), gI_sI, if_neg (by omega), gI_sI, if_neg (by omega)]
  · generalize hT' : gI (sI (sI (sI σ 1 (2268 + 2 * n) lo) 1 (2269 + 2 * n) hi) 1 8 (Int32.ofNat (n + 1))) 1 = T' at *
    refine ⟨TL, ?_, ?_, ?_, ?_, ?_, ?_, ?_, ?_⟩
    · exact t2.fr kc.1 (v1 22) (fun i => V 13 i (by decide) (by decide)) (fun i => V 14 i (by decide) (by decide)) (fun i => V 15 i (by decide) (by decide)) (Gr _ (by omega)) (fun i _ _ => Gr _ (by omega))
    · exact t3.fr kc.2.1 (fun j i g1 g2 => V j i (by omega) (by omega)) (Gr _ (by omega)) (fun i _ _ => Gr _ (by omega))
    · exact t4.fr kc.2.2.2.1 (v1 23) (fun i => V 21 i (by decide) (by decide)) (fun i => V 25 i (by decide) (by decide)) (fun i => VL 26 i (by decide) (by decide)) (fun i => VL 27 i (by decide) (by decide)) (Gr _ (by omega)) (fun i _ _ => Gr _ (by omega))
    · exact t5.fr kc.2.2.2.2.1 (v1 24) (fun i => V 22 i (by decide) (by decide)) (fun i => V 23 i (by decide) (by decide)) (Gr _ (by omega)) (fun i _ _ => Gr _ (by omega))
    · exact t6.fr kc.2.2.2.2.2.2.1 (fun i => V 24 i (by decide) (by decide)) (Gr _ (by omega)) (fun i _ _ => Gr _ (by omega))
    · exact t7.fr (fun i => V 28 i (by decide) (by decide)) (fun i _ _ => Gr _ (by omega))
    · exact t8.fr (v1 25) (v1 26) (Gr _ (by omega)) (Gr _ (by omega))
    · refine ⟨ls_ord l1 hR.2.2.2.2.1 (by omega) (LF 1 (by decide) (by decide) (by decide) (by omega)) FH (Gr _ (by omega)) (fun i _ _ => Gr _ (by omega)), ls_nam l2 hR.2.2.2.2.1 (by omega) (LF 3 (by decide) (by decide) (by decide) (by omega)) FH (Gr _ (by omega)) (fun n _ => ⟨Gr _ (by omega), Gr _ (by omega), Gr _ (by omega), Gr _ (by omega), Gr _ (by omega), Gr _ (by omega)⟩), ?_, ls_han l4 hR.2.2.2.2.1 (by omega) (LF 7 (by decide) (by decide) (by decide) (by omega)) FH (Gr _ (by omega)) (fun i _ _ => Gr _ (by omega)), ls_pap l5 hR.2.2.2.2.1 (by omega) (LF 9 (by decide) (by decide) (by decide) (by omega)) FH (Gr _ (by omega)) (fun i _ _ => Gr _ (by omega)), ls_cou l6 hR.2.2.2.2.1 (by omega) (LF 11 (by decide) (by decide) (by decide) (by omega)) FH (Gr _ (by omega)) (fun c _ => ⟨Gr _ (by omega), Gr _ (by omega), Gr _ (by omega), Gr _ (by omega)⟩)⟩
      rw [hcn, show x + 1 + 5 = x + 6 by omega]
      refine ⟨e', c', LE.fr rfl rfl rfl rfl (fun _ => rfl) (Nat.le_refl _) (fun i p hi hp => ?_), oe⟩
      rcases hp with ⟨p1, p2⟩ | ⟨p1, p2⟩
      · obtain ⟨a', b', c', d', e', k1, k2⟩ := p2
        refine ⟨a', b', c', d', e', k1.fr FH.1 FH.2.1, ?_⟩
        rw [Gr (2268 + 2 * i) (by omega), Gr (2269 + 2 * i) (by omega)]
        exact k2
      · subst p1
        subst p2
        refine ⟨_, _, _, _, _, NA, ?_⟩
        rw [R0, R1]
        exact hab
  · generalize hT' : gI (sI (sI (sI σ 1 (2268 + 2 * n) lo) 1 (2269 + 2 * n) hi) 1 8 (Int32.ofNat (n + 1))) 1 = T' at *
    refine ⟨⟨by rw [Gr 0 (by omega)]; exact u0, by rw [Gr 1 (by omega)]; exact u1, by rw [Gr 2 (by omega)]; exact u2, by rw [Gr 3 (by omega)]; exact u3, by rw [Gr 4 (by omega)]; exact u4, by rw [Gr 5 (by omega)]; exact u5, by rw [Gr 6 (by omega)]; exact u6, by rw [Gr 7 (by omega)]; exact u7, by rw [R2]; exact ⟨i_pos (by omega), (i_le (b := 40) (by omega) (by decide)).mpr (by omega)⟩, by rw [Gr 9 (by omega)]; exact u9, by rw [Gr 10 (by omega)]; exact u10⟩, ?_, ?_, ?_, ?_, ?_, ?_, ?_, ?_, ?_⟩
    · exact W1.fr q1 kc.1 (Gr _ (by omega)) (fun i _ _ => Gr _ (by omega))
    · exact W2.fr q2 kc.2.1 (Gr _ (by omega)) (by rw [Gr 0 (by omega)]; exact Int32.le_refl _) (fun i _ _ => Gr _ (by omega))
    · exact W3.fr q3 kc.2.2.2.1 (Gr _ (by omega)) (by rw [Gr 0 (by omega)]; exact Int32.le_refl _) (fun i _ _ => Gr _ (by omega))
    · exact W4.fr q4 kc.2.2.2.2.1 (Gr _ (by omega)) (by rw [Gr 3 (by omega)]; exact Int32.le_refl _) (fun i _ _ => Gr _ (by omega))
    · exact W5.fr q5 kc.2.2.2.2.2.1 (Gr _ (by omega)) (by rw [Gr 4 (by omega)]; exact Int32.le_refl _) (fun i _ _ => Gr _ (by omega))
    · exact W6.fr q6 kc.2.2.2.2.2.2.2.1 (Gr _ (by omega)) (by rw [Gr 3 (by omega)]; exact Int32.le_refl _) (fun i _ _ => Gr _ (by omega))
    · exact W7.fr q7 kc.2.2.2.2.2.2.1 (Gr _ (by omega)) (by rw [Gr 4 (by omega)]; exact Int32.le_refl _) (fun i _ _ => Gr _ (by omega))
    · exact W8.fr q8 (fun i _ _ => Gr _ (by omega))
    · exact W9.fr q9 kc.2.2.1 (Gr _ (by omega)) (fun i _ _ => Gr _ (by omega))
  · exact (U.1 x (by have := hR.1.2.2; omega) (by omega) (by rw [show ow x = 0 from hR.2.1.1 0 (by decide)]; omega)).2.1 (fun g => g) 1
  · exact U.lay hR.1 hR.2.1 ⟨by omega, by omega⟩
theorem RelT.hand (hR : RelT ow x w σ) (hm1 : hsz w + 9000 ≤ hlc w) (hm2 : hns w + 110000 ≤ hls w) {n : Nat} (hn : cn (gI σ 1) 5 = n) (h4 : n < 200) {a b c d e : Int32} (h1 : 0 ≤ a ∧ a < gI σ 1 4) (h2 : rg b 0 19) (h3 : rg c 0 399) (h5 : rg e 0 399) : ∃ w' ow', mC_J2_add (x + 8) (hsz w) (nNote w a b c d e) = some (1, w') ∧ RelT ow' x w' (sI (sI (sI (sI (sI (sI σ 1 (2528 + 5 * n) a) 1 (2529 + 5 * n) b) 1 (2530 + 5 * n) c) 1 (2531 + 5 * n) d) 1 (2532 + 5 * n) e) 1 5 (Int32.ofNat (n + 1))) ∧ LsT ow' w' (x + 8) (n + 1) (fun _ _ => True) ∧ hsz w' ≤ hsz w + 2 ∧ hns w' ≤ hns w + 2008 ∧ hlc w' = hlc w ∧ hls w' = hls w ∧ hvi w' x 1 = hvi w x 1 ∧ Lay x w' := by
  have hW := hR.2.2.2.2.1
  obtain ⟨t1, t2, t3, t4, t5, t6, t7, t8, t9⟩ := hR.2.2.2.1
  have kc := hW.c1
  obtain ⟨⟨u0, u1, u2, u3, u4, u5, u6, u7, u8, u9, u10⟩, q1, q2, q3, q4, q5, q6, q7, q8, q9⟩ := hW
  obtain ⟨l1, l2, l3, l4, l5, l6⟩ := t9
  have hl := l4
  rw [hn, show x + 1 + 7 = x + 8 by omega] at hl
  obtain ⟨w', ow', A, U, OX, OO, O0, ⟨z1, z2, z3, z4⟩, ⟨e', c', LE, oe⟩, s1, s2, s3, s4⟩ := addG (wn := nNote w a b c d e) hR.2.1 hR.1.2.2 hm1 hm2 hR.2.2.1.1 hl ⟨by omega, by omega⟩ (hR.2.1.1 8 (by decide)) (by omega) (fun i p _ hp => (note_ok hp)) rfl (by show hns w + 5 ≤ hns w + 8; omega) rfl rfl rfl (fun b hb => nNote_o hb) (by unfold nNote; simp only [kd_I]; rw [kd_N, if_pos rfl]; decide)
  have NA : NoteAt ow' w' (hsz w) a b c d e := nNote_n z1 ⟨z2, z3⟩
  obtain ⟨TL, v1, vi, vl, FH, LF⟩ := TRep.gr hR U ⟨by omega, by omega⟩ (hR.2.1.1 8 (by decide)) (fun _ g => g.elim) OX
  have V : ∀ j i, 13 ≤ j → j ≤ 28 → hvi w' (x + 1 + j) i = hvi w (x + 1 + j) i := fun j i a b => by rw [show x + 1 + j = x + (j + 1) by omega]; exact vi (j + 1) (by omega) (by omega) (fun g => g) i
  have VL : ∀ j i, 13 ≤ j → j ≤ 28 → hvl w' (x + 1 + j) i = hvl w (x + 1 + j) i := fun j i a b => by rw [show x + 1 + j = x + (j + 1) by omega]; exact vl (j + 1) (by omega) (by omega) i
  have Gr : ∀ i, (i ≠ (2528 + 5 * n) ∧ i ≠ (2529 + 5 * n) ∧ i ≠ (2530 + 5 * n) ∧ i ≠ (2531 + 5 * n) ∧ i ≠ (2532 + 5 * n) ∧ i ≠ 5) → gI (sI (sI (sI (sI (sI (sI σ 1 (2528 + 5 * n) a) 1 (2529 + 5 * n) b) 1 (2530 + 5 * n) c) 1 (2531 + 5 * n) d) 1 (2532 + 5 * n) e) 1 5 (Int32.ofNat (n + 1))) 1 i = gI σ 1 i := by
    intro i h
    obtain ⟨g0, g1, g2, g3, g4, g5⟩ := h
    rw [rowS_ne g5, rowS_ne g4, rowS_ne g3, rowS_ne g2, rowS_ne g1, rowS_ne g0]
  have R0 : gI (sI (sI (sI (sI (sI (sI σ 1 (2528 + 5 * n) a) 1 (2529 + 5 * n) b) 1 (2530 + 5 * n) c) 1 (2531 + 5 * n) d) 1 (2532 + 5 * n) e) 1 5 (Int32.ofNat (n + 1))) 1 ((2528 + 5 * n)) = a := by
    rw [rowS_ne (by omega), rowS_ne (by omega), rowS_ne (by omega), rowS_ne (by omega), rowS_ne (by omega), rowS_eq]
  have R1 : gI (sI (sI (sI (sI (sI (sI σ 1 (2528 + 5 * n) a) 1 (2529 + 5 * n) b) 1 (2530 + 5 * n) c) 1 (2531 + 5 * n) d) 1 (2532 + 5 * n) e) 1 5 (Int32.ofNat (n + 1))) 1 ((2529 + 5 * n)) = b := by
    rw [rowS_ne (by omega), rowS_ne (by omega), rowS_ne (by omega), rowS_ne (by omega), rowS_eq]
  have R2 : gI (sI (sI (sI (sI (sI (sI σ 1 (2528 + 5 * n) a) 1 (2529 + 5 * n) b) 1 (2530 + 5 * n) c) 1 (2531 + 5 * n) d) 1 (2532 + 5 * n) e) 1 5 (Int32.ofNat (n + 1))) 1 ((2530 + 5 * n)) = c := by
    rw [rowS_ne (by omega), rowS_ne (by omega), rowS_ne (by omega), rowS_eq]
  have R3 : gI (sI (sI (sI (sI (sI (sI σ 1 (2528 + 5 * n) a) 1 (2529 + 5 * n) b) 1 (2530 + 5 * n) c) 1 (2531 + 5 * n) d) 1 (2532 + 5 * n) e) 1 5 (Int32.ofNat (n + 1))) 1 ((2531 + 5 * n)) = d := by
    rw [rowS_ne (by omega), rowS_ne (by omega), rowS_eq]
  have R4 : gI (sI (sI (sI (sI (sI (sI σ 1 (2528 + 5 * n) a) 1 (2529 + 5 * n) b) 1 (2530 + 5 * n) c) 1 (2531 + 5 * n) d) 1 (2532 + 5 * n) e) 1 5 (Int32.ofNat (n + 1))) 1 ((2532 + 5 * n)) = e := by
    rw [rowS_ne (by omega), rowS_eq]
  have R5 : gI (sI (sI (sI (sI (sI (sI σ 1 (2528 + 5 * n) a) 1 (2529 + 5 * n) b) 1 (2530 + 5 * n) c) 1 (2531 + 5 * n) d) 1 (2532 + 5 * n) e) 1 5 (Int32.ofNat (n + 1))) 1 (5) = (Int32.ofNat (n + 1)) := by
    rw [rowS_eq]
  have hcn : cn (gI (sI (sI (sI (sI (sI (sI σ 1 (2528 + 5 * n) a) 1 (2529 + 5 * n) b) 1 (2530 + 5 * n) c) 1 (2531 + 5 * n) d) 1 (2532 + 5 * n) e) 1 5 (Int32.ofNat (n + 1))) 1) 5 = n + 1 := by unfold cn; rw [R5, i_nat (by omega)]
  refine ⟨w', ow', A, hR.al U ⟨by omega, by omega⟩ (hR.2.1.1 8 (by decide)) (fun _ g => g.elim) OX OO (fun k t hk ht j hj h0 => O0 _ (hR.imgsz hk ht hj) h0) (fun j i hj _ => ?_) ?_ ?_, ⟨e', c', LE.fr rfl rfl rfl rfl (fun _ => rfl) (Nat.le_refl _) (fun _ _ _ _ => trivial), oe⟩, s1, s2, s3, s4, ?_, ?_⟩
  · rw [gI_sI, if_neg (by omega), gI_sI, if_neg (by omega), gI_sI, if_neg (by omega), gI_sI, if_neg (by omega), gI_sI, if_neg (by omega), gI_sI, if_neg (by omega)]
  · generalize hT' : gI (sI (sI (sI (sI (sI (sI σ 1 (2528 + 5 * n) a) 1 (2529 + 5 * n) b) 1 (2530 + 5 * n) c) 1 (2531 + 5 * n) d) 1 (2532 + 5 * n) e) 1 5 (Int32.ofNat (n + 1))) 1 = T' at *
    refine ⟨TL, ?_, ?_, ?_, ?_, ?_, ?_, ?_, ?_⟩
    · exact t2.fr kc.1 (v1 22) (fun i => V 13 i (by decide) (by decide)) (fun i => V 14 i (by decide) (by decide)) (fun i => V 15 i (by decide) (by decide)) (Gr _ (by omega)) (fun i _ _ => Gr _ (by omega))
    · exact t3.fr kc.2.1 (fun j i g1 g2 => V j i (by omega) (by omega)) (Gr _ (by omega)) (fun i _ _ => Gr _ (by omega))
    · exact t4.fr kc.2.2.2.1 (v1 23) (fun i => V 21 i (by decide) (by decide)) (fun i => V 25 i (by decide) (by decide)) (fun i => VL 26 i (by decide) (by decide)) (fun i => VL 27 i (by decide) (by decide)) (Gr _ (by omega)) (fun i _ _ => Gr _ (by omega))
    · exact t5.fr kc.2.2.2.2.1 (v1 24) (fun i => V 22 i (by decide) (by decide)) (fun i => V 23 i (by decide) (by decide)) (Gr _ (by omega)) (fun i _ _ => Gr _ (by omega))
    · exact t6.fr kc.2.2.2.2.2.2.1 (fun i => V 24 i (by decide) (by decide)) (Gr _ (by omega)) (fun i _ _ => Gr _ (by omega))
    · exact t7.fr (fun i => V 28 i (by decide) (by decide)) (fun i _ _ => Gr _ (by omega))
    · exact t8.fr (v1 25) (v1 26) (Gr _ (by omega)) (Gr _ (by omega))
    · refine ⟨ls_ord l1 hR.2.2.2.2.1 (by omega) (LF 1 (by decide) (by decide) (by decide) (by omega)) FH (Gr _ (by omega)) (fun i _ _ => Gr _ (by omega)), ls_nam l2 hR.2.2.2.2.1 (by omega) (LF 3 (by decide) (by decide) (by decide) (by omega)) FH (Gr _ (by omega)) (fun n _ => ⟨Gr _ (by omega), Gr _ (by omega), Gr _ (by omega), Gr _ (by omega), Gr _ (by omega), Gr _ (by omega)⟩), ls_bar l3 hR.2.2.2.2.1 (by omega) (LF 5 (by decide) (by decide) (by decide) (by omega)) FH (Gr _ (by omega)) (fun i _ _ => Gr _ (by omega)), ?_, ls_pap l5 hR.2.2.2.2.1 (by omega) (LF 9 (by decide) (by decide) (by decide) (by omega)) FH (Gr _ (by omega)) (fun i _ _ => Gr _ (by omega)), ls_cou l6 hR.2.2.2.2.1 (by omega) (LF 11 (by decide) (by decide) (by decide) (by omega)) FH (Gr _ (by omega)) (fun c _ => ⟨Gr _ (by omega), Gr _ (by omega), Gr _ (by omega), Gr _ (by omega)⟩)⟩
      rw [hcn, show x + 1 + 7 = x + 8 by omega]
      refine ⟨e', c', LE.fr rfl rfl rfl rfl (fun _ => rfl) (Nat.le_refl _) (fun i p hi hp => ?_), oe⟩
      rcases hp with ⟨p1, p2⟩ | ⟨p1, p2⟩
      · unfold HandAt at p2 ⊢
        rw [Gr (2528 + 5 * i) (by omega), Gr (2529 + 5 * i) (by omega), Gr (2530 + 5 * i) (by omega), Gr (2531 + 5 * i) (by omega), Gr (2532 + 5 * i) (by omega)]
        exact p2.fr FH.1 FH.2.1
      · subst p1
        subst p2
        unfold HandAt
        rw [R0, R1, R2, R3, R4]
        exact NA
  · generalize hT' : gI (sI (sI (sI (sI (sI (sI σ 1 (2528 + 5 * n) a) 1 (2529 + 5 * n) b) 1 (2530 + 5 * n) c) 1 (2531 + 5 * n) d) 1 (2532 + 5 * n) e) 1 5 (Int32.ofNat (n + 1))) 1 = T' at *
    refine ⟨⟨by rw [Gr 0 (by omega)]; exact u0, by rw [Gr 1 (by omega)]; exact u1, by rw [Gr 2 (by omega)]; exact u2, by rw [Gr 3 (by omega)]; exact u3, by rw [Gr 4 (by omega)]; exact u4, by rw [R5]; exact ⟨i_pos (by omega), (i_le (b := 200) (by omega) (by decide)).mpr (by omega)⟩, by rw [Gr 6 (by omega)]; exact u6, by rw [Gr 7 (by omega)]; exact u7, by rw [Gr 8 (by omega)]; exact u8, by rw [Gr 9 (by omega)]; exact u9, by rw [Gr 10 (by omega)]; exact u10⟩, ?_, ?_, ?_, ?_, ?_, ?_, ?_, ?_, ?_⟩
    · exact W1.fr q1 kc.1 (Gr _ (by omega)) (fun i _ _ => Gr _ (by omega))
    · exact W2.fr q2 kc.2.1 (Gr _ (by omega)) (by rw [Gr 0 (by omega)]; exact Int32.le_refl _) (fun i _ _ => Gr _ (by omega))
    · exact W3.fr q3 kc.2.2.2.1 (Gr _ (by omega)) (by rw [Gr 0 (by omega)]; exact Int32.le_refl _) (fun i _ _ => Gr _ (by omega))
    · exact W4.fr q4 kc.2.2.2.2.1 (Gr _ (by omega)) (by rw [Gr 3 (by omega)]; exact Int32.le_refl _) (fun i _ _ => Gr _ (by omega))
    · intro p hp
      have hp' : p < n + 1 := by rw [hcn] at hp; exact hp
      by_cases e : p = n
      · subst e
        rw [R0, R1, R2, R4, Gr 4 (by omega)]
        exact ⟨h1, h2, h3, h5⟩
      · rw [Gr (2528 + 5 * p) (by omega), Gr (2529 + 5 * p) (by omega), Gr (2530 + 5 * p) (by omega), Gr (2532 + 5 * p) (by omega), Gr (4) (by omega)]
        exact q5 p (by omega)
    · exact W6.fr q6 kc.2.2.2.2.2.2.2.1 (Gr _ (by omega)) (by rw [Gr 3 (by omega)]; exact Int32.le_refl _) (fun i _ _ => Gr _ (by omega))
    · exact W7.fr q7 kc.2.2.2.2.2.2.1 (Gr _ (by omega)) (by rw [Gr 4 (by omega)]; exact Int32.le_refl _) (fun i _ _ => Gr _ (by omega))
    · exact W8.fr q8 (fun i _ _ => Gr _ (by omega))
    · exact W9.fr q9 kc.2.2.1 (Gr _ (by omega)) (fun i _ _ => Gr _ (by omega))
  · exact (U.1 x (by have := hR.1.2.2; omega) (by omega) (by rw [show ow x = 0 from hR.2.1.1 0 (by decide)]; omega)).2.1 (fun g => g) 1
  · exact U.lay hR.1 hR.2.1 ⟨by omega, by omega⟩
theorem RelT.paper (hR : RelT ow x w σ) (hm1 : hsz w + 9000 ≤ hlc w) (hm2 : hns w + 110000 ≤ hls w) {n : Nat} (hn : cn (gI σ 1) 7 = n) (h4 : n < 120) {a b c d : Int32} (h1 : 0 ≤ a ∧ a < gI σ 1 3) (h2 : rg b 0 3) (h3 : rg c 0 100000) (h5 : rg d 0 399) : ∃ w' ow', mC_J2_add (x + 10) (hsz w) (nNote w a b c d 0) = some (1, w') ∧ RelT ow' x w' (sI (sI (sI (sI (sI σ 1 (3528 + 4 * n) a) 1 (3529 + 4 * n) b) 1 (3530 + 4 * n) c) 1 (3531 + 4 * n) d) 1 7 (Int32.ofNat (n + 1))) ∧ LsT ow' w' (x + 10) (n + 1) (fun _ _ => True) ∧ hsz w' ≤ hsz w + 2 ∧ hns w' ≤ hns w + 2008 ∧ hlc w' = hlc w ∧ hls w' = hls w ∧ hvi w' x 1 = hvi w x 1 ∧ Lay x w' := by
  have hW := hR.2.2.2.2.1
  obtain ⟨t1, t2, t3, t4, t5, t6, t7, t8, t9⟩ := hR.2.2.2.1
  have kc := hW.c1
  obtain ⟨⟨u0, u1, u2, u3, u4, u5, u6, u7, u8, u9, u10⟩, q1, q2, q3, q4, q5, q6, q7, q8, q9⟩ := hW
  obtain ⟨l1, l2, l3, l4, l5, l6⟩ := t9
  have hl := l5
  rw [hn, show x + 1 + 9 = x + 10 by omega] at hl
  obtain ⟨w', ow', A, U, OX, OO, O0, ⟨z1, z2, z3, z4⟩, ⟨e', c', LE, oe⟩, s1, s2, s3, s4⟩ := addG (wn := nNote w a b c d 0) hR.2.1 hR.1.2.2 hm1 hm2 hR.2.2.1.1 hl ⟨by omega, by omega⟩ (hR.2.1.1 10 (by decide)) (by omega) (fun i p _ hp => (note_ok hp)) rfl (by show hns w + 5 ≤ hns w + 8; omega) rfl rfl rfl (fun b hb => nNote_o hb) (by unfold nNote; simp only [kd_I]; rw [kd_N, if_pos rfl]; decide)
  have NA : NoteAt ow' w' (hsz w) a b c d 0 := nNote_n z1 ⟨z2, z3⟩
  obtain ⟨TL, v1, vi, vl, FH, LF⟩ := TRep.gr hR U ⟨by omega, by omega⟩ (hR.2.1.1 10 (by decide)) (fun _ g => g.elim) OX
  have V : ∀ j i, 13 ≤ j → j ≤ 28 → hvi w' (x + 1 + j) i = hvi w (x + 1 + j) i := fun j i a b => by rw [show x + 1 + j = x + (j + 1) by omega]; exact vi (j + 1) (by omega) (by omega) (fun g => g) i
  have VL : ∀ j i, 13 ≤ j → j ≤ 28 → hvl w' (x + 1 + j) i = hvl w (x + 1 + j) i := fun j i a b => by rw [show x + 1 + j = x + (j + 1) by omega]; exact vl (j + 1) (by omega) (by omega) i
  have Gr : ∀ i, (i ≠ (3528 + 4 * n) ∧ i ≠ (3529 + 4 * n) ∧ i ≠ (3530 + 4 * n) ∧ i ≠ (3531 + 4 * n) ∧ i ≠ 7) → gI (sI (sI (sI (sI (sI σ 1 (3528 + 4 * n) a) 1 (3529 + 4 * n) b) 1 (3530 + 4 * n) c) 1 (3531 + 4 * n) d) 1 7 (Int32.ofNat (n + 1))) 1 i = gI σ 1 i := by
    intro i h
    obtain ⟨g0, g1, g2, g3, g4⟩ := h
    rw [rowS_ne g4, rowS_ne g3, rowS_ne g2, rowS_ne g1, rowS_ne g0]
  have R0 : gI (sI (sI (sI (sI (sI σ 1 (3528 + 4 * n) a) 1 (3529 + 4 * n) b) 1 (3530 + 4 * n) c) 1 (3531 + 4 * n) d) 1 7 (Int32.ofNat (n + 1))) 1 ((3528 + 4 * n)) = a := by
    rw [rowS_ne (by omega), rowS_ne (by omega), rowS_ne (by omega), rowS_ne (by omega), rowS_eq]
  have R1 : gI (sI (sI (sI (sI (sI σ 1 (3528 + 4 * n) a) 1 (3529 + 4 * n) b) 1 (3530 + 4 * n) c) 1 (3531 + 4 * n) d) 1 7 (Int32.ofNat (n + 1))) 1 ((3529 + 4 * n)) = b := by
    rw [rowS_ne (by omega), rowS_ne (by omega), rowS_ne (by omega), rowS_eq]
  have R2 : gI (sI (sI (sI (sI (sI σ 1 (3528 + 4 * n) a) 1 (3529 + 4 * n) b) 1 (3530 + 4 * n) c) 1 (3531 + 4 * n) d) 1 7 (Int32.ofNat (n + 1))) 1 ((3530 + 4 * n)) = c := by
    rw [rowS_ne (by omega), rowS_ne (by omega), rowS_eq]
  have R3 : gI (sI (sI (sI (sI (sI σ 1 (3528 + 4 * n) a) 1 (3529 + 4 * n) b) 1 (3530 + 4 * n) c) 1 (3531 + 4 * n) d) 1 7 (Int32.ofNat (n + 1))) 1 ((3531 + 4 * n)) = d := by
    rw [rowS_ne (by omega), rowS_eq]
  have R4 : gI (sI (sI (sI (sI (sI σ 1 (3528 + 4 * n) a) 1 (3529 + 4 * n) b) 1 (3530 + 4 * n) c) 1 (3531 + 4 * n) d) 1 7 (Int32.ofNat (n + 1))) 1 (7) = (Int32.ofNat (n + 1)) := by
    rw [rowS_eq]
  have hcn : cn (gI (sI (sI (sI (sI (sI σ 1 (3528 + 4 * n) a) 1 (3529 + 4 * n) b) 1 (3530 + 4 * n) c) 1 (3531 + 4 * n) d) 1 7 (Int32.ofNat (n + 1))) 1) 7 = n + 1 := by unfold cn; rw [R4, i_nat (by omega)]
  refine ⟨w', ow', A, hR.al U ⟨by omega, by omega⟩ (hR.2.1.1 10 (by decide)) (fun _ g => g.elim) OX OO (fun k t hk ht j hj h0 => O0 _ (hR.imgsz hk ht hj) h0) (fun j i hj _ => ?_) ?_ ?_, ⟨e', c', LE.fr rfl rfl rfl rfl (fun _ => rfl) (Nat.le_refl _) (fun _ _ _ _ => trivial), oe⟩, s1, s2, s3, s4, ?_, ?_⟩
  · rw [gI_sI, if_neg (by omega), gI_sI, if_neg (by omega), gI_sI, if_neg (by omega), gI_sI, if_neg (by omega), gI_sI, if_neg (by omega)]
  · generalize hT' : gI (sI (sI (sI (sI (sI σ 1 (3528 + 4 * n) a) 1 (3529 + 4 * n) b) 1 (3530 + 4 * n) c) 1 (3531 + 4 * n) d) 1 7 (Int32.ofNat (n + 1))) 1 = T' at *
    refine ⟨TL, ?_, ?_, ?_, ?_, ?_, ?_, ?_, ?_⟩
    · exact t2.fr kc.1 (v1 22) (fun i => V 13 i (by decide) (by decide)) (fun i => V 14 i (by decide) (by decide)) (fun i => V 15 i (by decide) (by decide)) (Gr _ (by omega)) (fun i _ _ => Gr _ (by omega))
    · exact t3.fr kc.2.1 (fun j i g1 g2 => V j i (by omega) (by omega)) (Gr _ (by omega)) (fun i _ _ => Gr _ (by omega))
    · exact t4.fr kc.2.2.2.1 (v1 23) (fun i => V 21 i (by decide) (by decide)) (fun i => V 25 i (by decide) (by decide)) (fun i => VL 26 i (by decide) (by decide)) (fun i => VL 27 i (by decide) (by decide)) (Gr _ (by omega)) (fun i _ _ => Gr _ (by omega))
    · exact t5.fr kc.2.2.2.2.1 (v1 24) (fun i => V 22 i (by decide) (by decide)) (fun i => V 23 i (by decide) (by decide)) (Gr _ (by omega)) (fun i _ _ => Gr _ (by omega))
    · exact t6.fr kc.2.2.2.2.2.2.1 (fun i => V 24 i (by decide) (by decide)) (Gr _ (by omega)) (fun i _ _ => Gr _ (by omega))
    · exact t7.fr (fun i => V 28 i (by decide) (by decide)) (fun i _ _ => Gr _ (by omega))
    · exact t8.fr (v1 25) (v1 26) (Gr _ (by omega)) (Gr _ (by omega))
    · refine ⟨ls_ord l1 hR.2.2.2.2.1 (by omega) (LF 1 (by decide) (by decide) (by decide) (by omega)) FH (Gr _ (by omega)) (fun i _ _ => Gr _ (by omega)), ls_nam l2 hR.2.2.2.2.1 (by omega) (LF 3 (by decide) (by decide) (by decide) (by omega)) FH (Gr _ (by omega)) (fun n _ => ⟨Gr _ (by omega), Gr _ (by omega), Gr _ (by omega), Gr _ (by omega), Gr _ (by omega), Gr _ (by omega)⟩), ls_bar l3 hR.2.2.2.2.1 (by omega) (LF 5 (by decide) (by decide) (by decide) (by omega)) FH (Gr _ (by omega)) (fun i _ _ => Gr _ (by omega)), ls_han l4 hR.2.2.2.2.1 (by omega) (LF 7 (by decide) (by decide) (by decide) (by omega)) FH (Gr _ (by omega)) (fun i _ _ => Gr _ (by omega)), ?_, ls_cou l6 hR.2.2.2.2.1 (by omega) (LF 11 (by decide) (by decide) (by decide) (by omega)) FH (Gr _ (by omega)) (fun c _ => ⟨Gr _ (by omega), Gr _ (by omega), Gr _ (by omega), Gr _ (by omega)⟩)⟩
      rw [hcn, show x + 1 + 9 = x + 10 by omega]
      refine ⟨e', c', LE.fr rfl rfl rfl rfl (fun _ => rfl) (Nat.le_refl _) (fun i p hi hp => ?_), oe⟩
      rcases hp with ⟨p1, p2⟩ | ⟨p1, p2⟩
      · unfold PaperAt at p2 ⊢
        rw [Gr (3528 + 4 * i) (by omega), Gr (3529 + 4 * i) (by omega), Gr (3530 + 4 * i) (by omega), Gr (3531 + 4 * i) (by omega)]
        exact p2.fr FH.1 FH.2.1
      · subst p1
        subst p2
        unfold PaperAt
        rw [R0, R1, R2, R3]
        exact NA
  · generalize hT' : gI (sI (sI (sI (sI (sI σ 1 (3528 + 4 * n) a) 1 (3529 + 4 * n) b) 1 (3530 + 4 * n) c) 1 (3531 + 4 * n) d) 1 7 (Int32.ofNat (n + 1))) 1 = T' at *
    refine ⟨⟨by rw [Gr 0 (by omega)]; exact u0, by rw [Gr 1 (by omega)]; exact u1, by rw [Gr 2 (by omega)]; exact u2, by rw [Gr 3 (by omega)]; exact u3, by rw [Gr 4 (by omega)]; exact u4, by rw [Gr 5 (by omega)]; exact u5, by rw [Gr 6 (by omega)]; exact u6, by rw [R4]; exact ⟨i_pos (by omega), (i_le (b := 120) (by omega) (by decide)).mpr (by omega)⟩, by rw [Gr 8 (by omega)]; exact u8, by rw [Gr 9 (by omega)]; exact u9, by rw [Gr 10 (by omega)]; exact u10⟩, ?_, ?_, ?_, ?_, ?_, ?_, ?_, ?_, ?_⟩
    · exact W1.fr q1 kc.1 (Gr _ (by omega)) (fun i _ _ => Gr _ (by omega))
    · exact W2.fr q2 kc.2.1 (Gr _ (by omega)) (by rw [Gr 0 (by omega)]; exact Int32.le_refl _) (fun i _ _ => Gr _ (by omega))
    · exact W3.fr q3 kc.2.2.2.1 (Gr _ (by omega)) (by rw [Gr 0 (by omega)]; exact Int32.le_refl _) (fun i _ _ => Gr _ (by omega))
    · exact W4.fr q4 kc.2.2.2.2.1 (Gr _ (by omega)) (by rw [Gr 3 (by omega)]; exact Int32.le_refl _) (fun i _ _ => Gr _ (by omega))
    · exact W5.fr q5 kc.2.2.2.2.2.1 (Gr _ (by omega)) (by rw [Gr 4 (by omega)]; exact Int32.le_refl _) (fun i _ _ => Gr _ (by omega))
    · intro p hp
      have hp' : p < n + 1 := by rw [hcn] at hp; exact hp
      by_cases e : p = n
      · subst e
        rw [R0, R1, R2, R3, Gr 3 (by omega)]
        exact ⟨h1, h2, h3, h5⟩
      · rw [Gr (3528 + 4 * p) (by omega), Gr (3529 + 4 * p) (by omega), Gr (3530 + 4 * p) (by omega), Gr (3531 + 4 * p) (by omega), Gr (3) (by omega)]
        exact q6 p (by omega)
    · exact W7.fr q7 kc.2.2.2.2.2.2.1 (Gr _ (by omega)) (by rw [Gr 4 (by omega)]; exact Int32.le_refl _) (fun i _ _ => Gr _ (by omega))
    · exact W8.fr q8 (fun i _ _ => Gr _ (by omega))
    · exact W9.fr q9 kc.2.2.1 (Gr _ (by omega)) (fun i _ _ => Gr _ (by omega))
  · exact (U.1 x (by have := hR.1.2.2; omega) (by omega) (by rw [show ow x = 0 from hR.2.1.1 0 (by decide)]; omega)).2.1 (fun g => g) 1
  · exact U.lay hR.1 hR.2.1 ⟨by omega, by omega⟩
theorem RelT.count (hR : RelT ow x w σ) (hm1 : hsz w + 9000 ≤ hlc w) (hm2 : hns w + 110000 ≤ hls w) {n : Nat} (hn : cn (gI σ 1) 6 = n) (h4 : n < 200) {a b c d e : Int32} (h1 : 0 ≤ a ∧ a < gI σ 1 4) (h2 : rg b 0 7) (h3 : rg c 0 9) (h5 : rg d 0 16383) (h6 : rg e 0 399) : ∃ w' ow', mC_J2_add (x + 12) (hsz w) (nNote w a b c e 0) = some (1, w') ∧ RelT ow' x (siI w' (x + 25) n d) (sI (sI (sI (sI (sI (sI σ 1 (4008 + 5 * n) a) 1 (4009 + 5 * n) b) 1 (4010 + 5 * n) c) 1 (4011 + 5 * n) d) 1 (4012 + 5 * n) e) 1 6 (Int32.ofNat (n + 1))) ∧ LsT ow' w' (x + 12) (n + 1) (fun _ _ => True) ∧ hsz w' ≤ hsz w + 2 ∧ hns w' ≤ hns w + 2008 ∧ hlc w' = hlc w ∧ hls w' = hls w ∧ hvi w' x 1 = hvi w x 1 ∧ Lay x w' := by
  have hW := hR.2.2.2.2.1
  obtain ⟨t1, t2, t3, t4, t5, t6, t7, t8, t9⟩ := hR.2.2.2.1
  have kc := hW.c1
  obtain ⟨⟨u0, u1, u2, u3, u4, u5, u6, u7, u8, u9, u10⟩, q1, q2, q3, q4, q5, q6, q7, q8, q9⟩ := hW
  obtain ⟨l1, l2, l3, l4, l5, l6⟩ := t9
  have hl := l6
  rw [hn, show x + 1 + 11 = x + 12 by omega] at hl
  obtain ⟨w', ow', A, U, OX, OO, O0, ⟨z1, z2, z3, z4⟩, ⟨e', c', LE, oe⟩, s1, s2, s3, s4⟩ := addG (wn := nNote w a b c e 0) hR.2.1 hR.1.2.2 hm1 hm2 hR.2.2.1.1 hl ⟨by omega, by omega⟩ (hR.2.1.1 12 (by decide)) (by omega) (fun i p _ hp => (note_ok hp)) rfl (by show hns w + 5 ≤ hns w + 8; omega) rfl rfl rfl (fun b hb => nNote_o hb) (by unfold nNote; simp only [kd_I]; rw [kd_N, if_pos rfl]; decide)
  have NA : NoteAt ow' w' (hsz w) a b c e 0 := nNote_n z1 ⟨z2, z3⟩
  have U2 : Ul ow (x + 12) (fun b => b = x + 25) w (siI w' (x + 25) n d) := ⟨fun b g1 g2 g3 => ⟨(U.1 b g1 g2 g3).1, fun g i => by rw [vi_I, if_neg (by omega)]; exact (U.1 b g1 g2 g3).2.1 (fun f => f) i, (U.1 b g1 g2 g3).2.2.1, (U.1 b g1 g2 g3).2.2.2⟩, U.2.1, U.2.2.1, U.2.2.2⟩
  have LE2 : LsE (siI w' (x + 25) n d) (x + 12) (n + 1) e' c' (fun i p => (i < n ∧ CountAt ow w (gI σ 1) i p) ∨ (i = n ∧ p = hsz w)) := LE.fr rfl (by rw [vi_I, if_neg (by omega)]) rfl rfl (fun _ => rfl) (Nat.le_refl _) (fun _ _ _ h => h)
  have NA2 : NoteAt ow' (siI w' (x + 25) n d) (hsz w) a b c e 0 := by
    have hx67 := hR.1.2.2
    obtain ⟨m1, m2, m3, m4, m5, m6, m7⟩ := NA
    exact ⟨m1, m2, by rw [vi_I, if_neg (by omega)]; exact m3, by rw [vi_I, if_neg (by omega)]; exact m4, by rw [vi_I, if_neg (by omega)]; exact m5, by rw [vi_I, if_neg (by omega)]; exact m6, by rw [vi_I, if_neg (by omega)]; exact m7⟩
  have G0 : hvi (siI w' (x + 25) n d) (x + 25) n = d := by rw [vi_I, if_pos ⟨rfl, rfl⟩]
  have Gn : ∀ i, i ≠ n → hvi (siI w' (x + 25) n d) (x + 25) i = hvi w (x + 25) i := fun i hi => by
    have := (U.1 (x + 25) (by have := hR.1.2.2; omega) (by omega) (by rw [hR.2.1.1 25 (by decide)]; omega)).2.1 (fun f => f) i
    rw [vi_I, if_neg (by omega)]; exact this
  have OO : Ow x ow' (siI w' (x + 25) n d) := OO
  obtain ⟨TL, v1, vi, vl, FH, LF⟩ := TRep.gr hR U2 ⟨by omega, by omega⟩ (hR.2.1.1 12 (by decide)) (fun b g => by omega) OX
  have V : ∀ j i, 13 ≤ j → j ≤ 28 → j ≠ 24 → hvi (siI w' (x + 25) n d) (x + 1 + j) i = hvi w (x + 1 + j) i := fun j i a b c => by rw [show x + 1 + j = x + (j + 1) by omega]; exact vi (j + 1) (by omega) (by omega) (by omega) i
  have VL : ∀ j i, 13 ≤ j → j ≤ 28 → hvl (siI w' (x + 25) n d) (x + 1 + j) i = hvl w (x + 1 + j) i := fun j i a b => by rw [show x + 1 + j = x + (j + 1) by omega]; exact vl (j + 1) (by omega) (by omega) i
  have Gr : ∀ i, (i ≠ (4008 + 5 * n) ∧ i ≠ (4009 + 5 * n) ∧ i ≠ (4010 + 5 * n) ∧ i ≠ (4011 + 5 * n) ∧ i ≠ (4012 + 5 * n) ∧ i ≠ 6) → gI (sI (sI (sI (sI (sI (sI σ 1 (4008 + 5 * n) a) 1 (4009 + 5 * n) b) 1 (4010 + 5 * n) c) 1 (4011 + 5 * n) d) 1 (4012 + 5 * n) e) 1 6 (Int32.ofNat (n + 1))) 1 i = gI σ 1 i := by
    intro i h
    obtain ⟨g0, g1, g2, g3, g4, g5⟩ := h
    rw [rowS_ne g5, rowS_ne g4, rowS_ne g3, rowS_ne g2, rowS_ne g1, rowS_ne g0]
  have R0 : gI (sI (sI (sI (sI (sI (sI σ 1 (4008 + 5 * n) a) 1 (4009 + 5 * n) b) 1 (4010 + 5 * n) c) 1 (4011 + 5 * n) d) 1 (4012 + 5 * n) e) 1 6 (Int32.ofNat (n + 1))) 1 ((4008 + 5 * n)) = a := by
    rw [rowS_ne (by omega), rowS_ne (by omega), rowS_ne (by omega), rowS_ne (by omega), rowS_ne (by omega), rowS_eq]
  have R1 : gI (sI (sI (sI (sI (sI (sI σ 1 (4008 + 5 * n) a) 1 (4009 + 5 * n) b) 1 (4010 + 5 * n) c) 1 (4011 + 5 * n) d) 1 (4012 + 5 * n) e) 1 6 (Int32.ofNat (n + 1))) 1 ((4009 + 5 * n)) = b := by
    rw [rowS_ne (by omega), rowS_ne (by omega), rowS_ne (by omega), rowS_ne (by omega), rowS_eq]
  have R2 : gI (sI (sI (sI (sI (sI (sI σ 1 (4008 + 5 * n) a) 1 (4009 + 5 * n) b) 1 (4010 + 5 * n) c) 1 (4011 + 5 * n) d) 1 (4012 + 5 * n) e) 1 6 (Int32.ofNat (n + 1))) 1 ((4010 + 5 * n)) = c := by
    rw [rowS_ne (by omega), rowS_ne (by omega), rowS_ne (by omega), rowS_eq]
  have R3 : gI (sI (sI (sI (sI (sI (sI σ 1 (4008 + 5 * n) a) 1 (4009 + 5 * n) b) 1 (4010 + 5 * n) c) 1 (4011 + 5 * n) d) 1 (4012 + 5 * n) e) 1 6 (Int32.ofNat (n + 1))) 1 ((4011 + 5 * n)) = d := by
    rw [rowS_ne (by omega), rowS_ne (by omega), rowS_eq]
  have R4 : gI (sI (sI (sI (sI (sI (sI σ 1 (4008 + 5 * n) a) 1 (4009 + 5 * n) b) 1 (4010 + 5 * n) c) 1 (4011 + 5 * n) d) 1 (4012 + 5 * n) e) 1 6 (Int32.ofNat (n + 1))) 1 ((4012 + 5 * n)) = e := by
    rw [rowS_ne (by omega), rowS_eq]
  have R5 : gI (sI (sI (sI (sI (sI (sI σ 1 (4008 + 5 * n) a) 1 (4009 + 5 * n) b) 1 (4010 + 5 * n) c) 1 (4011 + 5 * n) d) 1 (4012 + 5 * n) e) 1 6 (Int32.ofNat (n + 1))) 1 (6) = (Int32.ofNat (n + 1)) := by
    rw [rowS_eq]
  have hcn : cn (gI (sI (sI (sI (sI (sI (sI σ 1 (4008 + 5 * n) a) 1 (4009 + 5 * n) b) 1 (4010 + 5 * n) c) 1 (4011 + 5 * n) d) 1 (4012 + 5 * n) e) 1 6 (Int32.ofNat (n + 1))) 1) 6 = n + 1 := by unfold cn; rw [R5, i_nat (by omega)]
  refine ⟨w', ow', A, hR.al U2 ⟨by omega, by omega⟩ (hR.2.1.1 12 (by decide)) (fun b g => by omega) OX OO (fun k t hk ht j hj h0 => O0 _ (hR.imgsz hk ht hj) h0) (fun j i hj _ => ?_) ?_ ?_, ⟨e', c', LE.fr rfl rfl rfl rfl (fun _ => rfl) (Nat.le_refl _) (fun _ _ _ _ => trivial), oe⟩, s1, s2, s3, s4, ?_, ?_⟩
  · rw [gI_sI, if_neg (by omega), gI_sI, if_neg (by omega), gI_sI, if_neg (by omega), gI_sI, if_neg (by omega), gI_sI, if_neg (by omega), gI_sI, if_neg (by omega)]
  · generalize hT' : gI (sI (sI (sI (sI (sI (sI σ 1 (4008 + 5 * n) a) 1 (4009 + 5 * n) b) 1 (4010 + 5 * n) c) 1 (4011 + 5 * n) d) 1 (4012 + 5 * n) e) 1 6 (Int32.ofNat (n + 1))) 1 = T' at *
    refine ⟨TL, ?_, ?_, ?_, ?_, ?_, ?_, ?_, ?_⟩
    · exact t2.fr kc.1 (v1 22) (fun i => V 13 i (by decide) (by decide) (by decide)) (fun i => V 14 i (by decide) (by decide) (by decide)) (fun i => V 15 i (by decide) (by decide) (by decide)) (Gr _ (by omega)) (fun i _ _ => Gr _ (by omega))
    · exact t3.fr kc.2.1 (fun j i g1 g2 => V j i (by omega) (by omega) (by omega)) (Gr _ (by omega)) (fun i _ _ => Gr _ (by omega))
    · exact t4.fr kc.2.2.2.1 (v1 23) (fun i => V 21 i (by decide) (by decide) (by decide)) (fun i => V 25 i (by decide) (by decide) (by decide)) (fun i => VL 26 i (by decide) (by decide)) (fun i => VL 27 i (by decide) (by decide)) (Gr _ (by omega)) (fun i _ _ => Gr _ (by omega))
    · exact t5.fr kc.2.2.2.2.1 (v1 24) (fun i => V 22 i (by decide) (by decide) (by decide)) (fun i => V 23 i (by decide) (by decide) (by decide)) (Gr _ (by omega)) (fun i _ _ => Gr _ (by omega))
    · intro p hp
      have hp' : p < n + 1 := by rw [hcn] at hp; exact hp
      by_cases e : p = n
      · subst e
        exact G0.trans R3.symm
      · rw [show x + 1 + 24 = x + 25 by omega, Gn p e, Gr _ (by omega)]
        exact t6 p (by omega)
    · exact t7.fr (fun i => V 28 i (by decide) (by decide) (by decide)) (fun i _ _ => Gr _ (by omega))
    · exact t8.fr (v1 25) (v1 26) (Gr _ (by omega)) (Gr _ (by omega))
    · refine ⟨ls_ord l1 hR.2.2.2.2.1 (by omega) (LF 1 (by decide) (by decide) (by decide) (by omega)) FH (Gr _ (by omega)) (fun i _ _ => Gr _ (by omega)), ls_nam l2 hR.2.2.2.2.1 (by omega) (LF 3 (by decide) (by decide) (by decide) (by omega)) FH (Gr _ (by omega)) (fun n _ => ⟨Gr _ (by omega), Gr _ (by omega), Gr _ (by omega), Gr _ (by omega), Gr _ (by omega), Gr _ (by omega)⟩), ls_bar l3 hR.2.2.2.2.1 (by omega) (LF 5 (by decide) (by decide) (by decide) (by omega)) FH (Gr _ (by omega)) (fun i _ _ => Gr _ (by omega)), ls_han l4 hR.2.2.2.2.1 (by omega) (LF 7 (by decide) (by decide) (by decide) (by omega)) FH (Gr _ (by omega)) (fun i _ _ => Gr _ (by omega)), ls_pap l5 hR.2.2.2.2.1 (by omega) (LF 9 (by decide) (by decide) (by decide) (by omega)) FH (Gr _ (by omega)) (fun i _ _ => Gr _ (by omega)), ?_⟩
      rw [hcn, show x + 1 + 11 = x + 12 by omega]
      refine ⟨e', c', LE2.fr rfl rfl rfl rfl (fun _ => rfl) (Nat.le_refl _) (fun i p hi hp => ?_), oe⟩
      rcases hp with ⟨p1, p2⟩ | ⟨p1, p2⟩
      · unfold CountAt at p2 ⊢
        rw [Gr (4008 + 5 * i) (by omega), Gr (4009 + 5 * i) (by omega), Gr (4010 + 5 * i) (by omega), Gr (4012 + 5 * i) (by omega)]
        exact p2.fr FH.1 FH.2.1
      · subst p1
        subst p2
        unfold CountAt
        rw [R0, R1, R2, R4]
        exact NA2
  · generalize hT' : gI (sI (sI (sI (sI (sI (sI σ 1 (4008 + 5 * n) a) 1 (4009 + 5 * n) b) 1 (4010 + 5 * n) c) 1 (4011 + 5 * n) d) 1 (4012 + 5 * n) e) 1 6 (Int32.ofNat (n + 1))) 1 = T' at *
    refine ⟨⟨by rw [Gr 0 (by omega)]; exact u0, by rw [Gr 1 (by omega)]; exact u1, by rw [Gr 2 (by omega)]; exact u2, by rw [Gr 3 (by omega)]; exact u3, by rw [Gr 4 (by omega)]; exact u4, by rw [Gr 5 (by omega)]; exact u5, by rw [R5]; exact ⟨i_pos (by omega), (i_le (b := 200) (by omega) (by decide)).mpr (by omega)⟩, by rw [Gr 7 (by omega)]; exact u7, by rw [Gr 8 (by omega)]; exact u8, by rw [Gr 9 (by omega)]; exact u9, by rw [Gr 10 (by omega)]; exact u10⟩, ?_, ?_, ?_, ?_, ?_, ?_, ?_, ?_, ?_⟩
    · exact W1.fr q1 kc.1 (Gr _ (by omega)) (fun i _ _ => Gr _ (by omega))
    · exact W2.fr q2 kc.2.1 (Gr _ (by omega)) (by rw [Gr 0 (by omega)]; exact Int32.le_refl _) (fun i _ _ => Gr _ (by omega))
    · exact W3.fr q3 kc.2.2.2.1 (Gr _ (by omega)) (by rw [Gr 0 (by omega)]; exact Int32.le_refl _) (fun i _ _ => Gr _ (by omega))
    · exact W4.fr q4 kc.2.2.2.2.1 (Gr _ (by omega)) (by rw [Gr 3 (by omega)]; exact Int32.le_refl _) (fun i _ _ => Gr _ (by omega))
    · exact W5.fr q5 kc.2.2.2.2.2.1 (Gr _ (by omega)) (by rw [Gr 4 (by omega)]; exact Int32.le_refl _) (fun i _ _ => Gr _ (by omega))
    · exact W6.fr q6 kc.2.2.2.2.2.2.2.1 (Gr _ (by omega)) (by rw [Gr 3 (by omega)]; exact Int32.le_refl _) (fun i _ _ => Gr _ (by omega))
    · intro p hp
      have hp' : p < n + 1 := by rw [hcn] at hp; exact hp
      by_cases e : p = n
      · subst e
        rw [R0, R1, R2, R3, R4, Gr 4 (by omega)]
        exact ⟨h1, h2, h3, h5, h6⟩
      · rw [Gr (4008 + 5 * p) (by omega), Gr (4009 + 5 * p) (by omega), Gr (4010 + 5 * p) (by omega), Gr (4011 + 5 * p) (by omega), Gr (4012 + 5 * p) (by omega), Gr (4) (by omega)]
        exact q7 p (by omega)
    · exact W8.fr q8 (fun i _ _ => Gr _ (by omega))
    · exact W9.fr q9 kc.2.2.1 (Gr _ (by omega)) (fun i _ _ => Gr _ (by omega))
  · exact (U.1 x (by have := hR.1.2.2; omega) (by omega) (by rw [show ow x = 0 from hR.2.1.1 0 (by decide)]; omega)).2.1 (fun g => g) 1
  · exact U.lay hR.1 hR.2.1 ⟨by omega, by omega⟩

end OL
