set_option maxRecDepth 100000
section ON
variable {ow ow' : Nat → Nat} {w w' wn : AH} {T T' : Nat → Int32} {x t : Nat} {σ σ' : SM} {L n : Nat}
theorem RelT.name (hR : RelT ow x w σ) (hm1 : hsz w + 9000 ≤ hlc w) (hm2 : hns w + 110000 ≤ hls w) {n kd : Nat} {p h a l c : Int32} (hn : cn (gI σ 1) 1 = n) (h4 : n < 200) (hk : kd < 4) (h1 : 0 ≤ p ∧ p < gI σ 1 0) (h2 : rg h 0 99) (h3 : rg a 0 120) (h5 : rg c 0 399) : ∃ w' ow', mC_J2_add (x + 4) (hsz w) (nName w kd p h a l c) = some (1, w') ∧ RelT ow' x (siI (siI w' (x + 17) n (-1)) (x + 19) n (-1)) (sI (sI (sI (sI (sI (sI (sI (sI (sI (sI (sI (sI (sI σ 1 (68 + 11 * n) p) 1 (69 + 11 * n) h) 1 (70 + 11 * n) a) 1 (71 + 11 * n) (Int32.ofNat kd)) 1 (72 + 11 * n) l) 1 (73 + 11 * n) c) 1 (74 + 11 * n) (-1)) 1 (75 + 11 * n) (-1)) 1 (75 + 11 * n) (-1)) 1 (76 + 11 * n) (-1)) 1 (77 + 11 * n) (-1)) 1 (78 + 11 * n) (-1)) 1 1 (Int32.ofNat (n + 1))) ∧ hsz w' ≤ hsz w + 2 ∧ hns w' ≤ hns w + 2008 ∧ hlc w' = hlc w ∧ hls w' = hls w ∧ hvi w' x 1 = hvi w x 1 ∧ Lay x w' := by
  have hW := hR.2.2.2.2.1
  obtain ⟨t1, t2, t3, t4, t5, t6, t7, t8, t9⟩ := hR.2.2.2.1
  have kc := hW.c1
  obtain ⟨⟨u0, u1, u2, u3, u4, u5, u6, u7, u8, u9, u10⟩, q1, q2, q3, q4, q5, q6, q7, q8, q9⟩ := hW
  obtain ⟨l1, l2, l3, l4, l5, l6⟩ := t9
  have hl := l2
  rw [hn, show x + 1 + 3 = x + 4 by omega] at hl
  have hx67 := hR.1.2.2
  obtain ⟨w', ow', A, U, OX, OO, O0, ⟨z1, z2, z3, z4⟩, ⟨e', c', LE, oe⟩, s1, s2, s3, s4⟩ := addG (wn := nName w kd p h a l c) hR.2.1 hR.1.2.2 hm1 hm2 hR.2.2.1.1 hl ⟨by omega, by omega⟩ (hR.2.1.1 4 (by decide)) (by omega) (fun i p _ hp => name_ok hp) rfl (by show hns w + 5 ≤ hns w + 8; omega) rfl rfl rfl (fun b hb => nName_o hb) (by unfold nName; simp only [kd_I]; rw [kd_N, if_pos rfl]; show 10 ≤ 19 + kd ∧ 19 + kd < 37; omega)
  have NK : hkd w' (hsz w) = (19 + kd, 5) := by rw [z2]; unfold nName; simp only [kd_I]; rw [kd_N, if_pos rfl]
  have N0 : hvi (siI (siI w' (x + 17) n (-1)) (x + 19) n (-1)) (hsz w) 0 = p := by
    rw [vi_I, if_neg (by omega), vi_I, if_neg (by omega), z3]; unfold nName; simp [vi_I]
  have N1 : hvi (siI (siI w' (x + 17) n (-1)) (x + 19) n (-1)) (hsz w) 1 = h := by
    rw [vi_I, if_neg (by omega), vi_I, if_neg (by omega), z3]; unfold nName; simp [vi_I]
  have N2 : hvi (siI (siI w' (x + 17) n (-1)) (x + 19) n (-1)) (hsz w) 2 = a := by
    rw [vi_I, if_neg (by omega), vi_I, if_neg (by omega), z3]; unfold nName; simp [vi_I]
  have N3 : hvi (siI (siI w' (x + 17) n (-1)) (x + 19) n (-1)) (hsz w) 3 = l := by
    rw [vi_I, if_neg (by omega), vi_I, if_neg (by omega), z3]; unfold nName; simp [vi_I]
  have N4 : hvi (siI (siI w' (x + 17) n (-1)) (x + 19) n (-1)) (hsz w) 4 = c := by
    rw [vi_I, if_neg (by omega), vi_I, if_neg (by omega), z3]; unfold nName; simp [vi_I]
  have U2 : Ul ow (x + 4) (fun b => b = x + 17 ∨ b = x + 19) w (siI (siI w' (x + 17) n (-1)) (x + 19) n (-1)) := ⟨fun b g1 g2 g3 => ⟨(U.1 b g1 g2 g3).1, fun g i => by rw [vi_I, if_neg (by omega), vi_I, if_neg (by omega)]; exact (U.1 b g1 g2 g3).2.1 (fun f => f) i, (U.1 b g1 g2 g3).2.2.1, (U.1 b g1 g2 g3).2.2.2⟩, U.2.1, U.2.2.1, U.2.2.2⟩
  have LE2 : LsE (siI (siI w' (x + 17) n (-1)) (x + 19) n (-1)) (x + 4) (n + 1) e' c' (fun i p => (i < n ∧ NameAt ow w (gI σ 1) i p) ∨ (i = n ∧ p = hsz w)) := LE.fr rfl (by rw [vi_I, if_neg (by omega), vi_I, if_neg (by omega)]) rfl rfl (fun _ => rfl) (Nat.le_refl _) (fun _ _ _ h => h)
  have G0 : hvi (siI (siI w' (x + 17) n (-1)) (x + 19) n (-1)) (x + 17) n = -1 := by rw [vi_I, if_neg (by omega), vi_I, if_pos ⟨rfl, rfl⟩]
  have G1 : hvi (siI (siI w' (x + 17) n (-1)) (x + 19) n (-1)) (x + 19) n = -1 := by rw [vi_I, if_pos ⟨rfl, rfl⟩]
  have Gn17 : ∀ i, i ≠ n → hvi (siI (siI w' (x + 17) n (-1)) (x + 19) n (-1)) (x + 17) i = hvi w (x + 17) i := fun i hi => by
    have := (U.1 (x + 17) (by omega) (by omega) (by rw [hR.2.1.1 17 (by decide)]; omega)).2.1 (fun f => f) i
    rw [vi_I, if_neg (by omega), vi_I, if_neg (by omega)]; exact this
  have Gn19 : ∀ i, i ≠ n → hvi (siI (siI w' (x + 17) n (-1)) (x + 19) n (-1)) (x + 19) i = hvi w (x + 19) i := fun i hi => by
    have := (U.1 (x + 19) (by omega) (by omega) (by rw [hR.2.1.1 19 (by decide)]; omega)).2.1 (fun f => f) i
    rw [vi_I, if_neg (by omega), vi_I, if_neg (by omega)]; exact this
  have OO : Ow x ow' (siI (siI w' (x + 17) n (-1)) (x + 19) n (-1)) := OO
  obtain ⟨TL, v1, vi, vl, FH, LF⟩ := TRep.gr hR U2 ⟨by omega, by omega⟩ (hR.2.1.1 4 (by decide)) (fun b g => by omega) OX
  have V : ∀ j i, 13 ≤ j → j ≤ 28 → j ≠ 16 → j ≠ 18 → hvi (siI (siI w' (x + 17) n (-1)) (x + 19) n (-1)) (x + 1 + j) i = hvi w (x + 1 + j) i := fun j i a b c d => by rw [show x + 1 + j = x + (j + 1) by omega]; exact vi (j + 1) (by omega) (by omega) (by omega) i
  have VL : ∀ j i, 13 ≤ j → j ≤ 28 → hvl (siI (siI w' (x + 17) n (-1)) (x + 19) n (-1)) (x + 1 + j) i = hvl w (x + 1 + j) i := fun j i a b => by rw [show x + 1 + j = x + (j + 1) by omega]; exact vl (j + 1) (by omega) (by omega) i
  have Gr : ∀ i, (i ≠ (68 + 11 * n) ∧ i ≠ (69 + 11 * n) ∧ i ≠ (70 + 11 * n) ∧ i ≠ (71 + 11 * n) ∧ i ≠ (72 + 11 * n) ∧ i ≠ (73 + 11 * n) ∧ i ≠ (74 + 11 * n) ∧ i ≠ (75 + 11 * n) ∧ i ≠ (75 + 11 * n) ∧ i ≠ (76 + 11 * n) ∧ i ≠ (77 + 11 * n) ∧ i ≠ (78 + 11 * n) ∧ i ≠ 1) → gI (sI (sI (sI (sI (sI (sI (sI (sI (sI (sI (sI (sI (sI σ 1 (68 + 11 * n) p) 1 (69 + 11 * n) h) 1 (70 + 11 * n) a) 1 (71 + 11 * n) (Int32.ofNat kd)) 1 (72 + 11 * n) l) 1 (73 + 11 * n) c) 1 (74 + 11 * n) (-1)) 1 (75 + 11 * n) (-1)) 1 (75 + 11 * n) (-1)) 1 (76 + 11 * n) (-1)) 1 (77 + 11 * n) (-1)) 1 (78 + 11 * n) (-1)) 1 1 (Int32.ofNat (n + 1))) 1 i = gI σ 1 i := by
    intro i h
    obtain ⟨g0, g1, g2, g3, g4, g5, g6, g7, g8, g9, g10, g11, g12⟩ := h
    rw [rowS_ne g12, rowS_ne g11, rowS_ne g10, rowS_ne g9, rowS_ne g8, rowS_ne g7, rowS_ne g6, rowS_ne g5, rowS_ne g4, rowS_ne g3, rowS_ne g2, rowS_ne g1, rowS_ne g0]
  have R0 : gI (sI (sI (sI (sI (sI (sI (sI (sI (sI (sI (sI (sI (sI σ 1 (68 + 11 * n) p) 1 (69 + 11 * n) h) 1 (70 + 11 * n) a) 1 (71 + 11 * n) (Int32.ofNat kd)) 1 (72 + 11 * n) l) 1 (73 + 11 * n) c) 1 (74 + 11 * n) (-1)) 1 (75 + 11 * n) (-1)) 1 (75 + 11 * n) (-1)) 1 (76 + 11 * n) (-1)) 1 (77 + 11 * n) (-1)) 1 (78 + 11 * n) (-1)) 1 1 (Int32.ofNat (n + 1))) 1 ((68 + 11 * n)) = p := by
    rw [rowS_ne (by omega), rowS_ne (by omega), rowS_ne (by omega), rowS_ne (by omega), rowS_ne (by omega), rowS_ne (by omega), rowS_ne (by omega), rowS_ne (by omega), rowS_ne (by omega), rowS_ne (by omega), rowS_ne (by omega), rowS_ne (by omega), rowS_eq]
  have R1 : gI (sI (sI (sI (sI (sI (sI (sI (sI (sI (sI (sI (sI (sI σ 1 (68 + 11 * n) p) 1 (69 + 11 * n) h) 1 (70 + 11 * n) a) 1 (71 + 11 * n) (Int32.ofNat kd)) 1 (72 + 11 * n) l) 1 (73 + 11 * n) c) 1 (74 + 11 * n) (-1)) 1 (75 + 11 * n) (-1)) 1 (75 + 11 * n) (-1)) 1 (76 + 11 * n) (-1)) 1 (77 + 11 * n) (-1)) 1 (78 + 11 * n) (-1)) 1 1 (Int32.ofNat (n + 1))) 1 ((69 + 11 * n)) = h := by
    rw [rowS_ne (by omega), rowS_ne (by omega), rowS_ne (by omega), rowS_ne (by omega), rowS_ne (by omega), rowS_ne (by omega), rowS_ne (by omega), rowS_ne (by omega), rowS_ne (by omega), rowS_ne (by omega), rowS_ne (by omega), rowS_eq]
  have R2 : gI (sI (sI (sI (sI (sI (sI (sI (sI (sI (sI (sI (sI (sI σ 1 (68 + 11 * n) p) 1 (69 + 11 * n) h) 1 (70 + 11 * n) a) 1 (71 + 11 * n) (Int32.ofNat kd)) 1 (72 + 11 * n) l) 1 (73 + 11 * n) c) 1 (74 + 11 * n) (-1)) 1 (75 + 11 * n) (-1)) 1 (75 + 11 * n) (-1)) 1 (76 + 11 * n) (-1)) 1 (77 + 11 * n) (-1)) 1 (78 + 11 * n) (-1)) 1 1 (Int32.ofNat (n + 1))) 1 ((70 + 11 * n)) = a := by
    rw [rowS_ne (by omega), rowS_ne (by omega), rowS_ne (by omega), rowS_ne (by omega), rowS_ne (by omega), rowS_ne (by omega), rowS_ne (by omega), rowS_ne (by omega), rowS_ne (by omega), rowS_ne (by omega), rowS_eq]
  have R3 : gI (sI (sI (sI (sI (sI (sI (sI (sI (sI (sI (sI (sI (sI σ 1 (68 + 11 * n) p) 1 (69 + 11 * n) h) 1 (70 + 11 * n) a) 1 (71 + 11 * n) (Int32.ofNat kd)) 1 (72 + 11 * n) l) 1 (73 + 11 * n) c) 1 (74 + 11 * n) (-1)) 1 (75 + 11 * n) (-1)) 1 (75 + 11 * n) (-1)) 1 (76 + 11 * n) (-1)) 1 (77 + 11 * n) (-1)) 1 (78 + 11 * n) (-1)) 1 1 (Int32.ofNat (n + 1))) 1 ((71 + 11 * n)) = (Int32.ofNat kd) := by
    rw [rowS_ne (by omega), rowS_ne (by omega), rowS_ne (by omega), rowS_ne (by omega), rowS_ne (by omega), rowS_ne (by omega), rowS_ne (by omega), rowS_ne (by omega), rowS_ne (by omega), rowS_eq]
  have R4 : gI (sI (sI (sI (sI (sI (sI (sI (sI (sI (sI (sI (sI (sI σ 1 (68 + 11 * n) p) 1 (69 + 11 * n) h) 1 (70 + 11 * n) a) 1 (71 + 11 * n) (Int32.ofNat kd)) 1 (72 + 11 * n) l) 1 (73 + 11 * n) c) 1 (74 + 11 * n) (-1)) 1 (75 + 11 * n) (-1)) 1 (75 + 11 * n) (-1)) 1 (76 + 11 * n) (-1)) 1 (77 + 11 * n) (-1)) 1 (78 + 11 * n) (-1)) 1 1 (Int32.ofNat (n + 1))) 1 ((72 + 11 * n)) = l := by
    rw [rowS_ne (by omega), rowS_ne (by omega), rowS_ne (by omega), rowS_ne (by omega), rowS_ne (by omega), rowS_ne (by omega), rowS_ne (by omega), rowS_ne (by omega), rowS_eq]
  have R5 : gI (sI (sI (sI (sI (sI (sI (sI (sI (sI (sI (sI (sI (sI σ 1 (68 + 11 * n) p) 1 (69 + 11 * n) h) 1 (70 + 11 * n) a) 1 (71 + 11 * n) (Int32.ofNat kd)) 1 (72 + 11 * n) l) 1 (73 + 11 * n) c) 1 (74 + 11 * n) (-1)) 1 (75 + 11 * n) (-1)) 1 (75 + 11 * n) (-1)) 1 (76 + 11 * n) (-1)) 1 (77 + 11 * n) (-1)) 1 (78 + 11 * n) (-1)) 1 1 (Int32.ofNat (n + 1))) 1 ((73 + 11 * n)) = c := by
    rw [rowS_ne (by omega), rowS_ne (by omega), rowS_ne (by omega), rowS_ne (by omega), rowS_ne (by omega), rowS_ne (by omega), rowS_ne (by omega), rowS_eq]
  have R6 : gI (sI (sI (sI (sI (sI (sI (sI (sI (sI (sI (sI (sI (sI σ 1 (68 + 11 * n) p) 1 (69 + 11 * n) h) 1 (70 + 11 * n) a) 1 (71 + 11 * n) (Int32.ofNat kd)) 1 (72 + 11 * n) l) 1 (73 + 11 * n) c) 1 (74 + 11 * n) (-1)) 1 (75 + 11 * n) (-1)) 1 (75 + 11 * n) (-1)) 1 (76 + 11 * n) (-1)) 1 (77 + 11 * n) (-1)) 1 (78 + 11 * n) (-1)) 1 1 (Int32.ofNat (n + 1))) 1 ((74 + 11 * n)) = (-1) := by
    rw [rowS_ne (by omega), rowS_ne (by omega), rowS_ne (by omega), rowS_ne (by omega), rowS_ne (by omega), rowS_ne (by omega), rowS_eq]
  have R8 : gI (sI (sI (sI (sI (sI (sI (sI (sI (sI (sI (sI (sI (sI σ 1 (68 + 11 * n) p) 1 (69 + 11 * n) h) 1 (70 + 11 * n) a) 1 (71 + 11 * n) (Int32.ofNat kd)) 1 (72 + 11 * n) l) 1 (73 + 11 * n) c) 1 (74 + 11 * n) (-1)) 1 (75 + 11 * n) (-1)) 1 (75 + 11 * n) (-1)) 1 (76 + 11 * n) (-1)) 1 (77 + 11 * n) (-1)) 1 (78 + 11 * n) (-1)) 1 1 (Int32.ofNat (n + 1))) 1 ((75 + 11 * n)) = (-1) := by
    rw [rowS_ne (by omega), rowS_ne (by omega), rowS_ne (by omega), rowS_ne (by omega), rowS_eq]
  have R9 : gI (sI (sI (sI (sI (sI (sI (sI (sI (sI (sI (sI (sI (sI σ 1 (68 + 11 * n) p) 1 (69 + 11 * n) h) 1 (70 + 11 * n) a) 1 (71 + 11 * n) (Int32.ofNat kd)) 1 (72 + 11 * n) l) 1 (73 + 11 * n) c) 1 (74 + 11 * n) (-1)) 1 (75 + 11 * n) (-1)) 1 (75 + 11 * n) (-1)) 1 (76 + 11 * n) (-1)) 1 (77 + 11 * n) (-1)) 1 (78 + 11 * n) (-1)) 1 1 (Int32.ofNat (n + 1))) 1 ((76 + 11 * n)) = (-1) := by
    rw [rowS_ne (by omega), rowS_ne (by omega), rowS_ne (by omega), rowS_eq]
  have R10 : gI (sI (sI (sI (sI (sI (sI (sI (sI (sI (sI (sI (sI (sI σ 1 (68 + 11 * n) p) 1 (69 + 11 * n) h) 1 (70 + 11 * n) a) 1 (71 + 11 * n) (Int32.ofNat kd)) 1 (72 + 11 * n) l) 1 (73 + 11 * n) c) 1 (74 + 11 * n) (-1)) 1 (75 + 11 * n) (-1)) 1 (75 + 11 * n) (-1)) 1 (76 + 11 * n) (-1)) 1 (77 + 11 * n) (-1)) 1 (78 + 11 * n) (-1)) 1 1 (Int32.ofNat (n + 1))) 1 ((77 + 11 * n)) = (-1) := by
    rw [rowS_ne (by omega), rowS_ne (by omega), rowS_eq]
  have R11 : gI (sI (sI (sI (sI (sI (sI (sI (sI (sI (sI (sI (sI (sI σ 1 (68 + 11 * n) p) 1 (69 + 11 * n) h) 1 (70 + 11 * n) a) 1 (71 + 11 * n) (Int32.ofNat kd)) 1 (72 + 11 * n) l) 1 (73 + 11 * n) c) 1 (74 + 11 * n) (-1)) 1 (75 + 11 * n) (-1)) 1 (75 + 11 * n) (-1)) 1 (76 + 11 * n) (-1)) 1 (77 + 11 * n) (-1)) 1 (78 + 11 * n) (-1)) 1 1 (Int32.ofNat (n + 1))) 1 ((78 + 11 * n)) = (-1) := by
    rw [rowS_ne (by omega), rowS_eq]
  have R12 : gI (sI (sI (sI (sI (sI (sI (sI (sI (sI (sI (sI (sI (sI σ 1 (68 + 11 * n) p) 1 (69 + 11 * n) h) 1 (70 + 11 * n) a) 1 (71 + 11 * n) (Int32.ofNat kd)) 1 (72 + 11 * n) l) 1 (73 + 11 * n) c) 1 (74 + 11 * n) (-1)) 1 (75 + 11 * n) (-1)) 1 (75 + 11 * n) (-1)) 1 (76 + 11 * n) (-1)) 1 (77 + 11 * n) (-1)) 1 (78 + 11 * n) (-1)) 1 1 (Int32.ofNat (n + 1))) 1 (1) = (Int32.ofNat (n + 1)) := by
    rw [rowS_eq]
  have hcn : cn (gI (sI (sI (sI (sI (sI (sI (sI (sI (sI (sI (sI (sI (sI σ 1 (68 + 11 * n) p) 1 (69 + 11 * n) h) 1 (70 + 11 * n) a) 1 (71 + 11 * n) (Int32.ofNat kd)) 1 (72 + 11 * n) l) 1 (73 + 11 * n) c) 1 (74 + 11 * n) (-1)) 1 (75 + 11 * n) (-1)) 1 (75 + 11 * n) (-1)) 1 (76 + 11 * n) (-1)) 1 (77 + 11 * n) (-1)) 1 (78 + 11 * n) (-1)) 1 1 (Int32.ofNat (n + 1))) 1) 1 = n + 1 := by unfold cn; rw [R12, i_nat (by omega)]
  refine ⟨w', ow', A, hR.al U2 ⟨by omega, by omega⟩ (hR.2.1.1 4 (by decide)) (fun b g => by omega) OX OO (fun k t hk ht j hj h0 => O0 _ (hR.imgsz hk ht hj) h0) (fun j i hj _ => ?_) ?_ ?_, s1, s2, s3, s4, ?_, ?_⟩
  · rw [gI_sI, if_neg (by omega), gI_sI, if_neg (by omega), gI_sI, if_neg (by omega), gI_sI, if_neg (by omega), gI_sI, if_neg (by omega), gI_sI, if_neg (by omega), gI_sI, if_neg (by omega), gI_sI, if_neg (by omega), gI_sI, if_neg (by omega), gI_sI, if_neg (by omega), gI_sI, if_neg (by omega), gI_sI, if_neg (by omega), gI_sI, if_neg (by omega)]
  · generalize hT' : gI (sI (sI (sI (sI (sI (sI (sI (sI (sI (sI (sI (sI (sI σ 1 (68 + 11 * n) p) 1 (69 + 11 * n) h) 1 (70 + 11 * n) a) 1 (71 + 11 * n) (Int32.ofNat kd)) 1 (72 + 11 * n) l) 1 (73 + 11 * n) c) 1 (74 + 11 * n) (-1)) 1 (75 + 11 * n) (-1)) 1 (75 + 11 * n) (-1)) 1 (76 + 11 * n) (-1)) 1 (77 + 11 * n) (-1)) 1 (78 + 11 * n) (-1)) 1 1 (Int32.ofNat (n + 1))) 1 = T' at *
    refine ⟨TL, ?_, ?_, ?_, ?_, ?_, ?_, ?_, ?_⟩
    · exact t2.fr kc.1 (v1 22) (fun i => V 13 i (by decide) (by decide) (by decide) (by decide)) (fun i => V 14 i (by decide) (by decide) (by decide) (by decide)) (fun i => V 15 i (by decide) (by decide) (by decide) (by decide)) (Gr _ (by omega)) (fun i _ _ => Gr _ (by omega))
    · intro q hp
      rw [hcn] at hp
      rw [show x + 1 + 16 = x + 17 by omega, show x + 1 + 18 = x + 19 by omega, V 17 q (by decide) (by decide) (by decide) (by decide), V 19 q (by decide) (by decide) (by decide) (by decide), V 20 q (by decide) (by decide) (by decide) (by decide)]
      by_cases e : q = n
      · subst e
        exact ⟨G0.trans R6.symm, fun g => absurd R6 g, G1.trans R9.symm, fun g => absurd R9 g⟩
      · have := t3 q (by omega)
        rw [show x + 1 + 16 = x + 17 by omega, show x + 1 + 18 = x + 19 by omega] at this
        rw [Gn17 q e, Gn19 q e, Gr (74 + 11 * q) (by omega), Gr (75 + 11 * q) (by omega), Gr (76 + 11 * q) (by omega), Gr (77 + 11 * q) (by omega), Gr (78 + 11 * q) (by omega)]
        exact this
    · exact t4.fr kc.2.2.2.1 (v1 23) (fun i => V 21 i (by decide) (by decide) (by decide) (by decide)) (fun i => V 25 i (by decide) (by decide) (by decide) (by decide)) (fun i => VL 26 i (by decide) (by decide)) (fun i => VL 27 i (by decide) (by decide)) (Gr _ (by omega)) (fun i _ _ => Gr _ (by omega))
    · exact t5.fr kc.2.2.2.2.1 (v1 24) (fun i => V 22 i (by decide) (by decide) (by decide) (by decide)) (fun i => V 23 i (by decide) (by decide) (by decide) (by decide)) (Gr _ (by omega)) (fun i _ _ => Gr _ (by omega))
    · exact t6.fr kc.2.2.2.2.2.2.1 (fun i => V 24 i (by decide) (by decide) (by decide) (by decide)) (Gr _ (by omega)) (fun i _ _ => Gr _ (by omega))
    · exact t7.fr (fun i => V 28 i (by decide) (by decide) (by decide) (by decide)) (fun i _ _ => Gr _ (by omega))
    · exact t8.fr (v1 25) (v1 26) (Gr _ (by omega)) (Gr _ (by omega))
    · refine ⟨ls_ord l1 hR.2.2.2.2.1 (by omega) (LF 1 (by decide) (by decide) (by decide) (by omega)) FH (Gr _ (by omega)) (fun i _ _ => Gr _ (by omega)), ?_, ls_bar l3 hR.2.2.2.2.1 (by omega) (LF 5 (by decide) (by decide) (by decide) (by omega)) FH (Gr _ (by omega)) (fun i _ _ => Gr _ (by omega)), ls_han l4 hR.2.2.2.2.1 (by omega) (LF 7 (by decide) (by decide) (by decide) (by omega)) FH (Gr _ (by omega)) (fun i _ _ => Gr _ (by omega)), ls_pap l5 hR.2.2.2.2.1 (by omega) (LF 9 (by decide) (by decide) (by decide) (by omega)) FH (Gr _ (by omega)) (fun i _ _ => Gr _ (by omega)), ls_cou l6 hR.2.2.2.2.1 (by omega) (LF 11 (by decide) (by decide) (by decide) (by omega)) FH (Gr _ (by omega)) (fun c _ => ⟨Gr _ (by omega), Gr _ (by omega), Gr _ (by omega), Gr _ (by omega)⟩)⟩
      rw [hcn, show x + 1 + 3 = x + 4 by omega]
      refine ⟨e', c', LE2.fr rfl rfl rfl rfl (fun _ => rfl) (Nat.le_refl _) (fun i q hi hp => ?_), oe⟩
      rcases hp with ⟨p1, p2⟩ | ⟨p1, p2⟩
      · obtain ⟨f1, ⟨f2, f3, f4, f5⟩, f6, f7, f8, f9, f10⟩ := p2
        obtain ⟨y1, y2, y3⟩ := FH.2.1 q f1
        refine ⟨FH.1.one f1, ⟨f2, f3, y1.trans f4, by rw [Gr (71 + 11 * i) (by omega)]; exact f5⟩, ?_, ?_, ?_, ?_, ?_⟩
        · rw [y2, Gr (68 + 11 * i) (by omega)]; exact f6
        · rw [y2, Gr (69 + 11 * i) (by omega)]; exact f7
        · rw [y2, Gr (70 + 11 * i) (by omega)]; exact f8
        · rw [y2, Gr (72 + 11 * i) (by omega)]; exact f9
        · rw [y2, Gr (73 + 11 * i) (by omega)]; exact f10
      · subst p1
        subst p2
        exact ⟨z1, ⟨kd, hk, NK, R3⟩, N0.trans R0.symm, N1.trans R1.symm, N2.trans R2.symm, N3.trans R4.symm, N4.trans R5.symm⟩
  · generalize hT' : gI (sI (sI (sI (sI (sI (sI (sI (sI (sI (sI (sI (sI (sI σ 1 (68 + 11 * n) p) 1 (69 + 11 * n) h) 1 (70 + 11 * n) a) 1 (71 + 11 * n) (Int32.ofNat kd)) 1 (72 + 11 * n) l) 1 (73 + 11 * n) c) 1 (74 + 11 * n) (-1)) 1 (75 + 11 * n) (-1)) 1 (75 + 11 * n) (-1)) 1 (76 + 11 * n) (-1)) 1 (77 + 11 * n) (-1)) 1 (78 + 11 * n) (-1)) 1 1 (Int32.ofNat (n + 1))) 1 = T' at *
    refine ⟨⟨by rw [Gr 0 (by omega)]; exact u0, by rw [R12]; exact ⟨i_pos (by omega), (i_le (b := 200) (by omega) (by decide)).mpr (by omega)⟩, by rw [Gr 2 (by omega)]; exact u2, by rw [Gr 3 (by omega)]; exact u3, by rw [Gr 4 (by omega)]; exact u4, by rw [Gr 5 (by omega)]; exact u5, by rw [Gr 6 (by omega)]; exact u6, by rw [Gr 7 (by omega)]; exact u7, by rw [Gr 8 (by omega)]; exact u8, by rw [Gr 9 (by omega)]; exact u9, by rw [Gr 10 (by omega)]; exact u10⟩, ?_, ?_, ?_, ?_, ?_, ?_, ?_, ?_, ?_⟩
    · exact W1.fr q1 kc.1 (Gr _ (by omega)) (fun i _ _ => Gr _ (by omega))
    · intro q hp
      rw [hcn] at hp
      by_cases e : q = n
      · subst e
        rw [R0, R1, R2, R3, R5, R6, R9, Gr 0 (by omega)]
        refine ⟨h1, h2, h3, ⟨i_pos (by omega), (i_le (b := 3) (by omega) (by decide)).mpr (by omega)⟩, h5, ⟨by decide, by decide⟩, Or.inl rfl⟩
      · rw [Gr (68 + 11 * q) (by omega), Gr (69 + 11 * q) (by omega), Gr (70 + 11 * q) (by omega), Gr (71 + 11 * q) (by omega), Gr (73 + 11 * q) (by omega), Gr (74 + 11 * q) (by omega), Gr (76 + 11 * q) (by omega), Gr 0 (by omega)]
        exact q2 q (by omega)
    · exact W3.fr q3 kc.2.2.2.1 (Gr _ (by omega)) (by rw [Gr 0 (by omega)]; exact Int32.le_refl _) (fun i _ _ => Gr _ (by omega))
    · exact W4.fr q4 kc.2.2.2.2.1 (Gr _ (by omega)) (by rw [Gr 3 (by omega)]; exact Int32.le_refl _) (fun i _ _ => Gr _ (by omega))
    · exact W5.fr q5 kc.2.2.2.2.2.1 (Gr _ (by omega)) (by rw [Gr 4 (by omega)]; exact Int32.le_refl _) (fun i _ _ => Gr _ (by omega))
    · exact W6.fr q6 kc.2.2.2.2.2.2.2.1 (Gr _ (by omega)) (by rw [Gr 3 (by omega)]; exact Int32.le_refl _) (fun i _ _ => Gr _ (by omega))
    · exact W7.fr q7 kc.2.2.2.2.2.2.1 (Gr _ (by omega)) (by rw [Gr 4 (by omega)]; exact Int32.le_refl _) (fun i _ _ => Gr _ (by omega))
    · exact W8.fr q8 (fun i _ _ => Gr _ (by omega))
    · exact W9.fr q9 kc.2.2.1 (Gr _ (by omega)) (fun i _ _ => Gr _ (by omega))
  · exact (U.1 x (by omega) (by omega) (by rw [show ow x = 0 from hR.2.1.1 0 (by decide)]; omega)).2.1 (fun g => g) 1
  · exact U.lay hR.1 hR.2.1 ⟨by omega, by omega⟩

theorem a149 (hL : Lay x w) (hn : n < 200) : mC_X0_adds_149 x (Int32.ofNat n) w = some (Int32.ofNat n, siI (siI w (x + 17) n (-1)) (x + 19) n (-1)) := by
  have hL2 : Lay x (siI w (x + 17) n (-1)) := hL
  unfold mC_X0_adds_149
  rw [ck_t (kq_0 hL), lr_0_2 hL, bd1_s, ck_t (kq_1 hL), lr_1_9 hL, bd1_s, al_17 hL, ck_t (bnd_nat (by omega) (by omega)), i_nat (by omega), st1_e, ck_t (kq_0 hL2), lr_0_2 hL2, bd1_s, ck_t (kq_1 hL2), lr_1_11 hL2, bd1_s, al_19 hL2, ck_t (bnd_nat (by omega) (by omega)), st1_e]
theorem addsN (hR : RelT ow x w σ) (hm1 : hsz w + 9000 ≤ hlc w) (hm2 : hns w + 110000 ≤ hls w) {n kd : Nat} {p h a l c : Int32} (hn : cn (gI σ 1) 1 = n) (h4 : n < 200) (hk : kd < 4) (h1 : 0 ≤ p ∧ p < gI σ 1 0) (h2 : rg h 0 99) (h3 : rg a 0 120) (h5 : rg c 0 399) : ∃ w' ow', mC_X0_adds x p h a (Int32.ofNat kd) l c w = some (Int32.ofNat n, (siI (siI w' (x + 17) n (-1)) (x + 19) n (-1))) ∧ RelT ow' x (siI (siI w' (x + 17) n (-1)) (x + 19) n (-1)) (sI (sI (sI (sI (sI (sI (sI (sI (sI (sI (sI (sI (sI σ 1 (68 + 11 * n) p) 1 (69 + 11 * n) h) 1 (70 + 11 * n) a) 1 (71 + 11 * n) (Int32.ofNat kd)) 1 (72 + 11 * n) l) 1 (73 + 11 * n) c) 1 (74 + 11 * n) (-1)) 1 (75 + 11 * n) (-1)) 1 (75 + 11 * n) (-1)) 1 (76 + 11 * n) (-1)) 1 (77 + 11 * n) (-1)) 1 (78 + 11 * n) (-1)) 1 1 (Int32.ofNat (n + 1))) ∧ hsz w' ≤ hsz w + 2 ∧ hns w' ≤ hns w + 2008 ∧ hlc w' = hlc w ∧ hls w' = hls w ∧ hvi w' x 1 = hvi w x 1 ∧ Lay x w' := by
  obtain ⟨w', ow', A, RT, g1, g2, g3, g4, g5, hL'⟩ := hR.name hm1 hm2 (l := l) hn h4 hk h1 h2 h3 h5
  refine ⟨w', ow', ?_, RT, g1, g2, g3, g4, g5, hL'⟩
  have hL := hR.1
  have s2 := size_C hR.2.2.2.1.2.2.2.2.2.2.2.2.2.1
  rw [show x + 1 + 3 = x + 4 by omega, hn] at s2
  have rm : rmB w 5 = true := by
    unfold rmB
    simp only [Bool.and_eq_true, decide_eq_true_eq]
    omega
  have k4 : kIn (hkd (nName w kd p h a l c) (x + 4)).1 [2] = true := by
    rw [(nName_o (by have := hL.2.2; omega)).1]
    exact kq_4 hL
  unfold mC_X0_adds
  rw [ck_t (kq_0 hL), lr_0_2 hL, bd1_s, ck_t (kq_1 hL), lr_1_1 hL, bd1_s, ck_t (kq_4 hL), s2, bd1_s]
  have : kd = 0 ∨ kd = 1 ∨ kd = 2 ∨ kd = 3 := by omega
  rcases this with rfl | rfl | rfl | rfl
  · rw [if_pos (show Int32.ofNat 0 = 0 from rfl), ck_t rm, st1_e, st1_e, nm8_C (k := 0) (by decide), bd1_s, ck_t k4, A, bd2_s, a149 hL' h4]
  · rw [if_neg (show ¬ Int32.ofNat 1 = 0 by decide), if_pos (show Int32.ofNat 1 = 1 from rfl), ck_t rm, st1_e, st1_e]
    unfold mC_X9_init
    rw [nm8_C (k := 1) (by decide), bd1_s, bd1_s, ck_t k4, A, bd2_s, a149 hL' h4]
  · rw [if_neg (show ¬ Int32.ofNat 2 = 0 by decide), if_neg (show ¬ Int32.ofNat 2 = 1 by decide), if_pos (show Int32.ofNat 2 = 2 from rfl), ck_t rm, st1_e, st1_e]
    unfold mC_X10_init
    rw [nm8_C (k := 2) (by decide), bd1_s, bd1_s, ck_t k4, A, bd2_s, a149 hL' h4]
  · rw [if_neg (show ¬ Int32.ofNat 3 = 0 by decide), if_neg (show ¬ Int32.ofNat 3 = 1 by decide), if_neg (show ¬ Int32.ofNat 3 = 2 by decide), ck_t rm, st1_e, st1_e]
    unfold mC_X11_init mC_X10_init
    rw [nm8_C (k := 3) (by decide), bd1_s, bd1_s, bd1_s, ck_t k4, A, bd2_s, a149 hL' h4]
theorem oneS_ex {h a k l : Int32} (g : oneS h a k l = true) : rg h 0 99 ∧ rg a 0 120 ∧ ∃ kd, kd < 4 ∧ k = Int32.ofNat kd := by
  simp only [oneS, Bool.and_eq_true] at g
  obtain ⟨⟨⟨g1, g2⟩, g3⟩, _⟩ := g
  obtain ⟨m, m1, m2⟩ := rg_ex (m := 3) rfl (inr_ex g3) (by decide)
  exact ⟨inr_ex g1, inr_ex g2, m, by omega, m2⟩
theorem op_name (hR : Rel ow x w σ) (hm : Rm x w) (p h a k l c : Int32) : OpW x w (mC_X0_name x p h a k l c w) (mM_name p h a k l c σ) := by
  have hL := hR.L
  have s4 := size_C hR.T.2.2.2.2.2.2.2.2.2.1
  rw [show x + 1 + 3 = x + 4 by omega] at s4
  have k0 := hR.W.c1.2.1
  have e0 := hR.W.c2.2.1
  obtain ⟨n, hn⟩ : ∃ n, cn (gI σ 1) 1 = n := ⟨_, rfl⟩
  rw [hn] at e0 k0 s4
  unfold mC_X0_name mM_name
  rw [show ∀ f : SM → Option (Int32 × SM), st1 (sI σ 0 0 (0 : Int32)) f = f (sI σ 0 0 0) from fun _ => rfl]
  simp only [bd1_s, bd2_s, in_C, isDay_C, isDay_M, b2i_0, isZ_b, ck_tt, Bool.true_eq_false, Bool.false_eq_true, if_true, if_false, ref_F, told_0, told_1, told_2, told_3, told_4, told_5, told_6, one_C, one_M, mC_X0_name_20, mM_name_25, kq_0 hL, refuse_C hL, isPlace_C hR.rt, isPlace_M hR.thr.W, lr_0_2 hL, kq_1 hL, lr_1_1 hL, kq_4 hL, s4]
  have e2 : gI (sI σ 0 0 0) 1 1 = Int32.ofNat n := e0
  rw [show gI (sI σ 0 0 0) 1 = gI σ 1 from rfl, e0]
  by_cases h1 : oneS h a k l = true
  case neg =>
    simp only [Bool.not_eq_true] at h1
    simp only [h1, if_true, if_false, Bool.true_eq_false]
    exact OpW.ref hR _
  by_cases h2 : dy c = true
  case neg =>
    simp only [Bool.not_eq_true] at h2
    simp only [h1, h2, if_true, if_false, Bool.true_eq_false]
    exact OpW.ref hR _
  by_cases h3 : bel p (gI σ 1 0) = true
  case neg =>
    simp only [Bool.not_eq_true] at h3
    simp only [h1, h2, h3, if_true, if_false, Bool.true_eq_false]
    exact OpW.ref hR _
  simp only [h1, h2, h3, if_true, if_false, Bool.true_eq_false]
  by_cases h6 : n = 200
  · have h7 : Int32.ofNat n = 200 := by rw [h6]; rfl
    rw [if_pos h7, if_pos h7]
    exact OpW.ref hR _
  have h7 := i_eqL (n := n) (m := 200) (v := 200) rfl (by omega) (by omega) h6
  obtain ⟨o1, o2, kd, o3, rfl⟩ := oneS_ex h1
  simp only [bel, Bool.and_eq_true, decide_eq_true_eq] at h3
  obtain ⟨w', ow', A, RT, g1, g2, g3, g4, g5, hL'⟩ := addsN hR.rt.thr hm.1 hm.2.1 (l := l) hn (by omega) o3 h3 o1 o2 (inr_ex h2)
  have hL2 : Lay x (siI (siI w' (x + 17) n (-1)) (x + 19) n (-1)) := hL'
  rw [if_neg h7, if_neg h7, A, bd2_s, ck_t (kq_0 hL2), told_C hL2, bd2_s, addName_M (by omega) e2, bd1_s, rowS_eq, i_s1, told_n (by omega), bd2_s]
  exact OpW.tolA RT (show hsz w' ≤ _ by omega) (show hns w' ≤ _ by omega) g3 g4 (by rw [vi_I, if_neg (by omega), vi_I, if_neg (by omega)]; exact g5) hm.2.2 _
end ON
