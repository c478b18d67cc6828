set_option maxRecDepth 100000
/-! ===== a list grows ===== -/
theorem shr1 : ∀ c : Fin 2000, Int32.ofNat c.val >>> ((1 : Int32) &&& 31) = Int32.ofNat (c.val / 2) := by decide +kernel
theorem va_cpy0 {α : Type} (f g : Nat → α) (n j : Nat) : va_cpy f g 0 0 n j = if j < n then f j else g j := by
  unfold va_cpy
  by_cases h : j < n
  · rw [if_pos h]
    simp [h]
  · rw [if_neg h]
    simp [h]
section AD
variable {ow ow' : Nat → Nat} {w w' : AH} {T T' : Nat → Int32} {x t : Nat} {σ σ' : SM} {a n e c q : Nat} {E E' : Nat → Nat → Prop}
theorem vr_cR (s d : Nat) (b k : Nat) : hvr (hcpR w a s e d n) b k = if b = e then va_cpy (hvr w a) (hvr w e) s d n k else hvr w b k := by
  unfold hvr hcpR up1
  dsimp only
  split <;> rfl
/-- what a list's add leaves: only the list's cell a, its array e' (as it was, or new) change -/
def Add (w w' : AH) (a n e e' c' q : Nat) : Prop :=
  hkd w' a = (12, 3) ∧ hvi w' a 2 = Int32.ofNat (n + 1) ∧ hvr w' a 1 = some e' ∧ hkd w' e' = (5, c') ∧ n + 1 ≤ c' ∧ c' < 2000 ∧ (e' = e ∨ e' = hsz w) ∧ (∀ i, i < n → hvr w' e' i = hvr w e i) ∧ hvr w' e' n = some q ∧
  (∀ b, b ≠ a → b ≠ e' → hkd w' b = hkd w b ∧ (∀ i, hvi w' b i = hvi w b i) ∧ (∀ i, hvl w' b i = hvl w b i) ∧ ∀ i, hvr w' b i = hvr w b i) ∧
  hsz w ≤ hsz w' ∧ e' < hsz w' ∧ hsz w' ≤ hsz w + 1 ∧ hns w' ≤ hns w + 2000 ∧ hlc w' = hlc w ∧ hls w' = hls w ∧ hst w' = hst w
theorem add_C (h : LsE w a n e c E) (hae : a < hsz w) (hn : n < 1000) (hE : ∀ i p, i < n → E i p → isO w (some p) = true ∧ p < hsz w) (hq : isO w (some q) = true) (hq2 : q < hsz w) (r1 : hsz w + 1 ≤ hlc w) (r2 : hns w + 2000 ≤ hls w) (hc : ∃ b, hst w 1003 = some b) : ∃ w' e' c', mC_J2_add a q w = some (1, w') ∧ Add w w' a n e e' c' q := by
  obtain ⟨g1, g2, g3, g4, g5, g6, g7, g8, g9⟩ := h
  have hne : a ≠ e := fun g => by rw [g, g4] at g1; simp at g1
  have hk : kIn (hkd w a).1 [2] = true := by rw [g1]; rfl
  have hk2 : kIn (hkd (siI w a 0 (hvi w a 0 + 1)) a).1 [2] = true := hk
  have ha : arK (hkd w e).1 = true := by rw [g4]; rfl
  unfold mC_J2_add
  rw [ck_t hk, st1_e, ck_t hk2, show hvr (siI w a 0 (hvi w a 0 + 1)) a 1 = some e from g3, bd1_s]
  have v2 : hvi (siI w a 0 (hvi w a 0 + 1)) a 2 = Int32.ofNat n := by rw [vi_I, if_neg (by omega)]; exact g2
  rw [v2]
  unfold mC_J2_add_2
  rw [ck_t (show arK (hkd (siI w a 0 (hvi w a 0 + 1)) e).1 = true from ha), show (hkd (siI w a 0 (hvi w a 0 + 1)) e).2 = c from by rw [kd_I, g4]]
  by_cases hnc : n = c
  · subst hnc
    rw [if_pos rfl, ck_t hk2]
    obtain ⟨b, hb⟩ := hc
    obtain ⟨m, hm⟩ : ∃ m, m = (if 1 < n / 2 then n / 2 else 1) := ⟨_, rfl⟩
    have hm1 : 1 ≤ m ∧ m ≤ 500 := by rw [hm]; split <;> omega
    have sh := shr1 ⟨n, by omega⟩
    simp only at sh
    have i1 : Int32.ofNat (n + 1) - Int32.ofNat n = 1 := by rw [Int32.ofNat_add]; show Int32.ofNat n + 1 - Int32.ofNat n = 1; grind
    have i2 : (if (1 : Int32) < Int32.ofNat (n / 2) then Int32.ofNat (n / 2) else 1) = Int32.ofNat m := by
      rw [show (1 : Int32) = Int32.ofNat 1 from rfl, hm]
      by_cases h : 1 < n / 2
      · rw [if_pos h, if_pos ((i_lt (by decide) (by omega)).mpr h)]
      · rw [if_neg h, if_neg (fun g => h ((i_lt (by decide) (by omega)).mp g))]
    have nl : mC_J5_newLength (Int32.ofNat n) 1 (Int32.ofNat (n / 2)) (siI w a 0 (hvi w a 0 + 1)) = some (Int32.ofNat (n + m)) := by
      unfold mC_J5_newLength
      have z1 : ¬ Int32.ofNat (n + m) ≤ 0 := by rw [show (0 : Int32) = Int32.ofNat 0 from rfl, i_le (by omega) (by decide)]; omega
      have z2 : ¬ (2147483639 : Int32) < Int32.ofNat (n + m) := by rw [show (2147483639 : Int32) = Int32.ofNat 2147483639 from rfl, i_lt (by decide) (by omega)]; omega
      rw [i2, st1_e, i_aa, if_neg z1, if_neg z2]
    obtain ⟨w2, hw2⟩ : ∃ w2, w2 = siI w a 0 (hvi w a 0 + 1) := ⟨_, rfl⟩
    rw [← hw2] at nl v2 hk2
    rw [← hw2]
    have k2 : ∀ b, hkd w2 b = hkd w b := fun b => by rw [hw2]; rfl
    have f2 : ∀ b i, hvr w2 b i = hvr w b i := fun b i => by rw [hw2]; rfl
    have s2 : hsz w2 = hsz w := by rw [hw2]; rfl
    have n2 : hns w2 = hns w := by rw [hw2]; rfl
    have l2 : hlc w2 = hlc w := by rw [hw2]; rfl
    have m2 : hls w2 = hls w := by rw [hw2]; rfl
    have t2 : hst w2 = hst w := by rw [hw2]; rfl
    obtain ⟨w4, hw4⟩ : ∃ w4, w4 = hcpR (hnew w2 5 (n + m)) e 0 (hsz w2) 0 n := ⟨_, rfl⟩
    have k4 : ∀ b, hkd w4 b = if b = hsz w then (5, n + m) else hkd w b := fun b => by
      rw [hw4]
      show hkd (hnew w2 5 (n + m)) b = _
      rw [kd_N, s2, k2]
    have he : e ≠ hsz w := by omega
    have hah : a ≠ hsz w := by omega
    have cp : mC_J7_copyOf e (Int32.ofNat (n + m)) w2 = some (hsz w, w4) := by
      have c0 : (hkd w2 e).1 = 5 := by rw [k2, g4]
      have c1 : naB w2 (Int32.ofNat (n + m)) 4 = true := by
        unfold naB rmB
        have z1 : ¬ Int32.ofNat (n + m) < 0 := by rw [show (0 : Int32) = Int32.ofNat 0 from rfl, i_lt (by omega) (by decide)]; omega
        rw [i_nat (by omega), s2, n2, l2, m2]
        simp only [Bool.and_eq_true, decide_eq_true_eq]
        exact ⟨⟨z1, by omega⟩, r1, by omega⟩
      have c2 : hkd (hnew w2 5 (n + m)) e = (5, n) := by rw [kd_N, s2, if_neg he, k2, g4]
      have c3 : hkd (hnew w2 5 (n + m)) (hsz w2) = (5, n + m) := by rw [kd_N, if_pos rfl]
      have c4 : (if Int32.ofNat (n + m) < Int32.ofNat n then Int32.ofNat (n + m) else Int32.ofNat n) = Int32.ofNat n := if_neg (fun g => by rw [i_lt (by omega) (by omega)] at g; omega)
      have c5 : cpOk 0 (Int32.ofNat n) n 0 (n + m) = true := by
        unfold cpOk
        have z1 : ¬ Int32.ofNat n < 0 := by rw [show (0 : Int32) = Int32.ofNat 0 from rfl, i_lt (by omega) (by decide)]; omega
        rw [i_nat (by omega)]
        simp only [Bool.and_eq_true, decide_eq_true_eq]
        exact ⟨⟨⟨⟨by decide, by decide⟩, z1⟩, by show 0 + n ≤ n; omega⟩, by show 0 + n ≤ n + m; omega⟩
      have c6 : allO (hnew w2 5 (n + m)) (hvr (hnew w2 5 (n + m)) e) 0 n = true := by
        refine List.all_eq_true.mpr (fun i hi => ?_)
        have hi' := List.mem_range.mp hi
        obtain ⟨p, p1, p2⟩ := g9 i hi'
        obtain ⟨o, o2⟩ := hE i p hi' p2
        have p3 : hvr (hnew w2 5 (n + m)) e (0 + i) = some p := by rw [Nat.zero_add, vr_N, s2, if_neg he, f2]; exact p1
        rw [p3]
        simp only [isO, Bool.and_eq_true, decide_eq_true_eq] at o ⊢
        rw [kd_N, k2]
        rw [s2, if_neg (by omega)]
        exact o
      unfold mC_J7_copyOf mC_J7_copyOf_2 mC_J7_copyOf_2_24
      rw [ck_t (by rw [c0]; rfl), t2, hb, bd1_s, bd1_s, if_pos rfl, ck_t c1, st1_e, i_nat (by omega), st1_e, c2, c3]
      rw [ck_t (by rfl), c4, st1_e, ck_t (by rfl), ck_t (by rfl)]
      rw [ck_t c5, show (0 : Int32).toNatClampNeg = 0 from rfl, i_nat (by omega), ck_t c6, st1_e, bd2_s, ← hw4, s2]
    have gr : mC_J2_grow_2 a w2 = some (hsz w, siR w4 a 1 (some (hsz w))) := by
      have z1 : (0 : Int32) < Int32.ofNat n := by rw [show (0 : Int32) = Int32.ofNat 0 from rfl, i_lt (by decide) (by omega)]; omega
      have k5 : kIn (hkd w4 a).1 [2] = true := by rw [k4, if_neg hah]; exact hk
      unfold mC_J2_grow_2 mC_J2_grow mC_J2_grow_20
      rw [ck_t hk2, v2, i_a 1 1 rfl, ck_t hk2, f2, g3, bd1_s, ck_t (by rw [k2]; exact ha), k2, g4]
      rw [if_pos z1, i1, sh, nl, bd1_s, ck_t hk2, bd1_s, cp, bd2_s, ck_t k5, st1_e, bd2_s]
    rw [gr, bd2_s]
    unfold mC_J2_add_2_11
    obtain ⟨w5, hw5⟩ : ∃ w5, w5 = siR w4 a 1 (some (hsz w)) := ⟨_, rfl⟩
    rw [← hw5]
    have k5 : ∀ b, hkd w5 b = if b = hsz w then (5, n + m) else hkd w b := fun b => by rw [hw5]; exact k4 b
    have f5 : ∀ b i, hvr w5 b i = if b = a ∧ i = 1 then some (hsz w) else if b = hsz w then (if i < n then hvr w e i else none) else hvr w b i := fun b i => by
      rw [hw5, vr_R, hw4, vr_cR, va_cpy0, vr_N, vr_N, vr_N, s2, if_neg he, if_pos rfl, f2, f2]
      by_cases h1 : b = a ∧ i = 1
      · rw [if_pos h1, if_pos h1]
      · rw [if_neg h1, if_neg h1]
        by_cases h2 : b = hsz w
        · rw [if_pos h2, if_pos h2]
        · rw [if_neg h2, if_neg h2, if_neg h2]
    have i5 : ∀ b i, hvi w5 b i = if b = hsz w then 0 else hvi w2 b i := fun b i => by
      rw [hw5, hw4]
      show hvi (hnew w2 5 (n + m)) b i = _
      rw [vi_N, s2]
    have j5 : ∀ b i, hvl w5 b i = if b = hsz w then 0 else hvl w2 b i := fun b i => by
      rw [hw5, hw4]
      show hvl (hnew w2 5 (n + m)) b i = _
      rw [vl_N, s2]
    have z5 : w5.1 = (hsz w + 1, hns w + (n + m), hlc w, hls w, hst w) := by
      rw [hw5, hw4, ← s2, ← n2, ← l2, ← m2, ← t2]
      rfl
    have hb5 : arB w5 (hsz w) 5 (Int32.ofNat n) = true := by
      unfold arB
      rw [k5, if_pos rfl]
      simp [bnd_nat (n := n) (m := n + m) (by omega) (by omega)]
    have hq5 : isO w5 (some q) = true := by
      simp only [isO, Bool.and_eq_true, decide_eq_true_eq] at hq ⊢
      rw [k5, if_neg (by omega)]
      exact hq
    have hk5 : kIn (hkd (siR w5 (hsz w) n (some q)) a).1 [2] = true := by rw [kd_R, k5, if_neg hah]; exact hk
    rw [ck_t hb5, ck_t hq5, i_nat (by omega), st1_e, ck_t hk5, st1_e, bd1_s, i_a 1 1 rfl]
    refine ⟨_, hsz w, n + m, rfl, ?_, by rw [vi_I, if_pos ⟨rfl, rfl⟩], ?_, ?_, by omega, by omega, Or.inr rfl, fun i hi => ?_, ?_, fun b hb1 hb2 => ⟨?_, fun i => ?_, fun i => ?_, fun i => ?_⟩, ?_, ?_, ?_, ?_, ?_, ?_, ?_⟩
    · rw [kd_I, kd_R, k5, if_neg hah]; exact g1
    · rw [vr_I, vr_R, if_neg (by omega), f5, if_pos ⟨rfl, rfl⟩]
    · rw [kd_I, kd_R, k5, if_pos rfl]
    · rw [vr_I, vr_R, if_neg (by omega), f5, if_neg (by omega), if_pos rfl, if_pos hi]
    · rw [vr_I, vr_R, if_pos ⟨rfl, rfl⟩]
    · rw [kd_I, kd_R, k5, if_neg hb2]
    · rw [vi_I, if_neg (by omega), vi_R, i5, if_neg hb2, hw2, vi_I, if_neg (by omega)]
    · rw [vl_I, vl_R, j5, if_neg hb2, hw2, vl_I]
    · rw [vr_I, vr_R, if_neg (by omega), f5, if_neg (by omega), if_neg hb2]
    · show hsz w ≤ w5.1.1; rw [z5]; show hsz w ≤ hsz w + 1; omega
    · show hsz w < w5.1.1; rw [z5]; show hsz w < hsz w + 1; omega
    · show w5.1.1 ≤ _; rw [z5]; exact Nat.le_refl _
    · show w5.1.2.1 ≤ _; rw [z5]; show hns w + (n + m) ≤ hns w + 2000; omega
    · show w5.1.2.2.1 = _; rw [z5]
    · show w5.1.2.2.2.1 = _; rw [z5]
    · show w5.1.2.2.2.2 = _; rw [z5]
  · have h5 : ¬ Int32.ofNat n = Int32.ofNat c := by rw [i_eq (by omega) (by omega)]; exact hnc
    rw [if_neg h5]
    unfold mC_J2_add_2_11
    have hb : arB (siI w a 0 (hvi w a 0 + 1)) e 5 (Int32.ofNat n) = true := by
      unfold arB
      rw [kd_I, g4]
      simp [bnd_nat (n := n) (m := c) (by omega) (by omega)]
    have hk3 : kIn (hkd (siR (siI w a 0 (hvi w a 0 + 1)) e n (some q)) a).1 [2] = true := hk
    rw [ck_t hb, ck_t (show isO (siI w a 0 (hvi w a 0 + 1)) (some q) = true from hq), i_nat (by omega), st1_e, ck_t hk3, st1_e, bd1_s, i_a 1 1 rfl]
    refine ⟨_, e, c, rfl, g1, by rw [vi_I, if_pos ⟨rfl, rfl⟩], ?_, g4, by omega, g7, Or.inl rfl, fun i hi => ?_, ?_, fun b hb1 hb2 => ⟨rfl, fun i => ?_, fun i => rfl, fun i => ?_⟩, Nat.le_refl _, g8, Nat.le_succ _, Nat.le_add_right _ _, rfl, rfl, rfl⟩
    · rw [vr_I, vr_R, if_neg (by omega)]; exact g3
    · rw [vr_I, vr_R, if_neg (by omega)]; rfl
    · rw [vr_I, vr_R, if_pos ⟨rfl, rfl⟩]
    · rw [vi_I, if_neg (by omega), vi_R, vi_I, if_neg (by omega)]
    · rw [vr_I, vr_R, if_neg (by omega)]; rfl
/-- a new Note at the end of the heap -/
def nNote (w : AH) (a b c d e : Int32) : AH := siI (siI (siI (siI (siI (hnew w 24 5) (hsz w) 0 a) (hsz w) 1 b) (hsz w) 2 c) (hsz w) 3 d) (hsz w) 4 e
theorem note_C (a b c d e : Int32) : mC_X12_init (hsz w) a b c d e (hnew w 24 5) = some (nNote w a b c d e) := by
  have hk : kIn (hkd (hnew w 24 5) (hsz w)).1 [14] = true := by rw [kd_N, if_pos rfl]; rfl
  unfold mC_X12_init nNote
  rw [ck_t hk, st1_e, ck_t (by exact hk), st1_e, ck_t (by exact hk), st1_e, ck_t (by exact hk), st1_e, ck_t (by exact hk), st1_e]
theorem nNote_o {a b c d e : Int32} {q : Nat} (hq : q ≠ hsz w) : hkd (nNote w a b c d e) q = hkd w q ∧ (∀ i, hvi (nNote w a b c d e) q i = hvi w q i) ∧ (∀ i, hvl (nNote w a b c d e) q i = hvl w q i) ∧ ∀ i, hvr (nNote w a b c d e) q i = hvr w q i := by
  unfold nNote
  refine ⟨?_, fun i => ?_, fun i => ?_, fun i => ?_⟩
  · simp only [kd_I]; rw [kd_N, if_neg hq]
  · rw [vi_I, if_neg (by omega), vi_I, if_neg (by omega), vi_I, if_neg (by omega), vi_I, if_neg (by omega), vi_I, if_neg (by omega), vi_N, if_neg hq]
  · simp only [vl_I]; rw [vl_N, if_neg hq]
  · simp only [vr_I]; rw [vr_N, if_neg hq]
theorem nNote_n {a b c d e : Int32} (ho : ow' (hsz w) = 1) (hz : hkd w' (hsz w) = hkd (nNote w a b c d e) (hsz w) ∧ ∀ i, hvi w' (hsz w) i = hvi (nNote w a b c d e) (hsz w) i) : NoteAt ow' w' (hsz w) a b c d e := by
  obtain ⟨z1, z2⟩ := hz
  refine ⟨ho, ?_, ?_, ?_, ?_, ?_, ?_⟩
  · rw [z1]; unfold nNote; simp only [kd_I]; rw [kd_N, if_pos rfl]
  · rw [z2]; unfold nNote; simp [vi_I]
  · rw [z2]; unfold nNote; simp [vi_I]
  · rw [z2]; unfold nNote; simp [vi_I]
  · rw [z2]; unfold nNote; simp [vi_I]
  · rw [z2]; unfold nNote; simp [vi_I]
/-- all stays but the list L, its array, and numbers of the cells X -/
def Ul (ow : Nat → Nat) (L : Nat) (X : Nat → Prop) (w w' : AH) : Prop := (∀ b, b < hsz w → b ≠ L → ow b ≠ L → hkd w' b = hkd w b ∧ (¬ X b → ∀ i, hvi w' b i = hvi w b i) ∧ (∀ i, hvl w' b i = hvl w b i) ∧ ∀ i, hvr w' b i = hvr w b i) ∧ hkd w' L = hkd w L ∧ hsz w ≤ hsz w' ∧ hst w' = hst w
theorem Ul.fz {L : Nat} {X : Nat → Prop} (h : Ul ow L X w w') (hO : Ow x ow w) (hL : 2 ≤ L) (hLo : ow L = 0) (hX : ∀ b, X b → x + 14 ≤ b ∧ b ≤ x + 29) : Fz ow w w' := by
  intro b hb
  have hs : b < hsz w := Nat.lt_of_not_le (fun g => by rw [hO.2.2 b g] at hb; omega)
  have hbl : b ≠ L := fun g => by rw [g, hLo] at hb; omega
  obtain ⟨k1, k2, k3, k4⟩ := h.1 b hs hbl (by omega)
  exact ⟨k1, k2 (fun g => hO.ne hb (by have := hX b g; omega)), k4⟩
theorem fR_j {j k r : Nat} (h : fR j k = some r) : j = 0 ∨ j = 1 ∨ j = 32 ∨ j = 35 ∨ j = 39 ∨ j = 52 := by
  unfold fR at h
  split at h <;> first | omega | cases h
theorem tR_k {k r : Nat} (h : tR k = some r) : k < 22 ∧ r < 29 ∧ (tK r).1 ≠ 0 := by
  unfold tR at h
  split at h <;> first | (cases h; decide) | cases h
/-- a Told that is not touched -/
theorem TRep.al (hT : TRep ow w t T) (hW : WF T) (hf : FrH ow ow' w w') (hc : ∀ j, (tK j).1 ≠ 0 → hkd w' (t + j) = hkd w (t + j) ∧ (∀ i, hvi w' (t + j) i = hvi w (t + j) i) ∧ (∀ i, hvl w' (t + j) i = hvl w (t + j) i) ∧ ∀ i, hvr w' (t + j) i = hvr w (t + j) i) (hb : ∀ e j, ow e = t + j → 1 ≤ j → j ≤ 11 → hkd w' e = hkd w e ∧ ∀ i, hvr w' e i = hvr w e i) : TRep ow' w' t T := by
  obtain ⟨h1, h2, h3, h4, h5, h6, h7, h8, h9⟩ := hT
  have k := hW.c1
  have c0 := hc 0 (by decide)
  rw [Nat.add_zero] at c0
  have C : ∀ j, 13 ≤ j → j ≤ 28 → (∀ i, hvi w' (t + j) i = hvi w (t + j) i) ∧ (∀ i, hvl w' (t + j) i = hvl w (t + j) i) := fun j g1 g2 => by
    have : (tK j).1 ≠ 0 := by
      have : j = 13 ∨ j = 14 ∨ j = 15 ∨ j = 16 ∨ j = 17 ∨ j = 18 ∨ j = 19 ∨ j = 20 ∨ j = 21 ∨ j = 22 ∨ j = 23 ∨ j = 24 ∨ j = 25 ∨ j = 26 ∨ j = 27 ∨ j = 28 := by omega
      rcases this with rfl | rfl | rfl | rfl | rfl | rfl | rfl | rfl | rfl | rfl | rfl | rfl | rfl | rfl | rfl | rfl <;> decide
    exact ⟨(hc j this).2.1, (hc j this).2.2.1⟩
  have Lf : ∀ j, (tK j).1 ≠ 0 → 1 ≤ j → j ≤ 11 → LiF ow w w' (t + j) := fun j g0 g1 g2 => ⟨(hc j g0).1, (hc j g0).2.1 2, (hc j g0).2.2.2 1, fun e he => hb e j he g1 g2⟩
  refine ⟨⟨fun j hj => (hc j hj).1.trans (h1.1 j hj), fun k r hr => (c0.2.2.2 k).trans (h1.2.1 k r hr), Nat.le_trans h1.2.2 hf.2.2⟩, ?_, ?_, ?_, ?_, ?_, ?_, ?_, ?_⟩
  · exact h2.fr k.1 (c0.2.1 _) (C 13 (by decide) (by decide)).1 (C 14 (by decide) (by decide)).1 (C 15 (by decide) (by decide)).1 rfl (EqT.refl _ _ _)
  · exact h3.fr k.2.1 (fun j i g1 g2 => (C j (by omega) (by omega)).1 i) rfl (EqT.refl _ _ _)
  · exact h4.fr k.2.2.2.1 (c0.2.1 _) (C 21 (by decide) (by decide)).1 (C 25 (by decide) (by decide)).1 (C 26 (by decide) (by decide)).2 (C 27 (by decide) (by decide)).2 rfl (EqT.refl _ _ _)
  · exact h5.fr k.2.2.2.2.1 (c0.2.1 _) (C 22 (by decide) (by decide)).1 (C 23 (by decide) (by decide)).1 rfl (EqT.refl _ _ _)
  · exact h6.fr k.2.2.2.2.2.2.1 (C 24 (by decide) (by decide)).1 rfl (EqT.refl _ _ _)
  · exact h7.fr (C 28 (by decide) (by decide)).1 (EqT.refl _ _ _)
  · exact h8.fr (c0.2.1 _) (c0.2.1 _) rfl rfl
  · obtain ⟨l1, l2, l3, l4, l5, l6⟩ := h9
    exact ⟨ls_ord l1 hW (by omega) (Lf 1 (by decide) (by decide) (by decide)) hf rfl (EqT.refl _ _ _), ls_nam l2 hW (by omega) (Lf 3 (by decide) (by decide) (by decide)) hf rfl (EqT.refl _ _ _).nm, ls_bar l3 hW (by omega) (Lf 5 (by decide) (by decide) (by decide)) hf rfl (EqT.refl _ _ _), ls_han l4 hW (by omega) (Lf 7 (by decide) (by decide) (by decide)) hf rfl (EqT.refl _ _ _), ls_pap l5 hW (by omega) (Lf 9 (by decide) (by decide) (by decide)) hf rfl (EqT.refl _ _ _), ls_cou l6 hW (by omega) (Lf 11 (by decide) (by decide) (by decide)) hf rfl (EqT.refl _ _ _).c⟩
theorem RelT.al {L : Nat} {X : Nat → Prop} (hR : RelT ow x w σ) (h : Ul ow L X w w') (hL : x + 2 ≤ L ∧ L ≤ x + 12) (hLo : ow L = 0) (hX : ∀ b, X b → x + 14 ≤ b ∧ b ≤ x + 29) (ho : OwX ow ow') (hO' : Ow x ow' w') (hi0 : ∀ k t, k < 2 → hvr w (x + 30) k = some t → ∀ j, (tK j).1 ≠ 0 → ow (t + j) = 0 → ow' (t + j) = 0) (hg : ∀ j i, j ≠ 1 → mO j i → gI σ' j i = gI σ j i) (hT : TRep ow' w' (x + 1) (gI σ' 1)) (hW : WF (gI σ' 1)) : RelT ow' x w' σ' := by
  obtain ⟨h1, h2, h3, h4, h5, h6, h7, h8, h9, h10, h11⟩ := hR
  have hz := h.fz h2 (by omega) hLo hX
  have hs := h.2.2.1
  have C : ∀ j, (fK j).1 ≠ 0 → (j = 0 ∨ j = 1 ∨ 30 ≤ j) → hkd w' (x + j) = hkd w (x + j) ∧ (∀ i, hvi w' (x + j) i = hvi w (x + j) i) ∧ (∀ i, hvl w' (x + j) i = hvl w (x + j) i) ∧ ∀ i, hvr w' (x + j) i = hvr w (x + j) i := fun j hj hr => by
    have hlt : j < 67 := by
      by_cases g : j < 67
      · exact g
      · exfalso
        apply hj
        obtain ⟨k, rfl⟩ : ∃ k, j = k + 67 := ⟨j - 67, by omega⟩
        rfl
    obtain ⟨k1, k2, k3, k4⟩ := h.1 (x + j) (by have := h1.2.2; omega) (by omega) (by rw [h2.1 j hj]; omega)
    exact ⟨k1, k2 (fun g => by have := hX _ g; omega), k3, k4⟩
  have V : ∀ j, (fK j).1 ≠ 0 → (j = 0 ∨ j = 1 ∨ 30 ≤ j) → ∀ i, hvi w' (x + j) i = hvi w (x + j) i := fun j a b => (C j a b).2.1
  have V0 : ∀ i, hvi w' x i = hvi w x i := V 0 (by decide) (by decide)
  have lay : Lay x w' := by
    refine ⟨fun j hj => ?_, fun j k r hr => ?_, Nat.le_trans h1.2.2 hs⟩
    · by_cases g : x + j = L
      · rw [g, h.2.1, ← g]; exact h1.1 j hj
      · have hlt : j < 67 := by
          by_cases g : j < 67
          · exact g
          · exfalso
            apply hj
            obtain ⟨k, rfl⟩ : ∃ k, j = k + 67 := ⟨j - 67, by omega⟩
            rfl
        rw [(h.1 (x + j) (by have := h1.2.2; omega) g (by rw [h2.1 j hj]; omega)).1]
        exact h1.1 j hj
    · have hj := fR_j hr
      have : (fK j).1 ≠ 0 := by rcases hj with rfl | rfl | rfl | rfl | rfl | rfl <;> decide
      rw [(C j this (by omega)).2.2.2 k]
      exact h1.2.1 j k r hr
  have con : Con ow' w' := by
    obtain ⟨k1, k2⟩ := h3
    refine ⟨by rw [h.2.2.2]; exact k1, fun q hq => ?_⟩
    obtain ⟨a, e, n, g1, g2, g3, g4, g5, g6, g7, g8, g9, g10⟩ := k2 q hq
    obtain ⟨a1, a2, a3⟩ := hz a g2
    obtain ⟨e1, e2, e3⟩ := hz e g3
    exact ⟨a, e, n, by rw [h.2.2.2]; exact g1, ho.one g2, ho.one g3, by rw [a1]; exact g4, by rw [a3]; exact g5, by rw [a2]; exact g6, by rw [e1]; exact g7, g8, g9, fun j c hj => by rw [e2]; exact g10 j c hj⟩
  have im : Img ow' x w' σ' := by
    have r30 := (C 30 (by decide) (by decide)).2.2.2
    have e : ∀ k, img σ' k = img σ k := fun k => funext fun i => hg 2 _ (by decide) (by unfold mO; omega)
    refine ⟨fun k hk => ?_, fun t u ht hu => h6.2 t u (by rw [← r30]; exact ht) (by rw [← r30]; exact hu)⟩
    rw [r30, hg 3 k (by decide) (by unfold mO; omega), e]
    rcases h6.1 k hk with g | ⟨g1, t, g2, g3, g4, g5, g6⟩
    · exact Or.inl g
    · have ht := g5.1.2.2
      refine Or.inr ⟨g1, t, g2, g3, fun j hj => hi0 k t hk g2 j hj (g4 j hj), g5.al g6 ⟨ho, hz, hs⟩ (fun j hj => ?_) (fun e j he j1 j2 => ?_), g6⟩
      · have hlt : j < 29 := by
          by_cases g : j < 29
          · exact g
          · exfalso
            apply hj
            obtain ⟨k, rfl⟩ : ∃ k, j = k + 29 := ⟨j - 29, by omega⟩
            rfl
        obtain ⟨k1, k2, k3, k4⟩ := h.1 (t + j) (by omega) (by omega) (by rw [g4 j hj]; omega)
        exact ⟨k1, k2 (fun g => by have := hX _ g; omega), k3, k4⟩
      · have hlt : e < hsz w := Nat.lt_of_not_le (fun g => by rw [h2.2.2 e g] at he; omega)
        have hel : e ≠ L := fun g => by rw [g, hLo] at he; omega
        obtain ⟨k1, k2, k3, k4⟩ := h.1 e hlt hel (by omega)
        exact ⟨k1, k4⟩
  refine ⟨lay, hO', con, hT, hW, im, ?_, ?_, ?_, ?_, ?_⟩
  · unfold Tap at h7 ⊢
    simp only [V0, V 31 (by decide) (by decide), (fun i => hg 6 i (by decide) (by unfold mO; omega) : ∀ i, gI σ' 6 i = gI σ 6 i), hg 0 10 (by decide) (by unfold mO; omega), hg 0 15 (by decide) (by unfold mO; omega)]
    exact h7
  · unfold Wsh at h8 ⊢
    simp only [V0, V 43 (by decide) (by decide), V 44 (by decide) (by decide), V 45 (by decide) (by decide), hg 0 34 (by decide) (by unfold mO; omega), (fun i => hg 16 i (by decide) (by unfold mO; omega) : ∀ i, gI σ' 16 i = gI σ 16 i), (fun i => hg 17 i (by decide) (by unfold mO; omega) : ∀ i, gI σ' 17 i = gI σ 17 i), (fun i => hg 18 i (by decide) (by unfold mO; omega) : ∀ i, gI σ' 18 i = gI σ 18 i)]
    exact h8
  · unfold Led at h9 ⊢
    simp only [V0, V 51 (by decide) (by decide), hg 0 43 (by decide) (by unfold mO; omega), hg 0 44 (by decide) (by unfold mO; omega), hg 0 45 (by decide) (by unfold mO; omega), (fun i => hg 24 i (by decide) (by unfold mO; omega) : ∀ i, gI σ' 24 i = gI σ 24 i)]
    exact h9
  · unfold Way at h10 ⊢
    simp only [V0, V 65 (by decide) (by decide), V 66 (by decide) (by decide), hg 0 53 (by decide) (by unfold mO; omega), hg 0 54 (by decide) (by unfold mO; omega), (fun i => hg 29 i (by decide) (by unfold mO; omega) : ∀ i, gI σ' 29 i = gI σ 29 i), (fun i => hg 30 i (by decide) (by unfold mO; omega) : ∀ i, gI σ' 30 i = gI σ 30 i)]
    exact h10
  · unfold Ver at h11 ⊢
    simp only [V0, V 32 (by decide) (by decide), V 39 (by decide) (by decide), V 52 (by decide) (by decide)]
    exact h11
end AD
