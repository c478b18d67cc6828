set_option maxRecDepth 100000
/-! ===== names: where, of, like ===== -/
/-- what an asking needs of FirstPolls: layout, owners, the Told and its row -/
def QQ (ow : Nat → Nat) (x : Nat) (w : AH) (T : Nat → Int32) : Prop := Lay x w ∧ Ow x ow w ∧ TRep ow w (x + 1) T ∧ WF T
theorem subD {a b : Int32} (h : rg a 0 120) (g : rg b 0 120) : rg (a - b) (-120) 120 := by
  unfold rg at *
  grind
theorem absD {e : Int32} (h : rg e (-120) 120) : (2 < (if 0 ≤ e then e else 0 - e)) ↔ ¬ (inr e (-2) 2 = true) := by
  unfold rg at h
  simp only [inr, Bool.and_eq_true, decide_eq_true_eq]
  split <;> grind
theorem add4 (a b c d e f : Int32) : some (a + b + c + d + e + f) = some (a + b + f + e + d + c) := by
  congr 1
  grind
section O4
variable {ow : Nat → Nat} {w w' : AH} {T T' : Nat → Int32} {x t : Nat} {σ σ' : SM}
theorem Rel.qq (hR : Rel ow x w σ) : QQ ow x w (gI σ 1) := ⟨hR.L, hR.O, hR.T, hR.W⟩
theorem QQ.sc (h : QQ ow x w T) (s : Sc x w w') : QQ ow x w' T :=
  ⟨s.1.lay h.1, s.1.oww h.2.1, s.1.trep h.2.2.1 h.2.2.2 (fun j i hj => s.2.1 _ _ (by unfold cS; omega)) (fun j i hj => s.2.2 _ _ (by omega)) (s.sx.z h.2.1), h.2.2.2⟩
theorem QQ.nm (h : QQ ow x w T) {n : Nat} (hn : n < cn T 1) : ∃ q, mC_J2_get (x + 4) (Int32.ofNat n) w = some q ∧ NameAt ow w T n q := by
  have := get_C h.2.2.1.2.2.2.2.2.2.2.2.2.1 hn
  rw [show x + 1 + 3 = x + 4 by omega] at this
  exact this
theorem b2i_t : b2i true = 1 := rfl
theorem b2i_f : b2i false = 0 := rfl
theorem ile_of {a b : Int32} (h : ¬ a < b) : b ≤ a := by grind
theorem inle_of {a b : Int32} (h : a < b) : ¬ b ≤ a := by grind
theorem hasMv_C (h : QQ ow x w T) {n : Nat} (hn : n < cn T 1) (d k : Int32) : fC_X0_hasMoved x (Int32.ofNat n) d k w = some (b2i (hasMv T n d k)) := by
  have k0 := h.2.2.2.c1.2.1
  obtain ⟨g1, g2, g3, g4⟩ := h.2.2.1.2.2.1 n hn
  rw [show x + 1 + 18 = x + 19 by omega] at g3
  rw [show x + 1 + 19 = x + 20 by omega, show x + 1 + 20 = x + 21 by omega] at g4
  unfold fC_X0_hasMoved hasMv
  have B1 := bnd_nat (n := n) (m := 200) (by omega) (by omega)
  simp only [B1, ck_tt, i_nat (show n < 2147483648 by omega), g3]
  by_cases h1 : T (76 + 11 * n) = -1
  · rw [if_pos h1, h1]
    rfl
  · obtain ⟨g5, g6⟩ := g4 h1
    rw [if_neg h1, g5, g6]
    by_cases h2 : d < T (77 + 11 * n)
    · rw [if_pos h2, decide_eq_false (inle_of h2)]
      simp [b2i]
    · rw [if_neg h2, decide_eq_true (ile_of h2), decide_eq_true h1]
      by_cases h3 : k < T (78 + 11 * n)
      · rw [if_pos h3, decide_eq_false (inle_of h3)]
        rfl
      · rw [if_neg h3, decide_eq_true (ile_of h3)]
        rfl
theorem hasMv_M (hW : WF (gI σ 1)) {n : Nat} (hn : n < cn (gI σ 1) 1) (d k : Int32) : mM_hasMoved (Int32.ofNat n) d k σ = some (b2i (hasMv (gI σ 1) n d k)) := by
  have k0 := hW.c1.2.1
  unfold mM_hasMoved hasMv
  have B3 := bnd_nat (n := 76 + 11 * n) (m := 23016) (by omega) (by omega)
  have B4 := bnd_nat (n := 77 + 11 * n) (m := 23016) (by omega) (by omega)
  have B5 := bnd_nat (n := 78 + 11 * n) (m := 23016) (by omega) (by omega)
  have s1 : 68 + 11 * n + 8 = 76 + 11 * n := by omega
  have s2 : 76 + 11 * n + 1 = 77 + 11 * n := by omega
  have s3 : 76 + 11 * n + 2 = 78 + 11 * n := by omega
  simp only [nameAt_M, bd1_s, i_a 8 8 rfl, i_a 1 1 rfl, i_a 2 2 rfl, s1, s2, s3, B3, B4, B5, ck_tt, i_nat (show 76 + 11 * n < 2147483648 by omega), i_nat (show 77 + 11 * n < 2147483648 by omega), i_nat (show 78 + 11 * n < 2147483648 by omega)]
  by_cases h1 : gI σ 1 (76 + 11 * n) = -1
  · rw [if_pos h1, h1]
    rfl
  · rw [if_neg h1]
    by_cases h2 : d < gI σ 1 (77 + 11 * n)
    · rw [if_pos h2, decide_eq_false (inle_of h2)]
      simp [b2i]
    · rw [if_neg h2, decide_eq_true (ile_of h2), decide_eq_true h1]
      by_cases h3 : k < gI σ 1 (78 + 11 * n)
      · rw [if_pos h3, decide_eq_false (inle_of h3)]
        rfl
      · rw [if_neg h3, decide_eq_true (ile_of h3)]
        rfl
theorem whr_C (h : QQ ow x w T) {n : Nat} (hn : n < cn T 1) (d k : Int32) : fC_X0_placeOf x (Int32.ofNat n) d k w = some (whrS T n d k) := by
  have k0 := h.2.2.2.c1.2.1
  obtain ⟨g1, g2, g3, g4⟩ := h.2.2.1.2.2.1 n hn
  rw [show x + 1 + 18 = x + 19 by omega] at g3
  obtain ⟨q, q1, q2⟩ := h.nm hn
  unfold fC_X0_placeOf whrS
  rw [hasMv_C h hn, bd1_s, q1, bd1_s, ck_t (name_k q2), q2.2.2.1, ck_t (bnd_nat (by omega) (by omega)), i_nat (by omega), g3]
  cases hasMv T n d k <;> rfl
theorem whr_M (hW : WF (gI σ 1)) {n : Nat} (hn : n < cn (gI σ 1) 1) (d k : Int32) : mM_whereOf (Int32.ofNat n) d k σ = some (whrS (gI σ 1) n d k) := by
  have k0 := hW.c1.2.1
  unfold mM_whereOf whrS
  have B2 := bnd_nat (n := 68 + 11 * n) (m := 23016) (by omega) (by omega)
  have B3 := bnd_nat (n := 76 + 11 * n) (m := 23016) (by omega) (by omega)
  have s1 : 68 + 11 * n + 8 = 76 + 11 * n := by omega
  simp only [hasMv_M hW hn, nameAt_M, bd1_s, i_a 8 8 rfl, s1, B2, B3, ck_tt, i_nat (show 68 + 11 * n < 2147483648 by omega), i_nat (show 76 + 11 * n < 2147483648 by omega)]
  cases hasMv (gI σ 1) n d k <;> rfl
theorem isNm_F (h : Rel ow x w σ) (p : Int32) : fC_X0_isName x p w = some (b2i (bel p (gI σ 1 1))) := by rw [← fC_X0_isName_e _ h.L, isName_C h.rt]
theorem isPl_F (h : Rel ow x w σ) (p : Int32) : fC_X0_isPlace x p w = some (b2i (bel p (gI σ 1 0))) := by rw [← fC_X0_isPlace_e _ h.L, isPlace_C h.rt]
theorem op_where (hR : Rel ow x w σ) (a b c : Int32) : OpR x w (mC_X0_where x a b c w) (mM_where a b c σ) := by
  rw [fC_X0_where_e _ _ _ hR.L]
  unfold fC_X0_where mM_where
  rw [show ∀ f : SM → Option (Int32 × SM), st1 (sI σ 0 0 (0 : Int32)) f = f (sI σ 0 0 0) from fun _ => rfl, isNm_F hR, isName_M hR.thr.W]
  simp only [bd1_s, bd2_s, in_C, isDay_C, isDay_M, b2i_0, isZ_b, ck_tt, Bool.true_eq_false, Bool.false_eq_true, if_true, if_false, ref_F, told_0, told_1, told_2, told_3, told_4, told_5, told_6]
  rw [show gI (sI σ 0 0 0) 1 = gI σ 1 from rfl]
  by_cases h0 : bel a (gI σ 1 1) = true
  case neg =>
    simp only [Bool.not_eq_true] at h0
    simp only [h0, if_true, if_false, Bool.true_eq_false]
    exact ⟨_, _, ow, rfl, rfl, hR.thr⟩
  by_cases h1 : dy b = true
  case neg =>
    simp only [Bool.not_eq_true] at h1
    simp only [h0, h1, if_true, if_false, Bool.true_eq_false]
    exact ⟨_, _, ow, rfl, rfl, hR.thr⟩
  by_cases h2 : dy c = true
  case neg =>
    simp only [Bool.not_eq_true] at h2
    simp only [h0, h1, h2, if_true, if_false, Bool.true_eq_false]
    exact ⟨_, _, ow, rfl, rfl, hR.thr⟩
  simp only [h0, h1, h2, if_true, if_false, Bool.true_eq_false]
  have k0 := hR.W.c1.2.1
  rw [hR.W.c2.2.1] at h0
  obtain ⟨n, n1, rfl⟩ := bel_ex h0 (by omega)
  obtain ⟨q, q1, q2⟩ := hR.qq.nm n1
  rw [q1, bd1_s, ck_t (name_k q2), q2.2.2.2.2.2.2, whr_C hR.qq n1, bd1_s, nameAt_M, bd1_s, i_a 5 5 rfl, show 68 + 11 * n + 5 = 73 + 11 * n by omega, ck_t (bnd_nat (by omega) (by omega)), i_nat (by omega), whr_M hR.thr.W n1, bd1_s]
  by_cases h3 : c < gI σ 1 (73 + 11 * n)
  · rw [if_pos h3, if_pos h3]
    exact ⟨_, _, ow, rfl, rfl, hR.thr⟩
  · rw [if_neg h3, if_neg h3]
    exact ⟨_, _, ow, rfl, rfl, hR.thr⟩
theorem kind_C {n q : Nat} (h : NameAt ow w T n q) : dKind q w = some (T (71 + 11 * n)) := by
  obtain ⟨_, ⟨k, k1, k2, k3⟩, _⟩ := h
  unfold dKind mC_X9_kind mC_X11_kind
  rw [k2, k3]
  have : k = 0 ∨ k = 1 ∨ k = 2 ∨ k = 3 := by omega
  rcases this with rfl | rfl | rfl | rfl <;> rfl
theorem op_of (hR : Rel ow x w σ) (a b : Int32) : OpR x w (mC_X0_of x a b w) (mM_of a b σ) := by
  rw [fC_X0_of_e _ _ hR.L]
  unfold fC_X0_of mM_of
  rw [show ∀ f : SM → Option (Int32 × SM), st1 (sI σ 0 0 (0 : Int32)) f = f (sI σ 0 0 0) from fun _ => rfl, isNm_F hR, isName_M hR.thr.W]
  simp only [bd1_s, bd2_s, in_C, isDay_C, isDay_M, b2i_0, isZ_b, ck_tt, Bool.true_eq_false, Bool.false_eq_true, if_true, if_false, ref_F, told_0, told_1, told_2, told_3, told_4, told_5, told_6, in_M b 0 4 0 4 rfl rfl]
  rw [show gI (sI σ 0 0 0) 1 = gI σ 1 from rfl]
  by_cases h0 : bel a (gI σ 1 1) = true
  case neg =>
    simp only [Bool.not_eq_true] at h0
    simp only [h0, if_true, if_false, Bool.true_eq_false]
    exact ⟨_, _, ow, rfl, rfl, hR.thr⟩
  simp only [h0, if_true, if_false, Bool.true_eq_false]
  have k0 := hR.W.c1.2.1
  rw [hR.W.c2.2.1] at h0
  obtain ⟨n, n1, rfl⟩ := bel_ex h0 (by omega)
  obtain ⟨q, q1, q2⟩ := hR.qq.nm n1
  rw [q1, bd1_s, ck_t (name_k q2), q2.2.2.1, q2.2.2.2.1, q2.2.2.2.2.1, q2.2.2.2.2.2.1, kind_C q2, bd1_s, nameAt_M, bd1_s]
  by_cases p0 : b = 0
  · subst p0
    rw [if_pos rfl, if_neg (by decide), show Int32.ofNat (68 + 11 * n) + 0 = Int32.ofNat (68 + 11 * n) from Int32.add_zero _, ck_t (bnd_nat (by omega) (by omega)), i_nat (by omega)]
    exact ⟨_, _, ow, rfl, rfl, hR.thr⟩
  by_cases p1 : b = 1
  · subst p1
    rw [if_neg p0, if_pos rfl, if_neg (by decide), i_a 1 1 rfl, ck_t (bnd_nat (by omega) (by omega)), i_nat (by omega), show 68 + 11 * n + 1 = 69 + 11 * n by omega]
    exact ⟨_, _, ow, rfl, rfl, hR.thr⟩
  by_cases p2 : b = 2
  · subst p2
    rw [if_neg p0, if_neg p1, if_pos rfl, if_neg (by decide), i_a 2 2 rfl, ck_t (bnd_nat (by omega) (by omega)), i_nat (by omega), show 68 + 11 * n + 2 = 70 + 11 * n by omega]
    exact ⟨_, _, ow, rfl, rfl, hR.thr⟩
  by_cases p3 : b = 3
  · subst p3
    rw [if_neg p0, if_neg p1, if_neg p2, if_pos rfl, if_neg (by decide), i_a 3 3 rfl, ck_t (bnd_nat (by omega) (by omega)), i_nat (by omega), show 68 + 11 * n + 3 = 71 + 11 * n by omega]
    exact ⟨_, _, ow, rfl, rfl, hR.thr⟩
  by_cases p4 : b = 4
  · subst p4
    rw [if_neg p0, if_neg p1, if_neg p2, if_neg p3, if_pos rfl, if_neg (by decide), i_a 4 4 rfl, ck_t (bnd_nat (by omega) (by omega)), i_nat (by omega), show 68 + 11 * n + 4 = 72 + 11 * n by omega]
    exact ⟨_, _, ow, rfl, rfl, hR.thr⟩
  have : inr b 0 4 = false := by
    rw [Bool.eq_false_iff]
    intro h
    obtain ⟨m, m1, rfl⟩ := rg_ex (m := 4) rfl (inr_ex h) (by decide)
    have : m = 0 ∨ m = 1 ∨ m = 2 ∨ m = 3 ∨ m = 4 := by omega
    rcases this with rfl | rfl | rfl | rfl | rfl
    · exact p0 rfl
    · exact p1 rfl
    · exact p2 rfl
    · exact p3 rfl
    · exact p4 rfl
  rw [if_neg p0, if_neg p1, if_neg p2, if_neg p3, if_neg p4, this, if_pos rfl]
  exact ⟨_, _, ow, rfl, rfl, hR.thr⟩
def lk1 (u v k : Int32) : Int32 := if ((u >>> k) &&& 255) = ((v >>> k) &&& 255) then 1 else 0
def likeS (T : Nat → Int32) (a b : Nat) : Int32 := (if T (69 + 11 * a) = T (69 + 11 * b) then 1 else 0) + (if inr (T (70 + 11 * a) - T (70 + 11 * b)) (-2) 2 = true then 1 else 0) + lk1 (T (72 + 11 * a)) (T (72 + 11 * b)) 0 + lk1 (T (72 + 11 * a)) (T (72 + 11 * b)) 8 + lk1 (T (72 + 11 * a)) (T (72 + 11 * b)) 16 + lk1 (T (72 + 11 * a)) (T (72 + 11 * b)) 24
theorem lq4_s {A B C D R : Type} (F : (A → B → C → D → Option R) → A → B → C → D → Option R) (n : Nat) (a : A) (b : B) (c : C) (d : D) : lq4 F (n + 1) a b c d = F (lq4 F n) a b c d := rfl
theorem LF5 : LF = 999999995 + 1 + 1 + 1 + 1 + 1 := rfl
theorem likeS_C (h : QQ ow x w T) {n m : Nat} (hn : n < cn T 1) (hm : m < cn T 1) : fC_X0_likeOf x (Int32.ofNat n) (Int32.ofNat m) w = some (likeS T n m) := by
  obtain ⟨q, q1, q2⟩ := h.nm hn
  obtain ⟨p, p1, p2⟩ := h.nm hm
  have L : ∀ v : Int32, lq4 (fC_X0_likeOf_76 x w) LF q p v 0 = some (v + lk1 (T (72 + 11 * n)) (T (72 + 11 * m)) 0 + lk1 (T (72 + 11 * n)) (T (72 + 11 * m)) 8 + lk1 (T (72 + 11 * n)) (T (72 + 11 * m)) 16 + lk1 (T (72 + 11 * n)) (T (72 + 11 * m)) 24) := by
    intro v
    have S : ∀ (k : Nat → Nat → Int32 → Int32 → Option Int32) (u i s : Int32), ¬ 4 ≤ i → (8 * i) &&& 31 = s → fC_X0_likeOf_76 x w k q p u i = k q p (u + lk1 (T (72 + 11 * n)) (T (72 + 11 * m)) s) (i + 1) := by
      intro k u i s h1 h2
      unfold fC_X0_likeOf_76 fC_X0_likeOf_121 lk1
      rw [if_neg h1, ck_t (name_k q2), ck_t (name_k p2), h2, q2.2.2.2.2.2.1, p2.2.2.2.2.2.1]
      split <;> rfl
    rw [LF5, lq4_s, S _ _ 0 0 (by decide) (by decide), lq4_s, S _ _ (0 + 1) 8 (by decide) (by decide), lq4_s, S _ _ (0 + 1 + 1) 16 (by decide) (by decide), lq4_s, S _ _ (0 + 1 + 1 + 1) 24 (by decide) (by decide), lq4_s]
    unfold fC_X0_likeOf_76
    rw [if_pos (by decide)]
  have ka := (h.2.2.2.2.2.1 n hn).2.2.1
  have kb := (h.2.2.2.2.2.1 m hm).2.2.1
  have hd := absD (subD ka kb)
  unfold fC_X0_likeOf fC_X0_likeOf_48 fC_X0_likeOf_70
  rw [q1, bd1_s, ck_t (name_k q2), p1, bd1_s, ck_t (name_k p2), q2.2.2.2.1, p2.2.2.2.1]
  simp only [ck_t (name_k q2), ck_t (name_k p2), q2.2.2.2.2.1, p2.2.2.2.2.1, L]
  rw [st1_e, st1_e]
  unfold likeS
  by_cases h1 : T (69 + 11 * n) = T (69 + 11 * m)
  · rw [if_pos h1, if_pos h1]
    by_cases h2 : inr (T (70 + 11 * n) - T (70 + 11 * m)) (-2) 2 = true
    · rw [if_neg (by rw [hd]; simp [h2]), if_pos h2]
    · rw [if_pos (by rw [hd]; exact h2), if_neg h2]
  · rw [if_neg h1, if_neg h1]
    by_cases h2 : inr (T (70 + 11 * n) - T (70 + 11 * m)) (-2) 2 = true
    · rw [if_neg (by rw [hd]; simp [h2]), if_pos h2]
    · rw [if_pos (by rw [hd]; exact h2), if_neg h2]
theorem likeS_M (hW : WF (gI σ 1)) {n m : Nat} (hn : n < cn (gI σ 1) 1) (hm : m < cn (gI σ 1) 1) : mM_likeOf (Int32.ofNat n) (Int32.ofNat m) σ = some (likeS (gI σ 1) n m) := by
  have k0 := hW.c1.2.1
  have L : ∀ v : Int32, lq4 (mM_likeOf_83 σ) LF (Int32.ofNat (68 + 11 * n)) (Int32.ofNat (68 + 11 * m)) v 24 = some (v + lk1 (gI σ 1 (72 + 11 * n)) (gI σ 1 (72 + 11 * m)) 24 + lk1 (gI σ 1 (72 + 11 * n)) (gI σ 1 (72 + 11 * m)) 16 + lk1 (gI σ 1 (72 + 11 * n)) (gI σ 1 (72 + 11 * m)) 8 + lk1 (gI σ 1 (72 + 11 * n)) (gI σ 1 (72 + 11 * m)) 0) := by
    intro v
    have S : ∀ (k : Int32 → Int32 → Int32 → Int32 → Option Int32) (u i s : Int32), ¬ i < 0 → i &&& 31 = s → mM_likeOf_83 σ k (Int32.ofNat (68 + 11 * n)) (Int32.ofNat (68 + 11 * m)) u i = k (Int32.ofNat (68 + 11 * n)) (Int32.ofNat (68 + 11 * m)) (u + lk1 (gI σ 1 (72 + 11 * n)) (gI σ 1 (72 + 11 * m)) s) (i + -8) := by
      intro k u i s h1 h2
      unfold mM_likeOf_83 mM_likeOf_129 lk1
      rw [if_neg h1, i_a 4 4 rfl, ck_t (bnd_nat (by omega) (by omega)), i_nat (by omega), show 68 + 11 * n + 4 = 72 + 11 * n by omega, i_a 4 4 rfl, ck_t (bnd_nat (by omega) (by omega)), i_nat (by omega), show 68 + 11 * m + 4 = 72 + 11 * m by omega, h2]
      split <;> rfl
    rw [LF5, lq4_s, S _ _ 24 24 (by decide) (by decide), lq4_s, S _ _ (24 + -8) 16 (by decide) (by decide), lq4_s, S _ _ (24 + -8 + -8) 8 (by decide) (by decide), lq4_s, S _ _ (24 + -8 + -8 + -8) 0 (by decide) (by decide), lq4_s]
    unfold mM_likeOf_83
    rw [if_pos (by decide)]
  have B : ∀ (a j : Nat), a < 200 → j < 11 → bnd (Int32.ofNat (68 + 11 * a + j)) 23016 = true := fun a j ha hj => bnd_nat (by omega) (by omega)
  have N : ∀ (a j : Nat), a < 200 → j < 11 → (Int32.ofNat (68 + 11 * a + j)).toNatClampNeg = 68 + 11 * a + j := fun a j ha hj => i_nat (by omega)
  unfold mM_likeOf mM_likeOf_56 mM_likeOf_76
  simp only [nameAt_M, bd1_s, i_a 1 1 rfl, i_a 2 2 rfl, B n 1 (by omega) (by decide), B n 2 (by omega) (by decide), B m 1 (by omega) (by decide), B m 2 (by omega) (by decide), N n 1 (by omega) (by decide), N n 2 (by omega) (by decide), N m 1 (by omega) (by decide), N m 2 (by omega) (by decide), ck_tt, L]
  rw [show 68 + 11 * n + 1 = 69 + 11 * n by omega, show 68 + 11 * n + 2 = 70 + 11 * n by omega, show 68 + 11 * m + 1 = 69 + 11 * m by omega, show 68 + 11 * m + 2 = 70 + 11 * m by omega, in_M _ (-2) 2 (-2) 2 rfl rfl]
  unfold likeS
  generalize lk1 (gI σ 1 (72 + 11 * n)) (gI σ 1 (72 + 11 * m)) 24 = z1
  generalize lk1 (gI σ 1 (72 + 11 * n)) (gI σ 1 (72 + 11 * m)) 16 = z2
  generalize lk1 (gI σ 1 (72 + 11 * n)) (gI σ 1 (72 + 11 * m)) 8 = z3
  generalize lk1 (gI σ 1 (72 + 11 * n)) (gI σ 1 (72 + 11 * m)) 0 = z4
  simp only [bd1_s, b2i_0]
  by_cases h1 : gI σ 1 (69 + 11 * n) = gI σ 1 (69 + 11 * m)
  · rw [if_pos h1, if_pos h1]
    cases inr (gI σ 1 (70 + 11 * n) - gI σ 1 (70 + 11 * m)) (-2) 2
    · rw [if_pos rfl, if_neg (by decide), add4]
    · rw [if_neg (by decide), if_pos rfl, add4]
  · rw [if_neg h1, if_neg h1]
    cases inr (gI σ 1 (70 + 11 * n) - gI σ 1 (70 + 11 * m)) (-2) 2
    · rw [if_pos rfl, if_neg (by decide), add4]
    · rw [if_neg (by decide), if_pos rfl, add4]
theorem op_like (hR : Rel ow x w σ) (a b : Int32) : OpR x w (mC_X0_like x a b w) (mM_like a b σ) := by
  rw [fC_X0_like_e _ _ hR.L]
  unfold fC_X0_like mM_like
  rw [show ∀ f : SM → Option (Int32 × SM), st1 (sI σ 0 0 (0 : Int32)) f = f (sI σ 0 0 0) from fun _ => rfl, isNm_F hR, isNm_F hR, isName_M hR.thr.W, isName_M hR.thr.W]
  simp only [bd1_s, bd2_s, in_C, isDay_C, isDay_M, b2i_0, isZ_b, ck_tt, Bool.true_eq_false, Bool.false_eq_true, if_true, if_false, ref_F, told_0, told_1, told_2, told_3, told_4, told_5, told_6]
  rw [show gI (sI σ 0 0 0) 1 = gI σ 1 from rfl]
  by_cases h0 : bel a (gI σ 1 1) = true
  case neg =>
    simp only [Bool.not_eq_true] at h0
    simp only [h0, if_true, if_false, Bool.true_eq_false]
    exact ⟨_, _, ow, rfl, rfl, hR.thr⟩
  by_cases h1 : bel b (gI σ 1 1) = true
  case neg =>
    simp only [Bool.not_eq_true] at h1
    simp only [h0, h1, if_true, if_false, Bool.true_eq_false]
    exact ⟨_, _, ow, rfl, rfl, hR.thr⟩
  simp only [h0, h1, if_true, if_false, Bool.true_eq_false]
  by_cases h2 : a = b
  · rw [if_pos h2, if_pos h2]
    exact ⟨_, _, ow, rfl, rfl, hR.thr⟩
  rw [if_neg h2, if_neg h2]
  have k0 := hR.W.c1.2.1
  rw [hR.W.c2.2.1] at h0 h1
  obtain ⟨n, n1, rfl⟩ := bel_ex h0 (by omega)
  obtain ⟨m, m1, rfl⟩ := bel_ex h1 (by omega)
  rw [likeS_C hR.qq n1 m1, likeS_M hR.thr.W n1 m1, bd1_s, bd1_s]
  exact ⟨_, _, ow, rfl, rfl, hR.thr⟩
end O4
