set_option maxRecDepth 100000
section O8
variable {ow ow' : Nat → Nat} {w w' wn : AH} {T T' : Nat → Int32} {x t : Nat} {σ σ' : SM} {L n : Nat}
def o2i (o : Option Nat) : Int32 := match o with
  | none => -1
  | some k => Int32.ofNat k
theorem i_nm1 {n : Nat} (h : n < 2147483648) : ¬ Int32.ofNat n = -1 := by
  have := i_pos h
  grind
theorem brkU_lt (T : Nat → Int32) (b : Nat) (k : Int32) : ∀ i g, brkU T b k i = some g → g < i
  | 0, g, h => by simp [brkU] at h
  | i + 1, g, h => by
    unfold brkU at h
    split at h
    · split at h
      · cases h; omega
      · rename_i e
        split at h
        · cases h; omega
        · cases h
          have := brkU_lt T b k i _ e
          omega
    · have := brkU_lt T b k i g h
      omega
theorem brkU_bx (T : Nat → Int32) (b : Nat) (k : Int32) : ∀ i g, brkU T b k i = some g → T (2528 + 5 * g) = Int32.ofNat b
  | 0, g, h => by simp [brkU] at h
  | i + 1, g, h => by
    unfold brkU at h
    split at h
    · rename_i c
      split at h
      · cases h; exact c.1
      · rename_i e
        split at h
        · cases h; exact c.1
        · cases h
          exact brkU_bx T b k i _ e
    · exact brkU_bx T b k i g h
theorem ite_le {α : Type} {a b : Int32} {p q : α} : (if a ≤ b then p else q) = if b < a then q else p := by
  by_cases h : a ≤ b
  · rw [if_pos h, if_neg (by grind)]
  · rw [if_neg h, if_pos (by grind)]
theorem brk_C (h : QQ ow x w T) {b : Nat} (hb : b < cn T 4) (k : Int32) : fC_X0_breaks x (Int32.ofNat b) k w = some (o2i (brkS T b k)) := by
  have k5 := h.2.2.2.c1.2.2.2.2.2.1
  have k4 := h.2.2.2.c1.2.2.2.2.1
  have t5 := (h.2.2.1.2.2.2.2.1.2 b hb).2
  rw [show x + 1 + 23 = x + 24 by omega] at t5
  have L : ∀ (j f i : Nat), i + j = cn T 5 → j < f → lq4 (fC_X0_breaks_5 x w) f (Int32.ofNat b) k (o2i (brkU T b k i)) (Int32.ofNat i) = some (o2i (brkU T b k (cn T 5))) := by
    intro j
    induction j with
    | zero =>
      intro f i hi hf
      obtain ⟨f, rfl⟩ : ∃ g, f = g + 1 := ⟨f - 1, by omega⟩
      have hle : Int32.ofNat (cn T 5) ≤ Int32.ofNat i := by rw [i_le (by omega) (by omega)]; omega
      rw [lq4_s]
      unfold fC_X0_breaks_5
      rw [h.s5, bd1_s, if_pos hle, show i = cn T 5 by omega]
    | succ j ih =>
      intro f i hi hf
      obtain ⟨f, rfl⟩ : ∃ g, f = g + 1 := ⟨f - 1, by omega⟩
      have hle : ¬ Int32.ofNat (cn T 5) ≤ Int32.ofNat i := by rw [i_le (by omega) (by omega)]; omega
      obtain ⟨q, q1, q2⟩ := h.han (c := i) (by omega)
      have nx := ih f (i + 1) (by omega) (by omega)
      rw [lq4_s]
      generalize lq4 (fC_X0_breaks_5 x w) f = F at nx ⊢
      unfold fC_X0_breaks_5 fC_X0_breaks_102 fC_X0_breaks_105
      rw [h.s5, bd1_s, if_neg hle, q1, bd1_s, ck_t (note_k q2), q2.2.2.1, q2.2.2.2.1 |> fun _ => q2.2.2.2.2.2.2, q2.2.2.2.2.2.1, q2.2.2.2.2.1, ck_t (bnd_nat (by omega) (by omega)), i_nat (by omega), t5, i_a 1 1 rfl]
      rw [← nx]
      have e : brkU T b k (i + 1) = if T (2528 + 5 * i) = Int32.ofNat b ∧ T (2532 + 5 * i) ≤ k ∧ T (2531 + 5 * i) ≠ T (2449 + 2 * b) then (match brkU T b k i with | none => some i | some g => if T (2530 + 5 * i) < T (2530 + 5 * g) then some i else some g) else brkU T b k i := rfl
      have E1 : ¬ (T (2528 + 5 * i) = Int32.ofNat b ∧ T (2532 + 5 * i) ≤ k ∧ T (2531 + 5 * i) ≠ T (2449 + 2 * b)) → brkU T b k (i + 1) = brkU T b k i := fun g => by rw [e, if_neg g]
      have E2 : (T (2528 + 5 * i) = Int32.ofNat b ∧ T (2532 + 5 * i) ≤ k ∧ T (2531 + 5 * i) ≠ T (2449 + 2 * b)) → brkU T b k (i + 1) = (match brkU T b k i with | none => some i | some g => if T (2530 + 5 * i) < T (2530 + 5 * g) then some i else some g) := fun g => by rw [e, if_pos g]
      by_cases c1 : T (2528 + 5 * i) = Int32.ofNat b
      case neg => rw [if_neg c1, E1 (fun g => c1 g.1)]
      rw [if_pos c1]
      by_cases c2 : k < T (2532 + 5 * i)
      · rw [if_pos c2, E1 (fun g => inle_of c2 g.2.1)]
      rw [if_neg c2]
      by_cases c3 : T (2531 + 5 * i) = T (2449 + 2 * b)
      · rw [if_pos c3, E1 (fun g => g.2.2 c3)]
      rw [if_neg c3, E2 ⟨c1, ile_of c2, c3⟩]
      cases hb : brkU T b k i with
      | none =>
        show (if (-1 : Int32) = -1 then _ else _) = _
        rw [if_pos rfl]
        rfl
      | some g =>
        have hg := brkU_lt T b k i g hb
        obtain ⟨p, p1, p2⟩ := h.han (c := g) (by omega)
        show (if Int32.ofNat g = -1 then _ else _) = _
        rw [if_neg (i_nm1 (by omega))]
        show bd1 (mC_J2_get (x + 8) (Int32.ofNat g) w) _ = _
        rw [p1, bd1_s, ck_t (note_k p2), p2.2.2.2.2.1, ite_le]
        by_cases c4 : T (2530 + 5 * i) < T (2530 + 5 * g)
        · rw [if_pos c4]
          simp only [c4, if_true]
          rfl
        · rw [if_neg c4]
          simp only [c4, if_false]
  unfold fC_X0_breaks brkS
  have := L (cn T 5) LF 0 (by omega) (by unfold LF; omega)
  exact this
theorem brk_M (hW : WF (gI σ 1)) {b : Nat} (hb : b < cn (gI σ 1) 4) (k : Int32) : mM_brokenOf (Int32.ofNat b) k σ = some (o2i (brkS (gI σ 1) b k)) := by
  obtain ⟨T, hT⟩ : ∃ T, gI σ 1 = T := ⟨_, rfl⟩
  rw [hT] at hW hb ⊢
  have k5 := hW.c1.2.2.2.2.2.1
  have k4 := hW.c1.2.2.2.2.1
  have e5 := hW.c2.2.2.2.2.2.1
  have L : ∀ (j f i : Nat), i + j = cn T 5 → j < f → lq4 (mM_brokenOf_5 σ) f (Int32.ofNat b) k (o2i (brkU T b k i)) (Int32.ofNat i) = some (o2i (brkU T b k (cn T 5))) := by
    intro j
    induction j with
    | zero =>
      intro f i hi hf
      obtain ⟨f, rfl⟩ : ∃ g, f = g + 1 := ⟨f - 1, by omega⟩
      have hle : Int32.ofNat (cn T 5) ≤ Int32.ofNat i := by rw [i_le (by omega) (by omega)]; omega
      rw [lq4_s]
      unfold mM_brokenOf_5
      rw [hT, e5, if_pos hle, show i = cn T 5 by omega]
    | succ j ih =>
      intro f i hi hf
      obtain ⟨f, rfl⟩ : ∃ g, f = g + 1 := ⟨f - 1, by omega⟩
      have hle : ¬ Int32.ofNat (cn T 5) ≤ Int32.ofNat i := by rw [i_le (by omega) (by omega)]; omega
      have nx := ih f (i + 1) (by omega) (by omega)
      rw [lq4_s]
      generalize lq4 (mM_brokenOf_5 σ) f = F at nx ⊢
      unfold mM_brokenOf_5 mM_brokenOf_80 mM_brokenOf_81 mM_brokenOf_119 mM_brokenOf_124 mM_brokenOf_125
      have B : ∀ z, z < 23016 → bnd (Int32.ofNat z) 23016 = true := fun z hz => bnd_nat hz (by omega)
      have N : ∀ z, z < 23016 → (Int32.ofNat z).toNatClampNeg = z := fun z hz => i_nat (by omega)
      have s1 : 2528 + 5 * i + 4 = 2532 + 5 * i := by omega
      have s2 : 2528 + 5 * i + 3 = 2531 + 5 * i := by omega
      have s3 : 2528 + 5 * i + 2 = 2530 + 5 * i := by omega
      have s4 : 2448 + 2 * b + 1 = 2449 + 2 * b := by omega
      rw [hT, e5, if_neg hle]
      simp only [i_am 2528 5 2528 5 rfl rfl, i_am 2448 2 2448 2 rfl rfl, i_a 4 4 rfl, i_a 3 3 rfl, i_a 2 2 rfl, i_a 1 1 rfl, s1, s2, s3, s4, B (2528 + 5 * i) (by omega), B (2532 + 5 * i) (by omega), B (2531 + 5 * i) (by omega), B (2530 + 5 * i) (by omega), B (2449 + 2 * b) (by omega), N (2528 + 5 * i) (by omega), N (2532 + 5 * i) (by omega), N (2531 + 5 * i) (by omega), N (2530 + 5 * i) (by omega), N (2449 + 2 * b) (by omega), ck_tt, if_true, if_false]
      rw [← nx]
      have e : brkU T b k (i + 1) = if T (2528 + 5 * i) = Int32.ofNat b ∧ T (2532 + 5 * i) ≤ k ∧ T (2531 + 5 * i) ≠ T (2449 + 2 * b) then (match brkU T b k i with | none => some i | some g => if T (2530 + 5 * i) < T (2530 + 5 * g) then some i else some g) else brkU T b k i := rfl
      have E1 : ¬ (T (2528 + 5 * i) = Int32.ofNat b ∧ T (2532 + 5 * i) ≤ k ∧ T (2531 + 5 * i) ≠ T (2449 + 2 * b)) → brkU T b k (i + 1) = brkU T b k i := fun g => by rw [e, if_neg g]
      have E2 : (T (2528 + 5 * i) = Int32.ofNat b ∧ T (2532 + 5 * i) ≤ k ∧ T (2531 + 5 * i) ≠ T (2449 + 2 * b)) → brkU T b k (i + 1) = (match brkU T b k i with | none => some i | some g => if T (2530 + 5 * i) < T (2530 + 5 * g) then some i else some g) := fun g => by rw [e, if_pos g]
      by_cases c1 : T (2528 + 5 * i) = Int32.ofNat b
      case neg => rw [if_neg c1, E1 (fun g => c1 g.1)]
      rw [if_pos c1]
      by_cases c2 : k < T (2532 + 5 * i)
      · rw [if_pos c2, E1 (fun g => inle_of c2 g.2.1)]
      rw [if_neg c2]
      by_cases c3 : T (2531 + 5 * i) = T (2449 + 2 * b)
      · rw [if_pos c3, E1 (fun g => g.2.2 c3)]
      rw [if_neg c3, E2 ⟨c1, ile_of c2, c3⟩]
      try rw [if_neg (show ¬ (1 : Int32) = 0 by decide)]
      cases hb : brkU T b k i with
      | none =>
        show (if (-1 : Int32) = -1 then _ else _) = _
        rw [if_pos rfl]
        rfl
      | some g =>
        have hg := brkU_lt T b k i g hb
        show (if Int32.ofNat g = -1 then _ else _) = _
        rw [if_neg (i_nm1 (by omega))]
        rw [show o2i (some g) = Int32.ofNat g from rfl, i_am 2528 5 2528 5 rfl rfl, i_a 2 2 rfl, show 2528 + 5 * g + 2 = 2530 + 5 * g by omega, ck_t (B _ (by omega)), N _ (by omega), ite_le]
        by_cases c4 : T (2530 + 5 * i) < T (2530 + 5 * g)
        · rw [if_pos c4]
          simp only [c4, if_true]
          rfl
        · rw [if_neg c4]
          simp only [c4, if_false]
          rfl
  unfold mM_brokenOf brkS
  have := L (cn T 5) LF 0 (by omega) (by unfold LF; omega)
  exact this
theorem lq7_s {A B C D E F H R : Type} (G : (A → B → C → D → E → F → H → Option R) → A → B → C → D → E → F → H → Option R) (n : Nat) (a : A) (b : B) (c : C) (d : D) (e : E) (f : F) (h : H) : lq7 G (n + 1) a b c d e f h = G (lq7 G n) a b c d e f h := rfl
theorem lq5_s {A B C D E R : Type} (G : (A → B → C → D → E → Option R) → A → B → C → D → E → Option R) (n : Nat) (a : A) (b : B) (c : C) (d : D) (e : E) : lq5 G (n + 1) a b c d e = G (lq5 G n) a b c d e := rfl
theorem isBx_F (h : Rel ow x w σ) (p : Int32) : fC_X0_isBox x p w = some (b2i (bel p (gI σ 1 4))) := by rw [← fC_X0_isBox_e _ h.L, isBox_C h.rt]
/-- the latest handing so far: its address, its number, its day -/
def HD (ow : Nat → Nat) (w : AH) (T : Nat → Int32) (i : Nat) (o : Option Nat) (v d : Int32) : Prop := (o = none ∧ v = -1 ∧ d = -1) ∨ ∃ q c, c < i ∧ o = some q ∧ HandAt ow w T c q ∧ v = T (2529 + 5 * c) ∧ d = T (2530 + 5 * c)
theorem held_loop (hq : QQ ow x w (gI σ 1)) (p d k : Int32) (hd : dy d = true) : ∀ (j f i : Nat) (o : Option Nat) (v e : Int32), i + j = cn (gI σ 1) 5 → j < f → HD ow w (gI σ 1) i o v e → ∃ o' v' e', lq7 (fC_X0_handed_38 x w) f p d k (-1) o 400 (Int32.ofNat i) = some o' ∧ lq7 mM_held_38 f p d k v e (Int32.ofNat i) σ = some (v', σ) ∧ HD ow w (gI σ 1) (cn (gI σ 1) 5) o' v' e' := by
  obtain ⟨T, hT⟩ : ∃ T, gI σ 1 = T := ⟨_, rfl⟩
  rw [hT] at hq ⊢
  have k5 := hq.2.2.2.c1.2.2.2.2.2.1
  have e5 := hq.2.2.2.c2.2.2.2.2.2.1
  have hd2 := (inr_ex hd).2
  intro j
  induction j with
  | zero =>
    intro f i o v e hi hf hA
    obtain ⟨f, rfl⟩ : ∃ g, f = g + 1 := ⟨f - 1, by omega⟩
    have hle : Int32.ofNat (cn T 5) ≤ Int32.ofNat i := by rw [i_le (by omega) (by omega)]; omega
    refine ⟨o, v, e, ?_, ?_, by rw [show cn T 5 = i by omega]; exact hA⟩
    · rw [lq7_s]
      unfold fC_X0_handed_38
      rw [hq.s5, bd1_s, if_pos hle]
    · rw [lq7_s]
      unfold mM_held_38
      rw [hT, e5, if_pos hle]
  | succ j ih =>
    intro f i o v e hi hf hA
    obtain ⟨f, rfl⟩ : ∃ g, f = g + 1 := ⟨f - 1, by omega⟩
    have hle : ¬ Int32.ofNat (cn T 5) ≤ Int32.ofNat i := by rw [i_le (by omega) (by omega)]; omega
    obtain ⟨q, q1, q2⟩ := hq.han (c := i) (by omega)
    have nx := fun o v e => ih f (i + 1) o v e (by omega) (by omega)
    have wk : ∀ o v e, HD ow w T i o v e → HD ow w T (i + 1) o v e := fun o v e h => h.imp id (fun ⟨q, c, h1, h2⟩ => ⟨q, c, by omega, h2⟩)
    have dr := (hq.2.2.2.2.2.2.2.2.1 i (by omega)).2.2.1
    rw [lq7_s, lq7_s]
    generalize lq7 (fC_X0_handed_38 x w) f = F at nx ⊢
    generalize lq7 mM_held_38 f = G at nx ⊢
    unfold fC_X0_handed_38 fC_X0_handed_149 mM_held_38 mM_held_132
    have B : ∀ z, z < 23016 → bnd (Int32.ofNat z) 23016 = true := fun z hz => bnd_nat hz (by omega)
    have N : ∀ z, z < 23016 → (Int32.ofNat z).toNatClampNeg = z := fun z hz => i_nat (by omega)
    have s1 : 2528 + 5 * i + 4 = 2532 + 5 * i := by omega
    have s2 : 2528 + 5 * i + 1 = 2529 + 5 * i := by omega
    have s3 : 2528 + 5 * i + 2 = 2530 + 5 * i := by omega
    rw [hT, e5, hq.s5, bd1_s, if_neg hle, if_neg hle, q1, bd1_s, ck_t (note_k q2), q2.2.2.1, q2.2.2.2.2.2.2, q2.2.2.2.2.1]
    simp only [i_am 2528 5 2528 5 rfl rfl, i_a 4 4 rfl, i_a 2 2 rfl, i_a 1 1 rfl, s1, s2, s3, B (2528 + 5 * i) (by omega), B (2532 + 5 * i) (by omega), B (2529 + 5 * i) (by omega), B (2530 + 5 * i) (by omega), N (2528 + 5 * i) (by omega), N (2532 + 5 * i) (by omega), N (2529 + 5 * i) (by omega), N (2530 + 5 * i) (by omega), ck_tt]
    by_cases c1 : T (2528 + 5 * i) = p
    case neg =>
      rw [if_neg c1, if_neg c1]
      exact nx o v e (wk _ _ _ hA)
    rw [if_pos c1, if_pos c1]
    by_cases c2 : k < T (2532 + 5 * i)
    · rw [if_pos c2, if_pos c2]
      exact nx o v e (wk _ _ _ hA)
    rw [if_neg c2, if_neg c2]
    by_cases c3 : d < T (2530 + 5 * i)
    · rw [if_pos c3, if_pos c3]
      exact nx o v e (wk _ _ _ hA)
    rw [if_neg c3, if_neg c3]
    have c4 : ¬ (400 : Int32) < T (2530 + 5 * i) := by have := dr.2; grind
    have c5 : ¬ T (2530 + 5 * i) = 400 := by have := dr.2; grind
    rw [if_neg c4, if_neg c5]
    unfold fC_X0_handed_127 fC_X0_handed_145 fC_X0_handed_149
    rw [i_a 1 1 rfl]
    have new : HD ow w T (i + 1) (some q) (T (2529 + 5 * i)) (T (2530 + 5 * i)) := Or.inr ⟨q, i, by omega, rfl, q2, rfl, rfl⟩
    rcases hA with ⟨a1, a2, a3⟩ | ⟨q', c, a1, a2, a3, a4, a5⟩
    · subst a1
      subst a2
      subst a3
      rw [if_pos rfl, if_neg (show ¬ T (2530 + 5 * i) < -1 by have := dr.1; grind)]
      exact nx _ _ _ new
    · subst a2
      rw [if_neg (by simp), ck_t (note_k q2), bd1_s, ck_t (note_k a3), q2.2.2.2.2.1, a3.2.2.2.2.1, a5]
      by_cases c6 : T (2530 + 5 * i) < T (2530 + 5 * c)
      · rw [if_pos c6, if_pos c6, ← a5]
        exact nx _ _ _ (wk _ _ _ (Or.inr ⟨q', c, a1, rfl, a3, a4, a5⟩))
      · rw [if_neg c6, if_neg c6]
        exact nx _ _ _ new
theorem op_held (hR : Rel ow x w σ) (a b c : Int32) : OpR x w (mC_X0_held x a b c w) (mM_held a b c σ) := by
  rw [fC_X0_held_e _ _ _ hR.L]
  unfold fC_X0_held mM_held
  rw [show ∀ f : SM → Option (Int32 × SM), st1 (sI σ 0 0 (0 : Int32)) f = f (sI σ 0 0 0) from fun _ => rfl, isBx_F hR, isBox_M hR.thr.W]
  simp only [bd1_s, bd2_s, in_C, isDay_C, isDay_M, b2i_0, isZ_b, ck_tt, Bool.true_eq_false, Bool.false_eq_true, if_true, if_false, ref_F, told_0, told_1, told_2, told_3, told_4, told_5, told_6]
  rw [show gI (sI σ 0 0 0) 1 = gI σ 1 from rfl]
  by_cases h0 : bel a (gI σ 1 4) = true
  case neg =>
    simp only [Bool.not_eq_true] at h0
    simp only [h0, if_true, if_false, Bool.true_eq_false]
    exact ⟨_, _, ow, rfl, rfl, hR.thr⟩
  by_cases h1 : dy b = true
  case neg =>
    simp only [Bool.not_eq_true] at h1
    simp only [h0, h1, if_true, if_false, Bool.true_eq_false]
    exact ⟨_, _, ow, rfl, rfl, hR.thr⟩
  by_cases h2 : dy c = true
  case neg =>
    simp only [Bool.not_eq_true] at h2
    simp only [h0, h1, h2, if_true, if_false, Bool.true_eq_false]
    exact ⟨_, _, ow, rfl, rfl, hR.thr⟩
  simp only [h0, h1, h2, if_true, if_false, Bool.true_eq_false]
  have k5 := hR.W.c1.2.2.2.2.2.1
  obtain ⟨o, v, e, A, B, D⟩ := held_loop hR.thr.qq a b c h1 (cn (gI σ 1) 5) LF 0 none (-1) (-1) (show 0 + cn (gI σ 1) 5 = cn (gI σ 1) 5 by omega) (by unfold LF; omega) (Or.inl ⟨rfl, rfl, rfl⟩)
  unfold fC_X0_handed fC_X0_handed_33
  rw [if_pos rfl, show (0 : Int32) = Int32.ofNat 0 from rfl]
  rw [show (Int32.ofNat 0) = (0 : Int32) from rfl] at A B ⊢
  rw [A, B, bd1_s]
  rcases D with ⟨d1, d2, d3⟩ | ⟨q, c', d1, d2, d3, d4, d5⟩
  · rw [if_pos d1, d2]
    exact ⟨_, _, ow, rfl, rfl, hR.thr⟩
  · rw [d2, if_neg (by simp), bd1_s, ck_t (note_k d3), d3.2.2.2.1, d4]
    exact ⟨_, _, ow, rfl, rfl, hR.thr⟩
def HA (ow : Nat → Nat) (w : AH) (T : Nat → Int32) (i : Nat) (o : Option Nat) (v : Int32) : Prop := (o = none ∧ v = -1) ∨ ∃ q c, c < i ∧ o = some q ∧ HandAt ow w T c q ∧ v = Int32.ofNat c
theorem ahead_loop (hq : QQ ow x w (gI σ 1)) (k : Int32) {g : Nat} (hg : g < cn (gI σ 1) 5) : ∀ (j f i : Nat) (o : Option Nat) (v : Int32), i + j = cn (gI σ 1) 5 → j < f → HA ow w (gI σ 1) i o v → ∃ o' v', lq7 (fC_X0_handed_38 x w) f (gI σ 1 (2528 + 5 * g)) 400 k (Int32.ofNat g) o (gI σ 1 (2530 + 5 * g)) (Int32.ofNat i) = some o' ∧ lq5 (mM_aheadOf_14 σ) f (Int32.ofNat g) k (Int32.ofNat (2528 + 5 * g)) v (Int32.ofNat i) = some v' ∧ HA ow w (gI σ 1) (cn (gI σ 1) 5) o' v' := by
  obtain ⟨T, hT⟩ : ∃ T, gI σ 1 = T := ⟨_, rfl⟩
  rw [hT] at hq hg ⊢
  have k5 := hq.2.2.2.c1.2.2.2.2.2.1
  have e5 := hq.2.2.2.c2.2.2.2.2.2.1
  intro j
  induction j with
  | zero =>
    intro f i o v hi hf hA
    obtain ⟨f, rfl⟩ : ∃ g, f = g + 1 := ⟨f - 1, by omega⟩
    have hle : Int32.ofNat (cn T 5) ≤ Int32.ofNat i := by rw [i_le (by omega) (by omega)]; omega
    refine ⟨o, v, ?_, ?_, by rw [show cn T 5 = i by omega]; exact hA⟩
    · rw [lq7_s]
      unfold fC_X0_handed_38
      rw [hq.s5, bd1_s, if_pos hle]
    · rw [lq5_s]
      unfold mM_aheadOf_14
      rw [hT, e5, if_pos hle]
  | succ j ih =>
    intro f i o v hi hf hA
    obtain ⟨f, rfl⟩ : ∃ g, f = g + 1 := ⟨f - 1, by omega⟩
    have hle : ¬ Int32.ofNat (cn T 5) ≤ Int32.ofNat i := by rw [i_le (by omega) (by omega)]; omega
    obtain ⟨q, q1, q2⟩ := hq.han (c := i) (by omega)
    have nx := fun o v => ih f (i + 1) o v (by omega) (by omega)
    have wk : ∀ o v, HA ow w T i o v → HA ow w T (i + 1) o v := fun o v h => h.imp id (fun ⟨q, c, h1, h2⟩ => ⟨q, c, by omega, h2⟩)
    have dr := (hq.2.2.2.2.2.2.2.2.1 i (by omega)).2.2.1
    rw [lq7_s, lq5_s]
    generalize lq7 (fC_X0_handed_38 x w) f = F at nx ⊢
    generalize lq5 (mM_aheadOf_14 σ) f = G at nx ⊢
    unfold fC_X0_handed_38 fC_X0_handed_149 mM_aheadOf_14 mM_aheadOf_114 mM_aheadOf_110 mM_aheadOf_115 mM_aheadOf_160 mM_aheadOf_155 mM_aheadOf_162
    have B : ∀ z, z < 23016 → bnd (Int32.ofNat z) 23016 = true := fun z hz => bnd_nat hz (by omega)
    have N : ∀ z, z < 23016 → (Int32.ofNat z).toNatClampNeg = z := fun z hz => i_nat (by omega)
    have s1 : 2528 + 5 * i + 4 = 2532 + 5 * i := by omega
    have s3 : 2528 + 5 * i + 2 = 2530 + 5 * i := by omega
    have s4 : 2528 + 5 * g + 2 = 2530 + 5 * g := by omega
    rw [hT, e5, hq.s5, bd1_s, if_neg hle, if_neg hle, q1, bd1_s, ck_t (note_k q2), q2.2.2.1, q2.2.2.2.2.2.2, q2.2.2.2.2.1]
    simp only [i_am 2528 5 2528 5 rfl rfl, i_a 4 4 rfl, i_a 2 2 rfl, i_a 1 1 rfl, s1, s3, s4, B (2528 + 5 * i) (by omega), B (2528 + 5 * g) (by omega), B (2530 + 5 * g) (by omega), B (2532 + 5 * i) (by omega), B (2530 + 5 * i) (by omega), N (2528 + 5 * i) (by omega), N (2528 + 5 * g) (by omega), N (2530 + 5 * g) (by omega), N (2532 + 5 * i) (by omega), N (2530 + 5 * i) (by omega), ck_tt, if_true, if_false]
    by_cases c1 : T (2528 + 5 * i) = T (2528 + 5 * g)
    case neg =>
      rw [if_neg c1, if_neg c1]
      exact nx o v (wk _ _ hA)
    rw [if_pos c1, if_pos c1]
    by_cases c2 : k < T (2532 + 5 * i)
    · rw [if_pos c2, if_pos c2]
      exact nx o v (wk _ _ hA)
    have c4 : ¬ (400 : Int32) < T (2530 + 5 * i) := by have := dr.2; grind
    rw [if_neg c2, if_neg c2, if_neg c4]
    have new : HA ow w T (i + 1) (some q) (Int32.ofNat i) := Or.inr ⟨q, i, by omega, rfl, q2, rfl⟩
    have fin : ∃ o' v', fC_X0_handed_127 x w F (T (2528 + 5 * g)) 400 k (Int32.ofNat g) o (T (2530 + 5 * g)) (Int32.ofNat i) q = some o' ∧ (if v = -1 then G (Int32.ofNat g) k (Int32.ofNat (2528 + 5 * g)) (Int32.ofNat i) (Int32.ofNat (i + 1)) else ck (bnd (2528 + 5 * v + 2) 23016) (if T (2530 + 5 * i) < T (2528 + 5 * v + 2).toNatClampNeg then G (Int32.ofNat g) k (Int32.ofNat (2528 + 5 * g)) v (Int32.ofNat (i + 1)) else G (Int32.ofNat g) k (Int32.ofNat (2528 + 5 * g)) (Int32.ofNat i) (Int32.ofNat (i + 1)))) = some v' ∧ HA ow w T (cn T 5) o' v' := by
      unfold fC_X0_handed_127 fC_X0_handed_145 fC_X0_handed_149
      rw [i_a 1 1 rfl]
      rcases hA with ⟨a1, a2⟩ | ⟨q', c, a1, a2, a3, a4⟩
      · subst a1
        subst a2
        rw [if_pos rfl, if_pos rfl]
        exact nx _ _ new
      · subst a2
        rw [if_neg (by simp), ck_t (note_k q2), bd1_s, ck_t (note_k a3), q2.2.2.2.2.1, a3.2.2.2.2.1, a4, if_neg (i_nm1 (by omega)), i_am 2528 5 2528 5 rfl rfl, i_a 2 2 rfl, show 2528 + 5 * c + 2 = 2530 + 5 * c by omega, ck_t (B _ (by omega)), N _ (by omega)]
        by_cases c6 : T (2530 + 5 * i) < T (2530 + 5 * c)
        · rw [if_pos c6, if_pos c6, ← a4]
          exact nx _ _ (wk _ _ (Or.inr ⟨q', c, a1, rfl, a3, a4⟩))
        · rw [if_neg c6, if_neg c6]
          exact nx _ _ new
    by_cases c5 : T (2530 + 5 * g) < T (2530 + 5 * i)
    · rw [if_pos c5, if_neg (show ¬ T (2530 + 5 * i) < T (2530 + 5 * g) by grind), if_neg (show ¬ T (2530 + 5 * i) = T (2530 + 5 * g) by grind)]
      exact nx o v (wk _ _ hA)
    rw [if_neg c5]
    by_cases c6 : T (2530 + 5 * i) = T (2530 + 5 * g)
    · rw [if_pos c6, if_neg (show ¬ T (2530 + 5 * i) < T (2530 + 5 * g) by grind), if_pos c6]
      by_cases c7 : i < g
      · rw [if_pos ((i_lt (by omega) (by omega)).mpr c7), if_neg (fun h => by rw [i_le (by omega) (by omega)] at h; omega)]
        exact fin
      · rw [if_neg (fun h => c7 ((i_lt (by omega) (by omega)).mp h)), if_pos ((i_le (by omega) (by omega)).mpr (by omega))]
        exact nx o v (wk _ _ hA)
    · rw [if_neg c6, if_pos (show T (2530 + 5 * i) < T (2530 + 5 * g) by grind)]
      exact fin
theorem op_broken (hR : Rel ow x w σ) (a b c : Int32) : OpR x w (mC_X0_broken x a b c w) (mM_broken a b c σ) := by
  rw [fC_X0_broken_e _ _ _ hR.L]
  unfold fC_X0_broken mM_broken
  rw [show ∀ f : SM → Option (Int32 × SM), st1 (sI σ 0 0 (0 : Int32)) f = f (sI σ 0 0 0) from fun _ => rfl, isBx_F hR, isBox_M hR.thr.W]
  simp only [bd1_s, bd2_s, in_C, isDay_C, isDay_M, b2i_0, isZ_b, ck_tt, Bool.true_eq_false, Bool.false_eq_true, if_true, if_false, ref_F, told_0, told_1, told_2, told_3, told_4, told_5, told_6, in_M c 0 2 0 2 rfl rfl]
  rw [show gI (sI σ 0 0 0) 1 = gI σ 1 from rfl]
  by_cases h0 : bel a (gI σ 1 4) = true
  case neg =>
    simp only [Bool.not_eq_true] at h0
    simp only [h0, if_true, if_false, Bool.true_eq_false]
    exact ⟨_, _, ow, rfl, rfl, hR.thr⟩
  by_cases h1 : dy b = true
  case neg =>
    simp only [Bool.not_eq_true] at h1
    simp only [h0, h1, if_true, if_false, Bool.true_eq_false]
    exact ⟨_, _, ow, rfl, rfl, hR.thr⟩
  by_cases h2 : inr c 0 2 = true
  case neg =>
    simp only [Bool.not_eq_true] at h2
    simp only [h0, h1, h2, if_true, if_false, Bool.true_eq_false]
    exact ⟨_, _, ow, rfl, rfl, hR.thr⟩
  simp only [h0, h1, h2, if_true, if_false, Bool.true_eq_false]
  have k4 := hR.W.c1.2.2.2.2.1
  have k5 := hR.W.c1.2.2.2.2.2.1
  rw [hR.W.c2.2.2.2.2.1] at h0
  obtain ⟨bx, b1, rfl⟩ := bel_ex h0 (by omega)
  have M := brk_M hR.thr.W b1 b
  rw [brk_C hR.qq b1, M, bd1_s, bd1_s]
  rw [show gI (sI σ 0 0 0) 1 = gI σ 1 from rfl]
  have B : ∀ z, z < 23016 → bnd (Int32.ofNat z) 23016 = true := fun z hz => bnd_nat hz (by omega)
  have N : ∀ z, z < 23016 → (Int32.ofNat z).toNatClampNeg = z := fun z hz => i_nat (by omega)
  cases hg : brkS (gI σ 1) bx b with
  | none =>
    rw [if_pos (show o2i none = -1 from rfl), if_pos (show o2i none = -1 from rfl)]
    exact ⟨_, _, ow, rfl, rfl, hR.thr⟩
  | some g =>
    have hg1 : g < cn (gI σ 1) 5 := brkU_lt _ _ _ _ _ hg
    have hbox : gI σ 1 (2528 + 5 * g) = Int32.ofNat bx := brkU_bx _ _ _ _ _ hg
    obtain ⟨p, p1, p2⟩ := hR.qq.han hg1
    rw [show o2i (some g) = Int32.ofNat g from rfl, if_neg (i_nm1 (by omega)), if_neg (i_nm1 (by omega))]
    have s1 : 2528 + 5 * g + 1 = 2529 + 5 * g := by omega
    have s2 : 2528 + 5 * g + 2 = 2530 + 5 * g := by omega
    by_cases c1 : c = 1
    · rw [if_pos c1, if_pos c1]
      obtain ⟨o, v, A, C, D⟩ := ahead_loop hR.thr.qq b hg1 (cn (gI σ 1) 5) LF 0 none (-1) (show 0 + cn (gI σ 1) 5 = cn (gI σ 1) 5 by omega) (by unfold LF; omega) (Or.inl ⟨rfl, rfl⟩)
      rw [show (Int32.ofNat 0) = (0 : Int32) from rfl, show gI (sI σ 0 0 0) 1 = gI σ 1 from rfl, hbox] at A
      rw [show (Int32.ofNat 0) = (0 : Int32) from rfl] at C
      unfold fC_X0_handed fC_X0_handed_33 mM_aheadOf
      rw [if_neg (i_nm1 (by omega)), p1, bd1_s, ck_t (note_k p2), p2.2.2.2.2.1, A, bd1_s, i_am 2528 5 2528 5 rfl rfl, C, bd1_s]
      rcases D with ⟨d1, d2⟩ | ⟨q, c', d1, d2, d3, d4⟩
      · rw [if_pos d1, if_pos d2]
        exact ⟨_, _, ow, rfl, rfl, hR.thr⟩
      · have d1' : c' < cn (gI σ 1) 5 := d1
        rw [d2, if_neg (by simp), bd1_s, ck_t (note_k d3), d3.2.2.2.1, d4, if_neg (i_nm1 (by omega)), i_am 2528 5 2528 5 rfl rfl, i_a 1 1 rfl, show 2528 + 5 * c' + 1 = 2529 + 5 * c' by omega, ck_t (B _ (by omega)), N _ (by omega)]
        exact ⟨_, _, ow, rfl, rfl, hR.thr⟩
    · rw [if_neg c1, if_neg c1, p1, bd1_s, ck_t (note_k p2), p2.2.2.2.1]
      simp only [bd1_s, ck_t (note_k p2), i_am 2528 5 2528 5 rfl rfl, i_a 1 1 rfl, i_a 2 2 rfl, s1, s2, B (2529 + 5 * g) (by omega), B (2530 + 5 * g) (by omega), N (2529 + 5 * g) (by omega), N (2530 + 5 * g) (by omega), ck_tt, p2.2.2.2.2.1]
      by_cases c2 : c = 0
      · rw [if_pos c2, if_pos c2]
        exact ⟨_, _, ow, rfl, rfl, hR.thr⟩
      · rw [if_neg c2, if_neg c2]
        exact ⟨_, _, ow, rfl, rfl, hR.thr⟩
end O8
