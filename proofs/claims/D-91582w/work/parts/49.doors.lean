set_option maxRecDepth 100000
theorem choA : ∀ n : Fin 61, ∀ k : Fin 13, (mC_X0_chosen (Int32.ofNat n.val) (Int32.ofNat k.val) = mM_choose (Int32.ofNat n.val) (Int32.ofNat k.val)) ∧ (mC_X0_chosen (Int32.ofNat n.val) (Int32.ofNat k.val)).isSome = true := by decide +kernel
section DO
variable {ow : Nat → Nat} {w w' : AH} {x : Nat} {σ σ' : SM}
theorem cho {n k : Nat} (hn : n ≤ 60) (hk : k ≤ 12) : ∃ v, mC_X0_chosen (Int32.ofNat n) (Int32.ofNat k) = some v ∧ mM_choose (Int32.ofNat n) (Int32.ofNat k) = some v := by
  have h := choA ⟨n, by omega⟩ ⟨k, by omega⟩
  simp only at h
  obtain ⟨v, hv⟩ := Option.isSome_iff_exists.mp h.2
  exact ⟨v, hv, by rw [← h.1]; exact hv⟩
theorem i_sub {a b : Nat} (h : b ≤ a) : Int32.ofNat a - Int32.ofNat b = Int32.ofNat (a - b) := (Int32.ofNat_sub a b h).symm
theorem mayBe_eq {A D H M : Nat} (hA : A ≤ 60) (hD : D ≤ 12) (hM : M ≤ A) : ∃ r, mC_X0_mayBe (Int32.ofNat A) (Int32.ofNat D) (Int32.ofNat H) (Int32.ofNat M) = some r ∧ mM_mayBe (Int32.ofNat A) (Int32.ofNat D) (Int32.ofNat H) (Int32.ofNat M) = some r := by
  have L : ∀ (j f i : Nat) (u v : Int64), i + j = D + 1 → j < f → ∃ r, lq7 mC_X0_mayBe_9 f (Int32.ofNat A) (Int32.ofNat D) (Int32.ofNat H) (Int32.ofNat M) u v (Int32.ofNat i) = some r ∧ lq7 mM_mayBe_9 f (Int32.ofNat A) (Int32.ofNat D) (Int32.ofNat H) (Int32.ofNat M) u v (Int32.ofNat i) = some r := by
    intro j
    induction j with
    | zero =>
      intro f i u v hi hf
      obtain ⟨f, rfl⟩ : ∃ g, f = g + 1 := ⟨f - 1, by omega⟩
      have hlt : Int32.ofNat D < Int32.ofNat i := by rw [i_lt (by omega) (by omega)]; omega
      obtain ⟨c, c1, c2⟩ := cho hA hD
      rw [lq7_s, lq7_s]
      unfold mC_X0_mayBe_9 mM_mayBe_9
      rw [if_pos hlt, if_pos hlt, c1, c2, bd1_s]
      by_cases h1 : 20 * u < c
      · rw [if_pos h1]
        exact ⟨_, rfl, rfl⟩
      · rw [if_neg h1]
        by_cases h2 : 20 * v < c
        · rw [if_pos h2]
          exact ⟨_, rfl, rfl⟩
        · rw [if_neg h2]
          exact ⟨_, rfl, rfl⟩
    | succ j ih =>
      intro f i u v hi hf
      obtain ⟨f, rfl⟩ : ∃ g, f = g + 1 := ⟨f - 1, by omega⟩
      have hlt : ¬ Int32.ofNat D < Int32.ofNat i := by rw [i_lt (by omega) (by omega)]; omega
      obtain ⟨c, c1, c2⟩ := cho (n := M) (k := i) (by omega) (by omega)
      obtain ⟨d, d1, d2⟩ := cho (n := A - M) (k := D - i) (by omega) (by omega)
      have nx := fun u v => ih f (i + 1) u v (by omega) (by omega)
      rw [lq7_s, lq7_s]
      generalize lq7 mC_X0_mayBe_9 f = F at nx ⊢
      generalize lq7 mM_mayBe_9 f = G at nx ⊢
      unfold mC_X0_mayBe_9 mM_mayBe_9 mC_X0_mayBe_48 mM_mayBe_48 mC_X0_mayBe_65 mM_mayBe_65
      rw [if_neg hlt, if_neg hlt, i_sub hM, i_sub (show i ≤ D by omega), c1, c2, d1, d2, bd1_s, bd1_s, bd1_s, bd1_s, i_a 1 1 rfl]
      by_cases h1 : Int32.ofNat H < Int32.ofNat i
      · rw [if_pos h1, if_pos h1]
        by_cases h2 : Int32.ofNat i < Int32.ofNat H
        · rw [if_pos h2, if_pos h2]
          exact nx _ _
        · rw [if_neg h2, if_neg h2]
          exact nx _ _
      · rw [if_neg h1, if_neg h1]
        by_cases h2 : Int32.ofNat i < Int32.ofNat H
        · rw [if_pos h2, if_pos h2]
          exact nx _ _
        · rw [if_neg h2, if_neg h2]
          exact nx _ _
  unfold mC_X0_mayBe mM_mayBe
  exact L (D + 1) LF 0 0 0 (by omega) (by unfold LF; omega)
theorem lq8_s {A B C D E F H I R : Type} (G : (A → B → C → D → E → F → H → I → Option R) → A → B → C → D → E → F → H → I → Option R) (n : Nat) (a : A) (b : B) (c : C) (d : D) (e : E) (f : F) (h : H) (i : I) : lq8 G (n + 1) a b c d e f h i = G (lq8 G n) a b c d e f h i := rfl
/-- the least was found: it is answered at the end -/
theorem doors_end {A D H g : Nat} (hA : A ≤ 60) (hD : D ≤ 12) (hg : g ≤ 60) : ∀ (j f i : Nat) (m : Int32), i + j = A + 1 → j < f → lq8 mM_doors_67 f (Int32.ofNat A) (Int32.ofNat D) (Int32.ofNat H) 0 (Int32.ofNat g) m (Int32.ofNat i) σ = some (Int32.ofNat g, σ) := by
  intro j
  induction j with
  | zero =>
    intro f i m hi hf
    obtain ⟨f, rfl⟩ : ∃ g, f = g + 1 := ⟨f - 1, by omega⟩
    have hlt : Int32.ofNat A < Int32.ofNat i := by rw [i_lt (by omega) (by omega)]; omega
    rw [lq8_s]
    unfold mM_doors_67
    rw [if_pos hlt, if_pos rfl]
  | succ j ih =>
    intro f i m hi hf
    obtain ⟨f, rfl⟩ : ∃ g, f = g + 1 := ⟨f - 1, by omega⟩
    have hlt : ¬ Int32.ofNat A < Int32.ofNat i := by rw [i_lt (by omega) (by omega)]; omega
    obtain ⟨r, r1, r2⟩ := mayBe_eq (H := H) hA hD (show i ≤ A by omega)
    have nx := fun m => ih f (i + 1) m (by omega) (by omega)
    rw [lq8_s]
    generalize lq8 mM_doors_67 f = F at nx ⊢
    unfold mM_doors_67 mM_doors_97 mM_doors_103
    rw [if_neg hlt, r2, bd1_s, i_a 1 1 rfl]
    by_cases h : r = 0
    · rw [if_pos h]
      exact nx _
    · rw [if_neg h, if_neg (i_nm1 (by omega))]
      exact nx _
theorem doors_loop {A D H : Nat} (hA : A ≤ 60) (hD : D ≤ 12) (q : Int32) : ∀ (j f i : Nat) (u l m : Int32), i + j = A + 1 → j < f → (q = 0 → u = -1 ∧ l = -1) → (q ≠ 0 → u = m) → ∃ r, lq6 (mC_X0_doors_51 w) f (Int32.ofNat A) (Int32.ofNat D) (Int32.ofNat H) q u (Int32.ofNat i) = some r ∧ lq8 mM_doors_67 f (Int32.ofNat A) (Int32.ofNat D) (Int32.ofNat H) q l m (Int32.ofNat i) σ = some (r, σ) := by
  intro j
  induction j with
  | zero =>
    intro f i u l m hi hf h0 h1
    obtain ⟨f, rfl⟩ : ∃ g, f = g + 1 := ⟨f - 1, by omega⟩
    have hlt : Int32.ofNat A < Int32.ofNat i := by rw [i_lt (by omega) (by omega)]; omega
    refine ⟨u, ?_, ?_⟩
    · rw [lq6_s]
      unfold mC_X0_doors_51
      rw [if_pos hlt]
    · rw [lq8_s]
      unfold mM_doors_67
      rw [if_pos hlt]
      by_cases hq : q = 0
      · rw [if_pos hq, (h0 hq).1, (h0 hq).2]
      · rw [if_neg hq, h1 hq]
  | succ j ih =>
    intro f i u l m hi hf h0 h1
    obtain ⟨f, rfl⟩ : ∃ g, f = g + 1 := ⟨f - 1, by omega⟩
    have hlt : ¬ Int32.ofNat A < Int32.ofNat i := by rw [i_lt (by omega) (by omega)]; omega
    obtain ⟨r, r1, r2⟩ := mayBe_eq (H := H) hA hD (show i ≤ A by omega)
    have nx := fun u l m => ih f (i + 1) u l m (by omega) (by omega)
    have en := doors_end (σ := σ) (H := H) (g := i) hA hD (by omega) j f (i + 1) (Int32.ofNat i) (by omega) (by omega)
    rw [lq6_s, lq8_s]
    generalize lq6 (mC_X0_doors_51 w) f = F at nx ⊢
    generalize lq8 mM_doors_67 f = G at nx en ⊢
    unfold mC_X0_doors_51 mC_X0_doors_83 mM_doors_67 mM_doors_97 mM_doors_103
    rw [if_neg hlt, if_neg hlt, r1, r2, bd1_s, bd1_s, i_a 1 1 rfl]
    by_cases h : r = 0
    · rw [if_pos h, if_pos h]
      exact nx u l m h0 h1
    · rw [if_neg h, if_neg h]
      by_cases hq : q = 0
      · subst hq
        rw [if_pos rfl, (h0 rfl).2, if_pos rfl]
        exact ⟨_, rfl, en⟩
      · rw [if_neg hq]
        by_cases hl : l = -1
        · rw [if_pos hl]
          exact nx _ _ _ (fun g => absurd g hq) (fun _ => rfl)
        · rw [if_neg hl]
          exact nx _ _ _ (fun g => absurd g hq) (fun _ => rfl)
theorem op_doors (hR : Rel ow x w σ) (a b c d : Int32) : OpR x w (mC_X0_doors x a b c d w) (mM_doors a b c d σ) := by
  unfold mC_X0_doors mM_doors
  rw [show ∀ f : SM → Option (Int32 × SM), st1 (sI σ 0 0 (0 : Int32)) f = f (sI σ 0 0 0) from fun _ => rfl, in_M c 0 b.toInt64 0 b rfl rfl]
  simp only [bd1_s, bd2_s, in_C, isDay_C, isDay_M, b2i_0, isZ_b, ck_tt, Bool.true_eq_false, Bool.false_eq_true, if_true, if_false, ref_F, told_0, told_1, told_2, told_3, told_4, told_5, told_6, in_M a 1 60 1 60 rfl rfl, in_M b 1 12 1 12 rfl rfl, in_M d 0 1 0 1 rfl rfl]
  by_cases h0 : inr a 1 60 = true
  case neg =>
    simp only [Bool.not_eq_true] at h0
    simp only [h0, if_true, if_false, Bool.true_eq_false]
    exact ⟨_, _, ow, rfl, rfl, hR.thr⟩
  simp only [h0, if_true, if_false, Bool.true_eq_false]
  rw [st1_e]
  have sw : (inr b 1 (if a < 12 then a else 12) = true) ↔ (inr b 1 12 = true ∧ ¬ a < b) := by
    simp only [inr, Bool.and_eq_true, decide_eq_true_eq]
    split <;> grind
  by_cases h1 : inr b 1 (if a < 12 then a else 12) = true
  case neg =>
    have h1' : inr b 1 (if a < 12 then a else 12) = false := by simpa using h1
    rw [if_pos h1']
    by_cases h2 : inr b 1 12 = true
    · rw [if_neg (show ¬ inr b 1 12 = false by rw [h2]; decide), if_pos (show a < b from Decidable.byContradiction (fun g => h1 (sw.mpr ⟨h2, g⟩)))]
      exact ⟨_, _, ow, rfl, rfl, hR.thr⟩
    · rw [if_pos (show inr b 1 12 = false by simpa using h2)]
      exact ⟨_, _, ow, rfl, rfl, hR.thr⟩
  obtain ⟨h2, h3⟩ := sw.mp h1
  rw [if_neg (show ¬ inr b 1 (if a < 12 then a else 12) = false by rw [h1]; decide), if_neg (show ¬ inr b 1 12 = false by rw [h2]; decide), if_neg h3]
  by_cases h4 : inr c 0 b = true
  case neg =>
    simp only [Bool.not_eq_true] at h4
    simp only [h4, if_true, if_false, Bool.true_eq_false]
    exact ⟨_, _, ow, rfl, rfl, hR.thr⟩
  by_cases h5 : inr d 0 1 = true
  case neg =>
    simp only [Bool.not_eq_true] at h5
    simp only [h4, h5, if_true, if_false, Bool.true_eq_false]
    exact ⟨_, _, ow, rfl, rfl, hR.thr⟩
  simp only [h4, h5, if_true, if_false, Bool.true_eq_false]
  obtain ⟨A, A1, rfl⟩ := rg_ex (m := 60) rfl ⟨Int32.le_trans (by decide) (inr_ex h0).1, (inr_ex h0).2⟩ (by decide)
  obtain ⟨D, D1, rfl⟩ := rg_ex (m := 12) rfl ⟨Int32.le_trans (by decide) (inr_ex h2).1, (inr_ex h2).2⟩ (by decide)
  obtain ⟨H, H1, rfl⟩ := rg_ex (m := D) rfl (inr_ex h4) (by omega)
  obtain ⟨r, r1, r2⟩ := doors_loop (w := w) (σ := sI σ 0 0 0) (H := H) A1 D1 d (A + 1) LF 0 (-1) (-1) (-1) (by omega) (by unfold LF; omega) (fun _ => ⟨rfl, rfl⟩) (fun _ => rfl)
  rw [show Int32.ofNat 0 = (0 : Int32) from rfl] at r1 r2
  rw [r1, r2]
  exact ⟨_, _, ow, rfl, rfl, hR.thr⟩
end DO
