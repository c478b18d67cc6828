set_option maxRecDepth 100000
section BA
variable {ow : Nat → Nat} {w w' : AH} {T T' : Nat → Int32} {x : Nat} {σ σ' : SM}
def bar1 (T : Nat → Int32) (a b : Int32) (k : Nat) : Bool := decide (T (2268 + 2 * k) = a) && decide (T (2269 + 2 * k) = b)
def barU (T : Nat → Int32) (a b : Int32) : Nat → Bool
  | 0 => false
  | i + 1 => barU T a b i || bar1 T a b i
def barS (T : Nat → Int32) (a b : Int32) : Bool := barU T a b (cn T 8)
theorem barU_mono (T : Nat → Int32) (a b : Int32) {i : Nat} (h : barU T a b i = true) : ∀ j, barU T a b (i + j) = true
  | 0 => h
  | j + 1 => by
    show (barU T a b (i + j) || bar1 T a b (i + j)) = true
    rw [barU_mono T a b h j]
    rfl
theorem bar_M (hW : WF (gI σ 1)) (a b : Int32) : mM_isBarred a b σ = some (b2i (barS (gI σ 1) a b)) := by
  obtain ⟨T, hT⟩ : ∃ T, gI σ 1 = T := ⟨_, rfl⟩
  rw [hT] at hW ⊢
  have k8 := hW.c1.2.2.2.2.2.2.2.2
  have e8 := hW.c2.2.2.2.2.2.2.2.2
  have L : ∀ (j f i : Nat), i + j = cn T 8 → j < f → lq4 (mM_isBarred_5 σ) f a b (b2i (barU T a b i)) (Int32.ofNat i) = some (b2i (barU T a b (cn T 8))) := by
    intro j
    induction j with
    | zero =>
      intro f i hi hf
      obtain ⟨f, rfl⟩ : ∃ g, f = g + 1 := ⟨f - 1, by omega⟩
      have hle : Int32.ofNat (cn T 8) ≤ Int32.ofNat i := by rw [i_le (by omega) (by omega)]; omega
      rw [lq4_s]
      unfold mM_isBarred_5
      rw [hT, e8, if_pos hle, isZ_b, ck_tt, show i = cn T 8 by omega]
    | succ j ih =>
      intro f i hi hf
      obtain ⟨f, rfl⟩ : ∃ g, f = g + 1 := ⟨f - 1, by omega⟩
      have hle : ¬ Int32.ofNat (cn T 8) ≤ Int32.ofNat i := by rw [i_le (by omega) (by omega)]; omega
      have nx := ih f (i + 1) (by omega) (by omega)
      rw [lq4_s]
      generalize lq4 (mM_isBarred_5 σ) f = F at nx ⊢
      unfold mM_isBarred_5 mM_isBarred_57 mM_isBarred_61 mM_isBarred_62
      have s1 : 2268 + 2 * i + 1 = 2269 + 2 * i := by omega
      rw [hT, e8, if_neg hle, ← nx, i_am 2268 2 2268 2 rfl rfl, i_a 1 1 rfl, s1, ck_t (bnd_nat (by omega) (by omega)), i_nat (by omega), ck_t (bnd_nat (by omega) (by omega)), i_nat (by omega), i_a 1 1 rfl]
      simp only [b2i_0]
      show _ = F a b (b2i (barU T a b i || bar1 T a b i)) _
      cases hb : barU T a b i
      · rw [if_pos rfl]
        unfold bar1
        by_cases c1 : T (2268 + 2 * i) = a
        · by_cases c2 : T (2269 + 2 * i) = b
          · rw [if_pos c1, if_pos c2, decide_eq_true c1, decide_eq_true c2]
            rfl
          · rw [if_pos c1, if_neg c2, decide_eq_true c1, decide_eq_false c2]
            rfl
        · rw [if_neg c1, decide_eq_false c1]
          rfl
      · rw [if_neg (by decide)]
        rfl
  unfold mM_isBarred barS
  exact L (cn T 8) LF 0 (by omega) (by unfold LF; omega)
end BA
