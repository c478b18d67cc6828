set_option maxRecDepth 100000
section BA
variable {ow : Nat → Nat} {w w' : AH} {T T' : Nat → Int32} {x : Nat} {σ σ' : SM}
def bar1 (T : Nat → Int32) (a b : Int32) (k : Nat) : Bool := decide (T (2268 + 2 * k) = a) && decide (T (2269 + 2 * k) = b)
def barU (T : Nat → Int32) (a b : Int32) : Nat → Bool
  | 0 => false
  | i + 1 => barU T a b i || bar1 T a b i
def barS (T : Nat → Int32) (a b : Int32) : Bool := barU T a b (cn T 8)
theorem barU_mono (T : Nat → Int32) (a b : Int32) {i : Nat} (h : barU T a b i = true) : ∀ j, barU T a b (i + j) = true
  | 0 => h
  | j + 1 => by
    show (barU T a b (i + j) || bar1 T a b (i + j)) = true
    rw [barU_mono T a b h j]
    rfl
theorem bar_M (hW : WF (gI σ 1)) (a b : Int32) : mM_isBarred a b σ = some (b2i (barS (gI σ 1) a b)) := by
  obtain ⟨T, hT⟩ : ∃ T, gI σ 1 = T := ⟨_, rfl⟩
  rw [hT] at hW ⊢
  have k8 := hW.c1.2.2.2.2.2.2.2.2
  have e8 := hW.c2.2.2.2.2.2.2.2.2
  have L : ∀ (j f i : Nat), i + j = cn T 8 → j < f → lq4 (mM_isBarred_5 σ) f a b (b2i (barU T a b i)) (Int32.ofNat i) = some (b2i (barU T a b (cn T 8))) := by
    intro j
    induction j with
    | zero =>
      intro f i hi hf
      obtain ⟨f, rfl⟩ : ∃ g, f = g + 1 := ⟨f - 1, by omega⟩
      have hle : Int32.ofNat (cn T 8) ≤ Int32.ofNat i := by rw [i_le (by omega) (by omega)]; omega
      rw [lq4_s]
      unfold mM_isBarred_5
      rw [hT, e8, if_pos hle, isZ_b, ck_tt, show i = cn T 8 by omega]
    | succ j ih =>
      intro f i hi hf
      obtain ⟨f, rfl⟩ : ∃ g, f = g + 1 := ⟨f - 1, by omega⟩
      have hle : ¬ Int32.ofNat (cn T 8) ≤ Int32.ofNat i := by rw [i_le (by omega) (by omega)]; omega
      have nx := ih f (i + 1) (by omega) (by omega)
      rw [lq4_s]
      generalize lq4 (mM_isBarred_5 σ) f = F at nx ⊢
      unfold mM_isBarred_5 mM_isBarred_57 mM_isBarred_61 mM_isBarred_62
      have s1 : 2268 + 2 * i + 1 = 2269 + 2 * i := by omega
      rw [hT, e8, if_neg hle, ← nx, i_am 2268 2 2268 2 rfl rfl, i_a 1 1 rfl, s1, ck_t (bnd_nat (by omega) (by omega)), i_nat (by omega), ck_t (bnd_nat (by omega) (by omega)), i_nat (by omega), i_a 1 1 rfl]
      simp only [b2i_0]
      show _ = F a b (b2i (barU T a b i || bar1 T a b i)) _
      cases hb : barU T a b i
      · rw [if_pos rfl]
        unfold bar1
        by_cases c1 : T (2268 + 2 * i) = a
        · by_cases c2 : T (2269 + 2 * i) = b
          · rw [if_pos c1, if_pos c2, decide_eq_true c1, decide_eq_true c2]
            rfl
          · rw [if_pos c1, if_neg c2, decide_eq_true c1, decide_eq_false c2]
            rfl
        · rw [if_neg c1, decide_eq_false c1]
          rfl
      · rw [if_neg (by decide)]
        rfl
  unfold mM_isBarred barS
  exact L (cn T 8) LF 0 (by omega) (by unfold LF; omega)
theorem QQ.bar (h : QQ ow x w T) {c : Nat} (hc : c < cn T 8) : ∃ q, mC_J2_get (x + 6) (Int32.ofNat c) w = some q ∧ BarAt ow w T c q := by
  have := get_C h.2.2.1.2.2.2.2.2.2.2.2.2.2.1 hc
  rw [show x + 1 + 5 = x + 6 by omega] at this
  exact this
theorem QQ.s8 (h : QQ ow x w T) : mC_J2_size (x + 6) w = some (Int32.ofNat (cn T 8)) := by
  have := size_C h.2.2.1.2.2.2.2.2.2.2.2.2.2.1
  rw [show x + 1 + 5 = x + 6 by omega] at this
  exact this
theorem bar_C (h : QQ ow x w T) {a b : Int32} (hab : a < b) : fC_X0_areBarred x a b w = some (b2i (barS T a b)) := by
  have k8 := h.2.2.2.c1.2.2.2.2.2.2.2.2
  have L : ∀ (j f i : Nat), i + j = cn T 8 → j < f → barU T a b i = false → lq3 (fC_X0_areBarred_2 x w) f a b (Int32.ofNat i) = some (b2i (barU T a b (cn T 8))) := by
    intro j
    induction j with
    | zero =>
      intro f i hi hf hB
      obtain ⟨f, rfl⟩ : ∃ g, f = g + 1 := ⟨f - 1, by omega⟩
      have hle : Int32.ofNat (cn T 8) ≤ Int32.ofNat i := by rw [i_le (by omega) (by omega)]; omega
      rw [lq3_s]
      unfold fC_X0_areBarred_2
      rw [h.s8, bd1_s, if_pos hle, show cn T 8 = i by omega, hB]
      rfl
    | succ j ih =>
      intro f i hi hf hB
      obtain ⟨f, rfl⟩ : ∃ g, f = g + 1 := ⟨f - 1, by omega⟩
      have hle : ¬ Int32.ofNat (cn T 8) ≤ Int32.ofNat i := by rw [i_le (by omega) (by omega)]; omega
      obtain ⟨q, q1, u, v, c, d, e, q2, q3⟩ := h.bar (c := i) (by omega)
      have nx := ih f (i + 1) (by omega) (by omega)
      have s : barU T a b (i + 1) = bar1 T a b i := by
        show (barU T a b i || bar1 T a b i) = _
        rw [hB]
        rfl
      rw [s] at nx
      rw [lq3_s]
      generalize lq3 (fC_X0_areBarred_2 x w) f = F at nx ⊢
      unfold fC_X0_areBarred_2 fC_X0_areBarred_58 fC_X0_areBarred_102
      simp only [h.s8, bd1_s, q1, note_k q2, ck_tt, q2.2.2.1, q2.2.2.2.1, i_a 1 1 rfl]
      rw [if_neg hle]
      by_cases hit : bar1 T a b i = true
      · have all : barU T a b (cn T 8) = true := by
          have := barU_mono T a b (i := i + 1) (by rw [s]; exact hit) (cn T 8 - (i + 1))
          rw [show i + 1 + (cn T 8 - (i + 1)) = cn T 8 by omega] at this
          exact this
        rw [all]
        simp only [bar1, Bool.and_eq_true, decide_eq_true_eq] at hit
        rcases q3 with ⟨p1, p2, p3⟩ | ⟨p1, p2, p3⟩
        · rw [if_pos (show u = a by rw [← p2]; exact hit.1), if_pos (show v = b by rw [← p3]; exact hit.2)]
          rfl
        · have e1 : v = a := by rw [← p2]; exact hit.1
          have e2 : u = b := by rw [← p3]; exact hit.2
          rw [if_neg (show ¬ u = a by grind), if_pos e2, if_pos e1]
          rfl
      · have hf2 : bar1 T a b i = false := by simpa using hit
        have nx := nx hf2
        have n1 : ¬ (u = a ∧ v = b) := by
          intro g
          apply hit
          simp only [bar1, Bool.and_eq_true, decide_eq_true_eq]
          rcases q3 with ⟨p1, p2, p3⟩ | ⟨p1, p2, p3⟩ <;> grind
        have n2 : ¬ (u = b ∧ v = a) := by
          intro g
          apply hit
          simp only [bar1, Bool.and_eq_true, decide_eq_true_eq]
          rcases q3 with ⟨p1, p2, p3⟩ | ⟨p1, p2, p3⟩ <;> grind
        rw [← nx]
        by_cases c1 : u = a
        · rw [if_pos c1, if_neg (fun g => n1 ⟨c1, g⟩)]
          by_cases c2 : u = b
          · rw [if_pos c2, if_neg (fun g => n2 ⟨c2, g⟩)]
          · rw [if_neg c2]
        · rw [if_neg c1]
          by_cases c2 : u = b
          · rw [if_pos c2, if_neg (fun g => n2 ⟨c2, g⟩)]
          · rw [if_neg c2]
  unfold fC_X0_areBarred barS
  exact L (cn T 8) LF 0 (by omega) (by unfold LF; omega) rfl
end BA
