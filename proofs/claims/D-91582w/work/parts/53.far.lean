set_option maxRecDepth 100000
section FA
variable {ow : Nat → Nat} {w w' : AH} {T T' : Nat → Int32} {x : Nat} {σ σ' : SM}
def absS (e : Int32) : Int32 := if 0 ≤ e then e else 0 - e
def awyS (T : Nat → Int32) (a b : Nat) : Int32 := absS (T (21 + 3 * a) - T (21 + 3 * b)) + absS (T (22 + 3 * a) - T (22 + 3 * b))
theorem far_C (h : QQ ow x w T) {a b : Nat} (ha : a < cn T 0) (hb : b < cn T 0) : fC_X1_far x (Int32.ofNat a) (Int32.ofNat b) w = some (awyS T a b) := by
  have k0 := h.2.2.2.c1.1
  obtain ⟨_, a2, a3⟩ := h.2.2.1.2.1.2 a ha
  obtain ⟨_, b2, b3⟩ := h.2.2.1.2.1.2 b hb
  rw [show x + 1 + 14 = x + 15 by omega] at a2 b2
  rw [show x + 1 + 15 = x + 16 by omega] at a3 b3
  have B1 := bnd_nat (n := a) (m := 16) (by omega) (by omega)
  have B2 := bnd_nat (n := b) (m := 16) (by omega) (by omega)
  unfold fC_X1_far
  rw [ck_t B1, ck_t B2, i_nat (by omega), i_nat (by omega), a2, b2, st1_e, ck_t B1, ck_t B2, a3, b3, st1_e]
  rfl
theorem far_M (hW : WF (gI σ 1)) {a b : Nat} (ha : a < cn (gI σ 1) 0) (hb : b < cn (gI σ 1) 0) : mM_away (Int32.ofNat a) (Int32.ofNat b) σ = some (awyS (gI σ 1) a b) := by
  have k0 := hW.c1.1
  have B : ∀ z, z < 23016 → bnd (Int32.ofNat z) 23016 = true := fun z hz => bnd_nat hz (by omega)
  have N : ∀ z, z < 23016 → (Int32.ofNat z).toNatClampNeg = z := fun z hz => i_nat (by omega)
  have s1 : ∀ z, 20 + 3 * z + 1 = 21 + 3 * z := fun z => by omega
  have s2 : ∀ z, 20 + 3 * z + 2 = 22 + 3 * z := fun z => by omega
  unfold mM_away mM_away_59
  simp only [placeAt_M, bd1_s, i_a 1 1 rfl, i_a 2 2 rfl, s1, s2, B (21 + 3 * a) (by omega), B (21 + 3 * b) (by omega), B (22 + 3 * a) (by omega), B (22 + 3 * b) (by omega), N (21 + 3 * a) (by omega), N (21 + 3 * b) (by omega), N (22 + 3 * a) (by omega), N (22 + 3 * b) (by omega), ck_tt]
  unfold awyS absS
  have z : ∀ e : Int32, 0 - e = -e := fun e => Int32.zero_sub e
  simp only [z]
  by_cases c1 : 0 ≤ gI σ 1 (21 + 3 * a) - gI σ 1 (21 + 3 * b)
  · rw [if_pos c1, if_pos c1]
    by_cases c2 : 0 ≤ gI σ 1 (22 + 3 * a) - gI σ 1 (22 + 3 * b)
    · rw [if_pos c2, if_pos c2]
    · rw [if_neg c2, if_neg c2]
  · rw [if_neg c1, if_neg c1]
    by_cases c2 : 0 ≤ gI σ 1 (22 + 3 * a) - gI σ 1 (22 + 3 * b)
    · rw [if_pos c2, if_pos c2]
    · rw [if_neg c2, if_neg c2]
end FA
