set_option maxRecDepth 100000
section AT
variable {ow : Nat → Nat} {w w' : AH} {T T' : Nat → Int32} {x : Nat} {σ σ' : SM}
theorem seatOf_C (h : QQ ow x w T) {b : Nat} (hb : b < cn T 3) : fC_X0_seatOf x (Int32.ofNat b) w = some (T (20 + 3 * (T (2348 + b)).toNatClampNeg)) := by
  have k3 := h.2.2.2.c1.2.2.2.1
  have k0 := h.2.2.2.c1.1
  obtain ⟨p, p1, p2⟩ := h.2.2.2.bo hb
  have t4 := (h.2.2.1.2.2.2.1.2 b hb).1
  have t2 := (h.2.2.1.2.1.2 p p1).1
  rw [show x + 1 + 21 = x + 22 by omega] at t4
  rw [show x + 1 + 13 = x + 14 by omega] at t2
  unfold fC_X0_seatOf
  rw [ck_t (bnd_nat (by omega) (by omega)), i_nat (by omega), t4, p2, ck_t (bnd_nat (by omega) (by omega)), i_nat (by omega), t2]
theorem seatOf_M (hW : WF (gI σ 1)) {b : Nat} (hb : b < cn (gI σ 1) 3) : mM_seatOf (Int32.ofNat b) σ = some (gI σ 1 (20 + 3 * (gI σ 1 (2348 + b)).toNatClampNeg)) := by
  have k3 := hW.c1.2.2.2.1
  have k0 := hW.c1.1
  obtain ⟨p, p1, p2⟩ := hW.bo hb
  unfold mM_seatOf
  rw [i_la 2348 2348 rfl, ck_t (bnd_nat (by omega) (by omega)), i_nat (by omega), p2, placeAt_M, bd1_s, ck_t (bnd_nat (by omega) (by omega)), i_nat (by omega), i_nat (by omega)]
end AT
