example (a b : Int32) (h : 0 ≤ a) (h2 : a ≤ 5) : a + 1 ≤ 6 := by grind
example (a : Int32) (n : Nat) (h : n < 20) (h2 : a = Int32.ofNat n) : a ≤ 19 := by grind
example (n : Nat) (h : n < 200) : ((68 : Int32) + (11 : Int32) * Int32.ofNat n).toNatClampNeg = 68 + 11 * n := by
  have : (68 : Int32) + (11 : Int32) * Int32.ofNat n = Int32.ofNat (68 + 11 * n) := by simp
  rw [this, i_nat (by omega)]
theorem tst1 (x : Nat) (w : AH) (hL : Lay x w) (p : Int32) : mC_X0_refuse x p w = some (p, siI w x 0 p) := by
  simp [mC_X0_refuse, lk_0 hL, kIn, ck_tt, st1_e]
