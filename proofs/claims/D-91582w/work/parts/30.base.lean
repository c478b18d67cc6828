set_option maxRecDepth 100000
/-! ===== the pure law: first words ===== -/
def Rt {α : Type} (m : Option α) (Q : α → Prop) : Prop := ∃ o, m = some o ∧ Q o
section RTS
variable {α β γ : Type} {Q : α → Prop}
theorem Rt.some {a : α} (h : Q a) : Rt (some a) Q := ⟨a, rfl, h⟩
theorem Rt.ck {b : Bool} {k : Option α} (hb : b = true) (h : Rt k Q) : Rt (ck b k) Q := by rw [ck_t hb]; exact h
theorem Rt.st1 {a : β} {f : β → Option α} (h : Rt (f a) Q) : Rt (st1 a f) Q := h
theorem Rt.bd1 {m : Option β} {f : β → Option α} {P : β → Prop} (h : Rt m P) (g : ∀ a, P a → Rt (f a) Q) : Rt (bd1 m f) Q := by
  obtain ⟨o, rfl, ho⟩ := h
  exact g o ho
theorem Rt.bd2 {m : Option (β × γ)} {f : β → γ → Option α} {P : β × γ → Prop} (h : Rt m P) (g : ∀ a b, P (a, b) → Rt (f a b) Q) : Rt (bd2 m f) Q := by
  obtain ⟨⟨a, b⟩, rfl, ho⟩ := h
  exact g a b ho
theorem Rt.ite {c : Prop} {_ : Decidable c} {a b : Option α} (ht : c → Rt a Q) (hf : ¬ c → Rt b Q) : Rt (if c then a else b) Q := by
  by_cases h : c
  · rw [if_pos h]; exact ht h
  · rw [if_neg h]; exact hf h
theorem Rt.mono {m : Option α} {P : α → Prop} (h : Rt m P) (g : ∀ a, P a → Q a) : Rt m Q := by
  obtain ⟨o, e, ho⟩ := h
  exact ⟨o, e, g o ho⟩
theorem ck_tt {k : Option α} : ck true k = k := rfl
theorem st1_e {a : β} {f : β → α} : st1 a f = f a := rfl
theorem bd1_s {a : β} {f : β → Option α} : bd1 (Option.some a) f = f a := rfl
theorem bd2_s {a : β} {b : γ} {f : β → γ → Option α} : bd2 (Option.some (a, b)) f = f a b := rfl
end RTS
/-! gets over sets -/
section GS
variable (w : AH) (a b i j k n : Nat) (v : Int32) (u : Int64) (r : Option Nat)
theorem kd_I : hkd (siI w a i v) b = hkd w b := rfl
theorem kd_L : hkd (siL w a i u) b = hkd w b := rfl
theorem kd_R : hkd (siR w a i r) b = hkd w b := rfl
theorem vi_I : hvi (siI w a i v) b j = if b = a ∧ j = i then v else hvi w b j := rfl
theorem vi_L : hvi (siL w a i u) b j = hvi w b j := rfl
theorem vi_R : hvi (siR w a i r) b j = hvi w b j := rfl
theorem vl_I : hvl (siI w a i v) b j = hvl w b j := rfl
theorem vl_L : hvl (siL w a i u) b j = if b = a ∧ j = i then u else hvl w b j := rfl
theorem vl_R : hvl (siR w a i r) b j = hvl w b j := rfl
theorem vr_I : hvr (siI w a i v) b j = hvr w b j := rfl
theorem vr_L : hvr (siL w a i u) b j = hvr w b j := rfl
theorem vr_R : hvr (siR w a i r) b j = if b = a ∧ j = i then r else hvr w b j := rfl
theorem sz_I : hsz (siI w a i v) = hsz w := rfl
theorem sz_L : hsz (siL w a i u) = hsz w := rfl
theorem sz_R : hsz (siR w a i r) = hsz w := rfl
theorem st_I : hst (siI w a i v) = hst w := rfl
theorem st_L : hst (siL w a i u) = hst w := rfl
theorem st_R : hst (siR w a i r) = hst w := rfl
theorem rm_I : rmB (siI w a i v) n = rmB w n := rfl
theorem rm_L : rmB (siL w a i u) n = rmB w n := rfl
theorem rm_R : rmB (siR w a i r) n = rmB w n := rfl
theorem kd_N : hkd (hnew w k n) b = if b = hsz w then (k, n) else hkd w b := rfl
theorem vi_N : hvi (hnew w k n) b j = if b = hsz w then 0 else hvi w b j := by unfold hvi hnew up1; simp only; split <;> rfl
theorem vl_N : hvl (hnew w k n) b j = if b = hsz w then 0 else hvl w b j := by unfold hvl hnew up1; simp only; split <;> rfl
theorem vr_N : hvr (hnew w k n) b j = if b = hsz w then none else hvr w b j := by unfold hvr hnew up1; simp only; split <;> rfl
theorem sz_N : hsz (hnew w k n) = hsz w + 1 := rfl
theorem ns_N : hns (hnew w k n) = hns w + n := rfl
theorem st_N : hst (hnew w k n) = hst w := rfl
theorem lc_N : hlc (hnew w k n) = hlc w := rfl
theorem ls_N : hls (hnew w k n) = hls w := rfl
variable (σ : SM)
theorem gI_sI : gI (sI σ a i v) b j = if b = a ∧ j = i then v else gI σ b j := rfl
theorem gI_sL : gI (sL σ a i u) b j = gI σ b j := rfl
theorem gL_sL : gL (sL σ a i u) b j = if b = a ∧ j = i then u else gL σ b j := rfl
theorem gL_sI : gL (sI σ a i v) b j = gL σ b j := rfl
end GS
/-! numbers -/
theorem i_succ (n : Nat) : Int32.ofNat n + 1 = Int32.ofNat (n + 1) := (Int32.ofNat_add n 1).symm
theorem i_nat {n : Nat} (h : n < 2147483648) : (Int32.ofNat n).toNatClampNeg = n := Int32.toNatClampNeg_ofNat_of_lt h
theorem i_lt {a b : Nat} (ha : a < 2147483648) (hb : b < 2147483648) : Int32.ofNat a < Int32.ofNat b ↔ a < b := Int32.ofNat_lt_iff_lt ha hb
theorem i_le {a b : Nat} (ha : a < 2147483648) (hb : b < 2147483648) : Int32.ofNat a ≤ Int32.ofNat b ↔ a ≤ b := Int32.ofNat_le_iff_le ha hb
theorem i_eq {a b : Nat} (ha : a < 2147483648) (hb : b < 2147483648) : Int32.ofNat a = Int32.ofNat b ↔ a = b := by
  constructor
  · intro h
    rw [← i_nat ha, ← i_nat hb, h]
  · intro h
    rw [h]
theorem i_int {n : Nat} (h : n < 2147483648) : (Int32.ofNat n).toInt = n := Int32.toInt_ofNat_of_lt h
theorem i_of {v : Int32} (h : 0 ≤ v) : Int32.ofNat v.toNatClampNeg = v := Int32.ofNat_toNatClampNeg v h
theorem i_ex {v : Int32} (h : 0 ≤ v) : ∃ n, n < 2147483648 ∧ v = Int32.ofNat n := ⟨v.toNatClampNeg, v.toNatClampNeg_lt, (i_of h).symm⟩
theorem bnd_nat {n m : Nat} (h : n < m) (hm : n < 2147483648) : bnd (Int32.ofNat n) m = true := by
  unfold bnd
  rw [i_nat hm]
  have : ¬ Int32.ofNat n < 0 := by
    show ¬ Int32.ofNat n < Int32.ofNat 0
    rw [i_lt hm (by decide)]
    omega
  exact decide_eq_true (by simp only [this, false_or]; omega)
/-! the layout of a Told at t, of FirstPolls at x (printed by genp.py) -/
def tK (j : Nat) : Nat × Nat := match j with
  | 0 => (11, 27)
  | 1 => (12, 3)
  | 3 => (12, 3)
  | 5 => (12, 3)
  | 7 => (12, 3)
  | 9 => (12, 3)
  | 11 => (12, 3)
  | 13 => (1, 16)
  | 14 => (1, 16)
  | 15 => (1, 16)
  | 16 => (1, 200)
  | 17 => (1, 200)
  | 18 => (1, 200)
  | 19 => (1, 200)
  | 20 => (1, 200)
  | 21 => (1, 20)
  | 22 => (1, 40)
  | 23 => (1, 40)
  | 24 => (1, 200)
  | 25 => (1, 20)
  | 26 => (2, 20)
  | 27 => (2, 20)
  | 28 => (3, 48)
  | _ => (0, 0)
def tR (k : Nat) : Option Nat := match k with
  | 0 => some 1
  | 1 => some 3
  | 2 => some 5
  | 3 => some 7
  | 4 => some 9
  | 5 => some 11
  | 6 => some 13
  | 7 => some 14
  | 8 => some 15
  | 9 => some 16
  | 10 => some 17
  | 11 => some 18
  | 12 => some 19
  | 13 => some 20
  | 14 => some 21
  | 15 => some 22
  | 16 => some 23
  | 17 => some 24
  | 18 => some 25
  | 19 => some 26
  | 20 => some 27
  | 21 => some 28
  | _ => none
def fK (j : Nat) : Nat × Nat := match j with
  | 0 => (10, 39)
  | 1 => (11, 27)
  | 2 => (12, 3)
  | 4 => (12, 3)
  | 6 => (12, 3)
  | 8 => (12, 3)
  | 10 => (12, 3)
  | 12 => (12, 3)
  | 14 => (1, 16)
  | 15 => (1, 16)
  | 16 => (1, 16)
  | 17 => (1, 200)
  | 18 => (1, 200)
  | 19 => (1, 200)
  | 20 => (1, 200)
  | 21 => (1, 200)
  | 22 => (1, 20)
  | 23 => (1, 40)
  | 24 => (1, 40)
  | 25 => (1, 200)
  | 26 => (1, 20)
  | 27 => (2, 20)
  | 28 => (2, 20)
  | 29 => (3, 48)
  | 30 => (6, 2)
  | 31 => (4, 400)
  | 32 => (13, 5)
  | 33 => (3, 240)
  | 34 => (3, 240)
  | 35 => (14, 3)
  | 36 => (15, 6)
  | 37 => (2, 11)
  | 38 => (3, 5)
  | 39 => (16, 7)
  | 40 => (3, 200)
  | 41 => (1, 200)
  | 42 => (1, 16)
  | 43 => (1, 7)
  | 44 => (1, 7)
  | 45 => (1, 7)
  | 46 => (1, 7)
  | 47 => (1, 7)
  | 48 => (1, 7)
  | 49 => (1, 7)
  | 50 => (1, 7)
  | 51 => (1, 7)
  | 52 => (17, 10)
  | 53 => (1, 80)
  | 54 => (1, 20)
  | 55 => (1, 160)
  | 56 => (3, 20)
  | 57 => (3, 20)
  | 58 => (3, 200)
  | 59 => (1, 8)
  | 60 => (1, 20)
  | 61 => (1, 8)
  | 62 => (2, 8)
  | 63 => (1, 7)
  | 64 => (1, 7)
  | 65 => (1, 7)
  | 66 => (1, 7)
  | _ => (0, 0)
def fR (j k : Nat) : Option Nat := match j, k with
  | 0, 2 => some 1
  | 0, 3 => some 30
  | 0, 4 => some 31
  | 0, 7 => some 32
  | 0, 8 => some 35
  | 0, 9 => some 39
  | 0, 10 => some 43
  | 0, 11 => some 44
  | 0, 12 => some 45
  | 0, 13 => some 46
  | 0, 14 => some 47
  | 0, 15 => some 48
  | 0, 16 => some 49
  | 0, 17 => some 50
  | 0, 18 => some 51
  | 0, 23 => some 52
  | 0, 24 => some 59
  | 0, 27 => some 60
  | 0, 28 => some 61
  | 0, 29 => some 62
  | 0, 30 => some 63
  | 0, 31 => some 64
  | 0, 32 => some 65
  | 0, 33 => some 66
  | 1, 0 => some 2
  | 1, 1 => some 4
  | 1, 2 => some 6
  | 1, 3 => some 8
  | 1, 4 => some 10
  | 1, 5 => some 12
  | 1, 6 => some 14
  | 1, 7 => some 15
  | 1, 8 => some 16
  | 1, 9 => some 17
  | 1, 10 => some 18
  | 1, 11 => some 19
  | 1, 12 => some 20
  | 1, 13 => some 21
  | 1, 14 => some 22
  | 1, 15 => some 23
  | 1, 16 => some 24
  | 1, 17 => some 25
  | 1, 18 => some 26
  | 1, 19 => some 27
  | 1, 20 => some 28
  | 1, 21 => some 29
  | 32, 0 => some 33
  | 32, 1 => some 34
  | 32, 4 => some 0
  | 35, 0 => some 36
  | 35, 1 => some 37
  | 35, 2 => some 38
  | 39, 0 => some 40
  | 39, 1 => some 41
  | 39, 2 => some 42
  | 39, 6 => some 0
  | 52, 0 => some 53
  | 52, 1 => some 54
  | 52, 2 => some 55
  | 52, 3 => some 56
  | 52, 4 => some 57
  | 52, 5 => some 58
  | 52, 9 => some 0
  | _, _ => none
/-- a Told's own cells at t: the lists' arrays lie elsewhere -/
def TLay (t : Nat) (w : AH) : Prop := (∀ j, (tK j).1 ≠ 0 → hkd w (t + j) = tK j) ∧ (∀ k r, tR k = some r → hvr w t k = some (t + r)) ∧ t + 29 ≤ hsz w
def Lay (x : Nat) (w : AH) : Prop := (∀ j, (fK j).1 ≠ 0 → hkd w (x + j) = fK j) ∧ (∀ j k r, fR j k = some r → hvr w (x + j) k = some (x + r)) ∧ x + 67 ≤ hsz w
theorem lk_0 {x : Nat} {w : AH} (h : Lay x w) : hkd w x = (10, 39) := h.1 0 (by decide)
theorem lk_1 {x : Nat} {w : AH} (h : Lay x w) : hkd w (x + 1) = (11, 27) := h.1 1 (by decide)
theorem lk_2 {x : Nat} {w : AH} (h : Lay x w) : hkd w (x + 2) = (12, 3) := h.1 2 (by decide)
theorem lk_4 {x : Nat} {w : AH} (h : Lay x w) : hkd w (x + 4) = (12, 3) := h.1 4 (by decide)
theorem lk_6 {x : Nat} {w : AH} (h : Lay x w) : hkd w (x + 6) = (12, 3) := h.1 6 (by decide)
theorem lk_8 {x : Nat} {w : AH} (h : Lay x w) : hkd w (x + 8) = (12, 3) := h.1 8 (by decide)
theorem lk_10 {x : Nat} {w : AH} (h : Lay x w) : hkd w (x + 10) = (12, 3) := h.1 10 (by decide)
theorem lk_12 {x : Nat} {w : AH} (h : Lay x w) : hkd w (x + 12) = (12, 3) := h.1 12 (by decide)
theorem lk_14 {x : Nat} {w : AH} (h : Lay x w) : hkd w (x + 14) = (1, 16) := h.1 14 (by decide)
theorem lk_15 {x : Nat} {w : AH} (h : Lay x w) : hkd w (x + 15) = (1, 16) := h.1 15 (by decide)
theorem lk_16 {x : Nat} {w : AH} (h : Lay x w) : hkd w (x + 16) = (1, 16) := h.1 16 (by decide)
theorem lk_17 {x : Nat} {w : AH} (h : Lay x w) : hkd w (x + 17) = (1, 200) := h.1 17 (by decide)
theorem lk_18 {x : Nat} {w : AH} (h : Lay x w) : hkd w (x + 18) = (1, 200) := h.1 18 (by decide)
theorem lk_19 {x : Nat} {w : AH} (h : Lay x w) : hkd w (x + 19) = (1, 200) := h.1 19 (by decide)
theorem lk_20 {x : Nat} {w : AH} (h : Lay x w) : hkd w (x + 20) = (1, 200) := h.1 20 (by decide)
theorem lk_21 {x : Nat} {w : AH} (h : Lay x w) : hkd w (x + 21) = (1, 200) := h.1 21 (by decide)
theorem lk_22 {x : Nat} {w : AH} (h : Lay x w) : hkd w (x + 22) = (1, 20) := h.1 22 (by decide)
theorem lk_23 {x : Nat} {w : AH} (h : Lay x w) : hkd w (x + 23) = (1, 40) := h.1 23 (by decide)
theorem lk_24 {x : Nat} {w : AH} (h : Lay x w) : hkd w (x + 24) = (1, 40) := h.1 24 (by decide)
theorem lk_25 {x : Nat} {w : AH} (h : Lay x w) : hkd w (x + 25) = (1, 200) := h.1 25 (by decide)
theorem lk_26 {x : Nat} {w : AH} (h : Lay x w) : hkd w (x + 26) = (1, 20) := h.1 26 (by decide)
theorem lk_27 {x : Nat} {w : AH} (h : Lay x w) : hkd w (x + 27) = (2, 20) := h.1 27 (by decide)
theorem lk_28 {x : Nat} {w : AH} (h : Lay x w) : hkd w (x + 28) = (2, 20) := h.1 28 (by decide)
theorem lk_29 {x : Nat} {w : AH} (h : Lay x w) : hkd w (x + 29) = (3, 48) := h.1 29 (by decide)
theorem lk_30 {x : Nat} {w : AH} (h : Lay x w) : hkd w (x + 30) = (6, 2) := h.1 30 (by decide)
theorem lk_31 {x : Nat} {w : AH} (h : Lay x w) : hkd w (x + 31) = (4, 400) := h.1 31 (by decide)
theorem lk_32 {x : Nat} {w : AH} (h : Lay x w) : hkd w (x + 32) = (13, 5) := h.1 32 (by decide)
theorem lk_33 {x : Nat} {w : AH} (h : Lay x w) : hkd w (x + 33) = (3, 240) := h.1 33 (by decide)
theorem lk_34 {x : Nat} {w : AH} (h : Lay x w) : hkd w (x + 34) = (3, 240) := h.1 34 (by decide)
theorem lk_35 {x : Nat} {w : AH} (h : Lay x w) : hkd w (x + 35) = (14, 3) := h.1 35 (by decide)
theorem lk_36 {x : Nat} {w : AH} (h : Lay x w) : hkd w (x + 36) = (15, 6) := h.1 36 (by decide)
theorem lk_37 {x : Nat} {w : AH} (h : Lay x w) : hkd w (x + 37) = (2, 11) := h.1 37 (by decide)
theorem lk_38 {x : Nat} {w : AH} (h : Lay x w) : hkd w (x + 38) = (3, 5) := h.1 38 (by decide)
theorem lk_39 {x : Nat} {w : AH} (h : Lay x w) : hkd w (x + 39) = (16, 7) := h.1 39 (by decide)
theorem lk_40 {x : Nat} {w : AH} (h : Lay x w) : hkd w (x + 40) = (3, 200) := h.1 40 (by decide)
theorem lk_41 {x : Nat} {w : AH} (h : Lay x w) : hkd w (x + 41) = (1, 200) := h.1 41 (by decide)
theorem lk_42 {x : Nat} {w : AH} (h : Lay x w) : hkd w (x + 42) = (1, 16) := h.1 42 (by decide)
theorem lk_43 {x : Nat} {w : AH} (h : Lay x w) : hkd w (x + 43) = (1, 7) := h.1 43 (by decide)
theorem lk_44 {x : Nat} {w : AH} (h : Lay x w) : hkd w (x + 44) = (1, 7) := h.1 44 (by decide)
theorem lk_45 {x : Nat} {w : AH} (h : Lay x w) : hkd w (x + 45) = (1, 7) := h.1 45 (by decide)
theorem lk_46 {x : Nat} {w : AH} (h : Lay x w) : hkd w (x + 46) = (1, 7) := h.1 46 (by decide)
theorem lk_47 {x : Nat} {w : AH} (h : Lay x w) : hkd w (x + 47) = (1, 7) := h.1 47 (by decide)
theorem lk_48 {x : Nat} {w : AH} (h : Lay x w) : hkd w (x + 48) = (1, 7) := h.1 48 (by decide)
theorem lk_49 {x : Nat} {w : AH} (h : Lay x w) : hkd w (x + 49) = (1, 7) := h.1 49 (by decide)
theorem lk_50 {x : Nat} {w : AH} (h : Lay x w) : hkd w (x + 50) = (1, 7) := h.1 50 (by decide)
theorem lk_51 {x : Nat} {w : AH} (h : Lay x w) : hkd w (x + 51) = (1, 7) := h.1 51 (by decide)
theorem lk_52 {x : Nat} {w : AH} (h : Lay x w) : hkd w (x + 52) = (17, 10) := h.1 52 (by decide)
theorem lk_53 {x : Nat} {w : AH} (h : Lay x w) : hkd w (x + 53) = (1, 80) := h.1 53 (by decide)
theorem lk_54 {x : Nat} {w : AH} (h : Lay x w) : hkd w (x + 54) = (1, 20) := h.1 54 (by decide)
theorem lk_55 {x : Nat} {w : AH} (h : Lay x w) : hkd w (x + 55) = (1, 160) := h.1 55 (by decide)
theorem lk_56 {x : Nat} {w : AH} (h : Lay x w) : hkd w (x + 56) = (3, 20) := h.1 56 (by decide)
theorem lk_57 {x : Nat} {w : AH} (h : Lay x w) : hkd w (x + 57) = (3, 20) := h.1 57 (by decide)
theorem lk_58 {x : Nat} {w : AH} (h : Lay x w) : hkd w (x + 58) = (3, 200) := h.1 58 (by decide)
theorem lk_59 {x : Nat} {w : AH} (h : Lay x w) : hkd w (x + 59) = (1, 8) := h.1 59 (by decide)
theorem lk_60 {x : Nat} {w : AH} (h : Lay x w) : hkd w (x + 60) = (1, 20) := h.1 60 (by decide)
theorem lk_61 {x : Nat} {w : AH} (h : Lay x w) : hkd w (x + 61) = (1, 8) := h.1 61 (by decide)
theorem lk_62 {x : Nat} {w : AH} (h : Lay x w) : hkd w (x + 62) = (2, 8) := h.1 62 (by decide)
theorem lk_63 {x : Nat} {w : AH} (h : Lay x w) : hkd w (x + 63) = (1, 7) := h.1 63 (by decide)
theorem lk_64 {x : Nat} {w : AH} (h : Lay x w) : hkd w (x + 64) = (1, 7) := h.1 64 (by decide)
theorem lk_65 {x : Nat} {w : AH} (h : Lay x w) : hkd w (x + 65) = (1, 7) := h.1 65 (by decide)
theorem lk_66 {x : Nat} {w : AH} (h : Lay x w) : hkd w (x + 66) = (1, 7) := h.1 66 (by decide)
theorem lr_0_2 {x : Nat} {w : AH} (h : Lay x w) : hvr w x 2 = some (x + 1) := h.2.1 0 2 1 rfl
theorem lr_0_3 {x : Nat} {w : AH} (h : Lay x w) : hvr w x 3 = some (x + 30) := h.2.1 0 3 30 rfl
theorem lr_0_4 {x : Nat} {w : AH} (h : Lay x w) : hvr w x 4 = some (x + 31) := h.2.1 0 4 31 rfl
theorem lr_0_7 {x : Nat} {w : AH} (h : Lay x w) : hvr w x 7 = some (x + 32) := h.2.1 0 7 32 rfl
theorem lr_0_8 {x : Nat} {w : AH} (h : Lay x w) : hvr w x 8 = some (x + 35) := h.2.1 0 8 35 rfl
theorem lr_0_9 {x : Nat} {w : AH} (h : Lay x w) : hvr w x 9 = some (x + 39) := h.2.1 0 9 39 rfl
theorem lr_0_10 {x : Nat} {w : AH} (h : Lay x w) : hvr w x 10 = some (x + 43) := h.2.1 0 10 43 rfl
theorem lr_0_11 {x : Nat} {w : AH} (h : Lay x w) : hvr w x 11 = some (x + 44) := h.2.1 0 11 44 rfl
theorem lr_0_12 {x : Nat} {w : AH} (h : Lay x w) : hvr w x 12 = some (x + 45) := h.2.1 0 12 45 rfl
theorem lr_0_13 {x : Nat} {w : AH} (h : Lay x w) : hvr w x 13 = some (x + 46) := h.2.1 0 13 46 rfl
theorem lr_0_14 {x : Nat} {w : AH} (h : Lay x w) : hvr w x 14 = some (x + 47) := h.2.1 0 14 47 rfl
theorem lr_0_15 {x : Nat} {w : AH} (h : Lay x w) : hvr w x 15 = some (x + 48) := h.2.1 0 15 48 rfl
theorem lr_0_16 {x : Nat} {w : AH} (h : Lay x w) : hvr w x 16 = some (x + 49) := h.2.1 0 16 49 rfl
theorem lr_0_17 {x : Nat} {w : AH} (h : Lay x w) : hvr w x 17 = some (x + 50) := h.2.1 0 17 50 rfl
theorem lr_0_18 {x : Nat} {w : AH} (h : Lay x w) : hvr w x 18 = some (x + 51) := h.2.1 0 18 51 rfl
theorem lr_0_23 {x : Nat} {w : AH} (h : Lay x w) : hvr w x 23 = some (x + 52) := h.2.1 0 23 52 rfl
theorem lr_0_24 {x : Nat} {w : AH} (h : Lay x w) : hvr w x 24 = some (x + 59) := h.2.1 0 24 59 rfl
theorem lr_0_27 {x : Nat} {w : AH} (h : Lay x w) : hvr w x 27 = some (x + 60) := h.2.1 0 27 60 rfl
theorem lr_0_28 {x : Nat} {w : AH} (h : Lay x w) : hvr w x 28 = some (x + 61) := h.2.1 0 28 61 rfl
theorem lr_0_29 {x : Nat} {w : AH} (h : Lay x w) : hvr w x 29 = some (x + 62) := h.2.1 0 29 62 rfl
theorem lr_0_30 {x : Nat} {w : AH} (h : Lay x w) : hvr w x 30 = some (x + 63) := h.2.1 0 30 63 rfl
theorem lr_0_31 {x : Nat} {w : AH} (h : Lay x w) : hvr w x 31 = some (x + 64) := h.2.1 0 31 64 rfl
theorem lr_0_32 {x : Nat} {w : AH} (h : Lay x w) : hvr w x 32 = some (x + 65) := h.2.1 0 32 65 rfl
theorem lr_0_33 {x : Nat} {w : AH} (h : Lay x w) : hvr w x 33 = some (x + 66) := h.2.1 0 33 66 rfl
theorem lr_1_0 {x : Nat} {w : AH} (h : Lay x w) : hvr w (x + 1) 0 = some (x + 2) := h.2.1 1 0 2 rfl
theorem lr_1_1 {x : Nat} {w : AH} (h : Lay x w) : hvr w (x + 1) 1 = some (x + 4) := h.2.1 1 1 4 rfl
theorem lr_1_2 {x : Nat} {w : AH} (h : Lay x w) : hvr w (x + 1) 2 = some (x + 6) := h.2.1 1 2 6 rfl
theorem lr_1_3 {x : Nat} {w : AH} (h : Lay x w) : hvr w (x + 1) 3 = some (x + 8) := h.2.1 1 3 8 rfl
theorem lr_1_4 {x : Nat} {w : AH} (h : Lay x w) : hvr w (x + 1) 4 = some (x + 10) := h.2.1 1 4 10 rfl
theorem lr_1_5 {x : Nat} {w : AH} (h : Lay x w) : hvr w (x + 1) 5 = some (x + 12) := h.2.1 1 5 12 rfl
theorem lr_1_6 {x : Nat} {w : AH} (h : Lay x w) : hvr w (x + 1) 6 = some (x + 14) := h.2.1 1 6 14 rfl
theorem lr_1_7 {x : Nat} {w : AH} (h : Lay x w) : hvr w (x + 1) 7 = some (x + 15) := h.2.1 1 7 15 rfl
theorem lr_1_8 {x : Nat} {w : AH} (h : Lay x w) : hvr w (x + 1) 8 = some (x + 16) := h.2.1 1 8 16 rfl
theorem lr_1_9 {x : Nat} {w : AH} (h : Lay x w) : hvr w (x + 1) 9 = some (x + 17) := h.2.1 1 9 17 rfl
theorem lr_1_10 {x : Nat} {w : AH} (h : Lay x w) : hvr w (x + 1) 10 = some (x + 18) := h.2.1 1 10 18 rfl
theorem lr_1_11 {x : Nat} {w : AH} (h : Lay x w) : hvr w (x + 1) 11 = some (x + 19) := h.2.1 1 11 19 rfl
theorem lr_1_12 {x : Nat} {w : AH} (h : Lay x w) : hvr w (x + 1) 12 = some (x + 20) := h.2.1 1 12 20 rfl
theorem lr_1_13 {x : Nat} {w : AH} (h : Lay x w) : hvr w (x + 1) 13 = some (x + 21) := h.2.1 1 13 21 rfl
theorem lr_1_14 {x : Nat} {w : AH} (h : Lay x w) : hvr w (x + 1) 14 = some (x + 22) := h.2.1 1 14 22 rfl
theorem lr_1_15 {x : Nat} {w : AH} (h : Lay x w) : hvr w (x + 1) 15 = some (x + 23) := h.2.1 1 15 23 rfl
theorem lr_1_16 {x : Nat} {w : AH} (h : Lay x w) : hvr w (x + 1) 16 = some (x + 24) := h.2.1 1 16 24 rfl
theorem lr_1_17 {x : Nat} {w : AH} (h : Lay x w) : hvr w (x + 1) 17 = some (x + 25) := h.2.1 1 17 25 rfl
theorem lr_1_18 {x : Nat} {w : AH} (h : Lay x w) : hvr w (x + 1) 18 = some (x + 26) := h.2.1 1 18 26 rfl
theorem lr_1_19 {x : Nat} {w : AH} (h : Lay x w) : hvr w (x + 1) 19 = some (x + 27) := h.2.1 1 19 27 rfl
theorem lr_1_20 {x : Nat} {w : AH} (h : Lay x w) : hvr w (x + 1) 20 = some (x + 28) := h.2.1 1 20 28 rfl
theorem lr_1_21 {x : Nat} {w : AH} (h : Lay x w) : hvr w (x + 1) 21 = some (x + 29) := h.2.1 1 21 29 rfl
theorem lr_32_0 {x : Nat} {w : AH} (h : Lay x w) : hvr w (x + 32) 0 = some (x + 33) := h.2.1 32 0 33 rfl
theorem lr_32_1 {x : Nat} {w : AH} (h : Lay x w) : hvr w (x + 32) 1 = some (x + 34) := h.2.1 32 1 34 rfl
theorem lr_32_4 {x : Nat} {w : AH} (h : Lay x w) : hvr w (x + 32) 4 = some x := h.2.1 32 4 0 rfl
theorem lr_35_0 {x : Nat} {w : AH} (h : Lay x w) : hvr w (x + 35) 0 = some (x + 36) := h.2.1 35 0 36 rfl
theorem lr_35_1 {x : Nat} {w : AH} (h : Lay x w) : hvr w (x + 35) 1 = some (x + 37) := h.2.1 35 1 37 rfl
theorem lr_35_2 {x : Nat} {w : AH} (h : Lay x w) : hvr w (x + 35) 2 = some (x + 38) := h.2.1 35 2 38 rfl
theorem lr_39_0 {x : Nat} {w : AH} (h : Lay x w) : hvr w (x + 39) 0 = some (x + 40) := h.2.1 39 0 40 rfl
theorem lr_39_1 {x : Nat} {w : AH} (h : Lay x w) : hvr w (x + 39) 1 = some (x + 41) := h.2.1 39 1 41 rfl
theorem lr_39_2 {x : Nat} {w : AH} (h : Lay x w) : hvr w (x + 39) 2 = some (x + 42) := h.2.1 39 2 42 rfl
theorem lr_39_6 {x : Nat} {w : AH} (h : Lay x w) : hvr w (x + 39) 6 = some x := h.2.1 39 6 0 rfl
theorem lr_52_0 {x : Nat} {w : AH} (h : Lay x w) : hvr w (x + 52) 0 = some (x + 53) := h.2.1 52 0 53 rfl
theorem lr_52_1 {x : Nat} {w : AH} (h : Lay x w) : hvr w (x + 52) 1 = some (x + 54) := h.2.1 52 1 54 rfl
theorem lr_52_2 {x : Nat} {w : AH} (h : Lay x w) : hvr w (x + 52) 2 = some (x + 55) := h.2.1 52 2 55 rfl
theorem lr_52_3 {x : Nat} {w : AH} (h : Lay x w) : hvr w (x + 52) 3 = some (x + 56) := h.2.1 52 3 56 rfl
theorem lr_52_4 {x : Nat} {w : AH} (h : Lay x w) : hvr w (x + 52) 4 = some (x + 57) := h.2.1 52 4 57 rfl
theorem lr_52_5 {x : Nat} {w : AH} (h : Lay x w) : hvr w (x + 52) 5 = some (x + 58) := h.2.1 52 5 58 rfl
theorem lr_52_9 {x : Nat} {w : AH} (h : Lay x w) : hvr w (x + 52) 9 = some x := h.2.1 52 9 0 rfl
theorem tk_0 {t : Nat} {w : AH} (h : TLay t w) : hkd w t = (11, 27) := h.1 0 (by decide)
theorem tk_1 {t : Nat} {w : AH} (h : TLay t w) : hkd w (t + 1) = (12, 3) := h.1 1 (by decide)
theorem tk_3 {t : Nat} {w : AH} (h : TLay t w) : hkd w (t + 3) = (12, 3) := h.1 3 (by decide)
theorem tk_5 {t : Nat} {w : AH} (h : TLay t w) : hkd w (t + 5) = (12, 3) := h.1 5 (by decide)
theorem tk_7 {t : Nat} {w : AH} (h : TLay t w) : hkd w (t + 7) = (12, 3) := h.1 7 (by decide)
theorem tk_9 {t : Nat} {w : AH} (h : TLay t w) : hkd w (t + 9) = (12, 3) := h.1 9 (by decide)
theorem tk_11 {t : Nat} {w : AH} (h : TLay t w) : hkd w (t + 11) = (12, 3) := h.1 11 (by decide)
theorem tk_13 {t : Nat} {w : AH} (h : TLay t w) : hkd w (t + 13) = (1, 16) := h.1 13 (by decide)
theorem tk_14 {t : Nat} {w : AH} (h : TLay t w) : hkd w (t + 14) = (1, 16) := h.1 14 (by decide)
theorem tk_15 {t : Nat} {w : AH} (h : TLay t w) : hkd w (t + 15) = (1, 16) := h.1 15 (by decide)
theorem tk_16 {t : Nat} {w : AH} (h : TLay t w) : hkd w (t + 16) = (1, 200) := h.1 16 (by decide)
theorem tk_17 {t : Nat} {w : AH} (h : TLay t w) : hkd w (t + 17) = (1, 200) := h.1 17 (by decide)
theorem tk_18 {t : Nat} {w : AH} (h : TLay t w) : hkd w (t + 18) = (1, 200) := h.1 18 (by decide)
theorem tk_19 {t : Nat} {w : AH} (h : TLay t w) : hkd w (t + 19) = (1, 200) := h.1 19 (by decide)
theorem tk_20 {t : Nat} {w : AH} (h : TLay t w) : hkd w (t + 20) = (1, 200) := h.1 20 (by decide)
theorem tk_21 {t : Nat} {w : AH} (h : TLay t w) : hkd w (t + 21) = (1, 20) := h.1 21 (by decide)
theorem tk_22 {t : Nat} {w : AH} (h : TLay t w) : hkd w (t + 22) = (1, 40) := h.1 22 (by decide)
theorem tk_23 {t : Nat} {w : AH} (h : TLay t w) : hkd w (t + 23) = (1, 40) := h.1 23 (by decide)
theorem tk_24 {t : Nat} {w : AH} (h : TLay t w) : hkd w (t + 24) = (1, 200) := h.1 24 (by decide)
theorem tk_25 {t : Nat} {w : AH} (h : TLay t w) : hkd w (t + 25) = (1, 20) := h.1 25 (by decide)
theorem tk_26 {t : Nat} {w : AH} (h : TLay t w) : hkd w (t + 26) = (2, 20) := h.1 26 (by decide)
theorem tk_27 {t : Nat} {w : AH} (h : TLay t w) : hkd w (t + 27) = (2, 20) := h.1 27 (by decide)
theorem tk_28 {t : Nat} {w : AH} (h : TLay t w) : hkd w (t + 28) = (3, 48) := h.1 28 (by decide)
theorem tr_0 {t : Nat} {w : AH} (h : TLay t w) : hvr w t 0 = some (t + 1) := h.2.1 0 1 rfl
theorem tr_1 {t : Nat} {w : AH} (h : TLay t w) : hvr w t 1 = some (t + 3) := h.2.1 1 3 rfl
theorem tr_2 {t : Nat} {w : AH} (h : TLay t w) : hvr w t 2 = some (t + 5) := h.2.1 2 5 rfl
theorem tr_3 {t : Nat} {w : AH} (h : TLay t w) : hvr w t 3 = some (t + 7) := h.2.1 3 7 rfl
theorem tr_4 {t : Nat} {w : AH} (h : TLay t w) : hvr w t 4 = some (t + 9) := h.2.1 4 9 rfl
theorem tr_5 {t : Nat} {w : AH} (h : TLay t w) : hvr w t 5 = some (t + 11) := h.2.1 5 11 rfl
theorem tr_6 {t : Nat} {w : AH} (h : TLay t w) : hvr w t 6 = some (t + 13) := h.2.1 6 13 rfl
theorem tr_7 {t : Nat} {w : AH} (h : TLay t w) : hvr w t 7 = some (t + 14) := h.2.1 7 14 rfl
theorem tr_8 {t : Nat} {w : AH} (h : TLay t w) : hvr w t 8 = some (t + 15) := h.2.1 8 15 rfl
theorem tr_9 {t : Nat} {w : AH} (h : TLay t w) : hvr w t 9 = some (t + 16) := h.2.1 9 16 rfl
theorem tr_10 {t : Nat} {w : AH} (h : TLay t w) : hvr w t 10 = some (t + 17) := h.2.1 10 17 rfl
theorem tr_11 {t : Nat} {w : AH} (h : TLay t w) : hvr w t 11 = some (t + 18) := h.2.1 11 18 rfl
theorem tr_12 {t : Nat} {w : AH} (h : TLay t w) : hvr w t 12 = some (t + 19) := h.2.1 12 19 rfl
theorem tr_13 {t : Nat} {w : AH} (h : TLay t w) : hvr w t 13 = some (t + 20) := h.2.1 13 20 rfl
theorem tr_14 {t : Nat} {w : AH} (h : TLay t w) : hvr w t 14 = some (t + 21) := h.2.1 14 21 rfl
theorem tr_15 {t : Nat} {w : AH} (h : TLay t w) : hvr w t 15 = some (t + 22) := h.2.1 15 22 rfl
theorem tr_16 {t : Nat} {w : AH} (h : TLay t w) : hvr w t 16 = some (t + 23) := h.2.1 16 23 rfl
theorem tr_17 {t : Nat} {w : AH} (h : TLay t w) : hvr w t 17 = some (t + 24) := h.2.1 17 24 rfl
theorem tr_18 {t : Nat} {w : AH} (h : TLay t w) : hvr w t 18 = some (t + 25) := h.2.1 18 25 rfl
theorem tr_19 {t : Nat} {w : AH} (h : TLay t w) : hvr w t 19 = some (t + 26) := h.2.1 19 26 rfl
theorem tr_20 {t : Nat} {w : AH} (h : TLay t w) : hvr w t 20 = some (t + 27) := h.2.1 20 27 rfl
theorem tr_21 {t : Nat} {w : AH} (h : TLay t w) : hvr w t 21 = some (t + 28) := h.2.1 21 28 rfl
