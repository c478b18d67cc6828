set_option maxRecDepth 100000
def lq1 {A1 R : Type} (F : (A1 → Option R) → A1 → Option R) : Nat → A1 → Option R
  | 0, _ => none
  | n + 1, a1 => F (lq1 F n) a1
theorem lq1_ex {A1 R : Type} {F : (A1 → Option R) → A1 → Option R} {o : R} {P : A1 → Prop} (hs : ∀ k : A1 → Option R, (∀ (a1 : A1), k a1 = some o → P a1) → ∀ (a1 : A1), F k a1 = some o → P a1) : ∀ (n : Nat) (a1 : A1), lq1 F n a1 = some o → P a1
  | 0, _, h => nomatch h
  | n + 1, a1, h => hs (lq1 F n) (lq1_ex hs n) a1 h
def lq2 {A1 A2 R : Type} (F : (A1 → A2 → Option R) → A1 → A2 → Option R) : Nat → A1 → A2 → Option R
  | 0, _, _ => none
  | n + 1, a1, a2 => F (lq2 F n) a1 a2
theorem lq2_ex {A1 A2 R : Type} {F : (A1 → A2 → Option R) → A1 → A2 → Option R} {o : R} {P : A1 → A2 → Prop} (hs : ∀ k : A1 → A2 → Option R, (∀ (a1 : A1) (a2 : A2), k a1 a2 = some o → P a1 a2) → ∀ (a1 : A1) (a2 : A2), F k a1 a2 = some o → P a1 a2) : ∀ (n : Nat) (a1 : A1) (a2 : A2), lq2 F n a1 a2 = some o → P a1 a2
  | 0, _, _, h => nomatch h
  | n + 1, a1, a2, h => hs (lq2 F n) (lq2_ex hs n) a1 a2 h
def lq3 {A1 A2 A3 R : Type} (F : (A1 → A2 → A3 → Option R) → A1 → A2 → A3 → Option R) : Nat → A1 → A2 → A3 → Option R
  | 0, _, _, _ => none
  | n + 1, a1, a2, a3 => F (lq3 F n) a1 a2 a3
theorem lq3_ex {A1 A2 A3 R : Type} {F : (A1 → A2 → A3 → Option R) → A1 → A2 → A3 → Option R} {o : R} {P : A1 → A2 → A3 → Prop} (hs : ∀ k : A1 → A2 → A3 → Option R, (∀ (a1 : A1) (a2 : A2) (a3 : A3), k a1 a2 a3 = some o → P a1 a2 a3) → ∀ (a1 : A1) (a2 : A2) (a3 : A3), F k a1 a2 a3 = some o → P a1 a2 a3) : ∀ (n : Nat) (a1 : A1) (a2 : A2) (a3 : A3), lq3 F n a1 a2 a3 = some o → P a1 a2 a3
  | 0, _, _, _, h => nomatch h
  | n + 1, a1, a2, a3, h => hs (lq3 F n) (lq3_ex hs n) a1 a2 a3 h
def lq4 {A1 A2 A3 A4 R : Type} (F : (A1 → A2 → A3 → A4 → Option R) → A1 → A2 → A3 → A4 → Option R) : Nat → A1 → A2 → A3 → A4 → Option R
  | 0, _, _, _, _ => none
  | n + 1, a1, a2, a3, a4 => F (lq4 F n) a1 a2 a3 a4
theorem lq4_ex {A1 A2 A3 A4 R : Type} {F : (A1 → A2 → A3 → A4 → Option R) → A1 → A2 → A3 → A4 → Option R} {o : R} {P : A1 → A2 → A3 → A4 → Prop} (hs : ∀ k : A1 → A2 → A3 → A4 → Option R, (∀ (a1 : A1) (a2 : A2) (a3 : A3) (a4 : A4), k a1 a2 a3 a4 = some o → P a1 a2 a3 a4) → ∀ (a1 : A1) (a2 : A2) (a3 : A3) (a4 : A4), F k a1 a2 a3 a4 = some o → P a1 a2 a3 a4) : ∀ (n : Nat) (a1 : A1) (a2 : A2) (a3 : A3) (a4 : A4), lq4 F n a1 a2 a3 a4 = some o → P a1 a2 a3 a4
  | 0, _, _, _, _, h => nomatch h
  | n + 1, a1, a2, a3, a4, h => hs (lq4 F n) (lq4_ex hs n) a1 a2 a3 a4 h
def lq5 {A1 A2 A3 A4 A5 R : Type} (F : (A1 → A2 → A3 → A4 → A5 → Option R) → A1 → A2 → A3 → A4 → A5 → Option R) : Nat → A1 → A2 → A3 → A4 → A5 → Option R
  | 0, _, _, _, _, _ => none
  | n + 1, a1, a2, a3, a4, a5 => F (lq5 F n) a1 a2 a3 a4 a5
theorem lq5_ex {A1 A2 A3 A4 A5 R : Type} {F : (A1 → A2 → A3 → A4 → A5 → Option R) → A1 → A2 → A3 → A4 → A5 → Option R} {o : R} {P : A1 → A2 → A3 → A4 → A5 → Prop} (hs : ∀ k : A1 → A2 → A3 → A4 → A5 → Option R, (∀ (a1 : A1) (a2 : A2) (a3 : A3) (a4 : A4) (a5 : A5), k a1 a2 a3 a4 a5 = some o → P a1 a2 a3 a4 a5) → ∀ (a1 : A1) (a2 : A2) (a3 : A3) (a4 : A4) (a5 : A5), F k a1 a2 a3 a4 a5 = some o → P a1 a2 a3 a4 a5) : ∀ (n : Nat) (a1 : A1) (a2 : A2) (a3 : A3) (a4 : A4) (a5 : A5), lq5 F n a1 a2 a3 a4 a5 = some o → P a1 a2 a3 a4 a5
  | 0, _, _, _, _, _, h => nomatch h
  | n + 1, a1, a2, a3, a4, a5, h => hs (lq5 F n) (lq5_ex hs n) a1 a2 a3 a4 a5 h
def lq6 {A1 A2 A3 A4 A5 A6 R : Type} (F : (A1 → A2 → A3 → A4 → A5 → A6 → Option R) → A1 → A2 → A3 → A4 → A5 → A6 → Option R) : Nat → A1 → A2 → A3 → A4 → A5 → A6 → Option R
  | 0, _, _, _, _, _, _ => none
  | n + 1, a1, a2, a3, a4, a5, a6 => F (lq6 F n) a1 a2 a3 a4 a5 a6
theorem lq6_ex {A1 A2 A3 A4 A5 A6 R : Type} {F : (A1 → A2 → A3 → A4 → A5 → A6 → Option R) → A1 → A2 → A3 → A4 → A5 → A6 → Option R} {o : R} {P : A1 → A2 → A3 → A4 → A5 → A6 → Prop} (hs : ∀ k : A1 → A2 → A3 → A4 → A5 → A6 → Option R, (∀ (a1 : A1) (a2 : A2) (a3 : A3) (a4 : A4) (a5 : A5) (a6 : A6), k a1 a2 a3 a4 a5 a6 = some o → P a1 a2 a3 a4 a5 a6) → ∀ (a1 : A1) (a2 : A2) (a3 : A3) (a4 : A4) (a5 : A5) (a6 : A6), F k a1 a2 a3 a4 a5 a6 = some o → P a1 a2 a3 a4 a5 a6) : ∀ (n : Nat) (a1 : A1) (a2 : A2) (a3 : A3) (a4 : A4) (a5 : A5) (a6 : A6), lq6 F n a1 a2 a3 a4 a5 a6 = some o → P a1 a2 a3 a4 a5 a6
  | 0, _, _, _, _, _, _, h => nomatch h
  | n + 1, a1, a2, a3, a4, a5, a6, h => hs (lq6 F n) (lq6_ex hs n) a1 a2 a3 a4 a5 a6 h
def lq7 {A1 A2 A3 A4 A5 A6 A7 R : Type} (F : (A1 → A2 → A3 → A4 → A5 → A6 → A7 → Option R) → A1 → A2 → A3 → A4 → A5 → A6 → A7 → Option R) : Nat → A1 → A2 → A3 → A4 → A5 → A6 → A7 → Option R
  | 0, _, _, _, _, _, _, _ => none
  | n + 1, a1, a2, a3, a4, a5, a6, a7 => F (lq7 F n) a1 a2 a3 a4 a5 a6 a7
theorem lq7_ex {A1 A2 A3 A4 A5 A6 A7 R : Type} {F : (A1 → A2 → A3 → A4 → A5 → A6 → A7 → Option R) → A1 → A2 → A3 → A4 → A5 → A6 → A7 → Option R} {o : R} {P : A1 → A2 → A3 → A4 → A5 → A6 → A7 → Prop} (hs : ∀ k : A1 → A2 → A3 → A4 → A5 → A6 → A7 → Option R, (∀ (a1 : A1) (a2 : A2) (a3 : A3) (a4 : A4) (a5 : A5) (a6 : A6) (a7 : A7), k a1 a2 a3 a4 a5 a6 a7 = some o → P a1 a2 a3 a4 a5 a6 a7) → ∀ (a1 : A1) (a2 : A2) (a3 : A3) (a4 : A4) (a5 : A5) (a6 : A6) (a7 : A7), F k a1 a2 a3 a4 a5 a6 a7 = some o → P a1 a2 a3 a4 a5 a6 a7) : ∀ (n : Nat) (a1 : A1) (a2 : A2) (a3 : A3) (a4 : A4) (a5 : A5) (a6 : A6) (a7 : A7), lq7 F n a1 a2 a3 a4 a5 a6 a7 = some o → P a1 a2 a3 a4 a5 a6 a7
  | 0, _, _, _, _, _, _, _, h => nomatch h
  | n + 1, a1, a2, a3, a4, a5, a6, a7, h => hs (lq7 F n) (lq7_ex hs n) a1 a2 a3 a4 a5 a6 a7 h
def lq8 {A1 A2 A3 A4 A5 A6 A7 A8 R : Type} (F : (A1 → A2 → A3 → A4 → A5 → A6 → A7 → A8 → Option R) → A1 → A2 → A3 → A4 → A5 → A6 → A7 → A8 → Option R) : Nat → A1 → A2 → A3 → A4 → A5 → A6 → A7 → A8 → Option R
  | 0, _, _, _, _, _, _, _, _ => none
  | n + 1, a1, a2, a3, a4, a5, a6, a7, a8 => F (lq8 F n) a1 a2 a3 a4 a5 a6 a7 a8
theorem lq8_ex {A1 A2 A3 A4 A5 A6 A7 A8 R : Type} {F : (A1 → A2 → A3 → A4 → A5 → A6 → A7 → A8 → Option R) → A1 → A2 → A3 → A4 → A5 → A6 → A7 → A8 → Option R} {o : R} {P : A1 → A2 → A3 → A4 → A5 → A6 → A7 → A8 → Prop} (hs : ∀ k : A1 → A2 → A3 → A4 → A5 → A6 → A7 → A8 → Option R, (∀ (a1 : A1) (a2 : A2) (a3 : A3) (a4 : A4) (a5 : A5) (a6 : A6) (a7 : A7) (a8 : A8), k a1 a2 a3 a4 a5 a6 a7 a8 = some o → P a1 a2 a3 a4 a5 a6 a7 a8) → ∀ (a1 : A1) (a2 : A2) (a3 : A3) (a4 : A4) (a5 : A5) (a6 : A6) (a7 : A7) (a8 : A8), F k a1 a2 a3 a4 a5 a6 a7 a8 = some o → P a1 a2 a3 a4 a5 a6 a7 a8) : ∀ (n : Nat) (a1 : A1) (a2 : A2) (a3 : A3) (a4 : A4) (a5 : A5) (a6 : A6) (a7 : A7) (a8 : A8), lq8 F n a1 a2 a3 a4 a5 a6 a7 a8 = some o → P a1 a2 a3 a4 a5 a6 a7 a8
  | 0, _, _, _, _, _, _, _, _, h => nomatch h
  | n + 1, a1, a2, a3, a4, a5, a6, a7, a8, h => hs (lq8 F n) (lq8_ex hs n) a1 a2 a3 a4 a5 a6 a7 a8 h
def lq9 {A1 A2 A3 A4 A5 A6 A7 A8 A9 R : Type} (F : (A1 → A2 → A3 → A4 → A5 → A6 → A7 → A8 → A9 → Option R) → A1 → A2 → A3 → A4 → A5 → A6 → A7 → A8 → A9 → Option R) : Nat → A1 → A2 → A3 → A4 → A5 → A6 → A7 → A8 → A9 → Option R
  | 0, _, _, _, _, _, _, _, _, _ => none
  | n + 1, a1, a2, a3, a4, a5, a6, a7, a8, a9 => F (lq9 F n) a1 a2 a3 a4 a5 a6 a7 a8 a9
theorem lq9_ex {A1 A2 A3 A4 A5 A6 A7 A8 A9 R : Type} {F : (A1 → A2 → A3 → A4 → A5 → A6 → A7 → A8 → A9 → Option R) → A1 → A2 → A3 → A4 → A5 → A6 → A7 → A8 → A9 → Option R} {o : R} {P : A1 → A2 → A3 → A4 → A5 → A6 → A7 → A8 → A9 → Prop} (hs : ∀ k : A1 → A2 → A3 → A4 → A5 → A6 → A7 → A8 → A9 → Option R, (∀ (a1 : A1) (a2 : A2) (a3 : A3) (a4 : A4) (a5 : A5) (a6 : A6) (a7 : A7) (a8 : A8) (a9 : A9), k a1 a2 a3 a4 a5 a6 a7 a8 a9 = some o → P a1 a2 a3 a4 a5 a6 a7 a8 a9) → ∀ (a1 : A1) (a2 : A2) (a3 : A3) (a4 : A4) (a5 : A5) (a6 : A6) (a7 : A7) (a8 : A8) (a9 : A9), F k a1 a2 a3 a4 a5 a6 a7 a8 a9 = some o → P a1 a2 a3 a4 a5 a6 a7 a8 a9) : ∀ (n : Nat) (a1 : A1) (a2 : A2) (a3 : A3) (a4 : A4) (a5 : A5) (a6 : A6) (a7 : A7) (a8 : A8) (a9 : A9), lq9 F n a1 a2 a3 a4 a5 a6 a7 a8 a9 = some o → P a1 a2 a3 a4 a5 a6 a7 a8 a9
  | 0, _, _, _, _, _, _, _, _, _, h => nomatch h
  | n + 1, a1, a2, a3, a4, a5, a6, a7, a8, a9, h => hs (lq9 F n) (lq9_ex hs n) a1 a2 a3 a4 a5 a6 a7 a8 a9 h
def lq10 {A1 A2 A3 A4 A5 A6 A7 A8 A9 A10 R : Type} (F : (A1 → A2 → A3 → A4 → A5 → A6 → A7 → A8 → A9 → A10 → Option R) → A1 → A2 → A3 → A4 → A5 → A6 → A7 → A8 → A9 → A10 → Option R) : Nat → A1 → A2 → A3 → A4 → A5 → A6 → A7 → A8 → A9 → A10 → Option R
  | 0, _, _, _, _, _, _, _, _, _, _ => none
  | n + 1, a1, a2, a3, a4, a5, a6, a7, a8, a9, a10 => F (lq10 F n) a1 a2 a3 a4 a5 a6 a7 a8 a9 a10
theorem lq10_ex {A1 A2 A3 A4 A5 A6 A7 A8 A9 A10 R : Type} {F : (A1 → A2 → A3 → A4 → A5 → A6 → A7 → A8 → A9 → A10 → Option R) → A1 → A2 → A3 → A4 → A5 → A6 → A7 → A8 → A9 → A10 → Option R} {o : R} {P : A1 → A2 → A3 → A4 → A5 → A6 → A7 → A8 → A9 → A10 → Prop} (hs : ∀ k : A1 → A2 → A3 → A4 → A5 → A6 → A7 → A8 → A9 → A10 → Option R, (∀ (a1 : A1) (a2 : A2) (a3 : A3) (a4 : A4) (a5 : A5) (a6 : A6) (a7 : A7) (a8 : A8) (a9 : A9) (a10 : A10), k a1 a2 a3 a4 a5 a6 a7 a8 a9 a10 = some o → P a1 a2 a3 a4 a5 a6 a7 a8 a9 a10) → ∀ (a1 : A1) (a2 : A2) (a3 : A3) (a4 : A4) (a5 : A5) (a6 : A6) (a7 : A7) (a8 : A8) (a9 : A9) (a10 : A10), F k a1 a2 a3 a4 a5 a6 a7 a8 a9 a10 = some o → P a1 a2 a3 a4 a5 a6 a7 a8 a9 a10) : ∀ (n : Nat) (a1 : A1) (a2 : A2) (a3 : A3) (a4 : A4) (a5 : A5) (a6 : A6) (a7 : A7) (a8 : A8) (a9 : A9) (a10 : A10), lq10 F n a1 a2 a3 a4 a5 a6 a7 a8 a9 a10 = some o → P a1 a2 a3 a4 a5 a6 a7 a8 a9 a10
  | 0, _, _, _, _, _, _, _, _, _, _, h => nomatch h
  | n + 1, a1, a2, a3, a4, a5, a6, a7, a8, a9, a10, h => hs (lq10 F n) (lq10_ex hs n) a1 a2 a3 a4 a5 a6 a7 a8 a9 a10 h
def lq11 {A1 A2 A3 A4 A5 A6 A7 A8 A9 A10 A11 R : Type} (F : (A1 → A2 → A3 → A4 → A5 → A6 → A7 → A8 → A9 → A10 → A11 → Option R) → A1 → A2 → A3 → A4 → A5 → A6 → A7 → A8 → A9 → A10 → A11 → Option R) : Nat → A1 → A2 → A3 → A4 → A5 → A6 → A7 → A8 → A9 → A10 → A11 → Option R
  | 0, _, _, _, _, _, _, _, _, _, _, _ => none
  | n + 1, a1, a2, a3, a4, a5, a6, a7, a8, a9, a10, a11 => F (lq11 F n) a1 a2 a3 a4 a5 a6 a7 a8 a9 a10 a11
theorem lq11_ex {A1 A2 A3 A4 A5 A6 A7 A8 A9 A10 A11 R : Type} {F : (A1 → A2 → A3 → A4 → A5 → A6 → A7 → A8 → A9 → A10 → A11 → Option R) → A1 → A2 → A3 → A4 → A5 → A6 → A7 → A8 → A9 → A10 → A11 → Option R} {o : R} {P : A1 → A2 → A3 → A4 → A5 → A6 → A7 → A8 → A9 → A10 → A11 → Prop} (hs : ∀ k : A1 → A2 → A3 → A4 → A5 → A6 → A7 → A8 → A9 → A10 → A11 → Option R, (∀ (a1 : A1) (a2 : A2) (a3 : A3) (a4 : A4) (a5 : A5) (a6 : A6) (a7 : A7) (a8 : A8) (a9 : A9) (a10 : A10) (a11 : A11), k a1 a2 a3 a4 a5 a6 a7 a8 a9 a10 a11 = some o → P a1 a2 a3 a4 a5 a6 a7 a8 a9 a10 a11) → ∀ (a1 : A1) (a2 : A2) (a3 : A3) (a4 : A4) (a5 : A5) (a6 : A6) (a7 : A7) (a8 : A8) (a9 : A9) (a10 : A10) (a11 : A11), F k a1 a2 a3 a4 a5 a6 a7 a8 a9 a10 a11 = some o → P a1 a2 a3 a4 a5 a6 a7 a8 a9 a10 a11) : ∀ (n : Nat) (a1 : A1) (a2 : A2) (a3 : A3) (a4 : A4) (a5 : A5) (a6 : A6) (a7 : A7) (a8 : A8) (a9 : A9) (a10 : A10) (a11 : A11), lq11 F n a1 a2 a3 a4 a5 a6 a7 a8 a9 a10 a11 = some o → P a1 a2 a3 a4 a5 a6 a7 a8 a9 a10 a11
  | 0, _, _, _, _, _, _, _, _, _, _, _, h => nomatch h
  | n + 1, a1, a2, a3, a4, a5, a6, a7, a8, a9, a10, a11, h => hs (lq11 F n) (lq11_ex hs n) a1 a2 a3 a4 a5 a6 a7 a8 a9 a10 a11 h
def lq12 {A1 A2 A3 A4 A5 A6 A7 A8 A9 A10 A11 A12 R : Type} (F : (A1 → A2 → A3 → A4 → A5 → A6 → A7 → A8 → A9 → A10 → A11 → A12 → Option R) → A1 → A2 → A3 → A4 → A5 → A6 → A7 → A8 → A9 → A10 → A11 → A12 → Option R) : Nat → A1 → A2 → A3 → A4 → A5 → A6 → A7 → A8 → A9 → A10 → A11 → A12 → Option R
  | 0, _, _, _, _, _, _, _, _, _, _, _, _ => none
  | n + 1, a1, a2, a3, a4, a5, a6, a7, a8, a9, a10, a11, a12 => F (lq12 F n) a1 a2 a3 a4 a5 a6 a7 a8 a9 a10 a11 a12
theorem lq12_ex {A1 A2 A3 A4 A5 A6 A7 A8 A9 A10 A11 A12 R : Type} {F : (A1 → A2 → A3 → A4 → A5 → A6 → A7 → A8 → A9 → A10 → A11 → A12 → Option R) → A1 → A2 → A3 → A4 → A5 → A6 → A7 → A8 → A9 → A10 → A11 → A12 → Option R} {o : R} {P : A1 → A2 → A3 → A4 → A5 → A6 → A7 → A8 → A9 → A10 → A11 → A12 → Prop} (hs : ∀ k : A1 → A2 → A3 → A4 → A5 → A6 → A7 → A8 → A9 → A10 → A11 → A12 → Option R, (∀ (a1 : A1) (a2 : A2) (a3 : A3) (a4 : A4) (a5 : A5) (a6 : A6) (a7 : A7) (a8 : A8) (a9 : A9) (a10 : A10) (a11 : A11) (a12 : A12), k a1 a2 a3 a4 a5 a6 a7 a8 a9 a10 a11 a12 = some o → P a1 a2 a3 a4 a5 a6 a7 a8 a9 a10 a11 a12) → ∀ (a1 : A1) (a2 : A2) (a3 : A3) (a4 : A4) (a5 : A5) (a6 : A6) (a7 : A7) (a8 : A8) (a9 : A9) (a10 : A10) (a11 : A11) (a12 : A12), F k a1 a2 a3 a4 a5 a6 a7 a8 a9 a10 a11 a12 = some o → P a1 a2 a3 a4 a5 a6 a7 a8 a9 a10 a11 a12) : ∀ (n : Nat) (a1 : A1) (a2 : A2) (a3 : A3) (a4 : A4) (a5 : A5) (a6 : A6) (a7 : A7) (a8 : A8) (a9 : A9) (a10 : A10) (a11 : A11) (a12 : A12), lq12 F n a1 a2 a3 a4 a5 a6 a7 a8 a9 a10 a11 a12 = some o → P a1 a2 a3 a4 a5 a6 a7 a8 a9 a10 a11 a12
  | 0, _, _, _, _, _, _, _, _, _, _, _, _, h => nomatch h
  | n + 1, a1, a2, a3, a4, a5, a6, a7, a8, a9, a10, a11, a12, h => hs (lq12 F n) (lq12_ex hs n) a1 a2 a3 a4 a5 a6 a7 a8 a9 a10 a11 a12 h
def lq13 {A1 A2 A3 A4 A5 A6 A7 A8 A9 A10 A11 A12 A13 R : Type} (F : (A1 → A2 → A3 → A4 → A5 → A6 → A7 → A8 → A9 → A10 → A11 → A12 → A13 → Option R) → A1 → A2 → A3 → A4 → A5 → A6 → A7 → A8 → A9 → A10 → A11 → A12 → A13 → Option R) : Nat → A1 → A2 → A3 → A4 → A5 → A6 → A7 → A8 → A9 → A10 → A11 → A12 → A13 → Option R
  | 0, _, _, _, _, _, _, _, _, _, _, _, _, _ => none
  | n + 1, a1, a2, a3, a4, a5, a6, a7, a8, a9, a10, a11, a12, a13 => F (lq13 F n) a1 a2 a3 a4 a5 a6 a7 a8 a9 a10 a11 a12 a13
theorem lq13_ex {A1 A2 A3 A4 A5 A6 A7 A8 A9 A10 A11 A12 A13 R : Type} {F : (A1 → A2 → A3 → A4 → A5 → A6 → A7 → A8 → A9 → A10 → A11 → A12 → A13 → Option R) → A1 → A2 → A3 → A4 → A5 → A6 → A7 → A8 → A9 → A10 → A11 → A12 → A13 → Option R} {o : R} {P : A1 → A2 → A3 → A4 → A5 → A6 → A7 → A8 → A9 → A10 → A11 → A12 → A13 → Prop} (hs : ∀ k : A1 → A2 → A3 → A4 → A5 → A6 → A7 → A8 → A9 → A10 → A11 → A12 → A13 → Option R, (∀ (a1 : A1) (a2 : A2) (a3 : A3) (a4 : A4) (a5 : A5) (a6 : A6) (a7 : A7) (a8 : A8) (a9 : A9) (a10 : A10) (a11 : A11) (a12 : A12) (a13 : A13), k a1 a2 a3 a4 a5 a6 a7 a8 a9 a10 a11 a12 a13 = some o → P a1 a2 a3 a4 a5 a6 a7 a8 a9 a10 a11 a12 a13) → ∀ (a1 : A1) (a2 : A2) (a3 : A3) (a4 : A4) (a5 : A5) (a6 : A6) (a7 : A7) (a8 : A8) (a9 : A9) (a10 : A10) (a11 : A11) (a12 : A12) (a13 : A13), F k a1 a2 a3 a4 a5 a6 a7 a8 a9 a10 a11 a12 a13 = some o → P a1 a2 a3 a4 a5 a6 a7 a8 a9 a10 a11 a12 a13) : ∀ (n : Nat) (a1 : A1) (a2 : A2) (a3 : A3) (a4 : A4) (a5 : A5) (a6 : A6) (a7 : A7) (a8 : A8) (a9 : A9) (a10 : A10) (a11 : A11) (a12 : A12) (a13 : A13), lq13 F n a1 a2 a3 a4 a5 a6 a7 a8 a9 a10 a11 a12 a13 = some o → P a1 a2 a3 a4 a5 a6 a7 a8 a9 a10 a11 a12 a13
  | 0, _, _, _, _, _, _, _, _, _, _, _, _, _, h => nomatch h
  | n + 1, a1, a2, a3, a4, a5, a6, a7, a8, a9, a10, a11, a12, a13, h => hs (lq13 F n) (lq13_ex hs n) a1 a2 a3 a4 a5 a6 a7 a8 a9 a10 a11 a12 a13 h
def lq14 {A1 A2 A3 A4 A5 A6 A7 A8 A9 A10 A11 A12 A13 A14 R : Type} (F : (A1 → A2 → A3 → A4 → A5 → A6 → A7 → A8 → A9 → A10 → A11 → A12 → A13 → A14 → Option R) → A1 → A2 → A3 → A4 → A5 → A6 → A7 → A8 → A9 → A10 → A11 → A12 → A13 → A14 → Option R) : Nat → A1 → A2 → A3 → A4 → A5 → A6 → A7 → A8 → A9 → A10 → A11 → A12 → A13 → A14 → Option R
  | 0, _, _, _, _, _, _, _, _, _, _, _, _, _, _ => none
  | n + 1, a1, a2, a3, a4, a5, a6, a7, a8, a9, a10, a11, a12, a13, a14 => F (lq14 F n) a1 a2 a3 a4 a5 a6 a7 a8 a9 a10 a11 a12 a13 a14
theorem lq14_ex {A1 A2 A3 A4 A5 A6 A7 A8 A9 A10 A11 A12 A13 A14 R : Type} {F : (A1 → A2 → A3 → A4 → A5 → A6 → A7 → A8 → A9 → A10 → A11 → A12 → A13 → A14 → Option R) → A1 → A2 → A3 → A4 → A5 → A6 → A7 → A8 → A9 → A10 → A11 → A12 → A13 → A14 → Option R} {o : R} {P : A1 → A2 → A3 → A4 → A5 → A6 → A7 → A8 → A9 → A10 → A11 → A12 → A13 → A14 → Prop} (hs : ∀ k : A1 → A2 → A3 → A4 → A5 → A6 → A7 → A8 → A9 → A10 → A11 → A12 → A13 → A14 → Option R, (∀ (a1 : A1) (a2 : A2) (a3 : A3) (a4 : A4) (a5 : A5) (a6 : A6) (a7 : A7) (a8 : A8) (a9 : A9) (a10 : A10) (a11 : A11) (a12 : A12) (a13 : A13) (a14 : A14), k a1 a2 a3 a4 a5 a6 a7 a8 a9 a10 a11 a12 a13 a14 = some o → P a1 a2 a3 a4 a5 a6 a7 a8 a9 a10 a11 a12 a13 a14) → ∀ (a1 : A1) (a2 : A2) (a3 : A3) (a4 : A4) (a5 : A5) (a6 : A6) (a7 : A7) (a8 : A8) (a9 : A9) (a10 : A10) (a11 : A11) (a12 : A12) (a13 : A13) (a14 : A14), F k a1 a2 a3 a4 a5 a6 a7 a8 a9 a10 a11 a12 a13 a14 = some o → P a1 a2 a3 a4 a5 a6 a7 a8 a9 a10 a11 a12 a13 a14) : ∀ (n : Nat) (a1 : A1) (a2 : A2) (a3 : A3) (a4 : A4) (a5 : A5) (a6 : A6) (a7 : A7) (a8 : A8) (a9 : A9) (a10 : A10) (a11 : A11) (a12 : A12) (a13 : A13) (a14 : A14), lq14 F n a1 a2 a3 a4 a5 a6 a7 a8 a9 a10 a11 a12 a13 a14 = some o → P a1 a2 a3 a4 a5 a6 a7 a8 a9 a10 a11 a12 a13 a14
  | 0, _, _, _, _, _, _, _, _, _, _, _, _, _, _, h => nomatch h
  | n + 1, a1, a2, a3, a4, a5, a6, a7, a8, a9, a10, a11, a12, a13, a14, h => hs (lq14 F n) (lq14_ex hs n) a1 a2 a3 a4 a5 a6 a7 a8 a9 a10 a11 a12 a13 a14 h
def lq15 {A1 A2 A3 A4 A5 A6 A7 A8 A9 A10 A11 A12 A13 A14 A15 R : Type} (F : (A1 → A2 → A3 → A4 → A5 → A6 → A7 → A8 → A9 → A10 → A11 → A12 → A13 → A14 → A15 → Option R) → A1 → A2 → A3 → A4 → A5 → A6 → A7 → A8 → A9 → A10 → A11 → A12 → A13 → A14 → A15 → Option R) : Nat → A1 → A2 → A3 → A4 → A5 → A6 → A7 → A8 → A9 → A10 → A11 → A12 → A13 → A14 → A15 → Option R
  | 0, _, _, _, _, _, _, _, _, _, _, _, _, _, _, _ => none
  | n + 1, a1, a2, a3, a4, a5, a6, a7, a8, a9, a10, a11, a12, a13, a14, a15 => F (lq15 F n) a1 a2 a3 a4 a5 a6 a7 a8 a9 a10 a11 a12 a13 a14 a15
theorem lq15_ex {A1 A2 A3 A4 A5 A6 A7 A8 A9 A10 A11 A12 A13 A14 A15 R : Type} {F : (A1 → A2 → A3 → A4 → A5 → A6 → A7 → A8 → A9 → A10 → A11 → A12 → A13 → A14 → A15 → Option R) → A1 → A2 → A3 → A4 → A5 → A6 → A7 → A8 → A9 → A10 → A11 → A12 → A13 → A14 → A15 → Option R} {o : R} {P : A1 → A2 → A3 → A4 → A5 → A6 → A7 → A8 → A9 → A10 → A11 → A12 → A13 → A14 → A15 → Prop} (hs : ∀ k : A1 → A2 → A3 → A4 → A5 → A6 → A7 → A8 → A9 → A10 → A11 → A12 → A13 → A14 → A15 → Option R, (∀ (a1 : A1) (a2 : A2) (a3 : A3) (a4 : A4) (a5 : A5) (a6 : A6) (a7 : A7) (a8 : A8) (a9 : A9) (a10 : A10) (a11 : A11) (a12 : A12) (a13 : A13) (a14 : A14) (a15 : A15), k a1 a2 a3 a4 a5 a6 a7 a8 a9 a10 a11 a12 a13 a14 a15 = some o → P a1 a2 a3 a4 a5 a6 a7 a8 a9 a10 a11 a12 a13 a14 a15) → ∀ (a1 : A1) (a2 : A2) (a3 : A3) (a4 : A4) (a5 : A5) (a6 : A6) (a7 : A7) (a8 : A8) (a9 : A9) (a10 : A10) (a11 : A11) (a12 : A12) (a13 : A13) (a14 : A14) (a15 : A15), F k a1 a2 a3 a4 a5 a6 a7 a8 a9 a10 a11 a12 a13 a14 a15 = some o → P a1 a2 a3 a4 a5 a6 a7 a8 a9 a10 a11 a12 a13 a14 a15) : ∀ (n : Nat) (a1 : A1) (a2 : A2) (a3 : A3) (a4 : A4) (a5 : A5) (a6 : A6) (a7 : A7) (a8 : A8) (a9 : A9) (a10 : A10) (a11 : A11) (a12 : A12) (a13 : A13) (a14 : A14) (a15 : A15), lq15 F n a1 a2 a3 a4 a5 a6 a7 a8 a9 a10 a11 a12 a13 a14 a15 = some o → P a1 a2 a3 a4 a5 a6 a7 a8 a9 a10 a11 a12 a13 a14 a15
  | 0, _, _, _, _, _, _, _, _, _, _, _, _, _, _, _, h => nomatch h
  | n + 1, a1, a2, a3, a4, a5, a6, a7, a8, a9, a10, a11, a12, a13, a14, a15, h => hs (lq15 F n) (lq15_ex hs n) a1 a2 a3 a4 a5 a6 a7 a8 a9 a10 a11 a12 a13 a14 a15 h
def lq16 {A1 A2 A3 A4 A5 A6 A7 A8 A9 A10 A11 A12 A13 A14 A15 A16 R : Type} (F : (A1 → A2 → A3 → A4 → A5 → A6 → A7 → A8 → A9 → A10 → A11 → A12 → A13 → A14 → A15 → A16 → Option R) → A1 → A2 → A3 → A4 → A5 → A6 → A7 → A8 → A9 → A10 → A11 → A12 → A13 → A14 → A15 → A16 → Option R) : Nat → A1 → A2 → A3 → A4 → A5 → A6 → A7 → A8 → A9 → A10 → A11 → A12 → A13 → A14 → A15 → A16 → Option R
  | 0, _, _, _, _, _, _, _, _, _, _, _, _, _, _, _, _ => none
  | n + 1, a1, a2, a3, a4, a5, a6, a7, a8, a9, a10, a11, a12, a13, a14, a15, a16 => F (lq16 F n) a1 a2 a3 a4 a5 a6 a7 a8 a9 a10 a11 a12 a13 a14 a15 a16
theorem lq16_ex {A1 A2 A3 A4 A5 A6 A7 A8 A9 A10 A11 A12 A13 A14 A15 A16 R : Type} {F : (A1 → A2 → A3 → A4 → A5 → A6 → A7 → A8 → A9 → A10 → A11 → A12 → A13 → A14 → A15 → A16 → Option R) → A1 → A2 → A3 → A4 → A5 → A6 → A7 → A8 → A9 → A10 → A11 → A12 → A13 → A14 → A15 → A16 → Option R} {o : R} {P : A1 → A2 → A3 → A4 → A5 → A6 → A7 → A8 → A9 → A10 → A11 → A12 → A13 → A14 → A15 → A16 → Prop} (hs : ∀ k : A1 → A2 → A3 → A4 → A5 → A6 → A7 → A8 → A9 → A10 → A11 → A12 → A13 → A14 → A15 → A16 → Option R, (∀ (a1 : A1) (a2 : A2) (a3 : A3) (a4 : A4) (a5 : A5) (a6 : A6) (a7 : A7) (a8 : A8) (a9 : A9) (a10 : A10) (a11 : A11) (a12 : A12) (a13 : A13) (a14 : A14) (a15 : A15) (a16 : A16), k a1 a2 a3 a4 a5 a6 a7 a8 a9 a10 a11 a12 a13 a14 a15 a16 = some o → P a1 a2 a3 a4 a5 a6 a7 a8 a9 a10 a11 a12 a13 a14 a15 a16) → ∀ (a1 : A1) (a2 : A2) (a3 : A3) (a4 : A4) (a5 : A5) (a6 : A6) (a7 : A7) (a8 : A8) (a9 : A9) (a10 : A10) (a11 : A11) (a12 : A12) (a13 : A13) (a14 : A14) (a15 : A15) (a16 : A16), F k a1 a2 a3 a4 a5 a6 a7 a8 a9 a10 a11 a12 a13 a14 a15 a16 = some o → P a1 a2 a3 a4 a5 a6 a7 a8 a9 a10 a11 a12 a13 a14 a15 a16) : ∀ (n : Nat) (a1 : A1) (a2 : A2) (a3 : A3) (a4 : A4) (a5 : A5) (a6 : A6) (a7 : A7) (a8 : A8) (a9 : A9) (a10 : A10) (a11 : A11) (a12 : A12) (a13 : A13) (a14 : A14) (a15 : A15) (a16 : A16), lq16 F n a1 a2 a3 a4 a5 a6 a7 a8 a9 a10 a11 a12 a13 a14 a15 a16 = some o → P a1 a2 a3 a4 a5 a6 a7 a8 a9 a10 a11 a12 a13 a14 a15 a16
  | 0, _, _, _, _, _, _, _, _, _, _, _, _, _, _, _, _, h => nomatch h
  | n + 1, a1, a2, a3, a4, a5, a6, a7, a8, a9, a10, a11, a12, a13, a14, a15, a16, h => hs (lq16 F n) (lq16_ex hs n) a1 a2 a3 a4 a5 a6 a7 a8 a9 a10 a11 a12 a13 a14 a15 a16 h
def mK (j : Nat) : Nat × Nat := match j with
  | 0 => (18, 62)
  | 1 => (1, 23016)
  | 2 => (1, 46032)
  | 3 => (3, 2)
  | 4 => (3, 200)
  | 5 => (1, 16)
  | 6 => (1, 400)
  | 7 => (1, 96)
  | 8 => (1, 400)
  | 9 => (1, 400)
  | 10 => (1, 400)
  | 11 => (1, 400)
  | 12 => (3, 20)
  | 13 => (3, 240)
  | 14 => (2, 17)
  | 15 => (2, 400)
  | 16 => (1, 7)
  | 17 => (1, 7)
  | 18 => (1, 7)
  | 19 => (1, 7)
  | 20 => (1, 7)
  | 21 => (1, 7)
  | 22 => (1, 7)
  | 23 => (1, 7)
  | 24 => (1, 7)
  | 25 => (3, 10)
  | 26 => (1, 8)
  | 27 => (1, 8)
  | 28 => (1, 20)
  | 29 => (1, 7)
  | 30 => (1, 7)
  | 31 => (1, 7)
  | 32 => (1, 7)
  | _ => (0, 0)
def mR (k : Nat) : Option Nat := match k with
  | 2 => some 1
  | 3 => some 2
  | 4 => some 3
  | 7 => some 4
  | 8 => some 5
  | 9 => some 6
  | 18 => some 7
  | 20 => some 8
  | 21 => some 9
  | 23 => some 10
  | 24 => some 11
  | 27 => some 12
  | 28 => some 13
  | 29 => some 14
  | 30 => some 15
  | 35 => some 16
  | 36 => some 17
  | 37 => some 18
  | 38 => some 19
  | 39 => some 20
  | 40 => some 21
  | 41 => some 22
  | 42 => some 23
  | 46 => some 24
  | 47 => some 25
  | 48 => some 26
  | 49 => some 27
  | 52 => some 28
  | 55 => some 29
  | 56 => some 30
  | 57 => some 31
  | 58 => some 32
  | _ => none
/-! ===== the reference's state, flat: ints and longs by (array number, index); number 0 is the object itself ===== -/
abbrev SM : Type := (Nat → Nat → Int32) × (Nat → Nat → Int64)
def gI (σ : SM) (j i : Nat) : Int32 := σ.1 j i
def gL (σ : SM) (j i : Nat) : Int64 := σ.2 j i
def sI (σ : SM) (j i : Nat) (x : Int32) : SM := (up2 σ.1 j i x, σ.2)
def sL (σ : SM) (j i : Nat) (x : Int64) : SM := (σ.1, up2 σ.2 j i x)
def wM (z : ZZ) (h : Nat) (σ : SM) : AH := (z, (fun a => if a < h then (0, 0) else mK (a - h)), (fun a i => if a < h then 0 else σ.1 (a - h) i), (fun a i => if a < h then 0 else σ.2 (a - h) i), (fun a k => if a = h then (mR k).map (fun o => h + o) else none))
theorem wM_kd (z : ZZ) (h j : Nat) (σ : SM) : hkd (wM z h σ) (h + j) = mK j := by
  unfold hkd wM
  simp only
  rw [if_neg (by omega), Nat.add_sub_cancel_left]
theorem wM_k0 (z : ZZ) (h : Nat) (σ : SM) : (hkd (wM z h σ) h).1 = 10 + 8 := by
  have := wM_kd z h 0 σ
  rw [Nat.add_zero] at this
  rw [this]
  rfl
theorem wM_vi (z : ZZ) (h j i : Nat) (σ : SM) : hvi (wM z h σ) (h + j) i = gI σ j i := by
  unfold hvi wM gI
  simp only
  rw [if_neg (by omega), Nat.add_sub_cancel_left]
theorem wM_vl (z : ZZ) (h j i : Nat) (σ : SM) : hvl (wM z h σ) (h + j) i = gL σ j i := by
  unfold hvl wM gL
  simp only
  rw [if_neg (by omega), Nat.add_sub_cancel_left]
theorem wM_sI (z : ZZ) (h j i : Nat) (σ : SM) (x : Int32) : siI (wM z h σ) (h + j) i x = wM z h (sI σ j i x) := by
  unfold siI wM sI
  simp only
  congr 3
  funext a b
  unfold up2
  dsimp only
  by_cases h1 : a < h
  · rw [if_neg (by omega), if_pos h1, if_pos h1]
  · rw [if_neg h1, if_neg h1]
    by_cases h2 : a = h + j ∧ b = i
    · rw [if_pos h2, if_pos (by omega)]
    · rw [if_neg h2, if_neg (by omega)]
theorem wM_sL (z : ZZ) (h j i : Nat) (σ : SM) (x : Int64) : siL (wM z h σ) (h + j) i x = wM z h (sL σ j i x) := by
  unfold siL wM sL
  simp only
  congr 4
  funext a b
  unfold up2
  dsimp only
  by_cases h1 : a < h
  · rw [if_neg (by omega), if_pos h1, if_pos h1]
  · rw [if_neg h1, if_neg h1]
    by_cases h2 : a = h + j ∧ b = i
    · rw [if_pos h2, if_pos (by omega)]
    · rw [if_neg h2, if_neg (by omega)]
section VM
variable {X : CX} {cc : ByteArray} {own : String} {nL d : Nat} {z : ZZ} {h : Nat} {σ σ1 : SM} {pc : Nat} {ls ls' : List (Option Value)} {st : List Value} {index k j n o : Nat} {ty : FieldType} {i x y : Int32}
theorem svl_I {w : AH} {ty : FieldType} {a k : Nat} (h : isI ty = true) : svl w ty a k = .int (hvi w a k) := by cases ty <;> simp_all [isI, svl]
theorem VM_getI (hF : FL own index 8 k ty) (hi : isI ty = true) (hd : decode cc pc = .ok (.getfield index, 3)) (kk : V X cc own nL d (wM z h σ) (pc + 3) ls (.int (gI σ 0 k) :: st)) : V X cc own nL d (wM z h σ) pc ls (.ref h :: st) :=
  V_get hF (wM_k0 z h σ) (by rw [svl_I hi, ← wM_vi z h 0 k σ]; rfl) hd kk
theorem VM_getL (hF : FL own index 8 k .long) (hd : decode cc pc = .ok (.getfield index, 3)) (kk : V X cc own nL d (wM z h σ) (pc + 3) ls (.long (gL σ 0 k) :: st)) : V X cc own nL d (wM z h σ) pc ls (.ref h :: st) :=
  V_get hF (wM_k0 z h σ) (by rw [← wM_vl z h 0 k σ]; rfl) hd kk
theorem VM_getR (hF : FL own index 8 k ty) (hi : isI ty = false ∧ isL ty = false) (hr : mR k = some o) (hd : decode cc pc = .ok (.getfield index, 3)) (kk : V X cc own nL d (wM z h σ) (pc + 3) ls (.ref (h + o) :: st)) : V X cc own nL d (wM z h σ) pc ls (.ref h :: st) :=
  V_get hF (wM_k0 z h σ) (by
    have e : svl (wM z h σ) ty h k = va_rf (hvr (wM z h σ) h k) := by obtain ⟨h1, h2⟩ := hi; cases ty <;> simp_all [isI, isL, svl]
    rw [e]
    unfold hvr wM
    simp [hr, va_rf]) hd kk
theorem VM_putI (hF : FLw own index 8 k .int) (hs : sI σ 0 k x = σ1) (hd : decode cc pc = .ok (.putfield index, 3)) (kk : V X cc own nL d (wM z h σ1) (pc + 3) ls st) : V X cc own nL d (wM z h σ) pc ls (.int x :: .ref h :: st) :=
  V_put (w' := wM z h σ1) hF (wM_k0 z h σ) (by rw [← hs, ← wM_sI]; exact Upd.I rfl) rfl rfl hd kk
theorem VM_putZ (hF : FLw own index 8 k .boolean) (hz : isZ x = true) (hs : sI σ 0 k x = σ1) (hd : decode cc pc = .ok (.putfield index, 3)) (kk : V X cc own nL d (wM z h σ1) (pc + 3) ls st) : V X cc own nL d (wM z h σ) pc ls (.int x :: .ref h :: st) :=
  V_put (w' := wM z h σ1) hF (wM_k0 z h σ) (by rw [← hs, ← wM_sI]; exact Upd.I rfl) (isZ_nar hz) (isZ_fit hz) hd kk
theorem VM_putL {x : Int64} (hF : FLw own index 8 k .long) (hs : sL σ 0 k x = σ1) (hd : decode cc pc = .ok (.putfield index, 3)) (kk : V X cc own nL d (wM z h σ1) (pc + 3) ls st) : V X cc own nL d (wM z h σ) pc ls (.long x :: .ref h :: st) :=
  V_put (w' := wM z h σ1) hF (wM_k0 z h σ) (by rw [← hs, ← wM_sL]; exact Upd.L rfl) rfl rfl hd kk
theorem VM_ldI (hm : mK j = (1, n)) (hb : bnd i n = true) (hi : i.toNatClampNeg = k) (hd : decode cc pc = .ok (.iaload, 1)) (kk : V X cc own nL d (wM z h σ) (pc + 1) ls (.int (gI σ j k) :: st)) : V X cc own nL d (wM z h σ) pc ls (.int i :: .ref (h + j) :: st) :=
  V_iald (n := n) (by rw [wM_kd, hm]) (bnd_in hb) hd (by rw [hi, wM_vi]; exact kk)
theorem VM_ldZ (hm : mK j = (3, n)) (hb : bnd i n = true) (hi : i.toNatClampNeg = k) (hd : decode cc pc = .ok (.baload, 1)) (kk : V X cc own nL d (wM z h σ) (pc + 1) ls (.int (gI σ j k) :: st)) : V X cc own nL d (wM z h σ) pc ls (.int i :: .ref (h + j) :: st) :=
  V_zald (n := n) (by rw [wM_kd, hm]) (bnd_in hb) hd (by rw [hi, wM_vi]; exact kk)
theorem VM_ldL (hm : mK j = (2, n)) (hb : bnd i n = true) (hi : i.toNatClampNeg = k) (hd : decode cc pc = .ok (.laload, 1)) (kk : V X cc own nL d (wM z h σ) (pc + 1) ls (.long (gL σ j k) :: st)) : V X cc own nL d (wM z h σ) pc ls (.int i :: .ref (h + j) :: st) :=
  V_lald (n := n) (by rw [wM_kd, hm]) (bnd_in hb) hd (by rw [hi, wM_vl]; exact kk)
theorem VM_stI (hm : mK j = (1, n)) (hb : bnd i n = true) (hi : i.toNatClampNeg = k) (hs : sI σ j k x = σ1) (hd : decode cc pc = .ok (.iastore, 1)) (kk : V X cc own nL d (wM z h σ1) (pc + 1) ls st) : V X cc own nL d (wM z h σ) pc ls (.int x :: .int i :: .ref (h + j) :: st) :=
  V_iast (n := n) (by rw [wM_kd, hm]) (bnd_in hb) hd (by rw [hi, wM_sI, hs]; exact kk)
theorem VM_stZ (hm : mK j = (3, n)) (hb : bnd i n = true) (hi : i.toNatClampNeg = k) (hz : isZ x = true) (hs : sI σ j k x = σ1) (hd : decode cc pc = .ok (.bastore, 1)) (kk : V X cc own nL d (wM z h σ1) (pc + 1) ls st) : V X cc own nL d (wM z h σ) pc ls (.int x :: .int i :: .ref (h + j) :: st) :=
  V_zast (n := n) (isZ_nar hz) (by rw [wM_kd, hm]) (bnd_in hb) hd (by rw [hi, wM_sI, hs]; exact kk)
theorem VM_stL {x : Int64} (hm : mK j = (2, n)) (hb : bnd i n = true) (hi : i.toNatClampNeg = k) (hs : sL σ j k x = σ1) (hd : decode cc pc = .ok (.lastore, 1)) (kk : V X cc own nL d (wM z h σ1) (pc + 1) ls st) : V X cc own nL d (wM z h σ) pc ls (.long x :: .int i :: .ref (h + j) :: st) :=
  V_last (n := n) (by rw [wM_kd, hm]) (bnd_in hb) hd (by rw [hi, wM_sL, hs]; exact kk)
theorem VM_alen {q : Nat} (hm : mK j = (q, n)) (h0 : q ≠ 0) (h1 : q < 7) (hd : decode cc pc = .ok (.arraylength, 1)) (kk : V X cc own nL d (wM z h σ) (pc + 1) ls (.int (Int32.ofNat n) :: st)) : V X cc own nL d (wM z h σ) pc ls (.ref (h + j) :: st) :=
  V_alen (by rw [wM_kd, hm]) h0 h1 hd kk
end VM
