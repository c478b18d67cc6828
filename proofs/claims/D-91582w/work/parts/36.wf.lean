set_option maxRecDepth 100000
/-! ===== the row's groups may be, each by itself ===== -/
def W1 (T : Nat → Int32) : Prop := ∀ p, p < cn T 0 → rg (T (20 + 3 * p)) 0 5 ∧ rg (T (21 + 3 * p)) 0 99 ∧ rg (T (22 + 3 * p)) 0 99
def W2 (T : Nat → Int32) : Prop := ∀ n, n < cn T 1 → (0 ≤ T (68 + 11 * n) ∧ T (68 + 11 * n) < T 0) ∧ rg (T (69 + 11 * n)) 0 99 ∧ rg (T (70 + 11 * n)) 0 120 ∧ rg (T (71 + 11 * n)) 0 3 ∧ rg (T (73 + 11 * n)) 0 399 ∧ rg (T (74 + 11 * n)) (-1) 399 ∧ (T (76 + 11 * n) = -1 ∨ (0 ≤ T (76 + 11 * n) ∧ T (76 + 11 * n) < T 0))
def W3 (T : Nat → Int32) : Prop := ∀ b, b < cn T 3 → 0 ≤ T (2348 + b) ∧ T (2348 + b) < T 0
def W4 (T : Nat → Int32) : Prop := ∀ b, b < cn T 4 → (0 ≤ T (2448 + 2 * b) ∧ T (2448 + 2 * b) < T 3)
def W5 (T : Nat → Int32) : Prop := ∀ k, k < cn T 5 → (0 ≤ T (2528 + 5 * k) ∧ T (2528 + 5 * k) < T 4) ∧ rg (T (2529 + 5 * k)) 0 19 ∧ rg (T (2530 + 5 * k)) 0 399 ∧ rg (T (2532 + 5 * k)) 0 399
def W6 (T : Nat → Int32) : Prop := ∀ k, k < cn T 7 → (0 ≤ T (3528 + 4 * k) ∧ T (3528 + 4 * k) < T 3) ∧ rg (T (3529 + 4 * k)) 0 3 ∧ rg (T (3530 + 4 * k)) 0 100000 ∧ rg (T (3531 + 4 * k)) 0 399
def W7 (T : Nat → Int32) : Prop := ∀ c, c < cn T 6 → (0 ≤ T (4008 + 5 * c) ∧ T (4008 + 5 * c) < T 4) ∧ rg (T (4009 + 5 * c)) 0 7 ∧ rg (T (4010 + 5 * c)) 0 9 ∧ rg (T (4011 + 5 * c)) 0 16383 ∧ rg (T (4012 + 5 * c)) 0 399
def W8 (T : Nat → Int32) : Prop := ∀ k, k < 48 → T (5008 + k) = 0 ∨ T (5008 + k) = 1
def W9 (T : Nat → Int32) : Prop := ∀ t, t < cn T 2 → WFo T t
section WFS
variable {T T' : Nat → Int32}
theorem W1.fr (h : W1 T) (hn : cn T 0 ≤ 16) (c : T' 0 = T 0) (e : EqT 20 68 T T') : W1 T' := by
  intro p hp
  rw [cn_eq c] at hp
  rw [e _ (by omega) (by omega), e _ (by omega) (by omega), e _ (by omega) (by omega)]
  exact h p hp
theorem W2.fr (h : W2 T) (hn : cn T 1 ≤ 200) (c : T' 1 = T 1) (c0 : T 0 ≤ T' 0) (e : EqT 68 2268 T T') : W2 T' := by
  intro n hp
  rw [cn_eq c] at hp
  rw [e (68 + 11 * n) (by omega) (by omega), e (69 + 11 * n) (by omega) (by omega), e (70 + 11 * n) (by omega) (by omega), e (71 + 11 * n) (by omega) (by omega), e (73 + 11 * n) (by omega) (by omega), e (74 + 11 * n) (by omega) (by omega), e (76 + 11 * n) (by omega) (by omega)]
  obtain ⟨⟨h1, h2⟩, h3, h4, h5, h6, h7, h8⟩ := h n hp
  exact ⟨⟨h1, by grind⟩, h3, h4, h5, h6, h7, h8.imp id (fun g => ⟨g.1, by have := g.2; grind⟩)⟩
theorem W3.fr (h : W3 T) (hn : cn T 3 ≤ 20) (c : T' 3 = T 3) (c0 : T 0 ≤ T' 0) (e : EqT 2348 2368 T T') : W3 T' := by
  intro n hp
  rw [cn_eq c] at hp
  rw [e _ (by omega) (by omega)]
  have := h n hp
  exact ⟨this.1, by have := this.2; grind⟩
theorem W4.fr (h : W4 T) (hn : cn T 4 ≤ 40) (c : T' 4 = T 4) (c0 : T 3 ≤ T' 3) (e : EqT 2448 2528 T T') : W4 T' := by
  intro n hp
  rw [cn_eq c] at hp
  rw [e _ (by omega) (by omega)]
  have := h n hp
  exact ⟨this.1, by have := this.2; grind⟩
theorem W5.fr (h : W5 T) (hn : cn T 5 ≤ 200) (c : T' 5 = T 5) (c0 : T 4 ≤ T' 4) (e : EqT 2528 3528 T T') : W5 T' := by
  intro n hp
  rw [cn_eq c] at hp
  rw [e (2528 + 5 * n) (by omega) (by omega), e (2529 + 5 * n) (by omega) (by omega), e (2530 + 5 * n) (by omega) (by omega), e (2532 + 5 * n) (by omega) (by omega)]
  obtain ⟨⟨h1, h2⟩, h3⟩ := h n hp
  exact ⟨⟨h1, by grind⟩, h3⟩
theorem W6.fr (h : W6 T) (hn : cn T 7 ≤ 120) (c : T' 7 = T 7) (c0 : T 3 ≤ T' 3) (e : EqT 3528 4008 T T') : W6 T' := by
  intro n hp
  rw [cn_eq c] at hp
  rw [e (3528 + 4 * n) (by omega) (by omega), e (3529 + 4 * n) (by omega) (by omega), e (3530 + 4 * n) (by omega) (by omega), e (3531 + 4 * n) (by omega) (by omega)]
  obtain ⟨⟨h1, h2⟩, h3⟩ := h n hp
  exact ⟨⟨h1, by grind⟩, h3⟩
theorem W7.fr (h : W7 T) (hn : cn T 6 ≤ 200) (c : T' 6 = T 6) (c0 : T 4 ≤ T' 4) (e : EqT 4008 5008 T T') : W7 T' := by
  intro n hp
  rw [cn_eq c] at hp
  rw [e (4008 + 5 * n) (by omega) (by omega), e (4009 + 5 * n) (by omega) (by omega), e (4010 + 5 * n) (by omega) (by omega), e (4011 + 5 * n) (by omega) (by omega), e (4012 + 5 * n) (by omega) (by omega)]
  obtain ⟨⟨h1, h2⟩, h3⟩ := h n hp
  exact ⟨⟨h1, by grind⟩, h3⟩
theorem W8.fr (h : W8 T) (e : EqT 5008 5056 T T') : W8 T' := by
  intro k hk
  rw [e _ (by omega) (by omega)]
  exact h k hk
theorem W9.fr (h : W9 T) (hn : cn T 2 ≤ 20) (c : T' 2 = T 2) (e : EqT 5056 23016 T T') : W9 T' := by
  intro t ht
  rw [cn_eq c] at ht
  obtain ⟨h1, h2, h3⟩ := h t ht
  have hc := (h t ht).nc
  have e1 : T' (5056 + 898 * t) = T (5056 + 898 * t) := e _ (by omega) (by omega)
  have e2 : T' (5057 + 898 * t) = T (5057 + 898 * t) := e _ (by omega) (by omega)
  refine ⟨by rw [e1]; exact h1, by rw [e2]; exact h2, fun c hcc => ?_⟩
  rw [cn_eq e2] at hcc
  rw [clW_congr e (by omega) (by omega) (show 0 < 8 by decide), clW_congr e (by omega) (by omega) (show 1 < 8 by decide), clW_congr e (by omega) (by omega) (show 2 < 8 by decide), clW_congr e (by omega) (by omega) (show 3 < 8 by decide), clW_congr e (by omega) (by omega) (show 4 < 8 by decide), clW_congr e (by omega) (by omega) (show 5 < 8 by decide), clW_congr e (by omega) (by omega) (show 6 < 8 by decide)]
  exact h3 c hcc
end WFS
