set_option maxRecDepth 100000
section O9
variable {ow ow' : Nat → Nat} {w w' wn : AH} {T T' : Nat → Int32} {x t : Nat} {σ σ' : SM} {L n : Nat}
def let1 (l k : Int32) : Bool := inr ((l >>> k) &&& 255) 97 122
def oneS (h a k l : Int32) : Bool := inr h 0 99 && inr a 0 120 && inr k 0 3 && (let1 l 0 && let1 l 8 && let1 l 16 && let1 l 24)
theorem lq2_s {A B R : Type} (F : (A → B → Option R) → A → B → Option R) (n : Nat) (a : A) (b : B) : lq2 F (n + 1) a b = F (lq2 F n) a b := rfl
theorem letters_C (l : Int32) : mC_X0_areLetters l = some (b2i (let1 l 0 && let1 l 8 && let1 l 16 && let1 l 24)) := by
  have S : ∀ (k : Int32 → Int32 → Option Int32) (i s : Int32), ¬ 4 ≤ i → (8 * i) &&& 31 = s → mC_X0_areLetters_2 k l i = if let1 l s = true then k l (i + 1) else some 0 := by
    intro k i s h1 h2
    unfold mC_X0_areLetters_2 let1
    rw [if_neg h1, h2, in_C, bd1_s]
    simp only [b2i_0]
    cases inr ((l >>> s) &&& 255) 97 122 <;> rfl
  have e : ∀ k, mC_X0_areLetters_2 k l (0 + 1 + 1 + 1 + 1) = some 1 := fun k => by
    unfold mC_X0_areLetters_2
    rw [if_pos (by decide)]
  unfold mC_X0_areLetters
  rw [LF5, lq2_s, S _ 0 0 (by decide) (by decide), lq2_s, S _ (0 + 1) 8 (by decide) (by decide), lq2_s, S _ (0 + 1 + 1) 16 (by decide) (by decide), lq2_s, S _ (0 + 1 + 1 + 1) 24 (by decide) (by decide), lq2_s, e]
  cases let1 l 0 <;> cases let1 l 8 <;> cases let1 l 16 <;> cases let1 l 24 <;> rfl
theorem one_C (h a k l : Int32) : mC_X0_isOne h a k l = some (b2i (oneS h a k l)) := by
  unfold mC_X0_isOne oneS
  simp only [in_C, bd1_s, letters_C, b2i_0]
  cases inr h 0 99 <;> cases inr a 0 120 <;> cases inr k 0 3 <;> cases (let1 l 0 && let1 l 8 && let1 l 16 && let1 l 24) <;> rfl
theorem letters_M (l : Int32) : mM_areLetters l = some (b2i (let1 l 0 && let1 l 8 && let1 l 16 && let1 l 24)) := by
  have S : ∀ (k : Int32 → Int32 → Int32 → Option Int32) (b : Bool) (i s : Int32), ¬ i < 0 → i &&& 31 = s → mM_areLetters_5 k l (b2i b) i = k l (b2i (b && let1 l s)) (i + -8) := by
    intro k b i s h1 h2
    unfold mM_areLetters_5 mM_areLetters_37 mM_areLetters_38 let1
    rw [if_neg h1, h2, in_M _ 97 122 97 122 rfl rfl, bd1_s]
    simp only [b2i_0]
    cases b <;> cases inr ((l >>> s) &&& 255) 97 122 <;> rfl
  unfold mM_areLetters
  rw [show (1 : Int32) = b2i true from rfl, LF5, lq3_s, S _ _ 24 24 (by decide) (by decide), lq3_s, S _ _ (24 + -8) 16 (by decide) (by decide), lq3_s, S _ _ (24 + -8 + -8) 8 (by decide) (by decide), lq3_s, S _ _ (24 + -8 + -8 + -8) 0 (by decide) (by decide), lq3_s]
  unfold mM_areLetters_5
  rw [if_pos (by decide), isZ_b, ck_tt]
  cases let1 l 0 <;> cases let1 l 8 <;> cases let1 l 16 <;> cases let1 l 24 <;> rfl
theorem one_M (h a k l : Int32) : mM_isPerson h a k l = some (b2i (oneS h a k l)) := by
  unfold mM_isPerson oneS
  simp only [in_M h 0 99 0 99 rfl rfl, in_M a 0 120 0 120 rfl rfl, in_M k 0 3 0 3 rfl rfl, bd1_s, letters_M, b2i_0]
  cases inr h 0 99 <;> cases inr a 0 120 <;> cases inr k 0 3 <;> cases (let1 l 0 && let1 l 8 && let1 l 16 && let1 l 24) <;> rfl
/-- a new Name of kind k at the end of the heap -/
def nName (w : AH) (k : Nat) (a b c d e : Int32) : AH := siI (siI (siI (siI (siI (hnew w (19 + k) 5) (hsz w) 0 a) (hsz w) 1 b) (hsz w) 2 c) (hsz w) 3 d) (hsz w) 4 e
theorem nm8_C {k : Nat} (hk : k < 4) (a b c d e : Int32) : mC_X8_init (hsz w) a b c d e (hnew w (19 + k) 5) = some (nName w k a b c d e) := by
  have hk : kIn (hkd (hnew w (19 + k) 5) (hsz w)).1 [9, 10, 11, 12] = true := by
    rw [kd_N, if_pos rfl]
    have : k = 0 ∨ k = 1 ∨ k = 2 ∨ k = 3 := by omega
    rcases this with rfl | rfl | rfl | rfl <;> rfl
  unfold mC_X8_init nName
  rw [ck_t hk, st1_e, ck_t (by exact hk), st1_e, ck_t (by exact hk), st1_e, ck_t (by exact hk), st1_e, ck_t (by exact hk), st1_e]
theorem nName_o {k : Nat} {a b c d e : Int32} {q : Nat} (hq : q ≠ hsz w) : hkd (nName w k a b c d e) q = hkd w q ∧ (∀ i, hvi (nName w k a b c d e) q i = hvi w q i) ∧ (∀ i, hvl (nName w k a b c d e) q i = hvl w q i) ∧ ∀ i, hvr (nName w k a b c d e) q i = hvr w q i := by
  unfold nName
  refine ⟨?_, fun i => ?_, fun i => ?_, fun i => ?_⟩
  · simp only [kd_I]; rw [kd_N, if_neg hq]
  · rw [vi_I, if_neg (by omega), vi_I, if_neg (by omega), vi_I, if_neg (by omega), vi_I, if_neg (by omega), vi_I, if_neg (by omega), vi_N, if_neg hq]
  · simp only [vl_I]; rw [vl_N, if_neg hq]
  · simp only [vr_I]; rw [vr_N, if_neg hq]
theorem addName_M {n : Nat} (hn : n < 200) (e0 : gI σ 1 1 = Int32.ofNat n) (p h a k l c : Int32) : mM_addName p h a k l c σ = some (sI (sI (sI (sI (sI (sI (sI (sI (sI (sI (sI (sI (sI σ 1 (68 + 11 * n) p) 1 (69 + 11 * n) h) 1 (70 + 11 * n) a) 1 (71 + 11 * n) k) 1 (72 + 11 * n) l) 1 (73 + 11 * n) c) 1 (74 + 11 * n) (-1)) 1 (75 + 11 * n) (-1)) 1 (75 + 11 * n) (-1)) 1 (76 + 11 * n) (-1)) 1 (77 + 11 * n) (-1)) 1 (78 + 11 * n) (-1)) 1 1 (Int32.ofNat (n + 1))) := by
  unfold mM_addName
  rw [e0, nameAt_M, bd1_s, addFour_M _ (by omega), bd1_s, i_a 4 4 rfl, addFour_M _ (by omega), bd1_s, i_a 7 7 rfl, addFour_M _ (by omega), bd1_s, st1_e]
  rw [show 68 + 11 * n + 1 = 69 + 11 * n by omega, show 68 + 11 * n + 2 = 70 + 11 * n by omega, show 68 + 11 * n + 3 = 71 + 11 * n by omega, show 68 + 11 * n + 4 = 72 + 11 * n by omega, show 68 + 11 * n + 7 = 75 + 11 * n by omega, show 72 + 11 * n + 1 = 73 + 11 * n by omega, show 72 + 11 * n + 2 = 74 + 11 * n by omega, show 72 + 11 * n + 3 = 75 + 11 * n by omega, show 75 + 11 * n + 1 = 76 + 11 * n by omega, show 75 + 11 * n + 2 = 77 + 11 * n by omega, show 75 + 11 * n + 3 = 78 + 11 * n by omega]
  simp (disch := omega) only [rowS_ne, e0, i_a 1 1 rfl]
end O9
