set_option maxRecDepth 100000
section AG
variable {ow ow' : Nat → Nat} {w w' wn : AH} {T T' : Nat → Int32} {x t : Nat} {σ σ' : SM} {L n : Nat} {E E' : Nat → Nat → Prop}
/-- a new object (in wn, at the end of w) is added to the list L -/
theorem addG (hO : Ow x ow w) (h67 : x + 67 ≤ hsz w) (hR1 : hsz w + 9000 ≤ hlc w) (hR2 : hns w + 110000 ≤ hls w) (hC : ∃ b, hst w 1003 = some b) (hl : LsT ow w L n E) (hL1 : x + 2 ≤ L ∧ L ≤ x + 12) (hLo : ow L = 0) (hn : n < 1000) (hE : ∀ i p, i < n → E i p → ow p = 1 ∧ 10 ≤ (hkd w p).1 ∧ (hkd w p).1 < 37)
    (s1 : hsz wn = hsz w + 1) (s2 : hns wn ≤ hns w + 8) (s3 : hlc wn = hlc w) (s4 : hls wn = hls w) (s5 : hst wn = hst w) (hu : ∀ b, b ≠ hsz w → hkd wn b = hkd w b ∧ (∀ i, hvi wn b i = hvi w b i) ∧ (∀ i, hvl wn b i = hvl w b i) ∧ ∀ i, hvr wn b i = hvr w b i) (hk : 10 ≤ (hkd wn (hsz w)).1 ∧ (hkd wn (hsz w)).1 < 37) :
    ∃ w' ow', mC_J2_add L (hsz w) wn = some (1, w') ∧ Ul ow L (fun _ => False) w w' ∧ OwX ow ow' ∧ Ow x ow' w' ∧ (∀ b, b < hsz w → ow b = 0 → ow' b = 0) ∧ (ow' (hsz w) = 1 ∧ hkd w' (hsz w) = hkd wn (hsz w) ∧ (∀ i, hvi w' (hsz w) i = hvi wn (hsz w) i) ∧ ∀ i, hvr w' (hsz w) i = hvr wn (hsz w) i) ∧ (∃ e' c', LsE w' L (n + 1) e' c' (fun i p => (i < n ∧ E i p) ∨ (i = n ∧ p = hsz w)) ∧ ow' e' = L) ∧ hsz w' ≤ hsz w + 2 ∧ hns w' ≤ hns w + 2008 ∧ hlc w' = hlc w ∧ hls w' = hls w := by
  obtain ⟨e, c, g, ge⟩ := hl
  obtain ⟨g1, g2, g3, g4, g5, g6, g7, g8, g9⟩ := g
  have hfr : ∀ b, ow b = 1 → b < hsz w := fun b hb => Nat.lt_of_not_le (fun g => by rw [hO.2.2 b g] at hb; omega)
  have gn : LsE wn L n e c E := ⟨by rw [(hu L (by omega)).1]; exact g1, by rw [(hu L (by omega)).2.1]; exact g2, by rw [(hu L (by omega)).2.2.2]; exact g3, by rw [(hu e (by omega)).1]; exact g4, g5, g6, g7, by omega, fun i hi => by
    obtain ⟨q, k1, k2⟩ := g9 i hi
    exact ⟨q, by rw [(hu e (by omega)).2.2.2]; exact k1, k2⟩⟩
  obtain ⟨w', e', c', A, a1, a2, a3, a4, a5, a6, a7, a8, a9, a10, a11, a12, a13, a14, a15, a16, a17⟩ := add_C (q := hsz w) gn (by omega) hn (fun i p hi hp => by
      obtain ⟨k1, k2, k3⟩ := hE i p hi hp
      have := hfr p k1
      refine ⟨?_, by omega⟩
      simp only [isO, Bool.and_eq_true, decide_eq_true_eq]
      rw [(hu p (by omega)).1]
      exact ⟨k2, k3⟩) (by simp only [isO, Bool.and_eq_true, decide_eq_true_eq]; exact hk) (by omega) (by omega) (by omega) (by rw [s5]; exact hC)
  have he : e ≠ hsz w := by omega
  have hen : e' ≠ hsz w := by rcases a7 with h | h <;> omega
  have heL : e' ≠ L := by
    intro h
    rw [h, a1] at a4
    simp at a4
  have hee : ∀ b, b < hsz w → b = e' → b = e := fun b hb h => by rcases a7 with k | k <;> omega
  refine ⟨w', up1 (up1 ow (hsz w) 1) e' L, A, ⟨fun b hb hbL hbo => ?_, ?_, by omega, by rw [a17, s5]⟩, fun b hb => ?_, ⟨fun j hj => ?_, fun j hj => ?_, fun q hq => ?_⟩, fun b hb hb0 => ?_, ⟨?_, ?_, ?_, ?_⟩, ⟨e', c', ⟨a1, a2, a3, a4, a5, by omega, a6, a12, fun i hi => ?_⟩, ?_⟩, by omega, by omega, by omega, by omega⟩
  · have hbe : b ≠ e' := fun h => by rw [hee b hb h] at hbo; exact hbo ge
    obtain ⟨k1, k2, k3, k4⟩ := a10 b hbL hbe
    obtain ⟨m1, m2, m3, m4⟩ := hu b (by omega)
    exact ⟨k1.trans m1, fun _ i => (k2 i).trans (m2 i), fun i => (k3 i).trans (m3 i), fun i => (k4 i).trans (m4 i)⟩
  · rw [a1, ← g1]
  · unfold up1
    by_cases h1 : b = e'
    · rw [if_pos h1]
      have : b < hsz w := Nat.lt_of_not_le (fun g => hb (hO.2.2 b g))
      rw [hee b this h1, ge]
    · rw [if_neg h1, if_neg]
      intro h2
      exact hb (hO.2.2 b (by omega))
  · unfold up1
    rw [if_neg, if_neg, hO.1 j hj]
    · have hlt : j < 67 := by
        by_cases g : j < 67
        · exact g
        · exfalso
          apply hj
          obtain ⟨k, rfl⟩ : ∃ k, j = k + 67 := ⟨j - 67, by omega⟩
          rfl
      omega
    · intro h
      have hlt : j < 67 := by
        by_cases g : j < 67
        · exact g
        · exfalso
          apply hj
          obtain ⟨k, rfl⟩ : ∃ k, j = k + 67 := ⟨j - 67, by omega⟩
          rfl
      have := hee (x + j) (by omega) h
      have z := hO.1 j hj
      rw [this, ge] at z
      omega
  · unfold up1
    by_cases h1 : x + j = e'
    · rw [if_pos h1]; omega
    · rw [if_neg h1, if_neg (by omega)]
      exact hO.2.1 j hj
  · unfold up1
    rw [if_neg (by omega), if_neg (by omega)]
    exact hO.2.2 q (by omega)
  · unfold up1
    rw [if_neg, if_neg (by omega)]
    · exact hb0
    · intro h
      have := hee b hb h
      rw [this, ge] at hb0
      omega
  · unfold up1
    rw [if_neg (fun h => hen h.symm), if_pos rfl]
  · exact (a10 (hsz w) (by omega) (fun h => hen h.symm)).1
  · exact (a10 (hsz w) (by omega) (fun h => hen h.symm)).2.1
  · exact (a10 (hsz w) (by omega) (fun h => hen h.symm)).2.2.2
  · by_cases h1 : i < n
    · obtain ⟨q, k1, k2⟩ := g9 i h1
      exact ⟨q, by rw [a8 i h1, (hu e he).2.2.2]; exact k1, Or.inl ⟨h1, k2⟩⟩
    · have : i = n := by omega
      subst this
      exact ⟨hsz w, a9, Or.inr ⟨rfl, rfl⟩⟩
  · unfold up1
    rw [if_pos rfl]
theorem note_ok {p : Nat} {a b c d e : Int32} (h : NoteAt ow w p a b c d e) : ow p = 1 ∧ 10 ≤ (hkd w p).1 ∧ (hkd w p).1 < 37 := ⟨h.1, by rw [h.2.1]; decide, by rw [h.2.1]; decide⟩
theorem name_ok {p n : Nat} (h : NameAt ow w T n p) : ow p = 1 ∧ 10 ≤ (hkd w p).1 ∧ (hkd w p).1 < 37 := by
  obtain ⟨k1, ⟨k, k2, k3, _⟩, _⟩ := h
  rw [k3]
  exact ⟨k1, by show 10 ≤ 19 + k; omega, by show 19 + k < 37; omega⟩
/-- the Told at x + 1 when one list grew: what is left to show -/
theorem TRep.gr {X : Nat → Prop} (hR : RelT ow x w σ) (h : Ul ow L X w w') (hL : x + 2 ≤ L ∧ L ≤ x + 12) (hLo : ow L = 0) (hX : ∀ b, X b → x + 14 ≤ b ∧ b ≤ x + 29) (ho : OwX ow ow') :
    TLay (x + 1) w' ∧ (∀ i, hvi w' (x + 1) i = hvi w (x + 1) i) ∧ (∀ j, 14 ≤ j → j ≤ 29 → ¬ X (x + j) → ∀ i, hvi w' (x + j) i = hvi w (x + j) i) ∧ (∀ j, 14 ≤ j → j ≤ 29 → ∀ i, hvl w' (x + j) i = hvl w (x + j) i) ∧ FrH ow ow' w w' ∧ (∀ j, 1 ≤ j → j ≤ 11 → (tK j).1 ≠ 0 → x + 1 + j ≠ L → LiF ow w w' (x + 1 + j)) := by
  obtain ⟨h1, h2, h3, h4, h5, _⟩ := hR
  have hz := h.fz h2 (by omega) hLo hX
  have typ : ∀ j, 14 ≤ j → j ≤ 29 → (fK j).1 ≠ 0 := fun j a b => by
    have : j = 14 ∨ j = 15 ∨ j = 16 ∨ j = 17 ∨ j = 18 ∨ j = 19 ∨ j = 20 ∨ j = 21 ∨ j = 22 ∨ j = 23 ∨ j = 24 ∨ j = 25 ∨ j = 26 ∨ j = 27 ∨ j = 28 ∨ j = 29 := by omega
    rcases this with rfl | rfl | rfl | rfl | rfl | rfl | rfl | rfl | rfl | rfl | rfl | rfl | rfl | rfl | rfl | rfl <;> decide
  have c1 := h.1 (x + 1) (by have := h1.2.2; omega) (by omega) (by rw [h2.1 1 (by decide)]; omega)
  have D : ∀ j, 14 ≤ j → j ≤ 29 → hkd w' (x + j) = hkd w (x + j) ∧ (¬ X (x + j) → ∀ i, hvi w' (x + j) i = hvi w (x + j) i) ∧ (∀ i, hvl w' (x + j) i = hvl w (x + j) i) ∧ ∀ i, hvr w' (x + j) i = hvr w (x + j) i := fun j a b =>
    h.1 (x + j) (by have := h1.2.2; omega) (by omega) (by rw [h2.1 j (typ j a b)]; omega)
  have F : ∀ j, 1 ≤ j → j ≤ 11 → (tK j).1 ≠ 0 → (fK (j + 1)).1 ≠ 0 := fun j a b c => by
    have : j = 1 ∨ j = 2 ∨ j = 3 ∨ j = 4 ∨ j = 5 ∨ j = 6 ∨ j = 7 ∨ j = 8 ∨ j = 9 ∨ j = 10 ∨ j = 11 := by omega
    rcases this with rfl | rfl | rfl | rfl | rfl | rfl | rfl | rfl | rfl | rfl | rfl <;> first | decide | exact absurd rfl c
  refine ⟨⟨fun j hj => ?_, fun k r hr => ?_, by have := h4.1.2.2; have := h.2.2.1; omega⟩, c1.2.1 (fun g => by have := hX _ g; omega), fun j a b c => (D j a b).2.1 c, fun j a b => (D j a b).2.2.1, ⟨ho, hz, h.2.2.1⟩, fun j a b c d => ?_⟩
  · by_cases g : x + 1 + j = L
    · rw [g, h.2.1, ← g]; exact h4.1.1 j hj
    · rw [← h4.1.1 j hj]
      have hlt : j < 29 := by
        by_cases g : j < 29
        · exact g
        · exfalso
          apply hj
          obtain ⟨k, rfl⟩ : ∃ k, j = k + 29 := ⟨j - 29, by omega⟩
          rfl
      by_cases j0 : j = 0
      · subst j0; exact c1.1
      · by_cases j1 : 13 ≤ j
        · have := (D (j + 1) (by omega) (by omega)).1
          rw [show x + 1 + j = x + (j + 1) by omega]
          exact this
        · by_cases j2 : j = 12
          · subst j2
            exact absurd rfl hj
          · have z := h2.1 (j + 1) (F j (by omega) (by omega) hj)
            rw [show x + 1 + j = x + (j + 1) by omega] at g ⊢
            exact (h.1 (x + (j + 1)) (by have := h1.2.2; omega) g (by rw [z]; omega)).1
  · rw [c1.2.2.2 k]; exact h4.1.2.1 k r hr
  · have z := h2.1 (j + 1) (F j a b c)
    rw [show x + 1 + j = x + (j + 1) by omega] at d ⊢
    obtain ⟨k1, k2, k3, k4⟩ := h.1 (x + (j + 1)) (by have := h1.2.2; omega) d (by rw [z]; omega)
    refine ⟨k1, k2 (fun g => by have := hX _ g; omega) 2, k4 1, fun e he => ?_⟩
    have hlt : e < hsz w := Nat.lt_of_not_le (fun g => by rw [h2.2.2 e g] at he; omega)
    have hel : e ≠ L := fun g => by rw [g, hLo] at he; omega
    obtain ⟨m1, m2, m3, m4⟩ := h.1 e hlt hel (by omega)
    exact ⟨m1, m4⟩
end AG
