set_option maxRecDepth 100000
/-! ===== what stays when something is written ===== -/
def Fz (ow : Nat → Nat) (w w' : AH) : Prop := ∀ a, ow a = 1 → hkd w' a = hkd w a ∧ (∀ i, hvi w' a i = hvi w a i) ∧ ∀ i, hvr w' a i = hvr w a i
def OwX (ow ow' : Nat → Nat) : Prop := ∀ a, ow a ≠ 0 → ow' a = ow a
def EqT (lo hi : Nat) (T T' : Nat → Int32) : Prop := ∀ i, lo ≤ i → i < hi → T' i = T i
section FR
variable {ow ow' : Nat → Nat} {w w' : AH} {T T' : Nat → Int32} {x t a n q : Nat} {E E' : Nat → Nat → Prop}
theorem OwX.refl (ow : Nat → Nat) : OwX ow ow := fun _ _ => rfl
theorem OwX.one (ho : OwX ow ow') (h : ow a = 1) : ow' a = 1 := (ho a (by omega)).trans h
theorem Fz.refl (ow : Nat → Nat) (w : AH) : Fz ow w w := fun _ _ => ⟨rfl, fun _ => rfl, fun _ => rfl⟩
theorem LsE.fr {e c : Nat} (h : LsE w a n e c E) (h1 : hkd w' a = hkd w a) (h2 : hvi w' a 2 = hvi w a 2) (h3 : hvr w' a 1 = hvr w a 1) (h4 : hkd w' e = hkd w e) (h5 : ∀ i, hvr w' e i = hvr w e i) (hs : hsz w ≤ hsz w') (hE : ∀ i q, i < n → E i q → E' i q) : LsE w' a n e c E' := by
  obtain ⟨g1, g2, g3, g4, g5, g6, g7, g8, g9⟩ := h
  refine ⟨h1.trans g1, h2.trans g2, h3.trans g3, h4.trans g4, g5, g6, g7, by omega, fun i hi => ?_⟩
  obtain ⟨q, k1, k2⟩ := g9 i hi
  exact ⟨q, (h5 i).trans k1, hE i q hi k2⟩
theorem LsF.fz (h : LsF ow w a n E) (ho : OwX ow ow') (hz : Fz ow w w') (hs : hsz w ≤ hsz w') (hE : ∀ i q, i < n → E i q → E' i q) : LsF ow' w' a n E' := by
  obtain ⟨h1, e, c, h2, h3⟩ := h
  obtain ⟨z1, z2, z3⟩ := hz a h1
  obtain ⟨y1, y2, y3⟩ := hz e h3
  exact ⟨ho.one h1, e, c, h2.fr z1 (z2 2) (z3 1) y1 y3 hs hE, ho.one h3⟩
theorem SumO.fz (ho : OwX ow ow') (hz : Fz ow w w') : ∀ (n q : Nat) (f : DS), SumO ow w n q f → SumO ow' w' n q f
  | 0, _, _, h => h
  | n + 1, q, f, h => by
    unfold SumO at h ⊢
    obtain ⟨hq, h⟩ := h
    obtain ⟨z1, z2, z3⟩ := hz q hq
    refine ⟨ho.one hq, ?_⟩
    simp only [z1, z2, z3]
    rcases h with h | h | ⟨h1, l, r, g, k, h2, h3, h4, h5, h6⟩
    · exact Or.inl h
    · exact Or.inr (Or.inl h)
    · exact Or.inr (Or.inr ⟨h1, l, r, g, k, h2, h3, SumO.fz ho hz n l g h4, SumO.fz ho hz n r k h5, h6⟩)
theorem TestO.fz (ho : OwX ow ow') (hz : Fz ow w w') (hs : hsz w ≤ hsz w') : ∀ (n q : Nat) (f : DT), TestO ow w n q f → TestO ow' w' n q f
  | 0, _, _, h => h
  | n + 1, q, f, h => by
    unfold TestO at h ⊢
    obtain ⟨hq, h⟩ := h
    obtain ⟨z1, z2, z3⟩ := hz q hq
    refine ⟨ho.one hq, ?_⟩
    simp only [z1, z2, z3]
    rcases h with h | ⟨h1, l, r, g, k, h2, h3, h4, h5, h6⟩ | ⟨h1, l, g, h2, h3, h4⟩ | ⟨h1, al, l, fs, h2, h3, h4, h5⟩
    · exact Or.inl h
    · exact Or.inr (Or.inl ⟨h1, l, r, g, k, h2, h3, SumO.fz ho hz n l g h4, SumO.fz ho hz n r k h5, h6⟩)
    · exact Or.inr (Or.inr (Or.inl ⟨h1, l, g, h2, TestO.fz ho hz hs n l g h3, h4⟩))
    · refine Or.inr (Or.inr (Or.inr ⟨h1, al, l, fs, h2, h3, h4.fz ho hz hs (fun i p _ hp => ?_), h5⟩))
      obtain ⟨g, k1, k2⟩ := hp
      exact ⟨g, k1, TestO.fz ho hz hs n p g k2⟩
theorem runD_congr {s : Nat → Int64} {e : Nat} (hT : EqT 5056 23016 T T') (ht : t < 20) (he : e ≤ 400) : ∀ (n k : Nat) (st : List Int64), runD T' t s e n k st = runD T t s e n k st
  | 0, _, _ => rfl
  | n + 1, k, st => by
    unfold runD
    by_cases hk : e ≤ k
    · rw [if_pos hk, if_pos hk]
    · rw [if_neg hk, if_neg hk]
      have e1 : opC T' t k = opC T t k := hT _ (by omega) (by omega)
      have e2 : arC2 T' t k = arC2 T t k := hT _ (by omega) (by omega)
      rw [e1, e2]
      simp only [runD_congr hT ht he n]
theorem clW_congr (hT : EqT 5056 23016 T T') (ht : t < 20) {c i : Nat} (hc : c < 12) (hi : i < 8) : clW T' t c i = clW T t c i := hT _ (by omega) (by omega)
theorem soD_congr {s : Nat → Int64} {c : Nat} (hT : EqT 5056 23016 T T') (ht : t < 20) (hc : c < 12) (h4 : (clW T t c 4).toNatClampNeg ≤ 400) (h6 : (clW T t c 6).toNatClampNeg ≤ 400) : soD T' t c s = soD T t c s := by
  unfold soD valD
  simp only [clW_congr hT ht hc (show 3 < 8 by decide), clW_congr hT ht hc (show 4 < 8 by decide), clW_congr hT ht hc (show 5 < 8 by decide), clW_congr hT ht hc (show 6 < 8 by decide), runD_congr hT ht h4, runD_congr hT ht h6]
theorem rg_nat {v : Int32} {m : Nat} (h : rg v 0 (Int32.ofNat m)) (hm : m < 2147483648) : v.toNatClampNeg ≤ m ∧ v = Int32.ofNat v.toNatClampNeg := by
  have e := i_of h.1
  refine ⟨?_, e.symm⟩
  have h2 := h.2
  rw [← e, i_le v.toNatClampNeg_lt hm] at h2
  exact h2
def WFo (T : Nat → Int32) (t : Nat) : Prop := rg (T (5056 + 898 * t)) 0 399 ∧ rg (T (5057 + 898 * t)) 1 12 ∧ ∀ c, c < cn T (5057 + 898 * t) → rg (clW T t c 0) 0 7 ∧ rg (clW T t c 1) 0 19 ∧ rg (clW T t c 2) 0 11 ∧ rg (clW T t c 3) 0 400 ∧ rg (clW T t c 4) 0 400 ∧ rg (clW T t c 5) 0 400 ∧ rg (clW T t c 6) 0 400
theorem WFo.nc (h : WFo T t) : cn T (5057 + 898 * t) ≤ 12 := (rg_nat (m := 12) ⟨Int32.le_trans (by decide) h.2.1.1, h.2.1.2⟩ (by decide)).1
theorem ClauseAt.fr {c : Nat} (h : ClauseAt ow w T t c q) (ho : OwX ow ow') (hz : Fz ow w w') (hs : hsz w ≤ hsz w') (hT : EqT 5056 23016 T T') (ht : t < 20) (hc : c < 12) (h4 : (clW T t c 4).toNatClampNeg ≤ 400) (h6 : (clW T t c 6).toNatClampNeg ≤ 400) : ClauseAt ow' w' T' t c q := by
  obtain ⟨k1, k2, k3, k4, k5, g, h, k6, k7, k8⟩ := h
  obtain ⟨z1, z2, z3⟩ := hz q k1
  refine ⟨ho.one k1, z1.trans k2, ?_, ?_, ?_, g, h, ?_, ?_, fun s hs => ?_⟩
  · rw [z2, clW_congr hT ht hc (by decide)]; exact k3
  · rw [z2, clW_congr hT ht hc (by decide)]; exact k4
  · rw [z2, clW_congr hT ht hc (by decide)]; exact k5
  · rw [z3]
    rcases k6 with k6 | ⟨p, k6, k9⟩
    · exact Or.inl k6
    · exact Or.inr ⟨p, k6, k9.fz ho hz _ _ _⟩
  · rw [z3]
    rcases k7 with k7 | ⟨p, k7, k9⟩
    · exact Or.inl k7
    · exact Or.inr ⟨p, k7, k9.fz ho hz hs _ _ _⟩
  · rw [soD_congr hT ht hc h4 h6]
    exact k8 s hs
theorem OrderAt.fr (h : OrderAt ow w T t q) (hW : WFo T t) (ho : OwX ow ow') (hz : Fz ow w w') (hs : hsz w ≤ hsz w') (hT : EqT 5056 23016 T T') (ht : t < 20) : OrderAt ow' w' T' t q := by
  obtain ⟨k1, k2, k3, k4, l, k5, k6⟩ := h
  obtain ⟨z1, z2, z3⟩ := hz q k1
  have e1 : T' (5056 + 898 * t) = T (5056 + 898 * t) := hT _ (by omega) (by omega)
  have e2 : T' (5057 + 898 * t) = T (5057 + 898 * t) := hT _ (by omega) (by omega)
  refine ⟨ho.one k1, z1.trans k2, by rw [z2]; exact k3, by rw [z2, e1]; exact k4, l, by rw [z3]; exact k5, ?_⟩
  have e3 : cn T' (5057 + 898 * t) = cn T (5057 + 898 * t) := by unfold cn; rw [e2]
  rw [e3]
  refine k6.fz ho hz hs (fun c p hc hp => ?_)
  have hn := hW.nc
  obtain ⟨_, _, _, _, g4, _, g6⟩ := hW.2.2 c hc
  exact hp.fr ho hz hs hT ht (by omega) (rg_nat (m := 400) g4 (by decide)).1 (rg_nat (m := 400) g6 (by decide)).1
/-- of a name what was told first -/
def EqN (T T' : Nat → Int32) : Prop := ∀ n, n < 200 → T' (68 + 11 * n) = T (68 + 11 * n) ∧ T' (69 + 11 * n) = T (69 + 11 * n) ∧ T' (70 + 11 * n) = T (70 + 11 * n) ∧ T' (71 + 11 * n) = T (71 + 11 * n) ∧ T' (72 + 11 * n) = T (72 + 11 * n) ∧ T' (73 + 11 * n) = T (73 + 11 * n)
theorem EqT.nm (h : EqT 68 2268 T T') : EqN T T' := fun c hc => ⟨h _ (by omega) (by omega), h _ (by omega) (by omega), h _ (by omega) (by omega), h _ (by omega) (by omega), h _ (by omega) (by omega), h _ (by omega) (by omega)⟩
theorem NameAt.fr (h : NameAt ow w T n q) (ho : OwX ow ow') (hz : Fz ow w w') (hT : EqN T T') (hn : n < 200) : NameAt ow' w' T' n q := by
  obtain ⟨k1, ⟨k, k2, k3, k4⟩, k5, k6, k7, k8, k9⟩ := h
  obtain ⟨z1, z2, z3⟩ := hz q k1
  obtain ⟨e1, e2, e3, e4, e5, e6⟩ := hT n hn
  refine ⟨ho.one k1, ⟨k, k2, z1.trans k3, e4.trans k4⟩, ?_, ?_, ?_, ?_, ?_⟩
  · rw [z2, e1]; exact k5
  · rw [z2, e2]; exact k6
  · rw [z2, e3]; exact k7
  · rw [z2, e5]; exact k8
  · rw [z2, e6]; exact k9
theorem NoteAt.fr {a b c d e : Int32} (h : NoteAt ow w q a b c d e) (ho : OwX ow ow') (hz : Fz ow w w') : NoteAt ow' w' q a b c d e := by
  obtain ⟨k1, k2, k3, k4, k5, k6, k7⟩ := h
  obtain ⟨z1, z2, z3⟩ := hz q k1
  exact ⟨ho.one k1, z1.trans k2, (z2 0).trans k3, (z2 1).trans k4, (z2 2).trans k5, (z2 3).trans k6, (z2 4).trans k7⟩
theorem BarAt.fr (h : BarAt ow w T n q) (ho : OwX ow ow') (hz : Fz ow w w') (hT : EqT 2268 2348 T T') (hn : n < 40) : BarAt ow' w' T' n q := by
  obtain ⟨a, b, c, d, e, k1, k2⟩ := h
  refine ⟨a, b, c, d, e, k1.fr ho hz, ?_⟩
  rw [hT _ (by omega) (by omega), hT _ (by omega) (by omega)]
  exact k2
theorem HandAt.fr (h : HandAt ow w T n q) (ho : OwX ow ow') (hz : Fz ow w w') (hT : EqT 2528 3528 T T') (hn : n < 200) : HandAt ow' w' T' n q := by
  unfold HandAt at h ⊢
  rw [hT (2528 + 5 * n) (by omega) (by omega), hT (2529 + 5 * n) (by omega) (by omega), hT (2530 + 5 * n) (by omega) (by omega), hT (2531 + 5 * n) (by omega) (by omega), hT (2532 + 5 * n) (by omega) (by omega)]
  exact h.fr ho hz
theorem PaperAt.fr (h : PaperAt ow w T n q) (ho : OwX ow ow') (hz : Fz ow w w') (hT : EqT 3528 4008 T T') (hn : n < 120) : PaperAt ow' w' T' n q := by
  unfold PaperAt at h ⊢
  rw [hT (3528 + 4 * n) (by omega) (by omega), hT (3529 + 4 * n) (by omega) (by omega), hT (3530 + 4 * n) (by omega) (by omega), hT (3531 + 4 * n) (by omega) (by omega)]
  exact h.fr ho hz
/-- of a telling all but its number -/
def EqC (T T' : Nat → Int32) : Prop := ∀ c, c < 200 → T' (4008 + 5 * c) = T (4008 + 5 * c) ∧ T' (4009 + 5 * c) = T (4009 + 5 * c) ∧ T' (4010 + 5 * c) = T (4010 + 5 * c) ∧ T' (4012 + 5 * c) = T (4012 + 5 * c)
theorem EqT.c (h : EqT 4008 5008 T T') : EqC T T' := fun c hc => ⟨h _ (by omega) (by omega), h _ (by omega) (by omega), h _ (by omega) (by omega), h _ (by omega) (by omega)⟩
theorem CountAt.fr (h : CountAt ow w T n q) (ho : OwX ow ow') (hz : Fz ow w w') (hT : EqC T T') (hn : n < 200) : CountAt ow' w' T' n q := by
  unfold CountAt at h ⊢
  obtain ⟨e1, e2, e3, e4⟩ := hT n hn
  rw [e1, e2, e3, e4]
  exact h.fr ho hz
/-- the list at a, and its array, stay -/
def LiF (ow : Nat → Nat) (w w' : AH) (a : Nat) : Prop := hkd w' a = hkd w a ∧ hvi w' a 2 = hvi w a 2 ∧ hvr w' a 1 = hvr w a 1 ∧ ∀ e, ow e = a → hkd w' e = hkd w e ∧ ∀ i, hvr w' e i = hvr w e i
theorem LsT.fr {n' : Nat} (h : LsT ow w a n E) (hn : n' = n) (ha : a ≠ 0) (f : LiF ow w w' a) (ho : OwX ow ow') (hs : hsz w ≤ hsz w') (hE : ∀ i q, i < n → E i q → E' i q) : LsT ow' w' a n' E' := by
  subst hn
  obtain ⟨e, c, h1, h2⟩ := h
  obtain ⟨f1, f2, f3, f4⟩ := f
  obtain ⟨f5, f6⟩ := f4 e h2
  exact ⟨e, c, h1.fr f1 f2 f3 f5 f6 hs hE, (ho e (by omega)).trans h2⟩
theorem cn_eq {k : Nat} (h : T' k = T k) : cn T' k = cn T k := by unfold cn; rw [h]
theorem WF.o (h : WF T) (ht : t < cn T 2) : WFo T t := h.2.2.2.2.2.2.2.2.2 t ht
theorem WF.c1 (h : WF T) : cn T 0 ≤ 16 ∧ cn T 1 ≤ 200 ∧ cn T 2 ≤ 20 ∧ cn T 3 ≤ 20 ∧ cn T 4 ≤ 40 ∧ cn T 5 ≤ 200 ∧ cn T 6 ≤ 200 ∧ cn T 7 ≤ 120 ∧ cn T 8 ≤ 40 := by
  obtain ⟨⟨h0, h1, h2, h3, h4, h5, h6, h7, h8, _⟩, _⟩ := h
  exact ⟨(rg_nat (m := 16) h0 (by decide)).1, (rg_nat (m := 200) h1 (by decide)).1, (rg_nat (m := 20) h2 (by decide)).1, (rg_nat (m := 20) h3 (by decide)).1, (rg_nat (m := 40) h4 (by decide)).1, (rg_nat (m := 200) h5 (by decide)).1, (rg_nat (m := 200) h6 (by decide)).1, (rg_nat (m := 120) h7 (by decide)).1, (rg_nat (m := 40) h8 (by decide)).1⟩
theorem WF.c2 (h : WF T) : T 0 = Int32.ofNat (cn T 0) ∧ T 1 = Int32.ofNat (cn T 1) ∧ T 2 = Int32.ofNat (cn T 2) ∧ T 3 = Int32.ofNat (cn T 3) ∧ T 4 = Int32.ofNat (cn T 4) ∧ T 5 = Int32.ofNat (cn T 5) ∧ T 6 = Int32.ofNat (cn T 6) ∧ T 7 = Int32.ofNat (cn T 7) ∧ T 8 = Int32.ofNat (cn T 8) := by
  obtain ⟨⟨h0, h1, h2, h3, h4, h5, h6, h7, h8, _⟩, _⟩ := h
  exact ⟨(rg_nat (m := 16) h0 (by decide)).2, (rg_nat (m := 200) h1 (by decide)).2, (rg_nat (m := 20) h2 (by decide)).2, (rg_nat (m := 20) h3 (by decide)).2, (rg_nat (m := 40) h4 (by decide)).2, (rg_nat (m := 200) h5 (by decide)).2, (rg_nat (m := 200) h6 (by decide)).2, (rg_nat (m := 120) h7 (by decide)).2, (rg_nat (m := 40) h8 (by decide)).2⟩
/-- frozen cells stay, nothing shrinks -/
def FrH (ow ow' : Nat → Nat) (w w' : AH) : Prop := OwX ow ow' ∧ Fz ow w w' ∧ hsz w ≤ hsz w'
theorem ls_ord (h : LsT ow w a (cn T 2) (OrderAt ow w T)) (hW : WF T) (ha : a ≠ 0) (f : LiF ow w w' a) (hf : FrH ow ow' w w') (hc : T' 2 = T 2) (hT : EqT 5056 23016 T T') : LsT ow' w' a (cn T' 2) (OrderAt ow' w' T') :=
  h.fr (cn_eq hc) ha f hf.1 hf.2.2 (fun _ _ hi hq => hq.fr (hW.o hi) hf.1 hf.2.1 hf.2.2 hT (by have := hW.c1; omega))
theorem ls_nam (h : LsT ow w a (cn T 1) (NameAt ow w T)) (hW : WF T) (ha : a ≠ 0) (f : LiF ow w w' a) (hf : FrH ow ow' w w') (hc : T' 1 = T 1) (hT : EqN T T') : LsT ow' w' a (cn T' 1) (NameAt ow' w' T') :=
  h.fr (cn_eq hc) ha f hf.1 hf.2.2 (fun _ _ hi hq => hq.fr hf.1 hf.2.1 hT (by have := hW.c1; omega))
theorem ls_bar (h : LsT ow w a (cn T 8) (BarAt ow w T)) (hW : WF T) (ha : a ≠ 0) (f : LiF ow w w' a) (hf : FrH ow ow' w w') (hc : T' 8 = T 8) (hT : EqT 2268 2348 T T') : LsT ow' w' a (cn T' 8) (BarAt ow' w' T') :=
  h.fr (cn_eq hc) ha f hf.1 hf.2.2 (fun _ _ hi hq => hq.fr hf.1 hf.2.1 hT (by have := hW.c1; omega))
theorem ls_han (h : LsT ow w a (cn T 5) (HandAt ow w T)) (hW : WF T) (ha : a ≠ 0) (f : LiF ow w w' a) (hf : FrH ow ow' w w') (hc : T' 5 = T 5) (hT : EqT 2528 3528 T T') : LsT ow' w' a (cn T' 5) (HandAt ow' w' T') :=
  h.fr (cn_eq hc) ha f hf.1 hf.2.2 (fun _ _ hi hq => hq.fr hf.1 hf.2.1 hT (by have := hW.c1; omega))
theorem ls_pap (h : LsT ow w a (cn T 7) (PaperAt ow w T)) (hW : WF T) (ha : a ≠ 0) (f : LiF ow w w' a) (hf : FrH ow ow' w w') (hc : T' 7 = T 7) (hT : EqT 3528 4008 T T') : LsT ow' w' a (cn T' 7) (PaperAt ow' w' T') :=
  h.fr (cn_eq hc) ha f hf.1 hf.2.2 (fun _ _ hi hq => hq.fr hf.1 hf.2.1 hT (by have := hW.c1; omega))
theorem ls_cou (h : LsT ow w a (cn T 6) (CountAt ow w T)) (hW : WF T) (ha : a ≠ 0) (f : LiF ow w w' a) (hf : FrH ow ow' w w') (hc : T' 6 = T 6) (hT : EqC T T') : LsT ow' w' a (cn T' 6) (CountAt ow' w' T') :=
  h.fr (cn_eq hc) ha f hf.1 hf.2.2 (fun _ _ hi hq => hq.fr hf.1 hf.2.1 hT (by have := hW.c1; omega))
end FR
