set_option maxRecDepth 100000
/-! ===== only numbers are written ===== -/
def Si (w w' : AH) : Prop := w'.1 = w.1 ∧ w'.2.1 = w.2.1 ∧ w'.2.2.2.2 = w.2.2.2.2
section SI
variable {ow ow' : Nat → Nat} {w w' w2 : AH} {T T' : Nat → Int32} {x t a n q : Nat} {E E' : Nat → Nat → Prop} {σ σ' : SM}
theorem Si.refl (w : AH) : Si w w := ⟨rfl, rfl, rfl⟩
theorem Si.trans (h : Si w w') (g : Si w' w2) : Si w w2 := ⟨g.1.trans h.1, g.2.1.trans h.2.1, g.2.2.trans h.2.2⟩
theorem Si.kd (h : Si w w') (a : Nat) : hkd w' a = hkd w a := by unfold hkd; rw [h.2.1]
theorem Si.vr (h : Si w w') (a i : Nat) : hvr w' a i = hvr w a i := by unfold hvr; rw [h.2.2]
theorem Si.sz (h : Si w w') : hsz w' = hsz w := by unfold hsz; rw [h.1]
theorem Si.st (h : Si w w') : hst w' = hst w := by unfold hst; rw [h.1]
theorem Si.lay (h : Si w w') (hL : Lay x w) : Lay x w' := by
  obtain ⟨h1, h2, h3⟩ := hL
  exact ⟨fun j hj => (h.kd _).trans (h1 j hj), fun j k r hr => (h.vr _ _).trans (h2 j k r hr), by rw [h.sz]; exact h3⟩
theorem Si.tlay (h : Si w w') (hL : TLay t w) : TLay t w' := by
  obtain ⟨h1, h2, h3⟩ := hL
  exact ⟨fun j hj => (h.kd _).trans (h1 j hj), fun k r hr => (h.vr _ _).trans (h2 k r hr), by rw [h.sz]; exact h3⟩
theorem Si.oww (h : Si w w') (hO : Ow x ow w) : Ow x ow w' := by
  obtain ⟨h1, h2, h3⟩ := hO
  exact ⟨h1, h2, fun q hq => h3 q (by rw [← h.sz]; exact hq)⟩
theorem Si.fz (h : Si w w') (hz : ∀ a i, ow a = 1 → hvi w' a i = hvi w a i) : Fz ow w w' := fun a ha => ⟨h.kd a, fun i => hz a i ha, fun i => h.vr a i⟩
theorem Si.frh (h : Si w w') (hz : ∀ a i, ow a = 1 → hvi w' a i = hvi w a i) : FrH ow ow w w' := ⟨OwX.refl ow, h.fz hz, by rw [h.sz]; exact Nat.le_refl _⟩
theorem Si.lif (h : Si w w') (hi : hvi w' a 2 = hvi w a 2) : LiF ow w w' a := ⟨h.kd a, hi, h.vr a 1, fun e _ => ⟨h.kd e, fun i => h.vr e i⟩⟩
theorem Si.con (h : Si w w') (hz : ∀ a i, ow a = 1 → hvi w' a i = hvi w a i) (hC : Con ow w) : Con ow w' := by
  obtain ⟨h1, h2⟩ := hC
  refine ⟨by rw [h.st]; exact h1, fun q hq => ?_⟩
  obtain ⟨a, e, n, k1, k2, k3, k4, k5, k6, k7, k8, k9, k10⟩ := h2 q hq
  exact ⟨a, e, n, by rw [h.st]; exact k1, k2, k3, by rw [h.kd]; exact k4, by rw [h.vr]; exact k5, by rw [hz _ _ k2]; exact k6, by rw [h.kd]; exact k7, k8, k9, fun j c hj => by rw [hz _ _ k3]; exact k10 j c hj⟩
theorem Si.tls (h : Si w w') (hT : TLs ow w t T) (hW : WF T) (hi : ∀ j, j ≤ 11 → j % 2 = 1 → hvi w' (t + j) 2 = hvi w (t + j) 2) (hz : ∀ a i, ow a = 1 → hvi w' a i = hvi w a i) (c1 : T' 1 = T 1) (c2 : T' 2 = T 2) (c5 : T' 5 = T 5) (c6 : T' 6 = T 6) (c7 : T' 7 = T 7) (c8 : T' 8 = T 8) (e1 : EqN T T') (e2 : EqT 5056 23016 T T') (e5 : EqT 2528 3528 T T') (e6 : EqC T T') (e7 : EqT 3528 4008 T T') (e8 : EqT 2268 2348 T T') : TLs ow w' t T' := by
  obtain ⟨h1, h2, h3, h4, h5, h6⟩ := hT
  exact ⟨ls_ord h1 hW (by omega) (h.lif (hi 1 (by decide) (by decide))) (h.frh hz) c2 e2, ls_nam h2 hW (by omega) (h.lif (hi 3 (by decide) (by decide))) (h.frh hz) c1 e1, ls_bar h3 hW (by omega) (h.lif (hi 5 (by decide) (by decide))) (h.frh hz) c8 e8, ls_han h4 hW (by omega) (h.lif (hi 7 (by decide) (by decide))) (h.frh hz) c5 e5, ls_pap h5 hW (by omega) (h.lif (hi 9 (by decide) (by decide))) (h.frh hz) c7 e7, ls_cou h6 hW (by omega) (h.lif (hi 11 (by decide) (by decide))) (h.frh hz) c6 e6⟩
theorem EqT.refl (lo hi : Nat) (T : Nat → Int32) : EqT lo hi T T := fun _ _ _ => rfl
theorem Si.trep (h : Si w w') (hT : TRep ow w t T) (hW : WF T) (hi : ∀ j i, j < 29 → hvi w' (t + j) i = hvi w (t + j) i) (hl : ∀ j i, j < 29 → hvl w' (t + j) i = hvl w (t + j) i) (hz : ∀ a i, ow a = 1 → hvi w' a i = hvi w a i) : TRep ow w' t T := by
  obtain ⟨h1, h2, h3, h4, h5, h6, h7, h8, h9⟩ := hT
  have i0 := fun i => hi 0 i (by decide)
  simp only [Nat.add_zero] at i0
  refine ⟨h.tlay h1, ?_, ?_, ?_, ?_, ?_, ?_, ?_, h.tls h9 hW (fun j hj _ => hi j 2 (by omega)) hz rfl rfl rfl rfl rfl rfl (EqT.refl _ _ _).nm (EqT.refl _ _ _) (EqT.refl _ _ _) (EqT.refl _ _ _).c (EqT.refl _ _ _) (EqT.refl _ _ _)⟩
  · unfold TPl at h2 ⊢
    simp only [i0, hi 13 _ (by decide), hi 14 _ (by decide), hi 15 _ (by decide)]
    exact h2
  · unfold TNm at h3 ⊢
    simp only [hi 16 _ (by decide), hi 17 _ (by decide), hi 18 _ (by decide), hi 19 _ (by decide), hi 20 _ (by decide)]
    exact h3
  · unfold TBo at h4 ⊢
    simp only [i0, hi 21 _ (by decide), hi 25 _ (by decide), hl 26 _ (by decide), hl 27 _ (by decide)]
    exact h4
  · unfold TBx at h5 ⊢
    simp only [i0, hi 22 _ (by decide), hi 23 _ (by decide)]
    exact h5
  · unfold TNu at h6 ⊢
    simp only [hi 24 _ (by decide)]
    exact h6
  · unfold TKp at h7 ⊢
    simp only [hi 28 _ (by decide)]
    exact h7
  · unfold TPc at h8 ⊢
    simp only [i0]
    exact h8
/-- numbers are written in FirstPolls' own cells alone -/
def Sx (x : Nat) (w w' : AH) : Prop := Si w w' ∧ (∀ a i, ¬ (x ≤ a ∧ a < x + 67) → hvi w' a i = hvi w a i) ∧ (∀ a i, ¬ (x ≤ a ∧ a < x + 67) → hvl w' a i = hvl w a i)
theorem Ow.ne (hO : Ow x ow w) (h : ow a = 1) : ¬ (x ≤ a ∧ a < x + 67) := by
  intro g
  have := hO.2.1 (a - x) (by omega)
  rw [show x + (a - x) = a by omega] at this
  omega
theorem Sx.z (h : Sx x w w') (hO : Ow x ow w) : ∀ a i, ow a = 1 → hvi w' a i = hvi w a i := fun a i ha => h.2.1 a i (hO.ne ha)
theorem Sx.img (h : Sx x w w') (hO : Ow x ow w) (hI : Img ow x w σ) (h2 : ∀ i, gI σ' 2 i = gI σ 2 i) (h3 : ∀ i, gI σ' 3 i = gI σ 3 i) : Img ow x w' σ' := by
  obtain ⟨k1, k2⟩ := hI
  have e : ∀ k, Jvm.Pilot.CFirstPollsLaw_law_r9670_d332f5.img σ' k = Jvm.Pilot.CFirstPollsLaw_law_r9670_d332f5.img σ k := fun k => funext fun i => h2 _
  refine ⟨fun k hk => ?_, fun t u ht hu => k2 t u (by rw [← h.1.vr]; exact ht) (by rw [← h.1.vr]; exact hu)⟩
  rw [h.1.vr, h3, e]
  rcases k1 k hk with g | ⟨g1, t, g2, g3, g4, g5, g6⟩
  · exact Or.inl g
  · exact Or.inr ⟨g1, t, g2, g3, g4, h.1.trep g5 g6 (fun j i hj => h.2.1 _ _ (by omega)) (fun j i hj => h.2.2 _ _ (by omega)) (h.z hO), g6⟩
theorem Sx.one (hj : ¬ (a < x) ∧ a < x + 67) (i : Nat) (v : Int32) : Sx x w (siI w a i v) := by
  refine ⟨⟨rfl, rfl, rfl⟩, fun b k hb => ?_, fun _ _ _ => rfl⟩
  rw [vi_I, if_neg (by omega)]
theorem Sx.oneL (hj : ¬ (a < x) ∧ a < x + 67) (i : Nat) (v : Int64) : Sx x w (siL w a i v) := by
  refine ⟨⟨rfl, rfl, rfl⟩, fun _ _ _ => rfl, fun b k hb => ?_⟩
  rw [vl_L, if_neg (by omega)]
theorem Sx.refl (w : AH) : Sx x w w := ⟨Si.refl w, fun _ _ _ => rfl, fun _ _ _ => rfl⟩
theorem Sx.trans (h : Sx x w w') (g : Sx x w' w2) : Sx x w w2 := ⟨h.1.trans g.1, fun a i ha => (g.2.1 a i ha).trans (h.2.1 a i ha), fun a i ha => (g.2.2 a i ha).trans (h.2.2 a i ha)⟩
/-- scratch: what may be written by an asking -/
def cS (x a i : Nat) : Prop := (a = x ∧ (i = 22 ∨ i = 25 ∨ i = 26 ∨ i = 35 ∨ i = 38)) ∨ (x + 32 ≤ a ∧ a ≤ x + 42) ∨ (x + 46 ≤ a ∧ a ≤ x + 50) ∨ (x + 52 ≤ a ∧ a ≤ x + 64)
def Sc (x : Nat) (w w' : AH) : Prop := Si w w' ∧ (∀ a i, ¬ cS x a i → hvi w' a i = hvi w a i) ∧ (∀ a i, ¬ (a = x ∨ (x + 32 ≤ a ∧ a ≤ x + 64)) → hvl w' a i = hvl w a i)
def mO (j i : Nat) : Prop := (j = 0 ∧ (i = 1 ∨ i = 10 ∨ i = 15 ∨ i = 34 ∨ i = 43 ∨ i = 44 ∨ i = 45 ∨ i = 53 ∨ i = 54)) ∨ j = 1 ∨ j = 2 ∨ j = 3 ∨ j = 6 ∨ j = 16 ∨ j = 17 ∨ j = 18 ∨ j = 24 ∨ j = 29 ∨ j = 30
def ScM (σ σ' : SM) : Prop := ∀ j i, mO j i → gI σ' j i = gI σ j i
theorem Sc.refl (w : AH) : Sc x w w := ⟨Si.refl w, fun _ _ _ => rfl, fun _ _ _ => rfl⟩
theorem Sc.trans (h : Sc x w w') (g : Sc x w' w2) : Sc x w w2 := ⟨h.1.trans g.1, fun a i ha => (g.2.1 a i ha).trans (h.2.1 a i ha), fun a i ha => (g.2.2 a i ha).trans (h.2.2 a i ha)⟩
theorem ScM.refl (σ : SM) : ScM σ σ := fun _ _ _ => rfl
theorem ScM.trans {σ2 : SM} (h : ScM σ σ') (g : ScM σ' σ2) : ScM σ σ2 := fun j i hj => (g j i hj).trans (h j i hj)
theorem ScM.sI (j i : Nat) (v : Int32) (h : ¬ mO j i) : ScM σ (sI σ j i v) := by
  intro b k hb
  rw [gI_sI, if_neg]
  intro g
  rw [g.1, g.2] at hb
  exact h hb
theorem ScM.sL (j i : Nat) (v : Int64) : ScM σ (sL σ j i v) := fun b k hb => rfl
theorem ScM.row (h : ScM σ σ') : gI σ' 1 = gI σ 1 := funext fun i => h 1 i (Or.inr (Or.inl rfl))
theorem Sc.I (i : Nat) (v : Int32) (h : cS x a i) : Sc x w (siI w a i v) := by
  refine ⟨⟨rfl, rfl, rfl⟩, fun b k hb => ?_, fun _ _ _ => rfl⟩
  rw [vi_I, if_neg]
  intro g
  rw [g.1, g.2] at hb
  exact hb h
theorem Sc.L (i : Nat) (v : Int64) (h : a = x ∨ (x + 32 ≤ a ∧ a ≤ x + 64)) : Sc x w (siL w a i v) := by
  refine ⟨⟨rfl, rfl, rfl⟩, fun _ _ _ => rfl, fun b k hb => ?_⟩
  rw [vl_L, if_neg]
  intro g
  rw [g.1] at hb
  exact hb h
/-- scratch that is no cache -/
def dS (x a i : Nat) : Prop := (a = x ∧ (i = 22 ∨ i = 25 ∨ i = 26 ∨ i = 35 ∨ i = 38)) ∨ (x + 34 ≤ a ∧ a ≤ x + 38) ∨ (x + 46 ≤ a ∧ a ≤ x + 50) ∨ (x + 57 ≤ a ∧ a ≤ x + 64)
def Sd (x : Nat) (w w' : AH) : Prop := Si w w' ∧ (∀ a i, ¬ dS x a i → hvi w' a i = hvi w a i) ∧ (∀ a i, ¬ (a = x ∨ (x + 32 ≤ a ∧ a ≤ x + 64)) → hvl w' a i = hvl w a i)
theorem Sd.refl (w : AH) : Sd x w w := ⟨Si.refl w, fun _ _ _ => rfl, fun _ _ _ => rfl⟩
theorem Sd.trans (h : Sd x w w') (g : Sd x w' w2) : Sd x w w2 := ⟨h.1.trans g.1, fun a i ha => (g.2.1 a i ha).trans (h.2.1 a i ha), fun a i ha => (g.2.2 a i ha).trans (h.2.2 a i ha)⟩
theorem Sd.I (i : Nat) (v : Int32) (h : dS x a i) : Sd x w (siI w a i v) := by
  refine ⟨⟨rfl, rfl, rfl⟩, fun b k hb => ?_, fun _ _ _ => rfl⟩
  rw [vi_I, if_neg]
  intro g
  rw [g.1, g.2] at hb
  exact hb h
theorem Sd.L (i : Nat) (v : Int64) (h : a = x ∨ (x + 32 ≤ a ∧ a ≤ x + 64)) : Sd x w (siL w a i v) := by
  refine ⟨⟨rfl, rfl, rfl⟩, fun _ _ _ => rfl, fun b k hb => ?_⟩
  rw [vl_L, if_neg]
  intro g
  rw [g.1] at hb
  exact hb h
theorem Sd.sc (h : Sd x w w') : Sc x w w' := ⟨h.1, fun a i ha => h.2.1 a i (by unfold cS at ha; unfold dS; omega), h.2.2⟩
theorem Sc.sx (h : Sc x w w') : Sx x w w' := ⟨h.1, fun a i ha => h.2.1 a i (by unfold cS; omega), fun a i ha => h.2.2 a i (by omega)⟩
theorem Rel.sc (hR : Rel ow x w σ) (h : Sc x w w') (g : ScM σ σ') (hC : Cch x w' (gI σ 1)) : Rel ow x w' σ' := by
  obtain ⟨h1, h2, h3, h4, h5, h6, h7, h8, h9, h10, h11, h12⟩ := hR
  have hx := h.sx
  have o : ∀ j i, mO j i → gI σ' j i = gI σ j i := g
  have v : ∀ a i, ¬ cS x a i → hvi w' a i = hvi w a i := h.2.1
  have O0 : ∀ i, (i = 1 ∨ i = 10 ∨ i = 15 ∨ i = 34 ∨ i = 43 ∨ i = 44 ∨ i = 45 ∨ i = 53 ∨ i = 54) → gI σ' 0 i = gI σ 0 i := fun i hi => o 0 i (Or.inl ⟨rfl, hi⟩)
  have V0 : ∀ i, ¬ (i = 22 ∨ i = 25 ∨ i = 26 ∨ i = 35 ∨ i = 38) → hvi w' x i = hvi w x i := fun i hi => v x i (by unfold cS; omega)
  refine ⟨h.1.lay h1, h.1.oww h2, h.1.con (hx.z h2) h3, ?_, ?_, hx.img h2 h6 (fun i => o 2 i (by unfold mO; omega)) (fun i => o 3 i (by unfold mO; omega)), ?_, ?_, ?_, ?_, ?_, ?_⟩
  · rw [g.row]
    exact h.1.trep h4 h5 (fun j i hj => v _ _ (by unfold cS; omega)) (fun j i hj => h.2.2 _ _ (by omega)) (hx.z h2)
  · rw [g.row]; exact h5
  · unfold Tap at h7 ⊢
    rw [V0 5 (by omega), V0 6 (by omega), O0 10 (by omega), O0 15 (by omega)]
    simp only [(fun i => v (x + 31) i (by unfold cS; omega) : ∀ i, hvi w' (x + 31) i = hvi w (x + 31) i), (fun i => o 6 i (by unfold mO; omega) : ∀ i, gI σ' 6 i = gI σ 6 i)]
    exact h7
  · unfold Wsh at h8 ⊢
    rw [V0 19 (by omega), O0 34 (by omega)]
    simp only [(fun i => v (x + 43) i (by unfold cS; omega) : ∀ i, hvi w' (x + 43) i = hvi w (x + 43) i), (fun i => v (x + 44) i (by unfold cS; omega) : ∀ i, hvi w' (x + 44) i = hvi w (x + 44) i), (fun i => v (x + 45) i (by unfold cS; omega) : ∀ i, hvi w' (x + 45) i = hvi w (x + 45) i), (fun i => o 16 i (by unfold mO; omega) : ∀ i, gI σ' 16 i = gI σ 16 i), (fun i => o 17 i (by unfold mO; omega) : ∀ i, gI σ' 17 i = gI σ 17 i), (fun i => o 18 i (by unfold mO; omega) : ∀ i, gI σ' 18 i = gI σ 18 i)]
    exact h8
  · unfold Led at h9 ⊢
    rw [V0 20 (by omega), V0 21 (by omega), O0 43 (by omega), O0 44 (by omega), O0 45 (by omega)]
    simp only [(fun i => v (x + 51) i (by unfold cS; omega) : ∀ i, hvi w' (x + 51) i = hvi w (x + 51) i), (fun i => o 24 i (by unfold mO; omega) : ∀ i, gI σ' 24 i = gI σ 24 i)]
    exact h9
  · unfold Way at h10 ⊢
    rw [V0 34 (by omega), O0 53 (by omega), O0 54 (by omega)]
    simp only [(fun i => v (x + 65) i (by unfold cS; omega) : ∀ i, hvi w' (x + 65) i = hvi w (x + 65) i), (fun i => v (x + 66) i (by unfold cS; omega) : ∀ i, hvi w' (x + 66) i = hvi w (x + 66) i), (fun i => o 29 i (by unfold mO; omega) : ∀ i, gI σ' 29 i = gI σ 29 i), (fun i => o 30 i (by unfold mO; omega) : ∀ i, gI σ' 30 i = gI σ 30 i)]
    exact h10
  · rw [V0 0 (by omega), O0 1 (by omega)]
    exact h11
  · rw [g.row]; exact hC
end SI
