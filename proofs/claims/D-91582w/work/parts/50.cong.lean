set_option maxRecDepth 100000
/-! ===== pace, rivers and seals are asked by no cache ===== -/
def EqS (T T' : Nat → Int32) : Prop := ∀ i, i ≠ 9 → i ≠ 10 → ¬ (2368 ≤ i ∧ i < 2448) → T' i = T i
section CG2
variable {T T' : Nat → Int32} {x : Nat} {w : AH}
theorem EqS.hi (h : EqS T T') {i : Nat} (hi : 2448 ≤ i) : T' i = T i := h i (by omega) (by omega) (by omega)
theorem EqS.c (h : EqS T T') {i : Nat} (hi : i < 9) : cn T' i = cn T i := cn_eq (h i (by omega) (by omega) (by omega))
theorem EqS.clW (h : EqS T T') (t c i : Nat) : clW T' t c i = clW T t c i := h.hi (by omega)
theorem EqS.stkC (h : EqS T T') (t : Nat) (S : Nat → Bool) : ∀ c, stkC T' t S c = stkC T t S c
  | 0 => rfl
  | c + 1 => by
    show stk1 T' t (_root_.Jvm.Pilot.CFirstPollsLaw_law_r9670_d332f5.stkC T' t S c) c = stk1 T t (_root_.Jvm.Pilot.CFirstPollsLaw_law_r9670_d332f5.stkC T t S c) c
    rw [EqS.stkC h t S c]
    unfold stk1
    rw [h.clW, h.clW, h.clW]
theorem EqS.stkU (h : EqS T T') (d : Int32) (n : Nat) : ∀ m, stkU T' d n m = stkU T d n m
  | 0 => rfl
  | m + 1 => by
    unfold Jvm.Pilot.CFirstPollsLaw_law_r9670_d332f5.stkU
    rw [EqS.stkU h d n m, h.hi (by omega), h.stkC, cn_eq (h.hi (by omega))]
theorem EqS.inF (h : EqS T T') (d : Int32) (t c : Nat) : inF T' d t c = inF T d t c := by
  unfold Jvm.Pilot.CFirstPollsLaw_law_r9670_d332f5.inF
  rw [h.hi (by omega), h.c (by decide), h.stkU]
theorem EqS.runD (h : EqS T T') (t : Nat) (s : Nat → Int64) (e : Nat) : ∀ (n k : Nat) (st : List Int64), runD T' t s e n k st = runD T t s e n k st
  | 0, _, _ => rfl
  | n + 1, k, st => by
    unfold Jvm.Pilot.CFirstPollsLaw_law_r9670_d332f5.runD
    have e1 : opC T' t k = opC T t k := h.hi (by omega)
    have e2 : arC2 T' t k = arC2 T t k := h.hi (by omega)
    rw [e1, e2]
    simp only [EqS.runD h t s e n]
theorem EqS.soD (h : EqS T T') (t c : Nat) (s : Nat → Int64) : soD T' t c s = soD T t c s := by
  unfold Jvm.Pilot.CFirstPollsLaw_law_r9670_d332f5.soD valD
  simp only [h.clW, h.runD]
theorem EqS.fndC (h : EqS T T') (d kd mk : Int32) (s : Nat → Int64) (t : Nat) (o : Option Int64) : ∀ c, fndC T' d kd mk s t o c = fndC T d kd mk s t o c
  | 0 => rfl
  | c + 1 => by
    unfold Jvm.Pilot.CFirstPollsLaw_law_r9670_d332f5.fndC fnd1
    rw [EqS.fndC h d kd mk s t o c, h.inF, h.clW, h.clW, h.soD]
theorem EqS.fndU (h : EqS T T') (d kd mk : Int32) (s : Nat → Int64) : ∀ t, fndU T' d kd mk s t = fndU T d kd mk s t
  | 0 => rfl
  | t + 1 => by
    unfold Jvm.Pilot.CFirstPollsLaw_law_r9670_d332f5.fndU
    rw [EqS.fndU h d kd mk s t, h.fndC, cn_eq (h.hi (by omega))]
theorem EqS.fndS (h : EqS T T') (d kd mk : Int32) (s : Nat → Int64) : fndS T' d kd mk s = fndS T d kd mk s := by
  unfold Jvm.Pilot.CFirstPollsLaw_law_r9670_d332f5.fndS
  rw [h.c (by decide), h.fndU]
theorem EqS.nm (h : EqS T T') {i : Nat} (hi : 20 ≤ i) (h2 : i < 2368) : T' i = T i := h i (by omega) (by omega) (by omega)
theorem EqS.hasMv (h : EqS T T') {n : Nat} (hn : n < 200) (d k : Int32) : hasMv T' n d k = hasMv T n d k := by
  unfold Jvm.Pilot.CFirstPollsLaw_law_r9670_d332f5.hasMv
  rw [h.nm (by omega) (by omega), h.nm (by omega) (by omega), h.nm (by omega) (by omega)]
theorem EqS.whrS (h : EqS T T') {n : Nat} (hn : n < 200) (d k : Int32) : whrS T' n d k = whrS T n d k := by
  unfold Jvm.Pilot.CFirstPollsLaw_law_r9670_d332f5.whrS
  rw [h.hasMv hn, h.nm (by omega) (by omega), h.nm (by omega) (by omega)]
/-- where a name is, is a place -/
theorem WF.whr (hW : WF T) {n : Nat} (hn : n < cn T 1) (d k : Int32) : ∃ p, p < cn T 0 ∧ whrS T n d k = Int32.ofNat p := by
  have k0 := hW.c1.1
  obtain ⟨⟨h1, h2⟩, _, _, _, _, _, h3⟩ := hW.2.2.1 n hn
  have z : ∀ v : Int32, 0 ≤ v → v < T 0 → ∃ p, p < cn T 0 ∧ v = Int32.ofNat p := fun v a b => by
    rw [hW.c2.1] at b
    exact bel_ex (v := v) (n := cn T 0) (by simp [bel, a, b]) (by omega)
  unfold Jvm.Pilot.CFirstPollsLaw_law_r9670_d332f5.whrS
  by_cases h : hasMv T n d k = true
  · rw [if_pos h]
    rcases h3 with h3 | h3
    · simp [Jvm.Pilot.CFirstPollsLaw_law_r9670_d332f5.hasMv, h3] at h
    · exact z _ h3.1 h3.2
  · rw [if_neg h]
    exact z _ h1 h2
theorem EqS.sNm (h : EqS T T') (hW : WF T) {n : Nat} (hn : n < cn T 1) (d k : Int32) : sNm T' n d k = sNm T n d k := by
  have k1 := hW.c1.2.1
  have k0 := hW.c1.1
  obtain ⟨p, p1, p2⟩ := hW.whr hn d k
  funext i
  unfold Jvm.Pilot.CFirstPollsLaw_law_r9670_d332f5.sNm
  rw [h.whrS (by omega), h.hasMv (by omega), p2, i_nat (by omega), h.nm (i := 70 + 11 * n) (by omega) (by omega), h.nm (i := 69 + 11 * n) (by omega) (by omega), h.nm (i := 71 + 11 * n) (by omega) (by omega), h.nm (i := 20 + 3 * p) (by omega) (by omega)]
theorem EqS.isOnS (h : EqS T T') (hW : WF T) {n : Nat} (hn : n < cn T 1) (d k : Int32) : isOnS T' n d k = isOnS T n d k := by
  have k1 := hW.c1.2.1
  unfold Jvm.Pilot.CFirstPollsLaw_law_r9670_d332f5.isOnS
  rw [h.sNm hW hn, h.fndS, h.fndS, h.nm (by omega) (by omega), h.nm (by omega) (by omega), h.nm (by omega) (by omega)]
theorem EqS.rolU (h : EqS T T') (hW : WF T) (d k : Int32) (p : Nat) : ∀ n, n ≤ cn T 1 → rolU T' d k p n = rolU T d k p n
  | 0, _ => rfl
  | n + 1, hn => by
    have k1 := hW.c1.2.1
    unfold Jvm.Pilot.CFirstPollsLaw_law_r9670_d332f5.rolU
    rw [EqS.rolU h hW d k p n (by omega), h.isOnS hW (by omega), h.whrS (by omega)]
theorem EqS.rolS (h : EqS T T') (hW : WF T) (d k : Int32) (p : Nat) : rolS T' d k p = rolS T d k p := by
  unfold Jvm.Pilot.CFirstPollsLaw_law_r9670_d332f5.rolS
  rw [h.c (by decide), h.rolU hW d k p _ (Nat.le_refl _)]
end CG2
