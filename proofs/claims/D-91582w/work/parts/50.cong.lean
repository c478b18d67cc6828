set_option maxRecDepth 100000
/-! ===== pace, rivers and seals are asked by no cache ===== -/
def EqS (T T' : Nat → Int32) : Prop := ∀ i, i ≠ 9 → i ≠ 10 → ¬ (2368 ≤ i ∧ i < 2448) → T' i = T i
section CG2
variable {T T' : Nat → Int32} {x : Nat} {w : AH}
theorem EqS.hi (h : EqS T T') {i : Nat} (hi : 2448 ≤ i) : T' i = T i := h i (by omega) (by omega) (by omega)
theorem EqS.c (h : EqS T T') {i : Nat} (hi : i < 9) : cn T' i = cn T i := cn_eq (h i (by omega) (by omega) (by omega))
theorem EqS.clW (h : EqS T T') (t c i : Nat) : clW T' t c i = clW T t c i := h.hi (by omega)
theorem EqS.stkC (h : EqS T T') (t : Nat) (S : Nat → Bool) : ∀ c, stkC T' t S c = stkC T t S c
  | 0 => rfl
  | c + 1 => by
    show stk1 T' t (_root_.Jvm.Pilot.CFirstPollsLaw_law_r9670_d332f5.stkC T' t S c) c = stk1 T t (_root_.Jvm.Pilot.CFirstPollsLaw_law_r9670_d332f5.stkC T t S c) c
    rw [EqS.stkC h t S c]
    unfold stk1
    rw [h.clW, h.clW, h.clW]
theorem EqS.stkU (h : EqS T T') (d : Int32) (n : Nat) : ∀ m, stkU T' d n m = stkU T d n m
  | 0 => rfl
  | m + 1 => by
    unfold Jvm.Pilot.CFirstPollsLaw_law_r9670_d332f5.stkU
    rw [EqS.stkU h d n m, h.hi (by omega), h.stkC, cn_eq (h.hi (by omega))]
theorem EqS.inF (h : EqS T T') (d : Int32) (t c : Nat) : inF T' d t c = inF T d t c := by
  unfold Jvm.Pilot.CFirstPollsLaw_law_r9670_d332f5.inF
  rw [h.hi (by omega), h.c (by decide), h.stkU]
theorem EqS.runD (h : EqS T T') (t : Nat) (s : Nat → Int64) (e : Nat) : ∀ (n k : Nat) (st : List Int64), runD T' t s e n k st = runD T t s e n k st
  | 0, _, _ => rfl
  | n + 1, k, st => by
    unfold Jvm.Pilot.CFirstPollsLaw_law_r9670_d332f5.runD
    have e1 : opC T' t k = opC T t k := h.hi (by omega)
    have e2 : arC2 T' t k = arC2 T t k := h.hi (by omega)
    rw [e1, e2]
    simp only [EqS.runD h t s e n]
theorem EqS.soD (h : EqS T T') (t c : Nat) (s : Nat → Int64) : soD T' t c s = soD T t c s := by
  unfold Jvm.Pilot.CFirstPollsLaw_law_r9670_d332f5.soD valD
  simp only [h.clW, h.runD]
theorem EqS.fndC (h : EqS T T') (d kd mk : Int32) (s : Nat → Int64) (t : Nat) (o : Option Int64) : ∀ c, fndC T' d kd mk s t o c = fndC T d kd mk s t o c
  | 0 => rfl
  | c + 1 => by
    unfold Jvm.Pilot.CFirstPollsLaw_law_r9670_d332f5.fndC fnd1
    rw [EqS.fndC h d kd mk s t o c, h.inF, h.clW, h.clW, h.soD]
theorem EqS.fndU (h : EqS T T') (d kd mk : Int32) (s : Nat → Int64) : ∀ t, fndU T' d kd mk s t = fndU T d kd mk s t
  | 0 => rfl
  | t + 1 => by
    unfold Jvm.Pilot.CFirstPollsLaw_law_r9670_d332f5.fndU
    rw [EqS.fndU h d kd mk s t, h.fndC, cn_eq (h.hi (by omega))]
theorem EqS.fndS (h : EqS T T') (d kd mk : Int32) (s : Nat → Int64) : fndS T' d kd mk s = fndS T d kd mk s := by
  unfold Jvm.Pilot.CFirstPollsLaw_law_r9670_d332f5.fndS
  rw [h.c (by decide), h.fndU]
theorem EqS.nm (h : EqS T T') {i : Nat} (hi : 20 ≤ i) (h2 : i < 2368) : T' i = T i := h i (by omega) (by omega) (by omega)
theorem EqS.hasMv (h : EqS T T') {n : Nat} (hn : n < 200) (d k : Int32) : hasMv T' n d k = hasMv T n d k := by
  unfold Jvm.Pilot.CFirstPollsLaw_law_r9670_d332f5.hasMv
  rw [h.nm (by omega) (by omega), h.nm (by omega) (by omega), h.nm (by omega) (by omega)]
theorem EqS.whrS (h : EqS T T') {n : Nat} (hn : n < 200) (d k : Int32) : whrS T' n d k = whrS T n d k := by
  unfold Jvm.Pilot.CFirstPollsLaw_law_r9670_d332f5.whrS
  rw [h.hasMv hn, h.nm (by omega) (by omega), h.nm (by omega) (by omega)]
/-- where a name is, is a place -/
theorem WF.whr (hW : WF T) {n : Nat} (hn : n < cn T 1) (d k : Int32) : ∃ p, p < cn T 0 ∧ whrS T n d k = Int32.ofNat p := by
  have k0 := hW.c1.1
  obtain ⟨⟨h1, h2⟩, _, _, _, _, _, h3⟩ := hW.2.2.1 n hn
  have z : ∀ v : Int32, 0 ≤ v → v < T 0 → ∃ p, p < cn T 0 ∧ v = Int32.ofNat p := fun v a b => by
    rw [hW.c2.1] at b
    exact bel_ex (v := v) (n := cn T 0) (by simp [bel, a, b]) (by omega)
  unfold Jvm.Pilot.CFirstPollsLaw_law_r9670_d332f5.whrS
  by_cases h : hasMv T n d k = true
  · rw [if_pos h]
    rcases h3 with h3 | h3
    · simp [Jvm.Pilot.CFirstPollsLaw_law_r9670_d332f5.hasMv, h3] at h
    · exact z _ h3.1 h3.2
  · rw [if_neg h]
    exact z _ h1 h2
theorem EqS.sNm (h : EqS T T') (hW : WF T) {n : Nat} (hn : n < cn T 1) (d k : Int32) : sNm T' n d k = sNm T n d k := by
  have k1 := hW.c1.2.1
  have k0 := hW.c1.1
  obtain ⟨p, p1, p2⟩ := hW.whr hn d k
  funext i
  unfold Jvm.Pilot.CFirstPollsLaw_law_r9670_d332f5.sNm
  rw [h.whrS (by omega), h.hasMv (by omega), p2, i_nat (by omega), h.nm (i := 70 + 11 * n) (by omega) (by omega), h.nm (i := 69 + 11 * n) (by omega) (by omega), h.nm (i := 71 + 11 * n) (by omega) (by omega), h.nm (i := 20 + 3 * p) (by omega) (by omega)]
theorem EqS.isOnS (h : EqS T T') (hW : WF T) {n : Nat} (hn : n < cn T 1) (d k : Int32) : isOnS T' n d k = isOnS T n d k := by
  have k1 := hW.c1.2.1
  unfold Jvm.Pilot.CFirstPollsLaw_law_r9670_d332f5.isOnS
  rw [h.sNm hW hn, h.fndS, h.fndS, h.nm (by omega) (by omega), h.nm (by omega) (by omega), h.nm (by omega) (by omega)]
theorem EqS.rolU (h : EqS T T') (hW : WF T) (d k : Int32) (p : Nat) : ∀ n, n ≤ cn T 1 → rolU T' d k p n = rolU T d k p n
  | 0, _ => rfl
  | n + 1, hn => by
    have k1 := hW.c1.2.1
    unfold Jvm.Pilot.CFirstPollsLaw_law_r9670_d332f5.rolU
    rw [EqS.rolU h hW d k p n (by omega), h.isOnS hW (by omega), h.whrS (by omega)]
theorem EqS.rolS (h : EqS T T') (hW : WF T) (d k : Int32) (p : Nat) : rolS T' d k p = rolS T d k p := by
  unfold Jvm.Pilot.CFirstPollsLaw_law_r9670_d332f5.rolS
  rw [h.c (by decide), h.rolU hW d k p _ (Nat.le_refl _)]
theorem EqS.papU (h : EqS T T') (b : Nat) (q k : Int32) : ∀ p, papU T' b q k p = papU T b q k p
  | 0 => rfl
  | p + 1 => by
    unfold Jvm.Pilot.CFirstPollsLaw_law_r9670_d332f5.papU
    rw [EqS.papU h b q k p, h.hi (i := 3528 + 4 * p) (by omega), h.hi (i := 3529 + 4 * p) (by omega), h.hi (i := 3530 + 4 * p) (by omega), h.hi (i := 3531 + 4 * p) (by omega)]
theorem EqS.papS (h : EqS T T') (b : Nat) (q k : Int32) : papS T' b q k = papS T b q k := by
  unfold Jvm.Pilot.CFirstPollsLaw_law_r9670_d332f5.papS
  rw [h.c (by decide), h.papU]
theorem EqS.cntN (h : EqS T T') (c : Nat) (k : Int32) : ∀ m u, cntN T' c k m u = cntN T c k m u
  | 0, _ => rfl
  | m + 1, u => by
    unfold Jvm.Pilot.CFirstPollsLaw_law_r9670_d332f5.cntN cntL
    rw [EqS.cntN h c k m, h.hi (i := 4012 + 5 * u) (by omega), h.hi (i := 4008 + 5 * u) (by omega), h.hi (i := 4008 + 5 * c) (by omega), h.hi (i := 4009 + 5 * u) (by omega), h.hi (i := 4009 + 5 * c) (by omega), h.hi (i := 4010 + 5 * u) (by omega), h.hi (i := 4010 + 5 * c) (by omega)]
theorem EqS.cntOK (h : EqS T T') (c : Nat) (k : Int32) : cntOK T' c k = cntOK T c k := by
  unfold Jvm.Pilot.CFirstPollsLaw_law_r9670_d332f5.cntOK
  rw [h.hi (by omega), h.c (by decide), h.cntN]
theorem EqS.booOf (h : EqS T T') (c : Nat) : booOf T' c = booOf T c := by
  unfold Jvm.Pilot.CFirstPollsLaw_law_r9670_d332f5.booOf
  rw [h.hi (i := 4008 + 5 * c) (by omega), h.hi (by omega)]
theorem EqS.putU (h : EqS T T') (b : Nat) (k : Int32) : ∀ c, putU T' b k c = putU T b k c
  | 0 => rfl
  | c + 1 => by
    unfold Jvm.Pilot.CFirstPollsLaw_law_r9670_d332f5.putU
    rw [EqS.putU h b k c, h.booOf, h.cntOK, h.hi (by omega)]
theorem EqS.putS (h : EqS T T') (b : Nat) (k : Int32) : putS T' b k = putS T b k := by
  unfold Jvm.Pilot.CFirstPollsLaw_law_r9670_d332f5.putS
  rw [h.c (by decide), h.putU]
theorem EqS.brkU (h : EqS T T') (b : Nat) (k : Int32) : ∀ i, brkU T' b k i = brkU T b k i
  | 0 => rfl
  | i + 1 => by
    have e : ∀ g, T' (2530 + 5 * g) = T (2530 + 5 * g) := fun g => h.hi (by omega)
    unfold Jvm.Pilot.CFirstPollsLaw_law_r9670_d332f5.brkU
    rw [EqS.brkU h b k i, h.hi (i := 2528 + 5 * i) (by omega), h.hi (i := 2532 + 5 * i) (by omega), h.hi (i := 2531 + 5 * i) (by omega), h.hi (i := 2449 + 2 * b) (by omega)]
    simp only [e]
theorem EqS.brkS (h : EqS T T') (b : Nat) (k : Int32) : brkS T' b k = brkS T b k := by
  unfold Jvm.Pilot.CFirstPollsLaw_law_r9670_d332f5.brkS
  rw [h.c (by decide), h.brkU]
theorem EqS.isBkU (h : EqS T T') (b : Nat) (k : Int32) : ∀ q, isBkU T' b k q = isBkU T b k q
  | 0 => rfl
  | q + 1 => by
    unfold Jvm.Pilot.CFirstPollsLaw_law_r9670_d332f5.isBkU
    rw [EqS.isBkU h b k q, h.hi (by omega), h.brkS]
theorem EqS.isBrk (h : EqS T T') (b : Nat) (k : Int32) : isBrk T' b k = isBrk T b k := by
  unfold Jvm.Pilot.CFirstPollsLaw_law_r9670_d332f5.isBrk
  rw [h.c (by decide), h.isBkU]
theorem WF.bo (hW : WF T) {b : Nat} (hb : b < cn T 3) : ∃ p, p < cn T 0 ∧ T (2348 + b) = Int32.ofNat p := by
  have k0 := hW.c1.1
  obtain ⟨h1, h2⟩ := hW.2.2.2.1 b hb
  rw [hW.c2.1] at h2
  exact bel_ex (v := T (2348 + b)) (n := cn T 0) (by simp [bel, h1, h2]) (by omega)
theorem EqS.sBo (h : EqS T T') (hW : WF T) (d k : Int32) {b : Nat} (hb : b < cn T 3) : sBo T' d k b = sBo T d k b := by
  have k3 := hW.c1.2.2.2.1
  have k0 := hW.c1.1
  obtain ⟨p, p1, p2⟩ := hW.bo hb
  funext i
  unfold Jvm.Pilot.CFirstPollsLaw_law_r9670_d332f5.sBo
  rw [h.nm (i := 2348 + b) (by omega) (by omega), p2, i_nat (by omega), h.nm (i := 20 + 3 * p) (by omega) (by omega), h.rolS hW, h.papS, h.papS, h.papS, h.putS, h.isBrk]
theorem EqS.valU (h : EqS T T') (hW : WF T) (d k : Int32) {b : Nat} (hb : b < cn T 3) (sy : Int32) : ∀ c, valU T' d k b sy c = valU T d k b sy c
  | 0 => rfl
  | c + 1 => by
    unfold Jvm.Pilot.CFirstPollsLaw_law_r9670_d332f5.valU vodS
    rw [EqS.valU h hW d k hb sy c, h.booOf, h.cntOK, h.hi (i := 4010 + 5 * c) (by omega), h.hi (i := 4009 + 5 * c) (by omega), h.hi (i := 4011 + 5 * c) (by omega), h.sBo hW d k hb, h.fndS]
theorem EqS.valS (h : EqS T T') (hW : WF T) (d k : Int32) {b : Nat} (hb : b < cn T 3) (sy : Int32) : valS T' d k b sy = valS T d k b sy := by
  unfold Jvm.Pilot.CFirstPollsLaw_law_r9670_d332f5.valS
  rw [h.c (by decide), h.valU hW d k hb]
theorem EqS.agnS (h : EqS T T') (hW : WF T) (d k : Int32) {b : Nat} (hb : b < cn T 3) : agnS T' d k b = agnS T d k b := by
  unfold Jvm.Pilot.CFirstPollsLaw_law_r9670_d332f5.agnS
  rw [h.sBo hW d k hb, h.fndS]
theorem Cch.eqs (hC : Cch x w T) (h : EqS T T') (hW : WF T) : Cch x w T' := by
  obtain ⟨c1, c2, c3, c4⟩ := hC
  refine ⟨c1, fun a b t c ht hc => ?_, fun a b => ⟨fun n hn => ?_, fun p hp => ?_⟩, fun a b q hq => ?_⟩
  · rw [h.c (by decide)] at ht
    rw [cn_eq (h.hi (by omega))] at hc
    rw [h.inF]
    exact c2 a b t c ht hc
  · rw [h.c (by decide)] at hn
    have k1 := hW.c1.2.1
    rw [h.isOnS hW hn, h.whrS (by omega)]
    exact (c3 a b).1 n hn
  · rw [h.rolS hW]
    exact (c3 a b).2 p hp
  · rw [h.c (by decide)] at hq
    obtain ⟨d1, d2, d3, d4⟩ := c4 a b q hq
    exact ⟨fun j hj => by rw [h.papS]; exact d1 j hj, by rw [h.putS]; exact d2, fun j hj => by rw [h.valS hW _ _ hq]; exact d3 j hj, by rw [h.agnS hW _ _ hq]; exact d4⟩
end CG2
