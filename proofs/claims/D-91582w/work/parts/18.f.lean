/-! ===== two worlds side by side: the region M from u, all else from w ===== -/
def mrg (M : Nat → Bool) (u w : AH) : AH := (w.1, (fun a => if M a = true then u.2.1 a else w.2.1 a), (fun a => if M a = true then u.2.2.1 a else w.2.2.1 a), (fun a => if M a = true then u.2.2.2.1 a else w.2.2.2.1 a), (fun a => if M a = true then u.2.2.2.2 a else w.2.2.2.2 a))
section VM2
variable {M : Nat → Bool} {u u' w w' : AH} {D : DD} {a : Nat} {H H' : Heap}
theorem mrg_kt (h : M a = true) : hkd (mrg M u w) a = hkd u a := if_pos h
theorem mrg_kf (h : ¬ M a = true) : hkd (mrg M u w) a = hkd w a := if_neg h
theorem mrg_st (h : M a = true) (t : FieldType) (j : Nat) : svl (mrg M u w) t a j = svl u t a j := by
  have e1 : hvi (mrg M u w) a j = hvi u a j := congrFun (if_pos h : (if M a = true then u.2.2.1 a else w.2.2.1 a) = u.2.2.1 a) j
  have e2 : hvl (mrg M u w) a j = hvl u a j := congrFun (if_pos h : (if M a = true then u.2.2.2.1 a else w.2.2.2.1 a) = u.2.2.2.1 a) j
  have e3 : hvr (mrg M u w) a j = hvr u a j := congrFun (if_pos h : (if M a = true then u.2.2.2.2 a else w.2.2.2.2 a) = u.2.2.2.2 a) j
  cases t <;> simp [svl, e1, e2, e3]
theorem mrg_sf (h : ¬ M a = true) (t : FieldType) (j : Nat) : svl (mrg M u w) t a j = svl w t a j := by
  have e1 : hvi (mrg M u w) a j = hvi w a j := congrFun (if_neg h : (if M a = true then u.2.2.1 a else w.2.2.1 a) = w.2.2.1 a) j
  have e2 : hvl (mrg M u w) a j = hvl w a j := congrFun (if_neg h : (if M a = true then u.2.2.2.1 a else w.2.2.2.1 a) = w.2.2.2.1 a) j
  have e3 : hvr (mrg M u w) a j = hvr w a j := congrFun (if_neg h : (if M a = true then u.2.2.2.2 a else w.2.2.2.2 a) = w.2.2.2.2 a) j
  cases t <;> simp [svl, e1, e2, e3]
theorem cOk.zero (h : (hkd w a).1 = 0) : cellOk D w a H := ⟨fun g => absurd h g, fun g => absurd g (by omega), fun g => absurd g (by omega), fun g => absurd g (by omega)⟩
/-- what holds of both holds of the part -/
theorem Hold.left (h : Hold D (mrg M u w) H) (hz : ∀ a, M a = true → (hkd w a).1 = 0) : Hold D w H := by
  obtain ⟨h1, h2, h3, h4, h5, h6, h7, h8⟩ := h
  refine ⟨h1, h2, h3, h4, fun a => ?_, h6, fun a c hc => ?_, fun a ha => ?_⟩
  · by_cases hm : M a = true
    · exact cOk.zero (hz a hm)
    · exact (h5 a).kept (mrg_kf hm).symm (fun t j => (mrg_sf hm t j).symm) rfl
  · obtain ⟨g1, g2⟩ := h7 a c hc
    refine ⟨g1, ?_⟩
    by_cases hm : M a = true
    · exact hz a hm
    · rw [mrg_kf hm] at g2; exact g2
  · by_cases hm : M a = true
    · have := hz a hm; omega
    · exact h8 a (by rw [mrg_kf hm]; exact ha)
theorem Hold.right (h : Hold D (mrg M u w) H) (hu : u.1 = w.1) (hz : ∀ a, ¬ M a = true → (hkd u a).1 = 0) : Hold D u H := by
  obtain ⟨h1, h2, h3, h4, h5, h6, h7, h8⟩ := h
  refine ⟨by unfold hsz; rw [hu]; exact h1, by unfold hns; rw [hu]; exact h2, by unfold hsz hlc; rw [hu]; exact h3, by unfold hns hls; rw [hu]; exact h4, fun a => ?_, by unfold hst; rw [hu]; exact h6, fun a c hc => ?_, fun a ha => ?_⟩
  · by_cases hm : M a = true
    · exact (h5 a).kept (mrg_kt hm).symm (fun t j => (mrg_st hm t j).symm) rfl
    · exact cOk.zero (hz a hm)
  · obtain ⟨g1, g2⟩ := h7 a c hc
    refine ⟨g1, ?_⟩
    by_cases hm : M a = true
    · rw [mrg_kt hm] at g2; exact g2
    · exact hz a hm
  · by_cases hm : M a = true
    · have := h8 a (by rw [mrg_kt hm]; exact ha)
      unfold hsz; rw [hu]; exact this
    · have := hz a hm; omega
theorem fA.left (hz : ∀ a, M a = true → (hkd w a).1 = 0) {q : Nat} (h : fA w q) : fA (mrg M u w) q := by
  rcases h with h | h
  · refine Or.inl ?_
    have hm : ¬ M q = true := fun hm => h.1 (hz q hm)
    rw [mrg_kf hm]; exact h
  · exact Or.inr h
/-- THE FRAME RULE: what is done in w leaves the region M as it is -/
theorem MX.frameA {l : Launch} {y : MethodName} {ws : List Cond} {d : Nat} {av : List Value} {o : Outcome} (hz : ∀ a, M a = true → (hkd w a).1 = 0 ∧ a < hsz w)
    (hM : MX l y ws (rmA d w) (va_Pc av (PA D w)) (QA D w o w') (hlc w - hsz w) (hls w - hns w) (fA w)) : MX l y ws (rmA d (mrg M u w)) (va_Pc av (PA D (mrg M u w))) (QA D (mrg M u w) o (mrg M u w')) (hlc (mrg M u w) - hsz (mrg M u w)) (hls (mrg M u w) - hns (mrg M u w)) (fA (mrg M u w)) := by
  intro p e ha hc hk s m args below hf hap hP hK
  obtain ⟨rfl, hH, hKN⟩ := hP
  have hz0 : ∀ a, M a = true → (hkd w a).1 = 0 := fun a h => (hz a h).1
  obtain ⟨n, o', h1, h2, h3, ⟨⟨rfl, q2, ⟨q3, q3'⟩, q4, q5, q6, q7⟩, L, h4, h5⟩⟩ := hM p e ha hc hk s m _ below hf hap ⟨rfl, hH.left hz0, hKN⟩ hK
  obtain ⟨g1, g2, g3, g4, g5, g6, g7, g8⟩ := hH
  have hsz0 : s.heap.size = hsz w := g1
  have hsame : ∀ a, M a = true → _ := fun a hm => q3' a (by rw [hsz0]; exact (hz a hm).2) (fun hfa => by
    rcases hfa with g | g
    · exact g.1 (hz0 a hm)
    · have := (hz a hm).2; omega)
  refine ⟨n, _, h1, h2, h3, ⟨⟨rfl, ?_, ⟨q3, fun q hq hn => q3' q hq (fun g => hn (fA.left hz0 g))⟩, q4, fun q hq => ?_, q6, q7⟩, L, h4, fun q hq => fA.left hz0 (h5 q hq)⟩⟩
  · obtain ⟨r1, r2, r3, r4, r5, r6, r7, r8⟩ := q2
    refine ⟨r1, r2, r3, r4, fun a => ?_, r6, fun a c hc => ⟨(r7 a c hc).1, ?_⟩, fun a ha => ?_⟩
    · by_cases hm : M a = true
      · exact (g5 a).kept (by rw [mrg_kt hm, mrg_kt hm]) (fun t j => by rw [mrg_st hm, mrg_st hm]) (hsame a hm)
      · exact (r5 a).kept (mrg_kf hm) (mrg_sf hm) rfl
    · by_cases hm : M a = true
      · have := (g7 a c hc).2
        rw [mrg_kt hm] at this ⊢; exact this
      · rw [mrg_kf hm]; exact (r7 a c hc).2
    · by_cases hm : M a = true
      · have h9 := (hz a hm).2
        have h10 : s.heap.size ≤ _ := q3
        show a < hsz w'
        have r1' : Array.size _ = hsz w' := r1
        omega
      · rw [mrg_kf hm] at ha
        exact r8 a ha
  · by_cases hm : M q = true
    · refine Or.inl ?_
      rw [mrg_kt hm] at hq ⊢; exact hq
    · rw [mrg_kf hm] at hq
      exact fA.left hz0 (q5 q hq)
theorem fA.right (hu : u.1 = w.1) (hz : ∀ a, ¬ M a = true → (hkd u a).1 = 0) {q : Nat} (h : fA u q) : fA (mrg M u w) q := by
  rcases h with h | h
  · refine Or.inl ?_
    by_cases hm : M q = true
    · rw [mrg_kt hm]; exact h
    · exact absurd (hz q hm) h.1
  · refine Or.inr ?_
    show hsz w ≤ q
    unfold hsz at h ⊢
    rw [← hu]; exact h
/-- .. what is done in the region M by u leaves all else as it is -/
theorem MX.frameB {l : Launch} {y : MethodName} {ws : List Cond} {d : Nat} {av : List Value} {o : Outcome} (hu : u.1 = w.1) (hu' : u'.1 = w.1) (hz : ∀ a, ¬ M a = true → (hkd u a).1 = 0)
    (hM : MX l y ws (rmA d u) (va_Pc av (PA D u)) (QA D u o u') (hlc u - hsz u) (hls u - hns u) (fA u)) : MX l y ws (rmA d (mrg M u w)) (va_Pc av (PA D (mrg M u w))) (QA D (mrg M u w) o (mrg M u' w)) (hlc (mrg M u w) - hsz (mrg M u w)) (hls (mrg M u w) - hns (mrg M u w)) (fA (mrg M u w)) := by
  have e1 : hlc u = hlc w := by unfold hlc; rw [hu]
  have e2 : hls u = hls w := by unfold hls; rw [hu]
  have e3 : hsz u = hsz w := by unfold hsz; rw [hu]
  have e4 : hns u = hns w := by unfold hns; rw [hu]
  have e5 : hns u' = hns w := by unfold hns; rw [hu']
  have er : rmA d (mrg M u w) = rmA d u := by
    show rmA d w = _
    unfold rmA
    rw [e1, e2, e3, e4]
  rw [er]
  show MX l y ws (rmA d u) _ _ (hlc w - hsz w) (hls w - hns w) _
  rw [← e1, ← e2, ← e3, ← e4]
  intro p e ha hc hk s m args below hf hap hP hK
  obtain ⟨rfl, hH, hKN⟩ := hP
  obtain ⟨n, o', h1, h2, h3, ⟨⟨rfl, q2, ⟨q3, q3'⟩, q4, q5, q6, q7⟩, L, h4, h5⟩⟩ := hM p e ha hc hk s m _ below hf hap ⟨rfl, hH.right hu hz, hKN⟩ hK
  obtain ⟨g1, g2, g3, g4, g5, g6, g7, g8⟩ := hH
  have hsz0 : s.heap.size = hsz w := g1
  refine ⟨n, _, h1, h2, h3, ⟨⟨rfl, ?_, ⟨q3, fun q hq hn => q3' q hq (fun g => hn (fA.right hu hz g))⟩, Nat.le_refl _, fun q hq => ?_, rfl, rfl⟩, L, h4, fun q hq => fA.right hu hz (h5 q hq)⟩⟩
  · obtain ⟨r1, r2, r3, r4, r5, r6, r7, r8⟩ := q2
    have x1 : hsz u' = hsz w := by unfold hsz; rw [hu']
    refine ⟨r1.trans x1, r2.trans e5, g3, g4, fun a => ?_, g6, fun a c hc => ⟨(r7 a c hc).1, ?_⟩, fun a ha => ?_⟩
    · by_cases hm : M a = true
      · exact (r5 a).kept (mrg_kt hm) (mrg_st hm) rfl
      · by_cases hk0 : (hkd w a).1 = 0
        · exact cOk.zero (by rw [mrg_kf hm]; exact hk0)
        · have hlt : a < s.heap.size := cOk.lt (g5 a) (by rw [mrg_kf hm]; exact hk0)
          refine (g5 a).kept (by rw [mrg_kf hm, mrg_kf hm]) (fun t j => by rw [mrg_sf hm, mrg_sf hm]) (q3' a hlt (fun hfa => ?_))
          rcases hfa with g | g
          · exact g.1 (hz a hm)
          · omega
    · by_cases hm : M a = true
      · rw [mrg_kt hm]; exact (r7 a c hc).2
      · have := (g7 a c hc).2
        rw [mrg_kf hm] at this ⊢; exact this
    · by_cases hm : M a = true
      · rw [mrg_kt hm] at ha
        have := r8 a ha
        show a < hsz w
        omega
      · rw [mrg_kf hm] at ha
        exact g8 a (by rw [mrg_kf hm]; exact ha)
  · by_cases hm : M q = true
    · rw [mrg_kt hm] at hq
      exact fA.right hu hz (q5 q hq)
    · refine Or.inl ?_
      rw [mrg_kf hm] at hq ⊢; exact hq
end VM2
/-! ===== the law's own rows: the script, the end ===== -/
section VL
variable {X : CX} {cc : ByteArray} {own : String} {nL d : Nat} {w w' : AH} {pc : Nat} {ls : List (Option Value)} {st : List Value} {b L j : Nat} {ys : Nat → Int32} {i : Int32}
/-- the script lies at b, and is none of the cells that may be written -/
def SX (X : CX) (b L : Nat) (ys : Nat → Int32) : Prop := va_X b L ys (xs X) (xs X).heap ∧ b < (xs X).heap.size ∧ ¬ xA X b
theorem V_sld (hX : SX X b L ys) (hin : bnd i L = true) (hj : i.toNatClampNeg = j) (hd : decode cc pc = .ok (.iaload, 1)) (kk : V X cc own nL d w (pc + 1) ls (.int (ys j) :: st)) : V X cc own nL d w pc ls (.int i :: .ref b :: st) := by
  intro C H locs LS cells slots hW h
  subst hj
  exact va_sld C.1 C.2.1 hX.1 hX.2.1 hX.2.2 hW.2.1 (bnd_in hin) hd (kk C H locs LS cells slots hW h)
theorem V_slen (hX : SX X b L ys) (hd : decode cc pc = .ok (.arraylength, 1)) (kk : V X cc own nL d w (pc + 1) ls (.int (Int32.ofNat L) :: st)) : V X cc own nL d w pc ls (.ref b :: st) := by
  intro C H locs LS cells slots hW h
  exact va_slen C.1 C.2.1 hX.1 hX.2.1 hX.2.2 hW.2.1 hd (kk C H locs LS cells slots hW h)
end VL
/-! ===== what every mirror keeps: limits, constants, the kinds of old cells ===== -/
def Ext (w w' : AH) : Prop := hlc w' = hlc w ∧ hls w' = hls w ∧ hst w' = hst w ∧ hsz w ≤ hsz w' ∧ hns w ≤ hns w' ∧ ∀ a, a < hsz w → hkd w' a = hkd w a
section VEX
variable {w w' w2 : AH} {a b i k n : Nat} {x : Int32} {y : Int64} {r : Option Nat}
theorem Ext.refl (w : AH) : Ext w w := ⟨rfl, rfl, rfl, Nat.le_refl _, Nat.le_refl _, fun _ _ => rfl⟩
theorem Ext.trans (h : Ext w w') (g : Ext w' w2) : Ext w w2 := by
  obtain ⟨h1, h2, h3, h4, h5, h6⟩ := h
  obtain ⟨g1, g2, g3, g4, g5, g6⟩ := g
  exact ⟨g1.trans h1, g2.trans h2, g3.trans h3, Nat.le_trans h4 g4, Nat.le_trans h5 g5, fun a ha => (g6 a (Nat.lt_of_lt_of_le ha h4)).trans (h6 a ha)⟩
theorem Ext.I (hs : siI w a i x = w') : Ext w w' := hs ▸ Ext.refl w
theorem Ext.L (hs : siL w a i y = w') : Ext w w' := hs ▸ Ext.refl w
theorem Ext.R (hs : siR w a i r = w') : Ext w w' := hs ▸ Ext.refl w
theorem Ext.cI {s d : Nat} (hs : hcpI w b s a d n = w') : Ext w w' := hs ▸ Ext.refl w
theorem Ext.cL {s d : Nat} (hs : hcpL w b s a d n = w') : Ext w w' := hs ▸ Ext.refl w
theorem Ext.cR {s d : Nat} (hs : hcpR w b s a d n = w') : Ext w w' := hs ▸ Ext.refl w
theorem Ext.new (hs : hnew w k n = w') : Ext w w' := by
  subst hs
  refine ⟨rfl, rfl, rfl, Nat.le_succ _, Nat.le_add_right _ _, fun a ha => ?_⟩
  simp [hkd, hnew, up1, Nat.ne_of_lt ha]
theorem Ext.oob (hs : hoob w x n = w') : Ext w w' := by
  subst hs
  exact ⟨rfl, rfl, rfl, Nat.le_add_right _ _, Nat.le_add_right _ _, fun a ha => rfl⟩
end VEX
