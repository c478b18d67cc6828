/-! ===== more rows: copies of arrays, constants' strings, class objects ===== -/
section VQ
variable {X : CX} {cc : ByteArray} {own : String} {nL d : Nat} {w w' w1 : AH} {pc : Nat} {ls ls' : List (Option Value)} {st st' rest : List Value} {index ci k a a0 n0 n1 : Nat} {ty : FieldType} {v : Value} {i sp dp n : Int32}
theorem VW.upd {H H' : Heap} {locs L : List Loc} (h : VW X w H locs) (u1 : w'.1 = w.1) (u2 : w'.2.1 = w.2.1) (u3 : ∀ t q j, q ≠ a → svl w' t q j = svl w t q j) (hk : wr (hkd w a).1) (hz : H'.size = H.size) (ho : ∀ q, q ≠ a → H'[q]? = H[q]?)
    (hsl : ∀ c, H[a]? = some c → ∃ c', H'[a]? = some c' ∧ c'.slots.size = c.slots.size) (hL : ∀ q ∈ L, q.base = a) (hc : cellOk (xD X) w' a H') : VW X w' H' (locs ++ L) := by
  obtain ⟨⟨h1, h2, h3, h4, h5, h6, h7, h8⟩, hS, hss, hA, hr1, hr2⟩ := h
  have ess : slotSum H' = slotSum H := slotSum_same hz (fun q c hq => by
    by_cases e : q = a
    · subst e; exact hsl c hq
    · exact ⟨c, by rw [ho q e]; exact hq, rfl⟩)
  have ek : ∀ q, hkd w' q = hkd w q := fun q => by unfold hkd; rw [u2]
  refine ⟨⟨?_, ?_, ?_, ?_, fun q => ?_, ?_, fun q c hq => ?_, fun q hq => ?_⟩, ⟨by rw [hz]; exact hS.1, fun q g1 g2 => ?_, fun q hq => ?_⟩, by rw [ess]; exact hss, fun q hq => hA q (by rw [← ek q]; exact hq), ?_, ?_⟩
  · unfold hsz; rw [u1, hz]; exact h1
  · unfold hns; rw [u1, ess]; exact h2
  · unfold hsz hlc; rw [u1]; exact h3
  · unfold hns hls; rw [u1]; exact h4
  · by_cases e : q = a
    · subst e; exact hc
    · exact (h5 q).kept (ek q) (fun t j => u3 t q j e) (ho q e)
  · unfold hst; rw [u1]; exact h6
  · obtain ⟨g1, g2⟩ := h7 q c hq
    have e : q ≠ a := fun e => hk.1 (by rw [← e]; exact g2)
    exact ⟨by rw [ho q e]; exact g1, by rw [ek]; exact g2⟩
  · rw [ek] at hq
    unfold hsz; rw [u1]; exact h8 q hq
  · rw [ho q (fun e => g2 (by rw [e]; exact hA a hk))]
    exact hS.2.1 q g1 g2
  · rcases List.mem_append.mp hq with g | g
    · exact hS.2.2 q g
    · rw [hL q g]
      exact hA a hk
  · unfold hlc; rw [u1]; exact hr1
  · unfold hls; rw [u1]; exact hr2
/-- n slots of a0 from sp on, laid into a from dp on -/
def hcpI (w : AH) (a0 sp a dp n : Nat) : AH := (w.1, w.2.1, up1 w.2.2.1 a (va_cpy (hvi w a0) (hvi w a) sp dp n), w.2.2.2)
def hcpL (w : AH) (a0 sp a dp n : Nat) : AH := (w.1, w.2.1, w.2.2.1, up1 w.2.2.2.1 a (va_cpy (hvl w a0) (hvl w a) sp dp n), w.2.2.2.2)
def hcpR (w : AH) (a0 sp a dp n : Nat) : AH := (w.1, w.2.1, w.2.2.1, w.2.2.2.1, up1 w.2.2.2.2 a (va_cpy (hvr w a0) (hvr w a) sp dp n))
theorem cpy_map {α β : Type} (m : α → β) (f g : Nat → α) (s p n j : Nat) : m (va_cpy f g s p n j) = va_cpy (fun q => m (f q)) (fun q => m (g q)) s p n j := by
  unfold va_cpy
  split <;> rfl
theorem V_copyG (hk0 : hkd w a0 = (k, n0)) (hk1 : hkd w a = (k, n1)) (hz : k ≠ 0) (hk7 : k < 7) (hl : Cond.methodLink own index arraycopyName ∈ lw_all) (hn1 : Cond.native arraycopyName ∈ lw_all) (hn2 : Cond.static arraycopyName ∈ lw_all) (hn3 : Cond.initialized "java/lang/System" ∈ lw_all) (h1 : ¬ sp < 0) (h2 : ¬ dp < 0) (h3 : ¬ n < 0) (h4 : sp.toNatClampNeg + n.toNatClampNeg ≤ n0) (h5 : dp.toNatClampNeg + n.toNatClampNeg ≤ n1)
    (u1 : w'.1 = w.1) (u2 : w'.2.1 = w.2.1) (u3 : ∀ t q j, q ≠ a → svl w' t q j = svl w t q j) (u4 : ∀ j, svl w' (aty k) a j = va_cpy (svl w (aty k) a0) (svl w (aty k) a) sp.toNatClampNeg dp.toNatClampNeg n.toNatClampNeg j)
    (hty : ((refKind (aty k) != refKind (aty k)) || (!refKind (aty k) && aty k != aty k)) = false)
    (hvals : ∀ (H : Heap) (locs : List Loc), CXok X cc own nL d → VW X w H locs → ∀ (T : State) (vm' : Vm) (kd : Class) (dc : ClassId), T.heap = H → (xs X).vm.Alike vm' → (xs X).vm.classes[(xD X).2.1 k]? = some kd → kd.kind = .array dc (aty k) → ∀ i, i < n.toNatClampNeg → fits (aty k) (svl w (aty k) a0 (sp.toNatClampNeg + i)) = true ∧ (T.setVm vm').takes dc (svl w (aty k) a0 (sp.toNatClampNeg + i)))
    (hdd : 1 ≤ d) (hcat : (rest.map fun v => v.category).sum ≤ 8) (hd : decode cc pc = .ok (.invokestatic index, 3))
    (kk : V X cc own nL d w' (pc + 3) ls rest) : V X cc own nL d w pc ls (.int n :: .int dp :: .ref a :: .int sp :: .ref a0 :: rest) := by
  intro C H locs LS cells slots hW h
  have C0 := C
  obtain ⟨hx, hb, hml, hown, hts, hK, hA, hfr, hlo⟩ := C
  have nn : ∀ z : Int32, ¬ z < 0 → z.toInt = (z.toNatClampNeg : Int) := by
    intro z hz
    have hz0 : (0 : Int) ≤ z.toInt := by
      have := Int32.not_lt.mp hz
      simpa using Int32.le_iff_toInt_le.mp this
    show z.toInt = ((z.toInt.toNat : Nat) : Int)
    omega
  intro T hT Y
  have hc0 := (hW.1.2.2.2.2.1 a0).arr hk0 hz (by omega)
  have hc1 := (hW.1.2.2.2.2.1 a).arr hk1 hz (by omega)
  obtain ⟨-, kd, hkd0, cm, hkk⟩ := VW.arrOf (X := X) (k := k) C0 hz hk7 n0 (fun j => svl w (aty k) a0 j)
  obtain ⟨vm', X', step⟩ := Y.arraycopy hx hown (hts _ hl) (hts _ hn1) (hts _ hn2) (hts _ hn3) (src := a0) (dst := a) (cs := arrV ((xD X).2.1 k) n0 (fun j => svl w (aty k) a0 j)) (cd := arrV ((xD X).2.1 k) n1 (fun j => svl w (aty k) a j)) (srcPos := sp) (destPos := dp) (n := n) (by rw [hT]; exact hc0) (by rw [hT]; exact hc1)
    (fun _ h => by cases h) (fun _ h => by cases h) (fun h => by cases h) (fun h => by cases h) hkd0 hkd0 hkk hkk hty h1 h2 h3
    (by rw [nn sp h1, nn n h3, arrV_size]; omega)
    (by rw [nn dp h2, nn n h3, arrV_size]; omega)
    (fun vm₁ hal i hi => by
      have e : (arrV ((xD X).2.1 k) n0 (fun j => svl w (aty k) a0 j)).slots.getD (sp.toNatClampNeg + i) .null = svl w (aty k) a0 (sp.toNatClampNeg + i) := by
        rw [Array.getD_eq_getD_getElem?, arrV_read _ _ (by omega)]
        rfl
      rw [e]
      exact hvals H locs C0 hW T vm₁ kd cm hT hal hkd0 hkk i hi)
    (g := F0 (xm X) pc LS (.int n :: .int dp :: .ref a :: .int sp :: .ref a0 :: rest)) rfl (by rw [hml]; exact h.1) (rest := rest) rfl (by rw [hb]; exact hd) (by omega) (by show 2 * 0 + _ + _ ≤ _; have hw : nativeFrameWords "java/lang/System" "arraycopy" 5 ≤ 40 := (by decide); omega)
  have e1 : copied (arrV ((xD X).2.1 k) n0 (fun j => svl w (aty k) a0 j)) (arrV ((xD X).2.1 k) n1 (fun j => svl w (aty k) a j)) sp dp n = arrV ((xD X).2.1 k) n1 (fun j => svl w' (aty k) a j) := by
    have := va_copied (fun z : Value => z) ((xD X).2.1 k) ((xD X).2.1 k) (n1 := n1) (dp := dp.toNatClampNeg) (svl w (aty k) a0) (svl w (aty k) a) h4
    refine Eq.trans this ?_
    congr 1
    funext j
    exact (u4 j).symm
  rw [e1] at X' step
  have hl : a < H.size := (Array.getElem?_eq_some_iff.mp hc1).1
  have hheap : ((T.setVm vm').setCell a (arrV ((xD X).2.1 k) n1 (fun j => svl w' (aty k) a j))).heap = H.setIfInBounds a (arrV ((xD X).2.1 k) n1 (fun j => svl w' (aty k) a j)) := by rw [← hT]; rfl
  have ha : (H.setIfInBounds a (arrV ((xD X).2.1 k) n1 (fun j => svl w' (aty k) a j)))[a]? = some (arrV ((xD X).2.1 k) n1 (fun j => svl w' (aty k) a j)) := by simp [Array.getElem?_setIfInBounds, hl]
  have oq : ∀ q : Nat, q ≠ a → (H.setIfInBounds a (arrV ((xD X).2.1 k) n1 (fun j => svl w' (aty k) a j)))[q]? = H[q]? := fun q hq => by simp [Array.getElem?_setIfInBounds, Ne.symm hq]
  have hW' := hW.upd (a := a) (w' := w') (H' := H.setIfInBounds a (arrV ((xD X).2.1 k) n1 (fun j => svl w' (aty k) a j))) (L := ((arrV ((xD X).2.1 k) n0 (fun j => svl w (aty k) a0 j)).stretch sp.toNatClampNeg n.toNatClampNeg).zipIdx.map fun q => ⟨a, dp.toNatClampNeg + q.2⟩) u1 u2 u3 (by rw [hk1]; exact ⟨hz, by show k < 90; omega⟩) (by simp) oq (fun c hc => ⟨_, ha, by cases hc1.symm.trans hc; simp [arrV_size]⟩) (fun q hq => by
      obtain ⟨z, -, hz⟩ := List.mem_map.mp hq
      rw [← hz]) (by
      have ek : hkd w' a = (k, n1) := by unfold hkd; rw [u2]; exact hk1
      unfold cellOk
      rw [ek]
      exact cOk.of_arr (by omega) ha)
  obtain ⟨t, a1, b1⟩ := kk C0 _ _ LS _ _ hW' h _ hheap X'
  exact ⟨t, step t a1, b1⟩
def cpOk (sp n : Int32) (n0 : Nat) (dp : Int32) (n1 : Nat) : Bool := decide (¬ sp < 0) && decide (¬ dp < 0) && decide (¬ n < 0) && decide (sp.toNatClampNeg + n.toNatClampNeg ≤ n0) && decide (dp.toNatClampNeg + n.toNatClampNeg ≤ n1)
theorem cpOk_ex (h : cpOk sp n n0 dp n1 = true) : ¬ sp < 0 ∧ ¬ dp < 0 ∧ ¬ n < 0 ∧ sp.toNatClampNeg + n.toNatClampNeg ≤ n0 ∧ dp.toNatClampNeg + n.toNatClampNeg ≤ n1 := by
  simp only [cpOk, Bool.and_eq_true, decide_eq_true_eq] at h
  exact ⟨h.1.1.1.1, h.1.1.1.2, h.1.1.2, h.1.2, h.2⟩
def allF (p : Int32 → Bool) (f : Nat → Int32) (sp n : Nat) : Bool := (List.range n).all (fun i => p (f (sp + i)))
def isB (x : Int32) : Bool := fits .byte (.int x)
theorem allF_at {p : Int32 → Bool} {f : Nat → Int32} {sp n i : Nat} (h : allF p f sp n = true) (hi : i < n) : p (f (sp + i)) = true := List.all_eq_true.mp h i (List.mem_range.mpr hi)
theorem V_cpyI (hl : Cond.methodLink own index arraycopyName ∈ lw_all) (hn1 : Cond.native arraycopyName ∈ lw_all) (hn2 : Cond.static arraycopyName ∈ lw_all) (hn3 : Cond.initialized "java/lang/System" ∈ lw_all) (hk0 : hkd w a0 = (1, n0)) (hk1 : hkd w a = (1, n1)) (hok : cpOk sp n n0 dp n1 = true) (hdd : 1 ≤ d) (hcat : (rest.map fun v => v.category).sum ≤ 8) (hd : decode cc pc = .ok (.invokestatic index, 3)) (kk : V X cc own nL d (hcpI w a0 sp.toNatClampNeg a dp.toNatClampNeg n.toNatClampNeg) (pc + 3) ls rest) : V X cc own nL d w pc ls (.int n :: .int dp :: .ref a :: .int sp :: .ref a0 :: rest) := by
  obtain ⟨h1, h2, h3, h4, h5⟩ := cpOk_ex hok
  refine V_copyG (w' := hcpI w a0 sp.toNatClampNeg a dp.toNatClampNeg n.toNatClampNeg) hk0 hk1 (by decide) (by decide) hl hn1 hn2 hn3 h1 h2 h3 h4 h5 rfl rfl (fun t q j hq => by cases t <;> simp [svl, hcpI, hvi, hvl, hvr, up1, hq]) (fun j => ?_) (by simp) (fun H locs _ _ T vm' kd dc _ _ _ _ i _ => ⟨rfl, trivial⟩) hdd hcat hd kk
  show Value.int (up1 w.2.2.1 a _ a j) = _
  unfold up1
  rw [if_pos rfl]
  exact cpy_map Value.int _ _ _ _ _ _
theorem V_cpyZ (hl : Cond.methodLink own index arraycopyName ∈ lw_all) (hn1 : Cond.native arraycopyName ∈ lw_all) (hn2 : Cond.static arraycopyName ∈ lw_all) (hn3 : Cond.initialized "java/lang/System" ∈ lw_all) (hk0 : hkd w a0 = (3, n0)) (hk1 : hkd w a = (3, n1)) (hok : cpOk sp n n0 dp n1 = true) (hf : allF isZ (hvi w a0) sp.toNatClampNeg n.toNatClampNeg = true) (hdd : 1 ≤ d) (hcat : (rest.map fun v => v.category).sum ≤ 8) (hd : decode cc pc = .ok (.invokestatic index, 3)) (kk : V X cc own nL d (hcpI w a0 sp.toNatClampNeg a dp.toNatClampNeg n.toNatClampNeg) (pc + 3) ls rest) : V X cc own nL d w pc ls (.int n :: .int dp :: .ref a :: .int sp :: .ref a0 :: rest) := by
  obtain ⟨h1, h2, h3, h4, h5⟩ := cpOk_ex hok
  refine V_copyG (w' := hcpI w a0 sp.toNatClampNeg a dp.toNatClampNeg n.toNatClampNeg) hk0 hk1 (by decide) (by decide) hl hn1 hn2 hn3 h1 h2 h3 h4 h5 rfl rfl (fun t q j hq => by cases t <;> simp [svl, hcpI, hvi, hvl, hvr, up1, hq]) (fun j => ?_) (by simp) (fun H locs _ _ T vm' kd dc _ _ _ _ i hi => ⟨isZ_fit (allF_at hf hi), trivial⟩) hdd hcat hd kk
  show Value.int (up1 w.2.2.1 a _ a j) = _
  unfold up1
  rw [if_pos rfl]
  exact cpy_map Value.int _ _ _ _ _ _
theorem V_cpyB (hl : Cond.methodLink own index arraycopyName ∈ lw_all) (hn1 : Cond.native arraycopyName ∈ lw_all) (hn2 : Cond.static arraycopyName ∈ lw_all) (hn3 : Cond.initialized "java/lang/System" ∈ lw_all) (hk0 : hkd w a0 = (4, n0)) (hk1 : hkd w a = (4, n1)) (hok : cpOk sp n n0 dp n1 = true) (hf : allF isB (hvi w a0) sp.toNatClampNeg n.toNatClampNeg = true) (hdd : 1 ≤ d) (hcat : (rest.map fun v => v.category).sum ≤ 8) (hd : decode cc pc = .ok (.invokestatic index, 3)) (kk : V X cc own nL d (hcpI w a0 sp.toNatClampNeg a dp.toNatClampNeg n.toNatClampNeg) (pc + 3) ls rest) : V X cc own nL d w pc ls (.int n :: .int dp :: .ref a :: .int sp :: .ref a0 :: rest) := by
  obtain ⟨h1, h2, h3, h4, h5⟩ := cpOk_ex hok
  refine V_copyG (w' := hcpI w a0 sp.toNatClampNeg a dp.toNatClampNeg n.toNatClampNeg) hk0 hk1 (by decide) (by decide) hl hn1 hn2 hn3 h1 h2 h3 h4 h5 rfl rfl (fun t q j hq => by cases t <;> simp [svl, hcpI, hvi, hvl, hvr, up1, hq]) (fun j => ?_) (by simp) (fun H locs _ _ T vm' kd dc _ _ _ _ i hi => ⟨allF_at hf hi, trivial⟩) hdd hcat hd kk
  show Value.int (up1 w.2.2.1 a _ a j) = _
  unfold up1
  rw [if_pos rfl]
  exact cpy_map Value.int _ _ _ _ _ _
theorem V_cpyL (hl : Cond.methodLink own index arraycopyName ∈ lw_all) (hn1 : Cond.native arraycopyName ∈ lw_all) (hn2 : Cond.static arraycopyName ∈ lw_all) (hn3 : Cond.initialized "java/lang/System" ∈ lw_all) (hk0 : hkd w a0 = (2, n0)) (hk1 : hkd w a = (2, n1)) (hok : cpOk sp n n0 dp n1 = true) (hdd : 1 ≤ d) (hcat : (rest.map fun v => v.category).sum ≤ 8) (hd : decode cc pc = .ok (.invokestatic index, 3)) (kk : V X cc own nL d (hcpL w a0 sp.toNatClampNeg a dp.toNatClampNeg n.toNatClampNeg) (pc + 3) ls rest) : V X cc own nL d w pc ls (.int n :: .int dp :: .ref a :: .int sp :: .ref a0 :: rest) := by
  obtain ⟨h1, h2, h3, h4, h5⟩ := cpOk_ex hok
  refine V_copyG (w' := hcpL w a0 sp.toNatClampNeg a dp.toNatClampNeg n.toNatClampNeg) hk0 hk1 (by decide) (by decide) hl hn1 hn2 hn3 h1 h2 h3 h4 h5 rfl rfl (fun t q j hq => by cases t <;> simp [svl, hcpL, hvi, hvl, hvr, up1, hq]) (fun j => ?_) (by simp) (fun H locs _ _ T vm' kd dc _ _ _ _ i _ => ⟨rfl, trivial⟩) hdd hcat hd kk
  show Value.long (up1 w.2.2.2.1 a _ a j) = _
  unfold up1
  rw [if_pos rfl]
  exact cpy_map Value.long _ _ _ _ _ _
/-- an object of a class of the list -/
def isO (w : AH) (x : Option Nat) : Bool := match x with
  | none => true
  | some b => decide (10 ≤ (hkd w b).1) && decide ((hkd w b).1 < 37)
def allO (w : AH) (f : Nat → Option Nat) (sp n : Nat) : Bool := (List.range n).all (fun i => isO w (f (sp + i)))
theorem allO_at {f : Nat → Option Nat} {sp n i b : Nat} (h : allO w f sp n = true) (hi : i < n) (hb : f (sp + i) = some b) : 10 ≤ (hkd w b).1 ∧ (hkd w b).1 < 37 := by
  have := List.all_eq_true.mp h i (List.mem_range.mpr hi)
  rw [hb] at this
  simpa [isO] using this
theorem V_cpyR (cast : ∀ q ∈ clsL, Cond.castable q.1 "java/lang/Object" ∈ lw_nest) (hl : Cond.methodLink own index arraycopyName ∈ lw_all) (hn1 : Cond.native arraycopyName ∈ lw_all) (hn2 : Cond.static arraycopyName ∈ lw_all) (hn3 : Cond.initialized "java/lang/System" ∈ lw_all) (hk0 : hkd w a0 = (5, n0)) (hk1 : hkd w a = (5, n1)) (hok : cpOk sp n n0 dp n1 = true) (hf : allO w (hvr w a0) sp.toNatClampNeg n.toNatClampNeg = true) (hdd : 1 ≤ d) (hcat : (rest.map fun v => v.category).sum ≤ 8) (hd : decode cc pc = .ok (.invokestatic index, 3)) (kk : V X cc own nL d (hcpR w a0 sp.toNatClampNeg a dp.toNatClampNeg n.toNatClampNeg) (pc + 3) ls rest) : V X cc own nL d w pc ls (.int n :: .int dp :: .ref a :: .int sp :: .ref a0 :: rest) := by
  obtain ⟨h1, h2, h3, h4, h5⟩ := cpOk_ex hok
  refine V_copyG (w' := hcpR w a0 sp.toNatClampNeg a dp.toNatClampNeg n.toNatClampNeg) hk0 hk1 (by decide) (by decide) hl hn1 hn2 hn3 h1 h2 h3 h4 h5 rfl rfl (fun t q j hq => by cases t <;> simp [svl, hcpR, hvi, hvl, hvr, up1, hq]) (fun j => ?_) (by simp) (fun H locs C hW T vm' kd dc hT hal hkd' hkk i hi => ?_) hdd hcat hd kk
  · show va_rf (up1 w.2.2.2.2 a _ a j) = _
    unfold up1
    rw [if_pos rfl]
    exact cpy_map va_rf _ _ _ _ _ _
  · show fits _ (va_rf (hvr w a0 (sp.toNatClampNeg + i))) = true ∧ (T.setVm vm').takes dc (va_rf (hvr w a0 (sp.toNatClampNeg + i)))
    cases hy : hvr w a0 (sp.toNatClampNeg + i) with
    | none => exact ⟨rfl, trivial⟩
    | some y =>
      obtain ⟨g0, g1⟩ := allO_at hf hi hy
      have hlt : (hkd w y).1 - 10 < clsL.length := by show _ < 27; omega
      obtain ⟨Cn, T0, N, hq⟩ : ∃ (C : String) (T : u_T) (N : Nat), clsL[(hkd w y).1 - 10]? = some (C, T, N) := ⟨_, _, _, List.getElem?_eq_getElem hlt⟩
      obtain ⟨cellV, e1, e2, e3⟩ := VW.cell (a := y) C hW hq (by omega)
      have hK := C.2.2.2.2.2.1
      obtain ⟨hA5, hR5⟩ := hK.2.1 5 (by decide) (by decide)
      obtain ⟨kA, comp, r1, r2, r3, r4⟩ := hR5
      cases hkd'.symm.trans r1
      cases hkk.symm.trans r2
      have hcast : (xs X).vm.assignable cellV.cls dc = true := by
        have q := va_Nw.use (A := #[]) rfl (hK.2.2.1 _ (cast _ (List.mem_of_getElem? hq)))
        exact vq_cast q e3 r3
      obtain ⟨kC, hkC, -⟩ := Vm.findClass_spec e3
      obtain ⟨kE, hkE, -⟩ := Vm.findClass_spec r3
      obtain ⟨kC', hkC', -⟩ := hal.2.2 _ _ hkC
      obtain ⟨kE', hkE', -⟩ := hal.2.2 _ _ hkE
      refine ⟨rfl, cellV, (show T.heap[y]? = some cellV by rw [hT]; exact e1), (fun q h => by rw [h] at e2; cases e2), ⟨kC', hkC'⟩, ⟨kE', hkE'⟩, ?_⟩
      show vm'.assignable _ _ = true
      rw [hal.assignable]
      exact hcast
end VQ
/-! ===== calls of nest mates, of a face, of super; class objects; constants' strings; fields of several classes ===== -/
section VU
variable {X : CX} {cc : ByteArray} {own : String} {nL d : Nat} {w w' w1 : AH} {pc : Nat} {ls ls' : List (Option Value)} {st st' rest : List Value} {index ci k a b n maxL d' count : Nat} {ty : FieldType} {y : MethodName} {code : ByteArray} {ret : Option FieldType} {av : List Value} {v : Option Value} {i : Int32}
theorem V_run5 {H : Heap} {locs : List Loc} {LS : Array Slot} {cells slots mc ms : Nat} {a : Array Value} {v : Option Value} (hr : va_Run5 (xp X) (xl X) (xe X) (xR X) (xs X) (xm X) (xa X) (xb X) (xme X) (xc X) H locs cells slots mc ms (F0 (xm X) pc LS st) rest (QA (xD X) w (.returned v) w1 a) (fA w)) (C : CXok X cc own nL d) (hW : VW X w H locs) (h : lv_has LS nL (lpr 0 ls))
    (kk : V X cc own nL d w1 (pc + 5) ls (v.toList ++ rest)) : WX X H locs cells slots (F0 (xm X) pc LS st) := by
  intro T hT Y
  obtain ⟨v', st₀, t, T', L, h0, X', hL, e1, e2, ⟨hv, hH, hF, hns, hsup, hc1, hc2⟩, hgo⟩ := hr T hT Y
  cases hv
  obtain ⟨z1, z2, z3, z4, z5⟩ := hW.1
  obtain ⟨-, hS, hss, hA0, hr1, hr2⟩ := hW
  have hA := C.2.2.2.2.2.2.1
  have hsub : ∀ q, fA w q → xA X q := fun q hq => by
    rcases hq with g | g
    · exact hA0 q g
    · exact hA q (Nat.le_trans (by rw [← z1]; exact hS.1) g)
  obtain ⟨f1, f2⟩ := hF
  rw [h0] at f1 f2
  have hW1 : VW X w1 T'.heap (locs ++ L) := by
    refine ⟨by rw [e1]; exact hH, ⟨by rw [e1]; exact Nat.le_trans hS.1 f1, fun q g1 g2 => ?_, fun q hq => ?_⟩, ?_, fun q hq => hsub q (hsup q hq), by rw [hc1]; exact hr1, by rw [hc2]; exact hr2⟩
    · rw [e1, f2 q (Nat.lt_of_lt_of_le g1 hS.1) (fun z => g2 (hsub q z))]
      exact hS.2.1 q g1 g2
    · rcases List.mem_append.mp hq with g | g
      · exact hS.2.2 q g
      · exact hsub _ (hL q g)
    · rw [e1, hH.2.1]
      omega
  obtain ⟨t2, a1, b1⟩ := kk C T'.heap (locs ++ L) LS _ _ hW1 h T' rfl X'
  exact ⟨t2, hgo t2 a1, b1⟩
/-- a nest mate's private method, constructor -/
def NV (own : String) (index ci : Nat) (y : MethodName) (code : ByteArray) (maxL : Nat) (ret : Option FieldType) (n : Nat) : Prop :=
  (∃ (T : u_T) (N : Nat), clsL[ci]? = some (y.cls, T, N)) ∧ (∃ host, Cond.methodLinkNest own index y host ∈ lw_tbl) ∧ Cond.instanceMethod y ∈ lw_all ∧ Cond.selects y.cls y y ∈ lw_all ∧ Cond.initialized y.cls ∈ lw_all ∧ Cond.code y code maxL ret ∈ lw_all ∧ maxL ≤ 45 ∧ y.cls ≠ "java/lang/invoke/MethodHandle" ∧ y.cls ≠ "java/lang/invoke/VarHandle" ∧ (parseMethodDescriptor y.desc).map (fun d => d.parameters.length) = some n
theorem V_nV (hM : MA (xl X) (xD X) y code maxL ret d' (.ref b :: av) w (.returned v) w1) (hc : NV own index ci y code maxL ret n) (hk : (hkd w b).1 = 10 + ci) (hdd : d' + 1 ≤ d) (hn : av.length = n) (hst : st = av.reverse ++ .ref b :: rest) (hcat : (rest.map fun v => v.category).sum ≤ 8) (hd : decode cc pc = .ok (.invokevirtual index, 3)) (hs : v.toList ++ rest = st')
    (kk : V X cc own nL d w1 (pc + 3) ls st') : V X cc own nL d w pc ls st := by
  intro C H locs LS cells slots hW h
  have C0 := C
  obtain ⟨hx, hb, hml, hown, hts, hK, hA, hfr, hlo⟩ := C
  obtain ⟨⟨T, N, hcl⟩, ⟨host, q1⟩, q2, q3, q3', q4, q5, q6⟩ := hc
  obtain ⟨cell, g1, g2, g3⟩ := VW.cell C0 hW hcl hk
  refine WX_exact ?_
  exact V_run (va_runVN (C := y.cls) (host := host) (n := n) ⟨hx, hb, hml, hown, hts⟩ hM.met ⟨va_cnB n hts (lw_meth q4) rfl rfl rfl (hK.2.2.1 _ (List.mem_filter.mpr ⟨q1, rfl⟩)) (hts _ q3') q6 ⟨by show d' + 1 ≤ _; omega, by show 8 + (maxL + 11) + 64 * d' ≤ _; omega⟩, hts _ q2, hts _ q3⟩ ⟨PA.blind, ⟨cell, g1, g2, g3⟩, fun U hU hWm => ⟨rfl, by rw [hU]; exact hW.1, KN.warm hWm hK⟩⟩ rfl hn h.1 hst (lv_room hcat) hd (V_fits hW)) C0 hW h (hs ▸ kk)
def NI (own : String) (index : Nat) (y : MethodName) (code : ByteArray) (maxL : Nat) (n : Nat) : Prop :=
  y.name = "<init>" ∧ (∃ host, Cond.methodLinkNest own index y host ∈ lw_tbl) ∧ Cond.instanceMethod y ∈ lw_all ∧ Cond.initialized y.cls ∈ lw_all ∧ Cond.code y code maxL none ∈ lw_all ∧ maxL ≤ 45 ∧ y.cls ≠ "java/lang/invoke/MethodHandle" ∧ y.cls ≠ "java/lang/invoke/VarHandle" ∧ (parseMethodDescriptor y.desc).map (fun d => d.parameters.length) = some n
theorem V_nI (hM : MA (xl X) (xD X) y code maxL none d' (.ref b :: av) w (.returned v) w1) (hc : NI own index y code maxL n) (hdd : d' + 1 ≤ d) (hn : av.length = n) (hst : st = av.reverse ++ .ref b :: rest) (hcat : (rest.map fun v => v.category).sum ≤ 8) (hd : decode cc pc = .ok (.invokespecial index, 3)) (hs : v.toList ++ rest = st')
    (kk : V X cc own nL d w1 (pc + 3) ls st') : V X cc own nL d w pc ls st := by
  intro C H locs LS cells slots hW h
  have C0 := C
  obtain ⟨hx, hb, hml, hown, hts, hK, hA, hfr, hlo⟩ := C
  obtain ⟨q0, ⟨host, q1⟩, q2, q3, q4, q5, q6⟩ := hc
  refine WX_exact ?_
  exact V_run (va_runIN (host := host) (n := n) ⟨hx, hb, hml, hown, hts⟩ hM.met ⟨va_cnB n hts (lw_meth q4) rfl rfl rfl (hK.2.2.1 _ (List.mem_filter.mpr ⟨q1, rfl⟩)) (hts _ q3) q6 ⟨by show d' + 1 ≤ _; omega, by show 8 + (maxL + 11) + 64 * d' ≤ _; omega⟩, q0, hts _ q2⟩ ⟨PA.blind, fun U hU hWm => ⟨rfl, by rw [hU]; exact hW.1, KN.warm hWm hK⟩⟩ rfl hn h.1 hst (lv_room hcat) hd (V_fits hW)) C0 hW h (hs ▸ kk)
/-- super's method -/
def SU (own : String) (index ci : Nat) (y : MethodName) (code : ByteArray) (maxL : Nat) (ret : Option FieldType) (n : Nat) : Prop :=
  (∃ (C : String) (T : u_T) (N : Nat), clsL[ci]? = some (C, T, N)) ∧ Cond.methodLink own index y ∈ lw_all ∧ Cond.sameMethod y.cls y.cls y.name y.desc ∈ lw_all ∧ Cond.superclass own y.cls ∈ lw_all ∧ Cond.instanceMethod y ∈ lw_all ∧ Cond.initialized y.cls ∈ lw_all ∧ Cond.code y code maxL ret ∈ lw_all ∧ maxL ≤ 45 ∧ y.name ≠ "<init>" ∧ (parseMethodDescriptor y.desc).map (fun d => d.parameters.length) = some n
theorem V_su (hM : MA (xl X) (xD X) y code maxL ret d' (.ref b :: av) w (.returned v) w1) (hc : SU own index ci y code maxL ret n) (hk : (hkd w b).1 = 10 + ci) (hdd : d' + 1 ≤ d) (hn : av.length = n) (hst : st = av.reverse ++ .ref b :: rest) (hcat : (rest.map fun v => v.category).sum ≤ 8) (hd : decode cc pc = .ok (.invokespecial index, 3)) (hs : v.toList ++ rest = st')
    (kk : V X cc own nL d w1 (pc + 3) ls st') : V X cc own nL d w pc ls st := by
  intro C H locs LS cells slots hW h
  have C0 := C
  obtain ⟨hx, hb, hml, hown, hts, hK, hA, hfr, hlo⟩ := C
  obtain ⟨⟨Cn, T, N, hcl⟩, q1, q2, q3, q4, q5, q6, q7, q8, q9⟩ := hc
  obtain ⟨cell, g1, g2, g3⟩ := VW.cell C0 hW hcl hk
  refine WX_exact ?_
  refine V_run (va_runSU (C := Cn) (n := n) (hK.1 ci _ hcl).2 ⟨hx, hb, hml, hown, hts⟩ hM.met ⟨⟨rfl, rfl, by show d' + 1 ≤ _; omega, by show 8 + (maxL + 11) + 64 * d' ≤ _; omega, pay_in hts (lw_meth q6), List.mem_cons_self⟩, hts _ q1, hts _ q2, hts _ q3, hts _ q4, hts _ q5, hts _ q6, q8, fun sig hsig => ?_⟩ ⟨PA.blind, ⟨cell, g1, g2, g3⟩, fun U hU hWm => ⟨rfl, by rw [hU]; exact hW.1, KN.warm hWm hK⟩⟩ rfl hn h.1 hst (lv_room hcat) hd (V_fits hW)) C0 hW h (hs ▸ kk)
  rw [hsig] at q9
  exact (Option.some.inj q9).symm
/-- Collection.toArray of an ArrayList -/
theorem V_toArr {x : MethodName} {n : Nat} (hx0 : x = ⟨"java/util/Collection", "toArray", "()[Ljava/lang/Object;"⟩) (hy0 : y = ⟨"java/util/ArrayList", "toArray", "()[Ljava/lang/Object;"⟩) (hM : MA (xl X) (xD X) y code maxL ret d' [.ref b] w (.returned v) w1) (hcl0 : ∃ (T : u_T) (N : Nat), clsL[2]? = some ("java/util/ArrayList", T, N)) (q1 : Cond.methodLink own index x ∈ lw_all) (q2 : Cond.selects "java/util/ArrayList" x y ∈ lw_all) (q3 : Cond.instanceMethod y ∈ lw_all) (q4 : Cond.initialized y.cls ∈ lw_all) (q5 : Cond.code y code maxL ret ∈ lw_all) (q6 : maxL ≤ 45) (hk : (hkd w b).1 = 10 + 2) (hdd : d' + 1 ≤ d) (hcat : (rest.map fun v => v.category).sum ≤ 8) (hd : decode cc pc = .ok (.invokeinterface index count, 5)) (hs : v.toList ++ rest = st')
    (kk : V X cc own nL d w1 (pc + 5) ls st') : V X cc own nL d w pc ls (.ref b :: rest) := by
  subst hx0 hy0
  intro C H locs LS cells slots hW h
  have C0 := C
  obtain ⟨hx, hb, hml, hown, hts, hK, hA, hfr, hlo⟩ := C
  obtain ⟨T, N, hcl⟩ := hcl0
  obtain ⟨cell, g1, g2, g3⟩ := VW.cell C0 hW hcl hk
  obtain ⟨f1, f2, f3, f4, f5⟩ := hK.2.2.2.2.2.2.2.2
  refine WX_exact ?_
  refine V_run5 (va_runF (C := "java/util/ArrayList") (n := 0) (As := []) (b := b) (hK.1 2 _ hcl).2 ⟨hx, hb, hml, hown, hts⟩ hM.met ⟨⟨rfl, rfl, by show d' + 1 ≤ _; omega, by show 8 + (maxL + 11) + 64 * d' ≤ _; omega, pay_in hts (lw_meth q5), List.mem_cons_self⟩, hts _ q1, va_any rfl f1, va_any rfl f2, hts _ q2, hts _ q3, va_any rfl f3, va_any rfl f4, va_any rfl f5, hts _ q4, hts _ q5, by decide, fun sig hsig => ?_⟩ ⟨PA.blind, ⟨cell, g1, g2, g3⟩, fun U hU hWm => ⟨rfl, by rw [hU]; exact hW.1, KN.warm hWm hK⟩⟩ rfl rfl h.1 rfl (lv_room hcat) hd (V_fits hW)) C0 hW h (hs ▸ kk)
  have : (parseMethodDescriptor "()[Ljava/lang/Object;").map (fun d => d.parameters.length) = some 0 := by decide +kernel
  have hsig' : parseMethodDescriptor "()[Ljava/lang/Object;" = some sig := hsig
  rw [hsig'] at this
  exact (Option.some.inj this).symm
/-- the class object of Object[] -/
theorem V_ldcM (hl : Cond.classLink own index "[Ljava/lang/Object;" ∈ lw_all) (ha : hst w 1003 = some a) (hd : decode cc pc = .ok (.ldc index, 2)) (kk : V X cc own nL d w (pc + 2) ls (.ref a :: st)) : V X cc own nL d w pc ls st := by
  intro C H locs LS cells slots hW h
  obtain ⟨mi, e1, e2⟩ := C.2.2.2.2.2.1.2.2.2.2.2.2.2.1
  rw [hW.1.2.2.2.2.2.1] at ha
  cases ha.symm.trans e1
  exact va_ldcM C.1 C.2.1 C.2.2.2.1 (C.2.2.2.2.1 _ hl) e2 hd (kk C H locs LS cells slots hW h)
theorem V_getC {n : Nat} (hl : Cond.methodLink own index ⟨"java/lang/Object", "getClass", "()Ljava/lang/Class;"⟩ ∈ lw_all) (h2 : Cond.declares ⟨"java/lang/Object", "getClass", "()Ljava/lang/Class;"⟩ ∈ lw_tbl) (h3 : Cond.selects "[Ljava/lang/Object;" ⟨"java/lang/Object", "getClass", "()Ljava/lang/Class;"⟩ ⟨"java/lang/Object", "getClass", "()Ljava/lang/Class;"⟩ ∈ lw_all) (h4 : Cond.instanceMethod ⟨"java/lang/Object", "getClass", "()Ljava/lang/Class;"⟩ ∈ lw_all) (h5 : Cond.native ⟨"java/lang/Object", "getClass", "()Ljava/lang/Class;"⟩ ∈ lw_all)
    (hk : hkd w a = (5, n)) (ha : hst w 1003 = some b) (hdd : 1 ≤ d) (hcat : (rest.map fun v => v.category).sum ≤ 8) (hd : decode cc pc = .ok (.invokevirtual index, 3)) (kk : V X cc own nL d w (pc + 3) ls (.ref b :: rest)) : V X cc own nL d w pc ls (.ref a :: rest) := by
  intro C H locs LS cells slots hW h
  have C0 := C
  obtain ⟨hx, hb, hml, hown, hts, hK, hA, hfr, hlo⟩ := C
  obtain ⟨mi, e1, e2⟩ := hK.2.2.2.2.2.2.2.1
  rw [hW.1.2.2.2.2.2.1] at ha
  cases ha.symm.trans e1
  have hc := (hW.1.2.2.2.2.1 a).arr hk (by decide) (by decide)
  have hR := (hK.2.1 5 (by decide) (by decide)).2
  exact va_getC hx hb (by rw [hml]; exact h.1.symm) hown (hts _ hl) (va_Nw.use rfl (hK.2.2.1 _ (List.mem_filter.mpr ⟨h2, rfl⟩))) (hts _ h3) (hts _ h4) (hts _ h5) e2 ⟨_, hc, rfl, va_nmO hR (by decide)⟩ (by omega) (by omega) hd (kk C0 H locs LS cells slots hW h)
/-! constants' strings -/
theorem VW.str {H : Heap} {locs : List Loc} (hW : VW X w H locs) (hk : (hkd w a).1 = 90) : ∃ cell : Cell, H[a]? = some cell ∧ cell.vm.isStatics = false ∧ cell.vm ≠ .unknown ∧ cell.cls = (xD X).1.1 26 ∧ ∀ j, j < 2 → cell.slots[(xD X).1.2 26 j]? = some (svl w (tyL 26 j) a j) := (hW.1.2.2.2.2.1 a).2.2.1 (by omega) (by omega)
theorem V_getS (hF : FL own index 26 k ty) (hk : (hkd w a).1 = 90) {v : Value} (hv : svl w ty a k = v) (hd : decode cc pc = .ok (.getfield index, 3)) (kk : V X cc own nL d w (pc + 3) ls (v :: st)) : V X cc own nL d w pc ls (.ref a :: st) := by
  intro C H locs LS cells slots hW h
  have hkk := kk C H locs LS cells slots hW h
  obtain ⟨ref, Cn, T, N, ⟨hc, hin, hty, hnm⟩, hkN, htk, hlink, hsame⟩ := hF
  obtain ⟨hx, hb, hml, hown, hts, hK, hA, hfr, hlo⟩ := C
  obtain ⟨cell, q1, q2, q3, q5, q4⟩ := hW.str hk
  obtain ⟨hS, hfc, kC, hkC, hkind⟩ := hK.1 26 _ hc
  obtain ⟨cf, kf, fi, f, hi, hsl⟩ := hS k hkN
  have hi' : (xs X).fieldFound? ref (T k).2.1 (T k).2.2.1 = some (cf, kf, fi, f) := by
    rcases hsame with e | e
    · rw [e]; exact hi
    · exact u_same (hts _ e) _ hi
  have hN : N = 2 := by cases hc; rfl
  refine W.getf hx hb hown (hts _ hlink) hi' (u_facts hfc hkC (u_lays hts hin hkN) hi).1 q1 (by first | exact q3 | (intro z; exact q3 z)) (v := v) ?_ rfl rfl hd hkk
  rw [hsl, q4 k (by omega)]
  show some (svl w (tyL 26 k) a k) = some v
  rw [htk, hv]
theorem VW.car {H : Heap} {locs : List Loc} (C : CXok X cc own nL d) (hW : VW X w H locs) (hk : hkd w a = (k, n)) (h1 : 100 ≤ k) (h2 : k < 141) : ∃ cell : Cell, H[a]? = some cell ∧ (xs X).isArrayOf cell .byte ∧ cell.vm ≠ .unknown ∧ cell.slots.size = n ∧ ∀ j, j < n → cell.slots[j]? = some (.int (hvi w a j)) := by
  have h := hW.1.2.2.2.2.1 a
  unfold cellOk at h
  rw [hk] at h
  obtain ⟨cell, e1, e2, e3, e4, e5, e6⟩ := h.2.2.2 h1
  obtain ⟨kc, comp, g1, g2⟩ := C.2.2.2.2.2.1.2.2.2.2.2.1 (k - 100) (by omega)
  have e4' : cell.cls = (xD X).2.2.1 (k - 100) := e4
  refine ⟨cell, e1, ⟨fun z hz => by (rw [hz] at e2; cases e2), kc, by rw [e4']; exact g1, comp, g2⟩, e3, e5, e6⟩
theorem V_alenC (hk : hkd w a = (k, n)) (h1 : 100 ≤ k) (h2 : k < 141) (hd : decode cc pc = .ok (.arraylength, 1)) (kk : V X cc own nL d w (pc + 1) ls (.int (Int32.ofNat n) :: st)) : V X cc own nL d w pc ls (.ref a :: st) := by
  intro C H locs LS cells slots hW h
  obtain ⟨cell, e1, e2, e3, e4, e5⟩ := VW.car C hW hk h1 h2
  exact W.alen C.1 C.2.1 e1 e2 (by rw [e4]) rfl rfl hd (kk C H locs LS cells slots hW h)
theorem V_baldC (hk : hkd w a = (k, n)) (h1 : 100 ≤ k) (h2 : k < 141) (hin : vp_in i n) (hd : decode cc pc = .ok (.baload, 1)) (kk : V X cc own nL d w (pc + 1) ls (.int (hvi w a i.toNatClampNeg) :: st)) : V X cc own nL d w pc ls (.int i :: .ref a :: st) := by
  intro C H locs LS cells slots hW h
  obtain ⟨cell, e1, e2, e3, e4, e5⟩ := VW.car C hW hk h1 h2
  have hlt : i.toNatClampNeg < n := Nat.not_le.mp fun q => hin (Or.inr q)
  exact W.bald (v := .int (hvi w a i.toNatClampNeg)) C.1 C.2.1 e1 e2 e3 (by rw [e4]; exact hin) (e5 _ hlt) rfl rfl hd (kk C H locs LS cells slots hW h)
theorem V_sV (hM : MA (xl X) (xD X) y code maxL ret d' (.ref b :: av) w (.returned v) w1) (hc : VCm own index 26 y code maxL ret n) (hk : (hkd w b).1 = 90) (hdd : d' + 1 ≤ d) (hn : av.length = n) (hst : st = av.reverse ++ .ref b :: rest) (hcat : (rest.map fun v => v.category).sum ≤ 8) (hd : decode cc pc = .ok (.invokevirtual index, 3)) (hs : v.toList ++ rest = st')
    (kk : V X cc own nL d w1 (pc + 3) ls st') : V X cc own nL d w pc ls st := by
  intro C H locs LS cells slots hW h
  have C0 := C
  obtain ⟨hx, hb, hml, hown, hts, hK, hA, hfr, hlo⟩ := C
  obtain ⟨⟨T, N, hcl⟩, q1, q2, q3, q3', q4, q5, q6⟩ := hc
  obtain ⟨cell, g1, g2, g3, g4, -⟩ := hW.str hk
  refine WX_exact ?_
  exact V_run (va_runV (C := y.cls) (n := n) ⟨hx, hb, hml, hown, hts⟩ hM.met ⟨callB_of n hts (lw_meth q4) rfl rfl rfl (hts _ q3') (hts _ q1) q6 ⟨by show d' + 1 ≤ _; omega, by show 8 + (maxL + 11) + 64 * d' ≤ _; omega⟩, hts _ q2, hts _ q3⟩ ⟨PA.blind, ⟨cell, g1, g2, by rw [g4]; exact (hK.1 26 _ hcl).2.1⟩, fun U hU hWm => ⟨rfl, by rw [hU]; exact hW.1, KN.warm hWm hK⟩⟩ rfl hn h.1 hst (lv_room hcat) hd (V_fits hW)) C0 hW h (hs ▸ kk)
/-! fields of several classes -/
def kIn (k : Nat) (cs : List Nat) : Bool := cs.any (fun c => k == 10 + c)
theorem kIn_ex {k : Nat} {cs : List Nat} (h : kIn k cs = true) : ∃ c ∈ cs, k = 10 + c := by
  obtain ⟨c, h1, h2⟩ := List.any_eq_true.mp h
  exact ⟨c, h1, by simpa using h2⟩
def FA (own : String) (index ci k : Nat) (ty : FieldType) : Prop := FL own index ci k ty ∨ FN own index ci k ty
def FW (own : String) (index ci k : Nat) (ty : FieldType) : Prop := FLw own index ci k ty ∨ FNw own index ci k ty
section VUF
variable {cs : List Nat} {x : Option Nat} {u : Int32} {u8 : Int64}
theorem VP_get {v : Value} (hF : ∀ c ∈ cs, FA own index c k ty) (hk : kIn (hkd w a).1 cs = true) (hv : svl w ty a k = v) (hd : decode cc pc = .ok (.getfield index, 3)) (kk : V X cc own nL d w (pc + 3) ls (v :: st)) : V X cc own nL d w pc ls (.ref a :: st) := by
  obtain ⟨c, h1, h2⟩ := kIn_ex hk
  rcases hF c h1 with h | h
  · exact V_get h h2 hv hd kk
  · exact V_getN h h2 hv hd kk
theorem VP_getI (hF : ∀ c ∈ cs, FA own index c k ty) (hk : kIn (hkd w a).1 cs = true) (ht : isI ty = true) (hd : decode cc pc = .ok (.getfield index, 3)) (kk : V X cc own nL d w (pc + 3) ls (.int (hvi w a k) :: st)) : V X cc own nL d w pc ls (.ref a :: st) := VP_get hF hk (by cases ty <;> first | rfl | (exact absurd ht (by simp [isI]))) hd kk
theorem VP_getL (hF : ∀ c ∈ cs, FA own index c k .long) (hk : kIn (hkd w a).1 cs = true) (hd : decode cc pc = .ok (.getfield index, 3)) (kk : V X cc own nL d w (pc + 3) ls (.long (hvl w a k) :: st)) : V X cc own nL d w pc ls (.ref a :: st) := VP_get hF hk rfl hd kk
theorem VP_getR (hF : ∀ c ∈ cs, FA own index c k ty) (hk : kIn (hkd w a).1 cs = true) (ht : isI ty = false) (ht2 : isL ty = false) (hx : hvr w a k = x) (hd : decode cc pc = .ok (.getfield index, 3)) (kk : V X cc own nL d w (pc + 3) ls (va_rf x :: st)) : V X cc own nL d w pc ls (.ref a :: st) := VP_get hF hk (by rw [← hx]; cases ty <;> first | rfl | (simp [isI] at ht; done) | (simp [isL] at ht2; done)) hd kk
theorem VP_put {v : Value} (hF : ∀ c ∈ cs, FW own index c k ty) (hk : kIn (hkd w a).1 cs = true) (hu : Upd w w' a k ty v) (hn : narrow ty v = v) (hfit : fits ty v = true) (hd : decode cc pc = .ok (.putfield index, 3)) (kk : V X cc own nL d w' (pc + 3) ls st) : V X cc own nL d w pc ls (v :: .ref a :: st) := by
  obtain ⟨c, h1, h2⟩ := kIn_ex hk
  rcases hF c h1 with h | h
  · exact V_put h h2 hu hn hfit hd kk
  · exact V_putN h h2 hu hn hfit hd kk
theorem VP_putF {v : Value} (hF : ∀ c ∈ cs, FLf own index c k ty) (hk : kIn (hkd w a).1 cs = true) (hin2 : (xme X).name = "<init>") (hu : Upd w w' a k ty v) (hn : narrow ty v = v) (hfit : fits ty v = true) (hd : decode cc pc = .ok (.putfield index, 3)) (kk : V X cc own nL d w' (pc + 3) ls st) : V X cc own nL d w pc ls (v :: .ref a :: st) := by
  obtain ⟨c, h1, h2⟩ := kIn_ex hk
  exact V_putF (hF c h1) h2 hin2 hu hn hfit hd kk
end VUF
def CCa (own : String) (index : Nat) (cs : List Nat) : Prop := ∀ c ∈ cs, CC own index c
theorem VP_cast {cs : List Nat} (hc : CCa own index cs) (hk : kIn (hkd w a).1 cs = true) (hd : decode cc pc = .ok (.checkcast index, 3)) (kk : V X cc own nL d w (pc + 3) ls (.ref a :: st)) : V X cc own nL d w pc ls (.ref a :: st) := by
  obtain ⟨c, h1, h2⟩ := kIn_ex hk
  exact V_cast (hc c h1) h2 hd kk
end VU
