/-! ===== the law's world: FirstPolls (w) and FirstPollsModel (σ at h) side by side ===== -/
def Mr (h : Nat) (a : Nat) : Bool := decide (h ≤ a) && decide (a < h + 33)
def WB (h : Nat) (w : AH) (σ : SM) : AH := mrg (Mr h) (wM w.1 h σ) w
def LI (h x : Nat) (w : AH) : Prop := (∀ a, Mr h a = true → (hkd w a).1 = 0 ∧ a < hsz w) ∧ (hkd w x).1 = 10 ∧ x < hsz w
section VLW
variable {h x : Nat} {w w1 : AH} {σ σ1 : SM} {l : Launch} {D : DD} {y : MethodName} {code : ByteArray} {maxL d : Nat} {ret : Option FieldType} {av : List Value} {o : Outcome} {hh : List (Nat × Nat × Nat × Nat)}
theorem LI.ext (hL : LI h x w) (e : Ext w w1) : LI h x w1 := by
  obtain ⟨h1, h2, h3⟩ := hL
  obtain ⟨e1, e2, e3, e4, e5, e6⟩ := e
  exact ⟨fun a ha => ⟨by rw [e6 a (h1 a ha).2]; exact (h1 a ha).1, Nat.lt_of_lt_of_le (h1 a ha).2 e4⟩, by rw [e6 x h3]; exact h2, Nat.lt_of_lt_of_le h3 e4⟩
theorem WB_kx (hL : LI h x w) : (hkd (WB h w σ) x).1 = 10 + 0 := by
  have hm : ¬ Mr h x = true := fun hm => by have := (hL.1 x hm).1; rw [hL.2.1] at this; cases this
  unfold WB
  rw [mrg_kf hm]
  exact hL.2.1
theorem WB_kh : (hkd (WB h w σ) h).1 = 10 + 8 := by
  have hm : Mr h h = true := by simp [Mr]
  unfold WB
  rw [mrg_kt hm]
  exact wM_k0 _ _ _
theorem WB_off (a : Nat) (hm : ¬ Mr h a = true) (z : ZZ) : (hkd (wM z h σ) a).1 = 0 := by
  unfold hkd wM
  show (if a < h then ((0 : Nat), (0 : Nat)) else mK (a - h)).1 = 0
  by_cases g : a < h
  · rw [if_pos g]
  · rw [if_neg g]
    have : 33 ≤ a - h := by
      simp only [Mr, Bool.and_eq_true, decide_eq_true_eq] at hm
      omega
    obtain ⟨k, hk⟩ : ∃ k, a - h = k + 33 := ⟨a - h - 33, by omega⟩
    rw [hk]
    rfl
theorem callA (hL : LI h x w) (hM : MA l D y code maxL ret d av w o w1) : MA l D y code maxL ret d av (WB h w σ) o (WB h w1 σ) := MX.frameA (M := Mr h) (u := wM w.1 h σ) hL.1 hM
theorem callAW (hL : LI h x w) (hM : MAW l D y code maxL ret hh d av w o w1) : MAW l D y code maxL ret hh d av (WB h w σ) o (WB h w1 σ) := MX.frameA (M := Mr h) (u := wM w.1 h σ) hL.1 hM
theorem callB (hM : MA l D y code maxL ret d av (wM w.1 h σ) o (wM w.1 h σ1)) : MA l D y code maxL ret d av (WB h w σ) o (WB h w σ1) := MX.frameB (M := Mr h) rfl rfl (fun a hm => WB_off a hm _) hM
end VLW
