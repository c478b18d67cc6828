set_option maxRecDepth 100000
theorem if_ex2 {c : Prop} {_ : Decidable c} {α : Type} {a b o : α} (h : (if c then a else b) = o) : (c ∧ a = o) ∨ (¬ c ∧ b = o) := by
  by_cases hc : c
  · rw [if_pos hc] at h; exact Or.inl ⟨hc, h⟩
  · rw [if_neg hc] at h; exact Or.inr ⟨hc, h⟩
theorem scm_I {σ σ' : SM} {j i : Nat} {v : Int32} (hs : sI σ j i v = σ') (h : ¬ mO j i) : ScM σ σ' := hs ▸ ScM.sI j i v h
theorem scm_L {σ σ' : SM} {j i : Nat} {v : Int64} (hs : sL σ j i v = σ') : ScM σ σ' := hs ▸ ScM.sL j i v
set_option maxHeartbeats 4000000 in
theorem mM_of_s (p0 : Int32) (p1 : Int32) (σ : SM) (r : Int32) (σ' : SM)  (hf : mM_of p0 p1 σ = some (r, σ')) : ScM σ σ' := by
  unfold mM_of at hf
  have hx := ScM.refl σ
  obtain ⟨σ1, hs2, hf⟩ := st1_ex hf
  have hy := scm_I hs2
  have hx := hx.trans (hy (by unfold mO; omega))
  obtain ⟨r4, hc3, hf⟩ := bd1_ex hf
  rcases if_ex2 hf with ⟨hc5, hf⟩ | ⟨hc5, hf⟩
  · skip
    cases some_ex hf
    exact hx
  · skip
    obtain ⟨r7, hc6, hf⟩ := bd1_ex hf
    rcases if_ex2 hf with ⟨hc8, hf⟩ | ⟨hc8, hf⟩
    · skip
      cases some_ex hf
      exact hx
    · skip
      obtain ⟨r10, hc9, hf⟩ := bd1_ex hf
      obtain ⟨hb11, hf⟩ := ck_ex hf
      cases some_ex hf
      exact hx
set_option maxHeartbeats 4000000 in
theorem mM_where_s (p0 : Int32) (p1 : Int32) (p2 : Int32) (σ : SM) (r : Int32) (σ' : SM)  (hf : mM_where p0 p1 p2 σ = some (r, σ')) : ScM σ σ' := by
  unfold mM_where at hf
  have hx := ScM.refl σ
  obtain ⟨σ1, hs2, hf⟩ := st1_ex hf
  have hy := scm_I hs2
  have hx := hx.trans (hy (by unfold mO; omega))
  obtain ⟨r4, hc3, hf⟩ := bd1_ex hf
  rcases if_ex2 hf with ⟨hc5, hf⟩ | ⟨hc5, hf⟩
  · skip
    cases some_ex hf
    exact hx
  · skip
    obtain ⟨r7, hc6, hf⟩ := bd1_ex hf
    rcases if_ex2 hf with ⟨hc8, hf⟩ | ⟨hc8, hf⟩
    · skip
      cases some_ex hf
      exact hx
    · skip
      obtain ⟨r10, hc9, hf⟩ := bd1_ex hf
      rcases if_ex2 hf with ⟨hc11, hf⟩ | ⟨hc11, hf⟩
      · skip
        cases some_ex hf
        exact hx
      · skip
        obtain ⟨r13, hc12, hf⟩ := bd1_ex hf
        obtain ⟨hb14, hf⟩ := ck_ex hf
        rcases if_ex2 hf with ⟨hc15, hf⟩ | ⟨hc15, hf⟩
        · skip
          cases some_ex hf
          exact hx
        · skip
          obtain ⟨r17, hc16, hf⟩ := bd1_ex hf
          cases some_ex hf
          exact hx
set_option maxHeartbeats 4000000 in
theorem mM_findForce_163_s {σ' : SM}  (k31 : Int32 → Int32 → SM → Option (SM)) (hk31 : ∀ (v1 : Int32) (v2 : Int32) (σ : SM), k31 v1 v2 σ = some σ' → ScM σ σ') (v1 : Int32) (v2 : Int32) (σ : SM) (hf : mM_findForce_163 k31 v1 v2 σ = some σ') : ScM σ σ' := by
  unfold mM_findForce_163 at hf
  have hx := ScM.refl σ
  exact hx.trans (hk31 v1 (v2 + (-1 : Int32)) σ hf)
set_option maxHeartbeats 4000000 in
theorem mM_findForce_157_s {σ' : SM}  (k61 : Int32 → Int32 → Int32 → SM → Option (SM)) (hk61 : ∀ (v1 : Int32) (v2 : Int32) (v3 : Int32) (σ : SM), k61 v1 v2 v3 σ = some σ' → ScM σ σ') (v1 : Int32) (v2 : Int32) (v3 : Int32) (σ : SM) (hf : mM_findForce_157 k61 v1 v2 v3 σ = some σ') : ScM σ σ' := by
  unfold mM_findForce_157 at hf
  have hx := ScM.refl σ
  exact hx.trans (hk61 v1 v2 (v3 + (1 : Int32)) σ hf)
set_option maxHeartbeats 4000000 in
theorem mM_findForce_61_s {σ' : SM}  (k31 : Int32 → Int32 → SM → Option (SM)) (hk31 : ∀ (v1 : Int32) (v2 : Int32) (σ : SM), k31 v1 v2 σ = some σ' → ScM σ σ') (k61 : Int32 → Int32 → Int32 → SM → Option (SM)) (hk61 : ∀ (v1 : Int32) (v2 : Int32) (v3 : Int32) (σ : SM), k61 v1 v2 v3 σ = some σ' → ScM σ σ') (v1 : Int32) (v2 : Int32) (v3 : Int32) (σ : SM) (hf : mM_findForce_61 k31 k61 v1 v2 v3 σ = some σ') : ScM σ σ' := by
  unfold mM_findForce_61 at hf
  have hx := ScM.refl σ
  obtain ⟨r2, hc1, hf⟩ := bd1_ex hf
  obtain ⟨hb3, hf⟩ := ck_ex hf
  rcases if_ex2 hf with ⟨hc4, hf⟩ | ⟨hc4, hf⟩
  · skip
    exact hx.trans (mM_findForce_163_s k31 hk31 v1 v2 σ hf)
  · skip
    obtain ⟨hb5, hf⟩ := ck_ex hf
    rcases if_ex2 hf with ⟨hc6, hf⟩ | ⟨hc6, hf⟩
    · skip
      exact hx.trans (mM_findForce_163_s k31 hk31 v1 v2 σ hf)
    · skip
      obtain ⟨r8, hc7, hf⟩ := bd1_ex hf
      obtain ⟨hb9, hf⟩ := ck_ex hf
      rcases (if_ex2 hf).symm with ⟨hc10, hf⟩ | ⟨hc10, hf⟩
      · skip
        exact hx.trans (mM_findForce_157_s k61 hk61 v1 v2 v3 σ hf)
      · skip
        obtain ⟨hb11, hf⟩ := ck_ex hf
        rcases (if_ex2 hf).symm with ⟨hc12, hf⟩ | ⟨hc12, hf⟩
        · skip
          exact hx.trans (mM_findForce_157_s k61 hk61 v1 v2 v3 σ hf)
        · skip
          obtain ⟨hb13, hf⟩ := ck_ex hf
          rcases if_ex2 hf with ⟨hc14, hf⟩ | ⟨hc14, hf⟩
          · skip
            exact hx.trans (mM_findForce_157_s k61 hk61 v1 v2 v3 σ hf)
          · skip
            obtain ⟨hb15, hf⟩ := ck_ex hf
            obtain ⟨hb16, hf⟩ := ck_ex hf
            obtain ⟨hb17, hf⟩ := ck_ex hf
            obtain ⟨σ18, hs19, hf⟩ := st1_ex hf
            have hy := scm_I hs19
            have hx := hx.trans (hy (by unfold mO; omega))
            exact hx.trans (mM_findForce_157_s k61 hk61 v1 v2 v3 σ18 hf)
set_option maxHeartbeats 4000000 in
theorem mM_findForce_58_s {σ' : SM}  (k31 : Int32 → Int32 → SM → Option (SM)) (hk31 : ∀ (v1 : Int32) (v2 : Int32) (σ : SM), k31 v1 v2 σ = some σ' → ScM σ σ') (v1 : Int32) (v2 : Int32) (t0 : Int32) (t1 : Int32) (σ : SM) (hf : mM_findForce_58 k31 v1 v2 t0 t1 σ = some σ') : ScM σ σ' := by
  unfold mM_findForce_58 at hf
  have hx := ScM.refl σ
  obtain ⟨hb1, hf⟩ := ck_ex hf
  obtain ⟨hb2, hf⟩ := ck_ex hf
  obtain ⟨σ3, hs4, hf⟩ := st1_ex hf
  have hy := scm_I hs4
  have hx := hx.trans (hy (by unfold mO; omega))
  exact hx.trans (lq4_ex (P := fun v1 v2 v3 σ => ScM σ σ') (fun k hk v1 v2 v3 σ hf => mM_findForce_61_s k31 hk31 k hk v1 v2 v3 σ hf) LF v1 v2 (0 : Int32) σ3 hf)
set_option maxHeartbeats 4000000 in
theorem mM_findForce_31_s {σ' : SM}  (k31 : Int32 → Int32 → SM → Option (SM)) (hk31 : ∀ (v1 : Int32) (v2 : Int32) (σ : SM), k31 v1 v2 σ = some σ' → ScM σ σ') (v1 : Int32) (v2 : Int32) (σ : SM) (hf : mM_findForce_31 k31 v1 v2 σ = some σ') : ScM σ σ' := by
  unfold mM_findForce_31 at hf
  have hx := ScM.refl σ
  rcases if_ex2 hf with ⟨hc1, hf⟩ | ⟨hc1, hf⟩
  · skip
    cases some_ex hf
    exact hx
  · skip
    obtain ⟨r3, hc2, hf⟩ := bd1_ex hf
    obtain ⟨hb4, hf⟩ := ck_ex hf
    rcases if_ex2 hf with ⟨hc5, hf⟩ | ⟨hc5, hf⟩
    · skip
      exact hx.trans (mM_findForce_58_s k31 hk31 v1 v2 (0 : Int32) v2 σ hf)
    · skip
      exact hx.trans (mM_findForce_58_s k31 hk31 v1 v2 (1 : Int32) v2 σ hf)
set_option maxHeartbeats 4000000 in
theorem mM_findForce_2_s {σ' : SM}  (k2 : Int32 → Int32 → SM → Option (SM)) (hk2 : ∀ (v1 : Int32) (v2 : Int32) (σ : SM), k2 v1 v2 σ = some σ' → ScM σ σ') (v1 : Int32) (v2 : Int32) (σ : SM) (hf : mM_findForce_2 k2 v1 v2 σ = some σ') : ScM σ σ' := by
  unfold mM_findForce_2 at hf
  have hx := ScM.refl σ
  rcases if_ex2 hf with ⟨hc1, hf⟩ | ⟨hc1, hf⟩
  · skip
    exact hx.trans (lq3_ex (P := fun v1 v2 σ => ScM σ σ') (fun k hk v1 v2 σ hf => mM_findForce_31_s k hk v1 v2 σ hf) LF v1 ((gI σ 1 2) - (1 : Int32)) σ hf)
  · skip
    obtain ⟨hb2, hf⟩ := ck_ex hf
    obtain ⟨σ3, hs4, hf⟩ := st1_ex hf
    have hy := scm_I hs4
    have hx := hx.trans (hy (by unfold mO; omega))
    exact hx.trans (hk2 v1 (v2 + (1 : Int32)) σ3 hf)
set_option maxHeartbeats 4000000 in
theorem mM_findForce_s (p0 : Int32) (σ : SM) (σ' : SM)  (hf : mM_findForce p0 σ = some σ') : ScM σ σ' := by
  unfold mM_findForce at hf
  have hx := ScM.refl σ
  exact hx.trans (lq3_ex (P := fun v1 v2 σ => ScM σ σ') (fun k hk v1 v2 σ hf => mM_findForce_2_s k hk v1 v2 σ hf) LF p0 (0 : Int32) σ hf)
set_option maxHeartbeats 4000000 in
theorem mM_setNothing_2_s {σ' : SM}  (k2 : Int32 → SM → Option (SM)) (hk2 : ∀ (v1 : Int32) (σ : SM), k2 v1 σ = some σ' → ScM σ σ') (v1 : Int32) (σ : SM) (hf : mM_setNothing_2 k2 v1 σ = some σ') : ScM σ σ' := by
  unfold mM_setNothing_2 at hf
  have hx := ScM.refl σ
  rcases if_ex2 hf with ⟨hc1, hf⟩ | ⟨hc1, hf⟩
  · skip
    obtain ⟨σ2, hs3, hf⟩ := st1_ex hf
    have hx := hx.trans (scm_L hs3)
    cases some_ex hf
    exact hx
  · skip
    obtain ⟨hb4, hf⟩ := ck_ex hf
    obtain ⟨σ5, hs6, hf⟩ := st1_ex hf
    have hx := hx.trans (scm_L hs6)
    exact hx.trans (hk2 (v1 + (1 : Int32)) σ5 hf)
set_option maxHeartbeats 4000000 in
theorem mM_setNothing_s (σ : SM) (σ' : SM)  (hf : mM_setNothing  σ = some σ') : ScM σ σ' := by
  unfold mM_setNothing at hf
  have hx := ScM.refl σ
  exact hx.trans (lq2_ex (P := fun v1 σ => ScM σ σ') (fun k hk v1 σ hf => mM_setNothing_2_s k hk v1 σ hf) LF (0 : Int32) σ hf)
set_option maxHeartbeats 4000000 in
theorem mM_setName_152_s {σ' : SM}  (v1 : Int32) (t0 : Int64) (t1 : Int32) (σ : SM) (hf : mM_setName_152 v1 t0 t1 σ = some σ') : ScM σ σ' := by
  unfold mM_setName_152 at hf
  have hx := ScM.refl σ
  obtain ⟨hb1, hf⟩ := ck_ex hf
  obtain ⟨σ2, hs3, hf⟩ := st1_ex hf
  have hx := hx.trans (scm_L hs3)
  obtain ⟨r5, hc4, hf⟩ := bd1_ex hf
  rcases if_ex2 hf with ⟨hc6, hf⟩ | ⟨hc6, hf⟩
  · skip
    obtain ⟨σ7, hs8, hf⟩ := st1_ex hf
    have hx := hx.trans (scm_L hs8)
    cases some_ex hf
    exact hx
  · skip
    obtain ⟨σ9, hs10, hf⟩ := st1_ex hf
    have hx := hx.trans (scm_L hs10)
    cases some_ex hf
    exact hx
set_option maxHeartbeats 4000000 in
theorem mM_setName_128_s {σ' : SM}  (v1 : Int32) (v2 : Int32) (t0 : Int64) (t1 : Int32) (σ : SM) (hf : mM_setName_128 v1 v2 t0 t1 σ = some σ') : ScM σ σ' := by
  unfold mM_setName_128 at hf
  have hx := ScM.refl σ
  obtain ⟨hb1, hf⟩ := ck_ex hf
  obtain ⟨σ2, hs3, hf⟩ := st1_ex hf
  have hx := hx.trans (scm_L hs3)
  obtain ⟨hb4, hf⟩ := ck_ex hf
  rcases (if_ex2 hf).symm with ⟨hc5, hf⟩ | ⟨hc5, hf⟩
  · skip
    exact hx.trans (mM_setName_152_s v1 (0 : Int64) (14 : Int32) σ2 hf)
  · skip
    exact hx.trans (mM_setName_152_s v1 (1 : Int64) (14 : Int32) σ2 hf)
set_option maxHeartbeats 4000000 in
theorem mM_setName_104_s {σ' : SM}  (v1 : Int32) (v2 : Int32) (t0 : Int64) (t1 : Int32) (σ : SM) (hf : mM_setName_104 v1 v2 t0 t1 σ = some σ') : ScM σ σ' := by
  unfold mM_setName_104 at hf
  have hx := ScM.refl σ
  obtain ⟨hb1, hf⟩ := ck_ex hf
  obtain ⟨σ2, hs3, hf⟩ := st1_ex hf
  have hx := hx.trans (scm_L hs3)
  obtain ⟨hb4, hf⟩ := ck_ex hf
  rcases (if_ex2 hf).symm with ⟨hc5, hf⟩ | ⟨hc5, hf⟩
  · skip
    exact hx.trans (mM_setName_128_s v1 v2 (0 : Int64) (13 : Int32) σ2 hf)
  · skip
    exact hx.trans (mM_setName_128_s v1 v2 (1 : Int64) (13 : Int32) σ2 hf)
set_option maxHeartbeats 4000000 in
theorem mM_setName_s (p0 : Int32) (σ : SM) (σ' : SM)  (hf : mM_setName p0 σ = some σ') : ScM σ σ' := by
  unfold mM_setName at hf
  have hx := ScM.refl σ
  obtain ⟨r2, hc1, hf⟩ := bd1_ex hf
  obtain ⟨σ4, hc3, hf⟩ := bd1_ex hf
  have hx := hx.trans (mM_setNothing_s _ _ hc3)
  obtain ⟨hb5, hf⟩ := ck_ex hf
  obtain ⟨σ6, hs7, hf⟩ := st1_ex hf
  have hx := hx.trans (scm_L hs7)
  obtain ⟨hb8, hf⟩ := ck_ex hf
  obtain ⟨σ9, hs10, hf⟩ := st1_ex hf
  have hx := hx.trans (scm_L hs10)
  obtain ⟨r12, hc11, hf⟩ := bd1_ex hf
  obtain ⟨σ13, hs14, hf⟩ := st1_ex hf
  have hx := hx.trans (scm_L hs14)
  obtain ⟨r16, hc15, hf⟩ := bd1_ex hf
  obtain ⟨hb17, hf⟩ := ck_ex hf
  obtain ⟨σ18, hs19, hf⟩ := st1_ex hf
  have hx := hx.trans (scm_L hs19)
  obtain ⟨hb20, hf⟩ := ck_ex hf
  rcases (if_ex2 hf).symm with ⟨hc21, hf⟩ | ⟨hc21, hf⟩
  · skip
    exact hx.trans (mM_setName_104_s p0 r2 (0 : Int64) (12 : Int32) σ18 hf)
  · skip
    exact hx.trans (mM_setName_104_s p0 r2 (1 : Int64) (12 : Int32) σ18 hf)
set_option maxHeartbeats 4000000 in
theorem mM_reckon_68_s {r : Int64} {σ' : SM}  (v2 : Int64) (v4 : Int64) (t0 : Int32) (σ : SM) (hf : mM_reckon_68 v2 v4 t0 σ = some (r, σ')) : ScM σ σ' := by
  unfold mM_reckon_68 at hf
  have hx := ScM.refl σ
  obtain ⟨hb3, hf⟩ := ck_ex hf
  obtain ⟨σ1, hs2, hf⟩ := st1_ex hf
  have hy := scm_I hs2
  have hx := hx.trans (hy (by unfold mO; omega))
  rcases if_ex2 hf with ⟨hc4, hf⟩ | ⟨hc4, hf⟩
  · skip
    obtain ⟨hz5, hf⟩ := nzL_ex hf
    cases some_ex hf
    exact hx
  · skip
    cases some_ex hf
    exact hx
set_option maxHeartbeats 4000000 in
theorem mM_reckon_s (p0 : Int32) (p1 : Int64) (p2 : Int64) (σ : SM) (r : Int64) (σ' : SM)  (hf : mM_reckon p0 p1 p2 σ = some (r, σ')) : ScM σ σ' := by
  unfold mM_reckon at hf
  have hx := ScM.refl σ
  by_cases hw20 : p0 = (20 : Int32)
  · have hf := if_t hf hw20
    cases some_ex hf
    exact hx
  replace hf := if_f hf hw20
  by_cases hw21 : p0 = (21 : Int32)
  · have hf := if_t hf hw21
    cases some_ex hf
    exact hx
  replace hf := if_f hf hw21
  by_cases hw22 : p0 = (22 : Int32)
  · have hf := if_t hf hw22
    cases some_ex hf
    exact hx
  replace hf := if_f hf hw22
  by_cases hw23 : p0 = (23 : Int32)
  · have hf := if_t hf hw23
    rcases (if_ex2 hf).symm with ⟨hc1, hf⟩ | ⟨hc1, hf⟩
    · skip
      exact hx.trans (mM_reckon_68_s p1 p2 (0 : Int32) σ hf)
    · skip
      exact hx.trans (mM_reckon_68_s p1 p2 (1 : Int32) σ hf)
  replace hf := if_f hf hw23
  by_cases hw24 : p0 = (24 : Int32)
  · have hf := if_t hf hw24
    rcases if_ex2 hf with ⟨hc2, hf⟩ | ⟨hc2, hf⟩
    · skip
      cases some_ex hf
      exact hx
    · skip
      cases some_ex hf
      exact hx
  replace hf := if_f hf hw24
  by_cases hw25 : p0 = (25 : Int32)
  · have hf := if_t hf hw25
    rcases if_ex2 hf with ⟨hc3, hf⟩ | ⟨hc3, hf⟩
    · skip
      cases some_ex hf
      exact hx
    · skip
      cases some_ex hf
      exact hx
  replace hf := if_f hf hw25
  rcases (if_ex2 hf).symm with ⟨hc4, hf⟩ | ⟨hc4, hf⟩
  · skip
    cases some_ex hf
    exact hx
  · skip
    cases some_ex hf
    exact hx
set_option maxHeartbeats 4000000 in
theorem mM_run_254_s {σ' : SM}  (v4 : Int32) (σ : SM) (hf : mM_run_254 v4 σ = some σ') : ScM σ σ' := by
  unfold mM_run_254 at hf
  have hx := ScM.refl σ
  rcases if_ex2 hf with ⟨hc1, hf⟩ | ⟨hc1, hf⟩
  · skip
    obtain ⟨σ2, hs3, hf⟩ := st1_ex hf
    have hx := hx.trans (scm_L hs3)
    cases some_ex hf
    exact hx
  · skip
    obtain ⟨σ4, hs5, hf⟩ := st1_ex hf
    have hx := hx.trans (scm_L hs5)
    cases some_ex hf
    exact hx
set_option maxHeartbeats 4000000 in
theorem mM_run_251_s {σ' : SM}  (k11 : Int32 → Int32 → Int32 → Int32 → SM → Option (SM)) (hk11 : ∀ (v1 : Int32) (v3 : Int32) (v4 : Int32) (v5 : Int32) (σ : SM), k11 v1 v3 v4 v5 σ = some σ' → ScM σ σ') (v1 : Int32) (v3 : Int32) (v4 : Int32) (v5 : Int32) (σ : SM) (hf : mM_run_251 k11 v1 v3 v4 v5 σ = some σ') : ScM σ σ' := by
  unfold mM_run_251 at hf
  have hx := ScM.refl σ
  exact hx.trans (hk11 v1 v3 v4 v5 σ hf)
set_option maxHeartbeats 4000000 in
theorem mM_run_237_s {σ' : SM}  (k11 : Int32 → Int32 → Int32 → Int32 → SM → Option (SM)) (hk11 : ∀ (v1 : Int32) (v3 : Int32) (v4 : Int32) (v5 : Int32) (σ : SM), k11 v1 v3 v4 v5 σ = some σ' → ScM σ σ') (v1 : Int32) (v3 : Int32) (v4 : Int32) (v5 : Int32) (v7 : Int32) (t0 : Int64) (t1 : Int64) (σ : SM) (hf : mM_run_237 k11 v1 v3 v4 v5 v7 t0 t1 σ = some σ') : ScM σ σ' := by
  unfold mM_run_237 at hf
  have hx := ScM.refl σ
  rcases (if_ex2 hf).symm with ⟨hc1, hf⟩ | ⟨hc1, hf⟩
  · skip
    exact hx.trans (mM_run_251_s k11 hk11 v1 v3 (v4 + (-1 : Int32)) v5 σ hf)
  · skip
    exact hx.trans (mM_run_251_s k11 hk11 v1 v3 v4 v7 σ hf)
set_option maxHeartbeats 4000000 in
theorem mM_run_180_s {σ' : SM}  (k11 : Int32 → Int32 → Int32 → Int32 → SM → Option (SM)) (hk11 : ∀ (v1 : Int32) (v3 : Int32) (v4 : Int32) (v5 : Int32) (σ : SM), k11 v1 v3 v4 v5 σ = some σ' → ScM σ σ') (v1 : Int32) (v3 : Int32) (v4 : Int32) (v5 : Int32) (t0 : Int32) (σ : SM) (hf : mM_run_180 k11 v1 v3 v4 v5 t0 σ = some σ') : ScM σ σ' := by
  unfold mM_run_180 at hf
  have hx := ScM.refl σ
  obtain ⟨hb3, hf⟩ := ck_ex hf
  obtain ⟨σ1, hs2, hf⟩ := st1_ex hf
  have hy := scm_I hs2
  have hx := hx.trans (hy (by unfold mO; omega))
  exact hx.trans (mM_run_251_s k11 hk11 v1 v3 v4 v5 σ1 hf)
set_option maxHeartbeats 4000000 in
theorem mM_run_175_s {σ' : SM}  (k11 : Int32 → Int32 → Int32 → Int32 → SM → Option (SM)) (hk11 : ∀ (v1 : Int32) (v3 : Int32) (v4 : Int32) (v5 : Int32) (σ : SM), k11 v1 v3 v4 v5 σ = some σ' → ScM σ σ') (v1 : Int32) (v3 : Int32) (v4 : Int32) (v5 : Int32) (σ : SM) (hf : mM_run_175 k11 v1 v3 v4 v5 σ = some σ') : ScM σ σ' := by
  unfold mM_run_175 at hf
  have hx := ScM.refl σ
  exact hx.trans (mM_run_180_s k11 hk11 v1 v3 v4 v5 (1 : Int32) σ hf)
set_option maxHeartbeats 4000000 in
theorem mM_run_98_s {σ' : SM}  (k11 : Int32 → Int32 → Int32 → Int32 → SM → Option (SM)) (hk11 : ∀ (v1 : Int32) (v3 : Int32) (v4 : Int32) (v5 : Int32) (σ : SM), k11 v1 v3 v4 v5 σ = some σ' → ScM σ σ') (v1 : Int32) (v3 : Int32) (v4 : Int32) (v5 : Int32) (t0 : Int64) (t1 : Int32) (σ : SM) (hf : mM_run_98 k11 v1 v3 v4 v5 t0 t1 σ = some σ') : ScM σ σ' := by
  unfold mM_run_98 at hf
  have hx := ScM.refl σ
  obtain ⟨hb1, hf⟩ := ck_ex hf
  obtain ⟨σ2, hs3, hf⟩ := st1_ex hf
  have hx := hx.trans (scm_L hs3)
  exact hx.trans (mM_run_251_s k11 hk11 v1 v3 (v4 + (1 : Int32)) v5 σ2 hf)
set_option maxHeartbeats 4000000 in
theorem mM_run_11_s {σ' : SM}  (k11 : Int32 → Int32 → Int32 → Int32 → SM → Option (SM)) (hk11 : ∀ (v1 : Int32) (v3 : Int32) (v4 : Int32) (v5 : Int32) (σ : SM), k11 v1 v3 v4 v5 σ = some σ' → ScM σ σ') (v1 : Int32) (v3 : Int32) (v4 : Int32) (v5 : Int32) (σ : SM) (hf : mM_run_11 k11 v1 v3 v4 v5 σ = some σ') : ScM σ σ' := by
  unfold mM_run_11 at hf
  have hx := ScM.refl σ
  rcases if_ex2 hf with ⟨hc1, hf⟩ | ⟨hc1, hf⟩
  · skip
    exact hx.trans (mM_run_254_s v4 σ hf)
  · skip
    rcases (if_ex2 hf).symm with ⟨hc2, hf⟩ | ⟨hc2, hf⟩
    · skip
      exact hx.trans (mM_run_254_s v4 σ hf)
    · skip
      obtain ⟨r4, hc3, hf⟩ := bd1_ex hf
      obtain ⟨hb5, hf⟩ := ck_ex hf
      obtain ⟨r7, hc6, hf⟩ := bd1_ex hf
      obtain ⟨hb8, hf⟩ := ck_ex hf
      rcases if_ex2 hf with ⟨hc9, hf⟩ | ⟨hc9, hf⟩
      · skip
        rcases if_ex2 hf with ⟨hc10, hf⟩ | ⟨hc10, hf⟩
        · skip
          rcases (if_ex2 hf).symm with ⟨hc11, hf⟩ | ⟨hc11, hf⟩
          · skip
            obtain ⟨hb12, hf⟩ := ck_ex hf
            rcases (if_ex2 hf).symm with ⟨hc13, hf⟩ | ⟨hc13, hf⟩
            · skip
              exact hx.trans (mM_run_237_s k11 hk11 v1 v3 v4 (v5 + (1 : Int32)) (gI σ 1 ((((r7 + (98 : Int32)) + ((2 : Int32) * v5)) + (1 : Int32)).toNatClampNeg)) (1 : Int64) (gL σ 15 ((v4 - (1 : Int32)).toNatClampNeg)) σ hf)
            · skip
              exact hx.trans (mM_run_237_s k11 hk11 v1 v3 v4 (v5 + (1 : Int32)) (gI σ 1 ((((r7 + (98 : Int32)) + ((2 : Int32) * v5)) + (1 : Int32)).toNatClampNeg)) (0 : Int64) (gL σ 15 ((v4 - (1 : Int32)).toNatClampNeg)) σ hf)
          · skip
            obtain ⟨hb14, hf⟩ := ck_ex hf
            obtain ⟨hb15, hf⟩ := ck_ex hf
            obtain ⟨σ16, hs17, hf⟩ := st1_ex hf
            have hx := hx.trans (scm_L hs17)
            exact hx.trans (mM_run_251_s k11 hk11 v1 v3 v4 (v5 + (1 : Int32)) σ16 hf)
        · skip
          obtain ⟨hb18, hf⟩ := ck_ex hf
          obtain ⟨hb19, hf⟩ := ck_ex hf
          obtain ⟨r21, σ22, hc20, hf⟩ := bd2_ex hf
          have hx := hx.trans (mM_reckon_s _ _ _ _ _ _ hc20)
          obtain ⟨hb23, hf⟩ := ck_ex hf
          obtain ⟨σ24, hs25, hf⟩ := st1_ex hf
          have hx := hx.trans (scm_L hs25)
          rcases (if_ex2 hf).symm with ⟨hc26, hf⟩ | ⟨hc26, hf⟩
          · skip
            exact hx.trans (mM_run_175_s k11 hk11 v1 v3 (v4 + (-1 : Int32)) (v5 + (1 : Int32)) σ24 hf)
          · skip
            obtain ⟨hb27, hf⟩ := ck_ex hf
            obtain ⟨r29, hc28, hf⟩ := bd1_ex hf
            rcases (if_ex2 hf).symm with ⟨hc30, hf⟩ | ⟨hc30, hf⟩
            · skip
              exact hx.trans (mM_run_180_s k11 hk11 v1 v3 (v4 + (-1 : Int32)) (v5 + (1 : Int32)) (0 : Int32) σ24 hf)
            · skip
              exact hx.trans (mM_run_175_s k11 hk11 v1 v3 (v4 + (-1 : Int32)) (v5 + (1 : Int32)) σ24 hf)
      · skip
        rcases (if_ex2 hf).symm with ⟨hc31, hf⟩ | ⟨hc31, hf⟩
        · skip
          obtain ⟨hb32, hf⟩ := ck_ex hf
          exact hx.trans (mM_run_98_s k11 hk11 v1 v3 v4 (v5 + (1 : Int32)) (gL σ 14 ((gI σ 1 (((r4 + (98 : Int32)) + ((2 : Int32) * v5)).toNatClampNeg)).toNatClampNeg)) v4 σ hf)
        · skip
          exact hx.trans (mM_run_98_s k11 hk11 v1 v3 v4 (v5 + (1 : Int32)) ((gI σ 1 ((((r7 + (98 : Int32)) + ((2 : Int32) * v5)) + (1 : Int32)).toNatClampNeg)).toInt64) v4 σ hf)
set_option maxHeartbeats 4000000 in
theorem mM_run_s (p0 : Int32) (p1 : Int32) (p2 : Int32) (σ : SM) (σ' : SM)  (hf : mM_run p0 p1 p2 σ = some σ') : ScM σ σ' := by
  unfold mM_run at hf
  have hx := ScM.refl σ
  obtain ⟨σ1, hs2, hf⟩ := st1_ex hf
  have hy := scm_I hs2
  have hx := hx.trans (hy (by unfold mO; omega))
  exact hx.trans (lq5_ex (P := fun v1 v3 v4 v5 σ => ScM σ σ') (fun k hk v1 v3 v4 v5 σ hf => mM_run_11_s k hk v1 v3 v4 v5 σ hf) LF p0 p2 (0 : Int32) p1 σ1 hf)
set_option maxHeartbeats 4000000 in
theorem mM_isSo_60_s {r : Int32} {σ' : SM}  (v1 : Int32) (v2 : Int32) (σ : SM) (hf : mM_isSo_60 v1 v2 σ = some (r, σ')) : ScM σ σ' := by
  unfold mM_isSo_60 at hf
  have hx := ScM.refl σ
  obtain ⟨hb1, hf⟩ := ck_ex hf
  obtain ⟨hb2, hf⟩ := ck_ex hf
  obtain ⟨σ4, hc3, hf⟩ := bd1_ex hf
  have hx := hx.trans (mM_run_s _ _ _ _ _ hc3)
  obtain ⟨σ5, hs6, hf⟩ := st1_ex hf
  have hx := hx.trans (scm_L hs6)
  rcases (if_ex2 hf).symm with ⟨hc7, hf⟩ | ⟨hc7, hf⟩
  · skip
    cases some_ex hf
    exact hx
  · skip
    cases some_ex hf
    exact hx
set_option maxHeartbeats 4000000 in
theorem mM_isSo_s (p0 : Int32) (p1 : Int32) (σ : SM) (r : Int32) (σ' : SM)  (hf : mM_isSo p0 p1 σ = some (r, σ')) : ScM σ σ' := by
  unfold mM_isSo at hf
  have hx := ScM.refl σ
  obtain ⟨hb1, hf⟩ := ck_ex hf
  obtain ⟨hb2, hf⟩ := ck_ex hf
  rcases if_ex2 hf with ⟨hc3, hf⟩ | ⟨hc3, hf⟩
  · skip
    exact hx.trans (mM_isSo_60_s p0 p1 σ hf)
  · skip
    obtain ⟨hb4, hf⟩ := ck_ex hf
    obtain ⟨hb5, hf⟩ := ck_ex hf
    obtain ⟨σ7, hc6, hf⟩ := bd1_ex hf
    have hx := hx.trans (mM_run_s _ _ _ _ _ hc6)
    rcases (if_ex2 hf).symm with ⟨hc8, hf⟩ | ⟨hc8, hf⟩
    · skip
      cases some_ex hf
      exact hx
    · skip
      rcases (if_ex2 hf).symm with ⟨hc9, hf⟩ | ⟨hc9, hf⟩
      · skip
        exact hx.trans (mM_isSo_60_s p0 p1 σ7 hf)
      · skip
        cases some_ex hf
        exact hx
set_option maxHeartbeats 4000000 in
theorem mM_find_140_s {r : Int32} {σ' : SM}  (k8 : Int32 → Int32 → Int32 → Int64 → Int32 → SM → Option (Int32 × SM)) (hk8 : ∀ (v1 : Int32) (v2 : Int32) (v3 : Int32) (v4 : Int64) (v6 : Int32) (σ : SM), k8 v1 v2 v3 v4 v6 σ = some (r, σ') → ScM σ σ') (v1 : Int32) (v2 : Int32) (v3 : Int32) (v4 : Int64) (v6 : Int32) (σ : SM) (hf : mM_find_140 k8 v1 v2 v3 v4 v6 σ = some (r, σ')) : ScM σ σ' := by
  unfold mM_find_140 at hf
  have hx := ScM.refl σ
  exact hx.trans (hk8 v1 v2 v3 v4 (v6 + (1 : Int32)) σ hf)
set_option maxHeartbeats 4000000 in
theorem mM_find_134_s {r : Int32} {σ' : SM}  (k22 : Int32 → Int32 → Int32 → Int64 → Int32 → Int32 → SM → Option (Int32 × SM)) (hk22 : ∀ (v1 : Int32) (v2 : Int32) (v3 : Int32) (v4 : Int64) (v6 : Int32) (v7 : Int32) (σ : SM), k22 v1 v2 v3 v4 v6 v7 σ = some (r, σ') → ScM σ σ') (v1 : Int32) (v2 : Int32) (v3 : Int32) (v4 : Int64) (v6 : Int32) (v7 : Int32) (σ : SM) (hf : mM_find_134 k22 v1 v2 v3 v4 v6 v7 σ = some (r, σ')) : ScM σ σ' := by
  unfold mM_find_134 at hf
  have hx := ScM.refl σ
  exact hx.trans (hk22 v1 v2 v3 v4 v6 (v7 + (1 : Int32)) σ hf)
set_option maxHeartbeats 4000000 in
theorem mM_find_108_s {r : Int32} {σ' : SM}  (k22 : Int32 → Int32 → Int32 → Int64 → Int32 → Int32 → SM → Option (Int32 × SM)) (hk22 : ∀ (v1 : Int32) (v2 : Int32) (v3 : Int32) (v4 : Int64) (v6 : Int32) (v7 : Int32) (σ : SM), k22 v1 v2 v3 v4 v6 v7 σ = some (r, σ') → ScM σ σ') (v1 : Int32) (v2 : Int32) (v3 : Int32) (v4 : Int64) (v6 : Int32) (v7 : Int32) (v8 : Int32) (t0 : Int32) (σ : SM) (hf : mM_find_108 k22 v1 v2 v3 v4 v6 v7 v8 t0 σ = some (r, σ')) : ScM σ σ' := by
  unfold mM_find_108 at hf
  have hx := ScM.refl σ
  rcases if_ex2 hf with ⟨hc1, hf⟩ | ⟨hc1, hf⟩
  · skip
    exact hx.trans (mM_find_134_s k22 hk22 v1 v2 v3 v4 v6 v7 σ hf)
  · skip
    obtain ⟨r3, σ4, hc2, hf⟩ := bd2_ex hf
    have hx := hx.trans (mM_isSo_s _ _ _ _ _ hc2)
    rcases if_ex2 hf with ⟨hc5, hf⟩ | ⟨hc5, hf⟩
    · skip
      exact hx.trans (mM_find_134_s k22 hk22 v1 v2 v3 v4 v6 v7 σ4 hf)
    · skip
      exact hx.trans (mM_find_134_s k22 hk22 v1 v2 (1 : Int32) (gL σ4 0 33) v6 v7 σ4 hf)
set_option maxHeartbeats 4000000 in
theorem mM_find_107_s {r : Int32} {σ' : SM}  (k22 : Int32 → Int32 → Int32 → Int64 → Int32 → Int32 → SM → Option (Int32 × SM)) (hk22 : ∀ (v1 : Int32) (v2 : Int32) (v3 : Int32) (v4 : Int64) (v6 : Int32) (v7 : Int32) (σ : SM), k22 v1 v2 v3 v4 v6 v7 σ = some (r, σ') → ScM σ σ') (v1 : Int32) (v2 : Int32) (v3 : Int32) (v4 : Int64) (v6 : Int32) (v7 : Int32) (v8 : Int32) (σ : SM) (hf : mM_find_107 k22 v1 v2 v3 v4 v6 v7 v8 σ = some (r, σ')) : ScM σ σ' := by
  unfold mM_find_107 at hf
  have hx := ScM.refl σ
  exact hx.trans (mM_find_108_s k22 hk22 v1 v2 v3 v4 v6 v7 v8 (0 : Int32) σ hf)
set_option maxHeartbeats 4000000 in
theorem mM_find_87_s {r : Int32} {σ' : SM}  (k22 : Int32 → Int32 → Int32 → Int64 → Int32 → Int32 → SM → Option (Int32 × SM)) (hk22 : ∀ (v1 : Int32) (v2 : Int32) (v3 : Int32) (v4 : Int64) (v6 : Int32) (v7 : Int32) (σ : SM), k22 v1 v2 v3 v4 v6 v7 σ = some (r, σ') → ScM σ σ') (v1 : Int32) (v2 : Int32) (v3 : Int32) (v4 : Int64) (v6 : Int32) (v7 : Int32) (v8 : Int32) (σ : SM) (hf : mM_find_87 k22 v1 v2 v3 v4 v6 v7 v8 σ = some (r, σ')) : ScM σ σ' := by
  unfold mM_find_87 at hf
  have hx := ScM.refl σ
  obtain ⟨hb1, hf⟩ := ck_ex hf
  rcases (if_ex2 hf).symm with ⟨hc2, hf⟩ | ⟨hc2, hf⟩
  · skip
    exact hx.trans (mM_find_107_s k22 hk22 v1 v2 v3 v4 v6 v7 v8 σ hf)
  · skip
    exact hx.trans (mM_find_108_s k22 hk22 v1 v2 v3 v4 v6 v7 v8 (1 : Int32) σ hf)
set_option maxHeartbeats 4000000 in
theorem mM_find_22_s {r : Int32} {σ' : SM}  (k8 : Int32 → Int32 → Int32 → Int64 → Int32 → SM → Option (Int32 × SM)) (hk8 : ∀ (v1 : Int32) (v2 : Int32) (v3 : Int32) (v4 : Int64) (v6 : Int32) (σ : SM), k8 v1 v2 v3 v4 v6 σ = some (r, σ') → ScM σ σ') (k22 : Int32 → Int32 → Int32 → Int64 → Int32 → Int32 → SM → Option (Int32 × SM)) (hk22 : ∀ (v1 : Int32) (v2 : Int32) (v3 : Int32) (v4 : Int64) (v6 : Int32) (v7 : Int32) (σ : SM), k22 v1 v2 v3 v4 v6 v7 σ = some (r, σ') → ScM σ σ') (v1 : Int32) (v2 : Int32) (v3 : Int32) (v4 : Int64) (v6 : Int32) (v7 : Int32) (σ : SM) (hf : mM_find_22 k8 k22 v1 v2 v3 v4 v6 v7 σ = some (r, σ')) : ScM σ σ' := by
  unfold mM_find_22 at hf
  have hx := ScM.refl σ
  obtain ⟨r2, hc1, hf⟩ := bd1_ex hf
  obtain ⟨hb3, hf⟩ := ck_ex hf
  rcases if_ex2 hf with ⟨hc4, hf⟩ | ⟨hc4, hf⟩
  · skip
    exact hx.trans (mM_find_140_s k8 hk8 v1 v2 v3 v4 v6 σ hf)
  · skip
    obtain ⟨hb5, hf⟩ := ck_ex hf
    rcases if_ex2 hf with ⟨hc6, hf⟩ | ⟨hc6, hf⟩
    · skip
      exact hx.trans (mM_find_140_s k8 hk8 v1 v2 v3 v4 v6 σ hf)
    · skip
      obtain ⟨r8, hc7, hf⟩ := bd1_ex hf
      obtain ⟨hb9, hf⟩ := ck_ex hf
      rcases (if_ex2 hf).symm with ⟨hc10, hf⟩ | ⟨hc10, hf⟩
      · skip
        exact hx.trans (mM_find_107_s k22 hk22 v1 v2 v3 v4 v6 v7 r8 σ hf)
      · skip
        rcases if_ex2 hf with ⟨hc11, hf⟩ | ⟨hc11, hf⟩
        · skip
          exact hx.trans (mM_find_87_s k22 hk22 v1 v2 v3 v4 v6 v7 r8 σ hf)
        · skip
          obtain ⟨hb12, hf⟩ := ck_ex hf
          rcases (if_ex2 hf).symm with ⟨hc13, hf⟩ | ⟨hc13, hf⟩
          · skip
            exact hx.trans (mM_find_107_s k22 hk22 v1 v2 v3 v4 v6 v7 r8 σ hf)
          · skip
            exact hx.trans (mM_find_87_s k22 hk22 v1 v2 v3 v4 v6 v7 r8 σ hf)
set_option maxHeartbeats 4000000 in
theorem mM_find_8_s {r : Int32} {σ' : SM}  (k8 : Int32 → Int32 → Int32 → Int64 → Int32 → SM → Option (Int32 × SM)) (hk8 : ∀ (v1 : Int32) (v2 : Int32) (v3 : Int32) (v4 : Int64) (v6 : Int32) (σ : SM), k8 v1 v2 v3 v4 v6 σ = some (r, σ') → ScM σ σ') (v1 : Int32) (v2 : Int32) (v3 : Int32) (v4 : Int64) (v6 : Int32) (σ : SM) (hf : mM_find_8 k8 v1 v2 v3 v4 v6 σ = some (r, σ')) : ScM σ σ' := by
  unfold mM_find_8 at hf
  have hx := ScM.refl σ
  rcases if_ex2 hf with ⟨hc1, hf⟩ | ⟨hc1, hf⟩
  · skip
    obtain ⟨σ2, hs3, hf⟩ := st1_ex hf
    have hx := hx.trans (scm_L hs3)
    obtain ⟨hb4, hf⟩ := ck_ex hf
    cases some_ex hf
    exact hx
  · skip
    exact hx.trans (lq7_ex (P := fun v1 v2 v3 v4 v6 v7 σ => ScM σ σ') (fun k hk v1 v2 v3 v4 v6 v7 σ hf => mM_find_22_s k8 hk8 k hk v1 v2 v3 v4 v6 v7 σ hf) LF v1 v2 v3 v4 v6 (0 : Int32) σ hf)
set_option maxHeartbeats 4000000 in
theorem mM_find_s (p0 : Int32) (p1 : Int32) (σ : SM) (r : Int32) (σ' : SM)  (hf : mM_find p0 p1 σ = some (r, σ')) : ScM σ σ' := by
  unfold mM_find at hf
  have hx := ScM.refl σ
  exact hx.trans (lq6_ex (P := fun v1 v2 v3 v4 v6 σ => ScM σ σ') (fun k hk v1 v2 v3 v4 v6 σ hf => mM_find_8_s k hk v1 v2 v3 v4 v6 σ hf) LF p0 p1 (0 : Int32) (0 : Int64) (0 : Int32) σ hf)
set_option maxHeartbeats 4000000 in
theorem mM_isOnNow_69_s {r : Int32} {σ' : SM}  (v1 : Int32) (σ : SM) (hf : mM_isOnNow_69 v1 σ = some (r, σ')) : ScM σ σ' := by
  unfold mM_isOnNow_69 at hf
  have hx := ScM.refl σ
  obtain ⟨σ2, hc1, hf⟩ := bd1_ex hf
  have hx := hx.trans (mM_setName_s _ _ _ hc1)
  obtain ⟨r4, σ5, hc3, hf⟩ := bd2_ex hf
  have hx := hx.trans (mM_find_s _ _ _ _ _ hc3)
  rcases if_ex2 hf with ⟨hc6, hf⟩ | ⟨hc6, hf⟩
  · skip
    cases some_ex hf
    exact hx
  · skip
    obtain ⟨r8, σ9, hc7, hf⟩ := bd2_ex hf
    have hx := hx.trans (mM_find_s _ _ _ _ _ hc7)
    rcases (if_ex2 hf).symm with ⟨hc10, hf⟩ | ⟨hc10, hf⟩
    · skip
      cases some_ex hf
      exact hx
    · skip
      cases some_ex hf
      exact hx
set_option maxHeartbeats 4000000 in
theorem mM_isOnNow_s (p0 : Int32) (σ : SM) (r : Int32) (σ' : SM)  (hf : mM_isOnNow p0 σ = some (r, σ')) : ScM σ σ' := by
  unfold mM_isOnNow at hf
  have hx := ScM.refl σ
  obtain ⟨r2, hc1, hf⟩ := bd1_ex hf
  obtain ⟨hb3, hf⟩ := ck_ex hf
  rcases if_ex2 hf with ⟨hc4, hf⟩ | ⟨hc4, hf⟩
  · skip
    cases some_ex hf
    exact hx
  · skip
    obtain ⟨hb5, hf⟩ := ck_ex hf
    rcases if_ex2 hf with ⟨hc6, hf⟩ | ⟨hc6, hf⟩
    · skip
      exact hx.trans (mM_isOnNow_69_s p0 σ hf)
    · skip
      obtain ⟨hb7, hf⟩ := ck_ex hf
      rcases if_ex2 hf with ⟨hc8, hf⟩ | ⟨hc8, hf⟩
      · skip
        exact hx.trans (mM_isOnNow_69_s p0 σ hf)
      · skip
        obtain ⟨hb9, hf⟩ := ck_ex hf
        rcases if_ex2 hf with ⟨hc10, hf⟩ | ⟨hc10, hf⟩
        · skip
          exact hx.trans (mM_isOnNow_69_s p0 σ hf)
        · skip
          cases some_ex hf
          exact hx
set_option maxHeartbeats 4000000 in
theorem mM_on_s (p0 : Int32) (p1 : Int32) (p2 : Int32) (σ : SM) (r : Int32) (σ' : SM)  (hf : mM_on p0 p1 p2 σ = some (r, σ')) : ScM σ σ' := by
  unfold mM_on at hf
  have hx := ScM.refl σ
  obtain ⟨σ1, hs2, hf⟩ := st1_ex hf
  have hy := scm_I hs2
  have hx := hx.trans (hy (by unfold mO; omega))
  obtain ⟨r4, hc3, hf⟩ := bd1_ex hf
  rcases if_ex2 hf with ⟨hc5, hf⟩ | ⟨hc5, hf⟩
  · skip
    cases some_ex hf
    exact hx
  · skip
    obtain ⟨r7, hc6, hf⟩ := bd1_ex hf
    rcases if_ex2 hf with ⟨hc8, hf⟩ | ⟨hc8, hf⟩
    · skip
      cases some_ex hf
      exact hx
    · skip
      obtain ⟨r10, hc9, hf⟩ := bd1_ex hf
      rcases (if_ex2 hf).symm with ⟨hc11, hf⟩ | ⟨hc11, hf⟩
      · skip
        obtain ⟨σ12, hs13, hf⟩ := st1_ex hf
        have hy := scm_I hs13
        have hx := hx.trans (hy (by unfold mO; omega))
        obtain ⟨σ14, hs15, hf⟩ := st1_ex hf
        have hy := scm_I hs15
        have hx := hx.trans (hy (by unfold mO; omega))
        obtain ⟨σ17, hc16, hf⟩ := bd1_ex hf
        have hx := hx.trans (mM_findForce_s _ _ _ hc16)
        obtain ⟨r19, σ20, hc18, hf⟩ := bd2_ex hf
        have hx := hx.trans (mM_isOnNow_s _ _ _ _ hc18)
        rcases if_ex2 hf with ⟨hc21, hf⟩ | ⟨hc21, hf⟩
        · skip
          cases some_ex hf
          exact hx
        · skip
          cases some_ex hf
          exact hx
      · skip
        cases some_ex hf
        exact hx
set_option maxHeartbeats 4000000 in
theorem mM_knowBy_84_s {σ' : SM}  (k38 : Int32 → Int32 → Int32 → SM → Option (SM)) (hk38 : ∀ (v1 : Int32) (v2 : Int32) (v3 : Int32) (σ : SM), k38 v1 v2 v3 σ = some σ' → ScM σ σ') (v1 : Int32) (v2 : Int32) (v3 : Int32) (σ : SM) (hf : mM_knowBy_84 k38 v1 v2 v3 σ = some σ') : ScM σ σ' := by
  unfold mM_knowBy_84 at hf
  have hx := ScM.refl σ
  exact hx.trans (hk38 v1 v2 (v3 + (1 : Int32)) σ hf)
set_option maxHeartbeats 4000000 in
theorem mM_knowBy_38_s {σ' : SM}  (k38 : Int32 → Int32 → Int32 → SM → Option (SM)) (hk38 : ∀ (v1 : Int32) (v2 : Int32) (v3 : Int32) (σ : SM), k38 v1 v2 v3 σ = some σ' → ScM σ σ') (v1 : Int32) (v2 : Int32) (v3 : Int32) (σ : SM) (hf : mM_knowBy_38 k38 v1 v2 v3 σ = some σ') : ScM σ σ' := by
  unfold mM_knowBy_38 at hf
  have hx := ScM.refl σ
  rcases if_ex2 hf with ⟨hc1, hf⟩ | ⟨hc1, hf⟩
  · skip
    cases some_ex hf
    exact hx
  · skip
    obtain ⟨r3, σ4, hc2, hf⟩ := bd2_ex hf
    have hx := hx.trans (mM_isOnNow_s _ _ _ _ hc2)
    obtain ⟨hb5, hf⟩ := ck_ex hf
    obtain ⟨hb6, hf⟩ := ck_ex hf
    obtain ⟨σ7, hs8, hf⟩ := st1_ex hf
    have hy := scm_I hs8
    have hx := hx.trans (hy (by unfold mO; omega))
    obtain ⟨hb9, hf⟩ := ck_ex hf
    rcases if_ex2 hf with ⟨hc10, hf⟩ | ⟨hc10, hf⟩
    · skip
      exact hx.trans (mM_knowBy_84_s k38 hk38 v1 v2 v3 σ7 hf)
    · skip
      obtain ⟨r12, hc11, hf⟩ := bd1_ex hf
      obtain ⟨hb13, hf⟩ := ck_ex hf
      obtain ⟨hb14, hf⟩ := ck_ex hf
      obtain ⟨σ15, hs16, hf⟩ := st1_ex hf
      have hy := scm_I hs16
      have hx := hx.trans (hy (by unfold mO; omega))
      exact hx.trans (mM_knowBy_84_s k38 hk38 v1 v2 v3 σ15 hf)
set_option maxHeartbeats 4000000 in
theorem mM_knowBy_17_s {σ' : SM}  (k17 : Int32 → Int32 → Int32 → SM → Option (SM)) (hk17 : ∀ (v1 : Int32) (v2 : Int32) (v3 : Int32) (σ : SM), k17 v1 v2 v3 σ = some σ' → ScM σ σ') (v1 : Int32) (v2 : Int32) (v3 : Int32) (σ : SM) (hf : mM_knowBy_17 k17 v1 v2 v3 σ = some σ') : ScM σ σ' := by
  unfold mM_knowBy_17 at hf
  have hx := ScM.refl σ
  rcases if_ex2 hf with ⟨hc1, hf⟩ | ⟨hc1, hf⟩
  · skip
    exact hx.trans (lq4_ex (P := fun v1 v2 v3 σ => ScM σ σ') (fun k hk v1 v2 v3 σ hf => mM_knowBy_38_s k hk v1 v2 v3 σ hf) LF v1 v2 (0 : Int32) σ hf)
  · skip
    obtain ⟨hb2, hf⟩ := ck_ex hf
    obtain ⟨σ3, hs4, hf⟩ := st1_ex hf
    have hy := scm_I hs4
    have hx := hx.trans (hy (by unfold mO; omega))
    exact hx.trans (hk17 v1 v2 (v3 + (1 : Int32)) σ3 hf)
set_option maxHeartbeats 4000000 in
theorem mM_knowBy_s (p0 : Int32) (p1 : Int32) (σ : SM) (σ' : SM)  (hf : mM_knowBy p0 p1 σ = some σ') : ScM σ σ' := by
  unfold mM_knowBy at hf
  have hx := ScM.refl σ
  obtain ⟨σ1, hs2, hf⟩ := st1_ex hf
  have hy := scm_I hs2
  have hx := hx.trans (hy (by unfold mO; omega))
  obtain ⟨σ3, hs4, hf⟩ := st1_ex hf
  have hy := scm_I hs4
  have hx := hx.trans (hy (by unfold mO; omega))
  obtain ⟨σ6, hc5, hf⟩ := bd1_ex hf
  have hx := hx.trans (mM_findForce_s _ _ _ hc5)
  exact hx.trans (lq4_ex (P := fun v1 v2 v3 σ => ScM σ σ') (fun k hk v1 v2 v3 σ hf => mM_knowBy_17_s k hk v1 v2 v3 σ hf) LF p0 p1 (0 : Int32) σ6 hf)
set_option maxHeartbeats 4000000 in
theorem mM_roll_s (p0 : Int32) (p1 : Int32) (p2 : Int32) (σ : SM) (r : Int32) (σ' : SM)  (hf : mM_roll p0 p1 p2 σ = some (r, σ')) : ScM σ σ' := by
  unfold mM_roll at hf
  have hx := ScM.refl σ
  obtain ⟨σ1, hs2, hf⟩ := st1_ex hf
  have hy := scm_I hs2
  have hx := hx.trans (hy (by unfold mO; omega))
  obtain ⟨r4, hc3, hf⟩ := bd1_ex hf
  rcases if_ex2 hf with ⟨hc5, hf⟩ | ⟨hc5, hf⟩
  · skip
    cases some_ex hf
    exact hx
  · skip
    obtain ⟨r7, hc6, hf⟩ := bd1_ex hf
    rcases if_ex2 hf with ⟨hc8, hf⟩ | ⟨hc8, hf⟩
    · skip
      cases some_ex hf
      exact hx
    · skip
      obtain ⟨r10, hc9, hf⟩ := bd1_ex hf
      rcases (if_ex2 hf).symm with ⟨hc11, hf⟩ | ⟨hc11, hf⟩
      · skip
        obtain ⟨σ13, hc12, hf⟩ := bd1_ex hf
        have hx := hx.trans (mM_knowBy_s _ _ _ _ hc12)
        obtain ⟨hb14, hf⟩ := ck_ex hf
        cases some_ex hf
        exact hx
      · skip
        cases some_ex hf
        exact hx
set_option maxHeartbeats 4000000 in
theorem mM_like_s (p0 : Int32) (p1 : Int32) (σ : SM) (r : Int32) (σ' : SM)  (hf : mM_like p0 p1 σ = some (r, σ')) : ScM σ σ' := by
  unfold mM_like at hf
  have hx := ScM.refl σ
  obtain ⟨σ1, hs2, hf⟩ := st1_ex hf
  have hy := scm_I hs2
  have hx := hx.trans (hy (by unfold mO; omega))
  obtain ⟨r4, hc3, hf⟩ := bd1_ex hf
  rcases if_ex2 hf with ⟨hc5, hf⟩ | ⟨hc5, hf⟩
  · skip
    cases some_ex hf
    exact hx
  · skip
    obtain ⟨r7, hc6, hf⟩ := bd1_ex hf
    rcases if_ex2 hf with ⟨hc8, hf⟩ | ⟨hc8, hf⟩
    · skip
      cases some_ex hf
      exact hx
    · skip
      rcases if_ex2 hf with ⟨hc9, hf⟩ | ⟨hc9, hf⟩
      · skip
        cases some_ex hf
        exact hx
      · skip
        obtain ⟨r11, hc10, hf⟩ := bd1_ex hf
        cases some_ex hf
        exact hx
set_option maxHeartbeats 4000000 in
theorem mM_twice_157_s {r : Int32} {σ' : SM}  (k36 : Int32 → Int32 → Int32 → Int32 → Int32 → Int32 → SM → Option (Int32 × SM)) (hk36 : ∀ (v1 : Int32) (v2 : Int32) (v3 : Int32) (v4 : Int32) (v5 : Int32) (v6 : Int32) (σ : SM), k36 v1 v2 v3 v4 v5 v6 σ = some (r, σ') → ScM σ σ') (v1 : Int32) (v2 : Int32) (v3 : Int32) (v4 : Int32) (v5 : Int32) (v6 : Int32) (σ : SM) (hf : mM_twice_157 k36 v1 v2 v3 v4 v5 v6 σ = some (r, σ')) : ScM σ σ' := by
  unfold mM_twice_157 at hf
  have hx := ScM.refl σ
  exact hx.trans (hk36 v1 v2 v3 v4 v5 (v6 + (1 : Int32)) σ hf)
set_option maxHeartbeats 4000000 in
theorem mM_twice_151_s {r : Int32} {σ' : SM}  (k53 : Int32 → Int32 → Int32 → Int32 → Int32 → Int32 → Int32 → SM → Option (Int32 × SM)) (hk53 : ∀ (v1 : Int32) (v2 : Int32) (v3 : Int32) (v4 : Int32) (v5 : Int32) (v6 : Int32) (v7 : Int32) (σ : SM), k53 v1 v2 v3 v4 v5 v6 v7 σ = some (r, σ') → ScM σ σ') (v1 : Int32) (v2 : Int32) (v3 : Int32) (v4 : Int32) (v5 : Int32) (v6 : Int32) (v7 : Int32) (σ : SM) (hf : mM_twice_151 k53 v1 v2 v3 v4 v5 v6 v7 σ = some (r, σ')) : ScM σ σ' := by
  unfold mM_twice_151 at hf
  have hx := ScM.refl σ
  exact hx.trans (hk53 v1 v2 v3 v4 v5 v6 (v7 + (1 : Int32)) σ hf)
set_option maxHeartbeats 4000000 in
theorem mM_twice_146_s {r : Int32} {σ' : SM}  (k53 : Int32 → Int32 → Int32 → Int32 → Int32 → Int32 → Int32 → SM → Option (Int32 × SM)) (hk53 : ∀ (v1 : Int32) (v2 : Int32) (v3 : Int32) (v4 : Int32) (v5 : Int32) (v6 : Int32) (v7 : Int32) (σ : SM), k53 v1 v2 v3 v4 v5 v6 v7 σ = some (r, σ') → ScM σ σ') (v1 : Int32) (v2 : Int32) (v3 : Int32) (v4 : Int32) (v6 : Int32) (v7 : Int32) (t0 : Int32) (σ : SM) (hf : mM_twice_146 k53 v1 v2 v3 v4 v6 v7 t0 σ = some (r, σ')) : ScM σ σ' := by
  unfold mM_twice_146 at hf
  have hx := ScM.refl σ
  exact hx.trans (mM_twice_151_s k53 hk53 v1 v2 v3 (v4 + (1 : Int32)) t0 v6 v7 σ hf)
set_option maxHeartbeats 4000000 in
theorem mM_twice_53_s {r : Int32} {σ' : SM}  (k36 : Int32 → Int32 → Int32 → Int32 → Int32 → Int32 → SM → Option (Int32 × SM)) (hk36 : ∀ (v1 : Int32) (v2 : Int32) (v3 : Int32) (v4 : Int32) (v5 : Int32) (v6 : Int32) (σ : SM), k36 v1 v2 v3 v4 v5 v6 σ = some (r, σ') → ScM σ σ') (k53 : Int32 → Int32 → Int32 → Int32 → Int32 → Int32 → Int32 → SM → Option (Int32 × SM)) (hk53 : ∀ (v1 : Int32) (v2 : Int32) (v3 : Int32) (v4 : Int32) (v5 : Int32) (v6 : Int32) (v7 : Int32) (σ : SM), k53 v1 v2 v3 v4 v5 v6 v7 σ = some (r, σ') → ScM σ σ') (v1 : Int32) (v2 : Int32) (v3 : Int32) (v4 : Int32) (v5 : Int32) (v6 : Int32) (v7 : Int32) (σ : SM) (hf : mM_twice_53 k36 k53 v1 v2 v3 v4 v5 v6 v7 σ = some (r, σ')) : ScM σ σ' := by
  unfold mM_twice_53 at hf
  have hx := ScM.refl σ
  rcases if_ex2 hf with ⟨hc1, hf⟩ | ⟨hc1, hf⟩
  · skip
    exact hx.trans (mM_twice_157_s k36 hk36 v1 v2 v3 v4 v5 v6 σ hf)
  · skip
    obtain ⟨hb2, hf⟩ := ck_ex hf
    rcases if_ex2 hf with ⟨hc3, hf⟩ | ⟨hc3, hf⟩
    · skip
      exact hx.trans (mM_twice_157_s k36 hk36 v1 v2 v3 v4 v5 v6 σ hf)
    · skip
      obtain ⟨hb4, hf⟩ := ck_ex hf
      rcases if_ex2 hf with ⟨hc5, hf⟩ | ⟨hc5, hf⟩
      · skip
        exact hx.trans (mM_twice_151_s k53 hk53 v1 v2 v3 v4 v5 v6 v7 σ hf)
      · skip
        obtain ⟨r7, hc6, hf⟩ := bd1_ex hf
        obtain ⟨r9, hc8, hf⟩ := bd1_ex hf
        rcases if_ex2 hf with ⟨hc10, hf⟩ | ⟨hc10, hf⟩
        · skip
          exact hx.trans (mM_twice_151_s k53 hk53 v1 v2 v3 v4 v5 v6 v7 σ hf)
        · skip
          obtain ⟨r12, hc11, hf⟩ := bd1_ex hf
          rcases if_ex2 hf with ⟨hc13, hf⟩ | ⟨hc13, hf⟩
          · skip
            exact hx.trans (mM_twice_151_s k53 hk53 v1 v2 v3 v4 v5 v6 v7 σ hf)
          · skip
            obtain ⟨r15, hc14, hf⟩ := bd1_ex hf
            rcases (if_ex2 hf).symm with ⟨hc16, hf⟩ | ⟨hc16, hf⟩
            · skip
              exact hx.trans (mM_twice_151_s k53 hk53 v1 v2 v3 v4 v5 v6 v7 σ hf)
            · skip
              rcases (if_ex2 hf).symm with ⟨hc17, hf⟩ | ⟨hc17, hf⟩
              · skip
                exact hx.trans (mM_twice_146_s k53 hk53 v1 v2 v3 v4 v6 v7 v5 σ hf)
              · skip
                exact hx.trans (mM_twice_146_s k53 hk53 v1 v2 v3 v4 v6 v7 (((200 : Int32) * v6) + v7) σ hf)
set_option maxHeartbeats 4000000 in
theorem mM_twice_36_s {r : Int32} {σ' : SM}  (k36 : Int32 → Int32 → Int32 → Int32 → Int32 → Int32 → SM → Option (Int32 × SM)) (hk36 : ∀ (v1 : Int32) (v2 : Int32) (v3 : Int32) (v4 : Int32) (v5 : Int32) (v6 : Int32) (σ : SM), k36 v1 v2 v3 v4 v5 v6 σ = some (r, σ') → ScM σ σ') (v1 : Int32) (v2 : Int32) (v3 : Int32) (v4 : Int32) (v5 : Int32) (v6 : Int32) (σ : SM) (hf : mM_twice_36 k36 v1 v2 v3 v4 v5 v6 σ = some (r, σ')) : ScM σ σ' := by
  unfold mM_twice_36 at hf
  have hx := ScM.refl σ
  rcases if_ex2 hf with ⟨hc1, hf⟩ | ⟨hc1, hf⟩
  · skip
    rcases (if_ex2 hf).symm with ⟨hc2, hf⟩ | ⟨hc2, hf⟩
    · skip
      cases some_ex hf
      exact hx
    · skip
      cases some_ex hf
      exact hx
  · skip
    exact hx.trans (lq8_ex (P := fun v1 v2 v3 v4 v5 v6 v7 σ => ScM σ σ') (fun k hk v1 v2 v3 v4 v5 v6 v7 σ hf => mM_twice_53_s k36 hk36 k hk v1 v2 v3 v4 v5 v6 v7 σ hf) LF v1 v2 v3 v4 v5 v6 (v6 + (1 : Int32)) σ hf)
set_option maxHeartbeats 4000000 in
theorem mM_twice_s (p0 : Int32) (p1 : Int32) (p2 : Int32) (σ : SM) (r : Int32) (σ' : SM)  (hf : mM_twice p0 p1 p2 σ = some (r, σ')) : ScM σ σ' := by
  unfold mM_twice at hf
  have hx := ScM.refl σ
  obtain ⟨σ1, hs2, hf⟩ := st1_ex hf
  have hy := scm_I hs2
  have hx := hx.trans (hy (by unfold mO; omega))
  obtain ⟨r4, hc3, hf⟩ := bd1_ex hf
  rcases if_ex2 hf with ⟨hc5, hf⟩ | ⟨hc5, hf⟩
  · skip
    cases some_ex hf
    exact hx
  · skip
    obtain ⟨r7, hc6, hf⟩ := bd1_ex hf
    rcases (if_ex2 hf).symm with ⟨hc8, hf⟩ | ⟨hc8, hf⟩
    · skip
      obtain ⟨σ10, hc9, hf⟩ := bd1_ex hf
      have hx := hx.trans (mM_knowBy_s _ _ _ _ hc9)
      exact hx.trans (lq7_ex (P := fun v1 v2 v3 v4 v5 v6 σ => ScM σ σ') (fun k hk v1 v2 v3 v4 v5 v6 σ hf => mM_twice_36_s k hk v1 v2 v3 v4 v5 v6 σ hf) LF p0 p1 p2 (0 : Int32) (-1 : Int32) (0 : Int32) σ10 hf)
    · skip
      cases some_ex hf
      exact hx
set_option maxHeartbeats 4000000 in
theorem mM_fault_s (σ : SM) (r : Int32) (σ' : SM)  (hf : mM_fault  σ = some (r, σ')) : ScM σ σ' := by
  unfold mM_fault at hf
  have hx := ScM.refl σ
  obtain ⟨σ1, hs2, hf⟩ := st1_ex hf
  have hy := scm_I hs2
  have hx := hx.trans (hy (by unfold mO; omega))
  cases some_ex hf
  exact hx
set_option maxHeartbeats 4000000 in
theorem mM_next_319_s {σ' : SM}  (k243 : SM → Option (SM)) (hk243 : ∀ (σ : SM), k243 σ = some σ' → ScM σ σ') (t0 : Int64) (σ : SM) (hf : mM_next_319 k243 t0 σ = some σ') : ScM σ σ' := by
  unfold mM_next_319 at hf
  have hx := ScM.refl σ
  obtain ⟨σ1, hs2, hf⟩ := st1_ex hf
  have hx := hx.trans (scm_L hs2)
  obtain ⟨σ3, hs4, hf⟩ := st1_ex hf
  have hy := scm_I hs4
  have hx := hx.trans (hy (by unfold mO; omega))
  exact hx.trans (hk243 σ3 hf)
set_option maxHeartbeats 4000000 in
theorem mM_next_243_s {σ' : SM}  (k243 : SM → Option (SM)) (hk243 : ∀ (σ : SM), k243 σ = some σ' → ScM σ σ') (σ : SM) (hf : mM_next_243 k243 σ = some σ') : ScM σ σ' := by
  unfold mM_next_243 at hf
  have hx := ScM.refl σ
  rcases (if_ex2 hf).symm with ⟨hc1, hf⟩ | ⟨hc1, hf⟩
  · skip
    cases some_ex hf
    exact hx
  · skip
    rcases if_ex2 hf with ⟨hc2, hf⟩ | ⟨hc2, hf⟩
    · skip
      cases some_ex hf
      exact hx
    · skip
      obtain ⟨hb3, hf⟩ := ck_ex hf
      obtain ⟨r5, hc4, hf⟩ := bd1_ex hf
      rcases if_ex2 hf with ⟨hc6, hf⟩ | ⟨hc6, hf⟩
      · skip
        cases some_ex hf
        exact hx
      · skip
        rcases if_ex2 hf with ⟨hc7, hf⟩ | ⟨hc7, hf⟩
        · skip
          obtain ⟨hb8, hf⟩ := ck_ex hf
          exact hx.trans (mM_next_319_s k243 hk243 ((((gL σ 0 14) * (10 : Int64)) + (gI σ 6 ((gI σ 0 12).toNatClampNeg)).toInt64) - (48 : Int64)) σ hf)
        · skip
          exact hx.trans (mM_next_319_s k243 hk243 (gL σ 0 14) σ hf)
set_option maxHeartbeats 4000000 in
theorem mM_next_227_s {σ' : SM}  (k149 : SM → Option (SM)) (hk149 : ∀ (σ : SM), k149 σ = some σ' → ScM σ σ') (t0 : Int64) (σ : SM) (hf : mM_next_227 k149 t0 σ = some σ') : ScM σ σ' := by
  unfold mM_next_227 at hf
  have hx := ScM.refl σ
  obtain ⟨σ1, hs2, hf⟩ := st1_ex hf
  have hx := hx.trans (scm_L hs2)
  obtain ⟨σ3, hs4, hf⟩ := st1_ex hf
  have hy := scm_I hs4
  have hx := hx.trans (hy (by unfold mO; omega))
  exact hx.trans (hk149 σ3 hf)
set_option maxHeartbeats 4000000 in
theorem mM_next_149_s {σ' : SM}  (k149 : SM → Option (SM)) (hk149 : ∀ (σ : SM), k149 σ = some σ' → ScM σ σ') (σ : SM) (hf : mM_next_149 k149 σ = some σ') : ScM σ σ' := by
  unfold mM_next_149 at hf
  have hx := ScM.refl σ
  rcases (if_ex2 hf).symm with ⟨hc1, hf⟩ | ⟨hc1, hf⟩
  · skip
    exact hx.trans (lq1_ex (P := fun σ => ScM σ σ') (fun k hk σ hf => mM_next_243_s k hk σ hf) LF σ hf)
  · skip
    rcases if_ex2 hf with ⟨hc2, hf⟩ | ⟨hc2, hf⟩
    · skip
      exact hx.trans (lq1_ex (P := fun σ => ScM σ σ') (fun k hk σ hf => mM_next_243_s k hk σ hf) LF σ hf)
    · skip
      obtain ⟨hb3, hf⟩ := ck_ex hf
      obtain ⟨r5, hc4, hf⟩ := bd1_ex hf
      rcases if_ex2 hf with ⟨hc6, hf⟩ | ⟨hc6, hf⟩
      · skip
        exact hx.trans (lq1_ex (P := fun σ => ScM σ σ') (fun k hk σ hf => mM_next_243_s k hk σ hf) LF σ hf)
      · skip
        rcases if_ex2 hf with ⟨hc7, hf⟩ | ⟨hc7, hf⟩
        · skip
          exact hx.trans (mM_next_227_s k149 hk149 (-1 : Int64) σ hf)
        · skip
          obtain ⟨hb8, hf⟩ := ck_ex hf
          exact hx.trans (mM_next_227_s k149 hk149 ((((gL σ 0 14) * (32 : Int64)) + (gI σ 6 ((gI σ 0 12).toNatClampNeg)).toInt64) - (96 : Int64)) σ hf)
set_option maxHeartbeats 4000000 in
theorem mM_next_114_s {σ' : SM}  (t0 : Int32) (σ : SM) (hf : mM_next_114 t0 σ = some σ') : ScM σ σ' := by
  unfold mM_next_114 at hf
  have hx := ScM.refl σ
  obtain ⟨σ1, hs2, hf⟩ := st1_ex hf
  have hy := scm_I hs2
  have hx := hx.trans (hy (by unfold mO; omega))
  rcases (if_ex2 hf).symm with ⟨hc3, hf⟩ | ⟨hc3, hf⟩
  · skip
    exact hx.trans (lq1_ex (P := fun σ => ScM σ σ') (fun k hk σ hf => mM_next_149_s k hk σ hf) LF σ1 hf)
  · skip
    obtain ⟨hb4, hf⟩ := ck_ex hf
    obtain ⟨σ5, hs6, hf⟩ := st1_ex hf
    have hx := hx.trans (scm_L hs6)
    obtain ⟨σ7, hs8, hf⟩ := st1_ex hf
    have hy := scm_I hs8
    have hx := hx.trans (hy (by unfold mO; omega))
    exact hx.trans (lq1_ex (P := fun σ => ScM σ σ') (fun k hk σ hf => mM_next_149_s k hk σ hf) LF σ7 hf)
set_option maxHeartbeats 4000000 in
theorem mM_next_46_s {σ' : SM}  (σ : SM) (hf : mM_next_46 σ = some σ') : ScM σ σ' := by
  unfold mM_next_46 at hf
  have hx := ScM.refl σ
  obtain ⟨σ1, hs2, hf⟩ := st1_ex hf
  have hy := scm_I hs2
  have hx := hx.trans (hy (by unfold mO; omega))
  obtain ⟨σ3, hs4, hf⟩ := st1_ex hf
  have hx := hx.trans (scm_L hs4)
  rcases (if_ex2 hf).symm with ⟨hc5, hf⟩ | ⟨hc5, hf⟩
  · skip
    obtain ⟨hb6, hf⟩ := ck_ex hf
    obtain ⟨r8, hc7, hf⟩ := bd1_ex hf
    rcases if_ex2 hf with ⟨hc9, hf⟩ | ⟨hc9, hf⟩
    · skip
      obtain ⟨hb10, hf⟩ := ck_ex hf
      obtain ⟨r12, hc11, hf⟩ := bd1_ex hf
      rcases if_ex2 hf with ⟨hc13, hf⟩ | ⟨hc13, hf⟩
      · skip
        exact hx.trans (mM_next_114_s (3 : Int32) σ3 hf)
      · skip
        exact hx.trans (mM_next_114_s (2 : Int32) σ3 hf)
    · skip
      exact hx.trans (mM_next_114_s (1 : Int32) σ3 hf)
  · skip
    exact hx.trans (mM_next_114_s (0 : Int32) σ3 hf)
set_option maxHeartbeats 4000000 in
theorem mM_next_8_s {σ' : SM}  (k8 : SM → Option (SM)) (hk8 : ∀ (σ : SM), k8 σ = some σ' → ScM σ σ') (σ : SM) (hf : mM_next_8 k8 σ = some σ') : ScM σ σ' := by
  unfold mM_next_8 at hf
  have hx := ScM.refl σ
  rcases if_ex2 hf with ⟨hc1, hf⟩ | ⟨hc1, hf⟩
  · skip
    exact hx.trans (mM_next_46_s σ hf)
  · skip
    obtain ⟨hb2, hf⟩ := ck_ex hf
    rcases (if_ex2 hf).symm with ⟨hc3, hf⟩ | ⟨hc3, hf⟩
    · skip
      exact hx.trans (mM_next_46_s σ hf)
    · skip
      obtain ⟨σ4, hs5, hf⟩ := st1_ex hf
      have hy := scm_I hs5
      have hx := hx.trans (hy (by unfold mO; omega))
      exact hx.trans (hk8 σ4 hf)
set_option maxHeartbeats 4000000 in
theorem mM_next_s (σ : SM) (σ' : SM)  (hf : mM_next  σ = some σ') : ScM σ σ' := by
  unfold mM_next at hf
  have hx := ScM.refl σ
  obtain ⟨σ1, hs2, hf⟩ := st1_ex hf
  have hy := scm_I hs2
  have hx := hx.trans (hy (by unfold mO; omega))
  exact hx.trans (lq1_ex (P := fun σ => ScM σ σ') (fun k hk σ hf => mM_next_8_s k hk σ hf) LF σ1 hf)
set_option maxHeartbeats 4000000 in
theorem mM_push_s (p0 : Int32) (p1 : Int32) (σ : SM) (σ' : SM)  (hf : mM_push p0 p1 σ = some σ') : ScM σ σ' := by
  unfold mM_push at hf
  have hx := ScM.refl σ
  obtain ⟨hb1, hf⟩ := ck_ex hf
  obtain ⟨σ2, hs3, hf⟩ := st1_ex hf
  have hy := scm_I hs3
  have hx := hx.trans (hy (by unfold mO; omega))
  obtain ⟨hb4, hf⟩ := ck_ex hf
  obtain ⟨σ5, hs6, hf⟩ := st1_ex hf
  have hy := scm_I hs6
  have hx := hx.trans (hy (by unfold mO; omega))
  obtain ⟨σ7, hs8, hf⟩ := st1_ex hf
  have hy := scm_I hs8
  have hx := hx.trans (hy (by unfold mO; omega))
  cases some_ex hf
  exact hx
set_option maxHeartbeats 4000000 in
theorem mM_emit_s (p0 : Int32) (p1 : Int32) (σ : SM) (σ' : SM)  (hf : mM_emit p0 p1 σ = some σ') : ScM σ σ' := by
  unfold mM_emit at hf
  have hx := ScM.refl σ
  obtain ⟨hb1, hf⟩ := ck_ex hf
  obtain ⟨σ2, hs3, hf⟩ := st1_ex hf
  have hy := scm_I hs3
  have hx := hx.trans (hy (by unfold mO; omega))
  obtain ⟨hb4, hf⟩ := ck_ex hf
  obtain ⟨σ5, hs6, hf⟩ := st1_ex hf
  have hy := scm_I hs6
  have hx := hx.trans (hy (by unfold mO; omega))
  obtain ⟨σ7, hs8, hf⟩ := st1_ex hf
  have hy := scm_I hs8
  have hx := hx.trans (hy (by unfold mO; omega))
  cases some_ex hf
  exact hx
set_option maxHeartbeats 4000000 in
theorem mM_settle_63_s {σ' : SM}  (k0 : Int32 → SM → Option (SM)) (hk0 : ∀ (v1 : Int32) (σ : SM), k0 v1 σ = some σ' → ScM σ σ') (v1 : Int32) (σ : SM) (hf : mM_settle_63 k0 v1 σ = some σ') : ScM σ σ' := by
  unfold mM_settle_63 at hf
  have hx := ScM.refl σ
  obtain ⟨hb1, hf⟩ := ck_ex hf
  obtain ⟨hb2, hf⟩ := ck_ex hf
  obtain ⟨σ3, hs4, hf⟩ := st1_ex hf
  have hy := scm_I hs4
  have hx := hx.trans (hy (by unfold mO; omega))
  exact hx.trans (hk0 v1 σ3 hf)
set_option maxHeartbeats 4000000 in
theorem mM_settle_0_s {σ' : SM}  (k0 : Int32 → SM → Option (SM)) (hk0 : ∀ (v1 : Int32) (σ : SM), k0 v1 σ = some σ' → ScM σ σ') (v1 : Int32) (σ : SM) (hf : mM_settle_0 k0 v1 σ = some σ') : ScM σ σ' := by
  unfold mM_settle_0 at hf
  have hx := ScM.refl σ
  rcases if_ex2 hf with ⟨hc1, hf⟩ | ⟨hc1, hf⟩
  · skip
    cases some_ex hf
    exact hx
  · skip
    obtain ⟨hb2, hf⟩ := ck_ex hf
    obtain ⟨r4, hc3, hf⟩ := bd1_ex hf
    rcases if_ex2 hf with ⟨hc5, hf⟩ | ⟨hc5, hf⟩
    · skip
      cases some_ex hf
      exact hx
    · skip
      obtain ⟨σ6, hs7, hf⟩ := st1_ex hf
      have hy := scm_I hs7
      have hx := hx.trans (hy (by unfold mO; omega))
      obtain ⟨hb8, hf⟩ := ck_ex hf
      rcases if_ex2 hf with ⟨hc9, hf⟩ | ⟨hc9, hf⟩
      · skip
        exact hx.trans (mM_settle_63_s k0 hk0 v1 σ6 hf)
      · skip
        obtain ⟨hb10, hf⟩ := ck_ex hf
        rcases (if_ex2 hf).symm with ⟨hc11, hf⟩ | ⟨hc11, hf⟩
        · skip
          obtain ⟨hb12, hf⟩ := ck_ex hf
          obtain ⟨σ14, hc13, hf⟩ := bd1_ex hf
          have hx := hx.trans (mM_emit_s _ _ _ _ hc13)
          exact hx.trans (hk0 v1 σ14 hf)
        · skip
          exact hx.trans (mM_settle_63_s k0 hk0 v1 σ6 hf)
set_option maxHeartbeats 4000000 in
theorem mM_settle_s (p0 : Int32) (σ : SM) (σ' : SM)  (hf : mM_settle p0 σ = some σ') : ScM σ σ' := by
  unfold mM_settle at hf
  have hx := ScM.refl σ
  exact hx.trans (lq2_ex (P := fun v1 σ => ScM σ σ') (fun k hk v1 σ hf => mM_settle_0_s k hk v1 σ hf) LF p0 σ hf)
set_option maxHeartbeats 4000000 in
theorem mM_force_s (p0 : Int32) (p1 : Int32) (p2 : Int32) (σ : SM) (r : Int32) (σ' : SM)  (hf : mM_force p0 p1 p2 σ = some (r, σ')) : ScM σ σ' := by
  unfold mM_force at hf
  have hx := ScM.refl σ
  obtain ⟨σ1, hs2, hf⟩ := st1_ex hf
  have hy := scm_I hs2
  have hx := hx.trans (hy (by unfold mO; omega))
  obtain ⟨r4, hc3, hf⟩ := bd1_ex hf
  rcases if_ex2 hf with ⟨hc5, hf⟩ | ⟨hc5, hf⟩
  · skip
    cases some_ex hf
    exact hx
  · skip
    obtain ⟨r7, hc6, hf⟩ := bd1_ex hf
    obtain ⟨hb8, hf⟩ := ck_ex hf
    obtain ⟨r10, hc9, hf⟩ := bd1_ex hf
    rcases if_ex2 hf with ⟨hc11, hf⟩ | ⟨hc11, hf⟩
    · skip
      cases some_ex hf
      exact hx
    · skip
      obtain ⟨r13, hc12, hf⟩ := bd1_ex hf
      rcases (if_ex2 hf).symm with ⟨hc14, hf⟩ | ⟨hc14, hf⟩
      · skip
        obtain ⟨σ16, hc15, hf⟩ := bd1_ex hf
        have hx := hx.trans (mM_findForce_s _ _ _ hc15)
        obtain ⟨hb17, hf⟩ := ck_ex hf
        rcases if_ex2 hf with ⟨hc18, hf⟩ | ⟨hc18, hf⟩
        · skip
          cases some_ex hf
          exact hx
        · skip
          obtain ⟨hb19, hf⟩ := ck_ex hf
          rcases (if_ex2 hf).symm with ⟨hc20, hf⟩ | ⟨hc20, hf⟩
          · skip
            cases some_ex hf
            exact hx
          · skip
            cases some_ex hf
            exact hx
      · skip
        cases some_ex hf
        exact hx
set_option maxHeartbeats 4000000 in
theorem mM_ruleOf_s (p0 : Int32) (p1 : Int32) (σ : SM) (r : Int32) (σ' : SM)  (hf : mM_ruleOf p0 p1 σ = some (r, σ')) : ScM σ σ' := by
  unfold mM_ruleOf at hf
  have hx := ScM.refl σ
  obtain ⟨r2, σ3, hc1, hf⟩ := bd2_ex hf
  have hx := hx.trans (mM_find_s _ _ _ _ _ hc1)
  rcases (if_ex2 hf).symm with ⟨hc4, hf⟩ | ⟨hc4, hf⟩
  · skip
    rcases if_ex2 hf with ⟨hc5, hf⟩ | ⟨hc5, hf⟩
    · skip
      cases some_ex hf
      exact hx
    · skip
      cases some_ex hf
      exact hx
  · skip
    cases some_ex hf
    exact hx
set_option maxHeartbeats 4000000 in
theorem mM_setPlace_s (p0 : Int32) (σ : SM) (σ' : SM)  (hf : mM_setPlace p0 σ = some σ') : ScM σ σ' := by
  unfold mM_setPlace at hf
  have hx := ScM.refl σ
  obtain ⟨σ2, hc1, hf⟩ := bd1_ex hf
  have hx := hx.trans (mM_setNothing_s _ _ hc1)
  obtain ⟨σ3, hs4, hf⟩ := st1_ex hf
  have hx := hx.trans (scm_L hs4)
  obtain ⟨r6, hc5, hf⟩ := bd1_ex hf
  obtain ⟨hb7, hf⟩ := ck_ex hf
  obtain ⟨σ8, hs9, hf⟩ := st1_ex hf
  have hx := hx.trans (scm_L hs9)
  obtain ⟨hb10, hf⟩ := ck_ex hf
  obtain ⟨σ11, hs12, hf⟩ := st1_ex hf
  have hx := hx.trans (scm_L hs12)
  cases some_ex hf
  exact hx
set_option maxHeartbeats 4000000 in
theorem mM_rule_32_s {r : Int32} {σ' : SM}  (v1 : Int32) (v2 : Int32) (v3 : Int32) (v4 : Int32) (σ : SM) (hf : mM_rule_32 v1 v2 v3 v4 σ = some (r, σ')) : ScM σ σ' := by
  unfold mM_rule_32 at hf
  have hx := ScM.refl σ
  obtain ⟨r2, hc1, hf⟩ := bd1_ex hf
  rcases if_ex2 hf with ⟨hc3, hf⟩ | ⟨hc3, hf⟩
  · skip
    cases some_ex hf
    exact hx
  · skip
    obtain ⟨r5, hc4, hf⟩ := bd1_ex hf
    rcases (if_ex2 hf).symm with ⟨hc6, hf⟩ | ⟨hc6, hf⟩
    · skip
      obtain ⟨σ8, hc7, hf⟩ := bd1_ex hf
      have hx := hx.trans (mM_knowBy_s _ _ _ _ hc7)
      rcases (if_ex2 hf).symm with ⟨hc9, hf⟩ | ⟨hc9, hf⟩
      · skip
        obtain ⟨σ11, hc10, hf⟩ := bd1_ex hf
        have hx := hx.trans (mM_setPlace_s _ _ _ hc10)
        rcases (if_ex2 hf).symm with ⟨hc12, hf⟩ | ⟨hc12, hf⟩
        · skip
          obtain ⟨r14, σ15, hc13, hf⟩ := bd2_ex hf
          have hx := hx.trans (mM_ruleOf_s _ _ _ _ _ hc13)
          cases some_ex hf
          exact hx
        · skip
          obtain ⟨r17, σ18, hc16, hf⟩ := bd2_ex hf
          have hx := hx.trans (mM_ruleOf_s _ _ _ _ _ hc16)
          cases some_ex hf
          exact hx
      · skip
        obtain ⟨σ20, hc19, hf⟩ := bd1_ex hf
        have hx := hx.trans (mM_setNothing_s _ _ hc19)
        obtain ⟨r22, σ23, hc21, hf⟩ := bd2_ex hf
        have hx := hx.trans (mM_ruleOf_s _ _ _ _ _ hc21)
        cases some_ex hf
        exact hx
    · skip
      cases some_ex hf
      exact hx
set_option maxHeartbeats 4000000 in
theorem mM_rule_s (p0 : Int32) (p1 : Int32) (p2 : Int32) (p3 : Int32) (σ : SM) (r : Int32) (σ' : SM)  (hf : mM_rule p0 p1 p2 p3 σ = some (r, σ')) : ScM σ σ' := by
  unfold mM_rule at hf
  have hx := ScM.refl σ
  obtain ⟨σ1, hs2, hf⟩ := st1_ex hf
  have hy := scm_I hs2
  have hx := hx.trans (hy (by unfold mO; omega))
  obtain ⟨r4, hc3, hf⟩ := bd1_ex hf
  rcases if_ex2 hf with ⟨hc5, hf⟩ | ⟨hc5, hf⟩
  · skip
    cases some_ex hf
    exact hx
  · skip
    rcases if_ex2 hf with ⟨hc6, hf⟩ | ⟨hc6, hf⟩
    · skip
      exact hx.trans (mM_rule_32_s p0 p1 p2 p3 σ1 hf)
    · skip
      obtain ⟨r8, hc7, hf⟩ := bd1_ex hf
      rcases if_ex2 hf with ⟨hc9, hf⟩ | ⟨hc9, hf⟩
      · skip
        cases some_ex hf
        exact hx
      · skip
        exact hx.trans (mM_rule_32_s p0 p1 p2 p3 σ1 hf)
set_option maxHeartbeats 4000000 in
theorem mM_setRules_8_s {σ' : SM}  (k8 : Int32 → SM → Option (SM)) (hk8 : ∀ (v3 : Int32) (σ : SM), k8 v3 σ = some σ' → ScM σ σ') (v3 : Int32) (σ : SM) (hf : mM_setRules_8 k8 v3 σ = some σ') : ScM σ σ' := by
  unfold mM_setRules_8 at hf
  have hx := ScM.refl σ
  rcases if_ex2 hf with ⟨hc1, hf⟩ | ⟨hc1, hf⟩
  · skip
    cases some_ex hf
    exact hx
  · skip
    obtain ⟨hb2, hf⟩ := ck_ex hf
    obtain ⟨σ4, hc3, hf⟩ := bd1_ex hf
    have hx := hx.trans (mM_setPlace_s _ _ _ hc3)
    obtain ⟨r6, σ7, hc5, hf⟩ := bd2_ex hf
    have hx := hx.trans (mM_ruleOf_s _ _ _ _ _ hc5)
    obtain ⟨hb8, hf⟩ := ck_ex hf
    obtain ⟨σ9, hs10, hf⟩ := st1_ex hf
    have hy := scm_I hs10
    have hx := hx.trans (hy (by unfold mO; omega))
    obtain ⟨r12, σ13, hc11, hf⟩ := bd2_ex hf
    have hx := hx.trans (mM_ruleOf_s _ _ _ _ _ hc11)
    obtain ⟨hb14, hf⟩ := ck_ex hf
    obtain ⟨σ15, hs16, hf⟩ := st1_ex hf
    have hy := scm_I hs16
    have hx := hx.trans (hy (by unfold mO; omega))
    obtain ⟨hb17, hf⟩ := ck_ex hf
    obtain ⟨σ18, hs19, hf⟩ := st1_ex hf
    have hy := scm_I hs19
    have hx := hx.trans (hy (by unfold mO; omega))
    exact hx.trans (hk8 (v3 + (1 : Int32)) σ18 hf)
set_option maxHeartbeats 4000000 in
theorem mM_setRules_s (p0 : Int32) (p1 : Int32) (σ : SM) (σ' : SM)  (hf : mM_setRules p0 p1 σ = some σ') : ScM σ σ' := by
  unfold mM_setRules at hf
  have hx := ScM.refl σ
  obtain ⟨σ2, hc1, hf⟩ := bd1_ex hf
  have hx := hx.trans (mM_knowBy_s _ _ _ _ hc1)
  exact hx.trans (lq2_ex (P := fun v3 σ => ScM σ σ') (fun k hk v3 σ hf => mM_setRules_8_s k hk v3 σ hf) LF (0 : Int32) σ2 hf)
set_option maxHeartbeats 4000000 in
theorem mM_leastBy_184_s {r : Int32} {σ' : SM}  (k34 : Int32 → Int32 → Int32 → Int32 → Int32 → SM → Option (Int32 × SM)) (hk34 : ∀ (v1 : Int32) (v2 : Int32) (v3 : Int32) (v4 : Int32) (v5 : Int32) (σ : SM), k34 v1 v2 v3 v4 v5 σ = some (r, σ') → ScM σ σ') (v1 : Int32) (v2 : Int32) (v3 : Int32) (v4 : Int32) (v5 : Int32) (σ : SM) (hf : mM_leastBy_184 k34 v1 v2 v3 v4 v5 σ = some (r, σ')) : ScM σ σ' := by
  unfold mM_leastBy_184 at hf
  have hx := ScM.refl σ
  rcases if_ex2 hf with ⟨hc1, hf⟩ | ⟨hc1, hf⟩
  · skip
    exact hx.trans (hk34 v1 v2 v3 (v4 + (-1 : Int32)) v5 σ hf)
  · skip
    obtain ⟨hb2, hf⟩ := ck_ex hf
    obtain ⟨hb3, hf⟩ := ck_ex hf
    obtain ⟨hb4, hf⟩ := ck_ex hf
    obtain ⟨hb5, hf⟩ := ck_ex hf
    obtain ⟨hb6, hf⟩ := ck_ex hf
    obtain ⟨σ7, hs8, hf⟩ := st1_ex hf
    have hy := scm_I hs8
    have hx := hx.trans (hy (by unfold mO; omega))
    obtain ⟨hb9, hf⟩ := ck_ex hf
    obtain ⟨hb10, hf⟩ := ck_ex hf
    obtain ⟨r12, hc11, hf⟩ := bd1_ex hf
    exact hx.trans (hk34 v1 v2 (v3 - r12) (v4 + (-1 : Int32)) ((gI σ 22 ((v4 + (-1 : Int32)).toNatClampNeg)) + (1 : Int32)) σ7 hf)
set_option maxHeartbeats 4000000 in
theorem mM_leastBy_114_s {r : Int32} {σ' : SM}  (k34 : Int32 → Int32 → Int32 → Int32 → Int32 → SM → Option (Int32 × SM)) (hk34 : ∀ (v1 : Int32) (v2 : Int32) (v3 : Int32) (v4 : Int32) (v5 : Int32) (σ : SM), k34 v1 v2 v3 v4 v5 σ = some (r, σ') → ScM σ σ') (v1 : Int32) (v2 : Int32) (v3 : Int32) (v4 : Int32) (v5 : Int32) (σ : SM) (hf : mM_leastBy_114 k34 v1 v2 v3 v4 v5 σ = some (r, σ')) : ScM σ σ' := by
  unfold mM_leastBy_114 at hf
  have hx := ScM.refl σ
  rcases if_ex2 hf with ⟨hc1, hf⟩ | ⟨hc1, hf⟩
  · skip
    exact hx.trans (mM_leastBy_184_s k34 hk34 v1 v2 v3 v4 v5 σ hf)
  · skip
    obtain ⟨hb2, hf⟩ := ck_ex hf
    obtain ⟨σ3, hs4, hf⟩ := st1_ex hf
    have hy := scm_I hs4
    have hx := hx.trans (hy (by unfold mO; omega))
    obtain ⟨hb5, hf⟩ := ck_ex hf
    obtain ⟨hb6, hf⟩ := ck_ex hf
    obtain ⟨hb7, hf⟩ := ck_ex hf
    obtain ⟨hb8, hf⟩ := ck_ex hf
    obtain ⟨σ9, hs10, hf⟩ := st1_ex hf
    have hy := scm_I hs10
    have hx := hx.trans (hy (by unfold mO; omega))
    obtain ⟨hb11, hf⟩ := ck_ex hf
    obtain ⟨hb12, hf⟩ := ck_ex hf
    obtain ⟨r14, hc13, hf⟩ := bd1_ex hf
    exact hx.trans (hk34 v1 v2 (v3 + r14) (v4 + (1 : Int32)) (0 : Int32) σ9 hf)
set_option maxHeartbeats 4000000 in
theorem mM_leastBy_85_s {r : Int32} {σ' : SM}  (k34 : Int32 → Int32 → Int32 → Int32 → Int32 → SM → Option (Int32 × SM)) (hk34 : ∀ (v1 : Int32) (v2 : Int32) (v3 : Int32) (v4 : Int32) (v5 : Int32) (σ : SM), k34 v1 v2 v3 v4 v5 σ = some (r, σ') → ScM σ σ') (k85 : Int32 → Int32 → Int32 → Int32 → Int32 → SM → Option (Int32 × SM)) (hk85 : ∀ (v1 : Int32) (v2 : Int32) (v3 : Int32) (v4 : Int32) (v5 : Int32) (σ : SM), k85 v1 v2 v3 v4 v5 σ = some (r, σ') → ScM σ σ') (v1 : Int32) (v2 : Int32) (v3 : Int32) (v4 : Int32) (v5 : Int32) (σ : SM) (hf : mM_leastBy_85 k34 k85 v1 v2 v3 v4 v5 σ = some (r, σ')) : ScM σ σ' := by
  unfold mM_leastBy_85 at hf
  have hx := ScM.refl σ
  rcases if_ex2 hf with ⟨hc1, hf⟩ | ⟨hc1, hf⟩
  · skip
    exact hx.trans (mM_leastBy_114_s k34 hk34 v1 v2 v3 v4 v5 σ hf)
  · skip
    obtain ⟨r3, hc2, hf⟩ := bd1_ex hf
    rcases (if_ex2 hf).symm with ⟨hc4, hf⟩ | ⟨hc4, hf⟩
    · skip
      exact hx.trans (mM_leastBy_114_s k34 hk34 v1 v2 v3 v4 v5 σ hf)
    · skip
      exact hx.trans (hk85 v1 v2 v3 v4 (v5 + (1 : Int32)) σ hf)
set_option maxHeartbeats 4000000 in
theorem mM_leastBy_53_s {r : Int32} {σ' : SM}  (k34 : Int32 → Int32 → Int32 → Int32 → Int32 → SM → Option (Int32 × SM)) (hk34 : ∀ (v1 : Int32) (v2 : Int32) (v3 : Int32) (v4 : Int32) (v5 : Int32) (σ : SM), k34 v1 v2 v3 v4 v5 σ = some (r, σ') → ScM σ σ') (k53 : Int32 → Int32 → Int32 → Int32 → Int32 → Int32 → SM → Option (Int32 × SM)) (hk53 : ∀ (v1 : Int32) (v2 : Int32) (v3 : Int32) (v4 : Int32) (v5 : Int32) (v6 : Int32) (σ : SM), k53 v1 v2 v3 v4 v5 v6 σ = some (r, σ') → ScM σ σ') (v1 : Int32) (v2 : Int32) (v3 : Int32) (v4 : Int32) (v5 : Int32) (v6 : Int32) (σ : SM) (hf : mM_leastBy_53 k34 k53 v1 v2 v3 v4 v5 v6 σ = some (r, σ')) : ScM σ σ' := by
  unfold mM_leastBy_53 at hf
  have hx := ScM.refl σ
  rcases if_ex2 hf with ⟨hc1, hf⟩ | ⟨hc1, hf⟩
  · skip
    exact hx.trans (mM_leastBy_184_s k34 hk34 v1 v2 v3 v4 v5 σ hf)
  · skip
    obtain ⟨hb2, hf⟩ := ck_ex hf
    obtain ⟨hb3, hf⟩ := ck_ex hf
    obtain ⟨σ4, hs5, hf⟩ := st1_ex hf
    have hy := scm_I hs5
    have hx := hx.trans (hy (by unfold mO; omega))
    exact hx.trans (hk53 v1 v2 v3 v4 v5 (v6 + (1 : Int32)) σ4 hf)
set_option maxHeartbeats 4000000 in
theorem mM_leastBy_34_s {r : Int32} {σ' : SM}  (k34 : Int32 → Int32 → Int32 → Int32 → Int32 → SM → Option (Int32 × SM)) (hk34 : ∀ (v1 : Int32) (v2 : Int32) (v3 : Int32) (v4 : Int32) (v5 : Int32) (σ : SM), k34 v1 v2 v3 v4 v5 σ = some (r, σ') → ScM σ σ') (v1 : Int32) (v2 : Int32) (v3 : Int32) (v4 : Int32) (v5 : Int32) (σ : SM) (hf : mM_leastBy_34 k34 v1 v2 v3 v4 v5 σ = some (r, σ')) : ScM σ σ' := by
  unfold mM_leastBy_34 at hf
  have hx := ScM.refl σ
  rcases if_ex2 hf with ⟨hc1, hf⟩ | ⟨hc1, hf⟩
  · skip
    cases some_ex hf
    exact hx
  · skip
    rcases (if_ex2 hf).symm with ⟨hc2, hf⟩ | ⟨hc2, hf⟩
    · skip
      exact hx.trans (lq6_ex (P := fun v1 v2 v3 v4 v5 σ => ScM σ σ') (fun k hk v1 v2 v3 v4 v5 σ hf => mM_leastBy_85_s k34 hk34 k hk v1 v2 v3 v4 v5 σ hf) LF v1 v2 v3 v4 v5 σ hf)
    · skip
      exact hx.trans (lq7_ex (P := fun v1 v2 v3 v4 v5 v6 σ => ScM σ σ') (fun k hk v1 v2 v3 v4 v5 v6 σ hf => mM_leastBy_53_s k34 hk34 k hk v1 v2 v3 v4 v5 v6 σ hf) LF v1 v3 v3 v4 v5 (0 : Int32) σ hf)
set_option maxHeartbeats 4000000 in
theorem mM_leastBy_13_s {r : Int32} {σ' : SM}  (k13 : Int32 → Int32 → Int32 → Int32 → Int32 → Int32 → SM → Option (Int32 × SM)) (hk13 : ∀ (v1 : Int32) (v2 : Int32) (v3 : Int32) (v4 : Int32) (v5 : Int32) (v6 : Int32) (σ : SM), k13 v1 v2 v3 v4 v5 v6 σ = some (r, σ') → ScM σ σ') (v1 : Int32) (v2 : Int32) (v3 : Int32) (v4 : Int32) (v5 : Int32) (v6 : Int32) (σ : SM) (hf : mM_leastBy_13 k13 v1 v2 v3 v4 v5 v6 σ = some (r, σ')) : ScM σ σ' := by
  unfold mM_leastBy_13 at hf
  have hx := ScM.refl σ
  rcases if_ex2 hf with ⟨hc1, hf⟩ | ⟨hc1, hf⟩
  · skip
    exact hx.trans (lq6_ex (P := fun v1 v2 v3 v4 v5 σ => ScM σ σ') (fun k hk v1 v2 v3 v4 v5 σ hf => mM_leastBy_34_s k hk v1 v2 v3 v4 v5 σ hf) LF v1 v2 v3 v4 v5 σ hf)
  · skip
    obtain ⟨hb2, hf⟩ := ck_ex hf
    obtain ⟨σ3, hs4, hf⟩ := st1_ex hf
    have hy := scm_I hs4
    have hx := hx.trans (hy (by unfold mO; omega))
    exact hx.trans (hk13 v1 v2 v3 v4 v5 (v6 + (1 : Int32)) σ3 hf)
set_option maxHeartbeats 4000000 in
theorem mM_leastBy_s (p0 : Int32) (σ : SM) (r : Int32) (σ' : SM)  (hf : mM_leastBy p0 σ = some (r, σ')) : ScM σ σ' := by
  unfold mM_leastBy at hf
  have hx := ScM.refl σ
  exact hx.trans (lq7_ex (P := fun v1 v2 v3 v4 v5 v6 σ => ScM σ σ') (fun k hk v1 v2 v3 v4 v5 v6 σ hf => mM_leastBy_13_s k hk v1 v2 v3 v4 v5 v6 σ hf) LF p0 (-1 : Int32) (0 : Int32) (0 : Int32) (0 : Int32) (0 : Int32) σ hf)
set_option maxHeartbeats 4000000 in
theorem mM_led_s (p0 : Int32) (σ : SM) (r : Int32) (σ' : SM)  (hf : mM_led p0 σ = some (r, σ')) : ScM σ σ' := by
  unfold mM_led at hf
  have hx := ScM.refl σ
  obtain ⟨σ1, hs2, hf⟩ := st1_ex hf
  have hy := scm_I hs2
  have hx := hx.trans (hy (by unfold mO; omega))
  rcases (if_ex2 hf).symm with ⟨hc3, hf⟩ | ⟨hc3, hf⟩
  · skip
    rcases (if_ex2 hf).symm with ⟨hc4, hf⟩ | ⟨hc4, hf⟩
    · skip
      obtain ⟨r6, hc5, hf⟩ := bd1_ex hf
      rcases if_ex2 hf with ⟨hc7, hf⟩ | ⟨hc7, hf⟩
      · skip
        cases some_ex hf
        exact hx
      · skip
        obtain ⟨hb8, hf⟩ := ck_ex hf
        cases some_ex hf
        exact hx
    · skip
      cases some_ex hf
      exact hx
  · skip
    cases some_ex hf
    exact hx
set_option maxHeartbeats 4000000 in
theorem mM_judge_s (p0 : Int32) (p1 : Int32) (p2 : Int32) (σ : SM) (r : Int32) (σ' : SM)  (hf : mM_judge p0 p1 p2 σ = some (r, σ')) : ScM σ σ' := by
  unfold mM_judge at hf
  have hx := ScM.refl σ
  obtain ⟨σ1, hs2, hf⟩ := st1_ex hf
  have hy := scm_I hs2
  have hx := hx.trans (hy (by unfold mO; omega))
  obtain ⟨r4, hc3, hf⟩ := bd1_ex hf
  rcases if_ex2 hf with ⟨hc5, hf⟩ | ⟨hc5, hf⟩
  · skip
    cases some_ex hf
    exact hx
  · skip
    obtain ⟨r7, hc6, hf⟩ := bd1_ex hf
    rcases if_ex2 hf with ⟨hc8, hf⟩ | ⟨hc8, hf⟩
    · skip
      cases some_ex hf
      exact hx
    · skip
      obtain ⟨r10, hc9, hf⟩ := bd1_ex hf
      rcases if_ex2 hf with ⟨hc11, hf⟩ | ⟨hc11, hf⟩
      · skip
        cases some_ex hf
        exact hx
      · skip
        obtain ⟨r13, hc12, hf⟩ := bd1_ex hf
        rcases (if_ex2 hf).symm with ⟨hc14, hf⟩ | ⟨hc14, hf⟩
        · skip
          obtain ⟨σ16, hc15, hf⟩ := bd1_ex hf
          have hx := hx.trans (mM_setRules_s _ _ _ _ hc15)
          obtain ⟨r18, σ19, hc17, hf⟩ := bd2_ex hf
          have hx := hx.trans (mM_leastBy_s _ _ _ _ hc17)
          cases some_ex hf
          exact hx
        · skip
          cases some_ex hf
          exact hx
set_option maxHeartbeats 4000000 in
theorem mM_held_132_s {r : Int32} {σ' : SM}  (k38 : Int32 → Int32 → Int32 → Int32 → Int32 → Int32 → SM → Option (Int32 × SM)) (hk38 : ∀ (v1 : Int32) (v2 : Int32) (v3 : Int32) (v4 : Int32) (v5 : Int32) (v6 : Int32) (σ : SM), k38 v1 v2 v3 v4 v5 v6 σ = some (r, σ') → ScM σ σ') (v1 : Int32) (v2 : Int32) (v3 : Int32) (v4 : Int32) (v5 : Int32) (v6 : Int32) (σ : SM) (hf : mM_held_132 k38 v1 v2 v3 v4 v5 v6 σ = some (r, σ')) : ScM σ σ' := by
  unfold mM_held_132 at hf
  have hx := ScM.refl σ
  exact hx.trans (hk38 v1 v2 v3 v4 v5 (v6 + (1 : Int32)) σ hf)
set_option maxHeartbeats 4000000 in
theorem mM_held_38_s {r : Int32} {σ' : SM}  (k38 : Int32 → Int32 → Int32 → Int32 → Int32 → Int32 → SM → Option (Int32 × SM)) (hk38 : ∀ (v1 : Int32) (v2 : Int32) (v3 : Int32) (v4 : Int32) (v5 : Int32) (v6 : Int32) (σ : SM), k38 v1 v2 v3 v4 v5 v6 σ = some (r, σ') → ScM σ σ') (v1 : Int32) (v2 : Int32) (v3 : Int32) (v4 : Int32) (v5 : Int32) (v6 : Int32) (σ : SM) (hf : mM_held_38 k38 v1 v2 v3 v4 v5 v6 σ = some (r, σ')) : ScM σ σ' := by
  unfold mM_held_38 at hf
  have hx := ScM.refl σ
  rcases if_ex2 hf with ⟨hc1, hf⟩ | ⟨hc1, hf⟩
  · skip
    cases some_ex hf
    exact hx
  · skip
    obtain ⟨hb2, hf⟩ := ck_ex hf
    rcases (if_ex2 hf).symm with ⟨hc3, hf⟩ | ⟨hc3, hf⟩
    · skip
      exact hx.trans (mM_held_132_s k38 hk38 v1 v2 v3 v4 v5 v6 σ hf)
    · skip
      obtain ⟨hb4, hf⟩ := ck_ex hf
      rcases if_ex2 hf with ⟨hc5, hf⟩ | ⟨hc5, hf⟩
      · skip
        exact hx.trans (mM_held_132_s k38 hk38 v1 v2 v3 v4 v5 v6 σ hf)
      · skip
        obtain ⟨hb6, hf⟩ := ck_ex hf
        rcases if_ex2 hf with ⟨hc7, hf⟩ | ⟨hc7, hf⟩
        · skip
          exact hx.trans (mM_held_132_s k38 hk38 v1 v2 v3 v4 v5 v6 σ hf)
        · skip
          obtain ⟨hb8, hf⟩ := ck_ex hf
          rcases if_ex2 hf with ⟨hc9, hf⟩ | ⟨hc9, hf⟩
          · skip
            exact hx.trans (mM_held_132_s k38 hk38 v1 v2 v3 v4 v5 v6 σ hf)
          · skip
            obtain ⟨hb10, hf⟩ := ck_ex hf
            obtain ⟨hb11, hf⟩ := ck_ex hf
            exact hx.trans (mM_held_132_s k38 hk38 v1 v2 v3 (gI σ 1 ((((2528 : Int32) + ((5 : Int32) * v6)) + (1 : Int32)).toNatClampNeg)) (gI σ 1 ((((2528 : Int32) + ((5 : Int32) * v6)) + (2 : Int32)).toNatClampNeg)) v6 σ hf)
set_option maxHeartbeats 4000000 in
theorem mM_held_s (p0 : Int32) (p1 : Int32) (p2 : Int32) (σ : SM) (r : Int32) (σ' : SM)  (hf : mM_held p0 p1 p2 σ = some (r, σ')) : ScM σ σ' := by
  unfold mM_held at hf
  have hx := ScM.refl σ
  obtain ⟨σ1, hs2, hf⟩ := st1_ex hf
  have hy := scm_I hs2
  have hx := hx.trans (hy (by unfold mO; omega))
  obtain ⟨r4, hc3, hf⟩ := bd1_ex hf
  rcases if_ex2 hf with ⟨hc5, hf⟩ | ⟨hc5, hf⟩
  · skip
    cases some_ex hf
    exact hx
  · skip
    obtain ⟨r7, hc6, hf⟩ := bd1_ex hf
    rcases if_ex2 hf with ⟨hc8, hf⟩ | ⟨hc8, hf⟩
    · skip
      cases some_ex hf
      exact hx
    · skip
      obtain ⟨r10, hc9, hf⟩ := bd1_ex hf
      rcases (if_ex2 hf).symm with ⟨hc11, hf⟩ | ⟨hc11, hf⟩
      · skip
        exact hx.trans (lq7_ex (P := fun v1 v2 v3 v4 v5 v6 σ => ScM σ σ') (fun k hk v1 v2 v3 v4 v5 v6 σ hf => mM_held_38_s k hk v1 v2 v3 v4 v5 v6 σ hf) LF p0 p1 p2 (-1 : Int32) (-1 : Int32) (0 : Int32) σ1 hf)
      · skip
        cases some_ex hf
        exact hx
set_option maxHeartbeats 4000000 in
theorem mM_broken_s (p0 : Int32) (p1 : Int32) (p2 : Int32) (σ : SM) (r : Int32) (σ' : SM)  (hf : mM_broken p0 p1 p2 σ = some (r, σ')) : ScM σ σ' := by
  unfold mM_broken at hf
  have hx := ScM.refl σ
  obtain ⟨σ1, hs2, hf⟩ := st1_ex hf
  have hy := scm_I hs2
  have hx := hx.trans (hy (by unfold mO; omega))
  obtain ⟨r4, hc3, hf⟩ := bd1_ex hf
  rcases if_ex2 hf with ⟨hc5, hf⟩ | ⟨hc5, hf⟩
  · skip
    cases some_ex hf
    exact hx
  · skip
    obtain ⟨r7, hc6, hf⟩ := bd1_ex hf
    rcases if_ex2 hf with ⟨hc8, hf⟩ | ⟨hc8, hf⟩
    · skip
      cases some_ex hf
      exact hx
    · skip
      obtain ⟨r10, hc9, hf⟩ := bd1_ex hf
      rcases (if_ex2 hf).symm with ⟨hc11, hf⟩ | ⟨hc11, hf⟩
      · skip
        obtain ⟨r13, hc12, hf⟩ := bd1_ex hf
        rcases (if_ex2 hf).symm with ⟨hc14, hf⟩ | ⟨hc14, hf⟩
        · skip
          rcases (if_ex2 hf).symm with ⟨hc15, hf⟩ | ⟨hc15, hf⟩
          · skip
            rcases (if_ex2 hf).symm with ⟨hc16, hf⟩ | ⟨hc16, hf⟩
            · skip
              obtain ⟨hb17, hf⟩ := ck_ex hf
              cases some_ex hf
              exact hx
            · skip
              obtain ⟨hb18, hf⟩ := ck_ex hf
              cases some_ex hf
              exact hx
          · skip
            obtain ⟨r20, hc19, hf⟩ := bd1_ex hf
            rcases (if_ex2 hf).symm with ⟨hc21, hf⟩ | ⟨hc21, hf⟩
            · skip
              obtain ⟨hb22, hf⟩ := ck_ex hf
              cases some_ex hf
              exact hx
            · skip
              cases some_ex hf
              exact hx
        · skip
          cases some_ex hf
          exact hx
      · skip
        cases some_ex hf
        exact hx
set_option maxHeartbeats 4000000 in
theorem mM_setBooth_157_s {σ' : SM}  (k101 : Int32 → Int32 → SM → Option (SM)) (hk101 : ∀ (v1 : Int32) (v2 : Int32) (σ : SM), k101 v1 v2 σ = some σ' → ScM σ σ') (v1 : Int32) (v2 : Int32) (t0 : Int64) (t1 : Int32) (σ : SM) (hf : mM_setBooth_157 k101 v1 v2 t0 t1 σ = some σ') : ScM σ σ' := by
  unfold mM_setBooth_157 at hf
  have hx := ScM.refl σ
  obtain ⟨hb1, hf⟩ := ck_ex hf
  obtain ⟨σ2, hs3, hf⟩ := st1_ex hf
  have hx := hx.trans (scm_L hs3)
  exact hx.trans (hk101 v1 (v2 + (1 : Int32)) σ2 hf)
set_option maxHeartbeats 4000000 in
theorem mM_setBooth_150_s {σ' : SM}  (k101 : Int32 → Int32 → SM → Option (SM)) (hk101 : ∀ (v1 : Int32) (v2 : Int32) (σ : SM), k101 v1 v2 σ = some σ' → ScM σ σ') (v1 : Int32) (v2 : Int32) (t0 : Int32) (σ : SM) (hf : mM_setBooth_150 k101 v1 v2 t0 σ = some σ') : ScM σ σ' := by
  unfold mM_setBooth_150 at hf
  have hx := ScM.refl σ
  exact hx.trans (mM_setBooth_157_s k101 hk101 v1 v2 (gL σ 14 16) t0 σ hf)
set_option maxHeartbeats 4000000 in
theorem mM_setBooth_101_s {σ' : SM}  (k101 : Int32 → Int32 → SM → Option (SM)) (hk101 : ∀ (v1 : Int32) (v2 : Int32) (σ : SM), k101 v1 v2 σ = some σ' → ScM σ σ') (v1 : Int32) (v2 : Int32) (σ : SM) (hf : mM_setBooth_101 k101 v1 v2 σ = some σ') : ScM σ σ' := by
  unfold mM_setBooth_101 at hf
  have hx := ScM.refl σ
  rcases if_ex2 hf with ⟨hc1, hf⟩ | ⟨hc1, hf⟩
  · skip
    cases some_ex hf
    exact hx
  · skip
    obtain ⟨hb2, hf⟩ := ck_ex hf
    rcases (if_ex2 hf).symm with ⟨hc3, hf⟩ | ⟨hc3, hf⟩
    · skip
      exact hx.trans (mM_setBooth_150_s k101 hk101 v1 v2 (16 : Int32) σ hf)
    · skip
      obtain ⟨r5, hc4, hf⟩ := bd1_ex hf
      rcases if_ex2 hf with ⟨hc6, hf⟩ | ⟨hc6, hf⟩
      · skip
        exact hx.trans (mM_setBooth_150_s k101 hk101 v1 v2 (16 : Int32) σ hf)
      · skip
        exact hx.trans (mM_setBooth_157_s k101 hk101 v1 v2 (1 : Int64) (16 : Int32) σ hf)
set_option maxHeartbeats 4000000 in
theorem mM_setBooth_s (p0 : Int32) (σ : SM) (σ' : SM)  (hf : mM_setBooth p0 σ = some σ') : ScM σ σ' := by
  unfold mM_setBooth at hf
  have hx := ScM.refl σ
  obtain ⟨hb1, hf⟩ := ck_ex hf
  obtain ⟨σ3, hc2, hf⟩ := bd1_ex hf
  have hx := hx.trans (mM_setPlace_s _ _ _ hc2)
  obtain ⟨r5, hc4, hf⟩ := bd1_ex hf
  obtain ⟨σ6, hs7, hf⟩ := st1_ex hf
  have hx := hx.trans (scm_L hs7)
  obtain ⟨r9, hc8, hf⟩ := bd1_ex hf
  obtain ⟨σ10, hs11, hf⟩ := st1_ex hf
  have hx := hx.trans (scm_L hs11)
  obtain ⟨r13, hc12, hf⟩ := bd1_ex hf
  obtain ⟨σ14, hs15, hf⟩ := st1_ex hf
  have hx := hx.trans (scm_L hs15)
  obtain ⟨r17, hc16, hf⟩ := bd1_ex hf
  obtain ⟨σ18, hs19, hf⟩ := st1_ex hf
  have hx := hx.trans (scm_L hs19)
  obtain ⟨σ20, hs21, hf⟩ := st1_ex hf
  have hx := hx.trans (scm_L hs21)
  exact hx.trans (lq3_ex (P := fun v1 v2 σ => ScM σ σ') (fun k hk v1 v2 σ hf => mM_setBooth_101_s k hk v1 v2 σ hf) LF p0 (0 : Int32) σ20 hf)
set_option maxHeartbeats 4000000 in
theorem mM_isAgain_s (p0 : Int32) (σ : SM) (r : Int32) (σ' : SM)  (hf : mM_isAgain p0 σ = some (r, σ')) : ScM σ σ' := by
  unfold mM_isAgain at hf
  have hx := ScM.refl σ
  obtain ⟨σ2, hc1, hf⟩ := bd1_ex hf
  have hx := hx.trans (mM_setBooth_s _ _ _ hc1)
  obtain ⟨r4, σ5, hc3, hf⟩ := bd2_ex hf
  have hx := hx.trans (mM_find_s _ _ _ _ _ hc3)
  obtain ⟨hb6, hf⟩ := ck_ex hf
  cases some_ex hf
  exact hx
set_option maxHeartbeats 4000000 in
theorem mM_findValid_130_s {σ' : SM}  (k54 : Int32 → Int32 → SM → Option (SM)) (hk54 : ∀ (v1 : Int32) (v2 : Int32) (σ : SM), k54 v1 v2 σ = some σ' → ScM σ σ') (v1 : Int32) (v2 : Int32) (σ : SM) (hf : mM_findValid_130 k54 v1 v2 σ = some σ') : ScM σ σ' := by
  unfold mM_findValid_130 at hf
  have hx := ScM.refl σ
  exact hx.trans (hk54 v1 (v2 + (1 : Int32)) σ hf)
set_option maxHeartbeats 4000000 in
theorem mM_findValid_54_s {σ' : SM}  (k54 : Int32 → Int32 → SM → Option (SM)) (hk54 : ∀ (v1 : Int32) (v2 : Int32) (σ : SM), k54 v1 v2 σ = some σ' → ScM σ σ') (v1 : Int32) (v2 : Int32) (σ : SM) (hf : mM_findValid_54 k54 v1 v2 σ = some σ') : ScM σ σ' := by
  unfold mM_findValid_54 at hf
  have hx := ScM.refl σ
  rcases if_ex2 hf with ⟨hc1, hf⟩ | ⟨hc1, hf⟩
  · skip
    cases some_ex hf
    exact hx
  · skip
    obtain ⟨r3, hc2, hf⟩ := bd1_ex hf
    rcases (if_ex2 hf).symm with ⟨hc4, hf⟩ | ⟨hc4, hf⟩
    · skip
      exact hx.trans (mM_findValid_130_s k54 hk54 v1 v2 σ hf)
    · skip
      obtain ⟨r6, hc5, hf⟩ := bd1_ex hf
      rcases if_ex2 hf with ⟨hc7, hf⟩ | ⟨hc7, hf⟩
      · skip
        exact hx.trans (mM_findValid_130_s k54 hk54 v1 v2 σ hf)
      · skip
        obtain ⟨hb8, hf⟩ := ck_ex hf
        obtain ⟨hb9, hf⟩ := ck_ex hf
        rcases (if_ex2 hf).symm with ⟨hc10, hf⟩ | ⟨hc10, hf⟩
        · skip
          exact hx.trans (mM_findValid_130_s k54 hk54 v1 v2 σ hf)
        · skip
          obtain ⟨hb11, hf⟩ := ck_ex hf
          obtain ⟨hb12, hf⟩ := ck_ex hf
          obtain ⟨hb13, hf⟩ := ck_ex hf
          obtain ⟨hb14, hf⟩ := ck_ex hf
          obtain ⟨σ15, hs16, hf⟩ := st1_ex hf
          have hy := scm_I hs16
          have hx := hx.trans (hy (by unfold mO; omega))
          exact hx.trans (mM_findValid_130_s k54 hk54 v1 v2 σ15 hf)
set_option maxHeartbeats 4000000 in
theorem mM_findValid_33_s {σ' : SM}  (k33 : Int32 → Int32 → SM → Option (SM)) (hk33 : ∀ (v1 : Int32) (v2 : Int32) (σ : SM), k33 v1 v2 σ = some σ' → ScM σ σ') (v1 : Int32) (v2 : Int32) (σ : SM) (hf : mM_findValid_33 k33 v1 v2 σ = some σ') : ScM σ σ' := by
  unfold mM_findValid_33 at hf
  have hx := ScM.refl σ
  rcases if_ex2 hf with ⟨hc1, hf⟩ | ⟨hc1, hf⟩
  · skip
    exact hx.trans (lq3_ex (P := fun v1 v2 σ => ScM σ σ') (fun k hk v1 v2 σ hf => mM_findValid_54_s k hk v1 v2 σ hf) LF v1 (0 : Int32) σ hf)
  · skip
    obtain ⟨hb2, hf⟩ := ck_ex hf
    obtain ⟨σ3, hs4, hf⟩ := st1_ex hf
    have hy := scm_I hs4
    have hx := hx.trans (hy (by unfold mO; omega))
    exact hx.trans (hk33 v1 (v2 + (1 : Int32)) σ3 hf)
set_option maxHeartbeats 4000000 in
theorem mM_findValid_7_s {σ' : SM}  (k7 : Int32 → Int32 → SM → Option (SM)) (hk7 : ∀ (v1 : Int32) (v2 : Int32) (σ : SM), k7 v1 v2 σ = some σ' → ScM σ σ') (v1 : Int32) (v2 : Int32) (σ : SM) (hf : mM_findValid_7 k7 v1 v2 σ = some σ') : ScM σ σ' := by
  unfold mM_findValid_7 at hf
  have hx := ScM.refl σ
  rcases if_ex2 hf with ⟨hc1, hf⟩ | ⟨hc1, hf⟩
  · skip
    exact hx.trans (lq3_ex (P := fun v1 v2 σ => ScM σ σ') (fun k hk v1 v2 σ hf => mM_findValid_33_s k hk v1 v2 σ hf) LF v1 (0 : Int32) σ hf)
  · skip
    obtain ⟨r3, σ4, hc2, hf⟩ := bd2_ex hf
    have hx := hx.trans (mM_find_s _ _ _ _ _ hc2)
    obtain ⟨hb5, hf⟩ := ck_ex hf
    obtain ⟨hb6, hf⟩ := ck_ex hf
    obtain ⟨σ7, hs8, hf⟩ := st1_ex hf
    have hy := scm_I hs8
    have hx := hx.trans (hy (by unfold mO; omega))
    exact hx.trans (hk7 v1 (v2 + (1 : Int32)) σ7 hf)
set_option maxHeartbeats 4000000 in
theorem mM_findValid_s (p0 : Int32) (σ : SM) (σ' : SM)  (hf : mM_findValid p0 σ = some σ') : ScM σ σ' := by
  unfold mM_findValid at hf
  have hx := ScM.refl σ
  obtain ⟨σ2, hc1, hf⟩ := bd1_ex hf
  have hx := hx.trans (mM_setBooth_s _ _ _ hc1)
  exact hx.trans (lq3_ex (P := fun v1 v2 σ => ScM σ σ') (fun k hk v1 v2 σ hf => mM_findValid_7_s k hk v1 v2 σ hf) LF p0 (0 : Int32) σ2 hf)
set_option maxHeartbeats 4000000 in
theorem mM_tells_183_s {r : Int32} {σ' : SM}  (k183 : Int32 → Int32 → SM → Option (Int32 × SM)) (hk183 : ∀ (v7 : Int32) (v8 : Int32) (σ : SM), k183 v7 v8 σ = some (r, σ') → ScM σ σ') (v7 : Int32) (v8 : Int32) (σ : SM) (hf : mM_tells_183 k183 v7 v8 σ = some (r, σ')) : ScM σ σ' := by
  unfold mM_tells_183 at hf
  have hx := ScM.refl σ
  rcases if_ex2 hf with ⟨hc1, hf⟩ | ⟨hc1, hf⟩
  · skip
    cases some_ex hf
    exact hx
  · skip
    obtain ⟨hb2, hf⟩ := ck_ex hf
    exact hx.trans (hk183 (v7 + (gI σ 26 (v8.toNatClampNeg))) (v8 + (1 : Int32)) σ hf)
set_option maxHeartbeats 4000000 in
theorem mM_tells_s (p0 : Int32) (p1 : Int32) (p2 : Int32) (p3 : Int32) (σ : SM) (r : Int32) (σ' : SM)  (hf : mM_tells p0 p1 p2 p3 σ = some (r, σ')) : ScM σ σ' := by
  unfold mM_tells at hf
  have hx := ScM.refl σ
  obtain ⟨σ1, hs2, hf⟩ := st1_ex hf
  have hy := scm_I hs2
  have hx := hx.trans (hy (by unfold mO; omega))
  obtain ⟨r4, hc3, hf⟩ := bd1_ex hf
  rcases if_ex2 hf with ⟨hc5, hf⟩ | ⟨hc5, hf⟩
  · skip
    cases some_ex hf
    exact hx
  · skip
    obtain ⟨r7, hc6, hf⟩ := bd1_ex hf
    rcases if_ex2 hf with ⟨hc8, hf⟩ | ⟨hc8, hf⟩
    · skip
      cases some_ex hf
      exact hx
    · skip
      obtain ⟨r10, hc9, hf⟩ := bd1_ex hf
      rcases if_ex2 hf with ⟨hc11, hf⟩ | ⟨hc11, hf⟩
      · skip
        cases some_ex hf
        exact hx
      · skip
        obtain ⟨r13, hc12, hf⟩ := bd1_ex hf
        rcases (if_ex2 hf).symm with ⟨hc14, hf⟩ | ⟨hc14, hf⟩
        · skip
          obtain ⟨σ16, hc15, hf⟩ := bd1_ex hf
          have hx := hx.trans (mM_knowBy_s _ _ _ _ hc15)
          obtain ⟨r18, hc17, hf⟩ := bd1_ex hf
          obtain ⟨r20, hc19, hf⟩ := bd1_ex hf
          obtain ⟨r22, hc21, hf⟩ := bd1_ex hf
          rcases if_ex2 hf with ⟨hc23, hf⟩ | ⟨hc23, hf⟩
          · skip
            rcases if_ex2 hf with ⟨hc24, hf⟩ | ⟨hc24, hf⟩
            · skip
              rcases (if_ex2 hf).symm with ⟨hc25, hf⟩ | ⟨hc25, hf⟩
              · skip
                obtain ⟨σ27, hc26, hf⟩ := bd1_ex hf
                have hx := hx.trans (mM_findValid_s _ _ _ hc26)
                exact hx.trans (lq3_ex (P := fun v7 v8 σ => ScM σ σ') (fun k hk v7 v8 σ hf => mM_tells_183_s k hk v7 v8 σ hf) LF (0 : Int32) (0 : Int32) σ27 hf)
              · skip
                obtain ⟨r29, σ30, hc28, hf⟩ := bd2_ex hf
                have hx := hx.trans (mM_isAgain_s _ _ _ _ hc28)
                rcases if_ex2 hf with ⟨hc31, hf⟩ | ⟨hc31, hf⟩
                · skip
                  cases some_ex hf
                  exact hx
                · skip
                  cases some_ex hf
                  exact hx
            · skip
              rcases (if_ex2 hf).symm with ⟨hc32, hf⟩ | ⟨hc32, hf⟩
              · skip
                rcases (if_ex2 hf).symm with ⟨hc33, hf⟩ | ⟨hc33, hf⟩
                · skip
                  rcases (if_ex2 hf).symm with ⟨hc34, hf⟩ | ⟨hc34, hf⟩
                  · skip
                    cases some_ex hf
                    exact hx
                  · skip
                    obtain ⟨r36, hc35, hf⟩ := bd1_ex hf
                    obtain ⟨r38, hc37, hf⟩ := bd1_ex hf
                    obtain ⟨r40, hc39, hf⟩ := bd1_ex hf
                    rcases (if_ex2 hf).symm with ⟨hc41, hf⟩ | ⟨hc41, hf⟩
                    · skip
                      cases some_ex hf
                      exact hx
                    · skip
                      cases some_ex hf
                      exact hx
                · skip
                  cases some_ex hf
                  exact hx
              · skip
                cases some_ex hf
                exact hx
          · skip
            obtain ⟨r43, hc42, hf⟩ := bd1_ex hf
            cases some_ex hf
            exact hx
        · skip
          cases some_ex hf
          exact hx
set_option maxHeartbeats 4000000 in
theorem mM_addSeat_81_s {σ' : SM}  (k23 : Int32 → Int32 → SM → Option (SM)) (hk23 : ∀ (v1 : Int32) (v2 : Int32) (σ : SM), k23 v1 v2 σ = some σ' → ScM σ σ') (v1 : Int32) (v2 : Int32) (σ : SM) (hf : mM_addSeat_81 k23 v1 v2 σ = some σ') : ScM σ σ' := by
  unfold mM_addSeat_81 at hf
  have hx := ScM.refl σ
  exact hx.trans (hk23 v1 (v2 + (1 : Int32)) σ hf)
set_option maxHeartbeats 4000000 in
theorem mM_addSeat_54_s {σ' : SM}  (k23 : Int32 → Int32 → SM → Option (SM)) (hk23 : ∀ (v1 : Int32) (v2 : Int32) (σ : SM), k23 v1 v2 σ = some σ' → ScM σ σ') (k54 : Int32 → Int32 → Int32 → SM → Option (SM)) (hk54 : ∀ (v1 : Int32) (v2 : Int32) (v3 : Int32) (σ : SM), k54 v1 v2 v3 σ = some σ' → ScM σ σ') (v1 : Int32) (v2 : Int32) (v3 : Int32) (σ : SM) (hf : mM_addSeat_54 k23 k54 v1 v2 v3 σ = some σ') : ScM σ σ' := by
  unfold mM_addSeat_54 at hf
  have hx := ScM.refl σ
  rcases if_ex2 hf with ⟨hc1, hf⟩ | ⟨hc1, hf⟩
  · skip
    exact hx.trans (mM_addSeat_81_s k23 hk23 v1 v2 σ hf)
  · skip
    obtain ⟨hb2, hf⟩ := ck_ex hf
    obtain ⟨hb3, hf⟩ := ck_ex hf
    obtain ⟨hb4, hf⟩ := ck_ex hf
    obtain ⟨σ5, hs6, hf⟩ := st1_ex hf
    have hy := scm_I hs6
    have hx := hx.trans (hy (by unfold mO; omega))
    exact hx.trans (hk54 v1 v2 (v3 + (1 : Int32)) σ5 hf)
set_option maxHeartbeats 4000000 in
theorem mM_addSeat_47_s {σ' : SM}  (k23 : Int32 → Int32 → SM → Option (SM)) (hk23 : ∀ (v1 : Int32) (v2 : Int32) (σ : SM), k23 v1 v2 σ = some σ' → ScM σ σ') (v1 : Int32) (v2 : Int32) (σ : SM) (hf : mM_addSeat_47 k23 v1 v2 σ = some σ') : ScM σ σ' := by
  unfold mM_addSeat_47 at hf
  have hx := ScM.refl σ
  obtain ⟨σ2, hc1, hf⟩ := bd1_ex hf
  have hx := hx.trans (mM_findValid_s _ _ _ hc1)
  exact hx.trans (lq4_ex (P := fun v1 v2 v3 σ => ScM σ σ') (fun k hk v1 v2 v3 σ hf => mM_addSeat_54_s k23 hk23 k hk v1 v2 v3 σ hf) LF v1 v2 (0 : Int32) σ2 hf)
set_option maxHeartbeats 4000000 in
theorem mM_addSeat_23_s {σ' : SM}  (k23 : Int32 → Int32 → SM → Option (SM)) (hk23 : ∀ (v1 : Int32) (v2 : Int32) (σ : SM), k23 v1 v2 σ = some σ' → ScM σ σ') (v1 : Int32) (v2 : Int32) (σ : SM) (hf : mM_addSeat_23 k23 v1 v2 σ = some σ') : ScM σ σ' := by
  unfold mM_addSeat_23 at hf
  have hx := ScM.refl σ
  rcases if_ex2 hf with ⟨hc1, hf⟩ | ⟨hc1, hf⟩
  · skip
    cases some_ex hf
    exact hx
  · skip
    rcases if_ex2 hf with ⟨hc2, hf⟩ | ⟨hc2, hf⟩
    · skip
      exact hx.trans (mM_addSeat_47_s k23 hk23 v1 v2 σ hf)
    · skip
      obtain ⟨r4, hc3, hf⟩ := bd1_ex hf
      rcases (if_ex2 hf).symm with ⟨hc5, hf⟩ | ⟨hc5, hf⟩
      · skip
        exact hx.trans (mM_addSeat_81_s k23 hk23 v1 v2 σ hf)
      · skip
        exact hx.trans (mM_addSeat_47_s k23 hk23 v1 v2 σ hf)
set_option maxHeartbeats 4000000 in
theorem mM_addSeat_2_s {σ' : SM}  (k2 : Int32 → Int32 → SM → Option (SM)) (hk2 : ∀ (v1 : Int32) (v2 : Int32) (σ : SM), k2 v1 v2 σ = some σ' → ScM σ σ') (v1 : Int32) (v2 : Int32) (σ : SM) (hf : mM_addSeat_2 k2 v1 v2 σ = some σ') : ScM σ σ' := by
  unfold mM_addSeat_2 at hf
  have hx := ScM.refl σ
  rcases if_ex2 hf with ⟨hc1, hf⟩ | ⟨hc1, hf⟩
  · skip
    exact hx.trans (lq3_ex (P := fun v1 v2 σ => ScM σ σ') (fun k hk v1 v2 σ hf => mM_addSeat_23_s k hk v1 v2 σ hf) LF v1 (0 : Int32) σ hf)
  · skip
    obtain ⟨hb2, hf⟩ := ck_ex hf
    obtain ⟨σ3, hs4, hf⟩ := st1_ex hf
    have hy := scm_I hs4
    have hx := hx.trans (hy (by unfold mO; omega))
    exact hx.trans (hk2 v1 (v2 + (1 : Int32)) σ3 hf)
set_option maxHeartbeats 4000000 in
theorem mM_addSeat_s (p0 : Int32) (σ : SM) (σ' : SM)  (hf : mM_addSeat p0 σ = some σ') : ScM σ σ' := by
  unfold mM_addSeat at hf
  have hx := ScM.refl σ
  exact hx.trans (lq3_ex (P := fun v1 v2 σ => ScM σ σ') (fun k hk v1 v2 σ hf => mM_addSeat_2_s k hk v1 v2 σ hf) LF p0 (0 : Int32) σ hf)
set_option maxHeartbeats 4000000 in
theorem mM_findWinner_162_s {σ' : SM}  (v3 : Int32) (v4 : Int32) (t0 : Int32) (σ : SM) (hf : mM_findWinner_162 v3 v4 t0 σ = some σ') : ScM σ σ' := by
  unfold mM_findWinner_162 at hf
  have hx := ScM.refl σ
  obtain ⟨σ1, hs2, hf⟩ := st1_ex hf
  have hy := scm_I hs2
  have hx := hx.trans (hy (by unfold mO; omega))
  rcases (if_ex2 hf).symm with ⟨hc3, hf⟩ | ⟨hc3, hf⟩
  · skip
    obtain ⟨σ4, hs5, hf⟩ := st1_ex hf
    have hy := scm_I hs5
    have hx := hx.trans (hy (by unfold mO; omega))
    cases some_ex hf
    exact hx
  · skip
    obtain ⟨σ6, hs7, hf⟩ := st1_ex hf
    have hy := scm_I hs7
    have hx := hx.trans (hy (by unfold mO; omega))
    cases some_ex hf
    exact hx
set_option maxHeartbeats 4000000 in
theorem mM_findWinner_141_s {σ' : SM}  (k58 : Int32 → Int32 → Int32 → Int32 → Int32 → SM → Option (SM)) (hk58 : ∀ (v1 : Int32) (v2 : Int32) (v3 : Int32) (v4 : Int32) (v5 : Int32) (σ : SM), k58 v1 v2 v3 v4 v5 σ = some σ' → ScM σ σ') (v1 : Int32) (v2 : Int32) (v3 : Int32) (v4 : Int32) (v5 : Int32) (σ : SM) (hf : mM_findWinner_141 k58 v1 v2 v3 v4 v5 σ = some σ') : ScM σ σ' := by
  unfold mM_findWinner_141 at hf
  have hx := ScM.refl σ
  exact hx.trans (hk58 v1 v2 v3 v4 (v5 + (1 : Int32)) σ hf)
set_option maxHeartbeats 4000000 in
theorem mM_findWinner_89_s {σ' : SM}  (k58 : Int32 → Int32 → Int32 → Int32 → Int32 → SM → Option (SM)) (hk58 : ∀ (v1 : Int32) (v2 : Int32) (v3 : Int32) (v4 : Int32) (v5 : Int32) (σ : SM), k58 v1 v2 v3 v4 v5 σ = some σ' → ScM σ σ') (v1 : Int32) (v2 : Int32) (v3 : Int32) (v4 : Int32) (v5 : Int32) (σ : SM) (hf : mM_findWinner_89 k58 v1 v2 v3 v4 v5 σ = some σ') : ScM σ σ' := by
  unfold mM_findWinner_89 at hf
  have hx := ScM.refl σ
  obtain ⟨hb1, hf⟩ := ck_ex hf
  rcases if_ex2 hf with ⟨hc2, hf⟩ | ⟨hc2, hf⟩
  · skip
    obtain ⟨hb3, hf⟩ := ck_ex hf
    rcases if_ex2 hf with ⟨hc4, hf⟩ | ⟨hc4, hf⟩
    · skip
      exact hx.trans (mM_findWinner_141_s k58 hk58 v1 v2 v3 v4 v5 σ hf)
    · skip
      obtain ⟨hb5, hf⟩ := ck_ex hf
      exact hx.trans (mM_findWinner_141_s k58 hk58 v1 v2 v3 (gI σ 27 (v5.toNatClampNeg)) v5 σ hf)
  · skip
    obtain ⟨hb6, hf⟩ := ck_ex hf
    obtain ⟨σ7, hs8, hf⟩ := st1_ex hf
    have hy := scm_I hs8
    have hx := hx.trans (hy (by unfold mO; omega))
    exact hx.trans (mM_findWinner_141_s k58 hk58 v1 v2 (gI σ 27 (v5.toNatClampNeg)) v3 v5 σ7 hf)
set_option maxHeartbeats 4000000 in
theorem mM_findWinner_58_s {σ' : SM}  (k58 : Int32 → Int32 → Int32 → Int32 → Int32 → SM → Option (SM)) (hk58 : ∀ (v1 : Int32) (v2 : Int32) (v3 : Int32) (v4 : Int32) (v5 : Int32) (σ : SM), k58 v1 v2 v3 v4 v5 σ = some σ' → ScM σ σ') (v1 : Int32) (v2 : Int32) (v3 : Int32) (v4 : Int32) (v5 : Int32) (σ : SM) (hf : mM_findWinner_58 k58 v1 v2 v3 v4 v5 σ = some σ') : ScM σ σ' := by
  unfold mM_findWinner_58 at hf
  have hx := ScM.refl σ
  rcases if_ex2 hf with ⟨hc1, hf⟩ | ⟨hc1, hf⟩
  · skip
    rcases (if_ex2 hf).symm with ⟨hc2, hf⟩ | ⟨hc2, hf⟩
    · skip
      exact hx.trans (mM_findWinner_162_s v3 v4 (gI σ 0 50) σ hf)
    · skip
      exact hx.trans (mM_findWinner_162_s v3 v4 (-1 : Int32) σ hf)
  · skip
    rcases if_ex2 hf with ⟨hc3, hf⟩ | ⟨hc3, hf⟩
    · skip
      exact hx.trans (mM_findWinner_89_s k58 hk58 v1 v2 v3 v4 v5 σ hf)
    · skip
      obtain ⟨hb4, hf⟩ := ck_ex hf
      rcases (if_ex2 hf).symm with ⟨hc5, hf⟩ | ⟨hc5, hf⟩
      · skip
        exact hx.trans (mM_findWinner_141_s k58 hk58 v1 v2 v3 v4 v5 σ hf)
      · skip
        exact hx.trans (mM_findWinner_89_s k58 hk58 v1 v2 v3 v4 v5 σ hf)
set_option maxHeartbeats 4000000 in
theorem mM_findWinner_38_s {σ' : SM}  (k4 : Int32 → Int32 → Int32 → SM → Option (SM)) (hk4 : ∀ (v1 : Int32) (v2 : Int32) (v3 : Int32) (σ : SM), k4 v1 v2 v3 σ = some σ' → ScM σ σ') (v1 : Int32) (v3 : Int32) (t0 : Int32) (σ : SM) (hf : mM_findWinner_38 k4 v1 v3 t0 σ = some σ') : ScM σ σ' := by
  unfold mM_findWinner_38 at hf
  have hx := ScM.refl σ
  exact hx.trans (hk4 v1 t0 (v3 + (1 : Int32)) σ hf)
set_option maxHeartbeats 4000000 in
theorem mM_findWinner_33_s {σ' : SM}  (k4 : Int32 → Int32 → Int32 → SM → Option (SM)) (hk4 : ∀ (v1 : Int32) (v2 : Int32) (v3 : Int32) (σ : SM), k4 v1 v2 v3 σ = some σ' → ScM σ σ') (v1 : Int32) (v3 : Int32) (σ : SM) (hf : mM_findWinner_33 k4 v1 v3 σ = some σ') : ScM σ σ' := by
  unfold mM_findWinner_33 at hf
  have hx := ScM.refl σ
  exact hx.trans (mM_findWinner_38_s k4 hk4 v1 v3 (1 : Int32) σ hf)
set_option maxHeartbeats 4000000 in
theorem mM_findWinner_4_s {σ' : SM}  (k4 : Int32 → Int32 → Int32 → SM → Option (SM)) (hk4 : ∀ (v1 : Int32) (v2 : Int32) (v3 : Int32) (σ : SM), k4 v1 v2 v3 σ = some σ' → ScM σ σ') (v1 : Int32) (v2 : Int32) (v3 : Int32) (σ : SM) (hf : mM_findWinner_4 k4 v1 v2 v3 σ = some σ') : ScM σ σ' := by
  unfold mM_findWinner_4 at hf
  have hx := ScM.refl σ
  rcases if_ex2 hf with ⟨hc1, hf⟩ | ⟨hc1, hf⟩
  · skip
    obtain ⟨σ2, hs3, hf⟩ := st1_ex hf
    have hy := scm_I hs3
    have hx := hx.trans (hy (by unfold mO; omega))
    exact hx.trans (lq6_ex (P := fun v1 v2 v3 v4 v5 σ => ScM σ σ') (fun k hk v1 v2 v3 v4 v5 σ hf => mM_findWinner_58_s k hk v1 v2 v3 v4 v5 σ hf) LF v1 v2 (0 : Int32) (0 : Int32) (0 : Int32) σ2 hf)
  · skip
    rcases (if_ex2 hf).symm with ⟨hc4, hf⟩ | ⟨hc4, hf⟩
    · skip
      exact hx.trans (mM_findWinner_33_s k4 hk4 v1 v3 σ hf)
    · skip
      obtain ⟨hb5, hf⟩ := ck_ex hf
      rcases (if_ex2 hf).symm with ⟨hc6, hf⟩ | ⟨hc6, hf⟩
      · skip
        exact hx.trans (mM_findWinner_38_s k4 hk4 v1 v3 (0 : Int32) σ hf)
      · skip
        exact hx.trans (mM_findWinner_33_s k4 hk4 v1 v3 σ hf)
set_option maxHeartbeats 4000000 in
theorem mM_findWinner_s (p0 : Int32) (σ : SM) (σ' : SM)  (hf : mM_findWinner p0 σ = some σ') : ScM σ σ' := by
  unfold mM_findWinner at hf
  have hx := ScM.refl σ
  exact hx.trans (lq4_ex (P := fun v1 v2 v3 σ => ScM σ σ') (fun k hk v1 v2 v3 σ hf => mM_findWinner_4_s k hk v1 v2 v3 σ hf) LF p0 (0 : Int32) (0 : Int32) σ hf)
set_option maxHeartbeats 4000000 in
theorem mM_hangs_86_s {r : Int32} {σ' : SM}  (k10 : Int32 → Int32 → Int32 → Int32 → Int32 → SM → Option (Int32 × SM)) (hk10 : ∀ (v1 : Int32) (v2 : Int32) (v3 : Int32) (v4 : Int32) (v5 : Int32) (σ : SM), k10 v1 v2 v3 v4 v5 σ = some (r, σ') → ScM σ σ') (v1 : Int32) (v2 : Int32) (v3 : Int32) (v4 : Int32) (v5 : Int32) (σ : SM) (hf : mM_hangs_86 k10 v1 v2 v3 v4 v5 σ = some (r, σ')) : ScM σ σ' := by
  unfold mM_hangs_86 at hf
  have hx := ScM.refl σ
  exact hx.trans (hk10 v1 v2 v3 v4 (v5 + (1 : Int32)) σ hf)
set_option maxHeartbeats 4000000 in
theorem mM_hangs_77_s {r : Int32} {σ' : SM}  (k10 : Int32 → Int32 → Int32 → Int32 → Int32 → SM → Option (Int32 × SM)) (hk10 : ∀ (v1 : Int32) (v2 : Int32) (v3 : Int32) (v4 : Int32) (v5 : Int32) (σ : SM), k10 v1 v2 v3 v4 v5 σ = some (r, σ') → ScM σ σ') (v1 : Int32) (v2 : Int32) (v4 : Int32) (v5 : Int32) (v6 : Int32) (t0 : Int32) (t1 : Int32) (σ : SM) (hf : mM_hangs_77 k10 v1 v2 v4 v5 v6 t0 t1 σ = some (r, σ')) : ScM σ σ' := by
  unfold mM_hangs_77 at hf
  have hx := ScM.refl σ
  exact hx.trans (mM_hangs_86_s k10 hk10 v1 (v2 ||| ((1 : Int32) <<< (v6 &&& 31))) (t1 + t0) v4 v5 σ hf)
set_option maxHeartbeats 4000000 in
theorem mM_hangs_10_s {r : Int32} {σ' : SM}  (k10 : Int32 → Int32 → Int32 → Int32 → Int32 → SM → Option (Int32 × SM)) (hk10 : ∀ (v1 : Int32) (v2 : Int32) (v3 : Int32) (v4 : Int32) (v5 : Int32) (σ : SM), k10 v1 v2 v3 v4 v5 σ = some (r, σ') → ScM σ σ') (v1 : Int32) (v2 : Int32) (v3 : Int32) (v4 : Int32) (v5 : Int32) (σ : SM) (hf : mM_hangs_10 k10 v1 v2 v3 v4 v5 σ = some (r, σ')) : ScM σ σ' := by
  unfold mM_hangs_10 at hf
  have hx := ScM.refl σ
  rcases if_ex2 hf with ⟨hc1, hf⟩ | ⟨hc1, hf⟩
  · skip
    rcases if_ex2 hf with ⟨hc2, hf⟩ | ⟨hc2, hf⟩
    · skip
      cases some_ex hf
      exact hx
    · skip
      rcases if_ex2 hf with ⟨hc3, hf⟩ | ⟨hc3, hf⟩
      · skip
        cases some_ex hf
        exact hx
      · skip
        cases some_ex hf
        exact hx
  · skip
    obtain ⟨hb4, hf⟩ := ck_ex hf
    obtain ⟨r6, hc5, hf⟩ := bd1_ex hf
    rcases (if_ex2 hf).symm with ⟨hc7, hf⟩ | ⟨hc7, hf⟩
    · skip
      exact hx.trans (mM_hangs_86_s k10 hk10 v1 v2 v3 v4 v5 σ hf)
    · skip
      obtain ⟨r9, σ10, hc8, hf⟩ := bd2_ex hf
      have hx := hx.trans (mM_isAgain_s _ _ _ _ hc8)
      rcases if_ex2 hf with ⟨hc11, hf⟩ | ⟨hc11, hf⟩
      · skip
        exact hx.trans (mM_hangs_86_s k10 hk10 v1 v2 v3 v4 v5 σ10 hf)
      · skip
        rcases (if_ex2 hf).symm with ⟨hc12, hf⟩ | ⟨hc12, hf⟩
        · skip
          exact hx.trans (mM_hangs_77_s k10 hk10 v1 v2 (1 : Int32) v5 (gI σ 1 (((2348 : Int32) + v5).toNatClampNeg)) (0 : Int32) v3 σ10 hf)
        · skip
          obtain ⟨hb13, hf⟩ := ck_ex hf
          exact hx.trans (mM_hangs_77_s k10 hk10 v1 v2 (1 : Int32) v5 (gI σ 1 (((2348 : Int32) + v5).toNatClampNeg)) (gI σ10 5 ((gI σ 1 (((2348 : Int32) + v5).toNatClampNeg)).toNatClampNeg)) v3 σ10 hf)
set_option maxHeartbeats 4000000 in
theorem mM_hangs_s (p0 : Int32) (σ : SM) (r : Int32) (σ' : SM)  (hf : mM_hangs p0 σ = some (r, σ')) : ScM σ σ' := by
  unfold mM_hangs at hf
  have hx := ScM.refl σ
  exact hx.trans (lq6_ex (P := fun v1 v2 v3 v4 v5 σ => ScM σ σ') (fun k hk v1 v2 v3 v4 v5 σ hf => mM_hangs_10_s k hk v1 v2 v3 v4 v5 σ hf) LF p0 (0 : Int32) (0 : Int32) (0 : Int32) (0 : Int32) σ hf)
set_option maxHeartbeats 4000000 in
theorem mM_seat_s (p0 : Int32) (p1 : Int32) (p2 : Int32) (p3 : Int32) (σ : SM) (r : Int32) (σ' : SM)  (hf : mM_seat p0 p1 p2 p3 σ = some (r, σ')) : ScM σ σ' := by
  unfold mM_seat at hf
  have hx := ScM.refl σ
  obtain ⟨σ1, hs2, hf⟩ := st1_ex hf
  have hy := scm_I hs2
  have hx := hx.trans (hy (by unfold mO; omega))
  obtain ⟨r4, hc3, hf⟩ := bd1_ex hf
  rcases if_ex2 hf with ⟨hc5, hf⟩ | ⟨hc5, hf⟩
  · skip
    cases some_ex hf
    exact hx
  · skip
    obtain ⟨r7, hc6, hf⟩ := bd1_ex hf
    rcases if_ex2 hf with ⟨hc8, hf⟩ | ⟨hc8, hf⟩
    · skip
      cases some_ex hf
      exact hx
    · skip
      obtain ⟨r10, hc9, hf⟩ := bd1_ex hf
      rcases if_ex2 hf with ⟨hc11, hf⟩ | ⟨hc11, hf⟩
      · skip
        cases some_ex hf
        exact hx
      · skip
        obtain ⟨r13, hc12, hf⟩ := bd1_ex hf
        rcases (if_ex2 hf).symm with ⟨hc14, hf⟩ | ⟨hc14, hf⟩
        · skip
          obtain ⟨σ16, hc15, hf⟩ := bd1_ex hf
          have hx := hx.trans (mM_knowBy_s _ _ _ _ hc15)
          obtain ⟨σ18, hc17, hf⟩ := bd1_ex hf
          have hx := hx.trans (mM_addSeat_s _ _ _ hc17)
          rcases if_ex2 hf with ⟨hc19, hf⟩ | ⟨hc19, hf⟩
          · skip
            obtain ⟨σ21, hc20, hf⟩ := bd1_ex hf
            have hx := hx.trans (mM_findWinner_s _ _ _ hc20)
            rcases (if_ex2 hf).symm with ⟨hc22, hf⟩ | ⟨hc22, hf⟩
            · skip
              rcases (if_ex2 hf).symm with ⟨hc23, hf⟩ | ⟨hc23, hf⟩
              · skip
                obtain ⟨r25, σ26, hc24, hf⟩ := bd2_ex hf
                have hx := hx.trans (mM_hangs_s _ _ _ _ hc24)
                rcases if_ex2 hf with ⟨hc27, hf⟩ | ⟨hc27, hf⟩
                · skip
                  cases some_ex hf
                  exact hx
                · skip
                  cases some_ex hf
                  exact hx
              · skip
                cases some_ex hf
                exact hx
            · skip
              cases some_ex hf
              exact hx
          · skip
            obtain ⟨hb28, hf⟩ := ck_ex hf
            cases some_ex hf
            exact hx
        · skip
          cases some_ex hf
          exact hx
set_option maxHeartbeats 4000000 in
theorem mM_joinBooths_202_s {r : Int32} {σ' : SM}  (k152 : Int32 → Int32 → Int32 → SM → Option (Int32 × SM)) (hk152 : ∀ (v3 : Int32) (v6 : Int32) (v7 : Int32) (σ : SM), k152 v3 v6 v7 σ = some (r, σ') → ScM σ σ') (v3 : Int32) (v6 : Int32) (v7 : Int32) (t0 : Int32) (t1 : Int32) (σ : SM) (hf : mM_joinBooths_202 k152 v3 v6 v7 t0 t1 σ = some (r, σ')) : ScM σ σ' := by
  unfold mM_joinBooths_202 at hf
  have hx := ScM.refl σ
  obtain ⟨hb1, hf⟩ := ck_ex hf
  obtain ⟨σ2, hs3, hf⟩ := st1_ex hf
  have hy := scm_I hs3
  have hx := hx.trans (hy (by unfold mO; omega))
  exact hx.trans (hk152 v3 v6 (v7 + (1 : Int32)) σ2 hf)
set_option maxHeartbeats 4000000 in
theorem mM_joinBooths_152_s {r : Int32} {σ' : SM}  (k152 : Int32 → Int32 → Int32 → SM → Option (Int32 × SM)) (hk152 : ∀ (v3 : Int32) (v6 : Int32) (v7 : Int32) (σ : SM), k152 v3 v6 v7 σ = some (r, σ') → ScM σ σ') (v3 : Int32) (v6 : Int32) (v7 : Int32) (σ : SM) (hf : mM_joinBooths_152 k152 v3 v6 v7 σ = some (r, σ')) : ScM σ σ' := by
  unfold mM_joinBooths_152 at hf
  have hx := ScM.refl σ
  rcases if_ex2 hf with ⟨hc1, hf⟩ | ⟨hc1, hf⟩
  · skip
    cases some_ex hf
    exact hx
  · skip
    rcases if_ex2 hf with ⟨hc2, hf⟩ | ⟨hc2, hf⟩
    · skip
      cases some_ex hf
      exact hx
    · skip
      rcases if_ex2 hf with ⟨hc3, hf⟩ | ⟨hc3, hf⟩
      · skip
        cases some_ex hf
        exact hx
      · skip
        obtain ⟨hb4, hf⟩ := ck_ex hf
        rcases (if_ex2 hf).symm with ⟨hc5, hf⟩ | ⟨hc5, hf⟩
        · skip
          obtain ⟨hb6, hf⟩ := ck_ex hf
          exact hx.trans (mM_joinBooths_202_s k152 hk152 v3 v6 v7 (gI σ 28 (v7.toNatClampNeg)) v7 σ hf)
        · skip
          exact hx.trans (mM_joinBooths_202_s k152 hk152 v3 v6 v7 (v3 - (1 : Int32)) v7 σ hf)
set_option maxHeartbeats 4000000 in
theorem mM_joinBooths_143_s {r : Int32} {σ' : SM}  (k14 : Int32 → Int32 → Int32 → Int32 → Int32 → Int32 → Int32 → SM → Option (Int32 × SM)) (hk14 : ∀ (v1 : Int32) (v2 : Int32) (v3 : Int32) (v4 : Int32) (v5 : Int32) (v6 : Int32) (v7 : Int32) (σ : SM), k14 v1 v2 v3 v4 v5 v6 v7 σ = some (r, σ') → ScM σ σ') (v1 : Int32) (v2 : Int32) (v3 : Int32) (v4 : Int32) (v5 : Int32) (v6 : Int32) (v7 : Int32) (σ : SM) (hf : mM_joinBooths_143 k14 v1 v2 v3 v4 v5 v6 v7 σ = some (r, σ')) : ScM σ σ' := by
  unfold mM_joinBooths_143 at hf
  have hx := ScM.refl σ
  exact hx.trans (hk14 v1 v2 v3 v4 v5 v6 (v7 + (1 : Int32)) σ hf)
set_option maxHeartbeats 4000000 in
theorem mM_joinBooths_127_s {r : Int32} {σ' : SM}  (k14 : Int32 → Int32 → Int32 → Int32 → Int32 → Int32 → Int32 → SM → Option (Int32 × SM)) (hk14 : ∀ (v1 : Int32) (v2 : Int32) (v3 : Int32) (v4 : Int32) (v5 : Int32) (v6 : Int32) (v7 : Int32) (σ : SM), k14 v1 v2 v3 v4 v5 v6 v7 σ = some (r, σ') → ScM σ σ') (v1 : Int32) (v2 : Int32) (v3 : Int32) (v4 : Int32) (v5 : Int32) (v7 : Int32) (t0 : Int32) (σ : SM) (hf : mM_joinBooths_127 k14 v1 v2 v3 v4 v5 v7 t0 σ = some (r, σ')) : ScM σ σ' := by
  unfold mM_joinBooths_127 at hf
  have hx := ScM.refl σ
  rcases (if_ex2 hf).symm with ⟨hc1, hf⟩ | ⟨hc1, hf⟩
  · skip
    exact hx.trans (mM_joinBooths_143_s k14 hk14 v1 v2 v3 v4 v5 t0 v7 σ hf)
  · skip
    exact hx.trans (mM_joinBooths_143_s k14 hk14 v1 v2 (v3 + (1 : Int32)) (0 : Int32) (0 : Int32) t0 v7 σ hf)
set_option maxHeartbeats 4000000 in
theorem mM_joinBooths_122_s {r : Int32} {σ' : SM}  (k14 : Int32 → Int32 → Int32 → Int32 → Int32 → Int32 → Int32 → SM → Option (Int32 × SM)) (hk14 : ∀ (v1 : Int32) (v2 : Int32) (v3 : Int32) (v4 : Int32) (v5 : Int32) (v6 : Int32) (v7 : Int32) (σ : SM), k14 v1 v2 v3 v4 v5 v6 v7 σ = some (r, σ') → ScM σ σ') (v1 : Int32) (v2 : Int32) (v3 : Int32) (v4 : Int32) (v5 : Int32) (v7 : Int32) (σ : SM) (hf : mM_joinBooths_122 k14 v1 v2 v3 v4 v5 v7 σ = some (r, σ')) : ScM σ σ' := by
  unfold mM_joinBooths_122 at hf
  have hx := ScM.refl σ
  exact hx.trans (mM_joinBooths_127_s k14 hk14 v1 v2 v3 v4 v5 v7 (1 : Int32) σ hf)
set_option maxHeartbeats 4000000 in
theorem mM_joinBooths_98_s {r : Int32} {σ' : SM}  (k71 : Int32 → Int32 → Int32 → Int32 → Int32 → Int32 → Int32 → SM → Option (Int32 × SM)) (hk71 : ∀ (v1 : Int32) (v2 : Int32) (v3 : Int32) (v4 : Int32) (v5 : Int32) (v7 : Int32) (v8 : Int32) (σ : SM), k71 v1 v2 v3 v4 v5 v7 v8 σ = some (r, σ') → ScM σ σ') (v1 : Int32) (v2 : Int32) (v3 : Int32) (v4 : Int32) (v7 : Int32) (v8 : Int32) (t0 : Int32) (t1 : Int32) (σ : SM) (hf : mM_joinBooths_98 k71 v1 v2 v3 v4 v7 v8 t0 t1 σ = some (r, σ')) : ScM σ σ' := by
  unfold mM_joinBooths_98 at hf
  have hx := ScM.refl σ
  exact hx.trans (hk71 v1 v2 v3 v4 (t1 ||| t0) v7 (v8 + (1 : Int32)) σ hf)
set_option maxHeartbeats 4000000 in
theorem mM_joinBooths_71_s {r : Int32} {σ' : SM}  (k14 : Int32 → Int32 → Int32 → Int32 → Int32 → Int32 → Int32 → SM → Option (Int32 × SM)) (hk14 : ∀ (v1 : Int32) (v2 : Int32) (v3 : Int32) (v4 : Int32) (v5 : Int32) (v6 : Int32) (v7 : Int32) (σ : SM), k14 v1 v2 v3 v4 v5 v6 v7 σ = some (r, σ') → ScM σ σ') (k71 : Int32 → Int32 → Int32 → Int32 → Int32 → Int32 → Int32 → SM → Option (Int32 × SM)) (hk71 : ∀ (v1 : Int32) (v2 : Int32) (v3 : Int32) (v4 : Int32) (v5 : Int32) (v7 : Int32) (v8 : Int32) (σ : SM), k71 v1 v2 v3 v4 v5 v7 v8 σ = some (r, σ') → ScM σ σ') (v1 : Int32) (v2 : Int32) (v3 : Int32) (v4 : Int32) (v5 : Int32) (v7 : Int32) (v8 : Int32) (σ : SM) (hf : mM_joinBooths_71 k14 k71 v1 v2 v3 v4 v5 v7 v8 σ = some (r, σ')) : ScM σ σ' := by
  unfold mM_joinBooths_71 at hf
  have hx := ScM.refl σ
  rcases if_ex2 hf with ⟨hc1, hf⟩ | ⟨hc1, hf⟩
  · skip
    rcases if_ex2 hf with ⟨hc2, hf⟩ | ⟨hc2, hf⟩
    · skip
      exact hx.trans (mM_joinBooths_122_s k14 hk14 v1 v2 v3 v4 v5 v7 σ hf)
    · skip
      obtain ⟨r4, hc3, hf⟩ := bd1_ex hf
      rcases if_ex2 hf with ⟨hc5, hf⟩ | ⟨hc5, hf⟩
      · skip
        exact hx.trans (mM_joinBooths_127_s k14 hk14 v1 v2 v3 v4 v5 v7 (0 : Int32) σ hf)
      · skip
        exact hx.trans (mM_joinBooths_122_s k14 hk14 v1 v2 v3 v4 v5 v7 σ hf)
  · skip
    obtain ⟨hb6, hf⟩ := ck_ex hf
    rcases if_ex2 hf with ⟨hc7, hf⟩ | ⟨hc7, hf⟩
    · skip
      exact hx.trans (mM_joinBooths_98_s k71 hk71 v1 v2 v3 v4 v7 v8 (0 : Int32) v5 σ hf)
    · skip
      exact hx.trans (mM_joinBooths_98_s k71 hk71 v1 v2 v3 v4 v7 v8 ((1 : Int32) <<< (v8 &&& 31)) v5 σ hf)
set_option maxHeartbeats 4000000 in
theorem mM_joinBooths_14_s {r : Int32} {σ' : SM}  (k14 : Int32 → Int32 → Int32 → Int32 → Int32 → Int32 → Int32 → SM → Option (Int32 × SM)) (hk14 : ∀ (v1 : Int32) (v2 : Int32) (v3 : Int32) (v4 : Int32) (v5 : Int32) (v6 : Int32) (v7 : Int32) (σ : SM), k14 v1 v2 v3 v4 v5 v6 v7 σ = some (r, σ') → ScM σ σ') (v1 : Int32) (v2 : Int32) (v3 : Int32) (v4 : Int32) (v5 : Int32) (v6 : Int32) (v7 : Int32) (σ : SM) (hf : mM_joinBooths_14 k14 v1 v2 v3 v4 v5 v6 v7 σ = some (r, σ')) : ScM σ σ' := by
  unfold mM_joinBooths_14 at hf
  have hx := ScM.refl σ
  rcases if_ex2 hf with ⟨hc1, hf⟩ | ⟨hc1, hf⟩
  · skip
    exact hx.trans (lq4_ex (P := fun v3 v6 v7 σ => ScM σ σ') (fun k hk v3 v6 v7 σ hf => mM_joinBooths_152_s k hk v3 v6 v7 σ hf) LF v3 v6 (0 : Int32) σ hf)
  · skip
    obtain ⟨hb2, hf⟩ := ck_ex hf
    obtain ⟨σ3, hs4, hf⟩ := st1_ex hf
    have hy := scm_I hs4
    have hx := hx.trans (hy (by unfold mO; omega))
    obtain ⟨r6, hc5, hf⟩ := bd1_ex hf
    rcases (if_ex2 hf).symm with ⟨hc7, hf⟩ | ⟨hc7, hf⟩
    · skip
      exact hx.trans (mM_joinBooths_143_s k14 hk14 v1 v2 v3 v4 v5 v6 v7 σ3 hf)
    · skip
      obtain ⟨hb8, hf⟩ := ck_ex hf
      obtain ⟨σ9, hs10, hf⟩ := st1_ex hf
      have hy := scm_I hs10
      have hx := hx.trans (hy (by unfold mO; omega))
      obtain ⟨r12, hc11, hf⟩ := bd1_ex hf
      obtain ⟨σ14, hc13, hf⟩ := bd1_ex hf
      have hx := hx.trans (mM_findValid_s _ _ _ hc13)
      exact hx.trans (lq8_ex (P := fun v1 v2 v3 v4 v5 v7 v8 σ => ScM σ σ') (fun k hk v1 v2 v3 v4 v5 v7 v8 σ hf => mM_joinBooths_71_s k14 hk14 k hk v1 v2 v3 v4 v5 v7 v8 σ hf) LF v1 v2 v3 (v4 + r12) v5 v7 (0 : Int32) σ14 hf)
set_option maxHeartbeats 4000000 in
theorem mM_joinBooths_s (p0 : Int32) (p1 : Int32) (σ : SM) (r : Int32) (σ' : SM)  (hf : mM_joinBooths p0 p1 σ = some (r, σ')) : ScM σ σ' := by
  unfold mM_joinBooths at hf
  have hx := ScM.refl σ
  exact hx.trans (lq8_ex (P := fun v1 v2 v3 v4 v5 v6 v7 σ => ScM σ σ') (fun k hk v1 v2 v3 v4 v5 v6 v7 σ hf => mM_joinBooths_14_s k hk v1 v2 v3 v4 v5 v6 v7 σ hf) LF p0 p1 (0 : Int32) (0 : Int32) (0 : Int32) (0 : Int32) (0 : Int32) σ hf)
set_option maxHeartbeats 4000000 in
theorem mM_hidden_137_s {r : Int32} {σ' : SM}  (k90 : Int32 → Int32 → Int32 → Int32 → Int32 → Int32 → SM → Option (Int32 × SM)) (hk90 : ∀ (v1 : Int32) (v2 : Int32) (v5 : Int32) (v6 : Int32) (v7 : Int32) (v8 : Int32) (σ : SM), k90 v1 v2 v5 v6 v7 v8 σ = some (r, σ') → ScM σ σ') (v1 : Int32) (v2 : Int32) (v5 : Int32) (v6 : Int32) (v7 : Int32) (v8 : Int32) (σ : SM) (hf : mM_hidden_137 k90 v1 v2 v5 v6 v7 v8 σ = some (r, σ')) : ScM σ σ' := by
  unfold mM_hidden_137 at hf
  have hx := ScM.refl σ
  exact hx.trans (hk90 v1 v2 v5 v6 v7 (v8 + (1 : Int32)) σ hf)
set_option maxHeartbeats 4000000 in
theorem mM_hidden_90_s {r : Int32} {σ' : SM}  (k90 : Int32 → Int32 → Int32 → Int32 → Int32 → Int32 → SM → Option (Int32 × SM)) (hk90 : ∀ (v1 : Int32) (v2 : Int32) (v5 : Int32) (v6 : Int32) (v7 : Int32) (v8 : Int32) (σ : SM), k90 v1 v2 v5 v6 v7 v8 σ = some (r, σ') → ScM σ σ') (v1 : Int32) (v2 : Int32) (v5 : Int32) (v6 : Int32) (v7 : Int32) (v8 : Int32) (σ : SM) (hf : mM_hidden_90 k90 v1 v2 v5 v6 v7 v8 σ = some (r, σ')) : ScM σ σ' := by
  unfold mM_hidden_90 at hf
  have hx := ScM.refl σ
  rcases if_ex2 hf with ⟨hc1, hf⟩ | ⟨hc1, hf⟩
  · skip
    rcases (if_ex2 hf).symm with ⟨hc2, hf⟩ | ⟨hc2, hf⟩
    · skip
      cases some_ex hf
      exact hx
    · skip
      cases some_ex hf
      exact hx
  · skip
    obtain ⟨hb3, hf⟩ := ck_ex hf
    obtain ⟨hb4, hf⟩ := ck_ex hf
    rcases (if_ex2 hf).symm with ⟨hc5, hf⟩ | ⟨hc5, hf⟩
    · skip
      exact hx.trans (mM_hidden_137_s k90 hk90 v1 v2 v5 v6 v7 v8 σ hf)
    · skip
      obtain ⟨σ7, hc6, hf⟩ := bd1_ex hf
      have hx := hx.trans (mM_findValid_s _ _ _ hc6)
      obtain ⟨hb8, hf⟩ := ck_ex hf
      exact hx.trans (mM_hidden_137_s k90 hk90 v1 v2 v5 (v6 + (gI σ7 26 (v2.toNatClampNeg))) (v7 + (1 : Int32)) v8 σ7 hf)
set_option maxHeartbeats 4000000 in
theorem mM_hidden_s (p0 : Int32) (p1 : Int32) (p2 : Int32) (p3 : Int32) (p4 : Int32) (σ : SM) (r : Int32) (σ' : SM)  (hf : mM_hidden p0 p1 p2 p3 p4 σ = some (r, σ')) : ScM σ σ' := by
  unfold mM_hidden at hf
  have hx := ScM.refl σ
  obtain ⟨σ1, hs2, hf⟩ := st1_ex hf
  have hy := scm_I hs2
  have hx := hx.trans (hy (by unfold mO; omega))
  obtain ⟨r4, hc3, hf⟩ := bd1_ex hf
  rcases if_ex2 hf with ⟨hc5, hf⟩ | ⟨hc5, hf⟩
  · skip
    cases some_ex hf
    exact hx
  · skip
    obtain ⟨r7, hc6, hf⟩ := bd1_ex hf
    rcases if_ex2 hf with ⟨hc8, hf⟩ | ⟨hc8, hf⟩
    · skip
      cases some_ex hf
      exact hx
    · skip
      obtain ⟨r10, hc9, hf⟩ := bd1_ex hf
      rcases if_ex2 hf with ⟨hc11, hf⟩ | ⟨hc11, hf⟩
      · skip
        cases some_ex hf
        exact hx
      · skip
        obtain ⟨r13, hc12, hf⟩ := bd1_ex hf
        rcases if_ex2 hf with ⟨hc14, hf⟩ | ⟨hc14, hf⟩
        · skip
          cases some_ex hf
          exact hx
        · skip
          obtain ⟨r16, hc15, hf⟩ := bd1_ex hf
          rcases (if_ex2 hf).symm with ⟨hc17, hf⟩ | ⟨hc17, hf⟩
          · skip
            obtain ⟨σ19, hc18, hf⟩ := bd1_ex hf
            have hx := hx.trans (mM_knowBy_s _ _ _ _ hc18)
            obtain ⟨σ21, hc20, hf⟩ := bd1_ex hf
            have hx := hx.trans (mM_setNothing_s _ _ hc20)
            obtain ⟨r23, hc22, hf⟩ := bd1_ex hf
            obtain ⟨r25, σ26, hc24, hf⟩ := bd2_ex hf
            have hx := hx.trans (mM_ruleOf_s _ _ _ _ _ hc24)
            obtain ⟨r28, σ29, hc27, hf⟩ := bd2_ex hf
            have hx := hx.trans (mM_joinBooths_s _ _ _ _ _ hc27)
            exact hx.trans (lq7_ex (P := fun v1 v2 v5 v6 v7 v8 σ => ScM σ σ') (fun k hk v1 v2 v5 v6 v7 v8 σ hf => mM_hidden_90_s k hk v1 v2 v5 v6 v7 v8 σ hf) LF p0 p1 p4 (0 : Int32) (0 : Int32) (0 : Int32) σ29 hf)
          · skip
            cases some_ex hf
            exact hx
set_option maxHeartbeats 4000000 in
theorem mM_shares_211_s {r : Int32} {σ' : SM}  (k159 : Int32 → Int32 → Int64 → Int32 → Int64 → Int32 → Int32 → SM → Option (Int32 × SM)) (hk159 : ∀ (v1 : Int32) (v2 : Int32) (v5 : Int64) (v7 : Int32) (v8 : Int64) (v10 : Int32) (v11 : Int32) (σ : SM), k159 v1 v2 v5 v7 v8 v10 v11 σ = some (r, σ') → ScM σ σ') (v1 : Int32) (v2 : Int32) (v5 : Int64) (v7 : Int32) (v8 : Int64) (v11 : Int32) (t0 : Int32) (t1 : Int32) (σ : SM) (hf : mM_shares_211 k159 v1 v2 v5 v7 v8 v11 t0 t1 σ = some (r, σ')) : ScM σ σ' := by
  unfold mM_shares_211 at hf
  have hx := ScM.refl σ
  exact hx.trans (hk159 v1 v2 v5 v7 v8 (t1 + t0) (v11 + (1 : Int32)) σ hf)
set_option maxHeartbeats 4000000 in
theorem mM_shares_206_s {r : Int32} {σ' : SM}  (k159 : Int32 → Int32 → Int64 → Int32 → Int64 → Int32 → Int32 → SM → Option (Int32 × SM)) (hk159 : ∀ (v1 : Int32) (v2 : Int32) (v5 : Int64) (v7 : Int32) (v8 : Int64) (v10 : Int32) (v11 : Int32) (σ : SM), k159 v1 v2 v5 v7 v8 v10 v11 σ = some (r, σ') → ScM σ σ') (v1 : Int32) (v2 : Int32) (v5 : Int64) (v7 : Int32) (v8 : Int64) (v11 : Int32) (t0 : Int32) (σ : SM) (hf : mM_shares_206 k159 v1 v2 v5 v7 v8 v11 t0 σ = some (r, σ')) : ScM σ σ' := by
  unfold mM_shares_206 at hf
  have hx := ScM.refl σ
  exact hx.trans (mM_shares_211_s k159 hk159 v1 v2 v5 v7 v8 v11 (1 : Int32) t0 σ hf)
set_option maxHeartbeats 4000000 in
theorem mM_shares_210_s {r : Int32} {σ' : SM}  (k159 : Int32 → Int32 → Int64 → Int32 → Int64 → Int32 → Int32 → SM → Option (Int32 × SM)) (hk159 : ∀ (v1 : Int32) (v2 : Int32) (v5 : Int64) (v7 : Int32) (v8 : Int64) (v10 : Int32) (v11 : Int32) (σ : SM), k159 v1 v2 v5 v7 v8 v10 v11 σ = some (r, σ') → ScM σ σ') (v1 : Int32) (v2 : Int32) (v5 : Int64) (v7 : Int32) (v8 : Int64) (v11 : Int32) (t0 : Int32) (σ : SM) (hf : mM_shares_210 k159 v1 v2 v5 v7 v8 v11 t0 σ = some (r, σ')) : ScM σ σ' := by
  unfold mM_shares_210 at hf
  have hx := ScM.refl σ
  exact hx.trans (mM_shares_211_s k159 hk159 v1 v2 v5 v7 v8 v11 (0 : Int32) t0 σ hf)
set_option maxHeartbeats 4000000 in
theorem mM_shares_159_s {r : Int32} {σ' : SM}  (k159 : Int32 → Int32 → Int64 → Int32 → Int64 → Int32 → Int32 → SM → Option (Int32 × SM)) (hk159 : ∀ (v1 : Int32) (v2 : Int32) (v5 : Int64) (v7 : Int32) (v8 : Int64) (v10 : Int32) (v11 : Int32) (σ : SM), k159 v1 v2 v5 v7 v8 v10 v11 σ = some (r, σ') → ScM σ σ') (v1 : Int32) (v2 : Int32) (v5 : Int64) (v7 : Int32) (v8 : Int64) (v10 : Int32) (v11 : Int32) (σ : SM) (hf : mM_shares_159 k159 v1 v2 v5 v7 v8 v10 v11 σ = some (r, σ')) : ScM σ σ' := by
  unfold mM_shares_159 at hf
  have hx := ScM.refl σ
  rcases if_ex2 hf with ⟨hc1, hf⟩ | ⟨hc1, hf⟩
  · skip
    obtain ⟨hb2, hf⟩ := ck_ex hf
    obtain ⟨hz3, hf⟩ := nzL_ex hf
    rcases if_ex2 hf with ⟨hc4, hf⟩ | ⟨hc4, hf⟩
    · skip
      cases some_ex hf
      exact hx
    · skip
      cases some_ex hf
      exact hx
  · skip
    obtain ⟨hb5, hf⟩ := ck_ex hf
    obtain ⟨hz6, hf⟩ := nzL_ex hf
    rcases if_ex2 hf with ⟨hc7, hf⟩ | ⟨hc7, hf⟩
    · skip
      exact hx.trans (mM_shares_206_s k159 hk159 v1 v2 v5 v7 v8 v11 v10 σ hf)
    · skip
      rcases (if_ex2 hf).symm with ⟨hc8, hf⟩ | ⟨hc8, hf⟩
      · skip
        exact hx.trans (mM_shares_210_s k159 hk159 v1 v2 v5 v7 v8 v11 v10 σ hf)
      · skip
        rcases if_ex2 hf with ⟨hc9, hf⟩ | ⟨hc9, hf⟩
        · skip
          exact hx.trans (mM_shares_210_s k159 hk159 v1 v2 v5 v7 v8 v11 v10 σ hf)
        · skip
          exact hx.trans (mM_shares_206_s k159 hk159 v1 v2 v5 v7 v8 v11 v10 σ hf)
set_option maxHeartbeats 4000000 in
theorem mM_shares_105_s {r : Int32} {σ' : SM}  (k105 : Int32 → Int32 → Int64 → Int32 → Int32 → SM → Option (Int32 × SM)) (hk105 : ∀ (v1 : Int32) (v2 : Int32) (v5 : Int64) (v7 : Int32) (v8 : Int32) (σ : SM), k105 v1 v2 v5 v7 v8 σ = some (r, σ') → ScM σ σ') (v1 : Int32) (v2 : Int32) (v5 : Int64) (v7 : Int32) (v8 : Int32) (σ : SM) (hf : mM_shares_105 k105 v1 v2 v5 v7 v8 σ = some (r, σ')) : ScM σ σ' := by
  unfold mM_shares_105 at hf
  have hx := ScM.refl σ
  rcases if_ex2 hf with ⟨hc1, hf⟩ | ⟨hc1, hf⟩
  · skip
    obtain ⟨hb2, hf⟩ := ck_ex hf
    obtain ⟨hz3, hf⟩ := nzL_ex hf
    exact hx.trans (lq8_ex (P := fun v1 v2 v5 v7 v8 v10 v11 σ => ScM σ σ') (fun k hk v1 v2 v5 v7 v8 v10 v11 σ hf => mM_shares_159_s k hk v1 v2 v5 v7 v8 v10 v11 σ hf) LF v1 v2 v5 v7 ((v1.toInt64 * (gI σ 27 (v2.toNatClampNeg)).toInt64) - (v1.toInt64 * (gI σ 27 (v2.toNatClampNeg)).toInt64) / v5 * v5) (0 : Int32) (0 : Int32) σ hf)
  · skip
    obtain ⟨hb4, hf⟩ := ck_ex hf
    obtain ⟨hz5, hf⟩ := nzL_ex hf
    exact hx.trans (hk105 v1 v2 v5 (v7 - ((v1.toInt64 * (gI σ 27 (v8.toNatClampNeg)).toInt64) / v5).toInt32) (v8 + (1 : Int32)) σ hf)
set_option maxHeartbeats 4000000 in
theorem mM_shares_64_s {r : Int32} {σ' : SM}  (k64 : Int32 → Int32 → Int64 → Int32 → SM → Option (Int32 × SM)) (hk64 : ∀ (v1 : Int32) (v2 : Int32) (v5 : Int64) (v7 : Int32) (σ : SM), k64 v1 v2 v5 v7 σ = some (r, σ') → ScM σ σ') (v1 : Int32) (v2 : Int32) (v5 : Int64) (v7 : Int32) (σ : SM) (hf : mM_shares_64 k64 v1 v2 v5 v7 σ = some (r, σ')) : ScM σ σ' := by
  unfold mM_shares_64 at hf
  have hx := ScM.refl σ
  rcases if_ex2 hf with ⟨hc1, hf⟩ | ⟨hc1, hf⟩
  · skip
    rcases (if_ex2 hf).symm with ⟨hc2, hf⟩ | ⟨hc2, hf⟩
    · skip
      exact hx.trans (lq6_ex (P := fun v1 v2 v5 v7 v8 σ => ScM σ σ') (fun k hk v1 v2 v5 v7 v8 σ hf => mM_shares_105_s k hk v1 v2 v5 v7 v8 σ hf) LF v1 v2 v5 v1 (0 : Int32) σ hf)
    · skip
      cases some_ex hf
      exact hx
  · skip
    obtain ⟨hb3, hf⟩ := ck_ex hf
    exact hx.trans (hk64 v1 v2 (v5 + (gI σ 27 (v7.toNatClampNeg)).toInt64) (v7 + (1 : Int32)) σ hf)
set_option maxHeartbeats 4000000 in
theorem mM_shares_s (p0 : Int32) (p1 : Int32) (p2 : Int32) (p3 : Int32) (σ : SM) (r : Int32) (σ' : SM)  (hf : mM_shares p0 p1 p2 p3 σ = some (r, σ')) : ScM σ σ' := by
  unfold mM_shares at hf
  have hx := ScM.refl σ
  obtain ⟨σ1, hs2, hf⟩ := st1_ex hf
  have hy := scm_I hs2
  have hx := hx.trans (hy (by unfold mO; omega))
  obtain ⟨r4, hc3, hf⟩ := bd1_ex hf
  rcases if_ex2 hf with ⟨hc5, hf⟩ | ⟨hc5, hf⟩
  · skip
    cases some_ex hf
    exact hx
  · skip
    obtain ⟨r7, hc6, hf⟩ := bd1_ex hf
    rcases if_ex2 hf with ⟨hc8, hf⟩ | ⟨hc8, hf⟩
    · skip
      cases some_ex hf
      exact hx
    · skip
      obtain ⟨r10, hc9, hf⟩ := bd1_ex hf
      rcases if_ex2 hf with ⟨hc11, hf⟩ | ⟨hc11, hf⟩
      · skip
        cases some_ex hf
        exact hx
      · skip
        obtain ⟨r13, hc12, hf⟩ := bd1_ex hf
        rcases (if_ex2 hf).symm with ⟨hc14, hf⟩ | ⟨hc14, hf⟩
        · skip
          obtain ⟨σ16, hc15, hf⟩ := bd1_ex hf
          have hx := hx.trans (mM_knowBy_s _ _ _ _ hc15)
          obtain ⟨σ18, hc17, hf⟩ := bd1_ex hf
          have hx := hx.trans (mM_addSeat_s _ _ _ hc17)
          exact hx.trans (lq5_ex (P := fun v1 v2 v5 v7 σ => ScM σ σ') (fun k hk v1 v2 v5 v7 σ hf => mM_shares_64_s k hk v1 v2 v5 v7 σ hf) LF p0 p1 (0 : Int64) (0 : Int32) σ18 hf)
        · skip
          cases some_ex hf
          exact hx
set_option maxHeartbeats 4000000 in
theorem mM_leg_s (p0 : Int32) (p1 : Int32) (σ : SM) (r : Int32) (σ' : SM)  (hf : mM_leg p0 p1 σ = some (r, σ')) : ScM σ σ' := by
  unfold mM_leg at hf
  have hx := ScM.refl σ
  obtain ⟨σ1, hs2, hf⟩ := st1_ex hf
  have hy := scm_I hs2
  have hx := hx.trans (hy (by unfold mO; omega))
  rcases if_ex2 hf with ⟨hc3, hf⟩ | ⟨hc3, hf⟩
  · skip
    cases some_ex hf
    exact hx
  · skip
    obtain ⟨r5, hc4, hf⟩ := bd1_ex hf
    rcases (if_ex2 hf).symm with ⟨hc6, hf⟩ | ⟨hc6, hf⟩
    · skip
      rcases (if_ex2 hf).symm with ⟨hc7, hf⟩ | ⟨hc7, hf⟩
      · skip
        rcases (if_ex2 hf).symm with ⟨hc8, hf⟩ | ⟨hc8, hf⟩
        · skip
          cases some_ex hf
          exact hx
        · skip
          obtain ⟨hb9, hf⟩ := ck_ex hf
          cases some_ex hf
          exact hx
      · skip
        obtain ⟨hb10, hf⟩ := ck_ex hf
        cases some_ex hf
        exact hx
    · skip
      cases some_ex hf
      exact hx
set_option maxHeartbeats 4000000 in
theorem mM_doors_103_s {r : Int32} {σ' : SM}  (k67 : Int32 → Int32 → Int32 → Int32 → Int32 → Int32 → Int32 → SM → Option (Int32 × SM)) (hk67 : ∀ (v1 : Int32) (v2 : Int32) (v3 : Int32) (v4 : Int32) (v5 : Int32) (v6 : Int32) (v7 : Int32) (σ : SM), k67 v1 v2 v3 v4 v5 v6 v7 σ = some (r, σ') → ScM σ σ') (v1 : Int32) (v2 : Int32) (v3 : Int32) (v4 : Int32) (v5 : Int32) (v6 : Int32) (v7 : Int32) (σ : SM) (hf : mM_doors_103 k67 v1 v2 v3 v4 v5 v6 v7 σ = some (r, σ')) : ScM σ σ' := by
  unfold mM_doors_103 at hf
  have hx := ScM.refl σ
  exact hx.trans (hk67 v1 v2 v3 v4 v5 v6 (v7 + (1 : Int32)) σ hf)
set_option maxHeartbeats 4000000 in
theorem mM_doors_97_s {r : Int32} {σ' : SM}  (k67 : Int32 → Int32 → Int32 → Int32 → Int32 → Int32 → Int32 → SM → Option (Int32 × SM)) (hk67 : ∀ (v1 : Int32) (v2 : Int32) (v3 : Int32) (v4 : Int32) (v5 : Int32) (v6 : Int32) (v7 : Int32) (σ : SM), k67 v1 v2 v3 v4 v5 v6 v7 σ = some (r, σ') → ScM σ σ') (v1 : Int32) (v2 : Int32) (v3 : Int32) (v4 : Int32) (v7 : Int32) (t0 : Int32) (σ : SM) (hf : mM_doors_97 k67 v1 v2 v3 v4 v7 t0 σ = some (r, σ')) : ScM σ σ' := by
  unfold mM_doors_97 at hf
  have hx := ScM.refl σ
  exact hx.trans (mM_doors_103_s k67 hk67 v1 v2 v3 v4 t0 v7 v7 σ hf)
set_option maxHeartbeats 4000000 in
theorem mM_doors_67_s {r : Int32} {σ' : SM}  (k67 : Int32 → Int32 → Int32 → Int32 → Int32 → Int32 → Int32 → SM → Option (Int32 × SM)) (hk67 : ∀ (v1 : Int32) (v2 : Int32) (v3 : Int32) (v4 : Int32) (v5 : Int32) (v6 : Int32) (v7 : Int32) (σ : SM), k67 v1 v2 v3 v4 v5 v6 v7 σ = some (r, σ') → ScM σ σ') (v1 : Int32) (v2 : Int32) (v3 : Int32) (v4 : Int32) (v5 : Int32) (v6 : Int32) (v7 : Int32) (σ : SM) (hf : mM_doors_67 k67 v1 v2 v3 v4 v5 v6 v7 σ = some (r, σ')) : ScM σ σ' := by
  unfold mM_doors_67 at hf
  have hx := ScM.refl σ
  rcases if_ex2 hf with ⟨hc1, hf⟩ | ⟨hc1, hf⟩
  · skip
    rcases (if_ex2 hf).symm with ⟨hc2, hf⟩ | ⟨hc2, hf⟩
    · skip
      cases some_ex hf
      exact hx
    · skip
      cases some_ex hf
      exact hx
  · skip
    obtain ⟨r4, hc3, hf⟩ := bd1_ex hf
    rcases if_ex2 hf with ⟨hc5, hf⟩ | ⟨hc5, hf⟩
    · skip
      exact hx.trans (mM_doors_103_s k67 hk67 v1 v2 v3 v4 v5 v6 v7 σ hf)
    · skip
      rcases (if_ex2 hf).symm with ⟨hc6, hf⟩ | ⟨hc6, hf⟩
      · skip
        exact hx.trans (mM_doors_97_s k67 hk67 v1 v2 v3 v4 v7 v5 σ hf)
      · skip
        exact hx.trans (mM_doors_97_s k67 hk67 v1 v2 v3 v4 v7 v7 σ hf)
set_option maxHeartbeats 4000000 in
theorem mM_doors_s (p0 : Int32) (p1 : Int32) (p2 : Int32) (p3 : Int32) (σ : SM) (r : Int32) (σ' : SM)  (hf : mM_doors p0 p1 p2 p3 σ = some (r, σ')) : ScM σ σ' := by
  unfold mM_doors at hf
  have hx := ScM.refl σ
  obtain ⟨σ1, hs2, hf⟩ := st1_ex hf
  have hy := scm_I hs2
  have hx := hx.trans (hy (by unfold mO; omega))
  obtain ⟨r4, hc3, hf⟩ := bd1_ex hf
  rcases if_ex2 hf with ⟨hc5, hf⟩ | ⟨hc5, hf⟩
  · skip
    cases some_ex hf
    exact hx
  · skip
    obtain ⟨r7, hc6, hf⟩ := bd1_ex hf
    rcases if_ex2 hf with ⟨hc8, hf⟩ | ⟨hc8, hf⟩
    · skip
      cases some_ex hf
      exact hx
    · skip
      rcases if_ex2 hf with ⟨hc9, hf⟩ | ⟨hc9, hf⟩
      · skip
        cases some_ex hf
        exact hx
      · skip
        obtain ⟨r11, hc10, hf⟩ := bd1_ex hf
        rcases if_ex2 hf with ⟨hc12, hf⟩ | ⟨hc12, hf⟩
        · skip
          cases some_ex hf
          exact hx
        · skip
          obtain ⟨r14, hc13, hf⟩ := bd1_ex hf
          rcases (if_ex2 hf).symm with ⟨hc15, hf⟩ | ⟨hc15, hf⟩
          · skip
            exact hx.trans (lq8_ex (P := fun v1 v2 v3 v4 v5 v6 v7 σ => ScM σ σ') (fun k hk v1 v2 v3 v4 v5 v6 v7 σ hf => mM_doors_67_s k hk v1 v2 v3 v4 v5 v6 v7 σ hf) LF p0 p1 p2 p3 (-1 : Int32) (-1 : Int32) (0 : Int32) σ1 hf)
          · skip
            cases some_ex hf
            exact hx
set_option maxHeartbeats 4000000 in
theorem mM_addBooth_101_s {σ' : SM}  (k17 : Int32 → Int32 → SM → Option (SM)) (hk17 : ∀ (v1 : Int32) (v2 : Int32) (σ : SM), k17 v1 v2 σ = some σ' → ScM σ σ') (v1 : Int32) (v2 : Int32) (σ : SM) (hf : mM_addBooth_101 k17 v1 v2 σ = some σ') : ScM σ σ' := by
  unfold mM_addBooth_101 at hf
  have hx := ScM.refl σ
  exact hx.trans (hk17 v1 (v2 + (1 : Int32)) σ hf)
set_option maxHeartbeats 4000000 in
theorem mM_addBooth_17_s {σ' : SM}  (k17 : Int32 → Int32 → SM → Option (SM)) (hk17 : ∀ (v1 : Int32) (v2 : Int32) (σ : SM), k17 v1 v2 σ = some σ' → ScM σ σ') (v1 : Int32) (v2 : Int32) (σ : SM) (hf : mM_addBooth_17 k17 v1 v2 σ = some σ') : ScM σ σ' := by
  unfold mM_addBooth_17 at hf
  have hx := ScM.refl σ
  rcases if_ex2 hf with ⟨hc1, hf⟩ | ⟨hc1, hf⟩
  · skip
    cases some_ex hf
    exact hx
  · skip
    obtain ⟨r3, hc2, hf⟩ := bd1_ex hf
    rcases (if_ex2 hf).symm with ⟨hc4, hf⟩ | ⟨hc4, hf⟩
    · skip
      exact hx.trans (mM_addBooth_101_s k17 hk17 v1 v2 σ hf)
    · skip
      obtain ⟨σ5, hs6, hf⟩ := st1_ex hf
      have hy := scm_I hs6
      have hx := hx.trans (hy (by unfold mO; omega))
      obtain ⟨hb7, hf⟩ := ck_ex hf
      obtain ⟨σ8, hs9, hf⟩ := st1_ex hf
      have hx := hx.trans (scm_L hs9)
      obtain ⟨hb10, hf⟩ := ck_ex hf
      obtain ⟨σ11, hs12, hf⟩ := st1_ex hf
      have hx := hx.trans (scm_L hs12)
      exact hx.trans (mM_addBooth_101_s k17 hk17 v1 v2 σ11 hf)
set_option maxHeartbeats 4000000 in
theorem mM_addBooth_s (p0 : Int32) (σ : SM) (σ' : SM)  (hf : mM_addBooth p0 σ = some σ') : ScM σ σ' := by
  unfold mM_addBooth at hf
  have hx := ScM.refl σ
  obtain ⟨σ1, hs2, hf⟩ := st1_ex hf
  have hy := scm_I hs2
  have hx := hx.trans (hy (by unfold mO; omega))
  obtain ⟨σ3, hs4, hf⟩ := st1_ex hf
  have hx := hx.trans (scm_L hs4)
  obtain ⟨σ5, hs6, hf⟩ := st1_ex hf
  have hx := hx.trans (scm_L hs6)
  exact hx.trans (lq3_ex (P := fun v1 v2 σ => ScM σ σ') (fun k hk v1 v2 σ hf => mM_addBooth_17_s k hk v1 v2 σ hf) LF p0 (0 : Int32) σ5 hf)
set_option maxHeartbeats 4000000 in
theorem mM_found_158_s {r : Int32} {σ' : SM}  (k119 : Int32 → Int64 → Int64 → Int32 → Int32 → SM → Option (Int32 × SM)) (hk119 : ∀ (v1 : Int32) (v3 : Int64) (v5 : Int64) (v7 : Int32) (v8 : Int32) (σ : SM), k119 v1 v3 v5 v7 v8 σ = some (r, σ') → ScM σ σ') (v1 : Int32) (v3 : Int64) (v5 : Int64) (v7 : Int32) (v8 : Int32) (σ : SM) (hf : mM_found_158 k119 v1 v3 v5 v7 v8 σ = some (r, σ')) : ScM σ σ' := by
  unfold mM_found_158 at hf
  have hx := ScM.refl σ
  exact hx.trans (hk119 v1 v3 v5 v7 (v8 + (1 : Int32)) σ hf)
set_option maxHeartbeats 4000000 in
theorem mM_found_119_s {r : Int32} {σ' : SM}  (k119 : Int32 → Int64 → Int64 → Int32 → Int32 → SM → Option (Int32 × SM)) (hk119 : ∀ (v1 : Int32) (v3 : Int64) (v5 : Int64) (v7 : Int32) (v8 : Int32) (σ : SM), k119 v1 v3 v5 v7 v8 σ = some (r, σ') → ScM σ σ') (v1 : Int32) (v3 : Int64) (v5 : Int64) (v7 : Int32) (v8 : Int32) (σ : SM) (hf : mM_found_119 k119 v1 v3 v5 v7 v8 σ = some (r, σ')) : ScM σ σ' := by
  unfold mM_found_119 at hf
  have hx := ScM.refl σ
  rcases if_ex2 hf with ⟨hc1, hf⟩ | ⟨hc1, hf⟩
  · skip
    cases some_ex hf
    exact hx
  · skip
    obtain ⟨r3, hc2, hf⟩ := bd1_ex hf
    rcases (if_ex2 hf).symm with ⟨hc4, hf⟩ | ⟨hc4, hf⟩
    · skip
      exact hx.trans (mM_found_158_s k119 hk119 v1 v3 v5 v7 v8 σ hf)
    · skip
      rcases (if_ex2 hf).symm with ⟨hc5, hf⟩ | ⟨hc5, hf⟩
      · skip
        exact hx.trans (mM_found_158_s k119 hk119 v1 v3 v5 (v7 + (1 : Int32)) v8 σ hf)
      · skip
        cases some_ex hf
        exact hx
set_option maxHeartbeats 4000000 in
theorem mM_found_s (p0 : Int32) (σ : SM) (r : Int32) (σ' : SM)  (hf : mM_found p0 σ = some (r, σ')) : ScM σ σ' := by
  unfold mM_found at hf
  have hx := ScM.refl σ
  obtain ⟨σ1, hs2, hf⟩ := st1_ex hf
  have hy := scm_I hs2
  have hx := hx.trans (hy (by unfold mO; omega))
  obtain ⟨r4, hc3, hf⟩ := bd1_ex hf
  rcases if_ex2 hf with ⟨hc5, hf⟩ | ⟨hc5, hf⟩
  · skip
    cases some_ex hf
    exact hx
  · skip
    obtain ⟨hb6, hf⟩ := ck_ex hf
    rcases (if_ex2 hf).symm with ⟨hc7, hf⟩ | ⟨hc7, hf⟩
    · skip
      obtain ⟨σ9, hc8, hf⟩ := bd1_ex hf
      have hx := hx.trans (mM_addBooth_s _ _ _ hc8)
      obtain ⟨hb10, hf⟩ := ck_ex hf
      rcases if_ex2 hf with ⟨hc11, hf⟩ | ⟨hc11, hf⟩
      · skip
        obtain ⟨hb12, hf⟩ := ck_ex hf
        obtain ⟨hb13, hf⟩ := ck_ex hf
        rcases (if_ex2 hf).symm with ⟨hc14, hf⟩ | ⟨hc14, hf⟩
        · skip
          exact hx.trans (lq6_ex (P := fun v1 v3 v5 v7 v8 σ => ScM σ σ') (fun k hk v1 v3 v5 v7 v8 σ hf => mM_found_119_s k hk v1 v3 v5 v7 v8 σ hf) LF p0 ((gL σ9 0 60) - (gI σ9 1 ((((2368 : Int32) + ((4 : Int32) * p0)) + (2 : Int32)).toNatClampNeg)).toInt64) ((gL σ9 0 61) - (gI σ9 1 ((((2368 : Int32) + ((4 : Int32) * p0)) + (3 : Int32)).toNatClampNeg)).toInt64) (0 : Int32) (0 : Int32) σ9 hf)
        · skip
          rcases (if_ex2 hf).symm with ⟨hc15, hf⟩ | ⟨hc15, hf⟩
          · skip
            cases some_ex hf
            exact hx
          · skip
            cases some_ex hf
            exact hx
      · skip
        cases some_ex hf
        exact hx
    · skip
      cases some_ex hf
      exact hx
set_option maxHeartbeats 4000000 in
theorem mM_all_s (p0 : Int32) (σ : SM) (r : Int32) (σ' : SM)  (hf : mM_all p0 σ = some (r, σ')) : ScM σ σ' := by
  unfold mM_all at hf
  have hx := ScM.refl σ
  obtain ⟨σ1, hs2, hf⟩ := st1_ex hf
  have hy := scm_I hs2
  have hx := hx.trans (hy (by unfold mO; omega))
  by_cases hw0 : p0 = (0 : Int32)
  · have hf := if_t hf hw0
    cases some_ex hf
    exact hx
  replace hf := if_f hf hw0
  by_cases hw1 : p0 = (1 : Int32)
  · have hf := if_t hf hw1
    cases some_ex hf
    exact hx
  replace hf := if_f hf hw1
  by_cases hw2 : p0 = (2 : Int32)
  · have hf := if_t hf hw2
    cases some_ex hf
    exact hx
  replace hf := if_f hf hw2
  by_cases hw3 : p0 = (3 : Int32)
  · have hf := if_t hf hw3
    cases some_ex hf
    exact hx
  replace hf := if_f hf hw3
  by_cases hw4 : p0 = (4 : Int32)
  · have hf := if_t hf hw4
    cases some_ex hf
    exact hx
  replace hf := if_f hf hw4
  by_cases hw5 : p0 = (5 : Int32)
  · have hf := if_t hf hw5
    cases some_ex hf
    exact hx
  replace hf := if_f hf hw5
  by_cases hw6 : p0 = (6 : Int32)
  · have hf := if_t hf hw6
    cases some_ex hf
    exact hx
  replace hf := if_f hf hw6
  by_cases hw7 : p0 = (7 : Int32)
  · have hf := if_t hf hw7
    cases some_ex hf
    exact hx
  replace hf := if_f hf hw7
  by_cases hw8 : p0 = (8 : Int32)
  · have hf := if_t hf hw8
    cases some_ex hf
    exact hx
  replace hf := if_f hf hw8
  cases some_ex hf
  exact hx
set_option maxHeartbeats 4000000 in
theorem mM_status_s (σ : SM) (r : Int32) (σ' : SM)  (hf : mM_status  σ = some (r, σ')) : ScM σ σ' := by
  unfold mM_status at hf
  have hx := ScM.refl σ
  obtain ⟨σ1, hs2, hf⟩ := st1_ex hf
  have hy := scm_I hs2
  have hx := hx.trans (hy (by unfold mO; omega))
  cases some_ex hf
  exact hx
