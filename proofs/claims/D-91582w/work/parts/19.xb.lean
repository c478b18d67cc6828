set_option maxRecDepth 100000
set_option maxHeartbeats 4000000 in
theorem mC_X3_empties_26_x {w' : AH}  (k26 : Nat → Int32 → AH → Option (AH)) (hk26 : ∀ (v0 : Nat) (v1 : Int32) (w : AH), k26 v0 v1 w = some w' → Ext w w') (v0 : Nat) (v1 : Int32) (w : AH) (hf : mC_X3_empties_26 k26 v0 v1 w = some w') : Ext w w' := by
  unfold mC_X3_empties_26 at hf
  have hx := Ext.refl w
  obtain ⟨h1, hf⟩ := ck_ex hf
  obtain ⟨b2, hb3, hf⟩ := bd1_ex hf
  obtain ⟨h4, hf⟩ := ck_ex hf
  by_cases hc5 : (Int32.ofNat (hkd w b2).2) ≤ v1
  · have hf := if_t hf hc5
    cases some_ex hf
    exact hx
  · have hf := if_f hf hc5
    obtain ⟨h6, hf⟩ := ck_ex hf
    obtain ⟨w7, hs8, hf⟩ := st1_ex hf
    have hx := hx.trans (Ext.I hs8)
    exact hx.trans (hk26 v0 (v1 + (1 : Int32)) w7 hf)
set_option maxHeartbeats 4000000 in
theorem mC_X3_empties_2_x {w' : AH}  (k2 : Nat → Int32 → AH → Option (AH)) (hk2 : ∀ (v0 : Nat) (v1 : Int32) (w : AH), k2 v0 v1 w = some w' → Ext w w') (v0 : Nat) (v1 : Int32) (w : AH) (hf : mC_X3_empties_2 k2 v0 v1 w = some w') : Ext w w' := by
  unfold mC_X3_empties_2 at hf
  have hx := Ext.refl w
  obtain ⟨h1, hf⟩ := ck_ex hf
  obtain ⟨b2, hb3, hf⟩ := bd1_ex hf
  obtain ⟨h4, hf⟩ := ck_ex hf
  by_cases hc5 : (Int32.ofNat (hkd w b2).2) ≤ v1
  · have hf := if_t hf hc5
    exact hx.trans (lq3_ex (P := fun v0 v1 w => Ext w w') (fun k hk v0 v1 w hf => mC_X3_empties_26_x k hk v0 v1 w hf) LF v0 (0 : Int32) w hf)
  · have hf := if_f hf hc5
    obtain ⟨h6, hf⟩ := ck_ex hf
    obtain ⟨w7, hs8, hf⟩ := st1_ex hf
    have hx := hx.trans (Ext.L hs8)
    exact hx.trans (hk2 v0 (v1 + (1 : Int32)) w7 hf)
set_option maxHeartbeats 4000000 in
theorem mC_X3_empties_x  (w : AH) (a : Nat) (w' : AH) (hf : mC_X3_empties a w = some w') : Ext w w' := by
  unfold mC_X3_empties at hf
  have hx := Ext.refl w
  exact hx.trans (lq3_ex (P := fun v0 v1 w => Ext w w') (fun k hk v0 v1 w hf => mC_X3_empties_2_x k hk v0 v1 w hf) LF a (0 : Int32) w hf)
set_option maxHeartbeats 4000000 in
theorem mC_X0_asks_x  (w : AH) (a : Nat) (p0 : Int32) (w' : AH) (hf : mC_X0_asks a p0 w = some w') : Ext w w' := by
  unfold mC_X0_asks at hf
  have hx := Ext.refl w
  obtain ⟨h1, hf⟩ := ck_ex hf
  obtain ⟨b2, hb3, hf⟩ := bd1_ex hf
  obtain ⟨h4, hf⟩ := ck_ex hf
  obtain ⟨w6, hc5, hf⟩ := bd1_ex hf
  have hx := hx.trans (mC_X3_empties_x _ _ _ hc5)
  obtain ⟨h7, hf⟩ := ck_ex hf
  obtain ⟨b8, hb9, hf⟩ := bd1_ex hf
  obtain ⟨h10, hf⟩ := ck_ex hf
  obtain ⟨b11, hb12, hf⟩ := bd1_ex hf
  obtain ⟨h13, hf⟩ := ck_ex hf
  obtain ⟨w14, hs15, hf⟩ := st1_ex hf
  have hx := hx.trans (Ext.L hs15)
  cases some_ex hf
  exact hx
set_option maxHeartbeats 4000000 in
theorem mC_X0_last_152_x {r : Int64} {w' : AH}  (k54 : Nat → Int32 → Int32 → Int64 → Int32 → Nat → Int32 → AH → Option (Int64 × AH)) (hk54 : ∀ (v0 : Nat) (v1 : Int32) (v2 : Int32) (v4 : Int64) (v6 : Int32) (v7 : Nat) (v8 : Int32) (w : AH), k54 v0 v1 v2 v4 v6 v7 v8 w = some (r, w') → Ext w w') (v0 : Nat) (v1 : Int32) (v2 : Int32) (v4 : Int64) (v6 : Int32) (v7 : Nat) (v8 : Int32) (w : AH) (hf : mC_X0_last_152 k54 v0 v1 v2 v4 v6 v7 v8 w = some (r, w')) : Ext w w' := by
  unfold mC_X0_last_152 at hf
  have hx := Ext.refl w
  exact hx.trans (hk54 v0 v1 v2 v4 v6 v7 (v8 + (1 : Int32)) w hf)
set_option maxHeartbeats 4000000 in
theorem mC_X0_last_54_x {r : Int64} {w' : AH}  (k16 : Nat → Int32 → Int32 → Int64 → Int32 → AH → Option (Int64 × AH)) (hk16 : ∀ (v0 : Nat) (v1 : Int32) (v2 : Int32) (v4 : Int64) (v6 : Int32) (w : AH), k16 v0 v1 v2 v4 v6 w = some (r, w') → Ext w w') (k54 : Nat → Int32 → Int32 → Int64 → Int32 → Nat → Int32 → AH → Option (Int64 × AH)) (hk54 : ∀ (v0 : Nat) (v1 : Int32) (v2 : Int32) (v4 : Int64) (v6 : Int32) (v7 : Nat) (v8 : Int32) (w : AH), k54 v0 v1 v2 v4 v6 v7 v8 w = some (r, w') → Ext w w') (v0 : Nat) (v1 : Int32) (v2 : Int32) (v4 : Int64) (v6 : Int32) (v7 : Nat) (v8 : Int32) (w : AH) (hf : mC_X0_last_54 k16 k54 v0 v1 v2 v4 v6 v7 v8 w = some (r, w')) : Ext w w' := by
  unfold mC_X0_last_54 at hf
  have hx := Ext.refl w
  obtain ⟨h1, hf⟩ := ck_ex hf
  obtain ⟨r3, hc2, hf⟩ := bd1_ex hf
  by_cases hc4 : r3 ≤ v8
  · have hf := if_t hf hc4
    exact hx.trans (hk16 v0 v1 v2 v4 (v6 + (1 : Int32)) w hf)
  · have hf := if_f hf hc4
    obtain ⟨h5, hf⟩ := ck_ex hf
    obtain ⟨b6, hb7, hf⟩ := bd1_ex hf
    obtain ⟨h8, hf⟩ := ck_ex hf
    obtain ⟨b9, hb10, hf⟩ := bd1_ex hf
    obtain ⟨h11, hf⟩ := ck_ex hf
    by_cases hc12 : (hvi w b9 ((((12 : Int32) * v6) + v8).toNatClampNeg)) = (0 : Int32)
    · have hf := if_t hf hc12
      exact hx.trans (mC_X0_last_152_x k54 hk54 v0 v1 v2 v4 v6 v7 v8 w hf)
    · have hf := if_f hf hc12
      obtain ⟨r14, hc13, hf⟩ := bd1_ex hf
      obtain ⟨h15, hf⟩ := ck_ex hf
      by_cases hc16 : (hvi w r14 0) = v1
      · have hf := if_t hf hc16
        obtain ⟨r18, hc17, hf⟩ := bd1_ex hf
        obtain ⟨h19, hf⟩ := ck_ex hf
        by_cases hc20 : (hvi w r18 1) = v2
        · have hf := if_t hf hc20
          obtain ⟨r22, hc21, hf⟩ := bd1_ex hf
          obtain ⟨h23, hf⟩ := ck_ex hf
          obtain ⟨b24, hb25, hf⟩ := bd1_ex hf
          obtain ⟨r27, hc26, hf⟩ := bd1_ex hf
          by_cases hc28 : r27 = (-4000000000 : Int64)
          · have hf := if_t hf hc28
            exact hx.trans (mC_X0_last_152_x k54 hk54 v0 v1 v2 v4 v6 v7 v8 w hf)
          · have hf := if_f hf hc28
            exact hx.trans (mC_X0_last_152_x k54 hk54 v0 v1 v2 r27 v6 v7 v8 w hf)
        · have hf := if_f hf hc20
          exact hx.trans (mC_X0_last_152_x k54 hk54 v0 v1 v2 v4 v6 v7 v8 w hf)
      · have hf := if_f hf hc16
        exact hx.trans (mC_X0_last_152_x k54 hk54 v0 v1 v2 v4 v6 v7 v8 w hf)
set_option maxHeartbeats 4000000 in
theorem mC_X0_last_16_x {r : Int64} {w' : AH}  (k16 : Nat → Int32 → Int32 → Int64 → Int32 → AH → Option (Int64 × AH)) (hk16 : ∀ (v0 : Nat) (v1 : Int32) (v2 : Int32) (v4 : Int64) (v6 : Int32) (w : AH), k16 v0 v1 v2 v4 v6 w = some (r, w') → Ext w w') (v0 : Nat) (v1 : Int32) (v2 : Int32) (v4 : Int64) (v6 : Int32) (w : AH) (hf : mC_X0_last_16 k16 v0 v1 v2 v4 v6 w = some (r, w')) : Ext w w' := by
  unfold mC_X0_last_16 at hf
  have hx := Ext.refl w
  obtain ⟨h1, hf⟩ := ck_ex hf
  obtain ⟨b2, hb3, hf⟩ := bd1_ex hf
  obtain ⟨h4, hf⟩ := ck_ex hf
  obtain ⟨b5, hb6, hf⟩ := bd1_ex hf
  obtain ⟨h7, hf⟩ := ck_ex hf
  obtain ⟨r9, hc8, hf⟩ := bd1_ex hf
  by_cases hc10 : r9 ≤ v6
  · have hf := if_t hf hc10
    cases some_ex hf
    exact hx
  · have hf := if_f hf hc10
    obtain ⟨r12, hc11, hf⟩ := bd1_ex hf
    obtain ⟨h13, hf⟩ := ck_ex hf
    obtain ⟨b14, hb15, hf⟩ := bd1_ex hf
    exact hx.trans (lq8_ex (P := fun v0 v1 v2 v4 v6 v7 v8 w => Ext w w') (fun k hk v0 v1 v2 v4 v6 v7 v8 w hf => mC_X0_last_54_x k16 hk16 k hk v0 v1 v2 v4 v6 v7 v8 w hf) LF v0 v1 v2 v4 v6 b14 (0 : Int32) w hf)
set_option maxHeartbeats 4000000 in
theorem mC_X0_last_x  (w : AH) (a : Nat) (p0 : Int32) (p1 : Int32) (p2 : Int32) (r : Int64) (w' : AH) (hf : mC_X0_last a p0 p1 p2 w = some (r, w')) : Ext w w' := by
  unfold mC_X0_last at hf
  have hx := Ext.refl w
  obtain ⟨h1, hf⟩ := ck_ex hf
  obtain ⟨b2, hb3, hf⟩ := bd1_ex hf
  obtain ⟨h4, hf⟩ := ck_ex hf
  obtain ⟨w6, hc5, hf⟩ := bd1_ex hf
  have hx := hx.trans (mC_X2_looks_x _ _ _ _ hc5)
  exact hx.trans (lq6_ex (P := fun v0 v1 v2 v4 v6 w => Ext w w') (fun k hk v0 v1 v2 v4 v6 w hf => mC_X0_last_16_x k hk v0 v1 v2 v4 v6 w hf) LF a p0 p1 (-4000000000 : Int64) (0 : Int32) w6 hf)
set_option maxHeartbeats 4000000 in
theorem mC_X5_isOn_248_x {r : Int32} {w' : AH}  (v0 : Nat) (v1 : Int32) (v2 : Int32) (v3 : Int32) (t0 : Int32) (t1 : Int32) (t2 : Nat) (w : AH) (hf : mC_X5_isOn_248 v0 v1 v2 v3 t0 t1 t2 w = some (r, w')) : Ext w w' := by
  unfold mC_X5_isOn_248 at hf
  have hx := Ext.refl w
  obtain ⟨h1, hf⟩ := ck_ex hf
  obtain ⟨h2, hf⟩ := ck_ex hf
  obtain ⟨w3, hs4, hf⟩ := st1_ex hf
  have hx := hx.trans (Ext.I hs4)
  obtain ⟨h5, hf⟩ := ck_ex hf
  obtain ⟨b6, hb7, hf⟩ := bd1_ex hf
  obtain ⟨h8, hf⟩ := ck_ex hf
  obtain ⟨b9, hb10, hf⟩ := bd1_ex hf
  obtain ⟨h11, hf⟩ := ck_ex hf
  obtain ⟨b12, hb13, hf⟩ := bd1_ex hf
  obtain ⟨r15, hc14, hf⟩ := bd1_ex hf
  obtain ⟨h16, hf⟩ := ck_ex hf
  obtain ⟨h17, hf⟩ := ck_ex hf
  obtain ⟨w18, hs19, hf⟩ := st1_ex hf
  have hx := hx.trans (Ext.I hs19)
  obtain ⟨h20, hf⟩ := ck_ex hf
  obtain ⟨b21, hb22, hf⟩ := bd1_ex hf
  obtain ⟨h23, hf⟩ := ck_ex hf
  obtain ⟨r25, w26, hc24, hf⟩ := bd2_ex hf
  have hx := hx.trans (mC_X0_last_x _ _ _ _ _ _ _ hc24)
  by_cases hc27 : r25 = (-4000000000 : Int64)
  · have hf := if_t hf hc27
    cases some_ex hf
    exact hx
  · have hf := if_f hf hc27
    obtain ⟨h28, hf⟩ := ck_ex hf
    obtain ⟨b29, hb30, hf⟩ := bd1_ex hf
    obtain ⟨h31, hf⟩ := ck_ex hf
    obtain ⟨r33, w34, hc32, hf⟩ := bd2_ex hf
    have hx := hx.trans (mC_X0_last_x _ _ _ _ _ _ _ hc32)
    by_cases hc35 : r33 = (-4000000000 : Int64)
    · have hf := if_t hf hc35
      cases some_ex hf
      exact hx
    · have hf := if_f hf hc35
      cases some_ex hf
      exact hx
set_option maxHeartbeats 4000000 in
theorem mC_X5_isOn_222_x {r : Int32} {w' : AH}  (v0 : Nat) (v1 : Int32) (v2 : Int32) (v3 : Int32) (v4 : Nat) (t0 : Int32) (t1 : Int32) (t2 : Nat) (w : AH) (hf : mC_X5_isOn_222 v0 v1 v2 v3 v4 t0 t1 t2 w = some (r, w')) : Ext w w' := by
  unfold mC_X5_isOn_222 at hf
  have hx := Ext.refl w
  obtain ⟨h1, hf⟩ := ck_ex hf
  obtain ⟨h2, hf⟩ := ck_ex hf
  obtain ⟨w3, hs4, hf⟩ := st1_ex hf
  have hx := hx.trans (Ext.I hs4)
  obtain ⟨h5, hf⟩ := ck_ex hf
  obtain ⟨b6, hb7, hf⟩ := bd1_ex hf
  obtain ⟨h8, hf⟩ := ck_ex hf
  obtain ⟨b9, hb10, hf⟩ := bd1_ex hf
  obtain ⟨h11, hf⟩ := ck_ex hf
  obtain ⟨b12, hb13, hf⟩ := bd1_ex hf
  obtain ⟨r15, hc14, hf⟩ := bd1_ex hf
  by_cases hc16 : r15 = (3 : Int32)
  · have hf := if_t hf hc16
    exact hx.trans (mC_X5_isOn_248_x v0 v1 v2 v3 (1 : Int32) (2 : Int32) b12 w3 hf)
  · have hf := if_f hf hc16
    exact hx.trans (mC_X5_isOn_248_x v0 v1 v2 v3 (0 : Int32) (2 : Int32) b12 w3 hf)
set_option maxHeartbeats 4000000 in
theorem mC_X5_isOn_196_x {r : Int32} {w' : AH}  (v0 : Nat) (v1 : Int32) (v2 : Int32) (v3 : Int32) (v4 : Nat) (t0 : Int32) (t1 : Int32) (t2 : Nat) (w : AH) (hf : mC_X5_isOn_196 v0 v1 v2 v3 v4 t0 t1 t2 w = some (r, w')) : Ext w w' := by
  unfold mC_X5_isOn_196 at hf
  have hx := Ext.refl w
  obtain ⟨h1, hf⟩ := ck_ex hf
  obtain ⟨h2, hf⟩ := ck_ex hf
  obtain ⟨w3, hs4, hf⟩ := st1_ex hf
  have hx := hx.trans (Ext.I hs4)
  obtain ⟨h5, hf⟩ := ck_ex hf
  obtain ⟨b6, hb7, hf⟩ := bd1_ex hf
  obtain ⟨h8, hf⟩ := ck_ex hf
  obtain ⟨b9, hb10, hf⟩ := bd1_ex hf
  obtain ⟨h11, hf⟩ := ck_ex hf
  obtain ⟨b12, hb13, hf⟩ := bd1_ex hf
  obtain ⟨r15, hc14, hf⟩ := bd1_ex hf
  by_cases hc16 : r15 = (2 : Int32)
  · have hf := if_t hf hc16
    exact hx.trans (mC_X5_isOn_222_x v0 v1 v2 v3 v4 (1 : Int32) (1 : Int32) b12 w3 hf)
  · have hf := if_f hf hc16
    exact hx.trans (mC_X5_isOn_222_x v0 v1 v2 v3 v4 (0 : Int32) (1 : Int32) b12 w3 hf)
set_option maxHeartbeats 4000000 in
theorem mC_X5_isOn_78_x {r : Int32} {w' : AH}  (v0 : Nat) (v1 : Int32) (v2 : Int32) (v3 : Int32) (v4 : Nat) (w : AH) (hf : mC_X5_isOn_78 v0 v1 v2 v3 v4 w = some (r, w')) : Ext w w' := by
  unfold mC_X5_isOn_78 at hf
  have hx := Ext.refl w
  obtain ⟨h1, hf⟩ := ck_ex hf
  obtain ⟨b2, hb3, hf⟩ := bd1_ex hf
  obtain ⟨h4, hf⟩ := ck_ex hf
  obtain ⟨w6, hc5, hf⟩ := bd1_ex hf
  have hx := hx.trans (mC_X0_asks_x _ _ _ _ hc5)
  obtain ⟨h7, hf⟩ := ck_ex hf
  obtain ⟨b8, hb9, hf⟩ := bd1_ex hf
  obtain ⟨h10, hf⟩ := ck_ex hf
  obtain ⟨b11, hb12, hf⟩ := bd1_ex hf
  obtain ⟨h13, hf⟩ := ck_ex hf
  obtain ⟨b14, hb15, hf⟩ := bd1_ex hf
  obtain ⟨h16, hf⟩ := ck_ex hf
  obtain ⟨h17, hf⟩ := ck_ex hf
  obtain ⟨w18, hs19, hf⟩ := st1_ex hf
  have hx := hx.trans (Ext.L hs19)
  obtain ⟨h20, hf⟩ := ck_ex hf
  obtain ⟨b21, hb22, hf⟩ := bd1_ex hf
  obtain ⟨h23, hf⟩ := ck_ex hf
  obtain ⟨b24, hb25, hf⟩ := bd1_ex hf
  obtain ⟨h26, hf⟩ := ck_ex hf
  obtain ⟨b27, hb28, hf⟩ := bd1_ex hf
  obtain ⟨h29, hf⟩ := ck_ex hf
  obtain ⟨h30, hf⟩ := ck_ex hf
  obtain ⟨w31, hs32, hf⟩ := st1_ex hf
  have hx := hx.trans (Ext.L hs32)
  obtain ⟨h33, hf⟩ := ck_ex hf
  obtain ⟨b34, hb35, hf⟩ := bd1_ex hf
  obtain ⟨h36, hf⟩ := ck_ex hf
  obtain ⟨b37, hb38, hf⟩ := bd1_ex hf
  obtain ⟨h39, hf⟩ := ck_ex hf
  obtain ⟨b40, hb41, hf⟩ := bd1_ex hf
  obtain ⟨b42, hb43, hf⟩ := bd1_ex hf
  obtain ⟨h44, hf⟩ := ck_ex hf
  obtain ⟨h45, hf⟩ := ck_ex hf
  obtain ⟨w46, hs47, hf⟩ := st1_ex hf
  have hx := hx.trans (Ext.L hs47)
  obtain ⟨h48, hf⟩ := ck_ex hf
  obtain ⟨b49, hb50, hf⟩ := bd1_ex hf
  obtain ⟨h51, hf⟩ := ck_ex hf
  obtain ⟨b52, hb53, hf⟩ := bd1_ex hf
  obtain ⟨h54, hf⟩ := ck_ex hf
  obtain ⟨b55, hb56, hf⟩ := bd1_ex hf
  obtain ⟨b57, hb58, hf⟩ := bd1_ex hf
  obtain ⟨h59, hf⟩ := ck_ex hf
  obtain ⟨b60, hb61, hf⟩ := bd1_ex hf
  obtain ⟨b62, hb63, hf⟩ := bd1_ex hf
  obtain ⟨h64, hf⟩ := ck_ex hf
  obtain ⟨h65, hf⟩ := ck_ex hf
  obtain ⟨h66, hf⟩ := ck_ex hf
  obtain ⟨w67, hs68, hf⟩ := st1_ex hf
  have hx := hx.trans (Ext.L hs68)
  obtain ⟨h69, hf⟩ := ck_ex hf
  obtain ⟨b70, hb71, hf⟩ := bd1_ex hf
  obtain ⟨h72, hf⟩ := ck_ex hf
  obtain ⟨b73, hb74, hf⟩ := bd1_ex hf
  obtain ⟨h75, hf⟩ := ck_ex hf
  obtain ⟨b76, hb77, hf⟩ := bd1_ex hf
  obtain ⟨r79, hc78, hf⟩ := bd1_ex hf
  by_cases hc80 : r79 = (1 : Int32)
  · have hf := if_t hf hc80
    exact hx.trans (mC_X5_isOn_196_x v0 v1 v2 v3 v4 (1 : Int32) (0 : Int32) b76 w67 hf)
  · have hf := if_f hf hc80
    exact hx.trans (mC_X5_isOn_196_x v0 v1 v2 v3 v4 (0 : Int32) (0 : Int32) b76 w67 hf)
set_option maxHeartbeats 4000000 in
theorem mC_X5_isOn_x  (w : AH) (a : Nat) (p0 : Int32) (p1 : Int32) (p2 : Int32) (r : Int32) (w' : AH) (hf : mC_X5_isOn a p0 p1 p2 w = some (r, w')) : Ext w w' := by
  unfold mC_X5_isOn at hf
  have hx := Ext.refl w
  obtain ⟨h1, hf⟩ := ck_ex hf
  obtain ⟨b2, hb3, hf⟩ := bd1_ex hf
  obtain ⟨h4, hf⟩ := ck_ex hf
  obtain ⟨b5, hb6, hf⟩ := bd1_ex hf
  obtain ⟨h7, hf⟩ := ck_ex hf
  obtain ⟨b8, hb9, hf⟩ := bd1_ex hf
  obtain ⟨h10, hf⟩ := ck_ex hf
  obtain ⟨r12, hc11, hf⟩ := bd1_ex hf
  obtain ⟨h13, hf⟩ := ck_ex hf
  by_cases hc14 : p2 < (hvi w r12 4)
  · have hf := if_t hf hc14
    cases some_ex hf
    exact hx
  · have hf := if_f hf hc14
    obtain ⟨b15, hb16, hf⟩ := bd1_ex hf
    obtain ⟨h17, hf⟩ := ck_ex hf
    by_cases hc18 : (hvi w b15 (p0.toNatClampNeg)) = (-1 : Int32)
    · have hf := if_t hf hc18
      exact hx.trans (mC_X5_isOn_78_x a p0 p1 p2 r12 w hf)
    · have hf := if_f hf hc18
      by_cases hc19 : p1 < (hvi w b15 (p0.toNatClampNeg))
      · have hf := if_t hf hc19
        exact hx.trans (mC_X5_isOn_78_x a p0 p1 p2 r12 w hf)
      · have hf := if_f hf hc19
        obtain ⟨b20, hb21, hf⟩ := bd1_ex hf
        obtain ⟨h22, hf⟩ := ck_ex hf
        by_cases hc23 : p2 < (hvi w b20 (p0.toNatClampNeg))
        · have hf := if_t hf hc23
          exact hx.trans (mC_X5_isOn_78_x a p0 p1 p2 r12 w hf)
        · have hf := if_f hf hc23
          cases some_ex hf
          exact hx
set_option maxHeartbeats 4000000 in
theorem mC_X5_looks_145_x {w' : AH}  (k75 : Nat → Int32 → Int32 → Int32 → AH → Option (AH)) (hk75 : ∀ (v0 : Nat) (v1 : Int32) (v2 : Int32) (v3 : Int32) (w : AH), k75 v0 v1 v2 v3 w = some w' → Ext w w') (v0 : Nat) (v1 : Int32) (v2 : Int32) (v3 : Int32) (w : AH) (hf : mC_X5_looks_145 k75 v0 v1 v2 v3 w = some w') : Ext w w' := by
  unfold mC_X5_looks_145 at hf
  have hx := Ext.refl w
  exact hx.trans (hk75 v0 v1 v2 (v3 + (1 : Int32)) w hf)
set_option maxHeartbeats 4000000 in
theorem mC_X5_looks_75_x {w' : AH}  (k75 : Nat → Int32 → Int32 → Int32 → AH → Option (AH)) (hk75 : ∀ (v0 : Nat) (v1 : Int32) (v2 : Int32) (v3 : Int32) (w : AH), k75 v0 v1 v2 v3 w = some w' → Ext w w') (v0 : Nat) (v1 : Int32) (v2 : Int32) (v3 : Int32) (w : AH) (hf : mC_X5_looks_75 k75 v0 v1 v2 v3 w = some w') : Ext w w' := by
  unfold mC_X5_looks_75 at hf
  have hx := Ext.refl w
  obtain ⟨h1, hf⟩ := ck_ex hf
  obtain ⟨b2, hb3, hf⟩ := bd1_ex hf
  obtain ⟨h4, hf⟩ := ck_ex hf
  obtain ⟨b5, hb6, hf⟩ := bd1_ex hf
  obtain ⟨h7, hf⟩ := ck_ex hf
  obtain ⟨b8, hb9, hf⟩ := bd1_ex hf
  obtain ⟨h10, hf⟩ := ck_ex hf
  obtain ⟨r12, hc11, hf⟩ := bd1_ex hf
  by_cases hc13 : r12 ≤ v3
  · have hf := if_t hf hc13
    cases some_ex hf
    exact hx
  · have hf := if_f hf hc13
    obtain ⟨b14, hb15, hf⟩ := bd1_ex hf
    obtain ⟨r17, hc16, hf⟩ := bd1_ex hf
    obtain ⟨h18, hf⟩ := ck_ex hf
    obtain ⟨w19, hs20, hf⟩ := st1_ex hf
    have hx := hx.trans (Ext.I hs20)
    obtain ⟨h21, hf⟩ := ck_ex hf
    obtain ⟨b22, hb23, hf⟩ := bd1_ex hf
    obtain ⟨r25, w26, hc24, hf⟩ := bd2_ex hf
    have hx := hx.trans (mC_X5_isOn_x _ _ _ _ _ _ _ hc24)
    obtain ⟨h27, hf⟩ := ck_ex hf
    obtain ⟨h28, hf⟩ := ck_ex hf
    obtain ⟨w29, hs30, hf⟩ := st1_ex hf
    have hx := hx.trans (Ext.I hs30)
    obtain ⟨h31, hf⟩ := ck_ex hf
    obtain ⟨b32, hb33, hf⟩ := bd1_ex hf
    obtain ⟨h34, hf⟩ := ck_ex hf
    by_cases hc35 : (hvi w29 b32 (v3.toNatClampNeg)) = (0 : Int32)
    · have hf := if_t hf hc35
      exact hx.trans (mC_X5_looks_145_x k75 hk75 v0 v1 v2 v3 w29 hf)
    · have hf := if_f hf hc35
      obtain ⟨b36, hb37, hf⟩ := bd1_ex hf
      obtain ⟨b38, hb39, hf⟩ := bd1_ex hf
      obtain ⟨h40, hf⟩ := ck_ex hf
      obtain ⟨h41, hf⟩ := ck_ex hf
      obtain ⟨w42, hs43, hf⟩ := st1_ex hf
      have hx := hx.trans (Ext.I hs43)
      exact hx.trans (mC_X5_looks_145_x k75 hk75 v0 v1 v2 v3 w42 hf)
set_option maxHeartbeats 4000000 in
theorem mC_X5_looks_54_x {w' : AH}  (k54 : Nat → Int32 → Int32 → Int32 → AH → Option (AH)) (hk54 : ∀ (v0 : Nat) (v1 : Int32) (v2 : Int32) (v3 : Int32) (w : AH), k54 v0 v1 v2 v3 w = some w' → Ext w w') (v0 : Nat) (v1 : Int32) (v2 : Int32) (v3 : Int32) (w : AH) (hf : mC_X5_looks_54 k54 v0 v1 v2 v3 w = some w') : Ext w w' := by
  unfold mC_X5_looks_54 at hf
  have hx := Ext.refl w
  by_cases hc1 : (16 : Int32) ≤ v3
  · have hf := if_t hf hc1
    exact hx.trans (lq5_ex (P := fun v0 v1 v2 v3 w => Ext w w') (fun k hk v0 v1 v2 v3 w hf => mC_X5_looks_75_x k hk v0 v1 v2 v3 w hf) LF v0 v1 v2 (0 : Int32) w hf)
  · have hf := if_f hf hc1
    obtain ⟨h2, hf⟩ := ck_ex hf
    obtain ⟨b3, hb4, hf⟩ := bd1_ex hf
    obtain ⟨h5, hf⟩ := ck_ex hf
    obtain ⟨w6, hs7, hf⟩ := st1_ex hf
    have hx := hx.trans (Ext.I hs7)
    exact hx.trans (hk54 v0 v1 v2 (v3 + (1 : Int32)) w6 hf)
set_option maxHeartbeats 4000000 in
theorem mC_X5_looks_31_x {w' : AH}  (v0 : Nat) (v1 : Int32) (v2 : Int32) (w : AH) (hf : mC_X5_looks_31 v0 v1 v2 w = some w') : Ext w w' := by
  unfold mC_X5_looks_31 at hf
  have hx := Ext.refl w
  obtain ⟨h1, hf⟩ := ck_ex hf
  obtain ⟨w2, hs3, hf⟩ := st1_ex hf
  have hx := hx.trans (Ext.I hs3)
  obtain ⟨h4, hf⟩ := ck_ex hf
  obtain ⟨w5, hs6, hf⟩ := st1_ex hf
  have hx := hx.trans (Ext.I hs6)
  obtain ⟨h7, hf⟩ := ck_ex hf
  obtain ⟨b8, hb9, hf⟩ := bd1_ex hf
  obtain ⟨h10, hf⟩ := ck_ex hf
  obtain ⟨w11, hs12, hf⟩ := st1_ex hf
  have hx := hx.trans (Ext.I hs12)
  exact hx.trans (lq5_ex (P := fun v0 v1 v2 v3 w => Ext w w') (fun k hk v0 v1 v2 v3 w hf => mC_X5_looks_54_x k hk v0 v1 v2 v3 w hf) LF v0 v1 v2 (0 : Int32) w11 hf)
set_option maxHeartbeats 4000000 in
theorem mC_X5_looks_x  (w : AH) (a : Nat) (p0 : Int32) (p1 : Int32) (w' : AH) (hf : mC_X5_looks a p0 p1 w = some w') : Ext w w' := by
  unfold mC_X5_looks at hf
  have hx := Ext.refl w
  obtain ⟨h1, hf⟩ := ck_ex hf
  by_cases hc2 : (hvi w a 3) = p0
  · have hf := if_t hf hc2
    by_cases hc3 : (hvi w a 4) = p1
    · have hf := if_t hf hc3
      obtain ⟨b4, hb5, hf⟩ := bd1_ex hf
      obtain ⟨h6, hf⟩ := ck_ex hf
      by_cases hc7 : (hvi w a 5) = (hvi w b4 1)
      · have hf := if_t hf hc7
        cases some_ex hf
        exact hx
      · have hf := if_f hf hc7
        exact hx.trans (mC_X5_looks_31_x a p0 p1 w hf)
    · have hf := if_f hf hc3
      exact hx.trans (mC_X5_looks_31_x a p0 p1 w hf)
  · have hf := if_f hf hc2
    exact hx.trans (mC_X5_looks_31_x a p0 p1 w hf)
set_option maxHeartbeats 4000000 in
theorem mC_X0_on_x  (w : AH) (a : Nat) (p0 : Int32) (p1 : Int32) (p2 : Int32) (r : Int32) (w' : AH) (hf : mC_X0_on a p0 p1 p2 w = some (r, w')) : Ext w w' := by
  unfold mC_X0_on at hf
  have hx := Ext.refl w
  obtain ⟨h1, hf⟩ := ck_ex hf
  obtain ⟨r3, hc2, hf⟩ := bd1_ex hf
  by_cases hc4 : r3 = (0 : Int32)
  · have hf := if_t hf hc4
    cases some_ex hf
    exact hx
  · have hf := if_f hf hc4
    obtain ⟨r6, hc5, hf⟩ := bd1_ex hf
    by_cases hc7 : r6 = (0 : Int32)
    · have hf := if_t hf hc7
      cases some_ex hf
      exact hx
    · have hf := if_f hf hc7
      obtain ⟨r9, hc8, hf⟩ := bd1_ex hf
      by_cases hc10 : r9 = (0 : Int32)
      · have hf := if_t hf hc10
        cases some_ex hf
        exact hx
      · have hf := if_f hf hc10
        obtain ⟨b11, hb12, hf⟩ := bd1_ex hf
        obtain ⟨h13, hf⟩ := ck_ex hf
        obtain ⟨w15, hc14, hf⟩ := bd1_ex hf
        have hx := hx.trans (mC_X5_looks_x _ _ _ _ _ hc14)
        obtain ⟨h16, hf⟩ := ck_ex hf
        obtain ⟨b17, hb18, hf⟩ := bd1_ex hf
        obtain ⟨h19, hf⟩ := ck_ex hf
        obtain ⟨b20, hb21, hf⟩ := bd1_ex hf
        obtain ⟨h22, hf⟩ := ck_ex hf
        by_cases hc23 : (hvi w15 b20 (p0.toNatClampNeg)) = (0 : Int32)
        · have hf := if_t hf hc23
          cases some_ex hf
          exact hx
        · have hf := if_f hf hc23
          cases some_ex hf
          exact hx
set_option maxHeartbeats 4000000 in
theorem mC_X0_roll_x  (w : AH) (a : Nat) (p0 : Int32) (p1 : Int32) (p2 : Int32) (r : Int32) (w' : AH) (hf : mC_X0_roll a p0 p1 p2 w = some (r, w')) : Ext w w' := by
  unfold mC_X0_roll at hf
  have hx := Ext.refl w
  obtain ⟨h1, hf⟩ := ck_ex hf
  obtain ⟨r3, hc2, hf⟩ := bd1_ex hf
  by_cases hc4 : r3 = (0 : Int32)
  · have hf := if_t hf hc4
    cases some_ex hf
    exact hx
  · have hf := if_f hf hc4
    obtain ⟨r6, hc5, hf⟩ := bd1_ex hf
    by_cases hc7 : r6 = (0 : Int32)
    · have hf := if_t hf hc7
      cases some_ex hf
      exact hx
    · have hf := if_f hf hc7
      obtain ⟨r9, hc8, hf⟩ := bd1_ex hf
      by_cases hc10 : r9 = (0 : Int32)
      · have hf := if_t hf hc10
        cases some_ex hf
        exact hx
      · have hf := if_f hf hc10
        obtain ⟨b11, hb12, hf⟩ := bd1_ex hf
        obtain ⟨h13, hf⟩ := ck_ex hf
        obtain ⟨w15, hc14, hf⟩ := bd1_ex hf
        have hx := hx.trans (mC_X5_looks_x _ _ _ _ _ hc14)
        obtain ⟨h16, hf⟩ := ck_ex hf
        obtain ⟨b17, hb18, hf⟩ := bd1_ex hf
        obtain ⟨h19, hf⟩ := ck_ex hf
        obtain ⟨b20, hb21, hf⟩ := bd1_ex hf
        obtain ⟨h22, hf⟩ := ck_ex hf
        cases some_ex hf
        exact hx
set_option maxHeartbeats 4000000 in
theorem mC_X0_twice_166_x {r : Int32} {w' : AH}  (k57 : Nat → Int32 → Int32 → Int32 → Int32 → AH → Option (Int32 × AH)) (hk57 : ∀ (v0 : Nat) (v3 : Int32) (v4 : Int32) (v5 : Int32) (v6 : Int32) (w : AH), k57 v0 v3 v4 v5 v6 w = some (r, w') → Ext w w') (v0 : Nat) (v3 : Int32) (v4 : Int32) (v5 : Int32) (v6 : Int32) (w : AH) (hf : mC_X0_twice_166 k57 v0 v3 v4 v5 v6 w = some (r, w')) : Ext w w' := by
  unfold mC_X0_twice_166 at hf
  have hx := Ext.refl w
  exact hx.trans (hk57 v0 v3 v4 v5 (v6 + (1 : Int32)) w hf)
set_option maxHeartbeats 4000000 in
theorem mC_X0_twice_57_x {r : Int32} {w' : AH}  (k36 : Nat → Int32 → Int32 → Int32 → AH → Option (Int32 × AH)) (hk36 : ∀ (v0 : Nat) (v3 : Int32) (v4 : Int32) (v5 : Int32) (w : AH), k36 v0 v3 v4 v5 w = some (r, w') → Ext w w') (k57 : Nat → Int32 → Int32 → Int32 → Int32 → AH → Option (Int32 × AH)) (hk57 : ∀ (v0 : Nat) (v3 : Int32) (v4 : Int32) (v5 : Int32) (v6 : Int32) (w : AH), k57 v0 v3 v4 v5 v6 w = some (r, w') → Ext w w') (v0 : Nat) (v3 : Int32) (v4 : Int32) (v5 : Int32) (v6 : Int32) (w : AH) (hf : mC_X0_twice_57 k36 k57 v0 v3 v4 v5 v6 w = some (r, w')) : Ext w w' := by
  unfold mC_X0_twice_57 at hf
  have hx := Ext.refl w
  obtain ⟨h1, hf⟩ := ck_ex hf
  obtain ⟨b2, hb3, hf⟩ := bd1_ex hf
  obtain ⟨h4, hf⟩ := ck_ex hf
  obtain ⟨b5, hb6, hf⟩ := bd1_ex hf
  obtain ⟨h7, hf⟩ := ck_ex hf
  obtain ⟨r9, hc8, hf⟩ := bd1_ex hf
  by_cases hc10 : r9 ≤ v6
  · have hf := if_t hf hc10
    exact hx.trans (hk36 v0 v3 v4 (v5 + (1 : Int32)) w hf)
  · have hf := if_f hf hc10
    obtain ⟨b11, hb12, hf⟩ := bd1_ex hf
    obtain ⟨h13, hf⟩ := ck_ex hf
    obtain ⟨b14, hb15, hf⟩ := bd1_ex hf
    obtain ⟨h16, hf⟩ := ck_ex hf
    by_cases hc17 : (hvi w b14 (v5.toNatClampNeg)) = (0 : Int32)
    · have hf := if_t hf hc17
      exact hx.trans (mC_X0_twice_166_x k57 hk57 v0 v3 v4 v5 v6 w hf)
    · have hf := if_f hf hc17
      obtain ⟨h18, hf⟩ := ck_ex hf
      by_cases hc19 : (hvi w b14 (v6.toNatClampNeg)) = (0 : Int32)
      · have hf := if_t hf hc19
        exact hx.trans (mC_X0_twice_166_x k57 hk57 v0 v3 v4 v5 v6 w hf)
      · have hf := if_f hf hc19
        obtain ⟨b20, hb21, hf⟩ := bd1_ex hf
        obtain ⟨h22, hf⟩ := ck_ex hf
        obtain ⟨h23, hf⟩ := ck_ex hf
        by_cases hc24 : (hvi w b20 (v5.toNatClampNeg)) = (hvi w b20 (v6.toNatClampNeg))
        · have hf := if_t hf hc24
          exact hx.trans (mC_X0_twice_166_x k57 hk57 v0 v3 v4 v5 v6 w hf)
        · have hf := if_f hf hc24
          obtain ⟨r26, hc25, hf⟩ := bd1_ex hf
          by_cases hc27 : r26 < (5 : Int32)
          · have hf := if_t hf hc27
            exact hx.trans (mC_X0_twice_166_x k57 hk57 v0 v3 v4 v5 v6 w hf)
          · have hf := if_f hf hc27
            obtain ⟨r29, hc28, hf⟩ := bd1_ex hf
            by_cases hc30 : r29 = (0 : Int32)
            · have hf := if_t hf hc30
              by_cases hc31 : v4 = v3
              · have hf := if_t hf hc31
                cases some_ex hf
                exact hx
              · have hf := if_f hf hc31
                exact hx.trans (mC_X0_twice_166_x k57 hk57 v0 v3 (v4 + (1 : Int32)) v5 v6 w hf)
            · have hf := if_f hf hc30
              exact hx.trans (mC_X0_twice_166_x k57 hk57 v0 v3 v4 v5 v6 w hf)
set_option maxHeartbeats 4000000 in
theorem mC_X0_twice_36_x {r : Int32} {w' : AH}  (k36 : Nat → Int32 → Int32 → Int32 → AH → Option (Int32 × AH)) (hk36 : ∀ (v0 : Nat) (v3 : Int32) (v4 : Int32) (v5 : Int32) (w : AH), k36 v0 v3 v4 v5 w = some (r, w') → Ext w w') (v0 : Nat) (v3 : Int32) (v4 : Int32) (v5 : Int32) (w : AH) (hf : mC_X0_twice_36 k36 v0 v3 v4 v5 w = some (r, w')) : Ext w w' := by
  unfold mC_X0_twice_36 at hf
  have hx := Ext.refl w
  obtain ⟨h1, hf⟩ := ck_ex hf
  obtain ⟨b2, hb3, hf⟩ := bd1_ex hf
  obtain ⟨h4, hf⟩ := ck_ex hf
  obtain ⟨b5, hb6, hf⟩ := bd1_ex hf
  obtain ⟨h7, hf⟩ := ck_ex hf
  obtain ⟨r9, hc8, hf⟩ := bd1_ex hf
  by_cases hc10 : r9 ≤ v5
  · have hf := if_t hf hc10
    by_cases hc11 : v3 = (-1 : Int32)
    · have hf := if_t hf hc11
      cases some_ex hf
      exact hx
    · have hf := if_f hf hc11
      cases some_ex hf
      exact hx
  · have hf := if_f hf hc10
    exact hx.trans (lq6_ex (P := fun v0 v3 v4 v5 v6 w => Ext w w') (fun k hk v0 v3 v4 v5 v6 w hf => mC_X0_twice_57_x k36 hk36 k hk v0 v3 v4 v5 v6 w hf) LF v0 v3 v4 v5 (v5 + (1 : Int32)) w hf)
set_option maxHeartbeats 4000000 in
theorem mC_X0_twice_x  (w : AH) (a : Nat) (p0 : Int32) (p1 : Int32) (p2 : Int32) (r : Int32) (w' : AH) (hf : mC_X0_twice a p0 p1 p2 w = some (r, w')) : Ext w w' := by
  unfold mC_X0_twice at hf
  have hx := Ext.refl w
  obtain ⟨r2, hc1, hf⟩ := bd1_ex hf
  by_cases hc3 : r2 = (0 : Int32)
  · have hf := if_t hf hc3
    cases some_ex hf
    exact hx
  · have hf := if_f hf hc3
    obtain ⟨r5, hc4, hf⟩ := bd1_ex hf
    by_cases hc6 : r5 = (0 : Int32)
    · have hf := if_t hf hc6
      cases some_ex hf
      exact hx
    · have hf := if_f hf hc6
      by_cases hc7 : (-1 : Int32) ≤ p2
      · have hf := if_t hf hc7
        obtain ⟨h8, hf⟩ := ck_ex hf
        obtain ⟨b9, hb10, hf⟩ := bd1_ex hf
        obtain ⟨h11, hf⟩ := ck_ex hf
        obtain ⟨w13, hc12, hf⟩ := bd1_ex hf
        have hx := hx.trans (mC_X5_looks_x _ _ _ _ _ hc12)
        exact hx.trans (lq5_ex (P := fun v0 v3 v4 v5 w => Ext w w') (fun k hk v0 v3 v4 v5 w hf => mC_X0_twice_36_x k hk v0 v3 v4 v5 w hf) LF a p2 (0 : Int32) (0 : Int32) w13 hf)
      · have hf := if_f hf hc7
        cases some_ex hf
        exact hx
set_option maxHeartbeats 4000000 in
theorem mC_X0_fewOn_x  (w : AH) (a : Nat) (p0 : Int32) (r : Int32) (w' : AH) (hf : mC_X0_fewOn a p0 w = some (r, w')) : Ext w w' := by
  unfold mC_X0_fewOn at hf
  have hx := Ext.refl w
  obtain ⟨h1, hf⟩ := ck_ex hf
  obtain ⟨w3, hc2, hf⟩ := bd1_ex hf
  have hx := hx.trans (mC_X0_asks_x _ _ _ _ hc2)
  obtain ⟨h4, hf⟩ := ck_ex hf
  obtain ⟨r6, w7, hc5, hf⟩ := bd2_ex hf
  have hx := hx.trans (mC_X0_last_x _ _ _ _ _ _ _ hc5)
  obtain ⟨r9, hc8, hf⟩ := bd1_ex hf
  cases some_ex hf
  exact hx
set_option maxHeartbeats 4000000 in
theorem mC_X0_asksPlace_x  (w : AH) (a : Nat) (p0 : Int32) (p1 : Int32) (w' : AH) (hf : mC_X0_asksPlace a p0 p1 w = some w') : Ext w w' := by
  unfold mC_X0_asksPlace at hf
  have hx := Ext.refl w
  obtain ⟨h1, hf⟩ := ck_ex hf
  obtain ⟨w3, hc2, hf⟩ := bd1_ex hf
  have hx := hx.trans (mC_X0_asks_x _ _ _ _ hc2)
  obtain ⟨h4, hf⟩ := ck_ex hf
  obtain ⟨b5, hb6, hf⟩ := bd1_ex hf
  obtain ⟨h7, hf⟩ := ck_ex hf
  obtain ⟨b8, hb9, hf⟩ := bd1_ex hf
  obtain ⟨h10, hf⟩ := ck_ex hf
  obtain ⟨w11, hs12, hf⟩ := st1_ex hf
  have hx := hx.trans (Ext.L hs12)
  obtain ⟨h13, hf⟩ := ck_ex hf
  obtain ⟨b14, hb15, hf⟩ := bd1_ex hf
  obtain ⟨h16, hf⟩ := ck_ex hf
  obtain ⟨b17, hb18, hf⟩ := bd1_ex hf
  obtain ⟨b19, hb20, hf⟩ := bd1_ex hf
  obtain ⟨h21, hf⟩ := ck_ex hf
  obtain ⟨b22, hb23, hf⟩ := bd1_ex hf
  obtain ⟨h24, hf⟩ := ck_ex hf
  obtain ⟨h25, hf⟩ := ck_ex hf
  obtain ⟨w26, hs27, hf⟩ := st1_ex hf
  have hx := hx.trans (Ext.L hs27)
  obtain ⟨h28, hf⟩ := ck_ex hf
  obtain ⟨b29, hb30, hf⟩ := bd1_ex hf
  obtain ⟨h31, hf⟩ := ck_ex hf
  obtain ⟨b32, hb33, hf⟩ := bd1_ex hf
  obtain ⟨b34, hb35, hf⟩ := bd1_ex hf
  obtain ⟨h36, hf⟩ := ck_ex hf
  obtain ⟨b37, hb38, hf⟩ := bd1_ex hf
  obtain ⟨h39, hf⟩ := ck_ex hf
  obtain ⟨h40, hf⟩ := ck_ex hf
  obtain ⟨w41, hs42, hf⟩ := st1_ex hf
  have hx := hx.trans (Ext.L hs42)
  cases some_ex hf
  exact hx
set_option maxHeartbeats 4000000 in
theorem mC_X0_ruleOf_x  (w : AH) (a : Nat) (p0 : Int32) (p1 : Int32) (p2 : Int32) (p3 : Int32) (r : Int32) (w' : AH) (hf : mC_X0_ruleOf a p0 p1 p2 p3 w = some (r, w')) : Ext w w' := by
  unfold mC_X0_ruleOf at hf
  have hx := Ext.refl w
  obtain ⟨h1, hf⟩ := ck_ex hf
  obtain ⟨w3, hc2, hf⟩ := bd1_ex hf
  have hx := hx.trans (mC_X0_asksPlace_x _ _ _ _ _ hc2)
  obtain ⟨h4, hf⟩ := ck_ex hf
  obtain ⟨r6, w7, hc5, hf⟩ := bd2_ex hf
  have hx := hx.trans (mC_X0_last_x _ _ _ _ _ _ _ hc5)
  obtain ⟨r9, hc8, hf⟩ := bd1_ex hf
  cases some_ex hf
  exact hx
set_option maxHeartbeats 4000000 in
theorem mC_X0_rule_40_x {r : Int32} {w' : AH}  (v0 : Nat) (v1 : Int32) (v2 : Int32) (v3 : Int32) (v4 : Int32) (w : AH) (hf : mC_X0_rule_40 v0 v1 v2 v3 v4 w = some (r, w')) : Ext w w' := by
  unfold mC_X0_rule_40 at hf
  have hx := Ext.refl w
  obtain ⟨h1, hf⟩ := ck_ex hf
  obtain ⟨b2, hb3, hf⟩ := bd1_ex hf
  obtain ⟨h4, hf⟩ := ck_ex hf
  obtain ⟨w6, hc5, hf⟩ := bd1_ex hf
  have hx := hx.trans (mC_X5_looks_x _ _ _ _ _ hc5)
  by_cases hc7 : v4 = (2 : Int32)
  · have hf := if_t hf hc7
    obtain ⟨h17, hf⟩ := ck_ex hf
    obtain ⟨r19, w20, hc18, hf⟩ := bd2_ex hf
    have hx := hx.trans (mC_X0_fewOn_x _ _ _ _ _ hc18)
    cases some_ex hf
    exact hx
  · have hf := if_f hf hc7
    by_cases hc8 : v4 = (0 : Int32)
    · have hf := if_t hf hc8
      obtain ⟨h13, hf⟩ := ck_ex hf
      obtain ⟨r15, w16, hc14, hf⟩ := bd2_ex hf
      have hx := hx.trans (mC_X0_ruleOf_x _ _ _ _ _ _ _ _ hc14)
      cases some_ex hf
      exact hx
    · have hf := if_f hf hc8
      obtain ⟨h9, hf⟩ := ck_ex hf
      obtain ⟨r11, w12, hc10, hf⟩ := bd2_ex hf
      have hx := hx.trans (mC_X0_ruleOf_x _ _ _ _ _ _ _ _ hc10)
      cases some_ex hf
      exact hx
set_option maxHeartbeats 4000000 in
theorem mC_X0_rule_x  (w : AH) (a : Nat) (p0 : Int32) (p1 : Int32) (p2 : Int32) (p3 : Int32) (r : Int32) (w' : AH) (hf : mC_X0_rule a p0 p1 p2 p3 w = some (r, w')) : Ext w w' := by
  unfold mC_X0_rule at hf
  have hx := Ext.refl w
  obtain ⟨r2, hc1, hf⟩ := bd1_ex hf
  by_cases hc3 : r2 = (0 : Int32)
  · have hf := if_t hf hc3
    cases some_ex hf
    exact hx
  · have hf := if_f hf hc3
    obtain ⟨r5, hc4, hf⟩ := bd1_ex hf
    by_cases hc6 : r5 = (0 : Int32)
    · have hf := if_t hf hc6
      cases some_ex hf
      exact hx
    · have hf := if_f hf hc6
      obtain ⟨r8, hc7, hf⟩ := bd1_ex hf
      by_cases hc9 : r8 = (0 : Int32)
      · have hf := if_t hf hc9
        cases some_ex hf
        exact hx
      · have hf := if_f hf hc9
        by_cases hc10 : (2 : Int32) ≤ p3
        · have hf := if_t hf hc10
          exact hx.trans (mC_X0_rule_40_x a p0 p1 p2 p3 w hf)
        · have hf := if_f hf hc10
          obtain ⟨h11, hf⟩ := ck_ex hf
          obtain ⟨r13, hc12, hf⟩ := bd1_ex hf
          by_cases hc14 : r13 = (0 : Int32)
          · have hf := if_t hf hc14
            cases some_ex hf
            exact hx
          · have hf := if_f hf hc14
            exact hx.trans (mC_X0_rule_40_x a p0 p1 p2 p3 w hf)
set_option maxHeartbeats 4000000 in
theorem mC_X0_wish_17_x {r : Int32} {w' : AH}  (k17 : Nat → Int32 → Int32 → AH → Option (Int32 × AH)) (hk17 : ∀ (v0 : Nat) (v1 : Int32) (v2 : Int32) (w : AH), k17 v0 v1 v2 w = some (r, w') → Ext w w') (v0 : Nat) (v1 : Int32) (v2 : Int32) (w : AH) (hf : mC_X0_wish_17 k17 v0 v1 v2 w = some (r, w')) : Ext w w' := by
  unfold mC_X0_wish_17 at hf
  have hx := Ext.refl w
  obtain ⟨h1, hf⟩ := ck_ex hf
  by_cases hc2 : (hvi w v0 19) ≤ v2
  · have hf := if_t hf hc2
    by_cases hc3 : (hvi w v0 19) = (7 : Int32)
    · have hf := if_t hf hc3
      obtain ⟨r29, w30, hc28, hf⟩ := bd2_ex hf
      have hx := hx.trans (mC_X0_refuse_x _ _ _ _ _ hc28)
      cases some_ex hf
      exact hx
    · have hf := if_f hf hc3
      obtain ⟨b4, hb5, hf⟩ := bd1_ex hf
      obtain ⟨h6, hf⟩ := ck_ex hf
      obtain ⟨w7, hs8, hf⟩ := st1_ex hf
      have hx := hx.trans (Ext.I hs8)
      obtain ⟨h9, hf⟩ := ck_ex hf
      obtain ⟨b10, hb11, hf⟩ := bd1_ex hf
      obtain ⟨h12, hf⟩ := ck_ex hf
      obtain ⟨w13, hs14, hf⟩ := st1_ex hf
      have hx := hx.trans (Ext.I hs14)
      obtain ⟨h15, hf⟩ := ck_ex hf
      obtain ⟨b16, hb17, hf⟩ := bd1_ex hf
      obtain ⟨h18, hf⟩ := ck_ex hf
      obtain ⟨w19, hs20, hf⟩ := st1_ex hf
      have hx := hx.trans (Ext.I hs20)
      obtain ⟨h21, hf⟩ := ck_ex hf
      obtain ⟨w22, hs23, hf⟩ := st1_ex hf
      have hx := hx.trans (Ext.I hs23)
      obtain ⟨h24, hf⟩ := ck_ex hf
      obtain ⟨r26, w27, hc25, hf⟩ := bd2_ex hf
      have hx := hx.trans (mC_X0_done_x _ _ _ _ _ hc25)
      cases some_ex hf
      exact hx
  · have hf := if_f hf hc2
    obtain ⟨b31, hb32, hf⟩ := bd1_ex hf
    obtain ⟨h33, hf⟩ := ck_ex hf
    by_cases hc34 : (hvi w b31 (v2.toNatClampNeg)) = v1
    · have hf := if_t hf hc34
      obtain ⟨r36, w37, hc35, hf⟩ := bd2_ex hf
      have hx := hx.trans (mC_X0_refuse_x _ _ _ _ _ hc35)
      cases some_ex hf
      exact hx
    · have hf := if_f hf hc34
      exact hx.trans (hk17 v0 v1 (v2 + (1 : Int32)) w hf)
set_option maxHeartbeats 4000000 in
theorem mC_X0_wish_x  (w : AH) (a : Nat) (p0 : Int32) (r : Int32) (w' : AH) (hf : mC_X0_wish a p0 w = some (r, w')) : Ext w w' := by
  unfold mC_X0_wish at hf
  have hx := Ext.refl w
  obtain ⟨h1, hf⟩ := ck_ex hf
  obtain ⟨r3, hc2, hf⟩ := bd1_ex hf
  by_cases hc4 : r3 = (0 : Int32)
  · have hf := if_t hf hc4
    obtain ⟨r6, w7, hc5, hf⟩ := bd2_ex hf
    have hx := hx.trans (mC_X0_refuse_x _ _ _ _ _ hc5)
    cases some_ex hf
    exact hx
  · have hf := if_f hf hc4
    exact hx.trans (lq4_ex (P := fun v0 v1 v2 w => Ext w w') (fun k hk v0 v1 v2 w hf => mC_X0_wish_17_x k hk v0 v1 v2 w hf) LF a p0 (0 : Int32) w hf)
set_option maxHeartbeats 4000000 in
theorem mC_X0_clear_x  (w : AH) (a : Nat) (r : Int32) (w' : AH) (hf : mC_X0_clear a w = some (r, w')) : Ext w w' := by
  unfold mC_X0_clear at hf
  have hx := Ext.refl w
  obtain ⟨h1, hf⟩ := ck_ex hf
  obtain ⟨w2, hs3, hf⟩ := st1_ex hf
  have hx := hx.trans (Ext.I hs3)
  cases some_ex hf
  exact hx
set_option maxHeartbeats 4000000 in
theorem mC_X0_lays_11_x {w' : AH}  (k11 : Nat → Int32 → Int32 → AH → Option (AH)) (hk11 : ∀ (v0 : Nat) (v1 : Int32) (v3 : Int32) (w : AH), k11 v0 v1 v3 w = some w' → Ext w w') (v0 : Nat) (v1 : Int32) (v3 : Int32) (w : AH) (hf : mC_X0_lays_11 k11 v0 v1 v3 w = some w') : Ext w w' := by
  unfold mC_X0_lays_11 at hf
  have hx := Ext.refl w
  obtain ⟨h1, hf⟩ := ck_ex hf
  by_cases hc2 : (hvi w v0 19) ≤ v3
  · have hf := if_t hf hc2
    cases some_ex hf
    exact hx
  · have hf := if_f hf hc2
    obtain ⟨b3, hb4, hf⟩ := bd1_ex hf
    obtain ⟨b5, hb6, hf⟩ := bd1_ex hf
    obtain ⟨h7, hf⟩ := ck_ex hf
    obtain ⟨r9, w10, hc8, hf⟩ := bd2_ex hf
    have hx := hx.trans (mC_X0_ruleOf_x _ _ _ _ _ _ _ _ hc8)
    obtain ⟨h11, hf⟩ := ck_ex hf
    obtain ⟨w12, hs13, hf⟩ := st1_ex hf
    have hx := hx.trans (Ext.I hs13)
    obtain ⟨h14, hf⟩ := ck_ex hf
    obtain ⟨b15, hb16, hf⟩ := bd1_ex hf
    obtain ⟨b17, hb18, hf⟩ := bd1_ex hf
    obtain ⟨h19, hf⟩ := ck_ex hf
    obtain ⟨r21, w22, hc20, hf⟩ := bd2_ex hf
    have hx := hx.trans (mC_X0_ruleOf_x _ _ _ _ _ _ _ _ hc20)
    obtain ⟨h23, hf⟩ := ck_ex hf
    obtain ⟨w24, hs25, hf⟩ := st1_ex hf
    have hx := hx.trans (Ext.I hs25)
    exact hx.trans (hk11 v0 v1 (v3 + (1 : Int32)) w24 hf)
set_option maxHeartbeats 4000000 in
theorem mC_X0_lays_x  (w : AH) (a : Nat) (p0 : Int32) (p1 : Int32) (w' : AH) (hf : mC_X0_lays a p0 p1 w = some w') : Ext w w' := by
  unfold mC_X0_lays at hf
  have hx := Ext.refl w
  obtain ⟨h1, hf⟩ := ck_ex hf
  obtain ⟨b2, hb3, hf⟩ := bd1_ex hf
  obtain ⟨h4, hf⟩ := ck_ex hf
  obtain ⟨w6, hc5, hf⟩ := bd1_ex hf
  have hx := hx.trans (mC_X5_looks_x _ _ _ _ _ hc5)
  exact hx.trans (lq4_ex (P := fun v0 v1 v3 w => Ext w w') (fun k hk v0 v1 v3 w hf => mC_X0_lays_11_x k hk v0 v1 v3 w hf) LF a p0 (0 : Int32) w6 hf)
set_option maxHeartbeats 4000000 in
theorem mB_X0_leads_185_x {w' : AH}  (r_X0_leads : Nat → Int32 → Int32 → Int32 → AH → Option (AH)) (hr_X0_leads : ∀ (w : AH) (a : Nat) (p0 : Int32) (p1 : Int32) (p2 : Int32) (w' : AH) , r_X0_leads a p0 p1 p2 w = some w' → Ext w w') (k67 : Nat → Int32 → Int32 → Int32 → Int32 → Int32 → AH → Option (AH)) (hk67 : ∀ (v0 : Nat) (v1 : Int32) (v2 : Int32) (v3 : Int32) (v4 : Int32) (v5 : Int32) (w : AH), k67 v0 v1 v2 v3 v4 v5 w = some w' → Ext w w') (v0 : Nat) (v1 : Int32) (v2 : Int32) (v3 : Int32) (v4 : Int32) (v5 : Int32) (w : AH) (hf : mB_X0_leads_185 r_X0_leads k67 v0 v1 v2 v3 v4 v5 w = some w') : Ext w w' := by
  unfold mB_X0_leads_185 at hf
  have hx := Ext.refl w
  exact hx.trans (hk67 v0 v1 v2 v3 v4 (v5 + (1 : Int32)) w hf)
set_option maxHeartbeats 4000000 in
theorem mB_X0_leads_67_x {w' : AH}  (r_X0_leads : Nat → Int32 → Int32 → Int32 → AH → Option (AH)) (hr_X0_leads : ∀ (w : AH) (a : Nat) (p0 : Int32) (p1 : Int32) (p2 : Int32) (w' : AH) , r_X0_leads a p0 p1 p2 w = some w' → Ext w w') (k67 : Nat → Int32 → Int32 → Int32 → Int32 → Int32 → AH → Option (AH)) (hk67 : ∀ (v0 : Nat) (v1 : Int32) (v2 : Int32) (v3 : Int32) (v4 : Int32) (v5 : Int32) (w : AH), k67 v0 v1 v2 v3 v4 v5 w = some w' → Ext w w') (v0 : Nat) (v1 : Int32) (v2 : Int32) (v3 : Int32) (v4 : Int32) (v5 : Int32) (w : AH) (hf : mB_X0_leads_67 r_X0_leads k67 v0 v1 v2 v3 v4 v5 w = some w') : Ext w w' := by
  unfold mB_X0_leads_67 at hf
  have hx := Ext.refl w
  obtain ⟨h1, hf⟩ := ck_ex hf
  by_cases hc2 : (hvi w v0 19) ≤ v5
  · have hf := if_t hf hc2
    cases some_ex hf
    exact hx
  · have hf := if_f hf hc2
    obtain ⟨b3, hb4, hf⟩ := bd1_ex hf
    obtain ⟨b5, hb6, hf⟩ := bd1_ex hf
    obtain ⟨h7, hf⟩ := ck_ex hf
    obtain ⟨h8, hf⟩ := ck_ex hf
    obtain ⟨h9, hf⟩ := ck_ex hf
    obtain ⟨r11, hc10, hf⟩ := bd1_ex hf
    by_cases hc12 : ((v2 >>> (v5 &&& 31)) &&& (1 : Int32)) = (0 : Int32)
    · have hf := if_t hf hc12
      exact hx.trans (mB_X0_leads_185_x r_X0_leads hr_X0_leads k67 hk67 v0 v1 v2 v3 v4 v5 w hf)
    · have hf := if_f hf hc12
      obtain ⟨b13, hb14, hf⟩ := bd1_ex hf
      obtain ⟨h15, hf⟩ := ck_ex hf
      by_cases hc16 : (hvi w b13 (v1.toNatClampNeg)) < r11
      · have hf := if_t hf hc16
        exact hx.trans (mB_X0_leads_185_x r_X0_leads hr_X0_leads k67 hk67 v0 v1 v2 v3 v4 v5 w hf)
      · have hf := if_f hf hc16
        obtain ⟨b17, hb18, hf⟩ := bd1_ex hf
        obtain ⟨h19, hf⟩ := ck_ex hf
        obtain ⟨b20, hb21, hf⟩ := bd1_ex hf
        obtain ⟨h22, hf⟩ := ck_ex hf
        by_cases hc23 : ((hvi w b17 (v5.toNatClampNeg)) + v4) ≤ (hvi w b20 (v5.toNatClampNeg))
        · have hf := if_t hf hc23
          obtain ⟨w24, hs25, hf⟩ := st1_ex hf
          have hx := hx.trans (Ext.I hs25)
          obtain ⟨h26, hf⟩ := ck_ex hf
          obtain ⟨b27, hb28, hf⟩ := bd1_ex hf
          obtain ⟨h29, hf⟩ := ck_ex hf
          obtain ⟨w30, hs31, hf⟩ := st1_ex hf
          have hx := hx.trans (Ext.I hs31)
          obtain ⟨h32, hf⟩ := ck_ex hf
          obtain ⟨w34, hc33, hf⟩ := bd1_ex hf
          have hx := hx.trans (hr_X0_leads _ _ _ _ _ _ hc33)
          obtain ⟨h35, hf⟩ := ck_ex hf
          obtain ⟨b36, hb37, hf⟩ := bd1_ex hf
          obtain ⟨h38, hf⟩ := ck_ex hf
          obtain ⟨w39, hs40, hf⟩ := st1_ex hf
          have hx := hx.trans (Ext.I hs40)
          exact hx.trans (mB_X0_leads_185_x r_X0_leads hr_X0_leads k67 hk67 v0 v1 v2 v3 v4 v5 w39 hf)
        · have hf := if_f hf hc23
          exact hx.trans (mB_X0_leads_185_x r_X0_leads hr_X0_leads k67 hk67 v0 v1 v2 v3 v4 v5 w hf)
set_option maxHeartbeats 4000000 in
theorem mB_X0_leads_17_x {w' : AH}  (r_X0_leads : Nat → Int32 → Int32 → Int32 → AH → Option (AH)) (hr_X0_leads : ∀ (w : AH) (a : Nat) (p0 : Int32) (p1 : Int32) (p2 : Int32) (w' : AH) , r_X0_leads a p0 p1 p2 w = some w' → Ext w w') (v0 : Nat) (v1 : Int32) (v2 : Int32) (v3 : Int32) (w : AH) (hf : mB_X0_leads_17 r_X0_leads v0 v1 v2 v3 w = some w') : Ext w w' := by
  unfold mB_X0_leads_17 at hf
  have hx := Ext.refl w
  obtain ⟨h1, hf⟩ := ck_ex hf
  by_cases hc2 : v1 = (hvi w v0 19)
  · have hf := if_t hf hc2
    obtain ⟨w12, hs13, hf⟩ := st1_ex hf
    have hx := hx.trans (Ext.I hs13)
    obtain ⟨h14, hf⟩ := ck_ex hf
    obtain ⟨b15, hb16, hf⟩ := bd1_ex hf
    obtain ⟨b17, hb18, hf⟩ := bd1_ex hf
    obtain ⟨h19, hf⟩ := ck_ex hf
    obtain ⟨h20, hf⟩ := ck_ex hf
    obtain ⟨h21, hf⟩ := ck_ex hf
    obtain ⟨w22, hs23, hf⟩ := st1_ex hf
    have hx := hx.trans (Ext.cI hs23)
    cases some_ex hf
    exact hx
  · have hf := if_f hf hc2
    obtain ⟨b3, hb4, hf⟩ := bd1_ex hf
    obtain ⟨h5, hf⟩ := ck_ex hf
    obtain ⟨b6, hb7, hf⟩ := bd1_ex hf
    obtain ⟨b8, hb9, hf⟩ := bd1_ex hf
    obtain ⟨h10, hf⟩ := ck_ex hf
    obtain ⟨h11, hf⟩ := ck_ex hf
    exact hx.trans (lq7_ex (P := fun v0 v1 v2 v3 v4 v5 w => Ext w w') (fun k hk v0 v1 v2 v3 v4 v5 w hf => mB_X0_leads_67_x r_X0_leads hr_X0_leads k hk v0 v1 v2 v3 v4 v5 w hf) LF v0 v1 v2 v3 (hvi w b6 ((hvi w b8 (v1.toNatClampNeg)).toNatClampNeg)) (0 : Int32) w hf)
set_option maxHeartbeats 4000000 in
theorem mB_X0_leads_x (r_X0_leads : Nat → Int32 → Int32 → Int32 → AH → Option (AH))  (hr_X0_leads : ∀ (w : AH) (a : Nat) (p0 : Int32) (p1 : Int32) (p2 : Int32) (w' : AH) , r_X0_leads a p0 p1 p2 w = some w' → Ext w w') (w : AH) (a : Nat) (p0 : Int32) (p1 : Int32) (p2 : Int32) (w' : AH) (hf : mB_X0_leads r_X0_leads a p0 p1 p2 w = some w') : Ext w w' := by
  unfold mB_X0_leads at hf
  have hx := Ext.refl w
  obtain ⟨h1, hf⟩ := ck_ex hf
  by_cases hc2 : (hvi w a 22) = (-1 : Int32)
  · have hf := if_t hf hc2
    exact hx.trans (mB_X0_leads_17_x r_X0_leads hr_X0_leads a p0 p1 p2 w hf)
  · have hf := if_f hf hc2
    by_cases hc3 : p2 < (hvi w a 22)
    · have hf := if_t hf hc3
      exact hx.trans (mB_X0_leads_17_x r_X0_leads hr_X0_leads a p0 p1 p2 w hf)
    · have hf := if_f hf hc3
      cases some_ex hf
      exact hx
set_option maxHeartbeats 4000000 in
theorem mG_leads_x : ∀ n : Nat, (∀ (w : AH) (a : Nat) (p0 : Int32) (p1 : Int32) (p2 : Int32) (w' : AH) , mC_X0_leads n a p0 p1 p2 w = some w' → Ext w w')
  | 0 => fun _ _ _ _ _ _ hf => (by cases hf)
  | n + 1 => by
    have ih := mG_leads_x n
    exact fun x0 x1 x2 x3 x4 x5 hf => mB_X0_leads_x _ ih x0 x1 x2 x3 x4 x5 hf
set_option maxHeartbeats 4000000 in
theorem mC_X0_leads_x (n : Nat) : ∀ (w : AH) (a : Nat) (p0 : Int32) (p1 : Int32) (p2 : Int32) (w' : AH) , mC_X0_leads n a p0 p1 p2 w = some w' → Ext w w' := mG_leads_x n
set_option maxHeartbeats 4000000 in
theorem mC_X0_sumOf_7_x {r : Int32} {w' : AH}  (k7 : Nat → Int32 → Int32 → AH → Option (Int32 × AH)) (hk7 : ∀ (v0 : Nat) (v1 : Int32) (v2 : Int32) (w : AH), k7 v0 v1 v2 w = some (r, w') → Ext w w') (v0 : Nat) (v1 : Int32) (v2 : Int32) (w : AH) (hf : mC_X0_sumOf_7 k7 v0 v1 v2 w = some (r, w')) : Ext w w' := by
  unfold mC_X0_sumOf_7 at hf
  have hx := Ext.refl w
  obtain ⟨h1, hf⟩ := ck_ex hf
  by_cases hc2 : (hvi w v0 19) ≤ v2
  · have hf := if_t hf hc2
    obtain ⟨w4, hc3, hf⟩ := bd1_ex hf
    have hx := hx.trans (mC_X0_leads_x 200 _ _ _ _ _ _ hc3)
    obtain ⟨h5, hf⟩ := ck_ex hf
    cases some_ex hf
    exact hx
  · have hf := if_f hf hc2
    obtain ⟨b6, hb7, hf⟩ := bd1_ex hf
    obtain ⟨h8, hf⟩ := ck_ex hf
    obtain ⟨w9, hs10, hf⟩ := st1_ex hf
    have hx := hx.trans (Ext.I hs10)
    exact hx.trans (hk7 v0 v1 (v2 + (1 : Int32)) w9 hf)
set_option maxHeartbeats 4000000 in
theorem mC_X0_sumOf_x  (w : AH) (a : Nat) (p0 : Int32) (r : Int32) (w' : AH) (hf : mC_X0_sumOf a p0 w = some (r, w')) : Ext w w' := by
  unfold mC_X0_sumOf at hf
  have hx := Ext.refl w
  obtain ⟨h1, hf⟩ := ck_ex hf
  obtain ⟨w2, hs3, hf⟩ := st1_ex hf
  have hx := hx.trans (Ext.I hs3)
  exact hx.trans (lq4_ex (P := fun v0 v1 v2 w => Ext w w') (fun k hk v0 v1 v2 w hf => mC_X0_sumOf_7_x k hk v0 v1 v2 w hf) LF a p0 (0 : Int32) w2 hf)
set_option maxHeartbeats 4000000 in
theorem mC_X0_booths_143_x {r : Int32} {w' : AH}  (v0 : Nat) (v3 : Int32) (v4 : Int32) (w : AH) (hf : mC_X0_booths_143 v0 v3 v4 w = some (r, w')) : Ext w w' := by
  unfold mC_X0_booths_143 at hf
  have hx := Ext.refl w
  by_cases hc1 : v3 = (-1 : Int32)
  · have hf := if_t hf hc1
    cases some_ex hf
    exact hx
  · have hf := if_f hf hc1
    obtain ⟨h2, hf⟩ := ck_ex hf
    obtain ⟨w3, hs4, hf⟩ := st1_ex hf
    have hx := hx.trans (Ext.I hs4)
    obtain ⟨h5, hf⟩ := ck_ex hf
    obtain ⟨w6, hs7, hf⟩ := st1_ex hf
    have hx := hx.trans (Ext.I hs7)
    cases some_ex hf
    exact hx
set_option maxHeartbeats 4000000 in
theorem mC_X0_booths_131_x {r : Int32} {w' : AH}  (k54 : Nat → Int32 → Int32 → Int32 → Int32 → AH → Option (Int32 × AH)) (hk54 : ∀ (v0 : Nat) (v3 : Int32) (v4 : Int32) (v5 : Int32) (v6 : Int32) (w : AH), k54 v0 v3 v4 v5 v6 w = some (r, w') → Ext w w') (v0 : Nat) (v3 : Int32) (v4 : Int32) (v5 : Int32) (v6 : Int32) (w : AH) (hf : mC_X0_booths_131 k54 v0 v3 v4 v5 v6 w = some (r, w')) : Ext w w' := by
  unfold mC_X0_booths_131 at hf
  have hx := Ext.refl w
  exact hx.trans (hk54 v0 v3 v4 v5 (v6 + (1 : Int32)) w hf)
set_option maxHeartbeats 4000000 in
theorem mC_X0_booths_107_x {r : Int32} {w' : AH}  (k54 : Nat → Int32 → Int32 → Int32 → Int32 → AH → Option (Int32 × AH)) (hk54 : ∀ (v0 : Nat) (v3 : Int32) (v4 : Int32) (v5 : Int32) (v6 : Int32) (w : AH), k54 v0 v3 v4 v5 v6 w = some (r, w') → Ext w w') (v0 : Nat) (v5 : Int32) (v6 : Int32) (v7 : Int32) (w : AH) (hf : mC_X0_booths_107 k54 v0 v5 v6 v7 w = some (r, w')) : Ext w w' := by
  unfold mC_X0_booths_107 at hf
  have hx := Ext.refl w
  obtain ⟨h1, hf⟩ := ck_ex hf
  obtain ⟨b2, hb3, hf⟩ := bd1_ex hf
  obtain ⟨b4, hb5, hf⟩ := bd1_ex hf
  obtain ⟨h6, hf⟩ := ck_ex hf
  obtain ⟨h7, hf⟩ := ck_ex hf
  obtain ⟨h8, hf⟩ := ck_ex hf
  obtain ⟨w9, hs10, hf⟩ := st1_ex hf
  have hx := hx.trans (Ext.cI hs10)
  exact hx.trans (mC_X0_booths_131_x k54 hk54 v0 v6 v7 v5 v6 w9 hf)
set_option maxHeartbeats 4000000 in
theorem mC_X0_booths_54_x {r : Int32} {w' : AH}  (k37 : Nat → Int32 → Int32 → Int32 → AH → Option (Int32 × AH)) (hk37 : ∀ (v0 : Nat) (v3 : Int32) (v4 : Int32) (v5 : Int32) (w : AH), k37 v0 v3 v4 v5 w = some (r, w') → Ext w w') (k54 : Nat → Int32 → Int32 → Int32 → Int32 → AH → Option (Int32 × AH)) (hk54 : ∀ (v0 : Nat) (v3 : Int32) (v4 : Int32) (v5 : Int32) (v6 : Int32) (w : AH), k54 v0 v3 v4 v5 v6 w = some (r, w') → Ext w w') (v0 : Nat) (v3 : Int32) (v4 : Int32) (v5 : Int32) (v6 : Int32) (w : AH) (hf : mC_X0_booths_54 k37 k54 v0 v3 v4 v5 v6 w = some (r, w')) : Ext w w' := by
  unfold mC_X0_booths_54 at hf
  have hx := Ext.refl w
  obtain ⟨h1, hf⟩ := ck_ex hf
  by_cases hc2 : ((1 : Int32) <<< ((hvi w v0 19) &&& 31)) ≤ v6
  · have hf := if_t hf hc2
    exact hx.trans (hk37 v0 v3 v4 (v5 + (1 : Int32)) w hf)
  · have hf := if_f hf hc2
    obtain ⟨r4, hc3, hf⟩ := bd1_ex hf
    by_cases hc5 : r4 = v5
    · have hf := if_t hf hc5
      obtain ⟨r7, w8, hc6, hf⟩ := bd2_ex hf
      have hx := hx.trans (mC_X0_sumOf_x _ _ _ _ _ hc6)
      by_cases hc9 : r7 = (-1 : Int32)
      · have hf := if_t hf hc9
        exact hx.trans (mC_X0_booths_131_x k54 hk54 v0 v3 v4 v5 v6 w8 hf)
      · have hf := if_f hf hc9
        by_cases hc10 : v3 = (-1 : Int32)
        · have hf := if_t hf hc10
          exact hx.trans (mC_X0_booths_107_x k54 hk54 v0 v5 v6 r7 w8 hf)
        · have hf := if_f hf hc10
          by_cases hc11 : r7 < v4
          · have hf := if_t hf hc11
            exact hx.trans (mC_X0_booths_107_x k54 hk54 v0 v5 v6 r7 w8 hf)
          · have hf := if_f hf hc11
            exact hx.trans (mC_X0_booths_131_x k54 hk54 v0 v3 v4 v5 v6 w8 hf)
    · have hf := if_f hf hc5
      exact hx.trans (mC_X0_booths_131_x k54 hk54 v0 v3 v4 v5 v6 w hf)
set_option maxHeartbeats 4000000 in
theorem mC_X0_booths_37_x {r : Int32} {w' : AH}  (k37 : Nat → Int32 → Int32 → Int32 → AH → Option (Int32 × AH)) (hk37 : ∀ (v0 : Nat) (v3 : Int32) (v4 : Int32) (v5 : Int32) (w : AH), k37 v0 v3 v4 v5 w = some (r, w') → Ext w w') (v0 : Nat) (v3 : Int32) (v4 : Int32) (v5 : Int32) (w : AH) (hf : mC_X0_booths_37 k37 v0 v3 v4 v5 w = some (r, w')) : Ext w w' := by
  unfold mC_X0_booths_37 at hf
  have hx := Ext.refl w
  obtain ⟨h1, hf⟩ := ck_ex hf
  by_cases hc2 : (hvi w v0 19) < v5
  · have hf := if_t hf hc2
    exact hx.trans (mC_X0_booths_143_x v0 v3 v4 w hf)
  · have hf := if_f hf hc2
    by_cases hc3 : v3 = (-1 : Int32)
    · have hf := if_t hf hc3
      exact hx.trans (lq6_ex (P := fun v0 v3 v4 v5 v6 w => Ext w w') (fun k hk v0 v3 v4 v5 v6 w hf => mC_X0_booths_54_x k37 hk37 k hk v0 v3 v4 v5 v6 w hf) LF v0 v3 v4 v5 (0 : Int32) w hf)
    · have hf := if_f hf hc3
      exact hx.trans (mC_X0_booths_143_x v0 v3 v4 w hf)
set_option maxHeartbeats 4000000 in
theorem mC_X0_booths_x  (w : AH) (a : Nat) (p0 : Int32) (p1 : Int32) (r : Int32) (w' : AH) (hf : mC_X0_booths a p0 p1 w = some (r, w')) : Ext w w' := by
  unfold mC_X0_booths at hf
  have hx := Ext.refl w
  obtain ⟨r2, hc1, hf⟩ := bd1_ex hf
  by_cases hc3 : r2 = (0 : Int32)
  · have hf := if_t hf hc3
    cases some_ex hf
    exact hx
  · have hf := if_f hf hc3
    obtain ⟨r5, hc4, hf⟩ := bd1_ex hf
    by_cases hc6 : r5 = (0 : Int32)
    · have hf := if_t hf hc6
      cases some_ex hf
      exact hx
    · have hf := if_f hf hc6
      obtain ⟨h7, hf⟩ := ck_ex hf
      obtain ⟨r9, hc8, hf⟩ := bd1_ex hf
      by_cases hc10 : r9 = (0 : Int32)
      · have hf := if_t hf hc10
        cases some_ex hf
        exact hx
      · have hf := if_f hf hc10
        obtain ⟨w12, hc11, hf⟩ := bd1_ex hf
        have hx := hx.trans (mC_X0_lays_x _ _ _ _ _ hc11)
        exact hx.trans (lq5_ex (P := fun v0 v3 v4 v5 w => Ext w w') (fun k hk v0 v3 v4 v5 w hf => mC_X0_booths_37_x k hk v0 v3 v4 v5 w hf) LF a (-1 : Int32) (0 : Int32) (0 : Int32) w12 hf)
set_option maxHeartbeats 4000000 in
theorem mC_X0_judge_x  (w : AH) (a : Nat) (p0 : Int32) (p1 : Int32) (p2 : Int32) (r : Int32) (w' : AH) (hf : mC_X0_judge a p0 p1 p2 w = some (r, w')) : Ext w w' := by
  unfold mC_X0_judge at hf
  have hx := Ext.refl w
  obtain ⟨r2, hc1, hf⟩ := bd1_ex hf
  by_cases hc3 : r2 = (0 : Int32)
  · have hf := if_t hf hc3
    cases some_ex hf
    exact hx
  · have hf := if_f hf hc3
    obtain ⟨r5, hc4, hf⟩ := bd1_ex hf
    by_cases hc6 : r5 = (0 : Int32)
    · have hf := if_t hf hc6
      cases some_ex hf
      exact hx
    · have hf := if_f hf hc6
      by_cases hc7 : p0 < (0 : Int32)
      · have hf := if_t hf hc7
        cases some_ex hf
        exact hx
      · have hf := if_f hf hc7
        obtain ⟨h8, hf⟩ := ck_ex hf
        by_cases hc9 : (p0 >>> ((hvi w a 19) &&& 31)) = (0 : Int32)
        · have hf := if_t hf hc9
          obtain ⟨r11, hc10, hf⟩ := bd1_ex hf
          by_cases hc12 : r11 = (0 : Int32)
          · have hf := if_t hf hc12
            cases some_ex hf
            exact hx
          · have hf := if_f hf hc12
            obtain ⟨w14, hc13, hf⟩ := bd1_ex hf
            have hx := hx.trans (mC_X0_lays_x _ _ _ _ _ hc13)
            obtain ⟨h15, hf⟩ := ck_ex hf
            obtain ⟨r17, w18, hc16, hf⟩ := bd2_ex hf
            have hx := hx.trans (mC_X0_sumOf_x _ _ _ _ _ hc16)
            cases some_ex hf
            exact hx
        · have hf := if_f hf hc9
          cases some_ex hf
          exact hx
set_option maxHeartbeats 4000000 in
theorem mC_X0_booth_x  (w : AH) (a : Nat) (p0 : Int32) (r : Int32) (w' : AH) (hf : mC_X0_booth a p0 w = some (r, w')) : Ext w w' := by
  unfold mC_X0_booth at hf
  have hx := Ext.refl w
  obtain ⟨h1, hf⟩ := ck_ex hf
  obtain ⟨r3, hc2, hf⟩ := bd1_ex hf
  by_cases hc4 : r3 = (0 : Int32)
  · have hf := if_t hf hc4
    obtain ⟨r40, w41, hc39, hf⟩ := bd2_ex hf
    have hx := hx.trans (mC_X0_refuse_x _ _ _ _ _ hc39)
    cases some_ex hf
    exact hx
  · have hf := if_f hf hc4
    obtain ⟨b5, hb6, hf⟩ := bd1_ex hf
    obtain ⟨h7, hf⟩ := ck_ex hf
    by_cases hc8 : (hvi w b5 23) = (20 : Int32)
    · have hf := if_t hf hc8
      obtain ⟨r37, w38, hc36, hf⟩ := bd2_ex hf
      have hx := hx.trans (mC_X0_refuse_x _ _ _ _ _ hc36)
      cases some_ex hf
      exact hx
    · have hf := if_f hf hc8
      obtain ⟨b9, hb10, hf⟩ := bd1_ex hf
      obtain ⟨h11, hf⟩ := ck_ex hf
      obtain ⟨w12, hs13, hf⟩ := st1_ex hf
      have hx := hx.trans (Ext.I hs13)
      obtain ⟨h14, hf⟩ := ck_ex hf
      obtain ⟨b15, hb16, hf⟩ := bd1_ex hf
      obtain ⟨h17, hf⟩ := ck_ex hf
      obtain ⟨b18, hb19, hf⟩ := bd1_ex hf
      obtain ⟨h20, hf⟩ := ck_ex hf
      obtain ⟨w21, hs22, hf⟩ := st1_ex hf
      have hx := hx.trans (Ext.I hs22)
      obtain ⟨h23, hf⟩ := ck_ex hf
      obtain ⟨b24, hb25, hf⟩ := bd1_ex hf
      obtain ⟨h26, hf⟩ := ck_ex hf
      obtain ⟨w27, hs28, hf⟩ := st1_ex hf
      have hx := hx.trans (Ext.I hs28)
      obtain ⟨h29, hf⟩ := ck_ex hf
      obtain ⟨b30, hb31, hf⟩ := bd1_ex hf
      obtain ⟨h32, hf⟩ := ck_ex hf
      obtain ⟨r34, w35, hc33, hf⟩ := bd2_ex hf
      have hx := hx.trans (mC_X0_told_x _ _ _ _ _ hc33)
      cases some_ex hf
      exact hx
set_option maxHeartbeats 4000000 in
theorem mC_X0_box_x  (w : AH) (a : Nat) (p0 : Int32) (p1 : Int32) (r : Int32) (w' : AH) (hf : mC_X0_box a p0 p1 w = some (r, w')) : Ext w w' := by
  unfold mC_X0_box at hf
  have hx := Ext.refl w
  obtain ⟨r2, hc1, hf⟩ := bd1_ex hf
  by_cases hc3 : r2 = (0 : Int32)
  · have hf := if_t hf hc3
    obtain ⟨h45, hf⟩ := ck_ex hf
    obtain ⟨r47, w48, hc46, hf⟩ := bd2_ex hf
    have hx := hx.trans (mC_X0_refuse_x _ _ _ _ _ hc46)
    cases some_ex hf
    exact hx
  · have hf := if_f hf hc3
    obtain ⟨h4, hf⟩ := ck_ex hf
    obtain ⟨r6, hc5, hf⟩ := bd1_ex hf
    by_cases hc7 : r6 = (0 : Int32)
    · have hf := if_t hf hc7
      obtain ⟨r43, w44, hc42, hf⟩ := bd2_ex hf
      have hx := hx.trans (mC_X0_refuse_x _ _ _ _ _ hc42)
      cases some_ex hf
      exact hx
    · have hf := if_f hf hc7
      obtain ⟨b8, hb9, hf⟩ := bd1_ex hf
      obtain ⟨h10, hf⟩ := ck_ex hf
      by_cases hc11 : (hvi w b8 24) = (40 : Int32)
      · have hf := if_t hf hc11
        obtain ⟨r40, w41, hc39, hf⟩ := bd2_ex hf
        have hx := hx.trans (mC_X0_refuse_x _ _ _ _ _ hc39)
        cases some_ex hf
        exact hx
      · have hf := if_f hf hc11
        obtain ⟨b12, hb13, hf⟩ := bd1_ex hf
        obtain ⟨h14, hf⟩ := ck_ex hf
        obtain ⟨w15, hs16, hf⟩ := st1_ex hf
        have hx := hx.trans (Ext.I hs16)
        obtain ⟨h17, hf⟩ := ck_ex hf
        obtain ⟨b18, hb19, hf⟩ := bd1_ex hf
        obtain ⟨h20, hf⟩ := ck_ex hf
        obtain ⟨b21, hb22, hf⟩ := bd1_ex hf
        obtain ⟨h23, hf⟩ := ck_ex hf
        obtain ⟨w24, hs25, hf⟩ := st1_ex hf
        have hx := hx.trans (Ext.I hs25)
        obtain ⟨h26, hf⟩ := ck_ex hf
        obtain ⟨b27, hb28, hf⟩ := bd1_ex hf
        obtain ⟨h29, hf⟩ := ck_ex hf
        obtain ⟨w30, hs31, hf⟩ := st1_ex hf
        have hx := hx.trans (Ext.I hs31)
        obtain ⟨h32, hf⟩ := ck_ex hf
        obtain ⟨b33, hb34, hf⟩ := bd1_ex hf
        obtain ⟨h35, hf⟩ := ck_ex hf
        obtain ⟨r37, w38, hc36, hf⟩ := bd2_ex hf
        have hx := hx.trans (mC_X0_told_x _ _ _ _ _ hc36)
        cases some_ex hf
        exact hx
set_option maxHeartbeats 4000000 in
theorem mC_X0_hand_37_x {r : Int32} {w' : AH}  (v0 : Nat) (w : AH) (hf : mC_X0_hand_37 v0 w = some (r, w')) : Ext w w' := by
  unfold mC_X0_hand_37 at hf
  have hx := Ext.refl w
  obtain ⟨h1, hf⟩ := ck_ex hf
  obtain ⟨r3, w4, hc2, hf⟩ := bd2_ex hf
  have hx := hx.trans (mC_X0_refuse_x _ _ _ _ _ hc2)
  cases some_ex hf
  exact hx
set_option maxHeartbeats 4000000 in
theorem mC_X0_hand_x  (w : AH) (a : Nat) (p0 : Int32) (p1 : Int32) (p2 : Int32) (p3 : Int32) (p4 : Int32) (r : Int32) (w' : AH) (hf : mC_X0_hand a p0 p1 p2 p3 p4 w = some (r, w')) : Ext w w' := by
  unfold mC_X0_hand at hf
  have hx := Ext.refl w
  obtain ⟨r2, hc1, hf⟩ := bd1_ex hf
  by_cases hc3 : r2 = (0 : Int32)
  · have hf := if_t hf hc3
    exact hx.trans (mC_X0_hand_37_x a w hf)
  · have hf := if_f hf hc3
    obtain ⟨r5, hc4, hf⟩ := bd1_ex hf
    by_cases hc6 : r5 = (0 : Int32)
    · have hf := if_t hf hc6
      exact hx.trans (mC_X0_hand_37_x a w hf)
    · have hf := if_f hf hc6
      obtain ⟨r8, hc7, hf⟩ := bd1_ex hf
      by_cases hc9 : r8 = (0 : Int32)
      · have hf := if_t hf hc9
        exact hx.trans (mC_X0_hand_37_x a w hf)
      · have hf := if_f hf hc9
        obtain ⟨r11, hc10, hf⟩ := bd1_ex hf
        by_cases hc12 : r11 = (0 : Int32)
        · have hf := if_t hf hc12
          exact hx.trans (mC_X0_hand_37_x a w hf)
        · have hf := if_f hf hc12
          obtain ⟨h13, hf⟩ := ck_ex hf
          obtain ⟨r15, hc14, hf⟩ := bd1_ex hf
          by_cases hc16 : r15 = (0 : Int32)
          · have hf := if_t hf hc16
            obtain ⟨r53, w54, hc52, hf⟩ := bd2_ex hf
            have hx := hx.trans (mC_X0_refuse_x _ _ _ _ _ hc52)
            cases some_ex hf
            exact hx
          · have hf := if_f hf hc16
            obtain ⟨b17, hb18, hf⟩ := bd1_ex hf
            obtain ⟨h19, hf⟩ := ck_ex hf
            obtain ⟨b20, hb21, hf⟩ := bd1_ex hf
            obtain ⟨h22, hf⟩ := ck_ex hf
            obtain ⟨r24, hc23, hf⟩ := bd1_ex hf
            by_cases hc25 : r24 = (200 : Int32)
            · have hf := if_t hf hc25
              obtain ⟨r50, w51, hc49, hf⟩ := bd2_ex hf
              have hx := hx.trans (mC_X0_refuse_x _ _ _ _ _ hc49)
              cases some_ex hf
              exact hx
            · have hf := if_f hf hc25
              obtain ⟨h26, hf⟩ := ck_ex hf
              obtain ⟨b27, hb28, hf⟩ := st1_ex hf
              obtain ⟨w29, hs30, hf⟩ := st1_ex hf
              have hx := hx.trans (Ext.new hs30)
              obtain ⟨w32, hc31, hf⟩ := bd1_ex hf
              have hx := hx.trans (mC_X12_init_x _ _ _ _ _ _ _ _ hc31)
              obtain ⟨h33, hf⟩ := ck_ex hf
              obtain ⟨r35, w36, hc34, hf⟩ := bd2_ex hf
              have hx := hx.trans (mC_J2_add_x _ _ _ _ _ hc34)
              obtain ⟨h37, hf⟩ := ck_ex hf
              obtain ⟨b38, hb39, hf⟩ := bd1_ex hf
              obtain ⟨h40, hf⟩ := ck_ex hf
              obtain ⟨b41, hb42, hf⟩ := bd1_ex hf
              obtain ⟨h43, hf⟩ := ck_ex hf
              obtain ⟨r45, hc44, hf⟩ := bd1_ex hf
              obtain ⟨r47, w48, hc46, hf⟩ := bd2_ex hf
              have hx := hx.trans (mC_X0_told_x _ _ _ _ _ hc46)
              cases some_ex hf
              exact hx
set_option maxHeartbeats 4000000 in
theorem mC_X0_paper_28_x {r : Int32} {w' : AH}  (v0 : Nat) (w : AH) (hf : mC_X0_paper_28 v0 w = some (r, w')) : Ext w w' := by
  unfold mC_X0_paper_28 at hf
  have hx := Ext.refl w
  obtain ⟨h1, hf⟩ := ck_ex hf
  obtain ⟨r3, w4, hc2, hf⟩ := bd2_ex hf
  have hx := hx.trans (mC_X0_refuse_x _ _ _ _ _ hc2)
  cases some_ex hf
  exact hx
set_option maxHeartbeats 4000000 in
theorem mC_X0_paper_x  (w : AH) (a : Nat) (p0 : Int32) (p1 : Int32) (p2 : Int32) (p3 : Int32) (r : Int32) (w' : AH) (hf : mC_X0_paper a p0 p1 p2 p3 w = some (r, w')) : Ext w w' := by
  unfold mC_X0_paper at hf
  have hx := Ext.refl w
  obtain ⟨r2, hc1, hf⟩ := bd1_ex hf
  by_cases hc3 : r2 = (0 : Int32)
  · have hf := if_t hf hc3
    exact hx.trans (mC_X0_paper_28_x a w hf)
  · have hf := if_f hf hc3
    obtain ⟨r5, hc4, hf⟩ := bd1_ex hf
    by_cases hc6 : r5 = (0 : Int32)
    · have hf := if_t hf hc6
      exact hx.trans (mC_X0_paper_28_x a w hf)
    · have hf := if_f hf hc6
      obtain ⟨r8, hc7, hf⟩ := bd1_ex hf
      by_cases hc9 : r8 = (0 : Int32)
      · have hf := if_t hf hc9
        exact hx.trans (mC_X0_paper_28_x a w hf)
      · have hf := if_f hf hc9
        obtain ⟨h10, hf⟩ := ck_ex hf
        obtain ⟨r12, hc11, hf⟩ := bd1_ex hf
        by_cases hc13 : r12 = (0 : Int32)
        · have hf := if_t hf hc13
          obtain ⟨r50, w51, hc49, hf⟩ := bd2_ex hf
          have hx := hx.trans (mC_X0_refuse_x _ _ _ _ _ hc49)
          cases some_ex hf
          exact hx
        · have hf := if_f hf hc13
          obtain ⟨b14, hb15, hf⟩ := bd1_ex hf
          obtain ⟨h16, hf⟩ := ck_ex hf
          obtain ⟨b17, hb18, hf⟩ := bd1_ex hf
          obtain ⟨h19, hf⟩ := ck_ex hf
          obtain ⟨r21, hc20, hf⟩ := bd1_ex hf
          by_cases hc22 : r21 = (120 : Int32)
          · have hf := if_t hf hc22
            obtain ⟨r47, w48, hc46, hf⟩ := bd2_ex hf
            have hx := hx.trans (mC_X0_refuse_x _ _ _ _ _ hc46)
            cases some_ex hf
            exact hx
          · have hf := if_f hf hc22
            obtain ⟨h23, hf⟩ := ck_ex hf
            obtain ⟨b24, hb25, hf⟩ := st1_ex hf
            obtain ⟨w26, hs27, hf⟩ := st1_ex hf
            have hx := hx.trans (Ext.new hs27)
            obtain ⟨w29, hc28, hf⟩ := bd1_ex hf
            have hx := hx.trans (mC_X12_init_x _ _ _ _ _ _ _ _ hc28)
            obtain ⟨h30, hf⟩ := ck_ex hf
            obtain ⟨r32, w33, hc31, hf⟩ := bd2_ex hf
            have hx := hx.trans (mC_J2_add_x _ _ _ _ _ hc31)
            obtain ⟨h34, hf⟩ := ck_ex hf
            obtain ⟨b35, hb36, hf⟩ := bd1_ex hf
            obtain ⟨h37, hf⟩ := ck_ex hf
            obtain ⟨b38, hb39, hf⟩ := bd1_ex hf
            obtain ⟨h40, hf⟩ := ck_ex hf
            obtain ⟨r42, hc41, hf⟩ := bd1_ex hf
            obtain ⟨r44, w45, hc43, hf⟩ := bd2_ex hf
            have hx := hx.trans (mC_X0_told_x _ _ _ _ _ hc43)
            cases some_ex hf
            exact hx
set_option maxHeartbeats 4000000 in
theorem mC_X0_count_40_x {r : Int32} {w' : AH}  (v0 : Nat) (w : AH) (hf : mC_X0_count_40 v0 w = some (r, w')) : Ext w w' := by
  unfold mC_X0_count_40 at hf
  have hx := Ext.refl w
  obtain ⟨h1, hf⟩ := ck_ex hf
  obtain ⟨r3, w4, hc2, hf⟩ := bd2_ex hf
  have hx := hx.trans (mC_X0_refuse_x _ _ _ _ _ hc2)
  cases some_ex hf
  exact hx
set_option maxHeartbeats 4000000 in
theorem mC_X0_count_x  (w : AH) (a : Nat) (p0 : Int32) (p1 : Int32) (p2 : Int32) (p3 : Int32) (p4 : Int32) (r : Int32) (w' : AH) (hf : mC_X0_count a p0 p1 p2 p3 p4 w = some (r, w')) : Ext w w' := by
  unfold mC_X0_count at hf
  have hx := Ext.refl w
  obtain ⟨r2, hc1, hf⟩ := bd1_ex hf
  by_cases hc3 : r2 = (0 : Int32)
  · have hf := if_t hf hc3
    exact hx.trans (mC_X0_count_40_x a w hf)
  · have hf := if_f hf hc3
    obtain ⟨r5, hc4, hf⟩ := bd1_ex hf
    by_cases hc6 : r5 = (0 : Int32)
    · have hf := if_t hf hc6
      exact hx.trans (mC_X0_count_40_x a w hf)
    · have hf := if_f hf hc6
      obtain ⟨r8, hc7, hf⟩ := bd1_ex hf
      by_cases hc9 : r8 = (0 : Int32)
      · have hf := if_t hf hc9
        exact hx.trans (mC_X0_count_40_x a w hf)
      · have hf := if_f hf hc9
        obtain ⟨r11, hc10, hf⟩ := bd1_ex hf
        by_cases hc12 : r11 = (0 : Int32)
        · have hf := if_t hf hc12
          exact hx.trans (mC_X0_count_40_x a w hf)
        · have hf := if_f hf hc12
          obtain ⟨h13, hf⟩ := ck_ex hf
          obtain ⟨r15, hc14, hf⟩ := bd1_ex hf
          by_cases hc16 : r15 = (0 : Int32)
          · have hf := if_t hf hc16
            obtain ⟨r54, w55, hc53, hf⟩ := bd2_ex hf
            have hx := hx.trans (mC_X0_refuse_x _ _ _ _ _ hc53)
            cases some_ex hf
            exact hx
          · have hf := if_f hf hc16
            obtain ⟨b17, hb18, hf⟩ := bd1_ex hf
            obtain ⟨h19, hf⟩ := ck_ex hf
            obtain ⟨b20, hb21, hf⟩ := bd1_ex hf
            obtain ⟨h22, hf⟩ := ck_ex hf
            obtain ⟨r24, hc23, hf⟩ := bd1_ex hf
            by_cases hc25 : r24 = (200 : Int32)
            · have hf := if_t hf hc25
              obtain ⟨r51, w52, hc50, hf⟩ := bd2_ex hf
              have hx := hx.trans (mC_X0_refuse_x _ _ _ _ _ hc50)
              cases some_ex hf
              exact hx
            · have hf := if_f hf hc25
              obtain ⟨h26, hf⟩ := ck_ex hf
              obtain ⟨b27, hb28, hf⟩ := st1_ex hf
              obtain ⟨w29, hs30, hf⟩ := st1_ex hf
              have hx := hx.trans (Ext.new hs30)
              obtain ⟨w32, hc31, hf⟩ := bd1_ex hf
              have hx := hx.trans (mC_X12_init_x _ _ _ _ _ _ _ _ hc31)
              obtain ⟨h33, hf⟩ := ck_ex hf
              obtain ⟨r35, w36, hc34, hf⟩ := bd2_ex hf
              have hx := hx.trans (mC_J2_add_x _ _ _ _ _ hc34)
              obtain ⟨h37, hf⟩ := ck_ex hf
              obtain ⟨b38, hb39, hf⟩ := bd1_ex hf
              obtain ⟨h40, hf⟩ := ck_ex hf
              obtain ⟨b41, hb42, hf⟩ := bd1_ex hf
              obtain ⟨h43, hf⟩ := ck_ex hf
              obtain ⟨w44, hs45, hf⟩ := st1_ex hf
              have hx := hx.trans (Ext.I hs45)
              obtain ⟨h46, hf⟩ := ck_ex hf
              obtain ⟨r48, w49, hc47, hf⟩ := bd2_ex hf
              have hx := hx.trans (mC_X0_told_x _ _ _ _ _ hc47)
              cases some_ex hf
              exact hx
set_option maxHeartbeats 4000000 in
theorem mC_X6_empties_26_x {w' : AH}  (k26 : Nat → Int32 → Int32 → AH → Option (AH)) (hk26 : ∀ (v0 : Nat) (v1 : Int32) (v2 : Int32) (w : AH), k26 v0 v1 v2 w = some w' → Ext w w') (v0 : Nat) (v1 : Int32) (v2 : Int32) (w : AH) (hf : mC_X6_empties_26 k26 v0 v1 v2 w = some w') : Ext w w' := by
  unfold mC_X6_empties_26 at hf
  have hx := Ext.refl w
  by_cases hc1 : (8 : Int32) ≤ v2
  · have hf := if_t hf hc1
    obtain ⟨h2, hf⟩ := ck_ex hf
    obtain ⟨b3, hb4, hf⟩ := bd1_ex hf
    obtain ⟨h5, hf⟩ := ck_ex hf
    obtain ⟨w6, hs7, hf⟩ := st1_ex hf
    have hx := hx.trans (Ext.I hs7)
    obtain ⟨h8, hf⟩ := ck_ex hf
    obtain ⟨b9, hb10, hf⟩ := bd1_ex hf
    obtain ⟨h11, hf⟩ := ck_ex hf
    obtain ⟨w12, hs13, hf⟩ := st1_ex hf
    have hx := hx.trans (Ext.I hs13)
    cases some_ex hf
    exact hx
  · have hf := if_f hf hc1
    obtain ⟨h14, hf⟩ := ck_ex hf
    obtain ⟨b15, hb16, hf⟩ := bd1_ex hf
    obtain ⟨h17, hf⟩ := ck_ex hf
    obtain ⟨w18, hs19, hf⟩ := st1_ex hf
    have hx := hx.trans (Ext.I hs19)
    exact hx.trans (hk26 v0 v1 (v2 + (1 : Int32)) w18 hf)
set_option maxHeartbeats 4000000 in
theorem mC_X6_empties_2_x {w' : AH}  (k2 : Nat → Int32 → Int32 → AH → Option (AH)) (hk2 : ∀ (v0 : Nat) (v1 : Int32) (v2 : Int32) (w : AH), k2 v0 v1 v2 w = some w' → Ext w w') (v0 : Nat) (v1 : Int32) (v2 : Int32) (w : AH) (hf : mC_X6_empties_2 k2 v0 v1 v2 w = some w') : Ext w w' := by
  unfold mC_X6_empties_2 at hf
  have hx := Ext.refl w
  by_cases hc1 : (4 : Int32) ≤ v2
  · have hf := if_t hf hc1
    exact hx.trans (lq4_ex (P := fun v0 v1 v2 w => Ext w w') (fun k hk v0 v1 v2 w hf => mC_X6_empties_26_x k hk v0 v1 v2 w hf) LF v0 v1 (0 : Int32) w hf)
  · have hf := if_f hf hc1
    obtain ⟨h2, hf⟩ := ck_ex hf
    obtain ⟨b3, hb4, hf⟩ := bd1_ex hf
    obtain ⟨h5, hf⟩ := ck_ex hf
    obtain ⟨w6, hs7, hf⟩ := st1_ex hf
    have hx := hx.trans (Ext.I hs7)
    exact hx.trans (hk2 v0 v1 (v2 + (1 : Int32)) w6 hf)
set_option maxHeartbeats 4000000 in
theorem mC_X6_empties_x  (w : AH) (a : Nat) (p0 : Int32) (w' : AH) (hf : mC_X6_empties a p0 w = some w') : Ext w w' := by
  unfold mC_X6_empties at hf
  have hx := Ext.refl w
  exact hx.trans (lq4_ex (P := fun v0 v1 v2 w => Ext w w') (fun k hk v0 v1 v2 w hf => mC_X6_empties_2_x k hk v0 v1 v2 w hf) LF a p0 (0 : Int32) w hf)
set_option maxHeartbeats 4000000 in
theorem mC_X6_asksAll_193_x {w' : AH}  (k152 : Nat → Int32 → Int32 → AH → Option (AH)) (hk152 : ∀ (v0 : Nat) (v1 : Int32) (v2 : Int32) (w : AH), k152 v0 v1 v2 w = some w' → Ext w w') (v0 : Nat) (v1 : Int32) (v2 : Int32) (t0 : Int32) (t1 : Int32) (t2 : Nat) (w : AH) (hf : mC_X6_asksAll_193 k152 v0 v1 v2 t0 t1 t2 w = some w') : Ext w w' := by
  unfold mC_X6_asksAll_193 at hf
  have hx := Ext.refl w
  obtain ⟨h1, hf⟩ := ck_ex hf
  obtain ⟨h2, hf⟩ := ck_ex hf
  obtain ⟨w3, hs4, hf⟩ := st1_ex hf
  have hx := hx.trans (Ext.I hs4)
  exact hx.trans (hk152 v0 v1 (v2 + (1 : Int32)) w3 hf)
set_option maxHeartbeats 4000000 in
theorem mC_X6_asksAll_152_x {w' : AH}  (k152 : Nat → Int32 → Int32 → AH → Option (AH)) (hk152 : ∀ (v0 : Nat) (v1 : Int32) (v2 : Int32) (w : AH), k152 v0 v1 v2 w = some w' → Ext w w') (v0 : Nat) (v1 : Int32) (v2 : Int32) (w : AH) (hf : mC_X6_asksAll_152 k152 v0 v1 v2 w = some w') : Ext w w' := by
  unfold mC_X6_asksAll_152 at hf
  have hx := Ext.refl w
  by_cases hc1 : (10 : Int32) ≤ v2
  · have hf := if_t hf hc1
    obtain ⟨h2, hf⟩ := ck_ex hf
    obtain ⟨b3, hb4, hf⟩ := bd1_ex hf
    obtain ⟨b5, hb6, hf⟩ := bd1_ex hf
    obtain ⟨h7, hf⟩ := ck_ex hf
    obtain ⟨r9, w10, hc8, hf⟩ := bd2_ex hf
    have hx := hx.trans (mC_X0_last_x _ _ _ _ _ _ _ hc8)
    by_cases hc11 : r9 = (-4000000000 : Int64)
    · have hf := if_t hf hc11
      obtain ⟨h12, hf⟩ := ck_ex hf
      obtain ⟨w13, hs14, hf⟩ := st1_ex hf
      have hx := hx.trans (Ext.I hs14)
      cases some_ex hf
      exact hx
    · have hf := if_f hf hc11
      obtain ⟨h15, hf⟩ := ck_ex hf
      obtain ⟨w16, hs17, hf⟩ := st1_ex hf
      have hx := hx.trans (Ext.I hs17)
      cases some_ex hf
      exact hx
  · have hf := if_f hf hc1
    obtain ⟨h18, hf⟩ := ck_ex hf
    obtain ⟨b19, hb20, hf⟩ := bd1_ex hf
    obtain ⟨b21, hb22, hf⟩ := bd1_ex hf
    obtain ⟨h23, hf⟩ := ck_ex hf
    obtain ⟨r25, w26, hc24, hf⟩ := bd2_ex hf
    have hx := hx.trans (mC_X0_last_x _ _ _ _ _ _ _ hc24)
    by_cases hc27 : r25 = (-4000000000 : Int64)
    · have hf := if_t hf hc27
      exact hx.trans (mC_X6_asksAll_193_x k152 hk152 v0 v1 v2 (0 : Int32) (((10 : Int32) * v1) + v2) b19 w26 hf)
    · have hf := if_f hf hc27
      exact hx.trans (mC_X6_asksAll_193_x k152 hk152 v0 v1 v2 (1 : Int32) (((10 : Int32) * v1) + v2) b19 w26 hf)
set_option maxHeartbeats 4000000 in
theorem mC_X6_asksAll_x  (w : AH) (a : Nat) (p0 : Int32) (w' : AH) (hf : mC_X6_asksAll a p0 w = some w') : Ext w w' := by
  unfold mC_X6_asksAll at hf
  have hx := Ext.refl w
  obtain ⟨h1, hf⟩ := ck_ex hf
  obtain ⟨b2, hb3, hf⟩ := bd1_ex hf
  obtain ⟨h4, hf⟩ := ck_ex hf
  obtain ⟨b5, hb6, hf⟩ := bd1_ex hf
  obtain ⟨h7, hf⟩ := ck_ex hf
  obtain ⟨b8, hb9, hf⟩ := bd1_ex hf
  obtain ⟨h10, hf⟩ := ck_ex hf
  obtain ⟨w12, hc11, hf⟩ := bd1_ex hf
  have hx := hx.trans (mC_X0_asksPlace_x _ _ _ _ _ hc11)
  obtain ⟨h13, hf⟩ := ck_ex hf
  obtain ⟨b14, hb15, hf⟩ := bd1_ex hf
  obtain ⟨h16, hf⟩ := ck_ex hf
  obtain ⟨b17, hb18, hf⟩ := bd1_ex hf
  obtain ⟨h19, hf⟩ := ck_ex hf
  obtain ⟨b20, hb21, hf⟩ := bd1_ex hf
  obtain ⟨b22, hb23, hf⟩ := bd1_ex hf
  obtain ⟨h24, hf⟩ := ck_ex hf
  obtain ⟨h25, hf⟩ := ck_ex hf
  obtain ⟨w26, hs27, hf⟩ := st1_ex hf
  have hx := hx.trans (Ext.L hs27)
  obtain ⟨h28, hf⟩ := ck_ex hf
  obtain ⟨b29, hb30, hf⟩ := bd1_ex hf
  obtain ⟨h31, hf⟩ := ck_ex hf
  obtain ⟨b32, hb33, hf⟩ := bd1_ex hf
  obtain ⟨h34, hf⟩ := ck_ex hf
  obtain ⟨b35, hb36, hf⟩ := bd1_ex hf
  obtain ⟨b37, hb38, hf⟩ := bd1_ex hf
  obtain ⟨h39, hf⟩ := ck_ex hf
  obtain ⟨h40, hf⟩ := ck_ex hf
  obtain ⟨w41, hs42, hf⟩ := st1_ex hf
  have hx := hx.trans (Ext.L hs42)
  obtain ⟨h43, hf⟩ := ck_ex hf
  obtain ⟨b44, hb45, hf⟩ := bd1_ex hf
  obtain ⟨h46, hf⟩ := ck_ex hf
  obtain ⟨b47, hb48, hf⟩ := bd1_ex hf
  obtain ⟨h49, hf⟩ := ck_ex hf
  obtain ⟨b50, hb51, hf⟩ := bd1_ex hf
  obtain ⟨b52, hb53, hf⟩ := bd1_ex hf
  obtain ⟨h54, hf⟩ := ck_ex hf
  obtain ⟨h55, hf⟩ := ck_ex hf
  obtain ⟨w56, hs57, hf⟩ := st1_ex hf
  have hx := hx.trans (Ext.L hs57)
  obtain ⟨h58, hf⟩ := ck_ex hf
  obtain ⟨b59, hb60, hf⟩ := bd1_ex hf
  obtain ⟨h61, hf⟩ := ck_ex hf
  obtain ⟨b62, hb63, hf⟩ := bd1_ex hf
  obtain ⟨h64, hf⟩ := ck_ex hf
  obtain ⟨b65, hb66, hf⟩ := bd1_ex hf
  obtain ⟨b67, hb68, hf⟩ := bd1_ex hf
  obtain ⟨h69, hf⟩ := ck_ex hf
  obtain ⟨h70, hf⟩ := ck_ex hf
  obtain ⟨w71, hs72, hf⟩ := st1_ex hf
  have hx := hx.trans (Ext.L hs72)
  obtain ⟨h73, hf⟩ := ck_ex hf
  obtain ⟨b74, hb75, hf⟩ := bd1_ex hf
  obtain ⟨h76, hf⟩ := ck_ex hf
  obtain ⟨b77, hb78, hf⟩ := bd1_ex hf
  obtain ⟨h79, hf⟩ := ck_ex hf
  obtain ⟨b80, hb81, hf⟩ := bd1_ex hf
  obtain ⟨r83, hc82, hf⟩ := bd1_ex hf
  obtain ⟨h84, hf⟩ := ck_ex hf
  obtain ⟨w85, hs86, hf⟩ := st1_ex hf
  have hx := hx.trans (Ext.L hs86)
  obtain ⟨h87, hf⟩ := ck_ex hf
  obtain ⟨b88, hb89, hf⟩ := bd1_ex hf
  obtain ⟨h90, hf⟩ := ck_ex hf
  obtain ⟨b91, hb92, hf⟩ := bd1_ex hf
  obtain ⟨h93, hf⟩ := ck_ex hf
  obtain ⟨b94, hb95, hf⟩ := bd1_ex hf
  obtain ⟨b96, hb97, hf⟩ := bd1_ex hf
  obtain ⟨h98, hf⟩ := ck_ex hf
  obtain ⟨h99, hf⟩ := ck_ex hf
  obtain ⟨h100, hf⟩ := ck_ex hf
  obtain ⟨w101, hs102, hf⟩ := st1_ex hf
  have hx := hx.trans (Ext.I hs102)
  exact hx.trans (lq4_ex (P := fun v0 v1 v2 w => Ext w w') (fun k hk v0 v1 v2 w hf => mC_X6_asksAll_152_x k hk v0 v1 v2 w hf) LF a p0 (0 : Int32) w101 hf)
set_option maxHeartbeats 4000000 in
theorem mC_X6_looks_447_x {w' : AH}  (k334 : Nat → Int32 → Int32 → AH → Option (AH)) (hk334 : ∀ (v0 : Nat) (v2 : Int32) (v3 : Int32) (w : AH), k334 v0 v2 v3 w = some w' → Ext w w') (v0 : Nat) (v2 : Int32) (v3 : Int32) (w : AH) (hf : mC_X6_looks_447 k334 v0 v2 v3 w = some w') : Ext w w' := by
  unfold mC_X6_looks_447 at hf
  have hx := Ext.refl w
  exact hx.trans (hk334 v0 v2 (v3 + (1 : Int32)) w hf)
set_option maxHeartbeats 4000000 in
theorem mC_X6_looks_334_x {w' : AH}  (k334 : Nat → Int32 → Int32 → AH → Option (AH)) (hk334 : ∀ (v0 : Nat) (v2 : Int32) (v3 : Int32) (w : AH), k334 v0 v2 v3 w = some w' → Ext w w') (v0 : Nat) (v2 : Int32) (v3 : Int32) (w : AH) (hf : mC_X6_looks_334 k334 v0 v2 v3 w = some w') : Ext w w' := by
  unfold mC_X6_looks_334 at hf
  have hx := Ext.refl w
  obtain ⟨h1, hf⟩ := ck_ex hf
  obtain ⟨b2, hb3, hf⟩ := bd1_ex hf
  obtain ⟨h4, hf⟩ := ck_ex hf
  obtain ⟨b5, hb6, hf⟩ := bd1_ex hf
  obtain ⟨h7, hf⟩ := ck_ex hf
  obtain ⟨b8, hb9, hf⟩ := bd1_ex hf
  obtain ⟨h10, hf⟩ := ck_ex hf
  obtain ⟨r12, hc11, hf⟩ := bd1_ex hf
  by_cases hc13 : r12 ≤ v3
  · have hf := if_t hf hc13
    cases some_ex hf
    exact hx
  · have hf := if_f hf hc13
    obtain ⟨r15, hc14, hf⟩ := bd1_ex hf
    obtain ⟨h16, hf⟩ := ck_ex hf
    obtain ⟨b17, hb18, hf⟩ := bd1_ex hf
    obtain ⟨h19, hf⟩ := ck_ex hf
    obtain ⟨r21, hc20, hf⟩ := bd1_ex hf
    by_cases hc22 : r21 = (0 : Int32)
    · have hf := if_t hf hc22
      exact hx.trans (mC_X6_looks_447_x k334 hk334 v0 v2 v3 w hf)
    · have hf := if_f hf hc22
      obtain ⟨b23, hb24, hf⟩ := bd1_ex hf
      obtain ⟨h25, hf⟩ := ck_ex hf
      by_cases hc26 : (hvi w b23 ((((10 : Int32) * (hvi w b17 ((hvi w r15 0).toNatClampNeg))) + (hvi w r15 2)).toNatClampNeg)) = (0 : Int32)
      · have hf := if_t hf hc26
        obtain ⟨b27, hb28, hf⟩ := bd1_ex hf
        obtain ⟨h29, hf⟩ := ck_ex hf
        obtain ⟨b30, hb31, hf⟩ := bd1_ex hf
        obtain ⟨h32, hf⟩ := ck_ex hf
        obtain ⟨w33, hs34, hf⟩ := st1_ex hf
        have hx := hx.trans (Ext.I hs34)
        exact hx.trans (mC_X6_looks_447_x k334 hk334 v0 v2 v3 w33 hf)
      · have hf := if_f hf hc26
        exact hx.trans (mC_X6_looks_447_x k334 hk334 v0 v2 v3 w hf)
set_option maxHeartbeats 4000000 in
theorem mC_X6_looks_307_x {w' : AH}  (k307 : Nat → Int32 → Int32 → AH → Option (AH)) (hk307 : ∀ (v0 : Nat) (v2 : Int32) (v3 : Int32) (w : AH), k307 v0 v2 v3 w = some w' → Ext w w') (v0 : Nat) (v2 : Int32) (v3 : Int32) (w : AH) (hf : mC_X6_looks_307 k307 v0 v2 v3 w = some w') : Ext w w' := by
  unfold mC_X6_looks_307 at hf
  have hx := Ext.refl w
  obtain ⟨h1, hf⟩ := ck_ex hf
  obtain ⟨b2, hb3, hf⟩ := bd1_ex hf
  obtain ⟨h4, hf⟩ := ck_ex hf
  obtain ⟨b5, hb6, hf⟩ := bd1_ex hf
  obtain ⟨h7, hf⟩ := ck_ex hf
  by_cases hc8 : (hvi w b5 23) ≤ v3
  · have hf := if_t hf hc8
    exact hx.trans (lq4_ex (P := fun v0 v2 v3 w => Ext w w') (fun k hk v0 v2 v3 w hf => mC_X6_looks_334_x k hk v0 v2 v3 w hf) LF v0 v2 (0 : Int32) w hf)
  · have hf := if_f hf hc8
    obtain ⟨w10, hc9, hf⟩ := bd1_ex hf
    have hx := hx.trans (mC_X6_asksAll_x _ _ _ _ hc9)
    exact hx.trans (hk307 v0 v2 (v3 + (1 : Int32)) w10 hf)
set_option maxHeartbeats 4000000 in
theorem mC_X6_looks_299_x {w' : AH}  (k222 : Nat → Int32 → Int32 → AH → Option (AH)) (hk222 : ∀ (v0 : Nat) (v2 : Int32) (v3 : Int32) (w : AH), k222 v0 v2 v3 w = some w' → Ext w w') (v0 : Nat) (v2 : Int32) (v3 : Int32) (w : AH) (hf : mC_X6_looks_299 k222 v0 v2 v3 w = some w') : Ext w w' := by
  unfold mC_X6_looks_299 at hf
  have hx := Ext.refl w
  exact hx.trans (hk222 v0 v2 (v3 + (1 : Int32)) w hf)
set_option maxHeartbeats 4000000 in
theorem mC_X6_looks_222_x {w' : AH}  (k222 : Nat → Int32 → Int32 → AH → Option (AH)) (hk222 : ∀ (v0 : Nat) (v2 : Int32) (v3 : Int32) (w : AH), k222 v0 v2 v3 w = some w' → Ext w w') (v0 : Nat) (v2 : Int32) (v3 : Int32) (w : AH) (hf : mC_X6_looks_222 k222 v0 v2 v3 w = some w') : Ext w w' := by
  unfold mC_X6_looks_222 at hf
  have hx := Ext.refl w
  obtain ⟨h1, hf⟩ := ck_ex hf
  obtain ⟨b2, hb3, hf⟩ := bd1_ex hf
  obtain ⟨h4, hf⟩ := ck_ex hf
  obtain ⟨b5, hb6, hf⟩ := bd1_ex hf
  obtain ⟨h7, hf⟩ := ck_ex hf
  obtain ⟨b8, hb9, hf⟩ := bd1_ex hf
  obtain ⟨h10, hf⟩ := ck_ex hf
  obtain ⟨r12, hc11, hf⟩ := bd1_ex hf
  by_cases hc13 : r12 ≤ v3
  · have hf := if_t hf hc13
    exact hx.trans (lq4_ex (P := fun v0 v2 v3 w => Ext w w') (fun k hk v0 v2 v3 w hf => mC_X6_looks_307_x k hk v0 v2 v3 w hf) LF v0 v2 (0 : Int32) w hf)
  · have hf := if_f hf hc13
    obtain ⟨r15, hc14, hf⟩ := bd1_ex hf
    by_cases hc16 : r15 = (0 : Int32)
    · have hf := if_t hf hc16
      exact hx.trans (mC_X6_looks_299_x k222 hk222 v0 v2 v3 w hf)
    · have hf := if_f hf hc16
      obtain ⟨b17, hb18, hf⟩ := bd1_ex hf
      obtain ⟨b19, hb20, hf⟩ := bd1_ex hf
      obtain ⟨r22, hc21, hf⟩ := bd1_ex hf
      obtain ⟨h23, hf⟩ := ck_ex hf
      obtain ⟨h24, hf⟩ := ck_ex hf
      obtain ⟨h25, hf⟩ := ck_ex hf
      obtain ⟨b26, hb27, hf⟩ := bd1_ex hf
      obtain ⟨h28, hf⟩ := ck_ex hf
      obtain ⟨w29, hs30, hf⟩ := st1_ex hf
      have hx := hx.trans (Ext.I hs30)
      exact hx.trans (mC_X6_looks_299_x k222 hk222 v0 v2 v3 w29 hf)
set_option maxHeartbeats 4000000 in
theorem mC_X6_looks_214_x {w' : AH}  (k169 : Nat → Int32 → Int32 → AH → Option (AH)) (hk169 : ∀ (v0 : Nat) (v2 : Int32) (v3 : Int32) (w : AH), k169 v0 v2 v3 w = some w' → Ext w w') (v0 : Nat) (v2 : Int32) (v3 : Int32) (w : AH) (hf : mC_X6_looks_214 k169 v0 v2 v3 w = some w') : Ext w w' := by
  unfold mC_X6_looks_214 at hf
  have hx := Ext.refl w
  exact hx.trans (hk169 v0 v2 (v3 + (1 : Int32)) w hf)
set_option maxHeartbeats 4000000 in
theorem mC_X6_looks_169_x {w' : AH}  (k169 : Nat → Int32 → Int32 → AH → Option (AH)) (hk169 : ∀ (v0 : Nat) (v2 : Int32) (v3 : Int32) (w : AH), k169 v0 v2 v3 w = some w' → Ext w w') (v0 : Nat) (v2 : Int32) (v3 : Int32) (w : AH) (hf : mC_X6_looks_169 k169 v0 v2 v3 w = some w') : Ext w w' := by
  unfold mC_X6_looks_169 at hf
  have hx := Ext.refl w
  obtain ⟨h1, hf⟩ := ck_ex hf
  obtain ⟨b2, hb3, hf⟩ := bd1_ex hf
  obtain ⟨h4, hf⟩ := ck_ex hf
  obtain ⟨b5, hb6, hf⟩ := bd1_ex hf
  obtain ⟨h7, hf⟩ := ck_ex hf
  by_cases hc8 : (hvi w b5 24) ≤ v3
  · have hf := if_t hf hc8
    exact hx.trans (lq4_ex (P := fun v0 v2 v3 w => Ext w w') (fun k hk v0 v2 v3 w hf => mC_X6_looks_222_x k hk v0 v2 v3 w hf) LF v0 v2 (0 : Int32) w hf)
  · have hf := if_f hf hc8
    obtain ⟨r10, hc9, hf⟩ := bd1_ex hf
    by_cases hc11 : r10 = (-1 : Int32)
    · have hf := if_t hf hc11
      exact hx.trans (mC_X6_looks_214_x k169 hk169 v0 v2 v3 w hf)
    · have hf := if_f hf hc11
      obtain ⟨b12, hb13, hf⟩ := bd1_ex hf
      obtain ⟨b14, hb15, hf⟩ := bd1_ex hf
      obtain ⟨h16, hf⟩ := ck_ex hf
      obtain ⟨h17, hf⟩ := ck_ex hf
      obtain ⟨w18, hs19, hf⟩ := st1_ex hf
      have hx := hx.trans (Ext.I hs19)
      exact hx.trans (mC_X6_looks_214_x k169 hk169 v0 v2 v3 w18 hf)
set_option maxHeartbeats 4000000 in
theorem mC_X6_looks_161_x {w' : AH}  (k93 : Nat → Int32 → Int32 → AH → Option (AH)) (hk93 : ∀ (v0 : Nat) (v2 : Int32) (v3 : Int32) (w : AH), k93 v0 v2 v3 w = some w' → Ext w w') (v0 : Nat) (v2 : Int32) (v3 : Int32) (w : AH) (hf : mC_X6_looks_161 k93 v0 v2 v3 w = some w') : Ext w w' := by
  unfold mC_X6_looks_161 at hf
  have hx := Ext.refl w
  exact hx.trans (hk93 v0 v2 (v3 + (1 : Int32)) w hf)
set_option maxHeartbeats 4000000 in
theorem mC_X6_looks_93_x {w' : AH}  (k93 : Nat → Int32 → Int32 → AH → Option (AH)) (hk93 : ∀ (v0 : Nat) (v2 : Int32) (v3 : Int32) (w : AH), k93 v0 v2 v3 w = some w' → Ext w w') (v0 : Nat) (v2 : Int32) (v3 : Int32) (w : AH) (hf : mC_X6_looks_93 k93 v0 v2 v3 w = some w') : Ext w w' := by
  unfold mC_X6_looks_93 at hf
  have hx := Ext.refl w
  obtain ⟨h1, hf⟩ := ck_ex hf
  obtain ⟨b2, hb3, hf⟩ := bd1_ex hf
  obtain ⟨h4, hf⟩ := ck_ex hf
  obtain ⟨b5, hb6, hf⟩ := bd1_ex hf
  obtain ⟨h7, hf⟩ := ck_ex hf
  obtain ⟨b8, hb9, hf⟩ := bd1_ex hf
  obtain ⟨h10, hf⟩ := ck_ex hf
  obtain ⟨r12, hc11, hf⟩ := bd1_ex hf
  by_cases hc13 : r12 ≤ v3
  · have hf := if_t hf hc13
    exact hx.trans (lq4_ex (P := fun v0 v2 v3 w => Ext w w') (fun k hk v0 v2 v3 w hf => mC_X6_looks_169_x k hk v0 v2 v3 w hf) LF v0 v2 (0 : Int32) w hf)
  · have hf := if_f hf hc13
    obtain ⟨r15, hc14, hf⟩ := bd1_ex hf
    obtain ⟨h16, hf⟩ := ck_ex hf
    by_cases hc17 : v2 < (hvi w r15 3)
    · have hf := if_t hf hc17
      exact hx.trans (mC_X6_looks_161_x k93 hk93 v0 v2 v3 w hf)
    · have hf := if_f hf hc17
      obtain ⟨b18, hb19, hf⟩ := bd1_ex hf
      obtain ⟨h20, hf⟩ := ck_ex hf
      obtain ⟨w21, hs22, hf⟩ := st1_ex hf
      have hx := hx.trans (Ext.I hs22)
      exact hx.trans (mC_X6_looks_161_x k93 hk93 v0 v2 v3 w21 hf)
set_option maxHeartbeats 4000000 in
theorem mC_X6_looks_66_x {w' : AH}  (k66 : Nat → Int32 → Int32 → AH → Option (AH)) (hk66 : ∀ (v0 : Nat) (v2 : Int32) (v3 : Int32) (w : AH), k66 v0 v2 v3 w = some w' → Ext w w') (v0 : Nat) (v2 : Int32) (v3 : Int32) (w : AH) (hf : mC_X6_looks_66 k66 v0 v2 v3 w = some w') : Ext w w' := by
  unfold mC_X6_looks_66 at hf
  have hx := Ext.refl w
  obtain ⟨h1, hf⟩ := ck_ex hf
  obtain ⟨b2, hb3, hf⟩ := bd1_ex hf
  obtain ⟨h4, hf⟩ := ck_ex hf
  obtain ⟨b5, hb6, hf⟩ := bd1_ex hf
  obtain ⟨h7, hf⟩ := ck_ex hf
  by_cases hc8 : (hvi w b5 23) ≤ v3
  · have hf := if_t hf hc8
    exact hx.trans (lq4_ex (P := fun v0 v2 v3 w => Ext w w') (fun k hk v0 v2 v3 w hf => mC_X6_looks_93_x k hk v0 v2 v3 w hf) LF v0 v2 (0 : Int32) w hf)
  · have hf := if_f hf hc8
    obtain ⟨w10, hc9, hf⟩ := bd1_ex hf
    have hx := hx.trans (mC_X6_empties_x _ _ _ _ hc9)
    exact hx.trans (hk66 v0 v2 (v3 + (1 : Int32)) w10 hf)
set_option maxHeartbeats 4000000 in
theorem mC_X6_looks_43_x {w' : AH}  (v0 : Nat) (v1 : Int32) (v2 : Int32) (w : AH) (hf : mC_X6_looks_43 v0 v1 v2 w = some w') : Ext w w' := by
  unfold mC_X6_looks_43 at hf
  have hx := Ext.refl w
  obtain ⟨h1, hf⟩ := ck_ex hf
  obtain ⟨w2, hs3, hf⟩ := st1_ex hf
  have hx := hx.trans (Ext.I hs3)
  obtain ⟨h4, hf⟩ := ck_ex hf
  obtain ⟨w5, hs6, hf⟩ := st1_ex hf
  have hx := hx.trans (Ext.I hs6)
  obtain ⟨h7, hf⟩ := ck_ex hf
  obtain ⟨b8, hb9, hf⟩ := bd1_ex hf
  obtain ⟨h10, hf⟩ := ck_ex hf
  obtain ⟨w11, hs12, hf⟩ := st1_ex hf
  have hx := hx.trans (Ext.I hs12)
  exact hx.trans (lq4_ex (P := fun v0 v2 v3 w => Ext w w') (fun k hk v0 v2 v3 w hf => mC_X6_looks_66_x k hk v0 v2 v3 w hf) LF v0 v2 (0 : Int32) w11 hf)
set_option maxHeartbeats 4000000 in
theorem mC_X6_looks_x  (w : AH) (a : Nat) (p0 : Int32) (p1 : Int32) (w' : AH) (hf : mC_X6_looks a p0 p1 w = some w') : Ext w w' := by
  unfold mC_X6_looks at hf
  have hx := Ext.refl w
  obtain ⟨h1, hf⟩ := ck_ex hf
  obtain ⟨b2, hb3, hf⟩ := bd1_ex hf
  obtain ⟨h4, hf⟩ := ck_ex hf
  obtain ⟨b5, hb6, hf⟩ := bd1_ex hf
  obtain ⟨h7, hf⟩ := ck_ex hf
  obtain ⟨w9, hc8, hf⟩ := bd1_ex hf
  have hx := hx.trans (mC_X5_looks_x _ _ _ _ _ hc8)
  obtain ⟨h10, hf⟩ := ck_ex hf
  by_cases hc11 : (hvi w9 a 6) = p0
  · have hf := if_t hf hc11
    by_cases hc12 : (hvi w9 a 7) = p1
    · have hf := if_t hf hc12
      obtain ⟨b13, hb14, hf⟩ := bd1_ex hf
      obtain ⟨h15, hf⟩ := ck_ex hf
      by_cases hc16 : (hvi w9 a 8) = (hvi w9 b13 1)
      · have hf := if_t hf hc16
        cases some_ex hf
        exact hx
      · have hf := if_f hf hc16
        exact hx.trans (mC_X6_looks_43_x a p0 p1 w9 hf)
    · have hf := if_f hf hc12
      exact hx.trans (mC_X6_looks_43_x a p0 p1 w9 hf)
  · have hf := if_f hf hc11
    exact hx.trans (mC_X6_looks_43_x a p0 p1 w9 hf)
set_option maxHeartbeats 4000000 in
theorem mC_X0_tells_x  (w : AH) (a : Nat) (p0 : Int32) (p1 : Int32) (p2 : Int32) (p3 : Int32) (r : Int32) (w' : AH) (hf : mC_X0_tells a p0 p1 p2 p3 w = some (r, w')) : Ext w w' := by
  unfold mC_X0_tells at hf
  have hx := Ext.refl w
  obtain ⟨h1, hf⟩ := ck_ex hf
  obtain ⟨r3, hc2, hf⟩ := bd1_ex hf
  by_cases hc4 : r3 = (0 : Int32)
  · have hf := if_t hf hc4
    cases some_ex hf
    exact hx
  · have hf := if_f hf hc4
    obtain ⟨r6, hc5, hf⟩ := bd1_ex hf
    by_cases hc7 : r6 = (0 : Int32)
    · have hf := if_t hf hc7
      cases some_ex hf
      exact hx
    · have hf := if_f hf hc7
      obtain ⟨r9, hc8, hf⟩ := bd1_ex hf
      by_cases hc10 : r9 = (0 : Int32)
      · have hf := if_t hf hc10
        cases some_ex hf
        exact hx
      · have hf := if_f hf hc10
        obtain ⟨r12, hc11, hf⟩ := bd1_ex hf
        by_cases hc13 : r12 = (0 : Int32)
        · have hf := if_t hf hc13
          cases some_ex hf
          exact hx
        · have hf := if_f hf hc13
          obtain ⟨b14, hb15, hf⟩ := bd1_ex hf
          obtain ⟨h16, hf⟩ := ck_ex hf
          obtain ⟨w18, hc17, hf⟩ := bd1_ex hf
          have hx := hx.trans (mC_X6_looks_x _ _ _ _ _ hc17)
          obtain ⟨h19, hf⟩ := ck_ex hf
          obtain ⟨b20, hb21, hf⟩ := bd1_ex hf
          obtain ⟨h22, hf⟩ := ck_ex hf
          obtain ⟨b23, hb24, hf⟩ := bd1_ex hf
          by_cases hc25 : (4 : Int32) ≤ p3
          · have hf := if_t hf hc25
            by_cases hw4 : p3 = (4 : Int32)
            · have hf := if_t hf hw4
              obtain ⟨b26, hb27, hf⟩ := bd1_ex hf
              obtain ⟨h28, hf⟩ := ck_ex hf
              cases some_ex hf
              exact hx
            replace hf := if_f hf hw4
            by_cases hw5 : p3 = (5 : Int32)
            · have hf := if_t hf hw5
              obtain ⟨r30, hc29, hf⟩ := bd1_ex hf
              cases some_ex hf
              exact hx
            replace hf := if_f hf hw5
            by_cases hw6 : p3 = (6 : Int32)
            · have hf := if_t hf hw6
              obtain ⟨h31, hf⟩ := ck_ex hf
              obtain ⟨h32, hf⟩ := ck_ex hf
              obtain ⟨h33, hf⟩ := ck_ex hf
              by_cases hc34 : (hvi w18 b23 (((4 : Int32) * p0).toNatClampNeg)) = ((hvi w18 b23 ((((4 : Int32) * p0) + (1 : Int32)).toNatClampNeg)) + (hvi w18 b23 ((((4 : Int32) * p0) + (3 : Int32)).toNatClampNeg)))
              · have hf := if_t hf hc34
                obtain ⟨r36, hc35, hf⟩ := bd1_ex hf
                by_cases hc37 : r36 = (0 : Int32)
                · have hf := if_t hf hc37
                  cases some_ex hf
                  exact hx
                · have hf := if_f hf hc37
                  cases some_ex hf
                  exact hx
              · have hf := if_f hf hc34
                cases some_ex hf
                exact hx
            replace hf := if_f hf hw6
            by_cases hw7 : p3 = (7 : Int32)
            · have hf := if_t hf hw7
              obtain ⟨b38, hb39, hf⟩ := bd1_ex hf
              obtain ⟨h40, hf⟩ := ck_ex hf
              by_cases hc41 : (hvi w18 b38 (p0.toNatClampNeg)) = (0 : Int32)
              · have hf := if_t hf hc41
                cases some_ex hf
                exact hx
              · have hf := if_f hf hc41
                cases some_ex hf
                exact hx
            replace hf := if_f hf hw7
            obtain ⟨r43, hc42, hf⟩ := bd1_ex hf
            cases some_ex hf
            exact hx
          · have hf := if_f hf hc25
            obtain ⟨h44, hf⟩ := ck_ex hf
            cases some_ex hf
            exact hx
set_option maxHeartbeats 4000000 in
theorem mC_X0_keep_19_x {r : Int32} {w' : AH}  (v0 : Nat) (w : AH) (hf : mC_X0_keep_19 v0 w = some (r, w')) : Ext w w' := by
  unfold mC_X0_keep_19 at hf
  have hx := Ext.refl w
  obtain ⟨h1, hf⟩ := ck_ex hf
  obtain ⟨r3, w4, hc2, hf⟩ := bd2_ex hf
  have hx := hx.trans (mC_X0_refuse_x _ _ _ _ _ hc2)
  cases some_ex hf
  exact hx
set_option maxHeartbeats 4000000 in
theorem mC_X0_keep_x  (w : AH) (a : Nat) (p0 : Int32) (p1 : Int32) (r : Int32) (w' : AH) (hf : mC_X0_keep a p0 p1 w = some (r, w')) : Ext w w' := by
  unfold mC_X0_keep at hf
  have hx := Ext.refl w
  obtain ⟨r2, hc1, hf⟩ := bd1_ex hf
  by_cases hc3 : r2 = (0 : Int32)
  · have hf := if_t hf hc3
    exact hx.trans (mC_X0_keep_19_x a w hf)
  · have hf := if_f hf hc3
    obtain ⟨r5, hc4, hf⟩ := bd1_ex hf
    by_cases hc6 : r5 = (0 : Int32)
    · have hf := if_t hf hc6
      exact hx.trans (mC_X0_keep_19_x a w hf)
    · have hf := if_f hf hc6
      obtain ⟨h7, hf⟩ := ck_ex hf
      obtain ⟨b8, hb9, hf⟩ := bd1_ex hf
      obtain ⟨h10, hf⟩ := ck_ex hf
      obtain ⟨b11, hb12, hf⟩ := bd1_ex hf
      obtain ⟨h13, hf⟩ := ck_ex hf
      by_cases hc14 : (hvi w b11 ((((8 : Int32) * p0) + p1).toNatClampNeg)) = (0 : Int32)
      · have hf := if_t hf hc14
        obtain ⟨w15, hs16, hf⟩ := st1_ex hf
        have hx := hx.trans (Ext.I hs16)
        obtain ⟨h17, hf⟩ := ck_ex hf
        obtain ⟨r19, w20, hc18, hf⟩ := bd2_ex hf
        have hx := hx.trans (mC_X0_told_x _ _ _ _ _ hc18)
        cases some_ex hf
        exact hx
      · have hf := if_f hf hc14
        obtain ⟨r22, w23, hc21, hf⟩ := bd2_ex hf
        have hx := hx.trans (mC_X0_refuse_x _ _ _ _ _ hc21)
        cases some_ex hf
        exact hx
set_option maxHeartbeats 4000000 in
theorem mC_X0_reckons_236_x {w' : AH}  (v0 : Nat) (v3 : Int32) (v4 : Int32) (w : AH) (hf : mC_X0_reckons_236 v0 v3 v4 w = some w') : Ext w w' := by
  unfold mC_X0_reckons_236 at hf
  have hx := Ext.refl w
  obtain ⟨h1, hf⟩ := ck_ex hf
  by_cases hc2 : (hvi w v0 25) = (-1 : Int32)
  · have hf := if_t hf hc2
    obtain ⟨w5, hs6, hf⟩ := st1_ex hf
    have hx := hx.trans (Ext.I hs6)
    cases some_ex hf
    exact hx
  · have hf := if_f hf hc2
    obtain ⟨w3, hs4, hf⟩ := st1_ex hf
    have hx := hx.trans (Ext.I hs4)
    cases some_ex hf
    exact hx
set_option maxHeartbeats 4000000 in
theorem mC_X0_reckons_219_x {w' : AH}  (k142 : Nat → Int32 → Int32 → Int32 → Int32 → Int32 → AH → Option (AH)) (hk142 : ∀ (v0 : Nat) (v1 : Int32) (v2 : Int32) (v3 : Int32) (v4 : Int32) (v5 : Int32) (w : AH), k142 v0 v1 v2 v3 v4 v5 w = some w' → Ext w w') (v0 : Nat) (v1 : Int32) (v2 : Int32) (v3 : Int32) (v4 : Int32) (v5 : Int32) (w : AH) (hf : mC_X0_reckons_219 k142 v0 v1 v2 v3 v4 v5 w = some w') : Ext w w' := by
  unfold mC_X0_reckons_219 at hf
  have hx := Ext.refl w
  exact hx.trans (hk142 v0 v1 v2 v3 v4 (v5 + (1 : Int32)) w hf)
set_option maxHeartbeats 4000000 in
theorem mC_X0_reckons_174_x {w' : AH}  (k142 : Nat → Int32 → Int32 → Int32 → Int32 → Int32 → AH → Option (AH)) (hk142 : ∀ (v0 : Nat) (v1 : Int32) (v2 : Int32) (v3 : Int32) (v4 : Int32) (v5 : Int32) (w : AH), k142 v0 v1 v2 v3 v4 v5 w = some w' → Ext w w') (v0 : Nat) (v1 : Int32) (v2 : Int32) (v3 : Int32) (v4 : Int32) (v5 : Int32) (w : AH) (hf : mC_X0_reckons_174 k142 v0 v1 v2 v3 v4 v5 w = some w') : Ext w w' := by
  unfold mC_X0_reckons_174 at hf
  have hx := Ext.refl w
  obtain ⟨h1, hf⟩ := ck_ex hf
  obtain ⟨b2, hb3, hf⟩ := bd1_ex hf
  obtain ⟨h4, hf⟩ := ck_ex hf
  by_cases hc5 : (hvi w b2 (v5.toNatClampNeg)) ≤ v3
  · have hf := if_t hf hc5
    obtain ⟨r6, hm7, hf⟩ := st1_ex hf
    exact hx.trans (mC_X0_reckons_219_x k142 hk142 v0 v1 v2 v3 r6 v5 w hf)
  · have hf := if_f hf hc5
    obtain ⟨w8, hs9, hf⟩ := st1_ex hf
    have hx := hx.trans (Ext.I hs9)
    exact hx.trans (mC_X0_reckons_219_x k142 hk142 v0 v1 v2 (hvi w b2 (v5.toNatClampNeg)) v3 v5 w8 hf)
set_option maxHeartbeats 4000000 in
theorem mC_X0_reckons_142_x {w' : AH}  (k142 : Nat → Int32 → Int32 → Int32 → Int32 → Int32 → AH → Option (AH)) (hk142 : ∀ (v0 : Nat) (v1 : Int32) (v2 : Int32) (v3 : Int32) (v4 : Int32) (v5 : Int32) (w : AH), k142 v0 v1 v2 v3 v4 v5 w = some w' → Ext w w') (v0 : Nat) (v1 : Int32) (v2 : Int32) (v3 : Int32) (v4 : Int32) (v5 : Int32) (w : AH) (hf : mC_X0_reckons_142 k142 v0 v1 v2 v3 v4 v5 w = some w') : Ext w w' := by
  unfold mC_X0_reckons_142 at hf
  have hx := Ext.refl w
  by_cases hc1 : (8 : Int32) ≤ v5
  · have hf := if_t hf hc1
    by_cases hc2 : v4 = v3
    · have hf := if_t hf hc2
      obtain ⟨h3, hf⟩ := ck_ex hf
      obtain ⟨w4, hs5, hf⟩ := st1_ex hf
      have hx := hx.trans (Ext.I hs5)
      exact hx.trans (mC_X0_reckons_236_x v0 v3 v4 w4 hf)
    · have hf := if_f hf hc2
      exact hx.trans (mC_X0_reckons_236_x v0 v3 v4 w hf)
  · have hf := if_f hf hc1
    by_cases hc6 : v2 = (0 : Int32)
    · have hf := if_t hf hc6
      exact hx.trans (mC_X0_reckons_174_x k142 hk142 v0 v1 v2 v3 v4 v5 w hf)
    · have hf := if_f hf hc6
      obtain ⟨h7, hf⟩ := ck_ex hf
      obtain ⟨b8, hb9, hf⟩ := bd1_ex hf
      obtain ⟨h10, hf⟩ := ck_ex hf
      obtain ⟨b11, hb12, hf⟩ := bd1_ex hf
      obtain ⟨h13, hf⟩ := ck_ex hf
      by_cases hc14 : (hvi w b11 ((((8 : Int32) * v1) + v5).toNatClampNeg)) = (0 : Int32)
      · have hf := if_t hf hc14
        exact hx.trans (mC_X0_reckons_219_x k142 hk142 v0 v1 v2 v3 v4 v5 w hf)
      · have hf := if_f hf hc14
        exact hx.trans (mC_X0_reckons_174_x k142 hk142 v0 v1 v2 v3 v4 v5 w hf)
set_option maxHeartbeats 4000000 in
theorem mC_X0_reckons_122_x {w' : AH}  (k90 : Nat → Int32 → Int32 → Int32 → AH → Option (AH)) (hk90 : ∀ (v0 : Nat) (v1 : Int32) (v2 : Int32) (v3 : Int32) (w : AH), k90 v0 v1 v2 v3 w = some w' → Ext w w') (v0 : Nat) (v1 : Int32) (v3 : Int32) (t0 : Int32) (w : AH) (hf : mC_X0_reckons_122 k90 v0 v1 v3 t0 w = some w') : Ext w w' := by
  unfold mC_X0_reckons_122 at hf
  have hx := Ext.refl w
  exact hx.trans (hk90 v0 v1 t0 (v3 + (1 : Int32)) w hf)
set_option maxHeartbeats 4000000 in
theorem mC_X0_reckons_117_x {w' : AH}  (k90 : Nat → Int32 → Int32 → Int32 → AH → Option (AH)) (hk90 : ∀ (v0 : Nat) (v1 : Int32) (v2 : Int32) (v3 : Int32) (w : AH), k90 v0 v1 v2 v3 w = some w' → Ext w w') (v0 : Nat) (v1 : Int32) (v3 : Int32) (w : AH) (hf : mC_X0_reckons_117 k90 v0 v1 v3 w = some w') : Ext w w' := by
  unfold mC_X0_reckons_117 at hf
  have hx := Ext.refl w
  exact hx.trans (mC_X0_reckons_122_x k90 hk90 v0 v1 v3 (1 : Int32) w hf)
set_option maxHeartbeats 4000000 in
theorem mC_X0_reckons_90_x {w' : AH}  (k90 : Nat → Int32 → Int32 → Int32 → AH → Option (AH)) (hk90 : ∀ (v0 : Nat) (v1 : Int32) (v2 : Int32) (v3 : Int32) (w : AH), k90 v0 v1 v2 v3 w = some w' → Ext w w') (v0 : Nat) (v1 : Int32) (v2 : Int32) (v3 : Int32) (w : AH) (hf : mC_X0_reckons_90 k90 v0 v1 v2 v3 w = some w') : Ext w w' := by
  unfold mC_X0_reckons_90 at hf
  have hx := Ext.refl w
  by_cases hc1 : (8 : Int32) ≤ v3
  · have hf := if_t hf hc1
    obtain ⟨h2, hf⟩ := ck_ex hf
    obtain ⟨w3, hs4, hf⟩ := st1_ex hf
    have hx := hx.trans (Ext.I hs4)
    exact hx.trans (lq7_ex (P := fun v0 v1 v2 v3 v4 v5 w => Ext w w') (fun k hk v0 v1 v2 v3 v4 v5 w hf => mC_X0_reckons_142_x k hk v0 v1 v2 v3 v4 v5 w hf) LF v0 v1 v2 (0 : Int32) (0 : Int32) (0 : Int32) w3 hf)
  · have hf := if_f hf hc1
    by_cases hc5 : v2 = (0 : Int32)
    · have hf := if_t hf hc5
      obtain ⟨h6, hf⟩ := ck_ex hf
      obtain ⟨b7, hb8, hf⟩ := bd1_ex hf
      obtain ⟨h9, hf⟩ := ck_ex hf
      obtain ⟨b10, hb11, hf⟩ := bd1_ex hf
      obtain ⟨h12, hf⟩ := ck_ex hf
      by_cases hc13 : (hvi w b10 ((((8 : Int32) * v1) + v3).toNatClampNeg)) = (0 : Int32)
      · have hf := if_t hf hc13
        exact hx.trans (mC_X0_reckons_122_x k90 hk90 v0 v1 v3 (0 : Int32) w hf)
      · have hf := if_f hf hc13
        exact hx.trans (mC_X0_reckons_117_x k90 hk90 v0 v1 v3 w hf)
    · have hf := if_f hf hc5
      exact hx.trans (mC_X0_reckons_117_x k90 hk90 v0 v1 v3 w hf)
set_option maxHeartbeats 4000000 in
theorem mC_X0_reckons_80_x {w' : AH}  (k23 : Nat → Int32 → Int32 → AH → Option (AH)) (hk23 : ∀ (v0 : Nat) (v1 : Int32) (v2 : Int32) (w : AH), k23 v0 v1 v2 w = some w' → Ext w w') (v0 : Nat) (v1 : Int32) (v2 : Int32) (w : AH) (hf : mC_X0_reckons_80 k23 v0 v1 v2 w = some w') : Ext w w' := by
  unfold mC_X0_reckons_80 at hf
  have hx := Ext.refl w
  exact hx.trans (hk23 v0 v1 (v2 + (1 : Int32)) w hf)
set_option maxHeartbeats 4000000 in
theorem mC_X0_reckons_45_x {w' : AH}  (k23 : Nat → Int32 → Int32 → AH → Option (AH)) (hk23 : ∀ (v0 : Nat) (v1 : Int32) (v2 : Int32) (w : AH), k23 v0 v1 v2 w = some w' → Ext w w') (k45 : Nat → Int32 → Int32 → Int32 → AH → Option (AH)) (hk45 : ∀ (v0 : Nat) (v1 : Int32) (v2 : Int32) (v3 : Int32) (w : AH), k45 v0 v1 v2 v3 w = some w' → Ext w w') (v0 : Nat) (v1 : Int32) (v2 : Int32) (v3 : Int32) (w : AH) (hf : mC_X0_reckons_45 k23 k45 v0 v1 v2 v3 w = some w') : Ext w w' := by
  unfold mC_X0_reckons_45 at hf
  have hx := Ext.refl w
  by_cases hc1 : (8 : Int32) ≤ v3
  · have hf := if_t hf hc1
    exact hx.trans (mC_X0_reckons_80_x k23 hk23 v0 v1 v2 w hf)
  · have hf := if_f hf hc1
    obtain ⟨h2, hf⟩ := ck_ex hf
    obtain ⟨b3, hb4, hf⟩ := bd1_ex hf
    obtain ⟨h5, hf⟩ := ck_ex hf
    obtain ⟨b6, hb7, hf⟩ := bd1_ex hf
    obtain ⟨h8, hf⟩ := ck_ex hf
    obtain ⟨b9, hb10, hf⟩ := bd1_ex hf
    obtain ⟨h11, hf⟩ := ck_ex hf
    obtain ⟨w12, hs13, hf⟩ := st1_ex hf
    have hx := hx.trans (Ext.I hs13)
    exact hx.trans (hk45 v0 v1 v2 (v3 + (1 : Int32)) w12 hf)
set_option maxHeartbeats 4000000 in
theorem mC_X0_reckons_23_x {w' : AH}  (k23 : Nat → Int32 → Int32 → AH → Option (AH)) (hk23 : ∀ (v0 : Nat) (v1 : Int32) (v2 : Int32) (w : AH), k23 v0 v1 v2 w = some w' → Ext w w') (v0 : Nat) (v1 : Int32) (v2 : Int32) (w : AH) (hf : mC_X0_reckons_23 k23 v0 v1 v2 w = some w') : Ext w w' := by
  unfold mC_X0_reckons_23 at hf
  have hx := Ext.refl w
  obtain ⟨h1, hf⟩ := ck_ex hf
  obtain ⟨b2, hb3, hf⟩ := bd1_ex hf
  obtain ⟨h4, hf⟩ := ck_ex hf
  by_cases hc5 : (hvi w b2 23) ≤ v2
  · have hf := if_t hf hc5
    exact hx.trans (lq5_ex (P := fun v0 v1 v2 v3 w => Ext w w') (fun k hk v0 v1 v2 v3 w hf => mC_X0_reckons_90_x k hk v0 v1 v2 v3 w hf) LF v0 v1 (0 : Int32) (0 : Int32) w hf)
  · have hf := if_f hf hc5
    obtain ⟨r7, hc6, hf⟩ := bd1_ex hf
    by_cases hc8 : r7 = v1
    · have hf := if_t hf hc8
      exact hx.trans (lq5_ex (P := fun v0 v1 v2 v3 w => Ext w w') (fun k hk v0 v1 v2 v3 w hf => mC_X0_reckons_45_x k23 hk23 k hk v0 v1 v2 v3 w hf) LF v0 v1 v2 (0 : Int32) w hf)
    · have hf := if_f hf hc8
      exact hx.trans (mC_X0_reckons_80_x k23 hk23 v0 v1 v2 w hf)
set_option maxHeartbeats 4000000 in
theorem mC_X0_reckons_2_x {w' : AH}  (k2 : Nat → Int32 → Int32 → AH → Option (AH)) (hk2 : ∀ (v0 : Nat) (v1 : Int32) (v2 : Int32) (w : AH), k2 v0 v1 v2 w = some w' → Ext w w') (v0 : Nat) (v1 : Int32) (v2 : Int32) (w : AH) (hf : mC_X0_reckons_2 k2 v0 v1 v2 w = some w') : Ext w w' := by
  unfold mC_X0_reckons_2 at hf
  have hx := Ext.refl w
  by_cases hc1 : (8 : Int32) ≤ v2
  · have hf := if_t hf hc1
    exact hx.trans (lq4_ex (P := fun v0 v1 v2 w => Ext w w') (fun k hk v0 v1 v2 w hf => mC_X0_reckons_23_x k hk v0 v1 v2 w hf) LF v0 v1 (0 : Int32) w hf)
  · have hf := if_f hf hc1
    obtain ⟨h2, hf⟩ := ck_ex hf
    obtain ⟨b3, hb4, hf⟩ := bd1_ex hf
    obtain ⟨h5, hf⟩ := ck_ex hf
    obtain ⟨w6, hs7, hf⟩ := st1_ex hf
    have hx := hx.trans (Ext.I hs7)
    exact hx.trans (hk2 v0 v1 (v2 + (1 : Int32)) w6 hf)
set_option maxHeartbeats 4000000 in
theorem mC_X0_reckons_x  (w : AH) (a : Nat) (p0 : Int32) (w' : AH) (hf : mC_X0_reckons a p0 w = some w') : Ext w w' := by
  unfold mC_X0_reckons at hf
  have hx := Ext.refl w
  exact hx.trans (lq4_ex (P := fun v0 v1 v2 w => Ext w w') (fun k hk v0 v1 v2 w hf => mC_X0_reckons_2_x k hk v0 v1 v2 w hf) LF a p0 (0 : Int32) w hf)
set_option maxHeartbeats 4000000 in
theorem mC_X0_seat_x  (w : AH) (a : Nat) (p0 : Int32) (p1 : Int32) (p2 : Int32) (p3 : Int32) (r : Int32) (w' : AH) (hf : mC_X0_seat a p0 p1 p2 p3 w = some (r, w')) : Ext w w' := by
  unfold mC_X0_seat at hf
  have hx := Ext.refl w
  obtain ⟨r2, hc1, hf⟩ := bd1_ex hf
  by_cases hc3 : r2 = (0 : Int32)
  · have hf := if_t hf hc3
    cases some_ex hf
    exact hx
  · have hf := if_f hf hc3
    obtain ⟨r5, hc4, hf⟩ := bd1_ex hf
    by_cases hc6 : r5 = (0 : Int32)
    · have hf := if_t hf hc6
      cases some_ex hf
      exact hx
    · have hf := if_f hf hc6
      obtain ⟨r8, hc7, hf⟩ := bd1_ex hf
      by_cases hc9 : r8 = (0 : Int32)
      · have hf := if_t hf hc9
        cases some_ex hf
        exact hx
      · have hf := if_f hf hc9
        obtain ⟨r11, hc10, hf⟩ := bd1_ex hf
        by_cases hc12 : r11 = (0 : Int32)
        · have hf := if_t hf hc12
          cases some_ex hf
          exact hx
        · have hf := if_f hf hc12
          obtain ⟨h13, hf⟩ := ck_ex hf
          obtain ⟨b14, hb15, hf⟩ := bd1_ex hf
          obtain ⟨h16, hf⟩ := ck_ex hf
          obtain ⟨w18, hc17, hf⟩ := bd1_ex hf
          have hx := hx.trans (mC_X6_looks_x _ _ _ _ _ hc17)
          obtain ⟨h19, hf⟩ := ck_ex hf
          obtain ⟨w21, hc20, hf⟩ := bd1_ex hf
          have hx := hx.trans (mC_X0_reckons_x _ _ _ _ hc20)
          by_cases hc22 : (8 : Int32) ≤ p3
          · have hf := if_t hf hc22
            by_cases hc23 : p3 = (8 : Int32)
            · have hf := if_t hf hc23
              obtain ⟨h30, hf⟩ := ck_ex hf
              cases some_ex hf
              exact hx
            · have hf := if_f hf hc23
              by_cases hc24 : p3 = (9 : Int32)
              · have hf := if_t hf hc24
                obtain ⟨h29, hf⟩ := ck_ex hf
                cases some_ex hf
                exact hx
              · have hf := if_f hf hc24
                obtain ⟨h25, hf⟩ := ck_ex hf
                obtain ⟨r27, hc26, hf⟩ := bd1_ex hf
                by_cases hc28 : r27 = (0 : Int32)
                · have hf := if_t hf hc28
                  cases some_ex hf
                  exact hx
                · have hf := if_f hf hc28
                  cases some_ex hf
                  exact hx
          · have hf := if_f hf hc22
            obtain ⟨h31, hf⟩ := ck_ex hf
            obtain ⟨b32, hb33, hf⟩ := bd1_ex hf
            obtain ⟨h34, hf⟩ := ck_ex hf
            cases some_ex hf
            exact hx
set_option maxHeartbeats 4000000 in
theorem mC_X0_hides_215_x {w' : AH}  (k183 : Nat → Int32 → Int32 → Int32 → AH → Option (AH)) (hk183 : ∀ (v0 : Nat) (v3 : Int32) (v4 : Int32) (v6 : Int32) (w : AH), k183 v0 v3 v4 v6 w = some w' → Ext w w') (v0 : Nat) (v3 : Int32) (v4 : Int32) (v6 : Int32) (w : AH) (hf : mC_X0_hides_215 k183 v0 v3 v4 v6 w = some w') : Ext w w' := by
  unfold mC_X0_hides_215 at hf
  have hx := Ext.refl w
  exact hx.trans (hk183 v0 v3 v4 (v6 + (1 : Int32)) w hf)
set_option maxHeartbeats 4000000 in
theorem mC_X0_hides_183_x {w' : AH}  (k183 : Nat → Int32 → Int32 → Int32 → AH → Option (AH)) (hk183 : ∀ (v0 : Nat) (v3 : Int32) (v4 : Int32) (v6 : Int32) (w : AH), k183 v0 v3 v4 v6 w = some w' → Ext w w') (v0 : Nat) (v3 : Int32) (v4 : Int32) (v6 : Int32) (w : AH) (hf : mC_X0_hides_183 k183 v0 v3 v4 v6 w = some w') : Ext w w' := by
  unfold mC_X0_hides_183 at hf
  have hx := Ext.refl w
  obtain ⟨h1, hf⟩ := ck_ex hf
  obtain ⟨b2, hb3, hf⟩ := bd1_ex hf
  obtain ⟨h4, hf⟩ := ck_ex hf
  by_cases hc5 : (hvi w b2 23) ≤ v6
  · have hf := if_t hf hc5
    cases some_ex hf
    exact hx
  · have hf := if_f hf hc5
    obtain ⟨b6, hb7, hf⟩ := bd1_ex hf
    obtain ⟨h8, hf⟩ := ck_ex hf
    by_cases hc9 : (hvi w b6 (v6.toNatClampNeg)) = v3
    · have hf := if_t hf hc9
      obtain ⟨w10, hs11, hf⟩ := st1_ex hf
      have hx := hx.trans (Ext.I hs11)
      exact hx.trans (mC_X0_hides_215_x k183 hk183 v0 v3 v4 v6 w10 hf)
    · have hf := if_f hf hc9
      exact hx.trans (mC_X0_hides_215_x k183 hk183 v0 v3 v4 v6 w hf)
set_option maxHeartbeats 4000000 in
theorem mC_X0_hides_162_x {w' : AH}  (k11 : Nat → Int32 → Int32 → Int32 → Int32 → Int32 → Int32 → AH → Option (AH)) (hk11 : ∀ (v0 : Nat) (v1 : Int32) (v2 : Int32) (v3 : Int32) (v4 : Int32) (v5 : Int32) (v6 : Int32) (w : AH), k11 v0 v1 v2 v3 v4 v5 v6 w = some w' → Ext w w') (v0 : Nat) (v1 : Int32) (v2 : Int32) (v3 : Int32) (v4 : Int32) (v5 : Int32) (v6 : Int32) (w : AH) (hf : mC_X0_hides_162 k11 v0 v1 v2 v3 v4 v5 v6 w = some w') : Ext w w' := by
  unfold mC_X0_hides_162 at hf
  have hx := Ext.refl w
  exact hx.trans (hk11 v0 v1 v2 v3 v4 v5 (v6 + (1 : Int32)) w hf)
set_option maxHeartbeats 4000000 in
theorem mC_X0_hides_105_x {w' : AH}  (k11 : Nat → Int32 → Int32 → Int32 → Int32 → Int32 → Int32 → AH → Option (AH)) (hk11 : ∀ (v0 : Nat) (v1 : Int32) (v2 : Int32) (v3 : Int32) (v4 : Int32) (v5 : Int32) (v6 : Int32) (w : AH), k11 v0 v1 v2 v3 v4 v5 v6 w = some w' → Ext w w') (k105 : Nat → Int32 → Int32 → Int32 → Int32 → Int32 → Int32 → Int32 → AH → Option (AH)) (hk105 : ∀ (v0 : Nat) (v1 : Int32) (v2 : Int32) (v3 : Int32) (v4 : Int32) (v5 : Int32) (v6 : Int32) (v7 : Int32) (w : AH), k105 v0 v1 v2 v3 v4 v5 v6 v7 w = some w' → Ext w w') (v0 : Nat) (v1 : Int32) (v2 : Int32) (v3 : Int32) (v4 : Int32) (v5 : Int32) (v6 : Int32) (v7 : Int32) (w : AH) (hf : mC_X0_hides_105 k11 k105 v0 v1 v2 v3 v4 v5 v6 v7 w = some w') : Ext w w' := by
  unfold mC_X0_hides_105 at hf
  have hx := Ext.refl w
  by_cases hc1 : (8 : Int32) ≤ v7
  · have hf := if_t hf hc1
    obtain ⟨h2, hf⟩ := ck_ex hf
    obtain ⟨r4, hc3, hf⟩ := bd1_ex hf
    by_cases hc5 : r4 = (0 : Int32)
    · have hf := if_t hf hc5
      exact hx.trans (mC_X0_hides_162_x k11 hk11 v0 v1 v2 v3 v4 v5 v6 w hf)
    · have hf := if_f hf hc5
      exact hx.trans (mC_X0_hides_162_x k11 hk11 v0 v1 v2 (-1 : Int32) v3 v5 v6 w hf)
  · have hf := if_f hf hc1
    obtain ⟨h6, hf⟩ := ck_ex hf
    obtain ⟨b7, hb8, hf⟩ := bd1_ex hf
    obtain ⟨h9, hf⟩ := ck_ex hf
    obtain ⟨b10, hb11, hf⟩ := bd1_ex hf
    obtain ⟨h12, hf⟩ := ck_ex hf
    obtain ⟨b13, hb14, hf⟩ := bd1_ex hf
    obtain ⟨h15, hf⟩ := ck_ex hf
    obtain ⟨w16, hs17, hf⟩ := st1_ex hf
    have hx := hx.trans (Ext.I hs17)
    exact hx.trans (hk105 v0 v1 v2 v3 v4 v5 v6 (v7 + (1 : Int32)) w16 hf)
set_option maxHeartbeats 4000000 in
theorem mC_X0_hides_79_x {w' : AH}  (k11 : Nat → Int32 → Int32 → Int32 → Int32 → Int32 → Int32 → AH → Option (AH)) (hk11 : ∀ (v0 : Nat) (v1 : Int32) (v2 : Int32) (v3 : Int32) (v4 : Int32) (v5 : Int32) (v6 : Int32) (w : AH), k11 v0 v1 v2 v3 v4 v5 v6 w = some w' → Ext w w') (v0 : Nat) (v1 : Int32) (v2 : Int32) (v3 : Int32) (v4 : Int32) (v5 : Int32) (v6 : Int32) (w : AH) (hf : mC_X0_hides_79 k11 v0 v1 v2 v3 v4 v5 v6 w = some w') : Ext w w' := by
  unfold mC_X0_hides_79 at hf
  have hx := Ext.refl w
  obtain ⟨h1, hf⟩ := ck_ex hf
  obtain ⟨b2, hb3, hf⟩ := bd1_ex hf
  obtain ⟨h4, hf⟩ := ck_ex hf
  obtain ⟨w5, hs6, hf⟩ := st1_ex hf
  have hx := hx.trans (Ext.I hs6)
  obtain ⟨h7, hf⟩ := ck_ex hf
  obtain ⟨b8, hb9, hf⟩ := bd1_ex hf
  obtain ⟨h10, hf⟩ := ck_ex hf
  obtain ⟨b11, hb12, hf⟩ := bd1_ex hf
  obtain ⟨h13, hf⟩ := ck_ex hf
  exact hx.trans (lq9_ex (P := fun v0 v1 v2 v3 v4 v5 v6 v7 w => Ext w w') (fun k hk v0 v1 v2 v3 v4 v5 v6 v7 w hf => mC_X0_hides_105_x k11 hk11 k hk v0 v1 v2 v3 v4 v5 v6 v7 w hf) LF v0 v1 v2 v3 v4 (v5 + (hvi w5 b11 (v6.toNatClampNeg))) v6 (0 : Int32) w5 hf)
set_option maxHeartbeats 4000000 in
theorem mC_X0_hides_58_x {w' : AH}  (k11 : Nat → Int32 → Int32 → Int32 → Int32 → Int32 → Int32 → AH → Option (AH)) (hk11 : ∀ (v0 : Nat) (v1 : Int32) (v2 : Int32) (v3 : Int32) (v4 : Int32) (v5 : Int32) (v6 : Int32) (w : AH), k11 v0 v1 v2 v3 v4 v5 v6 w = some w' → Ext w w') (k58 : Nat → Int32 → Int32 → Int32 → Int32 → Int32 → Int32 → Int32 → AH → Option (AH)) (hk58 : ∀ (v0 : Nat) (v1 : Int32) (v2 : Int32) (v3 : Int32) (v4 : Int32) (v5 : Int32) (v6 : Int32) (v7 : Int32) (w : AH), k58 v0 v1 v2 v3 v4 v5 v6 v7 w = some w' → Ext w w') (v0 : Nat) (v1 : Int32) (v2 : Int32) (v3 : Int32) (v4 : Int32) (v5 : Int32) (v6 : Int32) (v7 : Int32) (w : AH) (hf : mC_X0_hides_58 k11 k58 v0 v1 v2 v3 v4 v5 v6 v7 w = some w') : Ext w w' := by
  unfold mC_X0_hides_58 at hf
  have hx := Ext.refl w
  by_cases hc1 : (8 : Int32) ≤ v7
  · have hf := if_t hf hc1
    exact hx.trans (mC_X0_hides_79_x k11 hk11 v0 v1 v2 v3 v4 v5 v6 w hf)
  · have hf := if_f hf hc1
    obtain ⟨h2, hf⟩ := ck_ex hf
    obtain ⟨b3, hb4, hf⟩ := bd1_ex hf
    obtain ⟨h5, hf⟩ := ck_ex hf
    obtain ⟨w6, hs7, hf⟩ := st1_ex hf
    have hx := hx.trans (Ext.I hs7)
    exact hx.trans (hk58 v0 v1 v2 v3 v4 v5 v6 (v7 + (1 : Int32)) w6 hf)
set_option maxHeartbeats 4000000 in
theorem mC_X0_hides_11_x {w' : AH}  (k11 : Nat → Int32 → Int32 → Int32 → Int32 → Int32 → Int32 → AH → Option (AH)) (hk11 : ∀ (v0 : Nat) (v1 : Int32) (v2 : Int32) (v3 : Int32) (v4 : Int32) (v5 : Int32) (v6 : Int32) (w : AH), k11 v0 v1 v2 v3 v4 v5 v6 w = some w' → Ext w w') (v0 : Nat) (v1 : Int32) (v2 : Int32) (v3 : Int32) (v4 : Int32) (v5 : Int32) (v6 : Int32) (w : AH) (hf : mC_X0_hides_11 k11 v0 v1 v2 v3 v4 v5 v6 w = some w') : Ext w w' := by
  unfold mC_X0_hides_11 at hf
  have hx := Ext.refl w
  obtain ⟨h1, hf⟩ := ck_ex hf
  obtain ⟨b2, hb3, hf⟩ := bd1_ex hf
  obtain ⟨h4, hf⟩ := ck_ex hf
  by_cases hc5 : (hvi w b2 23) ≤ v6
  · have hf := if_t hf hc5
    by_cases hc6 : v3 = (-1 : Int32)
    · have hf := if_t hf hc6
      cases some_ex hf
      exact hx
    · have hf := if_f hf hc6
      by_cases hc7 : v4 = (-1 : Int32)
      · have hf := if_t hf hc7
        cases some_ex hf
        exact hx
      · have hf := if_f hf hc7
        exact hx.trans (lq5_ex (P := fun v0 v3 v4 v6 w => Ext w w') (fun k hk v0 v3 v4 v6 w hf => mC_X0_hides_183_x k hk v0 v3 v4 v6 w hf) LF v0 v3 v4 (0 : Int32) w hf)
  · have hf := if_f hf hc5
    obtain ⟨b8, hb9, hf⟩ := bd1_ex hf
    obtain ⟨h10, hf⟩ := ck_ex hf
    obtain ⟨w11, hs12, hf⟩ := st1_ex hf
    have hx := hx.trans (Ext.I hs12)
    obtain ⟨h13, hf⟩ := ck_ex hf
    obtain ⟨r15, hc14, hf⟩ := bd1_ex hf
    by_cases hc16 : r15 = v1
    · have hf := if_t hf hc16
      by_cases hc17 : v3 = (-1 : Int32)
      · have hf := if_t hf hc17
        exact hx.trans (lq9_ex (P := fun v0 v1 v2 v3 v4 v5 v6 v7 w => Ext w w') (fun k hk v0 v1 v2 v3 v4 v5 v6 v7 w hf => mC_X0_hides_58_x k11 hk11 k hk v0 v1 v2 v3 v4 v5 v6 v7 w hf) LF v0 v1 v2 v6 v4 (0 : Int32) v6 (0 : Int32) w11 hf)
      · have hf := if_f hf hc17
        exact hx.trans (mC_X0_hides_79_x k11 hk11 v0 v1 v2 v3 v4 v5 v6 w11 hf)
    · have hf := if_f hf hc16
      exact hx.trans (mC_X0_hides_162_x k11 hk11 v0 v1 v2 v3 v4 v5 v6 w11 hf)
set_option maxHeartbeats 4000000 in
theorem mC_X0_hides_x  (w : AH) (a : Nat) (p0 : Int32) (p1 : Int32) (w' : AH) (hf : mC_X0_hides a p0 p1 w = some w') : Ext w w' := by
  unfold mC_X0_hides at hf
  have hx := Ext.refl w
  exact hx.trans (lq8_ex (P := fun v0 v1 v2 v3 v4 v5 v6 w => Ext w w') (fun k hk v0 v1 v2 v3 v4 v5 v6 w hf => mC_X0_hides_11_x k hk v0 v1 v2 v3 v4 v5 v6 w hf) LF a p0 p1 (-1 : Int32) (-1 : Int32) (0 : Int32) (0 : Int32) w hf)
set_option maxHeartbeats 4000000 in
theorem mC_X0_hidden_143_x {r : Int32} {w' : AH}  (k75 : Nat → Int32 → Int32 → Int32 → Int32 → Int32 → AH → Option (Int32 × AH)) (hk75 : ∀ (v0 : Nat) (v1 : Int32) (v2 : Int32) (v5 : Int32) (v6 : Int32) (v7 : Int32) (w : AH), k75 v0 v1 v2 v5 v6 v7 w = some (r, w') → Ext w w') (v0 : Nat) (v1 : Int32) (v2 : Int32) (v5 : Int32) (v6 : Int32) (v7 : Int32) (w : AH) (hf : mC_X0_hidden_143 k75 v0 v1 v2 v5 v6 v7 w = some (r, w')) : Ext w w' := by
  unfold mC_X0_hidden_143 at hf
  have hx := Ext.refl w
  exact hx.trans (hk75 v0 v1 v2 v5 v6 (v7 + (1 : Int32)) w hf)
set_option maxHeartbeats 4000000 in
theorem mC_X0_hidden_140_x {r : Int32} {w' : AH}  (k75 : Nat → Int32 → Int32 → Int32 → Int32 → Int32 → AH → Option (Int32 × AH)) (hk75 : ∀ (v0 : Nat) (v1 : Int32) (v2 : Int32) (v5 : Int32) (v6 : Int32) (v7 : Int32) (w : AH), k75 v0 v1 v2 v5 v6 v7 w = some (r, w') → Ext w w') (v0 : Nat) (v1 : Int32) (v2 : Int32) (v5 : Int32) (v7 : Int32) (t0 : Int32) (t1 : Int32) (w : AH) (hf : mC_X0_hidden_140 k75 v0 v1 v2 v5 v7 t0 t1 w = some (r, w')) : Ext w w' := by
  unfold mC_X0_hidden_140 at hf
  have hx := Ext.refl w
  exact hx.trans (mC_X0_hidden_143_x k75 hk75 v0 v1 v2 v5 (t1 + t0) v7 w hf)
set_option maxHeartbeats 4000000 in
theorem mC_X0_hidden_75_x {r : Int32} {w' : AH}  (k75 : Nat → Int32 → Int32 → Int32 → Int32 → Int32 → AH → Option (Int32 × AH)) (hk75 : ∀ (v0 : Nat) (v1 : Int32) (v2 : Int32) (v5 : Int32) (v6 : Int32) (v7 : Int32) (w : AH), k75 v0 v1 v2 v5 v6 v7 w = some (r, w') → Ext w w') (v0 : Nat) (v1 : Int32) (v2 : Int32) (v5 : Int32) (v6 : Int32) (v7 : Int32) (w : AH) (hf : mC_X0_hidden_75 k75 v0 v1 v2 v5 v6 v7 w = some (r, w')) : Ext w w' := by
  unfold mC_X0_hidden_75 at hf
  have hx := Ext.refl w
  obtain ⟨h1, hf⟩ := ck_ex hf
  obtain ⟨b2, hb3, hf⟩ := bd1_ex hf
  obtain ⟨h4, hf⟩ := ck_ex hf
  by_cases hc5 : (hvi w b2 23) ≤ v7
  · have hf := if_t hf hc5
    cases some_ex hf
    exact hx
  · have hf := if_f hf hc5
    obtain ⟨b6, hb7, hf⟩ := bd1_ex hf
    obtain ⟨h8, hf⟩ := ck_ex hf
    by_cases hc9 : (hvi w b6 (v7.toNatClampNeg)) = (-1 : Int32)
    · have hf := if_t hf hc9
      exact hx.trans (mC_X0_hidden_143_x k75 hk75 v0 v1 v2 v5 v6 v7 w hf)
    · have hf := if_f hf hc9
      obtain ⟨h10, hf⟩ := ck_ex hf
      by_cases hc11 : (hvi w b6 (v7.toNatClampNeg)) = (hvi w b6 (v1.toNatClampNeg))
      · have hf := if_t hf hc11
        by_cases hc12 : v5 = (0 : Int32)
        · have hf := if_t hf hc12
          obtain ⟨b13, hb14, hf⟩ := bd1_ex hf
          obtain ⟨h15, hf⟩ := ck_ex hf
          obtain ⟨b16, hb17, hf⟩ := bd1_ex hf
          obtain ⟨h18, hf⟩ := ck_ex hf
          exact hx.trans (mC_X0_hidden_140_x k75 hk75 v0 v1 v2 v5 v7 (hvi w b16 ((((8 : Int32) * v7) + v2).toNatClampNeg)) v6 w hf)
        · have hf := if_f hf hc12
          exact hx.trans (mC_X0_hidden_140_x k75 hk75 v0 v1 v2 v5 v7 (1 : Int32) v6 w hf)
      · have hf := if_f hf hc11
        exact hx.trans (mC_X0_hidden_143_x k75 hk75 v0 v1 v2 v5 v6 v7 w hf)
set_option maxHeartbeats 4000000 in
theorem mC_X0_hidden_x  (w : AH) (a : Nat) (p0 : Int32) (p1 : Int32) (p2 : Int32) (p3 : Int32) (p4 : Int32) (r : Int32) (w' : AH) (hf : mC_X0_hidden a p0 p1 p2 p3 p4 w = some (r, w')) : Ext w w' := by
  unfold mC_X0_hidden at hf
  have hx := Ext.refl w
  obtain ⟨h1, hf⟩ := ck_ex hf
  obtain ⟨r3, hc2, hf⟩ := bd1_ex hf
  by_cases hc4 : r3 = (0 : Int32)
  · have hf := if_t hf hc4
    cases some_ex hf
    exact hx
  · have hf := if_f hf hc4
    obtain ⟨r6, hc5, hf⟩ := bd1_ex hf
    by_cases hc7 : r6 = (0 : Int32)
    · have hf := if_t hf hc7
      cases some_ex hf
      exact hx
    · have hf := if_f hf hc7
      obtain ⟨r9, hc8, hf⟩ := bd1_ex hf
      by_cases hc10 : r9 = (0 : Int32)
      · have hf := if_t hf hc10
        cases some_ex hf
        exact hx
      · have hf := if_f hf hc10
        obtain ⟨r12, hc11, hf⟩ := bd1_ex hf
        by_cases hc13 : r12 = (0 : Int32)
        · have hf := if_t hf hc13
          cases some_ex hf
          exact hx
        · have hf := if_f hf hc13
          obtain ⟨r15, hc14, hf⟩ := bd1_ex hf
          by_cases hc16 : r15 = (0 : Int32)
          · have hf := if_t hf hc16
            cases some_ex hf
            exact hx
          · have hf := if_f hf hc16
            obtain ⟨b17, hb18, hf⟩ := bd1_ex hf
            obtain ⟨h19, hf⟩ := ck_ex hf
            obtain ⟨w21, hc20, hf⟩ := bd1_ex hf
            have hx := hx.trans (mC_X6_looks_x _ _ _ _ _ hc20)
            obtain ⟨h22, hf⟩ := ck_ex hf
            obtain ⟨r24, hc23, hf⟩ := bd1_ex hf
            obtain ⟨r26, w27, hc25, hf⟩ := bd2_ex hf
            have hx := hx.trans (mC_X0_fewOn_x _ _ _ _ _ hc25)
            obtain ⟨h28, hf⟩ := ck_ex hf
            obtain ⟨w30, hc29, hf⟩ := bd1_ex hf
            have hx := hx.trans (mC_X0_hides_x _ _ _ _ _ hc29)
            exact hx.trans (lq7_ex (P := fun v0 v1 v2 v5 v6 v7 w => Ext w w') (fun k hk v0 v1 v2 v5 v6 v7 w hf => mC_X0_hidden_75_x k hk v0 v1 v2 v5 v6 v7 w hf) LF a p0 p1 p4 (0 : Int32) (0 : Int32) w30 hf)
set_option maxHeartbeats 4000000 in
theorem mC_X0_shares_296_x {r : Int32} {w' : AH}  (k227 : Nat → Int32 → Int32 → Int32 → AH → Option (Int32 × AH)) (hk227 : ∀ (v0 : Nat) (v2 : Int32) (v7 : Int32) (v8 : Int32) (w : AH), k227 v0 v2 v7 v8 w = some (r, w') → Ext w w') (v0 : Nat) (v2 : Int32) (v7 : Int32) (t0 : Int32) (t1 : Int32) (w : AH) (hf : mC_X0_shares_296 k227 v0 v2 v7 t0 t1 w = some (r, w')) : Ext w w' := by
  unfold mC_X0_shares_296 at hf
  have hx := Ext.refl w
  exact hx.trans (hk227 v0 v2 (v7 + (-1 : Int32)) (t1 + t0) w hf)
set_option maxHeartbeats 4000000 in
theorem mC_X0_shares_267_x {r : Int32} {w' : AH}  (k238 : Nat → Int32 → Int32 → Int32 → Int32 → Int32 → AH → Option (Int32 × AH)) (hk238 : ∀ (v0 : Nat) (v2 : Int32) (v7 : Int32) (v8 : Int32) (v9 : Int32) (v10 : Int32) (w : AH), k238 v0 v2 v7 v8 v9 v10 w = some (r, w') → Ext w w') (v0 : Nat) (v2 : Int32) (v7 : Int32) (v8 : Int32) (v9 : Int32) (v10 : Int32) (w : AH) (hf : mC_X0_shares_267 k238 v0 v2 v7 v8 v9 v10 w = some (r, w')) : Ext w w' := by
  unfold mC_X0_shares_267 at hf
  have hx := Ext.refl w
  exact hx.trans (hk238 v0 v2 v7 v8 v9 (v10 + (1 : Int32)) w hf)
set_option maxHeartbeats 4000000 in
theorem mC_X0_shares_238_x {r : Int32} {w' : AH}  (k227 : Nat → Int32 → Int32 → Int32 → AH → Option (Int32 × AH)) (hk227 : ∀ (v0 : Nat) (v2 : Int32) (v7 : Int32) (v8 : Int32) (w : AH), k227 v0 v2 v7 v8 w = some (r, w') → Ext w w') (k238 : Nat → Int32 → Int32 → Int32 → Int32 → Int32 → AH → Option (Int32 × AH)) (hk238 : ∀ (v0 : Nat) (v2 : Int32) (v7 : Int32) (v8 : Int32) (v9 : Int32) (v10 : Int32) (w : AH), k238 v0 v2 v7 v8 v9 v10 w = some (r, w') → Ext w w') (v0 : Nat) (v2 : Int32) (v7 : Int32) (v8 : Int32) (v9 : Int32) (v10 : Int32) (w : AH) (hf : mC_X0_shares_238 k227 k238 v0 v2 v7 v8 v9 v10 w = some (r, w')) : Ext w w' := by
  unfold mC_X0_shares_238 at hf
  have hx := Ext.refl w
  by_cases hc1 : (8 : Int32) ≤ v10
  · have hf := if_t hf hc1
    obtain ⟨h2, hf⟩ := ck_ex hf
    obtain ⟨b3, hb4, hf⟩ := bd1_ex hf
    obtain ⟨h5, hf⟩ := ck_ex hf
    obtain ⟨w6, hs7, hf⟩ := st1_ex hf
    have hx := hx.trans (Ext.L hs7)
    by_cases hc8 : v9 = v2
    · have hf := if_t hf hc8
      exact hx.trans (mC_X0_shares_296_x k227 hk227 v0 v2 v7 (1 : Int32) v8 w6 hf)
    · have hf := if_f hf hc8
      exact hx.trans (mC_X0_shares_296_x k227 hk227 v0 v2 v7 (0 : Int32) v8 w6 hf)
  · have hf := if_f hf hc1
    obtain ⟨h9, hf⟩ := ck_ex hf
    obtain ⟨b10, hb11, hf⟩ := bd1_ex hf
    obtain ⟨h12, hf⟩ := ck_ex hf
    obtain ⟨h13, hf⟩ := ck_ex hf
    by_cases hc14 : (hvl w b10 (v10.toNatClampNeg)) ≤ (hvl w b10 (v9.toNatClampNeg))
    · have hf := if_t hf hc14
      exact hx.trans (mC_X0_shares_267_x k238 hk238 v0 v2 v7 v8 v9 v10 w hf)
    · have hf := if_f hf hc14
      exact hx.trans (mC_X0_shares_267_x k238 hk238 v0 v2 v7 v8 v10 v10 w hf)
set_option maxHeartbeats 4000000 in
theorem mC_X0_shares_227_x {r : Int32} {w' : AH}  (k227 : Nat → Int32 → Int32 → Int32 → AH → Option (Int32 × AH)) (hk227 : ∀ (v0 : Nat) (v2 : Int32) (v7 : Int32) (v8 : Int32) (w : AH), k227 v0 v2 v7 v8 w = some (r, w') → Ext w w') (v0 : Nat) (v2 : Int32) (v7 : Int32) (v8 : Int32) (w : AH) (hf : mC_X0_shares_227 k227 v0 v2 v7 v8 w = some (r, w')) : Ext w w' := by
  unfold mC_X0_shares_227 at hf
  have hx := Ext.refl w
  by_cases hc1 : v7 ≤ (0 : Int32)
  · have hf := if_t hf hc1
    cases some_ex hf
    exact hx
  · have hf := if_f hf hc1
    exact hx.trans (lq7_ex (P := fun v0 v2 v7 v8 v9 v10 w => Ext w w') (fun k hk v0 v2 v7 v8 v9 v10 w hf => mC_X0_shares_238_x k227 hk227 k hk v0 v2 v7 v8 v9 v10 w hf) LF v0 v2 v7 v8 (0 : Int32) (1 : Int32) w hf)
set_option maxHeartbeats 4000000 in
theorem mC_X0_shares_218_x {r : Int32} {w' : AH}  (k152 : Nat → Int32 → Int32 → Int64 → Int32 → Int32 → Int32 → AH → Option (Int32 × AH)) (hk152 : ∀ (v0 : Nat) (v1 : Int32) (v2 : Int32) (v5 : Int64) (v7 : Int32) (v8 : Int32) (v9 : Int32) (w : AH), k152 v0 v1 v2 v5 v7 v8 v9 w = some (r, w') → Ext w w') (v0 : Nat) (v1 : Int32) (v2 : Int32) (v5 : Int64) (v7 : Int32) (v9 : Int32) (t0 : Int32) (t1 : Int32) (w : AH) (hf : mC_X0_shares_218 k152 v0 v1 v2 v5 v7 v9 t0 t1 w = some (r, w')) : Ext w w' := by
  unfold mC_X0_shares_218 at hf
  have hx := Ext.refl w
  exact hx.trans (hk152 v0 v1 v2 v5 v7 (t1 + t0) (v9 + (1 : Int32)) w hf)
set_option maxHeartbeats 4000000 in
theorem mC_X0_shares_152_x {r : Int32} {w' : AH}  (k152 : Nat → Int32 → Int32 → Int64 → Int32 → Int32 → Int32 → AH → Option (Int32 × AH)) (hk152 : ∀ (v0 : Nat) (v1 : Int32) (v2 : Int32) (v5 : Int64) (v7 : Int32) (v8 : Int32) (v9 : Int32) (w : AH), k152 v0 v1 v2 v5 v7 v8 v9 w = some (r, w') → Ext w w') (v0 : Nat) (v1 : Int32) (v2 : Int32) (v5 : Int64) (v7 : Int32) (v8 : Int32) (v9 : Int32) (w : AH) (hf : mC_X0_shares_152 k152 v0 v1 v2 v5 v7 v8 v9 w = some (r, w')) : Ext w w' := by
  unfold mC_X0_shares_152 at hf
  have hx := Ext.refl w
  by_cases hc1 : (8 : Int32) ≤ v9
  · have hf := if_t hf hc1
    exact hx.trans (lq5_ex (P := fun v0 v2 v7 v8 w => Ext w w') (fun k hk v0 v2 v7 v8 w hf => mC_X0_shares_227_x k hk v0 v2 v7 v8 w hf) LF v0 v2 v7 v8 w hf)
  · have hf := if_f hf hc1
    obtain ⟨h2, hf⟩ := ck_ex hf
    obtain ⟨b3, hb4, hf⟩ := bd1_ex hf
    obtain ⟨h5, hf⟩ := ck_ex hf
    obtain ⟨hz6, hf⟩ := nzL_ex hf
    obtain ⟨b7, hb8, hf⟩ := bd1_ex hf
    obtain ⟨hz9, hf⟩ := nzL_ex hf
    obtain ⟨h10, hf⟩ := ck_ex hf
    obtain ⟨w11, hs12, hf⟩ := st1_ex hf
    have hx := hx.trans (Ext.L hs12)
    by_cases hc13 : v9 = v2
    · have hf := if_t hf hc13
      exact hx.trans (mC_X0_shares_218_x k152 hk152 v0 v1 v2 v5 (v7 - ((v1.toInt64 * (hvi w b3 (v9.toNatClampNeg)).toInt64) / v5).toInt32) v9 (((v1.toInt64 * (hvi w b3 (v9.toNatClampNeg)).toInt64) / v5).toInt32) v8 w11 hf)
    · have hf := if_f hf hc13
      exact hx.trans (mC_X0_shares_218_x k152 hk152 v0 v1 v2 v5 (v7 - ((v1.toInt64 * (hvi w b3 (v9.toNatClampNeg)).toInt64) / v5).toInt32) v9 (0 : Int32) v8 w11 hf)
set_option maxHeartbeats 4000000 in
theorem mC_X0_shares_71_x {r : Int32} {w' : AH}  (k53 : Nat → Int32 → Int32 → Int64 → Int32 → AH → Option (Int32 × AH)) (hk53 : ∀ (v0 : Nat) (v1 : Int32) (v2 : Int32) (v5 : Int64) (v7 : Int32) (w : AH), k53 v0 v1 v2 v5 v7 w = some (r, w') → Ext w w') (k71 : Nat → Int32 → Int32 → Int64 → Int32 → Int32 → AH → Option (Int32 × AH)) (hk71 : ∀ (v0 : Nat) (v1 : Int32) (v2 : Int32) (v5 : Int64) (v7 : Int32) (v8 : Int32) (w : AH), k71 v0 v1 v2 v5 v7 v8 w = some (r, w') → Ext w w') (v0 : Nat) (v1 : Int32) (v2 : Int32) (v5 : Int64) (v7 : Int32) (v8 : Int32) (w : AH) (hf : mC_X0_shares_71 k53 k71 v0 v1 v2 v5 v7 v8 w = some (r, w')) : Ext w w' := by
  unfold mC_X0_shares_71 at hf
  have hx := Ext.refl w
  obtain ⟨h1, hf⟩ := ck_ex hf
  obtain ⟨b2, hb3, hf⟩ := bd1_ex hf
  obtain ⟨h4, hf⟩ := ck_ex hf
  by_cases hc5 : (hvi w b2 23) ≤ v8
  · have hf := if_t hf hc5
    obtain ⟨b6, hb7, hf⟩ := bd1_ex hf
    obtain ⟨h8, hf⟩ := ck_ex hf
    exact hx.trans (hk53 v0 v1 v2 (v5 + (hvi w b6 (v7.toNatClampNeg)).toInt64) (v7 + (1 : Int32)) w hf)
  · have hf := if_f hf hc5
    obtain ⟨b9, hb10, hf⟩ := bd1_ex hf
    obtain ⟨h11, hf⟩ := ck_ex hf
    obtain ⟨b12, hb13, hf⟩ := bd1_ex hf
    obtain ⟨h14, hf⟩ := ck_ex hf
    obtain ⟨b15, hb16, hf⟩ := bd1_ex hf
    obtain ⟨h17, hf⟩ := ck_ex hf
    obtain ⟨w18, hs19, hf⟩ := st1_ex hf
    have hx := hx.trans (Ext.I hs19)
    exact hx.trans (hk71 v0 v1 v2 v5 v7 (v8 + (1 : Int32)) w18 hf)
set_option maxHeartbeats 4000000 in
theorem mC_X0_shares_53_x {r : Int32} {w' : AH}  (k53 : Nat → Int32 → Int32 → Int64 → Int32 → AH → Option (Int32 × AH)) (hk53 : ∀ (v0 : Nat) (v1 : Int32) (v2 : Int32) (v5 : Int64) (v7 : Int32) (w : AH), k53 v0 v1 v2 v5 v7 w = some (r, w') → Ext w w') (v0 : Nat) (v1 : Int32) (v2 : Int32) (v5 : Int64) (v7 : Int32) (w : AH) (hf : mC_X0_shares_53 k53 v0 v1 v2 v5 v7 w = some (r, w')) : Ext w w' := by
  unfold mC_X0_shares_53 at hf
  have hx := Ext.refl w
  by_cases hc1 : (8 : Int32) ≤ v7
  · have hf := if_t hf hc1
    by_cases hc2 : v5 = (0 : Int64)
    · have hf := if_t hf hc2
      cases some_ex hf
      exact hx
    · have hf := if_f hf hc2
      exact hx.trans (lq8_ex (P := fun v0 v1 v2 v5 v7 v8 v9 w => Ext w w') (fun k hk v0 v1 v2 v5 v7 v8 v9 w hf => mC_X0_shares_152_x k hk v0 v1 v2 v5 v7 v8 v9 w hf) LF v0 v1 v2 v5 v1 (0 : Int32) (0 : Int32) w hf)
  · have hf := if_f hf hc1
    obtain ⟨h3, hf⟩ := ck_ex hf
    obtain ⟨b4, hb5, hf⟩ := bd1_ex hf
    obtain ⟨h6, hf⟩ := ck_ex hf
    obtain ⟨w7, hs8, hf⟩ := st1_ex hf
    have hx := hx.trans (Ext.I hs8)
    exact hx.trans (lq7_ex (P := fun v0 v1 v2 v5 v7 v8 w => Ext w w') (fun k hk v0 v1 v2 v5 v7 v8 w hf => mC_X0_shares_71_x k53 hk53 k hk v0 v1 v2 v5 v7 v8 w hf) LF v0 v1 v2 v5 v7 (0 : Int32) w7 hf)
set_option maxHeartbeats 4000000 in
theorem mC_X0_shares_x  (w : AH) (a : Nat) (p0 : Int32) (p1 : Int32) (p2 : Int32) (p3 : Int32) (r : Int32) (w' : AH) (hf : mC_X0_shares a p0 p1 p2 p3 w = some (r, w')) : Ext w w' := by
  unfold mC_X0_shares at hf
  have hx := Ext.refl w
  obtain ⟨r2, hc1, hf⟩ := bd1_ex hf
  by_cases hc3 : r2 = (0 : Int32)
  · have hf := if_t hf hc3
    cases some_ex hf
    exact hx
  · have hf := if_f hf hc3
    obtain ⟨r5, hc4, hf⟩ := bd1_ex hf
    by_cases hc6 : r5 = (0 : Int32)
    · have hf := if_t hf hc6
      cases some_ex hf
      exact hx
    · have hf := if_f hf hc6
      obtain ⟨r8, hc7, hf⟩ := bd1_ex hf
      by_cases hc9 : r8 = (0 : Int32)
      · have hf := if_t hf hc9
        cases some_ex hf
        exact hx
      · have hf := if_f hf hc9
        obtain ⟨r11, hc10, hf⟩ := bd1_ex hf
        by_cases hc12 : r11 = (0 : Int32)
        · have hf := if_t hf hc12
          cases some_ex hf
          exact hx
        · have hf := if_f hf hc12
          obtain ⟨h13, hf⟩ := ck_ex hf
          obtain ⟨b14, hb15, hf⟩ := bd1_ex hf
          obtain ⟨h16, hf⟩ := ck_ex hf
          obtain ⟨w18, hc17, hf⟩ := bd1_ex hf
          have hx := hx.trans (mC_X6_looks_x _ _ _ _ _ hc17)
          exact hx.trans (lq6_ex (P := fun v0 v1 v2 v5 v7 w => Ext w w') (fun k hk v0 v1 v2 v5 v7 w hf => mC_X0_shares_53_x k hk v0 v1 v2 v5 v7 w hf) LF a p0 p1 (0 : Int64) (0 : Int32) w18 hf)
set_option maxHeartbeats 4000000 in
theorem mC_X0_terms_20_x {r : Int32} {w' : AH}  (v0 : Nat) (w : AH) (hf : mC_X0_terms_20 v0 w = some (r, w')) : Ext w w' := by
  unfold mC_X0_terms_20 at hf
  have hx := Ext.refl w
  obtain ⟨h1, hf⟩ := ck_ex hf
  obtain ⟨r3, w4, hc2, hf⟩ := bd2_ex hf
  have hx := hx.trans (mC_X0_refuse_x _ _ _ _ _ hc2)
  cases some_ex hf
  exact hx
set_option maxHeartbeats 4000000 in
theorem mC_X0_terms_x  (w : AH) (a : Nat) (p0 : Int32) (p1 : Int32) (r : Int32) (w' : AH) (hf : mC_X0_terms a p0 p1 w = some (r, w')) : Ext w w' := by
  unfold mC_X0_terms at hf
  have hx := Ext.refl w
  obtain ⟨r2, hc1, hf⟩ := bd1_ex hf
  by_cases hc3 : r2 = (0 : Int32)
  · have hf := if_t hf hc3
    exact hx.trans (mC_X0_terms_20_x a w hf)
  · have hf := if_f hf hc3
    obtain ⟨r5, hc4, hf⟩ := bd1_ex hf
    by_cases hc6 : r5 = (0 : Int32)
    · have hf := if_t hf hc6
      exact hx.trans (mC_X0_terms_20_x a w hf)
    · have hf := if_f hf hc6
      obtain ⟨h7, hf⟩ := ck_ex hf
      obtain ⟨b8, hb9, hf⟩ := bd1_ex hf
      obtain ⟨h10, hf⟩ := ck_ex hf
      obtain ⟨w11, hs12, hf⟩ := st1_ex hf
      have hx := hx.trans (Ext.I hs12)
      obtain ⟨h13, hf⟩ := ck_ex hf
      obtain ⟨b14, hb15, hf⟩ := bd1_ex hf
      obtain ⟨h16, hf⟩ := ck_ex hf
      obtain ⟨w17, hs18, hf⟩ := st1_ex hf
      have hx := hx.trans (Ext.I hs18)
      obtain ⟨h19, hf⟩ := ck_ex hf
      obtain ⟨r21, w22, hc20, hf⟩ := bd2_ex hf
      have hx := hx.trans (mC_X0_done_x _ _ _ _ _ hc20)
      cases some_ex hf
      exact hx
set_option maxHeartbeats 4000000 in
theorem mC_X0_span_18_x {r : Int32} {w' : AH}  (v0 : Nat) (w : AH) (hf : mC_X0_span_18 v0 w = some (r, w')) : Ext w w' := by
  unfold mC_X0_span_18 at hf
  have hx := Ext.refl w
  obtain ⟨h1, hf⟩ := ck_ex hf
  obtain ⟨r3, w4, hc2, hf⟩ := bd2_ex hf
  have hx := hx.trans (mC_X0_refuse_x _ _ _ _ _ hc2)
  cases some_ex hf
  exact hx
set_option maxHeartbeats 4000000 in
theorem mC_X0_span_x  (w : AH) (a : Nat) (p0 : Int32) (p1 : Int32) (p2 : Int32) (r : Int32) (w' : AH) (hf : mC_X0_span a p0 p1 p2 w = some (r, w')) : Ext w w' := by
  unfold mC_X0_span at hf
  have hx := Ext.refl w
  obtain ⟨r2, hc1, hf⟩ := bd1_ex hf
  by_cases hc3 : r2 = (0 : Int32)
  · have hf := if_t hf hc3
    exact hx.trans (mC_X0_span_18_x a w hf)
  · have hf := if_f hf hc3
    obtain ⟨r5, hc4, hf⟩ := bd1_ex hf
    by_cases hc6 : r5 = (0 : Int32)
    · have hf := if_t hf hc6
      exact hx.trans (mC_X0_span_18_x a w hf)
    · have hf := if_f hf hc6
      obtain ⟨h7, hf⟩ := ck_ex hf
      obtain ⟨r9, hc8, hf⟩ := bd1_ex hf
      by_cases hc10 : r9 = (0 : Int32)
      · have hf := if_t hf hc10
        obtain ⟨r27, w28, hc26, hf⟩ := bd2_ex hf
        have hx := hx.trans (mC_X0_refuse_x _ _ _ _ _ hc26)
        cases some_ex hf
        exact hx
      · have hf := if_f hf hc10
        obtain ⟨b11, hb12, hf⟩ := bd1_ex hf
        obtain ⟨h13, hf⟩ := ck_ex hf
        obtain ⟨w14, hs15, hf⟩ := st1_ex hf
        have hx := hx.trans (Ext.I hs15)
        obtain ⟨h16, hf⟩ := ck_ex hf
        obtain ⟨b17, hb18, hf⟩ := bd1_ex hf
        obtain ⟨h19, hf⟩ := ck_ex hf
        obtain ⟨w20, hs21, hf⟩ := st1_ex hf
        have hx := hx.trans (Ext.I hs21)
        obtain ⟨h22, hf⟩ := ck_ex hf
        obtain ⟨r24, w25, hc23, hf⟩ := bd2_ex hf
        have hx := hx.trans (mC_X0_done_x _ _ _ _ _ hc23)
        cases some_ex hf
        exact hx
set_option maxHeartbeats 4000000 in
theorem mB_X0_goes_187_x {w' : AH}  (r_X0_goes : Nat → Int32 → Int32 → Int32 → Int32 → AH → Option (AH)) (hr_X0_goes : ∀ (w : AH) (a : Nat) (p0 : Int32) (p1 : Int32) (p2 : Int32) (p3 : Int32) (w' : AH) , r_X0_goes a p0 p1 p2 p3 w = some w' → Ext w w') (k75 : Nat → Int32 → Int32 → Int32 → Int32 → Int32 → AH → Option (AH)) (hk75 : ∀ (v0 : Nat) (v1 : Int32) (v2 : Int32) (v3 : Int32) (v4 : Int32) (v5 : Int32) (w : AH), k75 v0 v1 v2 v3 v4 v5 w = some w' → Ext w w') (v0 : Nat) (v1 : Int32) (v2 : Int32) (v3 : Int32) (v4 : Int32) (v5 : Int32) (w : AH) (hf : mB_X0_goes_187 r_X0_goes k75 v0 v1 v2 v3 v4 v5 w = some w') : Ext w w' := by
  unfold mB_X0_goes_187 at hf
  have hx := Ext.refl w
  exact hx.trans (hk75 v0 v1 v2 v3 v4 (v5 + (1 : Int32)) w hf)
set_option maxHeartbeats 4000000 in
theorem mB_X0_goes_75_x {w' : AH}  (r_X0_goes : Nat → Int32 → Int32 → Int32 → Int32 → AH → Option (AH)) (hr_X0_goes : ∀ (w : AH) (a : Nat) (p0 : Int32) (p1 : Int32) (p2 : Int32) (p3 : Int32) (w' : AH) , r_X0_goes a p0 p1 p2 p3 w = some w' → Ext w w') (k75 : Nat → Int32 → Int32 → Int32 → Int32 → Int32 → AH → Option (AH)) (hk75 : ∀ (v0 : Nat) (v1 : Int32) (v2 : Int32) (v3 : Int32) (v4 : Int32) (v5 : Int32) (w : AH), k75 v0 v1 v2 v3 v4 v5 w = some w' → Ext w w') (v0 : Nat) (v1 : Int32) (v2 : Int32) (v3 : Int32) (v4 : Int32) (v5 : Int32) (w : AH) (hf : mB_X0_goes_75 r_X0_goes k75 v0 v1 v2 v3 v4 v5 w = some w') : Ext w w' := by
  unfold mB_X0_goes_75 at hf
  have hx := Ext.refl w
  obtain ⟨h1, hf⟩ := ck_ex hf
  by_cases hc2 : (hvi w v0 19) ≤ v5
  · have hf := if_t hf hc2
    cases some_ex hf
    exact hx
  · have hf := if_f hf hc2
    by_cases hc3 : ((v2 >>> (v5 &&& 31)) &&& (1 : Int32)) = (1 : Int32)
    · have hf := if_t hf hc3
      exact hx.trans (mB_X0_goes_187_x r_X0_goes hr_X0_goes k75 hk75 v0 v1 v2 v3 v4 v5 w hf)
    · have hf := if_f hf hc3
      obtain ⟨b4, hb5, hf⟩ := bd1_ex hf
      obtain ⟨h6, hf⟩ := ck_ex hf
      obtain ⟨r8, hc7, hf⟩ := bd1_ex hf
      obtain ⟨b9, hb10, hf⟩ := bd1_ex hf
      obtain ⟨h11, hf⟩ := ck_ex hf
      obtain ⟨r12, hm13, hf⟩ := st1_ex hf
      obtain ⟨b14, hb15, hf⟩ := bd1_ex hf
      obtain ⟨h16, hf⟩ := ck_ex hf
      by_cases hc17 : (hvi w b14 (v5.toNatClampNeg)) < r12
      · have hf := if_t hf hc17
        exact hx.trans (mB_X0_goes_187_x r_X0_goes hr_X0_goes k75 hk75 v0 v1 v2 v3 v4 v5 w hf)
      · have hf := if_f hf hc17
        by_cases hc18 : r12 < (400 : Int32)
        · have hf := if_t hf hc18
          obtain ⟨b19, hb20, hf⟩ := bd1_ex hf
          obtain ⟨h21, hf⟩ := ck_ex hf
          obtain ⟨w22, hs23, hf⟩ := st1_ex hf
          have hx := hx.trans (Ext.I hs23)
          obtain ⟨h24, hf⟩ := ck_ex hf
          obtain ⟨b25, hb26, hf⟩ := bd1_ex hf
          obtain ⟨h27, hf⟩ := ck_ex hf
          obtain ⟨w28, hs29, hf⟩ := st1_ex hf
          have hx := hx.trans (Ext.I hs29)
          obtain ⟨h30, hf⟩ := ck_ex hf
          obtain ⟨b31, hb32, hf⟩ := bd1_ex hf
          obtain ⟨h33, hf⟩ := ck_ex hf
          obtain ⟨w35, hc34, hf⟩ := bd1_ex hf
          have hx := hx.trans (hr_X0_goes _ _ _ _ _ _ _ hc34)
          exact hx.trans (mB_X0_goes_187_x r_X0_goes hr_X0_goes k75 hk75 v0 v1 v2 v3 v4 v5 w35 hf)
        · have hf := if_f hf hc18
          exact hx.trans (mB_X0_goes_187_x r_X0_goes hr_X0_goes k75 hk75 v0 v1 v2 v3 v4 v5 w hf)
set_option maxHeartbeats 4000000 in
theorem mB_X0_goes_72_x {w' : AH}  (r_X0_goes : Nat → Int32 → Int32 → Int32 → Int32 → AH → Option (AH)) (hr_X0_goes : ∀ (w : AH) (a : Nat) (p0 : Int32) (p1 : Int32) (p2 : Int32) (p3 : Int32) (w' : AH) , r_X0_goes a p0 p1 p2 p3 w = some w' → Ext w w') (v0 : Nat) (v1 : Int32) (v2 : Int32) (v3 : Int32) (v4 : Int32) (w : AH) (hf : mB_X0_goes_72 r_X0_goes v0 v1 v2 v3 v4 w = some w') : Ext w w' := by
  unfold mB_X0_goes_72 at hf
  have hx := Ext.refl w
  exact hx.trans (lq7_ex (P := fun v0 v1 v2 v3 v4 v5 w => Ext w w') (fun k hk v0 v1 v2 v3 v4 v5 w hf => mB_X0_goes_75_x r_X0_goes hr_X0_goes k hk v0 v1 v2 v3 v4 v5 w hf) LF v0 v1 v2 v3 v4 (0 : Int32) w hf)
set_option maxHeartbeats 4000000 in
theorem mB_X0_goes_39_x {w' : AH}  (r_X0_goes : Nat → Int32 → Int32 → Int32 → Int32 → AH → Option (AH)) (hr_X0_goes : ∀ (w : AH) (a : Nat) (p0 : Int32) (p1 : Int32) (p2 : Int32) (p3 : Int32) (w' : AH) , r_X0_goes a p0 p1 p2 p3 w = some w' → Ext w w') (v0 : Nat) (v1 : Int32) (v2 : Int32) (v3 : Int32) (v4 : Int32) (w : AH) (hf : mB_X0_goes_39 r_X0_goes v0 v1 v2 v3 v4 w = some w') : Ext w w' := by
  unfold mB_X0_goes_39 at hf
  have hx := Ext.refl w
  obtain ⟨h1, hf⟩ := ck_ex hf
  obtain ⟨w2, hs3, hf⟩ := st1_ex hf
  have hx := hx.trans (Ext.I hs3)
  obtain ⟨h4, hf⟩ := ck_ex hf
  obtain ⟨b5, hb6, hf⟩ := bd1_ex hf
  obtain ⟨b7, hb8, hf⟩ := bd1_ex hf
  obtain ⟨h9, hf⟩ := ck_ex hf
  obtain ⟨h10, hf⟩ := ck_ex hf
  obtain ⟨h11, hf⟩ := ck_ex hf
  obtain ⟨w12, hs13, hf⟩ := st1_ex hf
  have hx := hx.trans (Ext.cI hs13)
  obtain ⟨h14, hf⟩ := ck_ex hf
  obtain ⟨b15, hb16, hf⟩ := bd1_ex hf
  obtain ⟨b17, hb18, hf⟩ := bd1_ex hf
  obtain ⟨h19, hf⟩ := ck_ex hf
  obtain ⟨h20, hf⟩ := ck_ex hf
  obtain ⟨h21, hf⟩ := ck_ex hf
  obtain ⟨w22, hs23, hf⟩ := st1_ex hf
  have hx := hx.trans (Ext.cI hs23)
  exact hx.trans (mB_X0_goes_72_x r_X0_goes hr_X0_goes v0 v1 v2 v3 v4 w22 hf)
set_option maxHeartbeats 4000000 in
theorem mB_X0_goes_x (r_X0_goes : Nat → Int32 → Int32 → Int32 → Int32 → AH → Option (AH))  (hr_X0_goes : ∀ (w : AH) (a : Nat) (p0 : Int32) (p1 : Int32) (p2 : Int32) (p3 : Int32) (w' : AH) , r_X0_goes a p0 p1 p2 p3 w = some w' → Ext w w') (w : AH) (a : Nat) (p0 : Int32) (p1 : Int32) (p2 : Int32) (p3 : Int32) (w' : AH) (hf : mB_X0_goes r_X0_goes a p0 p1 p2 p3 w = some w') : Ext w w' := by
  unfold mB_X0_goes at hf
  have hx := Ext.refl w
  obtain ⟨h1, hf⟩ := ck_ex hf
  by_cases hc2 : (hvi w a 35) < p0
  · have hf := if_t hf hc2
    exact hx.trans (mB_X0_goes_39_x r_X0_goes hr_X0_goes a p0 p1 p2 p3 w hf)
  · have hf := if_f hf hc2
    by_cases hc3 : p0 = (hvi w a 35)
    · have hf := if_t hf hc3
      by_cases hc4 : p0 ≤ (0 : Int32)
      · have hf := if_t hf hc4
        exact hx.trans (mB_X0_goes_72_x r_X0_goes hr_X0_goes a p0 p1 p2 p3 w hf)
      · have hf := if_f hf hc4
        obtain ⟨b5, hb6, hf⟩ := bd1_ex hf
        obtain ⟨h7, hf⟩ := ck_ex hf
        obtain ⟨b8, hb9, hf⟩ := bd1_ex hf
        obtain ⟨h10, hf⟩ := ck_ex hf
        by_cases hc11 : (hvi w b8 ((p0 - (1 : Int32)).toNatClampNeg)) ≤ (hvi w b5 ((p0 - (1 : Int32)).toNatClampNeg))
        · have hf := if_t hf hc11
          exact hx.trans (mB_X0_goes_72_x r_X0_goes hr_X0_goes a p0 p1 p2 p3 w hf)
        · have hf := if_f hf hc11
          exact hx.trans (mB_X0_goes_39_x r_X0_goes hr_X0_goes a p0 p1 p2 p3 w hf)
    · have hf := if_f hf hc3
      exact hx.trans (mB_X0_goes_72_x r_X0_goes hr_X0_goes a p0 p1 p2 p3 w hf)
set_option maxHeartbeats 4000000 in
theorem mG_goes_x : ∀ n : Nat, (∀ (w : AH) (a : Nat) (p0 : Int32) (p1 : Int32) (p2 : Int32) (p3 : Int32) (w' : AH) , mC_X0_goes n a p0 p1 p2 p3 w = some w' → Ext w w')
  | 0 => fun _ _ _ _ _ _ _ hf => (by cases hf)
  | n + 1 => by
    have ih := mG_goes_x n
    exact fun x0 x1 x2 x3 x4 x5 x6 hf => mB_X0_goes_x _ ih x0 x1 x2 x3 x4 x5 x6 hf
set_option maxHeartbeats 4000000 in
theorem mC_X0_goes_x (n : Nat) : ∀ (w : AH) (a : Nat) (p0 : Int32) (p1 : Int32) (p2 : Int32) (p3 : Int32) (w' : AH) , mC_X0_goes n a p0 p1 p2 p3 w = some w' → Ext w w' := mG_goes_x n
set_option maxHeartbeats 4000000 in
theorem mC_X0_way_x  (w : AH) (a : Nat) (p0 : Int32) (p1 : Int32) (r : Int32) (w' : AH) (hf : mC_X0_way a p0 p1 w = some (r, w')) : Ext w w' := by
  unfold mC_X0_way at hf
  have hx := Ext.refl w
  obtain ⟨h1, hf⟩ := ck_ex hf
  obtain ⟨r3, hc2, hf⟩ := bd1_ex hf
  by_cases hc4 : r3 = (0 : Int32)
  · have hf := if_t hf hc4
    cases some_ex hf
    exact hx
  · have hf := if_f hf hc4
    obtain ⟨r6, hc5, hf⟩ := bd1_ex hf
    by_cases hc7 : r6 = (0 : Int32)
    · have hf := if_t hf hc7
      cases some_ex hf
      exact hx
    · have hf := if_f hf hc7
      obtain ⟨r9, hc8, hf⟩ := bd1_ex hf
      by_cases hc10 : r9 = (0 : Int32)
      · have hf := if_t hf hc10
        cases some_ex hf
        exact hx
      · have hf := if_f hf hc10
        obtain ⟨w11, hs12, hf⟩ := st1_ex hf
        have hx := hx.trans (Ext.I hs12)
        obtain ⟨h13, hf⟩ := ck_ex hf
        obtain ⟨w15, hc14, hf⟩ := bd1_ex hf
        have hx := hx.trans (mC_X0_goes_x 200 _ _ _ _ _ _ _ hc14)
        obtain ⟨h16, hf⟩ := ck_ex hf
        obtain ⟨w17, hs18, hf⟩ := st1_ex hf
        have hx := hx.trans (Ext.I hs18)
        obtain ⟨h19, hf⟩ := ck_ex hf
        cases some_ex hf
        exact hx
set_option maxHeartbeats 4000000 in
theorem mC_X0_adds_2_97_x {w' : AH}  (k17 : Nat → Int32 → Int32 → AH → Option (AH)) (hk17 : ∀ (v0 : Nat) (v1 : Int32) (v2 : Int32) (w : AH), k17 v0 v1 v2 w = some w' → Ext w w') (v0 : Nat) (v1 : Int32) (v2 : Int32) (w : AH) (hf : mC_X0_adds_2_97 k17 v0 v1 v2 w = some w') : Ext w w' := by
  unfold mC_X0_adds_2_97 at hf
  have hx := Ext.refl w
  exact hx.trans (hk17 v0 v1 (v2 + (1 : Int32)) w hf)
set_option maxHeartbeats 4000000 in
theorem mC_X0_adds_2_17_x {w' : AH}  (k17 : Nat → Int32 → Int32 → AH → Option (AH)) (hk17 : ∀ (v0 : Nat) (v1 : Int32) (v2 : Int32) (w : AH), k17 v0 v1 v2 w = some w' → Ext w w') (v0 : Nat) (v1 : Int32) (v2 : Int32) (w : AH) (hf : mC_X0_adds_2_17 k17 v0 v1 v2 w = some w') : Ext w w' := by
  unfold mC_X0_adds_2_17 at hf
  have hx := Ext.refl w
  obtain ⟨h1, hf⟩ := ck_ex hf
  obtain ⟨b2, hb3, hf⟩ := bd1_ex hf
  obtain ⟨h4, hf⟩ := ck_ex hf
  obtain ⟨b5, hb6, hf⟩ := bd1_ex hf
  obtain ⟨h7, hf⟩ := ck_ex hf
  obtain ⟨r9, hc8, hf⟩ := bd1_ex hf
  by_cases hc10 : r9 ≤ v2
  · have hf := if_t hf hc10
    cases some_ex hf
    exact hx
  · have hf := if_f hf hc10
    obtain ⟨r12, hc11, hf⟩ := bd1_ex hf
    by_cases hc13 : r12 = (0 : Int32)
    · have hf := if_t hf hc13
      exact hx.trans (mC_X0_adds_2_97_x k17 hk17 v0 v1 v2 w hf)
    · have hf := if_f hf hc13
      obtain ⟨w14, hs15, hf⟩ := st1_ex hf
      have hx := hx.trans (Ext.I hs15)
      obtain ⟨h16, hf⟩ := ck_ex hf
      obtain ⟨b17, hb18, hf⟩ := bd1_ex hf
      obtain ⟨h19, hf⟩ := ck_ex hf
      obtain ⟨b20, hb21, hf⟩ := bd1_ex hf
      obtain ⟨h22, hf⟩ := ck_ex hf
      obtain ⟨w23, hs24, hf⟩ := st1_ex hf
      have hx := hx.trans (Ext.L hs24)
      obtain ⟨h25, hf⟩ := ck_ex hf
      obtain ⟨b26, hb27, hf⟩ := bd1_ex hf
      obtain ⟨h28, hf⟩ := ck_ex hf
      obtain ⟨b29, hb30, hf⟩ := bd1_ex hf
      obtain ⟨h31, hf⟩ := ck_ex hf
      obtain ⟨w32, hs33, hf⟩ := st1_ex hf
      have hx := hx.trans (Ext.L hs33)
      exact hx.trans (mC_X0_adds_2_97_x k17 hk17 v0 v1 v2 w32 hf)
set_option maxHeartbeats 4000000 in
theorem mC_X0_adds_2_x  (w : AH) (a : Nat) (p0 : Int32) (w' : AH) (hf : mC_X0_adds_2 a p0 w = some w') : Ext w w' := by
  unfold mC_X0_adds_2 at hf
  have hx := Ext.refl w
  obtain ⟨h1, hf⟩ := ck_ex hf
  obtain ⟨w2, hs3, hf⟩ := st1_ex hf
  have hx := hx.trans (Ext.L hs3)
  obtain ⟨h4, hf⟩ := ck_ex hf
  obtain ⟨w5, hs6, hf⟩ := st1_ex hf
  have hx := hx.trans (Ext.L hs6)
  obtain ⟨h7, hf⟩ := ck_ex hf
  obtain ⟨w8, hs9, hf⟩ := st1_ex hf
  have hx := hx.trans (Ext.I hs9)
  exact hx.trans (lq4_ex (P := fun v0 v1 v2 w => Ext w w') (fun k hk v0 v1 v2 w hf => mC_X0_adds_2_17_x k hk v0 v1 v2 w hf) LF a p0 (0 : Int32) w8 hf)
set_option maxHeartbeats 4000000 in
theorem mC_X0_seal_x  (w : AH) (a : Nat) (p0 : Int32) (r : Int32) (w' : AH) (hf : mC_X0_seal a p0 w = some (r, w')) : Ext w w' := by
  unfold mC_X0_seal at hf
  have hx := Ext.refl w
  obtain ⟨h1, hf⟩ := ck_ex hf
  obtain ⟨r3, hc2, hf⟩ := bd1_ex hf
  by_cases hc4 : r3 = (0 : Int32)
  · have hf := if_t hf hc4
    obtain ⟨r39, w40, hc38, hf⟩ := bd2_ex hf
    have hx := hx.trans (mC_X0_refuse_x _ _ _ _ _ hc38)
    cases some_ex hf
    exact hx
  · have hf := if_f hf hc4
    obtain ⟨w6, hc5, hf⟩ := bd1_ex hf
    have hx := hx.trans (mC_X0_adds_2_x _ _ _ _ hc5)
    obtain ⟨h7, hf⟩ := ck_ex hf
    obtain ⟨b8, hb9, hf⟩ := bd1_ex hf
    obtain ⟨h10, hf⟩ := ck_ex hf
    obtain ⟨b11, hb12, hf⟩ := bd1_ex hf
    obtain ⟨h13, hf⟩ := ck_ex hf
    obtain ⟨w14, hs15, hf⟩ := st1_ex hf
    have hx := hx.trans (Ext.I hs15)
    obtain ⟨h16, hf⟩ := ck_ex hf
    obtain ⟨b17, hb18, hf⟩ := bd1_ex hf
    obtain ⟨h19, hf⟩ := ck_ex hf
    obtain ⟨b20, hb21, hf⟩ := bd1_ex hf
    obtain ⟨h22, hf⟩ := ck_ex hf
    obtain ⟨w23, hs24, hf⟩ := st1_ex hf
    have hx := hx.trans (Ext.L hs24)
    obtain ⟨h25, hf⟩ := ck_ex hf
    obtain ⟨b26, hb27, hf⟩ := bd1_ex hf
    obtain ⟨h28, hf⟩ := ck_ex hf
    obtain ⟨b29, hb30, hf⟩ := bd1_ex hf
    obtain ⟨h31, hf⟩ := ck_ex hf
    obtain ⟨w32, hs33, hf⟩ := st1_ex hf
    have hx := hx.trans (Ext.L hs33)
    obtain ⟨h34, hf⟩ := ck_ex hf
    obtain ⟨r36, w37, hc35, hf⟩ := bd2_ex hf
    have hx := hx.trans (mC_X0_done_x _ _ _ _ _ hc35)
    cases some_ex hf
    exact hx
set_option maxHeartbeats 4000000 in
theorem mC_X0_alter_35_x {r : Int32} {w' : AH}  (v0 : Nat) (w : AH) (hf : mC_X0_alter_35 v0 w = some (r, w')) : Ext w w' := by
  unfold mC_X0_alter_35 at hf
  have hx := Ext.refl w
  obtain ⟨h1, hf⟩ := ck_ex hf
  obtain ⟨r3, w4, hc2, hf⟩ := bd2_ex hf
  have hx := hx.trans (mC_X0_refuse_x _ _ _ _ _ hc2)
  cases some_ex hf
  exact hx
set_option maxHeartbeats 4000000 in
theorem mC_X0_alter_x  (w : AH) (a : Nat) (p0 : Int32) (p1 : Int32) (r : Int32) (w' : AH) (hf : mC_X0_alter a p0 p1 w = some (r, w')) : Ext w w' := by
  unfold mC_X0_alter at hf
  have hx := Ext.refl w
  obtain ⟨r2, hc1, hf⟩ := bd1_ex hf
  by_cases hc3 : r2 = (0 : Int32)
  · have hf := if_t hf hc3
    obtain ⟨h30, hf⟩ := ck_ex hf
    obtain ⟨r32, w33, hc31, hf⟩ := bd2_ex hf
    have hx := hx.trans (mC_X0_refuse_x _ _ _ _ _ hc31)
    cases some_ex hf
    exact hx
  · have hf := if_f hf hc3
    by_cases hc4 : p0 < (0 : Int32)
    · have hf := if_t hf hc4
      exact hx.trans (mC_X0_alter_35_x a w hf)
    · have hf := if_f hf hc4
      obtain ⟨h5, hf⟩ := ck_ex hf
      obtain ⟨b6, hb7, hf⟩ := bd1_ex hf
      obtain ⟨h8, hf⟩ := ck_ex hf
      obtain ⟨b9, hb10, hf⟩ := bd1_ex hf
      obtain ⟨h11, hf⟩ := ck_ex hf
      obtain ⟨r13, hc12, hf⟩ := bd1_ex hf
      by_cases hc14 : p0 < r13
      · have hf := if_t hf hc14
        obtain ⟨b15, hb16, hf⟩ := bd1_ex hf
        obtain ⟨h17, hf⟩ := ck_ex hf
        obtain ⟨w18, hs19, hf⟩ := st1_ex hf
        have hx := hx.trans (Ext.I hs19)
        obtain ⟨h20, hf⟩ := ck_ex hf
        obtain ⟨b21, hb22, hf⟩ := bd1_ex hf
        obtain ⟨h23, hf⟩ := ck_ex hf
        obtain ⟨b24, hb25, hf⟩ := bd1_ex hf
        obtain ⟨h26, hf⟩ := ck_ex hf
        obtain ⟨r28, w29, hc27, hf⟩ := bd2_ex hf
        have hx := hx.trans (mC_X0_told_x _ _ _ _ _ hc27)
        cases some_ex hf
        exact hx
      · have hf := if_f hf hc14
        exact hx.trans (mC_X0_alter_35_x a w hf)
set_option maxHeartbeats 4000000 in
theorem mC_X0_found_151_x {r : Int32} {w' : AH}  (k100 : Nat → Int32 → Int64 → Int64 → Int32 → Int32 → AH → Option (Int32 × AH)) (hk100 : ∀ (v0 : Nat) (v1 : Int32) (v2 : Int64) (v4 : Int64) (v6 : Int32) (v7 : Int32) (w : AH), k100 v0 v1 v2 v4 v6 v7 w = some (r, w') → Ext w w') (v0 : Nat) (v1 : Int32) (v2 : Int64) (v4 : Int64) (v6 : Int32) (v7 : Int32) (w : AH) (hf : mC_X0_found_151 k100 v0 v1 v2 v4 v6 v7 w = some (r, w')) : Ext w w' := by
  unfold mC_X0_found_151 at hf
  have hx := Ext.refl w
  exact hx.trans (hk100 v0 v1 v2 v4 v6 (v7 + (1 : Int32)) w hf)
set_option maxHeartbeats 4000000 in
theorem mC_X0_found_100_x {r : Int32} {w' : AH}  (k100 : Nat → Int32 → Int64 → Int64 → Int32 → Int32 → AH → Option (Int32 × AH)) (hk100 : ∀ (v0 : Nat) (v1 : Int32) (v2 : Int64) (v4 : Int64) (v6 : Int32) (v7 : Int32) (w : AH), k100 v0 v1 v2 v4 v6 v7 w = some (r, w') → Ext w w') (v0 : Nat) (v1 : Int32) (v2 : Int64) (v4 : Int64) (v6 : Int32) (v7 : Int32) (w : AH) (hf : mC_X0_found_100 k100 v0 v1 v2 v4 v6 v7 w = some (r, w')) : Ext w w' := by
  unfold mC_X0_found_100 at hf
  have hx := Ext.refl w
  obtain ⟨h1, hf⟩ := ck_ex hf
  obtain ⟨b2, hb3, hf⟩ := bd1_ex hf
  obtain ⟨h4, hf⟩ := ck_ex hf
  obtain ⟨b5, hb6, hf⟩ := bd1_ex hf
  obtain ⟨h7, hf⟩ := ck_ex hf
  obtain ⟨r9, hc8, hf⟩ := bd1_ex hf
  by_cases hc10 : r9 ≤ v7
  · have hf := if_t hf hc10
    cases some_ex hf
    exact hx
  · have hf := if_f hf hc10
    by_cases hc11 : v2 = (0 : Int64)
    · have hf := if_t hf hc11
      cases some_ex hf
      exact hx
    · have hf := if_f hf hc11
      obtain ⟨r13, hc12, hf⟩ := bd1_ex hf
      by_cases hc14 : r13 = (0 : Int32)
      · have hf := if_t hf hc14
        exact hx.trans (mC_X0_found_151_x k100 hk100 v0 v1 v2 v4 v6 v7 w hf)
      · have hf := if_f hf hc14
        by_cases hc15 : ((v6 + (1 : Int32)).toInt64 * v2) = v4
        · have hf := if_t hf hc15
          cases some_ex hf
          exact hx
        · have hf := if_f hf hc15
          exact hx.trans (mC_X0_found_151_x k100 hk100 v0 v1 v2 v4 (v6 + (1 : Int32)) v7 w hf)
set_option maxHeartbeats 4000000 in
theorem mC_X0_found_94_x {r : Int32} {w' : AH}  (v0 : Nat) (v1 : Int32) (v2 : Int64) (v4 : Int64) (w : AH) (hf : mC_X0_found_94 v0 v1 v2 v4 w = some (r, w')) : Ext w w' := by
  unfold mC_X0_found_94 at hf
  have hx := Ext.refl w
  exact hx.trans (lq7_ex (P := fun v0 v1 v2 v4 v6 v7 w => Ext w w') (fun k hk v0 v1 v2 v4 v6 v7 w hf => mC_X0_found_100_x k hk v0 v1 v2 v4 v6 v7 w hf) LF v0 v1 v2 v4 (0 : Int32) (0 : Int32) w hf)
set_option maxHeartbeats 4000000 in
theorem mC_X0_found_x  (w : AH) (a : Nat) (p0 : Int32) (r : Int32) (w' : AH) (hf : mC_X0_found a p0 w = some (r, w')) : Ext w w' := by
  unfold mC_X0_found at hf
  have hx := Ext.refl w
  obtain ⟨h1, hf⟩ := ck_ex hf
  obtain ⟨r3, hc2, hf⟩ := bd1_ex hf
  by_cases hc4 : r3 = (0 : Int32)
  · have hf := if_t hf hc4
    cases some_ex hf
    exact hx
  · have hf := if_f hf hc4
    obtain ⟨b5, hb6, hf⟩ := bd1_ex hf
    obtain ⟨h7, hf⟩ := ck_ex hf
    obtain ⟨b8, hb9, hf⟩ := bd1_ex hf
    obtain ⟨h10, hf⟩ := ck_ex hf
    by_cases hc11 : (hvi w b8 (p0.toNatClampNeg)) = (-1 : Int32)
    · have hf := if_t hf hc11
      cases some_ex hf
      exact hx
    · have hf := if_f hf hc11
      obtain ⟨w13, hc12, hf⟩ := bd1_ex hf
      have hx := hx.trans (mC_X0_adds_2_x _ _ _ _ hc12)
      obtain ⟨h14, hf⟩ := ck_ex hf
      obtain ⟨b15, hb16, hf⟩ := bd1_ex hf
      obtain ⟨h17, hf⟩ := ck_ex hf
      obtain ⟨b18, hb19, hf⟩ := bd1_ex hf
      obtain ⟨h20, hf⟩ := ck_ex hf
      by_cases hc21 : (hvi w13 a 38) = (hvi w13 b18 (p0.toNatClampNeg))
      · have hf := if_t hf hc21
        obtain ⟨b22, hb23, hf⟩ := bd1_ex hf
        obtain ⟨h24, hf⟩ := ck_ex hf
        obtain ⟨b25, hb26, hf⟩ := bd1_ex hf
        obtain ⟨h27, hf⟩ := ck_ex hf
        by_cases hc28 : ((hvl w13 a 36) - (hvl w13 b22 (p0.toNatClampNeg))) = (0 : Int64)
        · have hf := if_t hf hc28
          by_cases hc29 : ((hvl w13 a 37) - (hvl w13 b25 (p0.toNatClampNeg))) = (0 : Int64)
          · have hf := if_t hf hc29
            cases some_ex hf
            exact hx
          · have hf := if_f hf hc29
            exact hx.trans (mC_X0_found_94_x a p0 ((hvl w13 a 36) - (hvl w13 b22 (p0.toNatClampNeg))) ((hvl w13 a 37) - (hvl w13 b25 (p0.toNatClampNeg))) w13 hf)
        · have hf := if_f hf hc28
          exact hx.trans (mC_X0_found_94_x a p0 ((hvl w13 a 36) - (hvl w13 b22 (p0.toNatClampNeg))) ((hvl w13 a 37) - (hvl w13 b25 (p0.toNatClampNeg))) w13 hf)
      · have hf := if_f hf hc21
        cases some_ex hf
        exact hx
set_option maxHeartbeats 4000000 in
theorem mC_X7_init_x  (w : AH) (a : Nat) (w' : AH) (hf : mC_X7_init a w = some w') : Ext w w' := by
  unfold mC_X7_init at hf
  have hx := Ext.refl w
  obtain ⟨h1, hf⟩ := ck_ex hf
  obtain ⟨b2, hb3, hf⟩ := st1_ex hf
  obtain ⟨w4, hs5, hf⟩ := st1_ex hf
  have hx := hx.trans (Ext.new hs5)
  obtain ⟨h6, hf⟩ := ck_ex hf
  obtain ⟨w7, hs8, hf⟩ := st1_ex hf
  have hx := hx.trans (Ext.R hs8)
  obtain ⟨h9, hf⟩ := ck_ex hf
  obtain ⟨b10, hb11, hf⟩ := st1_ex hf
  obtain ⟨w12, hs13, hf⟩ := st1_ex hf
  have hx := hx.trans (Ext.new hs13)
  obtain ⟨h14, hf⟩ := ck_ex hf
  obtain ⟨w15, hs16, hf⟩ := st1_ex hf
  have hx := hx.trans (Ext.R hs16)
  obtain ⟨h17, hf⟩ := ck_ex hf
  obtain ⟨b18, hb19, hf⟩ := st1_ex hf
  obtain ⟨w20, hs21, hf⟩ := st1_ex hf
  have hx := hx.trans (Ext.new hs21)
  obtain ⟨h22, hf⟩ := ck_ex hf
  obtain ⟨w23, hs24, hf⟩ := st1_ex hf
  have hx := hx.trans (Ext.R hs24)
  obtain ⟨h25, hf⟩ := ck_ex hf
  obtain ⟨b26, hb27, hf⟩ := st1_ex hf
  obtain ⟨w28, hs29, hf⟩ := st1_ex hf
  have hx := hx.trans (Ext.new hs29)
  obtain ⟨h30, hf⟩ := ck_ex hf
  obtain ⟨w31, hs32, hf⟩ := st1_ex hf
  have hx := hx.trans (Ext.R hs32)
  obtain ⟨h33, hf⟩ := ck_ex hf
  obtain ⟨b34, hb35, hf⟩ := st1_ex hf
  obtain ⟨w36, hs37, hf⟩ := st1_ex hf
  have hx := hx.trans (Ext.new hs37)
  obtain ⟨h38, hf⟩ := ck_ex hf
  obtain ⟨w39, hs40, hf⟩ := st1_ex hf
  have hx := hx.trans (Ext.R hs40)
  obtain ⟨h41, hf⟩ := ck_ex hf
  obtain ⟨b42, hb43, hf⟩ := st1_ex hf
  obtain ⟨w44, hs45, hf⟩ := st1_ex hf
  have hx := hx.trans (Ext.new hs45)
  obtain ⟨h46, hf⟩ := ck_ex hf
  obtain ⟨w47, hs48, hf⟩ := st1_ex hf
  have hx := hx.trans (Ext.R hs48)
  obtain ⟨h49, hf⟩ := ck_ex hf
  obtain ⟨w50, hs51, hf⟩ := st1_ex hf
  have hx := hx.trans (Ext.I hs51)
  obtain ⟨h52, hf⟩ := ck_ex hf
  obtain ⟨b53, hb54, hf⟩ := st1_ex hf
  obtain ⟨w55, hs56, hf⟩ := st1_ex hf
  have hx := hx.trans (Ext.new hs56)
  obtain ⟨h57, hf⟩ := ck_ex hf
  obtain ⟨w58, hs59, hf⟩ := st1_ex hf
  have hx := hx.trans (Ext.R hs59)
  obtain ⟨h60, hf⟩ := ck_ex hf
  obtain ⟨b61, hb62, hf⟩ := st1_ex hf
  obtain ⟨w63, hs64, hf⟩ := st1_ex hf
  have hx := hx.trans (Ext.new hs64)
  obtain ⟨h65, hf⟩ := ck_ex hf
  obtain ⟨w66, hs67, hf⟩ := st1_ex hf
  have hx := hx.trans (Ext.R hs67)
  obtain ⟨h68, hf⟩ := ck_ex hf
  obtain ⟨b69, hb70, hf⟩ := st1_ex hf
  obtain ⟨w71, hs72, hf⟩ := st1_ex hf
  have hx := hx.trans (Ext.new hs72)
  obtain ⟨h73, hf⟩ := ck_ex hf
  obtain ⟨w74, hs75, hf⟩ := st1_ex hf
  have hx := hx.trans (Ext.R hs75)
  obtain ⟨h76, hf⟩ := ck_ex hf
  obtain ⟨b77, hb78, hf⟩ := st1_ex hf
  obtain ⟨w79, hs80, hf⟩ := st1_ex hf
  have hx := hx.trans (Ext.new hs80)
  obtain ⟨h81, hf⟩ := ck_ex hf
  obtain ⟨w82, hs83, hf⟩ := st1_ex hf
  have hx := hx.trans (Ext.R hs83)
  obtain ⟨h84, hf⟩ := ck_ex hf
  obtain ⟨b85, hb86, hf⟩ := st1_ex hf
  obtain ⟨w87, hs88, hf⟩ := st1_ex hf
  have hx := hx.trans (Ext.new hs88)
  obtain ⟨h89, hf⟩ := ck_ex hf
  obtain ⟨w90, hs91, hf⟩ := st1_ex hf
  have hx := hx.trans (Ext.R hs91)
  obtain ⟨h92, hf⟩ := ck_ex hf
  obtain ⟨b93, hb94, hf⟩ := st1_ex hf
  obtain ⟨w95, hs96, hf⟩ := st1_ex hf
  have hx := hx.trans (Ext.new hs96)
  obtain ⟨h97, hf⟩ := ck_ex hf
  obtain ⟨w98, hs99, hf⟩ := st1_ex hf
  have hx := hx.trans (Ext.R hs99)
  obtain ⟨h100, hf⟩ := ck_ex hf
  obtain ⟨b101, hb102, hf⟩ := st1_ex hf
  obtain ⟨w103, hs104, hf⟩ := st1_ex hf
  have hx := hx.trans (Ext.new hs104)
  obtain ⟨h105, hf⟩ := ck_ex hf
  obtain ⟨w106, hs107, hf⟩ := st1_ex hf
  have hx := hx.trans (Ext.R hs107)
  obtain ⟨h108, hf⟩ := ck_ex hf
  obtain ⟨b109, hb110, hf⟩ := st1_ex hf
  obtain ⟨w111, hs112, hf⟩ := st1_ex hf
  have hx := hx.trans (Ext.new hs112)
  obtain ⟨h113, hf⟩ := ck_ex hf
  obtain ⟨w114, hs115, hf⟩ := st1_ex hf
  have hx := hx.trans (Ext.R hs115)
  obtain ⟨h116, hf⟩ := ck_ex hf
  obtain ⟨b117, hb118, hf⟩ := st1_ex hf
  obtain ⟨w119, hs120, hf⟩ := st1_ex hf
  have hx := hx.trans (Ext.new hs120)
  obtain ⟨h121, hf⟩ := ck_ex hf
  obtain ⟨w122, hs123, hf⟩ := st1_ex hf
  have hx := hx.trans (Ext.R hs123)
  obtain ⟨h124, hf⟩ := ck_ex hf
  obtain ⟨b125, hb126, hf⟩ := st1_ex hf
  obtain ⟨w127, hs128, hf⟩ := st1_ex hf
  have hx := hx.trans (Ext.new hs128)
  obtain ⟨h129, hf⟩ := ck_ex hf
  obtain ⟨w130, hs131, hf⟩ := st1_ex hf
  have hx := hx.trans (Ext.R hs131)
  obtain ⟨h132, hf⟩ := ck_ex hf
  obtain ⟨b133, hb134, hf⟩ := st1_ex hf
  obtain ⟨w135, hs136, hf⟩ := st1_ex hf
  have hx := hx.trans (Ext.new hs136)
  obtain ⟨h137, hf⟩ := ck_ex hf
  obtain ⟨w138, hs139, hf⟩ := st1_ex hf
  have hx := hx.trans (Ext.R hs139)
  obtain ⟨h140, hf⟩ := ck_ex hf
  obtain ⟨b141, hb142, hf⟩ := st1_ex hf
  obtain ⟨w143, hs144, hf⟩ := st1_ex hf
  have hx := hx.trans (Ext.new hs144)
  obtain ⟨h145, hf⟩ := ck_ex hf
  obtain ⟨w146, hs147, hf⟩ := st1_ex hf
  have hx := hx.trans (Ext.R hs147)
  obtain ⟨h148, hf⟩ := ck_ex hf
  obtain ⟨b149, hb150, hf⟩ := st1_ex hf
  obtain ⟨w151, hs152, hf⟩ := st1_ex hf
  have hx := hx.trans (Ext.new hs152)
  obtain ⟨h153, hf⟩ := ck_ex hf
  obtain ⟨w154, hs155, hf⟩ := st1_ex hf
  have hx := hx.trans (Ext.R hs155)
  obtain ⟨h156, hf⟩ := ck_ex hf
  obtain ⟨b157, hb158, hf⟩ := st1_ex hf
  obtain ⟨w159, hs160, hf⟩ := st1_ex hf
  have hx := hx.trans (Ext.new hs160)
  obtain ⟨h161, hf⟩ := ck_ex hf
  obtain ⟨w162, hs163, hf⟩ := st1_ex hf
  have hx := hx.trans (Ext.R hs163)
  obtain ⟨h164, hf⟩ := ck_ex hf
  obtain ⟨b165, hb166, hf⟩ := st1_ex hf
  obtain ⟨w167, hs168, hf⟩ := st1_ex hf
  have hx := hx.trans (Ext.new hs168)
  obtain ⟨h169, hf⟩ := ck_ex hf
  obtain ⟨w170, hs171, hf⟩ := st1_ex hf
  have hx := hx.trans (Ext.R hs171)
  obtain ⟨h172, hf⟩ := ck_ex hf
  obtain ⟨b173, hb174, hf⟩ := st1_ex hf
  obtain ⟨w175, hs176, hf⟩ := st1_ex hf
  have hx := hx.trans (Ext.new hs176)
  obtain ⟨h177, hf⟩ := ck_ex hf
  obtain ⟨w178, hs179, hf⟩ := st1_ex hf
  have hx := hx.trans (Ext.R hs179)
  obtain ⟨h180, hf⟩ := ck_ex hf
  obtain ⟨b181, hb182, hf⟩ := st1_ex hf
  obtain ⟨w183, hs184, hf⟩ := st1_ex hf
  have hx := hx.trans (Ext.new hs184)
  obtain ⟨h185, hf⟩ := ck_ex hf
  obtain ⟨w186, hs187, hf⟩ := st1_ex hf
  have hx := hx.trans (Ext.R hs187)
  obtain ⟨h188, hf⟩ := ck_ex hf
  obtain ⟨b189, hb190, hf⟩ := st1_ex hf
  obtain ⟨w191, hs192, hf⟩ := st1_ex hf
  have hx := hx.trans (Ext.new hs192)
  obtain ⟨h193, hf⟩ := ck_ex hf
  obtain ⟨w194, hs195, hf⟩ := st1_ex hf
  have hx := hx.trans (Ext.R hs195)
  obtain ⟨h196, hf⟩ := ck_ex hf
  obtain ⟨b197, hb198, hf⟩ := st1_ex hf
  obtain ⟨w199, hs200, hf⟩ := st1_ex hf
  have hx := hx.trans (Ext.new hs200)
  obtain ⟨h201, hf⟩ := ck_ex hf
  obtain ⟨w202, hs203, hf⟩ := st1_ex hf
  have hx := hx.trans (Ext.R hs203)
  obtain ⟨h204, hf⟩ := ck_ex hf
  obtain ⟨b205, hb206, hf⟩ := st1_ex hf
  obtain ⟨w207, hs208, hf⟩ := st1_ex hf
  have hx := hx.trans (Ext.new hs208)
  obtain ⟨h209, hf⟩ := ck_ex hf
  obtain ⟨w210, hs211, hf⟩ := st1_ex hf
  have hx := hx.trans (Ext.R hs211)
  obtain ⟨h212, hf⟩ := ck_ex hf
  obtain ⟨b213, hb214, hf⟩ := st1_ex hf
  obtain ⟨w215, hs216, hf⟩ := st1_ex hf
  have hx := hx.trans (Ext.new hs216)
  obtain ⟨h217, hf⟩ := ck_ex hf
  obtain ⟨w218, hs219, hf⟩ := st1_ex hf
  have hx := hx.trans (Ext.R hs219)
  obtain ⟨h220, hf⟩ := ck_ex hf
  obtain ⟨b221, hb222, hf⟩ := st1_ex hf
  obtain ⟨w223, hs224, hf⟩ := st1_ex hf
  have hx := hx.trans (Ext.new hs224)
  obtain ⟨h225, hf⟩ := ck_ex hf
  obtain ⟨w226, hs227, hf⟩ := st1_ex hf
  have hx := hx.trans (Ext.R hs227)
  obtain ⟨h228, hf⟩ := ck_ex hf
  obtain ⟨b229, hb230, hf⟩ := st1_ex hf
  obtain ⟨w231, hs232, hf⟩ := st1_ex hf
  have hx := hx.trans (Ext.new hs232)
  obtain ⟨h233, hf⟩ := ck_ex hf
  obtain ⟨w234, hs235, hf⟩ := st1_ex hf
  have hx := hx.trans (Ext.R hs235)
  obtain ⟨h236, hf⟩ := ck_ex hf
  obtain ⟨b237, hb238, hf⟩ := st1_ex hf
  obtain ⟨w239, hs240, hf⟩ := st1_ex hf
  have hx := hx.trans (Ext.new hs240)
  obtain ⟨h241, hf⟩ := ck_ex hf
  obtain ⟨w242, hs243, hf⟩ := st1_ex hf
  have hx := hx.trans (Ext.R hs243)
  obtain ⟨h244, hf⟩ := ck_ex hf
  obtain ⟨b245, hb246, hf⟩ := st1_ex hf
  obtain ⟨w247, hs248, hf⟩ := st1_ex hf
  have hx := hx.trans (Ext.new hs248)
  obtain ⟨h249, hf⟩ := ck_ex hf
  obtain ⟨w250, hs251, hf⟩ := st1_ex hf
  have hx := hx.trans (Ext.R hs251)
  obtain ⟨h252, hf⟩ := ck_ex hf
  obtain ⟨b253, hb254, hf⟩ := st1_ex hf
  obtain ⟨w255, hs256, hf⟩ := st1_ex hf
  have hx := hx.trans (Ext.new hs256)
  obtain ⟨h257, hf⟩ := ck_ex hf
  obtain ⟨w258, hs259, hf⟩ := st1_ex hf
  have hx := hx.trans (Ext.R hs259)
  obtain ⟨h260, hf⟩ := ck_ex hf
  obtain ⟨b261, hb262, hf⟩ := bd1_ex hf
  obtain ⟨h263, hf⟩ := ck_ex hf
  obtain ⟨w264, hs265, hf⟩ := st1_ex hf
  have hx := hx.trans (Ext.I hs265)
  cases some_ex hf
  exact hx
