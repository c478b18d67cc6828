set_option maxRecDepth 100000
set_option maxHeartbeats 4000000 in
theorem mC_J1_init_x  (w : AH) (a : Nat) (w' : AH) (hf : mC_J1_init a w = some w') : Ext w w' := by
  unfold mC_J1_init at hf
  have hx := Ext.refl w
  obtain ⟨r2, hc1, hf⟩ := bd1_ex hf
  obtain ⟨h3, hf⟩ := ck_ex hf
  obtain ⟨w4, hs5, hf⟩ := st1_ex hf
  have hx := hx.trans (Ext.I hs5)
  cases some_ex hf
  exact hx
set_option maxHeartbeats 4000000 in
theorem mC_J2_init_x  (w : AH) (a : Nat) (p0 : Int32) (w' : AH) (hf : mC_J2_init a p0 w = some w') : Ext w w' := by
  unfold mC_J2_init at hf
  have hx := Ext.refl w
  obtain ⟨w2, hc1, hf⟩ := bd1_ex hf
  have hx := hx.trans (mC_J1_init_x _ _ _ hc1)
  by_cases hc3 : p0 ≤ (0 : Int32)
  · have hf := if_t hf hc3
    by_cases hc4 : p0 = (0 : Int32)
    · have hf := if_t hf hc4
      cases hf
    · have hf := if_f hf hc4
      cases hf
  · have hf := if_f hf hc3
    obtain ⟨h5, hf⟩ := ck_ex hf
    obtain ⟨b6, hb7, hf⟩ := st1_ex hf
    obtain ⟨w8, hs9, hf⟩ := st1_ex hf
    have hx := hx.trans (Ext.new hs9)
    obtain ⟨h10, hf⟩ := ck_ex hf
    obtain ⟨w11, hs12, hf⟩ := st1_ex hf
    have hx := hx.trans (Ext.R hs12)
    cases some_ex hf
    exact hx
set_option maxHeartbeats 4000000 in
theorem mC_X1_init_x  (w : AH) (a : Nat) (w' : AH) (hf : mC_X1_init a w = some w') : Ext w w' := by
  unfold mC_X1_init at hf
  have hx := Ext.refl w
  obtain ⟨h1, hf⟩ := ck_ex hf
  obtain ⟨b2, hb3, hf⟩ := st1_ex hf
  obtain ⟨w4, hs5, hf⟩ := st1_ex hf
  have hx := hx.trans (Ext.new hs5)
  obtain ⟨w7, hc6, hf⟩ := bd1_ex hf
  have hx := hx.trans (mC_J2_init_x _ _ _ _ hc6)
  obtain ⟨h8, hf⟩ := ck_ex hf
  obtain ⟨w9, hs10, hf⟩ := st1_ex hf
  have hx := hx.trans (Ext.R hs10)
  obtain ⟨h11, hf⟩ := ck_ex hf
  obtain ⟨b12, hb13, hf⟩ := st1_ex hf
  obtain ⟨w14, hs15, hf⟩ := st1_ex hf
  have hx := hx.trans (Ext.new hs15)
  obtain ⟨w17, hc16, hf⟩ := bd1_ex hf
  have hx := hx.trans (mC_J2_init_x _ _ _ _ hc16)
  obtain ⟨h18, hf⟩ := ck_ex hf
  obtain ⟨w19, hs20, hf⟩ := st1_ex hf
  have hx := hx.trans (Ext.R hs20)
  obtain ⟨h21, hf⟩ := ck_ex hf
  obtain ⟨b22, hb23, hf⟩ := st1_ex hf
  obtain ⟨w24, hs25, hf⟩ := st1_ex hf
  have hx := hx.trans (Ext.new hs25)
  obtain ⟨w27, hc26, hf⟩ := bd1_ex hf
  have hx := hx.trans (mC_J2_init_x _ _ _ _ hc26)
  obtain ⟨h28, hf⟩ := ck_ex hf
  obtain ⟨w29, hs30, hf⟩ := st1_ex hf
  have hx := hx.trans (Ext.R hs30)
  obtain ⟨h31, hf⟩ := ck_ex hf
  obtain ⟨b32, hb33, hf⟩ := st1_ex hf
  obtain ⟨w34, hs35, hf⟩ := st1_ex hf
  have hx := hx.trans (Ext.new hs35)
  obtain ⟨w37, hc36, hf⟩ := bd1_ex hf
  have hx := hx.trans (mC_J2_init_x _ _ _ _ hc36)
  obtain ⟨h38, hf⟩ := ck_ex hf
  obtain ⟨w39, hs40, hf⟩ := st1_ex hf
  have hx := hx.trans (Ext.R hs40)
  obtain ⟨h41, hf⟩ := ck_ex hf
  obtain ⟨b42, hb43, hf⟩ := st1_ex hf
  obtain ⟨w44, hs45, hf⟩ := st1_ex hf
  have hx := hx.trans (Ext.new hs45)
  obtain ⟨w47, hc46, hf⟩ := bd1_ex hf
  have hx := hx.trans (mC_J2_init_x _ _ _ _ hc46)
  obtain ⟨h48, hf⟩ := ck_ex hf
  obtain ⟨w49, hs50, hf⟩ := st1_ex hf
  have hx := hx.trans (Ext.R hs50)
  obtain ⟨h51, hf⟩ := ck_ex hf
  obtain ⟨b52, hb53, hf⟩ := st1_ex hf
  obtain ⟨w54, hs55, hf⟩ := st1_ex hf
  have hx := hx.trans (Ext.new hs55)
  obtain ⟨w57, hc56, hf⟩ := bd1_ex hf
  have hx := hx.trans (mC_J2_init_x _ _ _ _ hc56)
  obtain ⟨h58, hf⟩ := ck_ex hf
  obtain ⟨w59, hs60, hf⟩ := st1_ex hf
  have hx := hx.trans (Ext.R hs60)
  obtain ⟨h61, hf⟩ := ck_ex hf
  obtain ⟨b62, hb63, hf⟩ := st1_ex hf
  obtain ⟨w64, hs65, hf⟩ := st1_ex hf
  have hx := hx.trans (Ext.new hs65)
  obtain ⟨h66, hf⟩ := ck_ex hf
  obtain ⟨w67, hs68, hf⟩ := st1_ex hf
  have hx := hx.trans (Ext.R hs68)
  obtain ⟨h69, hf⟩ := ck_ex hf
  obtain ⟨b70, hb71, hf⟩ := st1_ex hf
  obtain ⟨w72, hs73, hf⟩ := st1_ex hf
  have hx := hx.trans (Ext.new hs73)
  obtain ⟨h74, hf⟩ := ck_ex hf
  obtain ⟨w75, hs76, hf⟩ := st1_ex hf
  have hx := hx.trans (Ext.R hs76)
  obtain ⟨h77, hf⟩ := ck_ex hf
  obtain ⟨b78, hb79, hf⟩ := st1_ex hf
  obtain ⟨w80, hs81, hf⟩ := st1_ex hf
  have hx := hx.trans (Ext.new hs81)
  obtain ⟨h82, hf⟩ := ck_ex hf
  obtain ⟨w83, hs84, hf⟩ := st1_ex hf
  have hx := hx.trans (Ext.R hs84)
  obtain ⟨h85, hf⟩ := ck_ex hf
  obtain ⟨b86, hb87, hf⟩ := st1_ex hf
  obtain ⟨w88, hs89, hf⟩ := st1_ex hf
  have hx := hx.trans (Ext.new hs89)
  obtain ⟨h90, hf⟩ := ck_ex hf
  obtain ⟨w91, hs92, hf⟩ := st1_ex hf
  have hx := hx.trans (Ext.R hs92)
  obtain ⟨h93, hf⟩ := ck_ex hf
  obtain ⟨b94, hb95, hf⟩ := st1_ex hf
  obtain ⟨w96, hs97, hf⟩ := st1_ex hf
  have hx := hx.trans (Ext.new hs97)
  obtain ⟨h98, hf⟩ := ck_ex hf
  obtain ⟨w99, hs100, hf⟩ := st1_ex hf
  have hx := hx.trans (Ext.R hs100)
  obtain ⟨h101, hf⟩ := ck_ex hf
  obtain ⟨b102, hb103, hf⟩ := st1_ex hf
  obtain ⟨w104, hs105, hf⟩ := st1_ex hf
  have hx := hx.trans (Ext.new hs105)
  obtain ⟨h106, hf⟩ := ck_ex hf
  obtain ⟨w107, hs108, hf⟩ := st1_ex hf
  have hx := hx.trans (Ext.R hs108)
  obtain ⟨h109, hf⟩ := ck_ex hf
  obtain ⟨b110, hb111, hf⟩ := st1_ex hf
  obtain ⟨w112, hs113, hf⟩ := st1_ex hf
  have hx := hx.trans (Ext.new hs113)
  obtain ⟨h114, hf⟩ := ck_ex hf
  obtain ⟨w115, hs116, hf⟩ := st1_ex hf
  have hx := hx.trans (Ext.R hs116)
  obtain ⟨h117, hf⟩ := ck_ex hf
  obtain ⟨b118, hb119, hf⟩ := st1_ex hf
  obtain ⟨w120, hs121, hf⟩ := st1_ex hf
  have hx := hx.trans (Ext.new hs121)
  obtain ⟨h122, hf⟩ := ck_ex hf
  obtain ⟨w123, hs124, hf⟩ := st1_ex hf
  have hx := hx.trans (Ext.R hs124)
  obtain ⟨h125, hf⟩ := ck_ex hf
  obtain ⟨b126, hb127, hf⟩ := st1_ex hf
  obtain ⟨w128, hs129, hf⟩ := st1_ex hf
  have hx := hx.trans (Ext.new hs129)
  obtain ⟨h130, hf⟩ := ck_ex hf
  obtain ⟨w131, hs132, hf⟩ := st1_ex hf
  have hx := hx.trans (Ext.R hs132)
  obtain ⟨h133, hf⟩ := ck_ex hf
  obtain ⟨b134, hb135, hf⟩ := st1_ex hf
  obtain ⟨w136, hs137, hf⟩ := st1_ex hf
  have hx := hx.trans (Ext.new hs137)
  obtain ⟨h138, hf⟩ := ck_ex hf
  obtain ⟨w139, hs140, hf⟩ := st1_ex hf
  have hx := hx.trans (Ext.R hs140)
  obtain ⟨h141, hf⟩ := ck_ex hf
  obtain ⟨b142, hb143, hf⟩ := st1_ex hf
  obtain ⟨w144, hs145, hf⟩ := st1_ex hf
  have hx := hx.trans (Ext.new hs145)
  obtain ⟨h146, hf⟩ := ck_ex hf
  obtain ⟨w147, hs148, hf⟩ := st1_ex hf
  have hx := hx.trans (Ext.R hs148)
  obtain ⟨h149, hf⟩ := ck_ex hf
  obtain ⟨b150, hb151, hf⟩ := st1_ex hf
  obtain ⟨w152, hs153, hf⟩ := st1_ex hf
  have hx := hx.trans (Ext.new hs153)
  obtain ⟨h154, hf⟩ := ck_ex hf
  obtain ⟨w155, hs156, hf⟩ := st1_ex hf
  have hx := hx.trans (Ext.R hs156)
  obtain ⟨h157, hf⟩ := ck_ex hf
  obtain ⟨b158, hb159, hf⟩ := st1_ex hf
  obtain ⟨w160, hs161, hf⟩ := st1_ex hf
  have hx := hx.trans (Ext.new hs161)
  obtain ⟨h162, hf⟩ := ck_ex hf
  obtain ⟨w163, hs164, hf⟩ := st1_ex hf
  have hx := hx.trans (Ext.R hs164)
  obtain ⟨h165, hf⟩ := ck_ex hf
  obtain ⟨b166, hb167, hf⟩ := st1_ex hf
  obtain ⟨w168, hs169, hf⟩ := st1_ex hf
  have hx := hx.trans (Ext.new hs169)
  obtain ⟨h170, hf⟩ := ck_ex hf
  obtain ⟨w171, hs172, hf⟩ := st1_ex hf
  have hx := hx.trans (Ext.R hs172)
  obtain ⟨h173, hf⟩ := ck_ex hf
  obtain ⟨b174, hb175, hf⟩ := st1_ex hf
  obtain ⟨w176, hs177, hf⟩ := st1_ex hf
  have hx := hx.trans (Ext.new hs177)
  obtain ⟨h178, hf⟩ := ck_ex hf
  obtain ⟨w179, hs180, hf⟩ := st1_ex hf
  have hx := hx.trans (Ext.R hs180)
  obtain ⟨h181, hf⟩ := ck_ex hf
  obtain ⟨b182, hb183, hf⟩ := st1_ex hf
  obtain ⟨w184, hs185, hf⟩ := st1_ex hf
  have hx := hx.trans (Ext.new hs185)
  obtain ⟨h186, hf⟩ := ck_ex hf
  obtain ⟨w187, hs188, hf⟩ := st1_ex hf
  have hx := hx.trans (Ext.R hs188)
  obtain ⟨h189, hf⟩ := ck_ex hf
  obtain ⟨w190, hs191, hf⟩ := st1_ex hf
  have hx := hx.trans (Ext.I hs191)
  cases some_ex hf
  exact hx
set_option maxHeartbeats 4000000 in
theorem mC_X2_init_x  (w : AH) (a : Nat) (p0 : Nat) (w' : AH) (hf : mC_X2_init a p0 w = some w') : Ext w w' := by
  unfold mC_X2_init at hf
  have hx := Ext.refl w
  obtain ⟨h1, hf⟩ := ck_ex hf
  obtain ⟨w2, hs3, hf⟩ := st1_ex hf
  have hx := hx.trans (Ext.R hs3)
  obtain ⟨h4, hf⟩ := ck_ex hf
  obtain ⟨b5, hb6, hf⟩ := st1_ex hf
  obtain ⟨w7, hs8, hf⟩ := st1_ex hf
  have hx := hx.trans (Ext.new hs8)
  obtain ⟨h9, hf⟩ := ck_ex hf
  obtain ⟨w10, hs11, hf⟩ := st1_ex hf
  have hx := hx.trans (Ext.R hs11)
  obtain ⟨h12, hf⟩ := ck_ex hf
  obtain ⟨b13, hb14, hf⟩ := st1_ex hf
  obtain ⟨w15, hs16, hf⟩ := st1_ex hf
  have hx := hx.trans (Ext.new hs16)
  obtain ⟨h17, hf⟩ := ck_ex hf
  obtain ⟨w18, hs19, hf⟩ := st1_ex hf
  have hx := hx.trans (Ext.R hs19)
  obtain ⟨h20, hf⟩ := ck_ex hf
  obtain ⟨w21, hs22, hf⟩ := st1_ex hf
  have hx := hx.trans (Ext.I hs22)
  obtain ⟨h23, hf⟩ := ck_ex hf
  obtain ⟨w24, hs25, hf⟩ := st1_ex hf
  have hx := hx.trans (Ext.I hs25)
  cases some_ex hf
  exact hx
set_option maxHeartbeats 4000000 in
theorem mC_J3_init_2_41_x {w' : AH}  (v0 : Nat) (v1 : Option Nat) (v2 : Option Nat) (v3 : Int32) (w : AH) (hf : mC_J3_init_2_41 v0 v1 v2 v3 w = some w') : Ext w w' := by
  unfold mC_J3_init_2_41 at hf
  have hx := Ext.refl w
  obtain ⟨h1, hf⟩ := ck_ex hf
  obtain ⟨w2, hs3, hf⟩ := st1_ex hf
  have hx := hx.trans (Ext.R hs3)
  obtain ⟨h4, hf⟩ := ck_ex hf
  obtain ⟨w5, hs6, hf⟩ := st1_ex hf
  have hx := hx.trans (Ext.R hs6)
  by_cases hc7 : v3 = (0 : Int32)
  · have hf := if_t hf hc7
    obtain ⟨h8, hf⟩ := ck_ex hf
    obtain ⟨w9, hs10, hf⟩ := st1_ex hf
    have hx := hx.trans (Ext.R hs10)
    cases some_ex hf
    exact hx
  · have hf := if_f hf hc7
    cases some_ex hf
    exact hx
set_option maxHeartbeats 4000000 in
theorem mC_J3_init_2_x  (w : AH) (a : Nat) (p0 : Option Nat) (p1 : Option Nat) (p2 : Int32) (p3 : Int32) (w' : AH) (hf : mC_J3_init_2 a p0 p1 p2 p3 w = some w') : Ext w w' := by
  unfold mC_J3_init_2 at hf
  have hx := Ext.refl w
  obtain ⟨h1, hf⟩ := ck_ex hf
  obtain ⟨w2, hs3, hf⟩ := st1_ex hf
  have hx := hx.trans (Ext.R hs3)
  obtain ⟨x4, hx5, hf⟩ := st1_ex hf
  obtain ⟨h6, hf⟩ := ck_ex hf
  obtain ⟨w7, hs8, hf⟩ := st1_ex hf
  have hx := hx.trans (Ext.R hs8)
  obtain ⟨x9, hx10, hf⟩ := st1_ex hf
  obtain ⟨h11, hf⟩ := ck_ex hf
  obtain ⟨w12, hs13, hf⟩ := st1_ex hf
  have hx := hx.trans (Ext.R hs13)
  by_cases hc14 : p3 = (0 : Int32)
  · have hf := if_t hf hc14
    obtain ⟨h15, hf⟩ := ck_ex hf
    obtain ⟨w16, hs17, hf⟩ := st1_ex hf
    have hx := hx.trans (Ext.R hs17)
    exact hx.trans (mC_J3_init_2_41_x a p0 p1 p2 w16 hf)
  · have hf := if_f hf hc14
    cases hf
set_option maxHeartbeats 4000000 in
theorem mC_J4_init_x  (w : AH) (a : Nat) (p0 : Option Nat) (p1 : Option Nat) (p2 : Int32) (p3 : Int32) (w' : AH) (hf : mC_J4_init a p0 p1 p2 p3 w = some w') : Ext w w' := by
  unfold mC_J4_init at hf
  have hx := Ext.refl w
  obtain ⟨w2, hc1, hf⟩ := bd1_ex hf
  have hx := hx.trans (mC_J3_init_2_x _ _ _ _ _ _ _ hc1)
  cases some_ex hf
  exact hx
set_option maxHeartbeats 4000000 in
theorem mC_X4_init_x  (w : AH) (a : Nat) (w' : AH) (hf : mC_X4_init a w = some w') : Ext w w' := by
  unfold mC_X4_init at hf
  have hx := Ext.refl w
  obtain ⟨w2, hc1, hf⟩ := bd1_ex hf
  have hx := hx.trans (mC_J4_init_x _ _ _ _ _ _ _ hc1)
  cases some_ex hf
  exact hx
set_option maxHeartbeats 4000000 in
theorem mC_X3_init_x  (w : AH) (a : Nat) (w' : AH) (hf : mC_X3_init a w = some w') : Ext w w' := by
  unfold mC_X3_init at hf
  have hx := Ext.refl w
  obtain ⟨h1, hf⟩ := ck_ex hf
  obtain ⟨b2, hb3, hf⟩ := st1_ex hf
  obtain ⟨w4, hs5, hf⟩ := st1_ex hf
  have hx := hx.trans (Ext.new hs5)
  obtain ⟨w7, hc6, hf⟩ := bd1_ex hf
  have hx := hx.trans (mC_X4_init_x _ _ _ hc6)
  obtain ⟨h8, hf⟩ := ck_ex hf
  obtain ⟨w9, hs10, hf⟩ := st1_ex hf
  have hx := hx.trans (Ext.R hs10)
  obtain ⟨h11, hf⟩ := ck_ex hf
  obtain ⟨b12, hb13, hf⟩ := st1_ex hf
  obtain ⟨w14, hs15, hf⟩ := st1_ex hf
  have hx := hx.trans (Ext.new hs15)
  obtain ⟨h16, hf⟩ := ck_ex hf
  obtain ⟨w17, hs18, hf⟩ := st1_ex hf
  have hx := hx.trans (Ext.R hs18)
  obtain ⟨h19, hf⟩ := ck_ex hf
  obtain ⟨b20, hb21, hf⟩ := st1_ex hf
  obtain ⟨w22, hs23, hf⟩ := st1_ex hf
  have hx := hx.trans (Ext.new hs23)
  obtain ⟨h24, hf⟩ := ck_ex hf
  obtain ⟨w25, hs26, hf⟩ := st1_ex hf
  have hx := hx.trans (Ext.R hs26)
  cases some_ex hf
  exact hx
set_option maxHeartbeats 4000000 in
theorem mC_X5_init_x  (w : AH) (a : Nat) (p0 : Nat) (w' : AH) (hf : mC_X5_init a p0 w = some w') : Ext w w' := by
  unfold mC_X5_init at hf
  have hx := Ext.refl w
  obtain ⟨h1, hf⟩ := ck_ex hf
  obtain ⟨w2, hs3, hf⟩ := st1_ex hf
  have hx := hx.trans (Ext.R hs3)
  obtain ⟨h4, hf⟩ := ck_ex hf
  obtain ⟨b5, hb6, hf⟩ := st1_ex hf
  obtain ⟨w7, hs8, hf⟩ := st1_ex hf
  have hx := hx.trans (Ext.new hs8)
  obtain ⟨h9, hf⟩ := ck_ex hf
  obtain ⟨w10, hs11, hf⟩ := st1_ex hf
  have hx := hx.trans (Ext.R hs11)
  obtain ⟨h12, hf⟩ := ck_ex hf
  obtain ⟨b13, hb14, hf⟩ := st1_ex hf
  obtain ⟨w15, hs16, hf⟩ := st1_ex hf
  have hx := hx.trans (Ext.new hs16)
  obtain ⟨h17, hf⟩ := ck_ex hf
  obtain ⟨w18, hs19, hf⟩ := st1_ex hf
  have hx := hx.trans (Ext.R hs19)
  obtain ⟨h20, hf⟩ := ck_ex hf
  obtain ⟨b21, hb22, hf⟩ := st1_ex hf
  obtain ⟨w23, hs24, hf⟩ := st1_ex hf
  have hx := hx.trans (Ext.new hs24)
  obtain ⟨h25, hf⟩ := ck_ex hf
  obtain ⟨w26, hs27, hf⟩ := st1_ex hf
  have hx := hx.trans (Ext.R hs27)
  obtain ⟨h28, hf⟩ := ck_ex hf
  obtain ⟨w29, hs30, hf⟩ := st1_ex hf
  have hx := hx.trans (Ext.I hs30)
  obtain ⟨h31, hf⟩ := ck_ex hf
  obtain ⟨w32, hs33, hf⟩ := st1_ex hf
  have hx := hx.trans (Ext.I hs33)
  obtain ⟨h34, hf⟩ := ck_ex hf
  obtain ⟨w35, hs36, hf⟩ := st1_ex hf
  have hx := hx.trans (Ext.I hs36)
  cases some_ex hf
  exact hx
set_option maxHeartbeats 4000000 in
theorem mC_X6_init_x  (w : AH) (a : Nat) (p0 : Nat) (w' : AH) (hf : mC_X6_init a p0 w = some w') : Ext w w' := by
  unfold mC_X6_init at hf
  have hx := Ext.refl w
  obtain ⟨h1, hf⟩ := ck_ex hf
  obtain ⟨w2, hs3, hf⟩ := st1_ex hf
  have hx := hx.trans (Ext.R hs3)
  obtain ⟨h4, hf⟩ := ck_ex hf
  obtain ⟨b5, hb6, hf⟩ := st1_ex hf
  obtain ⟨w7, hs8, hf⟩ := st1_ex hf
  have hx := hx.trans (Ext.new hs8)
  obtain ⟨h9, hf⟩ := ck_ex hf
  obtain ⟨w10, hs11, hf⟩ := st1_ex hf
  have hx := hx.trans (Ext.R hs11)
  obtain ⟨h12, hf⟩ := ck_ex hf
  obtain ⟨b13, hb14, hf⟩ := st1_ex hf
  obtain ⟨w15, hs16, hf⟩ := st1_ex hf
  have hx := hx.trans (Ext.new hs16)
  obtain ⟨h17, hf⟩ := ck_ex hf
  obtain ⟨w18, hs19, hf⟩ := st1_ex hf
  have hx := hx.trans (Ext.R hs19)
  obtain ⟨h20, hf⟩ := ck_ex hf
  obtain ⟨b21, hb22, hf⟩ := st1_ex hf
  obtain ⟨w23, hs24, hf⟩ := st1_ex hf
  have hx := hx.trans (Ext.new hs24)
  obtain ⟨h25, hf⟩ := ck_ex hf
  obtain ⟨w26, hs27, hf⟩ := st1_ex hf
  have hx := hx.trans (Ext.R hs27)
  obtain ⟨h28, hf⟩ := ck_ex hf
  obtain ⟨b29, hb30, hf⟩ := st1_ex hf
  obtain ⟨w31, hs32, hf⟩ := st1_ex hf
  have hx := hx.trans (Ext.new hs32)
  obtain ⟨h33, hf⟩ := ck_ex hf
  obtain ⟨w34, hs35, hf⟩ := st1_ex hf
  have hx := hx.trans (Ext.R hs35)
  obtain ⟨h36, hf⟩ := ck_ex hf
  obtain ⟨b37, hb38, hf⟩ := st1_ex hf
  obtain ⟨w39, hs40, hf⟩ := st1_ex hf
  have hx := hx.trans (Ext.new hs40)
  obtain ⟨h41, hf⟩ := ck_ex hf
  obtain ⟨w42, hs43, hf⟩ := st1_ex hf
  have hx := hx.trans (Ext.R hs43)
  obtain ⟨h44, hf⟩ := ck_ex hf
  obtain ⟨b45, hb46, hf⟩ := st1_ex hf
  obtain ⟨w47, hs48, hf⟩ := st1_ex hf
  have hx := hx.trans (Ext.new hs48)
  obtain ⟨h49, hf⟩ := ck_ex hf
  obtain ⟨w50, hs51, hf⟩ := st1_ex hf
  have hx := hx.trans (Ext.R hs51)
  obtain ⟨h52, hf⟩ := ck_ex hf
  obtain ⟨w53, hs54, hf⟩ := st1_ex hf
  have hx := hx.trans (Ext.I hs54)
  obtain ⟨h55, hf⟩ := ck_ex hf
  obtain ⟨w56, hs57, hf⟩ := st1_ex hf
  have hx := hx.trans (Ext.I hs57)
  obtain ⟨h58, hf⟩ := ck_ex hf
  obtain ⟨w59, hs60, hf⟩ := st1_ex hf
  have hx := hx.trans (Ext.I hs60)
  cases some_ex hf
  exact hx
set_option maxHeartbeats 4000000 in
theorem mC_X0_init_x  (w : AH) (a : Nat) (w' : AH) (hf : mC_X0_init a w = some w') : Ext w w' := by
  unfold mC_X0_init at hf
  have hx := Ext.refl w
  obtain ⟨h1, hf⟩ := ck_ex hf
  obtain ⟨b2, hb3, hf⟩ := st1_ex hf
  obtain ⟨w4, hs5, hf⟩ := st1_ex hf
  have hx := hx.trans (Ext.new hs5)
  obtain ⟨w7, hc6, hf⟩ := bd1_ex hf
  have hx := hx.trans (mC_X1_init_x _ _ _ hc6)
  obtain ⟨h8, hf⟩ := ck_ex hf
  obtain ⟨w9, hs10, hf⟩ := st1_ex hf
  have hx := hx.trans (Ext.R hs10)
  obtain ⟨h11, hf⟩ := ck_ex hf
  obtain ⟨b12, hb13, hf⟩ := st1_ex hf
  obtain ⟨w14, hs15, hf⟩ := st1_ex hf
  have hx := hx.trans (Ext.new hs15)
  obtain ⟨h16, hf⟩ := ck_ex hf
  obtain ⟨w17, hs18, hf⟩ := st1_ex hf
  have hx := hx.trans (Ext.R hs18)
  obtain ⟨h19, hf⟩ := ck_ex hf
  obtain ⟨b20, hb21, hf⟩ := st1_ex hf
  obtain ⟨w22, hs23, hf⟩ := st1_ex hf
  have hx := hx.trans (Ext.new hs23)
  obtain ⟨h24, hf⟩ := ck_ex hf
  obtain ⟨w25, hs26, hf⟩ := st1_ex hf
  have hx := hx.trans (Ext.R hs26)
  obtain ⟨h27, hf⟩ := ck_ex hf
  obtain ⟨w28, hs29, hf⟩ := st1_ex hf
  have hx := hx.trans (Ext.I hs29)
  obtain ⟨h30, hf⟩ := ck_ex hf
  obtain ⟨b31, hb32, hf⟩ := st1_ex hf
  obtain ⟨w33, hs34, hf⟩ := st1_ex hf
  have hx := hx.trans (Ext.new hs34)
  obtain ⟨w36, hc35, hf⟩ := bd1_ex hf
  have hx := hx.trans (mC_X2_init_x _ _ _ _ hc35)
  obtain ⟨h37, hf⟩ := ck_ex hf
  obtain ⟨w38, hs39, hf⟩ := st1_ex hf
  have hx := hx.trans (Ext.R hs39)
  obtain ⟨h40, hf⟩ := ck_ex hf
  obtain ⟨b41, hb42, hf⟩ := st1_ex hf
  obtain ⟨w43, hs44, hf⟩ := st1_ex hf
  have hx := hx.trans (Ext.new hs44)
  obtain ⟨w46, hc45, hf⟩ := bd1_ex hf
  have hx := hx.trans (mC_X3_init_x _ _ _ hc45)
  obtain ⟨h47, hf⟩ := ck_ex hf
  obtain ⟨w48, hs49, hf⟩ := st1_ex hf
  have hx := hx.trans (Ext.R hs49)
  obtain ⟨h50, hf⟩ := ck_ex hf
  obtain ⟨b51, hb52, hf⟩ := st1_ex hf
  obtain ⟨w53, hs54, hf⟩ := st1_ex hf
  have hx := hx.trans (Ext.new hs54)
  obtain ⟨w56, hc55, hf⟩ := bd1_ex hf
  have hx := hx.trans (mC_X5_init_x _ _ _ _ hc55)
  obtain ⟨h57, hf⟩ := ck_ex hf
  obtain ⟨w58, hs59, hf⟩ := st1_ex hf
  have hx := hx.trans (Ext.R hs59)
  obtain ⟨h60, hf⟩ := ck_ex hf
  obtain ⟨b61, hb62, hf⟩ := st1_ex hf
  obtain ⟨w63, hs64, hf⟩ := st1_ex hf
  have hx := hx.trans (Ext.new hs64)
  obtain ⟨h65, hf⟩ := ck_ex hf
  obtain ⟨w66, hs67, hf⟩ := st1_ex hf
  have hx := hx.trans (Ext.R hs67)
  obtain ⟨h68, hf⟩ := ck_ex hf
  obtain ⟨b69, hb70, hf⟩ := st1_ex hf
  obtain ⟨w71, hs72, hf⟩ := st1_ex hf
  have hx := hx.trans (Ext.new hs72)
  obtain ⟨h73, hf⟩ := ck_ex hf
  obtain ⟨w74, hs75, hf⟩ := st1_ex hf
  have hx := hx.trans (Ext.R hs75)
  obtain ⟨h76, hf⟩ := ck_ex hf
  obtain ⟨b77, hb78, hf⟩ := st1_ex hf
  obtain ⟨w79, hs80, hf⟩ := st1_ex hf
  have hx := hx.trans (Ext.new hs80)
  obtain ⟨h81, hf⟩ := ck_ex hf
  obtain ⟨w82, hs83, hf⟩ := st1_ex hf
  have hx := hx.trans (Ext.R hs83)
  obtain ⟨h84, hf⟩ := ck_ex hf
  obtain ⟨b85, hb86, hf⟩ := st1_ex hf
  obtain ⟨w87, hs88, hf⟩ := st1_ex hf
  have hx := hx.trans (Ext.new hs88)
  obtain ⟨h89, hf⟩ := ck_ex hf
  obtain ⟨w90, hs91, hf⟩ := st1_ex hf
  have hx := hx.trans (Ext.R hs91)
  obtain ⟨h92, hf⟩ := ck_ex hf
  obtain ⟨b93, hb94, hf⟩ := st1_ex hf
  obtain ⟨w95, hs96, hf⟩ := st1_ex hf
  have hx := hx.trans (Ext.new hs96)
  obtain ⟨h97, hf⟩ := ck_ex hf
  obtain ⟨w98, hs99, hf⟩ := st1_ex hf
  have hx := hx.trans (Ext.R hs99)
  obtain ⟨h100, hf⟩ := ck_ex hf
  obtain ⟨b101, hb102, hf⟩ := st1_ex hf
  obtain ⟨w103, hs104, hf⟩ := st1_ex hf
  have hx := hx.trans (Ext.new hs104)
  obtain ⟨h105, hf⟩ := ck_ex hf
  obtain ⟨w106, hs107, hf⟩ := st1_ex hf
  have hx := hx.trans (Ext.R hs107)
  obtain ⟨h108, hf⟩ := ck_ex hf
  obtain ⟨b109, hb110, hf⟩ := st1_ex hf
  obtain ⟨w111, hs112, hf⟩ := st1_ex hf
  have hx := hx.trans (Ext.new hs112)
  obtain ⟨h113, hf⟩ := ck_ex hf
  obtain ⟨w114, hs115, hf⟩ := st1_ex hf
  have hx := hx.trans (Ext.R hs115)
  obtain ⟨h116, hf⟩ := ck_ex hf
  obtain ⟨b117, hb118, hf⟩ := st1_ex hf
  obtain ⟨w119, hs120, hf⟩ := st1_ex hf
  have hx := hx.trans (Ext.new hs120)
  obtain ⟨h121, hf⟩ := ck_ex hf
  obtain ⟨w122, hs123, hf⟩ := st1_ex hf
  have hx := hx.trans (Ext.R hs123)
  obtain ⟨h124, hf⟩ := ck_ex hf
  obtain ⟨b125, hb126, hf⟩ := st1_ex hf
  obtain ⟨w127, hs128, hf⟩ := st1_ex hf
  have hx := hx.trans (Ext.new hs128)
  obtain ⟨h129, hf⟩ := ck_ex hf
  obtain ⟨w130, hs131, hf⟩ := st1_ex hf
  have hx := hx.trans (Ext.R hs131)
  obtain ⟨h132, hf⟩ := ck_ex hf
  obtain ⟨w133, hs134, hf⟩ := st1_ex hf
  have hx := hx.trans (Ext.I hs134)
  obtain ⟨h135, hf⟩ := ck_ex hf
  obtain ⟨b136, hb137, hf⟩ := st1_ex hf
  obtain ⟨w138, hs139, hf⟩ := st1_ex hf
  have hx := hx.trans (Ext.new hs139)
  obtain ⟨w141, hc140, hf⟩ := bd1_ex hf
  have hx := hx.trans (mC_X6_init_x _ _ _ _ hc140)
  obtain ⟨h142, hf⟩ := ck_ex hf
  obtain ⟨w143, hs144, hf⟩ := st1_ex hf
  have hx := hx.trans (Ext.R hs144)
  obtain ⟨h145, hf⟩ := ck_ex hf
  obtain ⟨b146, hb147, hf⟩ := st1_ex hf
  obtain ⟨w148, hs149, hf⟩ := st1_ex hf
  have hx := hx.trans (Ext.new hs149)
  obtain ⟨h150, hf⟩ := ck_ex hf
  obtain ⟨w151, hs152, hf⟩ := st1_ex hf
  have hx := hx.trans (Ext.R hs152)
  obtain ⟨h153, hf⟩ := ck_ex hf
  obtain ⟨b154, hb155, hf⟩ := st1_ex hf
  obtain ⟨w156, hs157, hf⟩ := st1_ex hf
  have hx := hx.trans (Ext.new hs157)
  obtain ⟨h158, hf⟩ := ck_ex hf
  obtain ⟨w159, hs160, hf⟩ := st1_ex hf
  have hx := hx.trans (Ext.R hs160)
  obtain ⟨h161, hf⟩ := ck_ex hf
  obtain ⟨b162, hb163, hf⟩ := st1_ex hf
  obtain ⟨w164, hs165, hf⟩ := st1_ex hf
  have hx := hx.trans (Ext.new hs165)
  obtain ⟨h166, hf⟩ := ck_ex hf
  obtain ⟨w167, hs168, hf⟩ := st1_ex hf
  have hx := hx.trans (Ext.R hs168)
  obtain ⟨h169, hf⟩ := ck_ex hf
  obtain ⟨b170, hb171, hf⟩ := st1_ex hf
  obtain ⟨w172, hs173, hf⟩ := st1_ex hf
  have hx := hx.trans (Ext.new hs173)
  obtain ⟨h174, hf⟩ := ck_ex hf
  obtain ⟨w175, hs176, hf⟩ := st1_ex hf
  have hx := hx.trans (Ext.R hs176)
  obtain ⟨h177, hf⟩ := ck_ex hf
  obtain ⟨b178, hb179, hf⟩ := st1_ex hf
  obtain ⟨w180, hs181, hf⟩ := st1_ex hf
  have hx := hx.trans (Ext.new hs181)
  obtain ⟨h182, hf⟩ := ck_ex hf
  obtain ⟨w183, hs184, hf⟩ := st1_ex hf
  have hx := hx.trans (Ext.R hs184)
  obtain ⟨h185, hf⟩ := ck_ex hf
  obtain ⟨b186, hb187, hf⟩ := st1_ex hf
  obtain ⟨w188, hs189, hf⟩ := st1_ex hf
  have hx := hx.trans (Ext.new hs189)
  obtain ⟨h190, hf⟩ := ck_ex hf
  obtain ⟨w191, hs192, hf⟩ := st1_ex hf
  have hx := hx.trans (Ext.R hs192)
  obtain ⟨h193, hf⟩ := ck_ex hf
  obtain ⟨b194, hb195, hf⟩ := st1_ex hf
  obtain ⟨w196, hs197, hf⟩ := st1_ex hf
  have hx := hx.trans (Ext.new hs197)
  obtain ⟨h198, hf⟩ := ck_ex hf
  obtain ⟨w199, hs200, hf⟩ := st1_ex hf
  have hx := hx.trans (Ext.R hs200)
  obtain ⟨h201, hf⟩ := ck_ex hf
  obtain ⟨b202, hb203, hf⟩ := st1_ex hf
  obtain ⟨w204, hs205, hf⟩ := st1_ex hf
  have hx := hx.trans (Ext.new hs205)
  obtain ⟨h206, hf⟩ := ck_ex hf
  obtain ⟨w207, hs208, hf⟩ := st1_ex hf
  have hx := hx.trans (Ext.R hs208)
  obtain ⟨h209, hf⟩ := ck_ex hf
  obtain ⟨w210, hs211, hf⟩ := st1_ex hf
  have hx := hx.trans (Ext.I hs211)
  cases some_ex hf
  exact hx
set_option maxHeartbeats 4000000 in
theorem mC_X0_refuse_x  (w : AH) (a : Nat) (p0 : Int32) (r : Int32) (w' : AH) (hf : mC_X0_refuse a p0 w = some (r, w')) : Ext w w' := by
  unfold mC_X0_refuse at hf
  have hx := Ext.refl w
  obtain ⟨h1, hf⟩ := ck_ex hf
  obtain ⟨w2, hs3, hf⟩ := st1_ex hf
  have hx := hx.trans (Ext.I hs3)
  cases some_ex hf
  exact hx
set_option maxHeartbeats 4000000 in
theorem mC_J2_clear_27_x {w' : AH}  (k27 : Nat → Int32 → Int32 → AH → Option (AH)) (hk27 : ∀ (v1 : Nat) (v2 : Int32) (v3 : Int32) (w : AH), k27 v1 v2 v3 w = some w' → Ext w w') (v1 : Nat) (v2 : Int32) (v3 : Int32) (w : AH) (hf : mC_J2_clear_27 k27 v1 v2 v3 w = some w') : Ext w w' := by
  unfold mC_J2_clear_27 at hf
  have hx := Ext.refl w
  by_cases hc1 : v2 ≤ v3
  · have hf := if_t hf hc1
    cases some_ex hf
    exact hx
  · have hf := if_f hf hc1
    obtain ⟨h2, hf⟩ := ck_ex hf
    obtain ⟨w3, hs4, hf⟩ := st1_ex hf
    have hx := hx.trans (Ext.R hs4)
    exact hx.trans (hk27 v1 v2 (v3 + (1 : Int32)) w3 hf)
set_option maxHeartbeats 4000000 in
theorem mC_J2_clear_x  (w : AH) (a : Nat) (w' : AH) (hf : mC_J2_clear a w = some w') : Ext w w' := by
  unfold mC_J2_clear at hf
  have hx := Ext.refl w
  obtain ⟨h1, hf⟩ := ck_ex hf
  obtain ⟨w2, hs3, hf⟩ := st1_ex hf
  have hx := hx.trans (Ext.I hs3)
  obtain ⟨h4, hf⟩ := ck_ex hf
  obtain ⟨b5, hb6, hf⟩ := bd1_ex hf
  obtain ⟨w7, hs8, hf⟩ := st1_ex hf
  have hx := hx.trans (Ext.I hs8)
  exact hx.trans (lq4_ex (P := fun v1 v2 v3 w => Ext w w') (fun k hk v1 v2 v3 w hf => mC_J2_clear_27_x k hk v1 v2 v3 w hf) LF b5 (hvi w2 a 2) (0 : Int32) w7 hf)
set_option maxHeartbeats 4000000 in
theorem mC_J7_copyOf_2_24_x {r : Nat} {w' : AH}  (v0 : Nat) (v1 : Int32) (t0 : Nat) (w : AH) (hf : mC_J7_copyOf_2_24 v0 v1 t0 w = some (r, w')) : Ext w w' := by
  unfold mC_J7_copyOf_2_24 at hf
  have hx := Ext.refl w
  obtain ⟨h1, hf⟩ := ck_ex hf
  obtain ⟨r2, hm3, hf⟩ := st1_ex hf
  obtain ⟨h4, hf⟩ := ck_ex hf
  obtain ⟨h5, hf⟩ := ck_ex hf
  obtain ⟨h6, hf⟩ := ck_ex hf
  obtain ⟨h7, hf⟩ := ck_ex hf
  obtain ⟨w8, hs9, hf⟩ := st1_ex hf
  have hx := hx.trans (Ext.cR hs9)
  cases some_ex hf
  exact hx
set_option maxHeartbeats 4000000 in
theorem mC_J7_copyOf_2_x  (w : AH) (p0 : Nat) (p1 : Int32) (p2 : Nat) (r : Nat) (w' : AH) (hf : mC_J7_copyOf_2 p0 p1 p2 w = some (r, w')) : Ext w w' := by
  unfold mC_J7_copyOf_2 at hf
  have hx := Ext.refl w
  obtain ⟨b1, ha2, hf⟩ := bd1_ex hf
  by_cases hc3 : (some p2) = (some b1)
  · have hf := if_t hf hc3
    obtain ⟨h4, hf⟩ := ck_ex hf
    obtain ⟨b5, hb6, hf⟩ := st1_ex hf
    obtain ⟨w7, hs8, hf⟩ := st1_ex hf
    have hx := hx.trans (Ext.new hs8)
    exact hx.trans (mC_J7_copyOf_2_24_x p0 p1 b5 w7 hf)
  · have hf := if_f hf hc3
    cases hf
set_option maxHeartbeats 4000000 in
theorem mC_J7_copyOf_x  (w : AH) (p0 : Nat) (p1 : Int32) (r : Nat) (w' : AH) (hf : mC_J7_copyOf p0 p1 w = some (r, w')) : Ext w w' := by
  unfold mC_J7_copyOf at hf
  have hx := Ext.refl w
  obtain ⟨h1, hf⟩ := ck_ex hf
  obtain ⟨b2, ha3, hf⟩ := bd1_ex hf
  obtain ⟨r5, w6, hc4, hf⟩ := bd2_ex hf
  have hx := hx.trans (mC_J7_copyOf_2_x _ _ _ _ _ _ hc4)
  cases some_ex hf
  exact hx
set_option maxHeartbeats 4000000 in
theorem mC_J2_toArray_x  (w : AH) (a : Nat) (r : Nat) (w' : AH) (hf : mC_J2_toArray a w = some (r, w')) : Ext w w' := by
  unfold mC_J2_toArray at hf
  have hx := Ext.refl w
  obtain ⟨h1, hf⟩ := ck_ex hf
  obtain ⟨b2, hb3, hf⟩ := bd1_ex hf
  obtain ⟨r5, w6, hc4, hf⟩ := bd2_ex hf
  have hx := hx.trans (mC_J7_copyOf_x _ _ _ _ _ hc4)
  cases some_ex hf
  exact hx
set_option maxHeartbeats 4000000 in
theorem mC_J2_grow_20_x {r : Nat} {w' : AH}  (v0 : Nat) (v1 : Int32) (v2 : Int32) (w : AH) (hf : mC_J2_grow_20 v0 v1 v2 w = some (r, w')) : Ext w w' := by
  unfold mC_J2_grow_20 at hf
  have hx := Ext.refl w
  obtain ⟨r2, hc1, hf⟩ := bd1_ex hf
  obtain ⟨h3, hf⟩ := ck_ex hf
  obtain ⟨b4, hb5, hf⟩ := bd1_ex hf
  obtain ⟨r7, w8, hc6, hf⟩ := bd2_ex hf
  have hx := hx.trans (mC_J7_copyOf_x _ _ _ _ _ hc6)
  obtain ⟨h9, hf⟩ := ck_ex hf
  obtain ⟨w10, hs11, hf⟩ := st1_ex hf
  have hx := hx.trans (Ext.R hs11)
  cases some_ex hf
  exact hx
set_option maxHeartbeats 4000000 in
theorem mC_J2_grow_x  (w : AH) (a : Nat) (p0 : Int32) (r : Nat) (w' : AH) (hf : mC_J2_grow a p0 w = some (r, w')) : Ext w w' := by
  unfold mC_J2_grow at hf
  have hx := Ext.refl w
  obtain ⟨h1, hf⟩ := ck_ex hf
  obtain ⟨b2, hb3, hf⟩ := bd1_ex hf
  obtain ⟨h4, hf⟩ := ck_ex hf
  by_cases hc5 : (0 : Int32) < (Int32.ofNat (hkd w b2).2)
  · have hf := if_t hf hc5
    exact hx.trans (mC_J2_grow_20_x a p0 (Int32.ofNat (hkd w b2).2) w hf)
  · have hf := if_f hf hc5
    cases hf
set_option maxHeartbeats 4000000 in
theorem mC_J2_addAll_56_x {r : Int32} {w' : AH}  (v0 : Nat) (v2 : Nat) (v3 : Int32) (v4 : Nat) (v5 : Int32) (w : AH) (hf : mC_J2_addAll_56 v0 v2 v3 v4 v5 w = some (r, w')) : Ext w w' := by
  unfold mC_J2_addAll_56 at hf
  have hx := Ext.refl w
  obtain ⟨h1, hf⟩ := ck_ex hf
  obtain ⟨h2, hf⟩ := ck_ex hf
  obtain ⟨h3, hf⟩ := ck_ex hf
  obtain ⟨h4, hf⟩ := ck_ex hf
  obtain ⟨w5, hs6, hf⟩ := st1_ex hf
  have hx := hx.trans (Ext.cR hs6)
  obtain ⟨h7, hf⟩ := ck_ex hf
  obtain ⟨w8, hs9, hf⟩ := st1_ex hf
  have hx := hx.trans (Ext.I hs9)
  cases some_ex hf
  exact hx
set_option maxHeartbeats 4000000 in
theorem mC_J2_addAll_x  (w : AH) (a : Nat) (p0 : Nat) (r : Int32) (w' : AH) (hf : mC_J2_addAll a p0 w = some (r, w')) : Ext w w' := by
  unfold mC_J2_addAll at hf
  have hx := Ext.refl w
  obtain ⟨h1, hf⟩ := ck_ex hf
  obtain ⟨r3, w4, hc2, hf⟩ := bd2_ex hf
  have hx := hx.trans (mC_J2_toArray_x _ _ _ _ hc2)
  obtain ⟨h5, hf⟩ := ck_ex hf
  obtain ⟨w6, hs7, hf⟩ := st1_ex hf
  have hx := hx.trans (Ext.I hs7)
  obtain ⟨h8, hf⟩ := ck_ex hf
  by_cases hc9 : (Int32.ofNat (hkd w6 r3).2) = (0 : Int32)
  · have hf := if_t hf hc9
    cases some_ex hf
    exact hx
  · have hf := if_f hf hc9
    obtain ⟨h10, hf⟩ := ck_ex hf
    obtain ⟨b11, hb12, hf⟩ := bd1_ex hf
    obtain ⟨h13, hf⟩ := ck_ex hf
    by_cases hc14 : (Int32.ofNat (hkd w6 r3).2) ≤ ((Int32.ofNat (hkd w6 b11).2) - (hvi w6 a 2))
    · have hf := if_t hf hc14
      exact hx.trans (mC_J2_addAll_56_x a r3 (Int32.ofNat (hkd w6 r3).2) b11 (hvi w6 a 2) w6 hf)
    · have hf := if_f hf hc14
      obtain ⟨r16, w17, hc15, hf⟩ := bd2_ex hf
      have hx := hx.trans (mC_J2_grow_x _ _ _ _ _ hc15)
      exact hx.trans (mC_J2_addAll_56_x a r3 (Int32.ofNat (hkd w6 r3).2) r16 (hvi w6 a 2) w17 hf)
set_option maxHeartbeats 4000000 in
theorem mC_X1_over_x  (w : AH) (p0 : Nat) (p1 : Nat) (w' : AH) (hf : mC_X1_over p0 p1 w = some w') : Ext w w' := by
  unfold mC_X1_over at hf
  have hx := Ext.refl w
  obtain ⟨h1, hf⟩ := ck_ex hf
  obtain ⟨w3, hc2, hf⟩ := bd1_ex hf
  have hx := hx.trans (mC_J2_clear_x _ _ _ hc2)
  obtain ⟨h4, hf⟩ := ck_ex hf
  obtain ⟨r6, w7, hc5, hf⟩ := bd2_ex hf
  have hx := hx.trans (mC_J2_addAll_x _ _ _ _ _ hc5)
  cases some_ex hf
  exact hx
set_option maxHeartbeats 4000000 in
theorem mC_X1_rows_x  (w : AH) (p0 : Nat) (p1 : Nat) (w' : AH) (hf : mC_X1_rows p0 p1 w = some w') : Ext w w' := by
  unfold mC_X1_rows at hf
  have hx := Ext.refl w
  obtain ⟨h1, hf⟩ := ck_ex hf
  obtain ⟨h2, hf⟩ := ck_ex hf
  obtain ⟨h3, hf⟩ := ck_ex hf
  obtain ⟨h4, hf⟩ := ck_ex hf
  obtain ⟨w5, hs6, hf⟩ := st1_ex hf
  have hx := hx.trans (Ext.cI hs6)
  cases some_ex hf
  exact hx
set_option maxHeartbeats 4000000 in
theorem mC_X1_takes_x  (w : AH) (a : Nat) (p0 : Nat) (w' : AH) (hf : mC_X1_takes a p0 w = some w') : Ext w w' := by
  unfold mC_X1_takes at hf
  have hx := Ext.refl w
  obtain ⟨h1, hf⟩ := ck_ex hf
  obtain ⟨b2, hb3, hf⟩ := bd1_ex hf
  obtain ⟨h4, hf⟩ := ck_ex hf
  obtain ⟨b5, hb6, hf⟩ := bd1_ex hf
  obtain ⟨w8, hc7, hf⟩ := bd1_ex hf
  have hx := hx.trans (mC_X1_over_x _ _ _ _ hc7)
  obtain ⟨h9, hf⟩ := ck_ex hf
  obtain ⟨b10, hb11, hf⟩ := bd1_ex hf
  obtain ⟨h12, hf⟩ := ck_ex hf
  obtain ⟨b13, hb14, hf⟩ := bd1_ex hf
  obtain ⟨w16, hc15, hf⟩ := bd1_ex hf
  have hx := hx.trans (mC_X1_over_x _ _ _ _ hc15)
  obtain ⟨h17, hf⟩ := ck_ex hf
  obtain ⟨b18, hb19, hf⟩ := bd1_ex hf
  obtain ⟨h20, hf⟩ := ck_ex hf
  obtain ⟨b21, hb22, hf⟩ := bd1_ex hf
  obtain ⟨w24, hc23, hf⟩ := bd1_ex hf
  have hx := hx.trans (mC_X1_over_x _ _ _ _ hc23)
  obtain ⟨h25, hf⟩ := ck_ex hf
  obtain ⟨b26, hb27, hf⟩ := bd1_ex hf
  obtain ⟨h28, hf⟩ := ck_ex hf
  obtain ⟨b29, hb30, hf⟩ := bd1_ex hf
  obtain ⟨w32, hc31, hf⟩ := bd1_ex hf
  have hx := hx.trans (mC_X1_over_x _ _ _ _ hc31)
  obtain ⟨h33, hf⟩ := ck_ex hf
  obtain ⟨b34, hb35, hf⟩ := bd1_ex hf
  obtain ⟨h36, hf⟩ := ck_ex hf
  obtain ⟨b37, hb38, hf⟩ := bd1_ex hf
  obtain ⟨w40, hc39, hf⟩ := bd1_ex hf
  have hx := hx.trans (mC_X1_over_x _ _ _ _ hc39)
  obtain ⟨h41, hf⟩ := ck_ex hf
  obtain ⟨b42, hb43, hf⟩ := bd1_ex hf
  obtain ⟨h44, hf⟩ := ck_ex hf
  obtain ⟨b45, hb46, hf⟩ := bd1_ex hf
  obtain ⟨w48, hc47, hf⟩ := bd1_ex hf
  have hx := hx.trans (mC_X1_over_x _ _ _ _ hc47)
  obtain ⟨h49, hf⟩ := ck_ex hf
  obtain ⟨b50, hb51, hf⟩ := bd1_ex hf
  obtain ⟨h52, hf⟩ := ck_ex hf
  obtain ⟨b53, hb54, hf⟩ := bd1_ex hf
  obtain ⟨w56, hc55, hf⟩ := bd1_ex hf
  have hx := hx.trans (mC_X1_rows_x _ _ _ _ hc55)
  obtain ⟨h57, hf⟩ := ck_ex hf
  obtain ⟨b58, hb59, hf⟩ := bd1_ex hf
  obtain ⟨h60, hf⟩ := ck_ex hf
  obtain ⟨b61, hb62, hf⟩ := bd1_ex hf
  obtain ⟨w64, hc63, hf⟩ := bd1_ex hf
  have hx := hx.trans (mC_X1_rows_x _ _ _ _ hc63)
  obtain ⟨h65, hf⟩ := ck_ex hf
  obtain ⟨b66, hb67, hf⟩ := bd1_ex hf
  obtain ⟨h68, hf⟩ := ck_ex hf
  obtain ⟨b69, hb70, hf⟩ := bd1_ex hf
  obtain ⟨w72, hc71, hf⟩ := bd1_ex hf
  have hx := hx.trans (mC_X1_rows_x _ _ _ _ hc71)
  obtain ⟨h73, hf⟩ := ck_ex hf
  obtain ⟨b74, hb75, hf⟩ := bd1_ex hf
  obtain ⟨h76, hf⟩ := ck_ex hf
  obtain ⟨b77, hb78, hf⟩ := bd1_ex hf
  obtain ⟨w80, hc79, hf⟩ := bd1_ex hf
  have hx := hx.trans (mC_X1_rows_x _ _ _ _ hc79)
  obtain ⟨h81, hf⟩ := ck_ex hf
  obtain ⟨b82, hb83, hf⟩ := bd1_ex hf
  obtain ⟨h84, hf⟩ := ck_ex hf
  obtain ⟨b85, hb86, hf⟩ := bd1_ex hf
  obtain ⟨w88, hc87, hf⟩ := bd1_ex hf
  have hx := hx.trans (mC_X1_rows_x _ _ _ _ hc87)
  obtain ⟨h89, hf⟩ := ck_ex hf
  obtain ⟨b90, hb91, hf⟩ := bd1_ex hf
  obtain ⟨h92, hf⟩ := ck_ex hf
  obtain ⟨b93, hb94, hf⟩ := bd1_ex hf
  obtain ⟨w96, hc95, hf⟩ := bd1_ex hf
  have hx := hx.trans (mC_X1_rows_x _ _ _ _ hc95)
  obtain ⟨h97, hf⟩ := ck_ex hf
  obtain ⟨b98, hb99, hf⟩ := bd1_ex hf
  obtain ⟨h100, hf⟩ := ck_ex hf
  obtain ⟨b101, hb102, hf⟩ := bd1_ex hf
  obtain ⟨w104, hc103, hf⟩ := bd1_ex hf
  have hx := hx.trans (mC_X1_rows_x _ _ _ _ hc103)
  obtain ⟨h105, hf⟩ := ck_ex hf
  obtain ⟨b106, hb107, hf⟩ := bd1_ex hf
  obtain ⟨h108, hf⟩ := ck_ex hf
  obtain ⟨b109, hb110, hf⟩ := bd1_ex hf
  obtain ⟨w112, hc111, hf⟩ := bd1_ex hf
  have hx := hx.trans (mC_X1_rows_x _ _ _ _ hc111)
  obtain ⟨h113, hf⟩ := ck_ex hf
  obtain ⟨b114, hb115, hf⟩ := bd1_ex hf
  obtain ⟨h116, hf⟩ := ck_ex hf
  obtain ⟨b117, hb118, hf⟩ := bd1_ex hf
  obtain ⟨w120, hc119, hf⟩ := bd1_ex hf
  have hx := hx.trans (mC_X1_rows_x _ _ _ _ hc119)
  obtain ⟨h121, hf⟩ := ck_ex hf
  obtain ⟨b122, hb123, hf⟩ := bd1_ex hf
  obtain ⟨h124, hf⟩ := ck_ex hf
  obtain ⟨b125, hb126, hf⟩ := bd1_ex hf
  obtain ⟨w128, hc127, hf⟩ := bd1_ex hf
  have hx := hx.trans (mC_X1_rows_x _ _ _ _ hc127)
  obtain ⟨h129, hf⟩ := ck_ex hf
  obtain ⟨b130, hb131, hf⟩ := bd1_ex hf
  obtain ⟨h132, hf⟩ := ck_ex hf
  obtain ⟨b133, hb134, hf⟩ := bd1_ex hf
  obtain ⟨w136, hc135, hf⟩ := bd1_ex hf
  have hx := hx.trans (mC_X1_rows_x _ _ _ _ hc135)
  obtain ⟨h137, hf⟩ := ck_ex hf
  obtain ⟨b138, hb139, hf⟩ := bd1_ex hf
  obtain ⟨h140, hf⟩ := ck_ex hf
  obtain ⟨b141, hb142, hf⟩ := bd1_ex hf
  obtain ⟨w144, hc143, hf⟩ := bd1_ex hf
  have hx := hx.trans (mC_X1_rows_x _ _ _ _ hc143)
  obtain ⟨h145, hf⟩ := ck_ex hf
  obtain ⟨b146, hb147, hf⟩ := bd1_ex hf
  obtain ⟨h148, hf⟩ := ck_ex hf
  obtain ⟨b149, hb150, hf⟩ := bd1_ex hf
  obtain ⟨w152, hc151, hf⟩ := bd1_ex hf
  have hx := hx.trans (mC_X1_rows_x _ _ _ _ hc151)
  obtain ⟨h153, hf⟩ := ck_ex hf
  obtain ⟨b154, hb155, hf⟩ := bd1_ex hf
  obtain ⟨h156, hf⟩ := ck_ex hf
  obtain ⟨b157, hb158, hf⟩ := bd1_ex hf
  obtain ⟨h159, hf⟩ := ck_ex hf
  obtain ⟨h160, hf⟩ := ck_ex hf
  obtain ⟨h161, hf⟩ := ck_ex hf
  obtain ⟨w162, hs163, hf⟩ := st1_ex hf
  have hx := hx.trans (Ext.cL hs163)
  obtain ⟨h164, hf⟩ := ck_ex hf
  obtain ⟨b165, hb166, hf⟩ := bd1_ex hf
  obtain ⟨h167, hf⟩ := ck_ex hf
  obtain ⟨b168, hb169, hf⟩ := bd1_ex hf
  obtain ⟨h170, hf⟩ := ck_ex hf
  obtain ⟨h171, hf⟩ := ck_ex hf
  obtain ⟨h172, hf⟩ := ck_ex hf
  obtain ⟨w173, hs174, hf⟩ := st1_ex hf
  have hx := hx.trans (Ext.cL hs174)
  obtain ⟨h175, hf⟩ := ck_ex hf
  obtain ⟨b176, hb177, hf⟩ := bd1_ex hf
  obtain ⟨h178, hf⟩ := ck_ex hf
  obtain ⟨b179, hb180, hf⟩ := bd1_ex hf
  obtain ⟨h181, hf⟩ := ck_ex hf
  obtain ⟨h182, hf⟩ := ck_ex hf
  obtain ⟨h183, hf⟩ := ck_ex hf
  obtain ⟨h184, hf⟩ := ck_ex hf
  obtain ⟨h185, hf⟩ := ck_ex hf
  obtain ⟨w186, hs187, hf⟩ := st1_ex hf
  have hx := hx.trans (Ext.cI hs187)
  obtain ⟨h188, hf⟩ := ck_ex hf
  obtain ⟨h189, hf⟩ := ck_ex hf
  obtain ⟨w190, hs191, hf⟩ := st1_ex hf
  have hx := hx.trans (Ext.I hs191)
  obtain ⟨h192, hf⟩ := ck_ex hf
  obtain ⟨h193, hf⟩ := ck_ex hf
  obtain ⟨w194, hs195, hf⟩ := st1_ex hf
  have hx := hx.trans (Ext.I hs195)
  obtain ⟨h196, hf⟩ := ck_ex hf
  obtain ⟨h197, hf⟩ := ck_ex hf
  obtain ⟨w198, hs199, hf⟩ := st1_ex hf
  have hx := hx.trans (Ext.I hs199)
  obtain ⟨h200, hf⟩ := ck_ex hf
  obtain ⟨h201, hf⟩ := ck_ex hf
  obtain ⟨w202, hs203, hf⟩ := st1_ex hf
  have hx := hx.trans (Ext.I hs203)
  obtain ⟨h204, hf⟩ := ck_ex hf
  obtain ⟨h205, hf⟩ := ck_ex hf
  obtain ⟨w206, hs207, hf⟩ := st1_ex hf
  have hx := hx.trans (Ext.I hs207)
  cases some_ex hf
  exact hx
set_option maxHeartbeats 4000000 in
theorem mC_X0_done_x  (w : AH) (a : Nat) (p0 : Int32) (r : Int32) (w' : AH) (hf : mC_X0_done a p0 w = some (r, w')) : Ext w w' := by
  unfold mC_X0_done at hf
  have hx := Ext.refl w
  obtain ⟨h1, hf⟩ := ck_ex hf
  obtain ⟨w2, hs3, hf⟩ := st1_ex hf
  have hx := hx.trans (Ext.I hs3)
  cases some_ex hf
  exact hx
set_option maxHeartbeats 4000000 in
theorem mC_X0_image_37_x {r : Int32} {w' : AH}  (v0 : Nat) (v1 : Int32) (w : AH) (hf : mC_X0_image_37 v0 v1 w = some (r, w')) : Ext w w' := by
  unfold mC_X0_image_37 at hf
  have hx := Ext.refl w
  obtain ⟨h1, hf⟩ := ck_ex hf
  obtain ⟨b2, hb3, hf⟩ := bd1_ex hf
  obtain ⟨h4, hf⟩ := ck_ex hf
  obtain ⟨x5, hx6, hf⟩ := st1_ex hf
  obtain ⟨b7, hb8, hf⟩ := bd1_ex hf
  obtain ⟨b9, rfl, hf⟩ := bd1_ex hf
  obtain ⟨h10, hf⟩ := ck_ex hf
  obtain ⟨w12, hc11, hf⟩ := bd1_ex hf
  have hx := hx.trans (mC_X1_takes_x _ _ _ _ hc11)
  obtain ⟨h13, hf⟩ := ck_ex hf
  obtain ⟨r15, w16, hc14, hf⟩ := bd2_ex hf
  have hx := hx.trans (mC_X0_done_x _ _ _ _ _ hc14)
  cases some_ex hf
  exact hx
set_option maxHeartbeats 4000000 in
theorem mC_X0_image_x  (w : AH) (a : Nat) (p0 : Int32) (r : Int32) (w' : AH) (hf : mC_X0_image a p0 w = some (r, w')) : Ext w w' := by
  unfold mC_X0_image at hf
  have hx := Ext.refl w
  obtain ⟨r2, hc1, hf⟩ := bd1_ex hf
  by_cases hc3 : r2 = (0 : Int32)
  · have hf := if_t hf hc3
    obtain ⟨h22, hf⟩ := ck_ex hf
    obtain ⟨r24, w25, hc23, hf⟩ := bd2_ex hf
    have hx := hx.trans (mC_X0_refuse_x _ _ _ _ _ hc23)
    cases some_ex hf
    exact hx
  · have hf := if_f hf hc3
    obtain ⟨h4, hf⟩ := ck_ex hf
    obtain ⟨b5, hb6, hf⟩ := bd1_ex hf
    obtain ⟨h7, hf⟩ := ck_ex hf
    obtain ⟨x8, hx9, hf⟩ := st1_ex hf
    by_cases hc10 : x8 = none
    · have hf := if_t hf hc10
      obtain ⟨h11, hf⟩ := ck_ex hf
      obtain ⟨b12, hb13, hf⟩ := st1_ex hf
      obtain ⟨w14, hs15, hf⟩ := st1_ex hf
      have hx := hx.trans (Ext.new hs15)
      obtain ⟨w17, hc16, hf⟩ := bd1_ex hf
      have hx := hx.trans (mC_X1_init_x _ _ _ hc16)
      obtain ⟨h18, hf⟩ := ck_ex hf
      obtain ⟨h19, hf⟩ := ck_ex hf
      obtain ⟨w20, hs21, hf⟩ := st1_ex hf
      have hx := hx.trans (Ext.R hs21)
      exact hx.trans (mC_X0_image_37_x a p0 w20 hf)
    · have hf := if_f hf hc10
      exact hx.trans (mC_X0_image_37_x a p0 w hf)
set_option maxHeartbeats 4000000 in
theorem mC_X0_told_x  (w : AH) (a : Nat) (p0 : Int32) (r : Int32) (w' : AH) (hf : mC_X0_told a p0 w = some (r, w')) : Ext w w' := by
  unfold mC_X0_told at hf
  have hx := Ext.refl w
  obtain ⟨h1, hf⟩ := ck_ex hf
  obtain ⟨w2, hs3, hf⟩ := st1_ex hf
  have hx := hx.trans (Ext.I hs3)
  obtain ⟨h4, hf⟩ := ck_ex hf
  obtain ⟨r6, w7, hc5, hf⟩ := bd2_ex hf
  have hx := hx.trans (mC_X0_done_x _ _ _ _ _ hc5)
  cases some_ex hf
  exact hx
set_option maxHeartbeats 4000000 in
theorem mC_X0_back_x  (w : AH) (a : Nat) (p0 : Int32) (r : Int32) (w' : AH) (hf : mC_X0_back a p0 w = some (r, w')) : Ext w w' := by
  unfold mC_X0_back at hf
  have hx := Ext.refl w
  obtain ⟨r2, hc1, hf⟩ := bd1_ex hf
  by_cases hc3 : r2 = (0 : Int32)
  · have hf := if_t hf hc3
    obtain ⟨h26, hf⟩ := ck_ex hf
    obtain ⟨r28, w29, hc27, hf⟩ := bd2_ex hf
    have hx := hx.trans (mC_X0_refuse_x _ _ _ _ _ hc27)
    cases some_ex hf
    exact hx
  · have hf := if_f hf hc3
    obtain ⟨h4, hf⟩ := ck_ex hf
    obtain ⟨b5, hb6, hf⟩ := bd1_ex hf
    obtain ⟨h7, hf⟩ := ck_ex hf
    obtain ⟨x8, hx9, hf⟩ := st1_ex hf
    by_cases hc10 : x8 = none
    · have hf := if_t hf hc10
      obtain ⟨r24, w25, hc23, hf⟩ := bd2_ex hf
      have hx := hx.trans (mC_X0_refuse_x _ _ _ _ _ hc23)
      cases some_ex hf
      exact hx
    · have hf := if_f hf hc10
      obtain ⟨b11, hb12, hf⟩ := bd1_ex hf
      obtain ⟨x13, hx14, hf⟩ := st1_ex hf
      obtain ⟨b15, rfl, hf⟩ := bd1_ex hf
      obtain ⟨h16, hf⟩ := ck_ex hf
      obtain ⟨w18, hc17, hf⟩ := bd1_ex hf
      have hx := hx.trans (mC_X1_takes_x _ _ _ _ hc17)
      obtain ⟨h19, hf⟩ := ck_ex hf
      obtain ⟨r21, w22, hc20, hf⟩ := bd2_ex hf
      have hx := hx.trans (mC_X0_told_x _ _ _ _ _ hc20)
      cases some_ex hf
      exact hx
set_option maxHeartbeats 4000000 in
theorem mC_X0_place_29_x {r : Int32} {w' : AH}  (v0 : Nat) (w : AH) (hf : mC_X0_place_29 v0 w = some (r, w')) : Ext w w' := by
  unfold mC_X0_place_29 at hf
  have hx := Ext.refl w
  obtain ⟨h1, hf⟩ := ck_ex hf
  obtain ⟨r3, w4, hc2, hf⟩ := bd2_ex hf
  have hx := hx.trans (mC_X0_refuse_x _ _ _ _ _ hc2)
  cases some_ex hf
  exact hx
set_option maxHeartbeats 4000000 in
theorem mC_X0_place_x  (w : AH) (a : Nat) (p0 : Int32) (p1 : Int32) (p2 : Int32) (r : Int32) (w' : AH) (hf : mC_X0_place a p0 p1 p2 w = some (r, w')) : Ext w w' := by
  unfold mC_X0_place at hf
  have hx := Ext.refl w
  obtain ⟨r2, hc1, hf⟩ := bd1_ex hf
  by_cases hc3 : r2 = (0 : Int32)
  · have hf := if_t hf hc3
    exact hx.trans (mC_X0_place_29_x a w hf)
  · have hf := if_f hf hc3
    obtain ⟨r5, hc4, hf⟩ := bd1_ex hf
    by_cases hc6 : r5 = (0 : Int32)
    · have hf := if_t hf hc6
      exact hx.trans (mC_X0_place_29_x a w hf)
    · have hf := if_f hf hc6
      obtain ⟨r8, hc7, hf⟩ := bd1_ex hf
      by_cases hc9 : r8 = (0 : Int32)
      · have hf := if_t hf hc9
        exact hx.trans (mC_X0_place_29_x a w hf)
      · have hf := if_f hf hc9
        obtain ⟨h10, hf⟩ := ck_ex hf
        obtain ⟨b11, hb12, hf⟩ := bd1_ex hf
        obtain ⟨h13, hf⟩ := ck_ex hf
        by_cases hc14 : (hvi w b11 22) = (16 : Int32)
        · have hf := if_t hf hc14
          obtain ⟨r52, w53, hc51, hf⟩ := bd2_ex hf
          have hx := hx.trans (mC_X0_refuse_x _ _ _ _ _ hc51)
          cases some_ex hf
          exact hx
        · have hf := if_f hf hc14
          obtain ⟨b15, hb16, hf⟩ := bd1_ex hf
          obtain ⟨h17, hf⟩ := ck_ex hf
          obtain ⟨w18, hs19, hf⟩ := st1_ex hf
          have hx := hx.trans (Ext.I hs19)
          obtain ⟨h20, hf⟩ := ck_ex hf
          obtain ⟨b21, hb22, hf⟩ := bd1_ex hf
          obtain ⟨h23, hf⟩ := ck_ex hf
          obtain ⟨b24, hb25, hf⟩ := bd1_ex hf
          obtain ⟨h26, hf⟩ := ck_ex hf
          obtain ⟨w27, hs28, hf⟩ := st1_ex hf
          have hx := hx.trans (Ext.I hs28)
          obtain ⟨h29, hf⟩ := ck_ex hf
          obtain ⟨b30, hb31, hf⟩ := bd1_ex hf
          obtain ⟨h32, hf⟩ := ck_ex hf
          obtain ⟨b33, hb34, hf⟩ := bd1_ex hf
          obtain ⟨h35, hf⟩ := ck_ex hf
          obtain ⟨w36, hs37, hf⟩ := st1_ex hf
          have hx := hx.trans (Ext.I hs37)
          obtain ⟨h38, hf⟩ := ck_ex hf
          obtain ⟨b39, hb40, hf⟩ := bd1_ex hf
          obtain ⟨h41, hf⟩ := ck_ex hf
          obtain ⟨w42, hs43, hf⟩ := st1_ex hf
          have hx := hx.trans (Ext.I hs43)
          obtain ⟨h44, hf⟩ := ck_ex hf
          obtain ⟨b45, hb46, hf⟩ := bd1_ex hf
          obtain ⟨h47, hf⟩ := ck_ex hf
          obtain ⟨r49, w50, hc48, hf⟩ := bd2_ex hf
          have hx := hx.trans (mC_X0_told_x _ _ _ _ _ hc48)
          cases some_ex hf
          exact hx
set_option maxHeartbeats 4000000 in
theorem mC_X8_init_x  (w : AH) (a : Nat) (p0 : Int32) (p1 : Int32) (p2 : Int32) (p3 : Int32) (p4 : Int32) (w' : AH) (hf : mC_X8_init a p0 p1 p2 p3 p4 w = some w') : Ext w w' := by
  unfold mC_X8_init at hf
  have hx := Ext.refl w
  obtain ⟨h1, hf⟩ := ck_ex hf
  obtain ⟨w2, hs3, hf⟩ := st1_ex hf
  have hx := hx.trans (Ext.I hs3)
  obtain ⟨h4, hf⟩ := ck_ex hf
  obtain ⟨w5, hs6, hf⟩ := st1_ex hf
  have hx := hx.trans (Ext.I hs6)
  obtain ⟨h7, hf⟩ := ck_ex hf
  obtain ⟨w8, hs9, hf⟩ := st1_ex hf
  have hx := hx.trans (Ext.I hs9)
  obtain ⟨h10, hf⟩ := ck_ex hf
  obtain ⟨w11, hs12, hf⟩ := st1_ex hf
  have hx := hx.trans (Ext.I hs12)
  obtain ⟨h13, hf⟩ := ck_ex hf
  obtain ⟨w14, hs15, hf⟩ := st1_ex hf
  have hx := hx.trans (Ext.I hs15)
  cases some_ex hf
  exact hx
set_option maxHeartbeats 4000000 in
theorem mC_J2_grow_2_x  (w : AH) (a : Nat) (r : Nat) (w' : AH) (hf : mC_J2_grow_2 a w = some (r, w')) : Ext w w' := by
  unfold mC_J2_grow_2 at hf
  have hx := Ext.refl w
  obtain ⟨h1, hf⟩ := ck_ex hf
  obtain ⟨r3, w4, hc2, hf⟩ := bd2_ex hf
  have hx := hx.trans (mC_J2_grow_x _ _ _ _ _ hc2)
  cases some_ex hf
  exact hx
set_option maxHeartbeats 4000000 in
theorem mC_J2_add_2_11_x {w' : AH}  (v0 : Nat) (v1 : Nat) (v2 : Nat) (v3 : Int32) (w : AH) (hf : mC_J2_add_2_11 v0 v1 v2 v3 w = some w') : Ext w w' := by
  unfold mC_J2_add_2_11 at hf
  have hx := Ext.refl w
  obtain ⟨h1, hf⟩ := ck_ex hf
  obtain ⟨h2, hf⟩ := ck_ex hf
  obtain ⟨w3, hs4, hf⟩ := st1_ex hf
  have hx := hx.trans (Ext.R hs4)
  obtain ⟨h5, hf⟩ := ck_ex hf
  obtain ⟨w6, hs7, hf⟩ := st1_ex hf
  have hx := hx.trans (Ext.I hs7)
  cases some_ex hf
  exact hx
set_option maxHeartbeats 4000000 in
theorem mC_J2_add_2_x  (w : AH) (a : Nat) (p0 : Nat) (p1 : Nat) (p2 : Int32) (w' : AH) (hf : mC_J2_add_2 a p0 p1 p2 w = some w') : Ext w w' := by
  unfold mC_J2_add_2 at hf
  have hx := Ext.refl w
  obtain ⟨h1, hf⟩ := ck_ex hf
  by_cases hc2 : p2 = (Int32.ofNat (hkd w p1).2)
  · have hf := if_t hf hc2
    obtain ⟨h3, hf⟩ := ck_ex hf
    obtain ⟨r5, w6, hc4, hf⟩ := bd2_ex hf
    have hx := hx.trans (mC_J2_grow_2_x _ _ _ _ hc4)
    exact hx.trans (mC_J2_add_2_11_x a p0 r5 p2 w6 hf)
  · have hf := if_f hf hc2
    exact hx.trans (mC_J2_add_2_11_x a p0 p1 p2 w hf)
set_option maxHeartbeats 4000000 in
theorem mC_J2_add_x  (w : AH) (a : Nat) (p0 : Nat) (r : Int32) (w' : AH) (hf : mC_J2_add a p0 w = some (r, w')) : Ext w w' := by
  unfold mC_J2_add at hf
  have hx := Ext.refl w
  obtain ⟨h1, hf⟩ := ck_ex hf
  obtain ⟨w2, hs3, hf⟩ := st1_ex hf
  have hx := hx.trans (Ext.I hs3)
  obtain ⟨h4, hf⟩ := ck_ex hf
  obtain ⟨b5, hb6, hf⟩ := bd1_ex hf
  obtain ⟨w8, hc7, hf⟩ := bd1_ex hf
  have hx := hx.trans (mC_J2_add_2_x _ _ _ _ _ _ hc7)
  cases some_ex hf
  exact hx
set_option maxHeartbeats 4000000 in
theorem mC_X9_init_x  (w : AH) (a : Nat) (p0 : Int32) (p1 : Int32) (p2 : Int32) (p3 : Int32) (p4 : Int32) (w' : AH) (hf : mC_X9_init a p0 p1 p2 p3 p4 w = some w') : Ext w w' := by
  unfold mC_X9_init at hf
  have hx := Ext.refl w
  obtain ⟨w2, hc1, hf⟩ := bd1_ex hf
  have hx := hx.trans (mC_X8_init_x _ _ _ _ _ _ _ _ hc1)
  cases some_ex hf
  exact hx
set_option maxHeartbeats 4000000 in
theorem mC_X10_init_x  (w : AH) (a : Nat) (p0 : Int32) (p1 : Int32) (p2 : Int32) (p3 : Int32) (p4 : Int32) (w' : AH) (hf : mC_X10_init a p0 p1 p2 p3 p4 w = some w') : Ext w w' := by
  unfold mC_X10_init at hf
  have hx := Ext.refl w
  obtain ⟨w2, hc1, hf⟩ := bd1_ex hf
  have hx := hx.trans (mC_X8_init_x _ _ _ _ _ _ _ _ hc1)
  cases some_ex hf
  exact hx
set_option maxHeartbeats 4000000 in
theorem mC_X11_init_x  (w : AH) (a : Nat) (p0 : Int32) (p1 : Int32) (p2 : Int32) (p3 : Int32) (p4 : Int32) (w' : AH) (hf : mC_X11_init a p0 p1 p2 p3 p4 w = some w') : Ext w w' := by
  unfold mC_X11_init at hf
  have hx := Ext.refl w
  obtain ⟨w2, hc1, hf⟩ := bd1_ex hf
  have hx := hx.trans (mC_X10_init_x _ _ _ _ _ _ _ _ hc1)
  cases some_ex hf
  exact hx
set_option maxHeartbeats 4000000 in
theorem mC_X0_adds_149_x {r : Int32} {w' : AH}  (v0 : Nat) (v7 : Int32) (w : AH) (hf : mC_X0_adds_149 v0 v7 w = some (r, w')) : Ext w w' := by
  unfold mC_X0_adds_149 at hf
  have hx := Ext.refl w
  obtain ⟨h1, hf⟩ := ck_ex hf
  obtain ⟨b2, hb3, hf⟩ := bd1_ex hf
  obtain ⟨h4, hf⟩ := ck_ex hf
  obtain ⟨b5, hb6, hf⟩ := bd1_ex hf
  obtain ⟨h7, hf⟩ := ck_ex hf
  obtain ⟨w8, hs9, hf⟩ := st1_ex hf
  have hx := hx.trans (Ext.I hs9)
  obtain ⟨h10, hf⟩ := ck_ex hf
  obtain ⟨b11, hb12, hf⟩ := bd1_ex hf
  obtain ⟨h13, hf⟩ := ck_ex hf
  obtain ⟨b14, hb15, hf⟩ := bd1_ex hf
  obtain ⟨h16, hf⟩ := ck_ex hf
  obtain ⟨w17, hs18, hf⟩ := st1_ex hf
  have hx := hx.trans (Ext.I hs18)
  cases some_ex hf
  exact hx
set_option maxHeartbeats 4000000 in
theorem mC_X0_adds_x  (w : AH) (a : Nat) (p0 : Int32) (p1 : Int32) (p2 : Int32) (p3 : Int32) (p4 : Int32) (p5 : Int32) (r : Int32) (w' : AH) (hf : mC_X0_adds a p0 p1 p2 p3 p4 p5 w = some (r, w')) : Ext w w' := by
  unfold mC_X0_adds at hf
  have hx := Ext.refl w
  obtain ⟨h1, hf⟩ := ck_ex hf
  obtain ⟨b2, hb3, hf⟩ := bd1_ex hf
  obtain ⟨h4, hf⟩ := ck_ex hf
  obtain ⟨b5, hb6, hf⟩ := bd1_ex hf
  obtain ⟨h7, hf⟩ := ck_ex hf
  obtain ⟨r9, hc8, hf⟩ := bd1_ex hf
  by_cases hw0 : p3 = (0 : Int32)
  · have hf := if_t hf hw0
    obtain ⟨h10, hf⟩ := ck_ex hf
    obtain ⟨b11, hb12, hf⟩ := st1_ex hf
    obtain ⟨w13, hs14, hf⟩ := st1_ex hf
    have hx := hx.trans (Ext.new hs14)
    obtain ⟨w16, hc15, hf⟩ := bd1_ex hf
    have hx := hx.trans (mC_X8_init_x _ _ _ _ _ _ _ _ hc15)
    obtain ⟨h17, hf⟩ := ck_ex hf
    obtain ⟨r19, w20, hc18, hf⟩ := bd2_ex hf
    have hx := hx.trans (mC_J2_add_x _ _ _ _ _ hc18)
    exact hx.trans (mC_X0_adds_149_x a r9 w20 hf)
  replace hf := if_f hf hw0
  by_cases hw1 : p3 = (1 : Int32)
  · have hf := if_t hf hw1
    obtain ⟨h21, hf⟩ := ck_ex hf
    obtain ⟨b22, hb23, hf⟩ := st1_ex hf
    obtain ⟨w24, hs25, hf⟩ := st1_ex hf
    have hx := hx.trans (Ext.new hs25)
    obtain ⟨w27, hc26, hf⟩ := bd1_ex hf
    have hx := hx.trans (mC_X9_init_x _ _ _ _ _ _ _ _ hc26)
    obtain ⟨h28, hf⟩ := ck_ex hf
    obtain ⟨r30, w31, hc29, hf⟩ := bd2_ex hf
    have hx := hx.trans (mC_J2_add_x _ _ _ _ _ hc29)
    exact hx.trans (mC_X0_adds_149_x a r9 w31 hf)
  replace hf := if_f hf hw1
  by_cases hw2 : p3 = (2 : Int32)
  · have hf := if_t hf hw2
    obtain ⟨h32, hf⟩ := ck_ex hf
    obtain ⟨b33, hb34, hf⟩ := st1_ex hf
    obtain ⟨w35, hs36, hf⟩ := st1_ex hf
    have hx := hx.trans (Ext.new hs36)
    obtain ⟨w38, hc37, hf⟩ := bd1_ex hf
    have hx := hx.trans (mC_X10_init_x _ _ _ _ _ _ _ _ hc37)
    obtain ⟨h39, hf⟩ := ck_ex hf
    obtain ⟨r41, w42, hc40, hf⟩ := bd2_ex hf
    have hx := hx.trans (mC_J2_add_x _ _ _ _ _ hc40)
    exact hx.trans (mC_X0_adds_149_x a r9 w42 hf)
  replace hf := if_f hf hw2
  obtain ⟨h43, hf⟩ := ck_ex hf
  obtain ⟨b44, hb45, hf⟩ := st1_ex hf
  obtain ⟨w46, hs47, hf⟩ := st1_ex hf
  have hx := hx.trans (Ext.new hs47)
  obtain ⟨w49, hc48, hf⟩ := bd1_ex hf
  have hx := hx.trans (mC_X11_init_x _ _ _ _ _ _ _ _ hc48)
  obtain ⟨h50, hf⟩ := ck_ex hf
  obtain ⟨r52, w53, hc51, hf⟩ := bd2_ex hf
  have hx := hx.trans (mC_J2_add_x _ _ _ _ _ hc51)
  exact hx.trans (mC_X0_adds_149_x a r9 w53 hf)
set_option maxHeartbeats 4000000 in
theorem mC_X0_name_20_x {r : Int32} {w' : AH}  (v0 : Nat) (w : AH) (hf : mC_X0_name_20 v0 w = some (r, w')) : Ext w w' := by
  unfold mC_X0_name_20 at hf
  have hx := Ext.refl w
  obtain ⟨h1, hf⟩ := ck_ex hf
  obtain ⟨r3, w4, hc2, hf⟩ := bd2_ex hf
  have hx := hx.trans (mC_X0_refuse_x _ _ _ _ _ hc2)
  cases some_ex hf
  exact hx
set_option maxHeartbeats 4000000 in
theorem mC_X0_name_x  (w : AH) (a : Nat) (p0 : Int32) (p1 : Int32) (p2 : Int32) (p3 : Int32) (p4 : Int32) (p5 : Int32) (r : Int32) (w' : AH) (hf : mC_X0_name a p0 p1 p2 p3 p4 p5 w = some (r, w')) : Ext w w' := by
  unfold mC_X0_name at hf
  have hx := Ext.refl w
  obtain ⟨r2, hc1, hf⟩ := bd1_ex hf
  by_cases hc3 : r2 = (0 : Int32)
  · have hf := if_t hf hc3
    exact hx.trans (mC_X0_name_20_x a w hf)
  · have hf := if_f hf hc3
    obtain ⟨r5, hc4, hf⟩ := bd1_ex hf
    by_cases hc6 : r5 = (0 : Int32)
    · have hf := if_t hf hc6
      exact hx.trans (mC_X0_name_20_x a w hf)
    · have hf := if_f hf hc6
      obtain ⟨h7, hf⟩ := ck_ex hf
      obtain ⟨r9, hc8, hf⟩ := bd1_ex hf
      by_cases hc10 : r9 = (0 : Int32)
      · have hf := if_t hf hc10
        obtain ⟨r31, w32, hc30, hf⟩ := bd2_ex hf
        have hx := hx.trans (mC_X0_refuse_x _ _ _ _ _ hc30)
        cases some_ex hf
        exact hx
      · have hf := if_f hf hc10
        obtain ⟨b11, hb12, hf⟩ := bd1_ex hf
        obtain ⟨h13, hf⟩ := ck_ex hf
        obtain ⟨b14, hb15, hf⟩ := bd1_ex hf
        obtain ⟨h16, hf⟩ := ck_ex hf
        obtain ⟨r18, hc17, hf⟩ := bd1_ex hf
        by_cases hc19 : r18 = (200 : Int32)
        · have hf := if_t hf hc19
          obtain ⟨r28, w29, hc27, hf⟩ := bd2_ex hf
          have hx := hx.trans (mC_X0_refuse_x _ _ _ _ _ hc27)
          cases some_ex hf
          exact hx
        · have hf := if_f hf hc19
          obtain ⟨r21, w22, hc20, hf⟩ := bd2_ex hf
          have hx := hx.trans (mC_X0_adds_x _ _ _ _ _ _ _ _ _ _ hc20)
          obtain ⟨h23, hf⟩ := ck_ex hf
          obtain ⟨r25, w26, hc24, hf⟩ := bd2_ex hf
          have hx := hx.trans (mC_X0_told_x _ _ _ _ _ hc24)
          cases some_ex hf
          exact hx
set_option maxHeartbeats 4000000 in
theorem mC_X0_reads_119_x {r : Int32} {w' : AH}  (k6 : Nat → Nat → Int32 → Int32 → Int32 → Int32 → AH → Option (Int32 × AH)) (hk6 : ∀ (v0 : Nat) (v1 : Nat) (v2 : Int32) (v3 : Int32) (v4 : Int32) (v5 : Int32) (w : AH), k6 v0 v1 v2 v3 v4 v5 w = some (r, w') → Ext w w') (v0 : Nat) (v1 : Nat) (v2 : Int32) (v3 : Int32) (v4 : Int32) (v5 : Int32) (w : AH) (hf : mC_X0_reads_119 k6 v0 v1 v2 v3 v4 v5 w = some (r, w')) : Ext w w' := by
  unfold mC_X0_reads_119 at hf
  have hx := Ext.refl w
  exact hx.trans (hk6 v0 v1 v2 v3 v4 (v5 + (7 : Int32)) w hf)
set_option maxHeartbeats 4000000 in
theorem mC_X0_reads_128_x {r : Int32} {w' : AH}  (v4 : Int32) (t0 : Nat) (w : AH) (hf : mC_X0_reads_128 v4 t0 w = some (r, w')) : Ext w w' := by
  unfold mC_X0_reads_128 at hf
  have hx := Ext.refl w
  cases some_ex hf
  exact hx
set_option maxHeartbeats 4000000 in
theorem mC_X0_reads_6_x {r : Int32} {w' : AH}  (k6 : Nat → Nat → Int32 → Int32 → Int32 → Int32 → AH → Option (Int32 × AH)) (hk6 : ∀ (v0 : Nat) (v1 : Nat) (v2 : Int32) (v3 : Int32) (v4 : Int32) (v5 : Int32) (w : AH), k6 v0 v1 v2 v3 v4 v5 w = some (r, w') → Ext w w') (v0 : Nat) (v1 : Nat) (v2 : Int32) (v3 : Int32) (v4 : Int32) (v5 : Int32) (w : AH) (hf : mC_X0_reads_6 k6 v0 v1 v2 v3 v4 v5 w = some (r, w')) : Ext w w' := by
  unfold mC_X0_reads_6 at hf
  have hx := Ext.refl w
  obtain ⟨h1, hf⟩ := ck_ex hf
  by_cases hc2 : (Int32.ofNat (hkd w v1).2) ≤ v5
  · have hf := if_t hf hc2
    cases some_ex hf
    exact hx
  · have hf := if_f hf hc2
    obtain ⟨h3, hf⟩ := ck_ex hf
    by_cases hc4 : bnd (v5 + (3 : Int32)) (hkd w v1).2 = true
    · have hf := if_t hf hc4
      by_cases hc5 : bnd (v5 + (4 : Int32)) (hkd w v1).2 = true
      · have hf := if_t hf hc5
        by_cases hc6 : bnd (v5 + (5 : Int32)) (hkd w v1).2 = true
        · have hf := if_t hf hc6
          by_cases hc7 : bnd (v5 + (6 : Int32)) (hkd w v1).2 = true
          · have hf := if_t hf hc7
            by_cases hc8 : bnd v5 (hkd w v1).2 = true
            · have hf := if_t hf hc8
              by_cases hc9 : bnd (v5 + (1 : Int32)) (hkd w v1).2 = true
              · have hf := if_t hf hc9
                by_cases hc10 : bnd (v5 + (2 : Int32)) (hkd w v1).2 = true
                · have hf := if_t hf hc10
                  obtain ⟨r12, hc11, hf⟩ := bd1_ex hf
                  by_cases hc13 : r12 = (0 : Int32)
                  · have hf := if_t hf hc13
                    exact hx.trans (mC_X0_reads_119_x k6 hk6 v0 v1 v2 v3 v4 v5 w hf)
                  · have hf := if_f hf hc13
                    by_cases hc14 : bnd v5 (hkd w v1).2 = true
                    · have hf := if_t hf hc14
                      by_cases hc15 : bnd (v5 + (1 : Int32)) (hkd w v1).2 = true
                      · have hf := if_t hf hc15
                        by_cases hc16 : bnd (v5 + (2 : Int32)) (hkd w v1).2 = true
                        · have hf := if_t hf hc16
                          obtain ⟨h17, hf⟩ := ck_ex hf
                          obtain ⟨r19, w20, hc18, hf⟩ := bd2_ex hf
                          have hx := hx.trans (mC_X0_adds_x _ _ _ _ _ _ _ _ _ _ hc18)
                          exact hx.trans (mC_X0_reads_119_x k6 hk6 v0 v1 v2 v3 (v4 + (1 : Int32)) v5 w20 hf)
                        · have hf := if_f hf hc16
                          obtain ⟨hn26, hf⟩ := ck_ex hf
                          obtain ⟨h21, hf⟩ := ck_ex hf
                          obtain ⟨b22, hb23, hf⟩ := st1_ex hf
                          obtain ⟨w24, hs25, hf⟩ := st1_ex hf
                          have hx := hx.trans (Ext.oob hs25)
                          exact hx.trans (mC_X0_reads_128_x v4 b22 w24 hf)
                      · have hf := if_f hf hc15
                        obtain ⟨hn32, hf⟩ := ck_ex hf
                        obtain ⟨h27, hf⟩ := ck_ex hf
                        obtain ⟨b28, hb29, hf⟩ := st1_ex hf
                        obtain ⟨w30, hs31, hf⟩ := st1_ex hf
                        have hx := hx.trans (Ext.oob hs31)
                        exact hx.trans (mC_X0_reads_128_x v4 b28 w30 hf)
                    · have hf := if_f hf hc14
                      obtain ⟨hn38, hf⟩ := ck_ex hf
                      obtain ⟨h33, hf⟩ := ck_ex hf
                      obtain ⟨b34, hb35, hf⟩ := st1_ex hf
                      obtain ⟨w36, hs37, hf⟩ := st1_ex hf
                      have hx := hx.trans (Ext.oob hs37)
                      exact hx.trans (mC_X0_reads_128_x v4 b34 w36 hf)
                · have hf := if_f hf hc10
                  obtain ⟨hn44, hf⟩ := ck_ex hf
                  obtain ⟨h39, hf⟩ := ck_ex hf
                  obtain ⟨b40, hb41, hf⟩ := st1_ex hf
                  obtain ⟨w42, hs43, hf⟩ := st1_ex hf
                  have hx := hx.trans (Ext.oob hs43)
                  exact hx.trans (mC_X0_reads_128_x v4 b40 w42 hf)
              · have hf := if_f hf hc9
                obtain ⟨hn50, hf⟩ := ck_ex hf
                obtain ⟨h45, hf⟩ := ck_ex hf
                obtain ⟨b46, hb47, hf⟩ := st1_ex hf
                obtain ⟨w48, hs49, hf⟩ := st1_ex hf
                have hx := hx.trans (Ext.oob hs49)
                exact hx.trans (mC_X0_reads_128_x v4 b46 w48 hf)
            · have hf := if_f hf hc8
              obtain ⟨hn56, hf⟩ := ck_ex hf
              obtain ⟨h51, hf⟩ := ck_ex hf
              obtain ⟨b52, hb53, hf⟩ := st1_ex hf
              obtain ⟨w54, hs55, hf⟩ := st1_ex hf
              have hx := hx.trans (Ext.oob hs55)
              exact hx.trans (mC_X0_reads_128_x v4 b52 w54 hf)
          · have hf := if_f hf hc7
            obtain ⟨hn62, hf⟩ := ck_ex hf
            obtain ⟨h57, hf⟩ := ck_ex hf
            obtain ⟨b58, hb59, hf⟩ := st1_ex hf
            obtain ⟨w60, hs61, hf⟩ := st1_ex hf
            have hx := hx.trans (Ext.oob hs61)
            exact hx.trans (mC_X0_reads_128_x v4 b58 w60 hf)
        · have hf := if_f hf hc6
          obtain ⟨hn68, hf⟩ := ck_ex hf
          obtain ⟨h63, hf⟩ := ck_ex hf
          obtain ⟨b64, hb65, hf⟩ := st1_ex hf
          obtain ⟨w66, hs67, hf⟩ := st1_ex hf
          have hx := hx.trans (Ext.oob hs67)
          exact hx.trans (mC_X0_reads_128_x v4 b64 w66 hf)
      · have hf := if_f hf hc5
        obtain ⟨hn74, hf⟩ := ck_ex hf
        obtain ⟨h69, hf⟩ := ck_ex hf
        obtain ⟨b70, hb71, hf⟩ := st1_ex hf
        obtain ⟨w72, hs73, hf⟩ := st1_ex hf
        have hx := hx.trans (Ext.oob hs73)
        exact hx.trans (mC_X0_reads_128_x v4 b70 w72 hf)
    · have hf := if_f hf hc4
      obtain ⟨hn80, hf⟩ := ck_ex hf
      obtain ⟨h75, hf⟩ := ck_ex hf
      obtain ⟨b76, hb77, hf⟩ := st1_ex hf
      obtain ⟨w78, hs79, hf⟩ := st1_ex hf
      have hx := hx.trans (Ext.oob hs79)
      exact hx.trans (mC_X0_reads_128_x v4 b76 w78 hf)
set_option maxHeartbeats 4000000 in
theorem mC_X0_reads_x  (w : AH) (a : Nat) (p0 : Nat) (p1 : Int32) (p2 : Int32) (r : Int32) (w' : AH) (hf : mC_X0_reads a p0 p1 p2 w = some (r, w')) : Ext w w' := by
  unfold mC_X0_reads at hf
  have hx := Ext.refl w
  exact hx.trans (lq7_ex (P := fun v0 v1 v2 v3 v4 v5 w => Ext w w') (fun k hk v0 v1 v2 v3 v4 v5 w hf => mC_X0_reads_6_x k hk v0 v1 v2 v3 v4 v5 w hf) LF a p0 p1 p2 (0 : Int32) (0 : Int32) w hf)
set_option maxHeartbeats 4000000 in
theorem mC_X0_row_x  (w : AH) (a : Nat) (p0 : Int32) (p1 : Int32) (r : Int32) (w' : AH) (hf : mC_X0_row a p0 p1 w = some (r, w')) : Ext w w' := by
  unfold mC_X0_row at hf
  have hx := Ext.refl w
  obtain ⟨h1, hf⟩ := ck_ex hf
  obtain ⟨w2, hs3, hf⟩ := st1_ex hf
  have hx := hx.trans (Ext.I hs3)
  obtain ⟨r5, hc4, hf⟩ := bd1_ex hf
  by_cases hc6 : r5 = (0 : Int32)
  · have hf := if_t hf hc6
    obtain ⟨h52, hf⟩ := ck_ex hf
    obtain ⟨r54, w55, hc53, hf⟩ := bd2_ex hf
    have hx := hx.trans (mC_X0_refuse_x _ _ _ _ _ hc53)
    cases some_ex hf
    exact hx
  · have hf := if_f hf hc6
    obtain ⟨h7, hf⟩ := ck_ex hf
    obtain ⟨r9, hc8, hf⟩ := bd1_ex hf
    by_cases hc10 : r9 = (0 : Int32)
    · have hf := if_t hf hc10
      obtain ⟨r50, w51, hc49, hf⟩ := bd2_ex hf
      have hx := hx.trans (mC_X0_refuse_x _ _ _ _ _ hc49)
      cases some_ex hf
      exact hx
    · have hf := if_f hf hc10
      obtain ⟨b11, hb12, hf⟩ := bd1_ex hf
      obtain ⟨h13, hf⟩ := ck_ex hf
      obtain ⟨b14, hb15, hf⟩ := bd1_ex hf
      obtain ⟨h16, hf⟩ := ck_ex hf
      obtain ⟨r18, hc17, hf⟩ := bd1_ex hf
      by_cases hc19 : (r18 + ((hvi w a 5) / (7 : Int32))) ≤ (200 : Int32)
      · have hf := if_t hf hc19
        by_cases hc20 : (hvi w a 5) = (0 : Int32)
        · have hf := if_t hf hc20
          obtain ⟨r44, w45, hc43, hf⟩ := bd2_ex hf
          have hx := hx.trans (mC_X0_refuse_x _ _ _ _ _ hc43)
          cases some_ex hf
          exact hx
        · have hf := if_f hf hc20
          obtain ⟨h21, hf⟩ := ck_ex hf
          obtain ⟨b22, hb23, hf⟩ := st1_ex hf
          obtain ⟨w24, hs25, hf⟩ := st1_ex hf
          have hx := hx.trans (Ext.new hs25)
          obtain ⟨h26, hf⟩ := ck_ex hf
          obtain ⟨b27, hb28, hf⟩ := bd1_ex hf
          obtain ⟨h29, hf⟩ := ck_ex hf
          obtain ⟨h30, hf⟩ := ck_ex hf
          obtain ⟨h31, hf⟩ := ck_ex hf
          obtain ⟨h32, hf⟩ := ck_ex hf
          obtain ⟨w33, hs34, hf⟩ := st1_ex hf
          have hx := hx.trans (Ext.cI hs34)
          obtain ⟨h35, hf⟩ := ck_ex hf
          obtain ⟨r37, w38, hc36, hf⟩ := bd2_ex hf
          have hx := hx.trans (mC_X0_reads_x _ _ _ _ _ _ _ hc36)
          obtain ⟨h39, hf⟩ := ck_ex hf
          obtain ⟨r41, w42, hc40, hf⟩ := bd2_ex hf
          have hx := hx.trans (mC_X0_told_x _ _ _ _ _ hc40)
          cases some_ex hf
          exact hx
      · have hf := if_f hf hc19
        obtain ⟨r47, w48, hc46, hf⟩ := bd2_ex hf
        have hx := hx.trans (mC_X0_refuse_x _ _ _ _ _ hc46)
        cases some_ex hf
        exact hx
set_option maxHeartbeats 4000000 in
theorem mC_X0_off_14_x {r : Int32} {w' : AH}  (v0 : Nat) (w : AH) (hf : mC_X0_off_14 v0 w = some (r, w')) : Ext w w' := by
  unfold mC_X0_off_14 at hf
  have hx := Ext.refl w
  obtain ⟨h1, hf⟩ := ck_ex hf
  obtain ⟨r3, w4, hc2, hf⟩ := bd2_ex hf
  have hx := hx.trans (mC_X0_refuse_x _ _ _ _ _ hc2)
  cases some_ex hf
  exact hx
set_option maxHeartbeats 4000000 in
theorem mC_X0_off_x  (w : AH) (a : Nat) (p0 : Int32) (p1 : Int32) (p2 : Int32) (r : Int32) (w' : AH) (hf : mC_X0_off a p0 p1 p2 w = some (r, w')) : Ext w w' := by
  unfold mC_X0_off at hf
  have hx := Ext.refl w
  obtain ⟨r2, hc1, hf⟩ := bd1_ex hf
  by_cases hc3 : r2 = (0 : Int32)
  · have hf := if_t hf hc3
    exact hx.trans (mC_X0_off_14_x a w hf)
  · have hf := if_f hf hc3
    obtain ⟨r5, hc4, hf⟩ := bd1_ex hf
    by_cases hc6 : r5 = (0 : Int32)
    · have hf := if_t hf hc6
      exact hx.trans (mC_X0_off_14_x a w hf)
    · have hf := if_f hf hc6
      obtain ⟨h7, hf⟩ := ck_ex hf
      obtain ⟨r9, hc8, hf⟩ := bd1_ex hf
      by_cases hc10 : r9 = (0 : Int32)
      · have hf := if_t hf hc10
        obtain ⟨r37, w38, hc36, hf⟩ := bd2_ex hf
        have hx := hx.trans (mC_X0_refuse_x _ _ _ _ _ hc36)
        cases some_ex hf
        exact hx
      · have hf := if_f hf hc10
        obtain ⟨b11, hb12, hf⟩ := bd1_ex hf
        obtain ⟨h13, hf⟩ := ck_ex hf
        obtain ⟨b14, hb15, hf⟩ := bd1_ex hf
        obtain ⟨h16, hf⟩ := ck_ex hf
        by_cases hc17 : (hvi w b14 (p0.toNatClampNeg)) = (-1 : Int32)
        · have hf := if_t hf hc17
          obtain ⟨w18, hs19, hf⟩ := st1_ex hf
          have hx := hx.trans (Ext.I hs19)
          obtain ⟨h20, hf⟩ := ck_ex hf
          obtain ⟨b21, hb22, hf⟩ := bd1_ex hf
          obtain ⟨h23, hf⟩ := ck_ex hf
          obtain ⟨b24, hb25, hf⟩ := bd1_ex hf
          obtain ⟨h26, hf⟩ := ck_ex hf
          obtain ⟨w27, hs28, hf⟩ := st1_ex hf
          have hx := hx.trans (Ext.I hs28)
          obtain ⟨h29, hf⟩ := ck_ex hf
          obtain ⟨r31, w32, hc30, hf⟩ := bd2_ex hf
          have hx := hx.trans (mC_X0_told_x _ _ _ _ _ hc30)
          cases some_ex hf
          exact hx
        · have hf := if_f hf hc17
          obtain ⟨r34, w35, hc33, hf⟩ := bd2_ex hf
          have hx := hx.trans (mC_X0_refuse_x _ _ _ _ _ hc33)
          cases some_ex hf
          exact hx
set_option maxHeartbeats 4000000 in
theorem mC_X0_moved_15_x {r : Int32} {w' : AH}  (v0 : Nat) (w : AH) (hf : mC_X0_moved_15 v0 w = some (r, w')) : Ext w w' := by
  unfold mC_X0_moved_15 at hf
  have hx := Ext.refl w
  obtain ⟨h1, hf⟩ := ck_ex hf
  obtain ⟨r3, w4, hc2, hf⟩ := bd2_ex hf
  have hx := hx.trans (mC_X0_refuse_x _ _ _ _ _ hc2)
  cases some_ex hf
  exact hx
set_option maxHeartbeats 4000000 in
theorem mC_X0_moved_37_x {r : Int32} {w' : AH}  (v0 : Nat) (w : AH) (hf : mC_X0_moved_37 v0 w = some (r, w')) : Ext w w' := by
  unfold mC_X0_moved_37 at hf
  have hx := Ext.refl w
  obtain ⟨h1, hf⟩ := ck_ex hf
  obtain ⟨r3, w4, hc2, hf⟩ := bd2_ex hf
  have hx := hx.trans (mC_X0_refuse_x _ _ _ _ _ hc2)
  cases some_ex hf
  exact hx
set_option maxHeartbeats 4000000 in
theorem mC_X0_moved_x  (w : AH) (a : Nat) (p0 : Int32) (p1 : Int32) (p2 : Int32) (p3 : Int32) (r : Int32) (w' : AH) (hf : mC_X0_moved a p0 p1 p2 p3 w = some (r, w')) : Ext w w' := by
  unfold mC_X0_moved at hf
  have hx := Ext.refl w
  obtain ⟨r2, hc1, hf⟩ := bd1_ex hf
  by_cases hc3 : r2 = (0 : Int32)
  · have hf := if_t hf hc3
    exact hx.trans (mC_X0_moved_15_x a w hf)
  · have hf := if_f hf hc3
    obtain ⟨r5, hc4, hf⟩ := bd1_ex hf
    by_cases hc6 : r5 = (0 : Int32)
    · have hf := if_t hf hc6
      exact hx.trans (mC_X0_moved_15_x a w hf)
    · have hf := if_f hf hc6
      obtain ⟨h7, hf⟩ := ck_ex hf
      obtain ⟨r9, hc8, hf⟩ := bd1_ex hf
      by_cases hc10 : r9 = (0 : Int32)
      · have hf := if_t hf hc10
        exact hx.trans (mC_X0_moved_37_x a w hf)
      · have hf := if_f hf hc10
        obtain ⟨r12, hc11, hf⟩ := bd1_ex hf
        by_cases hc13 : r12 = (0 : Int32)
        · have hf := if_t hf hc13
          exact hx.trans (mC_X0_moved_37_x a w hf)
        · have hf := if_f hf hc13
          obtain ⟨b14, hb15, hf⟩ := bd1_ex hf
          obtain ⟨h16, hf⟩ := ck_ex hf
          obtain ⟨b17, hb18, hf⟩ := bd1_ex hf
          obtain ⟨h19, hf⟩ := ck_ex hf
          obtain ⟨r21, hc20, hf⟩ := bd1_ex hf
          obtain ⟨h22, hf⟩ := ck_ex hf
          by_cases hc23 : (hvi w r21 0) = p1
          · have hf := if_t hf hc23
            obtain ⟨r56, w57, hc55, hf⟩ := bd2_ex hf
            have hx := hx.trans (mC_X0_refuse_x _ _ _ _ _ hc55)
            cases some_ex hf
            exact hx
          · have hf := if_f hf hc23
            obtain ⟨b24, hb25, hf⟩ := bd1_ex hf
            obtain ⟨h26, hf⟩ := ck_ex hf
            by_cases hc27 : (hvi w b24 (p0.toNatClampNeg)) = (-1 : Int32)
            · have hf := if_t hf hc27
              obtain ⟨w28, hs29, hf⟩ := st1_ex hf
              have hx := hx.trans (Ext.I hs29)
              obtain ⟨h30, hf⟩ := ck_ex hf
              obtain ⟨b31, hb32, hf⟩ := bd1_ex hf
              obtain ⟨h33, hf⟩ := ck_ex hf
              obtain ⟨b34, hb35, hf⟩ := bd1_ex hf
              obtain ⟨h36, hf⟩ := ck_ex hf
              obtain ⟨w37, hs38, hf⟩ := st1_ex hf
              have hx := hx.trans (Ext.I hs38)
              obtain ⟨h39, hf⟩ := ck_ex hf
              obtain ⟨b40, hb41, hf⟩ := bd1_ex hf
              obtain ⟨h42, hf⟩ := ck_ex hf
              obtain ⟨b43, hb44, hf⟩ := bd1_ex hf
              obtain ⟨h45, hf⟩ := ck_ex hf
              obtain ⟨w46, hs47, hf⟩ := st1_ex hf
              have hx := hx.trans (Ext.I hs47)
              obtain ⟨h48, hf⟩ := ck_ex hf
              obtain ⟨r50, w51, hc49, hf⟩ := bd2_ex hf
              have hx := hx.trans (mC_X0_told_x _ _ _ _ _ hc49)
              cases some_ex hf
              exact hx
            · have hf := if_f hf hc27
              obtain ⟨r53, w54, hc52, hf⟩ := bd2_ex hf
              have hx := hx.trans (mC_X0_refuse_x _ _ _ _ _ hc52)
              cases some_ex hf
              exact hx
set_option maxHeartbeats 4000000 in
theorem mC_X12_init_x  (w : AH) (a : Nat) (p0 : Int32) (p1 : Int32) (p2 : Int32) (p3 : Int32) (p4 : Int32) (w' : AH) (hf : mC_X12_init a p0 p1 p2 p3 p4 w = some w') : Ext w w' := by
  unfold mC_X12_init at hf
  have hx := Ext.refl w
  obtain ⟨h1, hf⟩ := ck_ex hf
  obtain ⟨w2, hs3, hf⟩ := st1_ex hf
  have hx := hx.trans (Ext.I hs3)
  obtain ⟨h4, hf⟩ := ck_ex hf
  obtain ⟨w5, hs6, hf⟩ := st1_ex hf
  have hx := hx.trans (Ext.I hs6)
  obtain ⟨h7, hf⟩ := ck_ex hf
  obtain ⟨w8, hs9, hf⟩ := st1_ex hf
  have hx := hx.trans (Ext.I hs9)
  obtain ⟨h10, hf⟩ := ck_ex hf
  obtain ⟨w11, hs12, hf⟩ := st1_ex hf
  have hx := hx.trans (Ext.I hs12)
  obtain ⟨h13, hf⟩ := ck_ex hf
  obtain ⟨w14, hs15, hf⟩ := st1_ex hf
  have hx := hx.trans (Ext.I hs15)
  cases some_ex hf
  exact hx
set_option maxHeartbeats 4000000 in
theorem mC_X0_apart_16_x {r : Int32} {w' : AH}  (v0 : Nat) (w : AH) (hf : mC_X0_apart_16 v0 w = some (r, w')) : Ext w w' := by
  unfold mC_X0_apart_16 at hf
  have hx := Ext.refl w
  obtain ⟨h1, hf⟩ := ck_ex hf
  obtain ⟨r3, w4, hc2, hf⟩ := bd2_ex hf
  have hx := hx.trans (mC_X0_refuse_x _ _ _ _ _ hc2)
  cases some_ex hf
  exact hx
set_option maxHeartbeats 4000000 in
theorem mC_X0_apart_x  (w : AH) (a : Nat) (p0 : Int32) (p1 : Int32) (r : Int32) (w' : AH) (hf : mC_X0_apart a p0 p1 w = some (r, w')) : Ext w w' := by
  unfold mC_X0_apart at hf
  have hx := Ext.refl w
  obtain ⟨h1, hf⟩ := ck_ex hf
  obtain ⟨r3, hc2, hf⟩ := bd1_ex hf
  by_cases hc4 : r3 = (0 : Int32)
  · have hf := if_t hf hc4
    exact hx.trans (mC_X0_apart_16_x a w hf)
  · have hf := if_f hf hc4
    obtain ⟨r6, hc5, hf⟩ := bd1_ex hf
    by_cases hc7 : r6 = (0 : Int32)
    · have hf := if_t hf hc7
      exact hx.trans (mC_X0_apart_16_x a w hf)
    · have hf := if_f hf hc7
      by_cases hc8 : p0 = p1
      · have hf := if_t hf hc8
        obtain ⟨r45, w46, hc44, hf⟩ := bd2_ex hf
        have hx := hx.trans (mC_X0_refuse_x _ _ _ _ _ hc44)
        cases some_ex hf
        exact hx
      · have hf := if_f hf hc8
        obtain ⟨b9, hb10, hf⟩ := bd1_ex hf
        obtain ⟨h11, hf⟩ := ck_ex hf
        obtain ⟨b12, hb13, hf⟩ := bd1_ex hf
        obtain ⟨h14, hf⟩ := ck_ex hf
        obtain ⟨r16, hc15, hf⟩ := bd1_ex hf
        by_cases hc17 : r16 = (40 : Int32)
        · have hf := if_t hf hc17
          obtain ⟨r42, w43, hc41, hf⟩ := bd2_ex hf
          have hx := hx.trans (mC_X0_refuse_x _ _ _ _ _ hc41)
          cases some_ex hf
          exact hx
        · have hf := if_f hf hc17
          obtain ⟨h18, hf⟩ := ck_ex hf
          obtain ⟨b19, hb20, hf⟩ := st1_ex hf
          obtain ⟨w21, hs22, hf⟩ := st1_ex hf
          have hx := hx.trans (Ext.new hs22)
          obtain ⟨w24, hc23, hf⟩ := bd1_ex hf
          have hx := hx.trans (mC_X12_init_x _ _ _ _ _ _ _ _ hc23)
          obtain ⟨h25, hf⟩ := ck_ex hf
          obtain ⟨r27, w28, hc26, hf⟩ := bd2_ex hf
          have hx := hx.trans (mC_J2_add_x _ _ _ _ _ hc26)
          obtain ⟨h29, hf⟩ := ck_ex hf
          obtain ⟨b30, hb31, hf⟩ := bd1_ex hf
          obtain ⟨h32, hf⟩ := ck_ex hf
          obtain ⟨b33, hb34, hf⟩ := bd1_ex hf
          obtain ⟨h35, hf⟩ := ck_ex hf
          obtain ⟨r37, hc36, hf⟩ := bd1_ex hf
          obtain ⟨r39, w40, hc38, hf⟩ := bd2_ex hf
          have hx := hx.trans (mC_X0_told_x _ _ _ _ _ hc38)
          cases some_ex hf
          exact hx
set_option maxHeartbeats 4000000 in
theorem mC_X0_four_3_x {w' : AH}  (k3 : Nat → Int32 → Int32 → AH → Option (AH)) (hk3 : ∀ (v0 : Nat) (v1 : Int32) (v2 : Int32) (w : AH), k3 v0 v1 v2 w = some w' → Ext w w') (v0 : Nat) (v1 : Int32) (v2 : Int32) (w : AH) (hf : mC_X0_four_3 k3 v0 v1 v2 w = some w') : Ext w w' := by
  unfold mC_X0_four_3 at hf
  have hx := Ext.refl w
  by_cases hc1 : v2 < (0 : Int32)
  · have hf := if_t hf hc1
    cases some_ex hf
    exact hx
  · have hf := if_f hf hc1
    obtain ⟨h2, hf⟩ := ck_ex hf
    obtain ⟨b3, hb4, hf⟩ := bd1_ex hf
    obtain ⟨h5, hf⟩ := ck_ex hf
    obtain ⟨w6, hs7, hf⟩ := st1_ex hf
    have hx := hx.trans (Ext.I hs7)
    obtain ⟨h8, hf⟩ := ck_ex hf
    obtain ⟨w9, hs10, hf⟩ := st1_ex hf
    have hx := hx.trans (Ext.I hs10)
    exact hx.trans (hk3 v0 v1 (v2 + (-8 : Int32)) w9 hf)
set_option maxHeartbeats 4000000 in
theorem mC_X0_four_x  (w : AH) (a : Nat) (p0 : Int32) (w' : AH) (hf : mC_X0_four a p0 w = some w') : Ext w w' := by
  unfold mC_X0_four at hf
  have hx := Ext.refl w
  exact hx.trans (lq4_ex (P := fun v0 v1 v2 w => Ext w w') (fun k hk v0 v1 v2 w hf => mC_X0_four_3_x k hk v0 v1 v2 w hf) LF a p0 (24 : Int32) w hf)
set_option maxHeartbeats 4000000 in
theorem mC_X0_feed_x  (w : AH) (a : Nat) (p0 : Int32) (p1 : Int32) (p2 : Int32) (p3 : Int32) (p4 : Int32) (r : Int32) (w' : AH) (hf : mC_X0_feed a p0 p1 p2 p3 p4 w = some (r, w')) : Ext w w' := by
  unfold mC_X0_feed at hf
  have hx := Ext.refl w
  obtain ⟨h1, hf⟩ := ck_ex hf
  by_cases hc2 : ((hvi w a 5) + (20 : Int32)) ≤ (400 : Int32)
  · have hf := if_t hf hc2
    obtain ⟨w4, hc3, hf⟩ := bd1_ex hf
    have hx := hx.trans (mC_X0_four_x _ _ _ _ hc3)
    obtain ⟨h5, hf⟩ := ck_ex hf
    obtain ⟨w7, hc6, hf⟩ := bd1_ex hf
    have hx := hx.trans (mC_X0_four_x _ _ _ _ hc6)
    obtain ⟨h8, hf⟩ := ck_ex hf
    obtain ⟨w10, hc9, hf⟩ := bd1_ex hf
    have hx := hx.trans (mC_X0_four_x _ _ _ _ hc9)
    obtain ⟨h11, hf⟩ := ck_ex hf
    obtain ⟨w13, hc12, hf⟩ := bd1_ex hf
    have hx := hx.trans (mC_X0_four_x _ _ _ _ hc12)
    obtain ⟨h14, hf⟩ := ck_ex hf
    obtain ⟨w16, hc15, hf⟩ := bd1_ex hf
    have hx := hx.trans (mC_X0_four_x _ _ _ _ hc15)
    obtain ⟨h17, hf⟩ := ck_ex hf
    cases some_ex hf
    exact hx
  · have hf := if_f hf hc2
    cases some_ex hf
    exact hx
set_option maxHeartbeats 4000000 in
theorem mC_X0_end_x  (w : AH) (a : Nat) (p0 : Int32) (r : Int32) (w' : AH) (hf : mC_X0_end a p0 w = some (r, w')) : Ext w w' := by
  unfold mC_X0_end at hf
  have hx := Ext.refl w
  by_cases hc1 : p0 < (0 : Int32)
  · have hf := if_t hf hc1
    cases some_ex hf
    exact hx
  · have hf := if_f hf hc1
    obtain ⟨h2, hf⟩ := ck_ex hf
    by_cases hc3 : p0 ≤ (hvi w a 5)
    · have hf := if_t hf hc3
      obtain ⟨w4, hs5, hf⟩ := st1_ex hf
      have hx := hx.trans (Ext.I hs5)
      cases some_ex hf
      exact hx
    · have hf := if_f hf hc3
      cases some_ex hf
      exact hx
set_option maxHeartbeats 4000000 in
theorem mC_X13_init_x  (w : AH) (a : Nat) (p0 : Nat) (p1 : Int32) (w' : AH) (hf : mC_X13_init a p0 p1 w = some w') : Ext w w' := by
  unfold mC_X13_init at hf
  have hx := Ext.refl w
  obtain ⟨h1, hf⟩ := ck_ex hf
  obtain ⟨b2, hb3, hf⟩ := st1_ex hf
  obtain ⟨w4, hs5, hf⟩ := st1_ex hf
  have hx := hx.trans (Ext.new hs5)
  obtain ⟨w7, hc6, hf⟩ := bd1_ex hf
  have hx := hx.trans (mC_J2_init_x _ _ _ _ hc6)
  obtain ⟨h8, hf⟩ := ck_ex hf
  obtain ⟨w9, hs10, hf⟩ := st1_ex hf
  have hx := hx.trans (Ext.R hs10)
  obtain ⟨h11, hf⟩ := ck_ex hf
  obtain ⟨w12, hs13, hf⟩ := st1_ex hf
  have hx := hx.trans (Ext.R hs13)
  obtain ⟨h14, hf⟩ := ck_ex hf
  obtain ⟨w15, hs16, hf⟩ := st1_ex hf
  have hx := hx.trans (Ext.I hs16)
  cases some_ex hf
  exact hx
set_option maxHeartbeats 4000000 in
theorem mC_X13_next_102_x {w' : AH}  (k102 : Nat → AH → Option (AH)) (hk102 : ∀ (v0 : Nat) (w : AH), k102 v0 w = some w' → Ext w w') (v0 : Nat) (w : AH) (hf : mC_X13_next_102 k102 v0 w = some w') : Ext w w' := by
  unfold mC_X13_next_102 at hf
  have hx := Ext.refl w
  obtain ⟨h1, hf⟩ := ck_ex hf
  obtain ⟨r3, hc2, hf⟩ := bd1_ex hf
  by_cases hc4 : r3 = (0 : Int32)
  · have hf := if_t hf hc4
    cases some_ex hf
    exact hx
  · have hf := if_f hf hc4
    obtain ⟨w5, hs6, hf⟩ := st1_ex hf
    have hx := hx.trans (Ext.I hs6)
    exact hx.trans (hk102 v0 w5 hf)
set_option maxHeartbeats 4000000 in
theorem mC_X13_next_59_x {w' : AH}  (k59 : Nat → AH → Option (AH)) (hk59 : ∀ (v0 : Nat) (w : AH), k59 v0 w = some w' → Ext w w') (v0 : Nat) (w : AH) (hf : mC_X13_next_59 k59 v0 w = some w') : Ext w w' := by
  unfold mC_X13_next_59 at hf
  have hx := Ext.refl w
  obtain ⟨h1, hf⟩ := ck_ex hf
  obtain ⟨r3, hc2, hf⟩ := bd1_ex hf
  by_cases hc4 : r3 = (0 : Int32)
  · have hf := if_t hf hc4
    cases some_ex hf
    exact hx
  · have hf := if_f hf hc4
    obtain ⟨w5, hs6, hf⟩ := st1_ex hf
    have hx := hx.trans (Ext.I hs6)
    exact hx.trans (hk59 v0 w5 hf)
set_option maxHeartbeats 4000000 in
theorem mC_X13_next_8_x {w' : AH}  (k8 : Nat → AH → Option (AH)) (hk8 : ∀ (v0 : Nat) (w : AH), k8 v0 w = some w' → Ext w w') (v0 : Nat) (w : AH) (hf : mC_X13_next_8 k8 v0 w = some w') : Ext w w' := by
  unfold mC_X13_next_8 at hf
  have hx := Ext.refl w
  obtain ⟨h1, hf⟩ := ck_ex hf
  obtain ⟨r3, hc2, hf⟩ := bd1_ex hf
  by_cases hc4 : r3 = (0 : Int32)
  · have hf := if_t hf hc4
    obtain ⟨w5, hs6, hf⟩ := st1_ex hf
    have hx := hx.trans (Ext.I hs6)
    obtain ⟨h7, hf⟩ := ck_ex hf
    obtain ⟨r9, hc8, hf⟩ := bd1_ex hf
    by_cases hc10 : r9 = (0 : Int32)
    · have hf := if_t hf hc10
      obtain ⟨r12, hc11, hf⟩ := bd1_ex hf
      by_cases hc13 : r12 = (0 : Int32)
      · have hf := if_t hf hc13
        by_cases hc14 : (hvi w5 v0 1) ≤ (hvi w5 v0 3)
        · have hf := if_t hf hc14
          cases some_ex hf
          exact hx
        · have hf := if_f hf hc14
          obtain ⟨w15, hs16, hf⟩ := st1_ex hf
          have hx := hx.trans (Ext.I hs16)
          cases some_ex hf
          exact hx
      · have hf := if_f hf hc13
        exact hx.trans (lq2_ex (P := fun v0 w => Ext w w') (fun k hk v0 w hf => mC_X13_next_102_x k hk v0 w hf) LF v0 w5 hf)
    · have hf := if_f hf hc10
      exact hx.trans (lq2_ex (P := fun v0 w => Ext w w') (fun k hk v0 w hf => mC_X13_next_59_x k hk v0 w hf) LF v0 w5 hf)
  · have hf := if_f hf hc4
    obtain ⟨w17, hs18, hf⟩ := st1_ex hf
    have hx := hx.trans (Ext.I hs18)
    exact hx.trans (hk8 v0 w17 hf)
set_option maxHeartbeats 4000000 in
theorem mC_X13_next_x  (w : AH) (a : Nat) (w' : AH) (hf : mC_X13_next a w = some w') : Ext w w' := by
  unfold mC_X13_next at hf
  have hx := Ext.refl w
  obtain ⟨h1, hf⟩ := ck_ex hf
  obtain ⟨w2, hs3, hf⟩ := st1_ex hf
  have hx := hx.trans (Ext.I hs3)
  exact hx.trans (lq2_ex (P := fun v0 w => Ext w w') (fun k hk v0 w hf => mC_X13_next_8_x k hk v0 w hf) LF a w2 hf)
set_option maxHeartbeats 4000000 in
theorem mC_X14_init_x  (w : AH) (a : Nat) (p0 : Int32) (w' : AH) (hf : mC_X14_init a p0 w = some w') : Ext w w' := by
  unfold mC_X14_init at hf
  have hx := Ext.refl w
  obtain ⟨w2, hc1, hf⟩ := bd1_ex hf
  have hx := hx.trans (mC_J4_init_x _ _ _ _ _ _ _ hc1)
  obtain ⟨h3, hf⟩ := ck_ex hf
  obtain ⟨w4, hs5, hf⟩ := st1_ex hf
  have hx := hx.trans (Ext.I hs5)
  cases some_ex hf
  exact hx
set_option maxHeartbeats 4000000 in
theorem mC_X13_takes_x  (w : AH) (a : Nat) (p0 : Nat) (r : Int32) (w' : AH) (hf : mC_X13_takes a p0 w = some (r, w')) : Ext w w' := by
  unfold mC_X13_takes at hf
  have hx := Ext.refl w
  obtain ⟨h1, hf⟩ := ck_ex hf
  obtain ⟨r3, hc2, hf⟩ := bd1_ex hf
  by_cases hc4 : r3 = (0 : Int32)
  · have hf := if_t hf hc4
    obtain ⟨h5, hf⟩ := ck_ex hf
    cases some_ex hf
    exact hx
  · have hf := if_f hf hc4
    obtain ⟨w7, hc6, hf⟩ := bd1_ex hf
    have hx := hx.trans (mC_X13_next_x _ _ _ hc6)
    obtain ⟨h8, hf⟩ := ck_ex hf
    cases some_ex hf
    exact hx
set_option maxHeartbeats 4000000 in
theorem mC_X13_number_81_x {r : Int32 ⊕ Nat} {w' : AH}  (v0 : Nat) (w : AH) (hf : mC_X13_number_81 v0 w = some (r, w')) : Ext w w' := by
  unfold mC_X13_number_81 at hf
  have hx := Ext.refl w
  obtain ⟨h1, hf⟩ := ck_ex hf
  obtain ⟨b2, hb3, hf⟩ := st1_ex hf
  obtain ⟨w4, hs5, hf⟩ := st1_ex hf
  have hx := hx.trans (Ext.new hs5)
  obtain ⟨h6, hf⟩ := ck_ex hf
  obtain ⟨w8, hc7, hf⟩ := bd1_ex hf
  have hx := hx.trans (mC_X14_init_x _ _ _ _ hc7)
  cases some_ex hf
  exact hx
set_option maxHeartbeats 4000000 in
theorem mC_X13_number_71_x {r : Int32 ⊕ Nat} {w' : AH}  (v0 : Nat) (v1 : Int32) (v2 : Int32) (v3 : Int32) (w : AH) (hf : mC_X13_number_71 v0 v1 v2 v3 w = some (r, w')) : Ext w w' := by
  unfold mC_X13_number_71 at hf
  have hx := Ext.refl w
  by_cases hc1 : v3 < v1
  · have hf := if_t hf hc1
    exact hx.trans (mC_X13_number_81_x v0 w hf)
  · have hf := if_f hf hc1
    by_cases hc2 : v3 ≤ v2
    · have hf := if_t hf hc2
      obtain ⟨h3, hf⟩ := ck_ex hf
      obtain ⟨w5, hc4, hf⟩ := bd1_ex hf
      have hx := hx.trans (mC_X13_next_x _ _ _ hc4)
      cases some_ex hf
      exact hx
    · have hf := if_f hf hc2
      exact hx.trans (mC_X13_number_81_x v0 w hf)
set_option maxHeartbeats 4000000 in
theorem mC_X13_number_35_x {r : Int32 ⊕ Nat} {w' : AH}  (k35 : Nat → Int32 → Int32 → Int32 → Int32 → AH → Option ((Int32 ⊕ Nat) × AH)) (hk35 : ∀ (v0 : Nat) (v1 : Int32) (v2 : Int32) (v3 : Int32) (v4 : Int32) (w : AH), k35 v0 v1 v2 v3 v4 w = some (r, w') → Ext w w') (v0 : Nat) (v1 : Int32) (v2 : Int32) (v3 : Int32) (v4 : Int32) (w : AH) (hf : mC_X13_number_35 k35 v0 v1 v2 v3 v4 w = some (r, w')) : Ext w w' := by
  unfold mC_X13_number_35 at hf
  have hx := Ext.refl w
  obtain ⟨h1, hf⟩ := ck_ex hf
  by_cases hc2 : (hvi w v0 4) ≤ v4
  · have hf := if_t hf hc2
    exact hx.trans (mC_X13_number_71_x v0 v1 v2 v3 w hf)
  · have hf := if_f hf hc2
    by_cases hc3 : v2 < v3
    · have hf := if_t hf hc3
      exact hx.trans (mC_X13_number_71_x v0 v1 v2 v3 w hf)
    · have hf := if_f hf hc3
      obtain ⟨b4, hb5, hf⟩ := bd1_ex hf
      obtain ⟨h6, hf⟩ := ck_ex hf
      exact hx.trans (hk35 v0 v1 v2 ((((10 : Int32) * v3) + (hvi w b4 (v4.toNatClampNeg))) - (48 : Int32)) (v4 + (1 : Int32)) w hf)
set_option maxHeartbeats 4000000 in
theorem mC_X13_number_x  (w : AH) (a : Nat) (p0 : Int32) (p1 : Int32) (r : Int32 ⊕ Nat) (w' : AH) (hf : mC_X13_number a p0 p1 w = some (r, w')) : Ext w w' := by
  unfold mC_X13_number at hf
  have hx := Ext.refl w
  obtain ⟨h1, hf⟩ := ck_ex hf
  obtain ⟨r3, hc2, hf⟩ := bd1_ex hf
  by_cases hc4 : r3 = (0 : Int32)
  · have hf := if_t hf hc4
    obtain ⟨h5, hf⟩ := ck_ex hf
    obtain ⟨b6, hb7, hf⟩ := st1_ex hf
    obtain ⟨w8, hs9, hf⟩ := st1_ex hf
    have hx := hx.trans (Ext.new hs9)
    obtain ⟨h10, hf⟩ := ck_ex hf
    obtain ⟨w12, hc11, hf⟩ := bd1_ex hf
    have hx := hx.trans (mC_X14_init_x _ _ _ _ hc11)
    cases some_ex hf
    exact hx
  · have hf := if_f hf hc4
    exact hx.trans (lq6_ex (P := fun v0 v1 v2 v3 v4 w => Ext w w') (fun k hk v0 v1 v2 v3 v4 w hf => mC_X13_number_35_x k hk v0 v1 v2 v3 v4 w hf) LF a p0 p1 (0 : Int32) (hvi w a 3) w hf)
set_option maxHeartbeats 4000000 in
theorem mC_X13_need_x  (w : AH) (a : Nat) (p0 : Nat) (r : Unit ⊕ Nat) (w' : AH) (hf : mC_X13_need a p0 w = some (r, w')) : Ext w w' := by
  unfold mC_X13_need at hf
  have hx := Ext.refl w
  obtain ⟨h1, hf⟩ := ck_ex hf
  obtain ⟨r3, w4, hc2, hf⟩ := bd2_ex hf
  have hx := hx.trans (mC_X13_takes_x _ _ _ _ _ hc2)
  by_cases hc5 : r3 = (0 : Int32)
  · have hf := if_t hf hc5
    obtain ⟨h6, hf⟩ := ck_ex hf
    obtain ⟨b7, hb8, hf⟩ := st1_ex hf
    obtain ⟨w9, hs10, hf⟩ := st1_ex hf
    have hx := hx.trans (Ext.new hs10)
    obtain ⟨h11, hf⟩ := ck_ex hf
    obtain ⟨w13, hc12, hf⟩ := bd1_ex hf
    have hx := hx.trans (mC_X14_init_x _ _ _ _ hc12)
    cases some_ex hf
    exact hx
  · have hf := if_f hf hc5
    cases some_ex hf
    exact hx
set_option maxHeartbeats 4000000 in
theorem mC_X15_init_x  (w : AH) (a : Nat) (p0 : Int32) (p1 : Int32) (p2 : Int32) (w' : AH) (hf : mC_X15_init a p0 p1 p2 w = some w') : Ext w w' := by
  unfold mC_X15_init at hf
  have hx := Ext.refl w
  obtain ⟨h1, hf⟩ := ck_ex hf
  obtain ⟨w2, hs3, hf⟩ := st1_ex hf
  have hx := hx.trans (Ext.I hs3)
  obtain ⟨h4, hf⟩ := ck_ex hf
  obtain ⟨w5, hs6, hf⟩ := st1_ex hf
  have hx := hx.trans (Ext.I hs6)
  obtain ⟨h7, hf⟩ := ck_ex hf
  obtain ⟨w8, hs9, hf⟩ := st1_ex hf
  have hx := hx.trans (Ext.I hs9)
  cases some_ex hf
  exact hx
set_option maxHeartbeats 4000000 in
theorem mC_X24_init_x  (w : AH) (a : Nat) (p0 : Int32) (w' : AH) (hf : mC_X24_init a p0 w = some w') : Ext w w' := by
  unfold mC_X24_init at hf
  have hx := Ext.refl w
  obtain ⟨r2, hc1, hf⟩ := bd1_ex hf
  obtain ⟨h3, hf⟩ := ck_ex hf
  obtain ⟨b4, hb5, hf⟩ := st1_ex hf
  obtain ⟨w6, hs7, hf⟩ := st1_ex hf
  have hx := hx.trans (Ext.new hs7)
  obtain ⟨w9, hc8, hf⟩ := bd1_ex hf
  have hx := hx.trans (mC_J2_init_x _ _ _ _ hc8)
  obtain ⟨h10, hf⟩ := ck_ex hf
  obtain ⟨w11, hs12, hf⟩ := st1_ex hf
  have hx := hx.trans (Ext.R hs12)
  obtain ⟨h13, hf⟩ := ck_ex hf
  obtain ⟨h14, hf⟩ := ck_ex hf
  obtain ⟨w15, hs16, hf⟩ := st1_ex hf
  have hx := hx.trans (Ext.I hs16)
  cases some_ex hf
  exact hx
set_option maxHeartbeats 4000000 in
theorem mC_X23_init_x  (w : AH) (a : Nat) (p0 : Nat) (w' : AH) (hf : mC_X23_init a p0 w = some w') : Ext w w' := by
  unfold mC_X23_init at hf
  have hx := Ext.refl w
  obtain ⟨r2, hc1, hf⟩ := bd1_ex hf
  obtain ⟨h3, hf⟩ := ck_ex hf
  obtain ⟨w4, hs5, hf⟩ := st1_ex hf
  have hx := hx.trans (Ext.R hs5)
  cases some_ex hf
  exact hx
set_option maxHeartbeats 4000000 in
theorem mC_X13_opens_x  (w : AH) (a : Nat) (r : Unit ⊕ Nat) (w' : AH) (hf : mC_X13_opens a w = some (r, w')) : Ext w w' := by
  unfold mC_X13_opens at hf
  have hx := Ext.refl w
  obtain ⟨h1, hf⟩ := ck_ex hf
  by_cases hc2 : (hvi w a 6) = (8 : Int32)
  · have hf := if_t hf hc2
    obtain ⟨h8, hf⟩ := ck_ex hf
    obtain ⟨b9, hb10, hf⟩ := st1_ex hf
    obtain ⟨w11, hs12, hf⟩ := st1_ex hf
    have hx := hx.trans (Ext.new hs12)
    obtain ⟨h13, hf⟩ := ck_ex hf
    obtain ⟨w15, hc14, hf⟩ := bd1_ex hf
    have hx := hx.trans (mC_X14_init_x _ _ _ _ hc14)
    cases some_ex hf
    exact hx
  · have hf := if_f hf hc2
    obtain ⟨w3, hs4, hf⟩ := st1_ex hf
    have hx := hx.trans (Ext.I hs4)
    obtain ⟨h5, hf⟩ := ck_ex hf
    obtain ⟨w7, hc6, hf⟩ := bd1_ex hf
    have hx := hx.trans (mC_X13_next_x _ _ _ hc6)
    cases some_ex hf
    exact hx
set_option maxHeartbeats 4000000 in
theorem mC_X13_leaf_x  (w : AH) (a : Nat) (r : Unit ⊕ Nat) (w' : AH) (hf : mC_X13_leaf a w = some (r, w')) : Ext w w' := by
  unfold mC_X13_leaf at hf
  have hx := Ext.refl w
  obtain ⟨h1, hf⟩ := ck_ex hf
  by_cases hc2 : (hvi w a 5) = (50 : Int32)
  · have hf := if_t hf hc2
    obtain ⟨h5, hf⟩ := ck_ex hf
    obtain ⟨b6, hb7, hf⟩ := st1_ex hf
    obtain ⟨w8, hs9, hf⟩ := st1_ex hf
    have hx := hx.trans (Ext.new hs9)
    obtain ⟨h10, hf⟩ := ck_ex hf
    obtain ⟨w12, hc11, hf⟩ := bd1_ex hf
    have hx := hx.trans (mC_X14_init_x _ _ _ _ hc11)
    cases some_ex hf
    exact hx
  · have hf := if_f hf hc2
    obtain ⟨w3, hs4, hf⟩ := st1_ex hf
    have hx := hx.trans (Ext.I hs4)
    cases some_ex hf
    exact hx
set_option maxHeartbeats 4000000 in
theorem mC_X21_init_x  (w : AH) (a : Nat) (p0 : Int32) (w' : AH) (hf : mC_X21_init a p0 w = some w') : Ext w w' := by
  unfold mC_X21_init at hf
  have hx := Ext.refl w
  obtain ⟨r2, hc1, hf⟩ := bd1_ex hf
  obtain ⟨h3, hf⟩ := ck_ex hf
  obtain ⟨w4, hs5, hf⟩ := st1_ex hf
  have hx := hx.trans (Ext.I hs5)
  cases some_ex hf
  exact hx
set_option maxHeartbeats 4000000 in
theorem mC_X22_init_x  (w : AH) (a : Nat) (p0 : Int32) (p1 : Nat) (p2 : Nat) (w' : AH) (hf : mC_X22_init a p0 p1 p2 w = some w') : Ext w w' := by
  unfold mC_X22_init at hf
  have hx := Ext.refl w
  obtain ⟨r2, hc1, hf⟩ := bd1_ex hf
  obtain ⟨h3, hf⟩ := ck_ex hf
  obtain ⟨h4, hf⟩ := ck_ex hf
  obtain ⟨w5, hs6, hf⟩ := st1_ex hf
  have hx := hx.trans (Ext.I hs6)
  obtain ⟨h7, hf⟩ := ck_ex hf
  obtain ⟨w8, hs9, hf⟩ := st1_ex hf
  have hx := hx.trans (Ext.R hs9)
  obtain ⟨h10, hf⟩ := ck_ex hf
  obtain ⟨w11, hs12, hf⟩ := st1_ex hf
  have hx := hx.trans (Ext.R hs12)
  cases some_ex hf
  exact hx
set_option maxHeartbeats 4000000 in
theorem mC_X19_init_x  (w : AH) (a : Nat) (p0 : Int32) (p1 : Nat) (p2 : Nat) (w' : AH) (hf : mC_X19_init a p0 p1 p2 w = some w') : Ext w w' := by
  unfold mC_X19_init at hf
  have hx := Ext.refl w
  obtain ⟨r2, hc1, hf⟩ := bd1_ex hf
  obtain ⟨h3, hf⟩ := ck_ex hf
  obtain ⟨h4, hf⟩ := ck_ex hf
  obtain ⟨w5, hs6, hf⟩ := st1_ex hf
  have hx := hx.trans (Ext.I hs6)
  obtain ⟨h7, hf⟩ := ck_ex hf
  obtain ⟨w8, hs9, hf⟩ := st1_ex hf
  have hx := hx.trans (Ext.R hs9)
  obtain ⟨h10, hf⟩ := ck_ex hf
  obtain ⟨w11, hs12, hf⟩ := st1_ex hf
  have hx := hx.trans (Ext.R hs12)
  cases some_ex hf
  exact hx
set_option maxHeartbeats 4000000 in
theorem mC_X17_init_x  (w : AH) (a : Nat) (p0 : Int32) (w' : AH) (hf : mC_X17_init a p0 w = some w') : Ext w w' := by
  unfold mC_X17_init at hf
  have hx := Ext.refl w
  obtain ⟨r2, hc1, hf⟩ := bd1_ex hf
  obtain ⟨h3, hf⟩ := ck_ex hf
  obtain ⟨w4, hs5, hf⟩ := st1_ex hf
  have hx := hx.trans (Ext.I hs5)
  cases some_ex hf
  exact hx
set_option maxHeartbeats 4000000 in
theorem mC_X18_init_x  (w : AH) (a : Nat) (p0 : Int32) (w' : AH) (hf : mC_X18_init a p0 w = some w') : Ext w w' := by
  unfold mC_X18_init at hf
  have hx := Ext.refl w
  obtain ⟨r2, hc1, hf⟩ := bd1_ex hf
  obtain ⟨h3, hf⟩ := ck_ex hf
  obtain ⟨w4, hs5, hf⟩ := st1_ex hf
  have hx := hx.trans (Ext.I hs5)
  cases some_ex hf
  exact hx
set_option maxHeartbeats 4000000 in
theorem mB_X13_test_34_x {r : Nat ⊕ Nat} {w' : AH}  (r_X13_test : Nat → AH → Option ((Nat ⊕ Nat) × AH)) (r_X13_both : Nat → AH → Option ((Nat ⊕ Nat) × AH)) (r_X13_plain : Nat → AH → Option ((Nat ⊕ Nat) × AH)) (r_X13_positive : Nat → AH → Option ((Nat ⊕ Nat) × AH)) (r_X13_sum : Nat → AH → Option ((Nat ⊕ Nat) × AH)) (r_X13_term : Nat → AH → Option ((Nat ⊕ Nat) × AH)) (r_X13_part : Nat → AH → Option ((Nat ⊕ Nat) × AH)) (hr_X13_test : ∀ (w : AH) (a : Nat) (r : Nat ⊕ Nat) (w' : AH) , r_X13_test a w = some (r, w') → Ext w w') (hr_X13_both : ∀ (w : AH) (a : Nat) (r : Nat ⊕ Nat) (w' : AH) , r_X13_both a w = some (r, w') → Ext w w') (hr_X13_plain : ∀ (w : AH) (a : Nat) (r : Nat ⊕ Nat) (w' : AH) , r_X13_plain a w = some (r, w') → Ext w w') (hr_X13_positive : ∀ (w : AH) (a : Nat) (r : Nat ⊕ Nat) (w' : AH) , r_X13_positive a w = some (r, w') → Ext w w') (hr_X13_sum : ∀ (w : AH) (a : Nat) (r : Nat ⊕ Nat) (w' : AH) , r_X13_sum a w = some (r, w') → Ext w w') (hr_X13_term : ∀ (w : AH) (a : Nat) (r : Nat ⊕ Nat) (w' : AH) , r_X13_term a w = some (r, w') → Ext w w') (hr_X13_part : ∀ (w : AH) (a : Nat) (r : Nat ⊕ Nat) (w' : AH) , r_X13_part a w = some (r, w') → Ext w w') (k34 : Nat → Nat → AH → Option ((Nat ⊕ Nat) × AH)) (hk34 : ∀ (v0 : Nat) (v2 : Nat) (w : AH), k34 v0 v2 w = some (r, w') → Ext w w') (v0 : Nat) (v2 : Nat) (w : AH) (hf : mB_X13_test_34 r_X13_test r_X13_both r_X13_plain r_X13_positive r_X13_sum r_X13_term r_X13_part k34 v0 v2 w = some (r, w')) : Ext w w' := by
  unfold mB_X13_test_34 at hf
  have hx := Ext.refl w
  obtain ⟨b1, ha2, hf⟩ := bd1_ex hf
  obtain ⟨h3, hf⟩ := ck_ex hf
  obtain ⟨r5, w6, hc4, hf⟩ := bd2_ex hf
  have hx := hx.trans (mC_X13_takes_x _ _ _ _ _ hc4)
  by_cases hc7 : r5 = (0 : Int32)
  · have hf := if_t hf hc7
    cases some_ex hf
    exact hx
  · have hf := if_f hf hc7
    obtain ⟨h8, hf⟩ := ck_ex hf
    obtain ⟨b9, hb10, hf⟩ := bd1_ex hf
    obtain ⟨h11, hf⟩ := ck_ex hf
    obtain ⟨x14, w15, hc12, hf⟩ | ⟨r13, w15, hc12, hf⟩ := (bdT_ex hf).symm
    · have hx := hx.trans (hr_X13_both _ _ _ _ hc12)
      cases some_ex hf
      exact hx
    have hx := hx.trans (hr_X13_both _ _ _ _ hc12)
    obtain ⟨h16, hf⟩ := ck_ex hf
    obtain ⟨r18, w19, hc17, hf⟩ := bd2_ex hf
    have hx := hx.trans (mC_J2_add_x _ _ _ _ _ hc17)
    exact hx.trans (hk34 v0 v2 w19 hf)
set_option maxHeartbeats 4000000 in
theorem mB_X13_test_x (r_X13_test : Nat → AH → Option ((Nat ⊕ Nat) × AH)) (r_X13_both : Nat → AH → Option ((Nat ⊕ Nat) × AH)) (r_X13_plain : Nat → AH → Option ((Nat ⊕ Nat) × AH)) (r_X13_positive : Nat → AH → Option ((Nat ⊕ Nat) × AH)) (r_X13_sum : Nat → AH → Option ((Nat ⊕ Nat) × AH)) (r_X13_term : Nat → AH → Option ((Nat ⊕ Nat) × AH)) (r_X13_part : Nat → AH → Option ((Nat ⊕ Nat) × AH))  (hr_X13_test : ∀ (w : AH) (a : Nat) (r : Nat ⊕ Nat) (w' : AH) , r_X13_test a w = some (r, w') → Ext w w') (hr_X13_both : ∀ (w : AH) (a : Nat) (r : Nat ⊕ Nat) (w' : AH) , r_X13_both a w = some (r, w') → Ext w w') (hr_X13_plain : ∀ (w : AH) (a : Nat) (r : Nat ⊕ Nat) (w' : AH) , r_X13_plain a w = some (r, w') → Ext w w') (hr_X13_positive : ∀ (w : AH) (a : Nat) (r : Nat ⊕ Nat) (w' : AH) , r_X13_positive a w = some (r, w') → Ext w w') (hr_X13_sum : ∀ (w : AH) (a : Nat) (r : Nat ⊕ Nat) (w' : AH) , r_X13_sum a w = some (r, w') → Ext w w') (hr_X13_term : ∀ (w : AH) (a : Nat) (r : Nat ⊕ Nat) (w' : AH) , r_X13_term a w = some (r, w') → Ext w w') (hr_X13_part : ∀ (w : AH) (a : Nat) (r : Nat ⊕ Nat) (w' : AH) , r_X13_part a w = some (r, w') → Ext w w') (w : AH) (a : Nat) (r : Nat ⊕ Nat) (w' : AH) (hf : mB_X13_test r_X13_test r_X13_both r_X13_plain r_X13_positive r_X13_sum r_X13_term r_X13_part a w = some (r, w')) : Ext w w' := by
  unfold mB_X13_test at hf
  have hx := Ext.refl w
  obtain ⟨h1, hf⟩ := ck_ex hf
  obtain ⟨x4, w5, hc2, hf⟩ | ⟨r3, w5, hc2, hf⟩ := (bdT_ex hf).symm
  · have hx := hx.trans (hr_X13_both _ _ _ _ hc2)
    cases some_ex hf
    exact hx
  have hx := hx.trans (hr_X13_both _ _ _ _ hc2)
  obtain ⟨b6, ha7, hf⟩ := bd1_ex hf
  obtain ⟨h8, hf⟩ := ck_ex hf
  obtain ⟨r10, hc9, hf⟩ := bd1_ex hf
  by_cases hc11 : r10 = (0 : Int32)
  · have hf := if_t hf hc11
    cases some_ex hf
    exact hx
  · have hf := if_f hf hc11
    obtain ⟨h12, hf⟩ := ck_ex hf
    obtain ⟨b13, hb14, hf⟩ := st1_ex hf
    obtain ⟨w15, hs16, hf⟩ := st1_ex hf
    have hx := hx.trans (Ext.new hs16)
    obtain ⟨w18, hc17, hf⟩ := bd1_ex hf
    have hx := hx.trans (mC_X24_init_x _ _ _ _ hc17)
    obtain ⟨h19, hf⟩ := ck_ex hf
    obtain ⟨b20, hb21, hf⟩ := bd1_ex hf
    obtain ⟨h22, hf⟩ := ck_ex hf
    obtain ⟨r24, w25, hc23, hf⟩ := bd2_ex hf
    have hx := hx.trans (mC_J2_add_x _ _ _ _ _ hc23)
    exact hx.trans (lq3_ex (P := fun v0 v2 w => Ext w w') (fun k hk v0 v2 w hf => mB_X13_test_34_x r_X13_test r_X13_both r_X13_plain r_X13_positive r_X13_sum r_X13_term r_X13_part hr_X13_test hr_X13_both hr_X13_plain hr_X13_positive hr_X13_sum hr_X13_term hr_X13_part k hk v0 v2 w hf) LF a b13 w25 hf)
set_option maxHeartbeats 4000000 in
theorem mB_X13_both_34_x {r : Nat ⊕ Nat} {w' : AH}  (r_X13_test : Nat → AH → Option ((Nat ⊕ Nat) × AH)) (r_X13_both : Nat → AH → Option ((Nat ⊕ Nat) × AH)) (r_X13_plain : Nat → AH → Option ((Nat ⊕ Nat) × AH)) (r_X13_positive : Nat → AH → Option ((Nat ⊕ Nat) × AH)) (r_X13_sum : Nat → AH → Option ((Nat ⊕ Nat) × AH)) (r_X13_term : Nat → AH → Option ((Nat ⊕ Nat) × AH)) (r_X13_part : Nat → AH → Option ((Nat ⊕ Nat) × AH)) (hr_X13_test : ∀ (w : AH) (a : Nat) (r : Nat ⊕ Nat) (w' : AH) , r_X13_test a w = some (r, w') → Ext w w') (hr_X13_both : ∀ (w : AH) (a : Nat) (r : Nat ⊕ Nat) (w' : AH) , r_X13_both a w = some (r, w') → Ext w w') (hr_X13_plain : ∀ (w : AH) (a : Nat) (r : Nat ⊕ Nat) (w' : AH) , r_X13_plain a w = some (r, w') → Ext w w') (hr_X13_positive : ∀ (w : AH) (a : Nat) (r : Nat ⊕ Nat) (w' : AH) , r_X13_positive a w = some (r, w') → Ext w w') (hr_X13_sum : ∀ (w : AH) (a : Nat) (r : Nat ⊕ Nat) (w' : AH) , r_X13_sum a w = some (r, w') → Ext w w') (hr_X13_term : ∀ (w : AH) (a : Nat) (r : Nat ⊕ Nat) (w' : AH) , r_X13_term a w = some (r, w') → Ext w w') (hr_X13_part : ∀ (w : AH) (a : Nat) (r : Nat ⊕ Nat) (w' : AH) , r_X13_part a w = some (r, w') → Ext w w') (k34 : Nat → Nat → AH → Option ((Nat ⊕ Nat) × AH)) (hk34 : ∀ (v0 : Nat) (v2 : Nat) (w : AH), k34 v0 v2 w = some (r, w') → Ext w w') (v0 : Nat) (v2 : Nat) (w : AH) (hf : mB_X13_both_34 r_X13_test r_X13_both r_X13_plain r_X13_positive r_X13_sum r_X13_term r_X13_part k34 v0 v2 w = some (r, w')) : Ext w w' := by
  unfold mB_X13_both_34 at hf
  have hx := Ext.refl w
  obtain ⟨b1, ha2, hf⟩ := bd1_ex hf
  obtain ⟨h3, hf⟩ := ck_ex hf
  obtain ⟨r5, w6, hc4, hf⟩ := bd2_ex hf
  have hx := hx.trans (mC_X13_takes_x _ _ _ _ _ hc4)
  by_cases hc7 : r5 = (0 : Int32)
  · have hf := if_t hf hc7
    cases some_ex hf
    exact hx
  · have hf := if_f hf hc7
    obtain ⟨h8, hf⟩ := ck_ex hf
    obtain ⟨b9, hb10, hf⟩ := bd1_ex hf
    obtain ⟨h11, hf⟩ := ck_ex hf
    obtain ⟨x14, w15, hc12, hf⟩ | ⟨r13, w15, hc12, hf⟩ := (bdT_ex hf).symm
    · have hx := hx.trans (hr_X13_plain _ _ _ _ hc12)
      cases some_ex hf
      exact hx
    have hx := hx.trans (hr_X13_plain _ _ _ _ hc12)
    obtain ⟨h16, hf⟩ := ck_ex hf
    obtain ⟨r18, w19, hc17, hf⟩ := bd2_ex hf
    have hx := hx.trans (mC_J2_add_x _ _ _ _ _ hc17)
    exact hx.trans (hk34 v0 v2 w19 hf)
set_option maxHeartbeats 4000000 in
theorem mB_X13_both_x (r_X13_test : Nat → AH → Option ((Nat ⊕ Nat) × AH)) (r_X13_both : Nat → AH → Option ((Nat ⊕ Nat) × AH)) (r_X13_plain : Nat → AH → Option ((Nat ⊕ Nat) × AH)) (r_X13_positive : Nat → AH → Option ((Nat ⊕ Nat) × AH)) (r_X13_sum : Nat → AH → Option ((Nat ⊕ Nat) × AH)) (r_X13_term : Nat → AH → Option ((Nat ⊕ Nat) × AH)) (r_X13_part : Nat → AH → Option ((Nat ⊕ Nat) × AH))  (hr_X13_test : ∀ (w : AH) (a : Nat) (r : Nat ⊕ Nat) (w' : AH) , r_X13_test a w = some (r, w') → Ext w w') (hr_X13_both : ∀ (w : AH) (a : Nat) (r : Nat ⊕ Nat) (w' : AH) , r_X13_both a w = some (r, w') → Ext w w') (hr_X13_plain : ∀ (w : AH) (a : Nat) (r : Nat ⊕ Nat) (w' : AH) , r_X13_plain a w = some (r, w') → Ext w w') (hr_X13_positive : ∀ (w : AH) (a : Nat) (r : Nat ⊕ Nat) (w' : AH) , r_X13_positive a w = some (r, w') → Ext w w') (hr_X13_sum : ∀ (w : AH) (a : Nat) (r : Nat ⊕ Nat) (w' : AH) , r_X13_sum a w = some (r, w') → Ext w w') (hr_X13_term : ∀ (w : AH) (a : Nat) (r : Nat ⊕ Nat) (w' : AH) , r_X13_term a w = some (r, w') → Ext w w') (hr_X13_part : ∀ (w : AH) (a : Nat) (r : Nat ⊕ Nat) (w' : AH) , r_X13_part a w = some (r, w') → Ext w w') (w : AH) (a : Nat) (r : Nat ⊕ Nat) (w' : AH) (hf : mB_X13_both r_X13_test r_X13_both r_X13_plain r_X13_positive r_X13_sum r_X13_term r_X13_part a w = some (r, w')) : Ext w w' := by
  unfold mB_X13_both at hf
  have hx := Ext.refl w
  obtain ⟨h1, hf⟩ := ck_ex hf
  obtain ⟨x4, w5, hc2, hf⟩ | ⟨r3, w5, hc2, hf⟩ := (bdT_ex hf).symm
  · have hx := hx.trans (hr_X13_plain _ _ _ _ hc2)
    cases some_ex hf
    exact hx
  have hx := hx.trans (hr_X13_plain _ _ _ _ hc2)
  obtain ⟨b6, ha7, hf⟩ := bd1_ex hf
  obtain ⟨h8, hf⟩ := ck_ex hf
  obtain ⟨r10, hc9, hf⟩ := bd1_ex hf
  by_cases hc11 : r10 = (0 : Int32)
  · have hf := if_t hf hc11
    cases some_ex hf
    exact hx
  · have hf := if_f hf hc11
    obtain ⟨h12, hf⟩ := ck_ex hf
    obtain ⟨b13, hb14, hf⟩ := st1_ex hf
    obtain ⟨w15, hs16, hf⟩ := st1_ex hf
    have hx := hx.trans (Ext.new hs16)
    obtain ⟨w18, hc17, hf⟩ := bd1_ex hf
    have hx := hx.trans (mC_X24_init_x _ _ _ _ hc17)
    obtain ⟨h19, hf⟩ := ck_ex hf
    obtain ⟨b20, hb21, hf⟩ := bd1_ex hf
    obtain ⟨h22, hf⟩ := ck_ex hf
    obtain ⟨r24, w25, hc23, hf⟩ := bd2_ex hf
    have hx := hx.trans (mC_J2_add_x _ _ _ _ _ hc23)
    exact hx.trans (lq3_ex (P := fun v0 v2 w => Ext w w') (fun k hk v0 v2 w hf => mB_X13_both_34_x r_X13_test r_X13_both r_X13_plain r_X13_positive r_X13_sum r_X13_term r_X13_part hr_X13_test hr_X13_both hr_X13_plain hr_X13_positive hr_X13_sum hr_X13_term hr_X13_part k hk v0 v2 w hf) LF a b13 w25 hf)
set_option maxHeartbeats 4000000 in
theorem mB_X13_plain_20_x {r : Nat ⊕ Nat} {w' : AH}  (r_X13_test : Nat → AH → Option ((Nat ⊕ Nat) × AH)) (r_X13_both : Nat → AH → Option ((Nat ⊕ Nat) × AH)) (r_X13_plain : Nat → AH → Option ((Nat ⊕ Nat) × AH)) (r_X13_positive : Nat → AH → Option ((Nat ⊕ Nat) × AH)) (r_X13_sum : Nat → AH → Option ((Nat ⊕ Nat) × AH)) (r_X13_term : Nat → AH → Option ((Nat ⊕ Nat) × AH)) (r_X13_part : Nat → AH → Option ((Nat ⊕ Nat) × AH)) (hr_X13_test : ∀ (w : AH) (a : Nat) (r : Nat ⊕ Nat) (w' : AH) , r_X13_test a w = some (r, w') → Ext w w') (hr_X13_both : ∀ (w : AH) (a : Nat) (r : Nat ⊕ Nat) (w' : AH) , r_X13_both a w = some (r, w') → Ext w w') (hr_X13_plain : ∀ (w : AH) (a : Nat) (r : Nat ⊕ Nat) (w' : AH) , r_X13_plain a w = some (r, w') → Ext w w') (hr_X13_positive : ∀ (w : AH) (a : Nat) (r : Nat ⊕ Nat) (w' : AH) , r_X13_positive a w = some (r, w') → Ext w w') (hr_X13_sum : ∀ (w : AH) (a : Nat) (r : Nat ⊕ Nat) (w' : AH) , r_X13_sum a w = some (r, w') → Ext w w') (hr_X13_term : ∀ (w : AH) (a : Nat) (r : Nat ⊕ Nat) (w' : AH) , r_X13_term a w = some (r, w') → Ext w w') (hr_X13_part : ∀ (w : AH) (a : Nat) (r : Nat ⊕ Nat) (w' : AH) , r_X13_part a w = some (r, w') → Ext w w') (k2 : Nat → Int32 → AH → Option ((Nat ⊕ Nat) × AH)) (hk2 : ∀ (v0 : Nat) (v1 : Int32) (w : AH), k2 v0 v1 w = some (r, w') → Ext w w') (v0 : Nat) (t0 : Int32) (w : AH) (hf : mB_X13_plain_20 r_X13_test r_X13_both r_X13_plain r_X13_positive r_X13_sum r_X13_term r_X13_part k2 v0 t0 w = some (r, w')) : Ext w w' := by
  unfold mB_X13_plain_20 at hf
  have hx := Ext.refl w
  exact hx.trans (hk2 v0 t0 w hf)
set_option maxHeartbeats 4000000 in
theorem mB_X13_plain_2_x {r : Nat ⊕ Nat} {w' : AH}  (r_X13_test : Nat → AH → Option ((Nat ⊕ Nat) × AH)) (r_X13_both : Nat → AH → Option ((Nat ⊕ Nat) × AH)) (r_X13_plain : Nat → AH → Option ((Nat ⊕ Nat) × AH)) (r_X13_positive : Nat → AH → Option ((Nat ⊕ Nat) × AH)) (r_X13_sum : Nat → AH → Option ((Nat ⊕ Nat) × AH)) (r_X13_term : Nat → AH → Option ((Nat ⊕ Nat) × AH)) (r_X13_part : Nat → AH → Option ((Nat ⊕ Nat) × AH)) (hr_X13_test : ∀ (w : AH) (a : Nat) (r : Nat ⊕ Nat) (w' : AH) , r_X13_test a w = some (r, w') → Ext w w') (hr_X13_both : ∀ (w : AH) (a : Nat) (r : Nat ⊕ Nat) (w' : AH) , r_X13_both a w = some (r, w') → Ext w w') (hr_X13_plain : ∀ (w : AH) (a : Nat) (r : Nat ⊕ Nat) (w' : AH) , r_X13_plain a w = some (r, w') → Ext w w') (hr_X13_positive : ∀ (w : AH) (a : Nat) (r : Nat ⊕ Nat) (w' : AH) , r_X13_positive a w = some (r, w') → Ext w w') (hr_X13_sum : ∀ (w : AH) (a : Nat) (r : Nat ⊕ Nat) (w' : AH) , r_X13_sum a w = some (r, w') → Ext w w') (hr_X13_term : ∀ (w : AH) (a : Nat) (r : Nat ⊕ Nat) (w' : AH) , r_X13_term a w = some (r, w') → Ext w w') (hr_X13_part : ∀ (w : AH) (a : Nat) (r : Nat ⊕ Nat) (w' : AH) , r_X13_part a w = some (r, w') → Ext w w') (k2 : Nat → Int32 → AH → Option ((Nat ⊕ Nat) × AH)) (hk2 : ∀ (v0 : Nat) (v1 : Int32) (w : AH), k2 v0 v1 w = some (r, w') → Ext w w') (v0 : Nat) (v1 : Int32) (w : AH) (hf : mB_X13_plain_2 r_X13_test r_X13_both r_X13_plain r_X13_positive r_X13_sum r_X13_term r_X13_part k2 v0 v1 w = some (r, w')) : Ext w w' := by
  unfold mB_X13_plain_2 at hf
  have hx := Ext.refl w
  obtain ⟨b1, ha2, hf⟩ := bd1_ex hf
  obtain ⟨h3, hf⟩ := ck_ex hf
  obtain ⟨r5, w6, hc4, hf⟩ := bd2_ex hf
  have hx := hx.trans (mC_X13_takes_x _ _ _ _ _ hc4)
  by_cases hc7 : r5 = (0 : Int32)
  · have hf := if_t hf hc7
    obtain ⟨h8, hf⟩ := ck_ex hf
    obtain ⟨x11, w12, hc9, hf⟩ | ⟨r10, w12, hc9, hf⟩ := (bdT_ex hf).symm
    · have hx := hx.trans (hr_X13_positive _ _ _ _ hc9)
      cases some_ex hf
      exact hx
    have hx := hx.trans (hr_X13_positive _ _ _ _ hc9)
    by_cases hc13 : v1 = (0 : Int32)
    · have hf := if_t hf hc13
      cases some_ex hf
      exact hx
    · have hf := if_f hf hc13
      obtain ⟨h14, hf⟩ := ck_ex hf
      obtain ⟨b15, hb16, hf⟩ := st1_ex hf
      obtain ⟨w17, hs18, hf⟩ := st1_ex hf
      have hx := hx.trans (Ext.new hs18)
      obtain ⟨w20, hc19, hf⟩ := bd1_ex hf
      have hx := hx.trans (mC_X23_init_x _ _ _ _ hc19)
      cases some_ex hf
      exact hx
  · have hf := if_f hf hc7
    by_cases hc21 : v1 = (0 : Int32)
    · have hf := if_t hf hc21
      exact hx.trans (mB_X13_plain_20_x r_X13_test r_X13_both r_X13_plain r_X13_positive r_X13_sum r_X13_term r_X13_part hr_X13_test hr_X13_both hr_X13_plain hr_X13_positive hr_X13_sum hr_X13_term hr_X13_part k2 hk2 v0 (1 : Int32) w6 hf)
    · have hf := if_f hf hc21
      exact hx.trans (mB_X13_plain_20_x r_X13_test r_X13_both r_X13_plain r_X13_positive r_X13_sum r_X13_term r_X13_part hr_X13_test hr_X13_both hr_X13_plain hr_X13_positive hr_X13_sum hr_X13_term hr_X13_part k2 hk2 v0 (0 : Int32) w6 hf)
set_option maxHeartbeats 4000000 in
theorem mB_X13_plain_x (r_X13_test : Nat → AH → Option ((Nat ⊕ Nat) × AH)) (r_X13_both : Nat → AH → Option ((Nat ⊕ Nat) × AH)) (r_X13_plain : Nat → AH → Option ((Nat ⊕ Nat) × AH)) (r_X13_positive : Nat → AH → Option ((Nat ⊕ Nat) × AH)) (r_X13_sum : Nat → AH → Option ((Nat ⊕ Nat) × AH)) (r_X13_term : Nat → AH → Option ((Nat ⊕ Nat) × AH)) (r_X13_part : Nat → AH → Option ((Nat ⊕ Nat) × AH))  (hr_X13_test : ∀ (w : AH) (a : Nat) (r : Nat ⊕ Nat) (w' : AH) , r_X13_test a w = some (r, w') → Ext w w') (hr_X13_both : ∀ (w : AH) (a : Nat) (r : Nat ⊕ Nat) (w' : AH) , r_X13_both a w = some (r, w') → Ext w w') (hr_X13_plain : ∀ (w : AH) (a : Nat) (r : Nat ⊕ Nat) (w' : AH) , r_X13_plain a w = some (r, w') → Ext w w') (hr_X13_positive : ∀ (w : AH) (a : Nat) (r : Nat ⊕ Nat) (w' : AH) , r_X13_positive a w = some (r, w') → Ext w w') (hr_X13_sum : ∀ (w : AH) (a : Nat) (r : Nat ⊕ Nat) (w' : AH) , r_X13_sum a w = some (r, w') → Ext w w') (hr_X13_term : ∀ (w : AH) (a : Nat) (r : Nat ⊕ Nat) (w' : AH) , r_X13_term a w = some (r, w') → Ext w w') (hr_X13_part : ∀ (w : AH) (a : Nat) (r : Nat ⊕ Nat) (w' : AH) , r_X13_part a w = some (r, w') → Ext w w') (w : AH) (a : Nat) (r : Nat ⊕ Nat) (w' : AH) (hf : mB_X13_plain r_X13_test r_X13_both r_X13_plain r_X13_positive r_X13_sum r_X13_term r_X13_part a w = some (r, w')) : Ext w w' := by
  unfold mB_X13_plain at hf
  have hx := Ext.refl w
  exact hx.trans (lq3_ex (P := fun v0 v1 w => Ext w w') (fun k hk v0 v1 w hf => mB_X13_plain_2_x r_X13_test r_X13_both r_X13_plain r_X13_positive r_X13_sum r_X13_term r_X13_part hr_X13_test hr_X13_both hr_X13_plain hr_X13_positive hr_X13_sum hr_X13_term hr_X13_part k hk v0 v1 w hf) LF a (0 : Int32) w hf)
set_option maxHeartbeats 4000000 in
theorem mB_X13_positive_107_x {r : Nat ⊕ Nat} {w' : AH}  (r_X13_test : Nat → AH → Option ((Nat ⊕ Nat) × AH)) (r_X13_both : Nat → AH → Option ((Nat ⊕ Nat) × AH)) (r_X13_plain : Nat → AH → Option ((Nat ⊕ Nat) × AH)) (r_X13_positive : Nat → AH → Option ((Nat ⊕ Nat) × AH)) (r_X13_sum : Nat → AH → Option ((Nat ⊕ Nat) × AH)) (r_X13_term : Nat → AH → Option ((Nat ⊕ Nat) × AH)) (r_X13_part : Nat → AH → Option ((Nat ⊕ Nat) × AH)) (hr_X13_test : ∀ (w : AH) (a : Nat) (r : Nat ⊕ Nat) (w' : AH) , r_X13_test a w = some (r, w') → Ext w w') (hr_X13_both : ∀ (w : AH) (a : Nat) (r : Nat ⊕ Nat) (w' : AH) , r_X13_both a w = some (r, w') → Ext w w') (hr_X13_plain : ∀ (w : AH) (a : Nat) (r : Nat ⊕ Nat) (w' : AH) , r_X13_plain a w = some (r, w') → Ext w w') (hr_X13_positive : ∀ (w : AH) (a : Nat) (r : Nat ⊕ Nat) (w' : AH) , r_X13_positive a w = some (r, w') → Ext w w') (hr_X13_sum : ∀ (w : AH) (a : Nat) (r : Nat ⊕ Nat) (w' : AH) , r_X13_sum a w = some (r, w') → Ext w w') (hr_X13_term : ∀ (w : AH) (a : Nat) (r : Nat ⊕ Nat) (w' : AH) , r_X13_term a w = some (r, w') → Ext w w') (hr_X13_part : ∀ (w : AH) (a : Nat) (r : Nat ⊕ Nat) (w' : AH) , r_X13_part a w = some (r, w') → Ext w w') (v0 : Nat) (v2 : Nat) (w : AH) (hf : mB_X13_positive_107 r_X13_test r_X13_both r_X13_plain r_X13_positive r_X13_sum r_X13_term r_X13_part v0 v2 w = some (r, w')) : Ext w w' := by
  unfold mB_X13_positive_107 at hf
  have hx := Ext.refl w
  obtain ⟨h1, hf⟩ := ck_ex hf
  obtain ⟨b2, hb3, hf⟩ := bd1_ex hf
  obtain ⟨h4, hf⟩ := ck_ex hf
  obtain ⟨w6, hc5, hf⟩ := bd1_ex hf
  have hx := hx.trans (mC_X13_next_x _ _ _ hc5)
  obtain ⟨h7, hf⟩ := ck_ex hf
  obtain ⟨b8, hb9, hf⟩ := st1_ex hf
  obtain ⟨w10, hs11, hf⟩ := st1_ex hf
  have hx := hx.trans (Ext.new hs11)
  obtain ⟨h12, hf⟩ := ck_ex hf
  obtain ⟨x15, w16, hc13, hf⟩ | ⟨r14, w16, hc13, hf⟩ := (bdT_ex hf).symm
  · have hx := hx.trans (hr_X13_sum _ _ _ _ hc13)
    cases some_ex hf
    exact hx
  have hx := hx.trans (hr_X13_sum _ _ _ _ hc13)
  obtain ⟨w18, hc17, hf⟩ := bd1_ex hf
  have hx := hx.trans (mC_X22_init_x _ _ _ _ _ _ hc17)
  cases some_ex hf
  exact hx
set_option maxHeartbeats 4000000 in
theorem mB_X13_positive_x (r_X13_test : Nat → AH → Option ((Nat ⊕ Nat) × AH)) (r_X13_both : Nat → AH → Option ((Nat ⊕ Nat) × AH)) (r_X13_plain : Nat → AH → Option ((Nat ⊕ Nat) × AH)) (r_X13_positive : Nat → AH → Option ((Nat ⊕ Nat) × AH)) (r_X13_sum : Nat → AH → Option ((Nat ⊕ Nat) × AH)) (r_X13_term : Nat → AH → Option ((Nat ⊕ Nat) × AH)) (r_X13_part : Nat → AH → Option ((Nat ⊕ Nat) × AH))  (hr_X13_test : ∀ (w : AH) (a : Nat) (r : Nat ⊕ Nat) (w' : AH) , r_X13_test a w = some (r, w') → Ext w w') (hr_X13_both : ∀ (w : AH) (a : Nat) (r : Nat ⊕ Nat) (w' : AH) , r_X13_both a w = some (r, w') → Ext w w') (hr_X13_plain : ∀ (w : AH) (a : Nat) (r : Nat ⊕ Nat) (w' : AH) , r_X13_plain a w = some (r, w') → Ext w w') (hr_X13_positive : ∀ (w : AH) (a : Nat) (r : Nat ⊕ Nat) (w' : AH) , r_X13_positive a w = some (r, w') → Ext w w') (hr_X13_sum : ∀ (w : AH) (a : Nat) (r : Nat ⊕ Nat) (w' : AH) , r_X13_sum a w = some (r, w') → Ext w w') (hr_X13_term : ∀ (w : AH) (a : Nat) (r : Nat ⊕ Nat) (w' : AH) , r_X13_term a w = some (r, w') → Ext w w') (hr_X13_part : ∀ (w : AH) (a : Nat) (r : Nat ⊕ Nat) (w' : AH) , r_X13_part a w = some (r, w') → Ext w w') (w : AH) (a : Nat) (r : Nat ⊕ Nat) (w' : AH) (hf : mB_X13_positive r_X13_test r_X13_both r_X13_plain r_X13_positive r_X13_sum r_X13_term r_X13_part a w = some (r, w')) : Ext w w' := by
  unfold mB_X13_positive at hf
  have hx := Ext.refl w
  obtain ⟨b1, ha2, hf⟩ := bd1_ex hf
  obtain ⟨h3, hf⟩ := ck_ex hf
  obtain ⟨r5, hc4, hf⟩ := bd1_ex hf
  by_cases hc6 : r5 = (0 : Int32)
  · have hf := if_t hf hc6
    obtain ⟨r8, hc7, hf⟩ := bd1_ex hf
    by_cases hc9 : r8 = (-1 : Int32)
    · have hf := if_t hf hc9
      obtain ⟨x12, w13, hc10, hf⟩ | ⟨r11, w13, hc10, hf⟩ := (bdT_ex hf).symm
      · have hx := hx.trans (hr_X13_sum _ _ _ _ hc10)
        cases some_ex hf
        exact hx
      have hx := hx.trans (hr_X13_sum _ _ _ _ hc10)
      obtain ⟨b14, ha15, hf⟩ := bd1_ex hf
      obtain ⟨h16, hf⟩ := ck_ex hf
      obtain ⟨r18, hc17, hf⟩ := bd1_ex hf
      by_cases hc19 : r18 = (0 : Int32)
      · have hf := if_t hf hc19
        obtain ⟨b20, ha21, hf⟩ := bd1_ex hf
        obtain ⟨r23, hc22, hf⟩ := bd1_ex hf
        by_cases hc24 : r23 = (0 : Int32)
        · have hf := if_t hf hc24
          obtain ⟨b25, ha26, hf⟩ := bd1_ex hf
          obtain ⟨r28, hc27, hf⟩ := bd1_ex hf
          by_cases hc29 : r28 = (0 : Int32)
          · have hf := if_t hf hc29
            obtain ⟨h30, hf⟩ := ck_ex hf
            obtain ⟨b31, hb32, hf⟩ := st1_ex hf
            obtain ⟨w33, hs34, hf⟩ := st1_ex hf
            have hx := hx.trans (Ext.new hs34)
            obtain ⟨h35, hf⟩ := ck_ex hf
            obtain ⟨w37, hc36, hf⟩ := bd1_ex hf
            have hx := hx.trans (mC_X14_init_x _ _ _ _ hc36)
            cases some_ex hf
            exact hx
          · have hf := if_f hf hc29
            exact hx.trans (mB_X13_positive_107_x r_X13_test r_X13_both r_X13_plain r_X13_positive r_X13_sum r_X13_term r_X13_part hr_X13_test hr_X13_both hr_X13_plain hr_X13_positive hr_X13_sum hr_X13_term hr_X13_part a r11 w13 hf)
        · have hf := if_f hf hc24
          exact hx.trans (mB_X13_positive_107_x r_X13_test r_X13_both r_X13_plain r_X13_positive r_X13_sum r_X13_term r_X13_part hr_X13_test hr_X13_both hr_X13_plain hr_X13_positive hr_X13_sum hr_X13_term hr_X13_part a r11 w13 hf)
      · have hf := if_f hf hc19
        exact hx.trans (mB_X13_positive_107_x r_X13_test r_X13_both r_X13_plain r_X13_positive r_X13_sum r_X13_term r_X13_part hr_X13_test hr_X13_both hr_X13_plain hr_X13_positive hr_X13_sum hr_X13_term hr_X13_part a r11 w13 hf)
    · have hf := if_f hf hc9
      obtain ⟨x40, w41, hc38, hf⟩ | ⟨r39, w41, hc38, hf⟩ := (bdT_ex hf).symm
      · have hx := hx.trans (mC_X13_leaf_x _ _ _ _ hc38)
        cases some_ex hf
        exact hx
      have hx := hx.trans (mC_X13_leaf_x _ _ _ _ hc38)
      obtain ⟨h42, hf⟩ := ck_ex hf
      obtain ⟨w44, hc43, hf⟩ := bd1_ex hf
      have hx := hx.trans (mC_X13_next_x _ _ _ hc43)
      obtain ⟨h45, hf⟩ := ck_ex hf
      obtain ⟨b46, hb47, hf⟩ := st1_ex hf
      obtain ⟨w48, hs49, hf⟩ := st1_ex hf
      have hx := hx.trans (Ext.new hs49)
      obtain ⟨w51, hc50, hf⟩ := bd1_ex hf
      have hx := hx.trans (mC_X21_init_x _ _ _ _ hc50)
      cases some_ex hf
      exact hx
  · have hf := if_f hf hc6
    obtain ⟨x54, w55, hc52, hf⟩ | ⟨r53, w55, hc52, hf⟩ := (bdT_ex hf).symm
    · have hx := hx.trans (mC_X13_opens_x _ _ _ _ hc52)
      cases some_ex hf
      exact hx
    have hx := hx.trans (mC_X13_opens_x _ _ _ _ hc52)
    obtain ⟨h56, hf⟩ := ck_ex hf
    obtain ⟨x59, w60, hc57, hf⟩ | ⟨r58, w60, hc57, hf⟩ := (bdT_ex hf).symm
    · have hx := hx.trans (hr_X13_test _ _ _ _ hc57)
      cases some_ex hf
      exact hx
    have hx := hx.trans (hr_X13_test _ _ _ _ hc57)
    obtain ⟨b61, ha62, hf⟩ := bd1_ex hf
    obtain ⟨h63, hf⟩ := ck_ex hf
    obtain ⟨x66, w67, hc64, hf⟩ | ⟨r65, w67, hc64, hf⟩ := (bdT_ex hf).symm
    · have hx := hx.trans (mC_X13_need_x _ _ _ _ _ hc64)
      cases some_ex hf
      exact hx
    have hx := hx.trans (mC_X13_need_x _ _ _ _ _ hc64)
    obtain ⟨h68, hf⟩ := ck_ex hf
    obtain ⟨w69, hs70, hf⟩ := st1_ex hf
    have hx := hx.trans (Ext.I hs70)
    cases some_ex hf
    exact hx
set_option maxHeartbeats 4000000 in
theorem mB_X13_sum_23_x {r : Nat ⊕ Nat} {w' : AH}  (r_X13_test : Nat → AH → Option ((Nat ⊕ Nat) × AH)) (r_X13_both : Nat → AH → Option ((Nat ⊕ Nat) × AH)) (r_X13_plain : Nat → AH → Option ((Nat ⊕ Nat) × AH)) (r_X13_positive : Nat → AH → Option ((Nat ⊕ Nat) × AH)) (r_X13_sum : Nat → AH → Option ((Nat ⊕ Nat) × AH)) (r_X13_term : Nat → AH → Option ((Nat ⊕ Nat) × AH)) (r_X13_part : Nat → AH → Option ((Nat ⊕ Nat) × AH)) (hr_X13_test : ∀ (w : AH) (a : Nat) (r : Nat ⊕ Nat) (w' : AH) , r_X13_test a w = some (r, w') → Ext w w') (hr_X13_both : ∀ (w : AH) (a : Nat) (r : Nat ⊕ Nat) (w' : AH) , r_X13_both a w = some (r, w') → Ext w w') (hr_X13_plain : ∀ (w : AH) (a : Nat) (r : Nat ⊕ Nat) (w' : AH) , r_X13_plain a w = some (r, w') → Ext w w') (hr_X13_positive : ∀ (w : AH) (a : Nat) (r : Nat ⊕ Nat) (w' : AH) , r_X13_positive a w = some (r, w') → Ext w w') (hr_X13_sum : ∀ (w : AH) (a : Nat) (r : Nat ⊕ Nat) (w' : AH) , r_X13_sum a w = some (r, w') → Ext w w') (hr_X13_term : ∀ (w : AH) (a : Nat) (r : Nat ⊕ Nat) (w' : AH) , r_X13_term a w = some (r, w') → Ext w w') (hr_X13_part : ∀ (w : AH) (a : Nat) (r : Nat ⊕ Nat) (w' : AH) , r_X13_part a w = some (r, w') → Ext w w') (k5 : Nat → Nat → AH → Option ((Nat ⊕ Nat) × AH)) (hk5 : ∀ (v0 : Nat) (v1 : Nat) (w : AH), k5 v0 v1 w = some (r, w') → Ext w w') (v0 : Nat) (v1 : Nat) (w : AH) (hf : mB_X13_sum_23 r_X13_test r_X13_both r_X13_plain r_X13_positive r_X13_sum r_X13_term r_X13_part k5 v0 v1 w = some (r, w')) : Ext w w' := by
  unfold mB_X13_sum_23 at hf
  have hx := Ext.refl w
  obtain ⟨h1, hf⟩ := ck_ex hf
  obtain ⟨b2, hb3, hf⟩ := bd1_ex hf
  obtain ⟨h4, hf⟩ := ck_ex hf
  obtain ⟨w6, hc5, hf⟩ := bd1_ex hf
  have hx := hx.trans (mC_X13_next_x _ _ _ hc5)
  obtain ⟨h7, hf⟩ := ck_ex hf
  obtain ⟨b8, hb9, hf⟩ := st1_ex hf
  obtain ⟨w10, hs11, hf⟩ := st1_ex hf
  have hx := hx.trans (Ext.new hs11)
  obtain ⟨h12, hf⟩ := ck_ex hf
  obtain ⟨x15, w16, hc13, hf⟩ | ⟨r14, w16, hc13, hf⟩ := (bdT_ex hf).symm
  · have hx := hx.trans (hr_X13_term _ _ _ _ hc13)
    cases some_ex hf
    exact hx
  have hx := hx.trans (hr_X13_term _ _ _ _ hc13)
  obtain ⟨w18, hc17, hf⟩ := bd1_ex hf
  have hx := hx.trans (mC_X19_init_x _ _ _ _ _ _ hc17)
  exact hx.trans (hk5 v0 b8 w18 hf)
set_option maxHeartbeats 4000000 in
theorem mB_X13_sum_5_x {r : Nat ⊕ Nat} {w' : AH}  (r_X13_test : Nat → AH → Option ((Nat ⊕ Nat) × AH)) (r_X13_both : Nat → AH → Option ((Nat ⊕ Nat) × AH)) (r_X13_plain : Nat → AH → Option ((Nat ⊕ Nat) × AH)) (r_X13_positive : Nat → AH → Option ((Nat ⊕ Nat) × AH)) (r_X13_sum : Nat → AH → Option ((Nat ⊕ Nat) × AH)) (r_X13_term : Nat → AH → Option ((Nat ⊕ Nat) × AH)) (r_X13_part : Nat → AH → Option ((Nat ⊕ Nat) × AH)) (hr_X13_test : ∀ (w : AH) (a : Nat) (r : Nat ⊕ Nat) (w' : AH) , r_X13_test a w = some (r, w') → Ext w w') (hr_X13_both : ∀ (w : AH) (a : Nat) (r : Nat ⊕ Nat) (w' : AH) , r_X13_both a w = some (r, w') → Ext w w') (hr_X13_plain : ∀ (w : AH) (a : Nat) (r : Nat ⊕ Nat) (w' : AH) , r_X13_plain a w = some (r, w') → Ext w w') (hr_X13_positive : ∀ (w : AH) (a : Nat) (r : Nat ⊕ Nat) (w' : AH) , r_X13_positive a w = some (r, w') → Ext w w') (hr_X13_sum : ∀ (w : AH) (a : Nat) (r : Nat ⊕ Nat) (w' : AH) , r_X13_sum a w = some (r, w') → Ext w w') (hr_X13_term : ∀ (w : AH) (a : Nat) (r : Nat ⊕ Nat) (w' : AH) , r_X13_term a w = some (r, w') → Ext w w') (hr_X13_part : ∀ (w : AH) (a : Nat) (r : Nat ⊕ Nat) (w' : AH) , r_X13_part a w = some (r, w') → Ext w w') (k5 : Nat → Nat → AH → Option ((Nat ⊕ Nat) × AH)) (hk5 : ∀ (v0 : Nat) (v1 : Nat) (w : AH), k5 v0 v1 w = some (r, w') → Ext w w') (v0 : Nat) (v1 : Nat) (w : AH) (hf : mB_X13_sum_5 r_X13_test r_X13_both r_X13_plain r_X13_positive r_X13_sum r_X13_term r_X13_part k5 v0 v1 w = some (r, w')) : Ext w w' := by
  unfold mB_X13_sum_5 at hf
  have hx := Ext.refl w
  obtain ⟨b1, ha2, hf⟩ := bd1_ex hf
  obtain ⟨h3, hf⟩ := ck_ex hf
  obtain ⟨r5, hc4, hf⟩ := bd1_ex hf
  by_cases hc6 : r5 = (0 : Int32)
  · have hf := if_t hf hc6
    obtain ⟨b7, ha8, hf⟩ := bd1_ex hf
    obtain ⟨r10, hc9, hf⟩ := bd1_ex hf
    by_cases hc11 : r10 = (0 : Int32)
    · have hf := if_t hf hc11
      cases some_ex hf
      exact hx
    · have hf := if_f hf hc11
      exact hx.trans (mB_X13_sum_23_x r_X13_test r_X13_both r_X13_plain r_X13_positive r_X13_sum r_X13_term r_X13_part hr_X13_test hr_X13_both hr_X13_plain hr_X13_positive hr_X13_sum hr_X13_term hr_X13_part k5 hk5 v0 v1 w hf)
  · have hf := if_f hf hc6
    exact hx.trans (mB_X13_sum_23_x r_X13_test r_X13_both r_X13_plain r_X13_positive r_X13_sum r_X13_term r_X13_part hr_X13_test hr_X13_both hr_X13_plain hr_X13_positive hr_X13_sum hr_X13_term hr_X13_part k5 hk5 v0 v1 w hf)
set_option maxHeartbeats 4000000 in
theorem mB_X13_sum_x (r_X13_test : Nat → AH → Option ((Nat ⊕ Nat) × AH)) (r_X13_both : Nat → AH → Option ((Nat ⊕ Nat) × AH)) (r_X13_plain : Nat → AH → Option ((Nat ⊕ Nat) × AH)) (r_X13_positive : Nat → AH → Option ((Nat ⊕ Nat) × AH)) (r_X13_sum : Nat → AH → Option ((Nat ⊕ Nat) × AH)) (r_X13_term : Nat → AH → Option ((Nat ⊕ Nat) × AH)) (r_X13_part : Nat → AH → Option ((Nat ⊕ Nat) × AH))  (hr_X13_test : ∀ (w : AH) (a : Nat) (r : Nat ⊕ Nat) (w' : AH) , r_X13_test a w = some (r, w') → Ext w w') (hr_X13_both : ∀ (w : AH) (a : Nat) (r : Nat ⊕ Nat) (w' : AH) , r_X13_both a w = some (r, w') → Ext w w') (hr_X13_plain : ∀ (w : AH) (a : Nat) (r : Nat ⊕ Nat) (w' : AH) , r_X13_plain a w = some (r, w') → Ext w w') (hr_X13_positive : ∀ (w : AH) (a : Nat) (r : Nat ⊕ Nat) (w' : AH) , r_X13_positive a w = some (r, w') → Ext w w') (hr_X13_sum : ∀ (w : AH) (a : Nat) (r : Nat ⊕ Nat) (w' : AH) , r_X13_sum a w = some (r, w') → Ext w w') (hr_X13_term : ∀ (w : AH) (a : Nat) (r : Nat ⊕ Nat) (w' : AH) , r_X13_term a w = some (r, w') → Ext w w') (hr_X13_part : ∀ (w : AH) (a : Nat) (r : Nat ⊕ Nat) (w' : AH) , r_X13_part a w = some (r, w') → Ext w w') (w : AH) (a : Nat) (r : Nat ⊕ Nat) (w' : AH) (hf : mB_X13_sum r_X13_test r_X13_both r_X13_plain r_X13_positive r_X13_sum r_X13_term r_X13_part a w = some (r, w')) : Ext w w' := by
  unfold mB_X13_sum at hf
  have hx := Ext.refl w
  obtain ⟨h1, hf⟩ := ck_ex hf
  obtain ⟨x4, w5, hc2, hf⟩ | ⟨r3, w5, hc2, hf⟩ := (bdT_ex hf).symm
  · have hx := hx.trans (hr_X13_term _ _ _ _ hc2)
    cases some_ex hf
    exact hx
  have hx := hx.trans (hr_X13_term _ _ _ _ hc2)
  exact hx.trans (lq3_ex (P := fun v0 v1 w => Ext w w') (fun k hk v0 v1 w hf => mB_X13_sum_5_x r_X13_test r_X13_both r_X13_plain r_X13_positive r_X13_sum r_X13_term r_X13_part hr_X13_test hr_X13_both hr_X13_plain hr_X13_positive hr_X13_sum hr_X13_term hr_X13_part k hk v0 v1 w hf) LF a r3 w5 hf)
set_option maxHeartbeats 4000000 in
theorem mB_X13_term_23_x {r : Nat ⊕ Nat} {w' : AH}  (r_X13_test : Nat → AH → Option ((Nat ⊕ Nat) × AH)) (r_X13_both : Nat → AH → Option ((Nat ⊕ Nat) × AH)) (r_X13_plain : Nat → AH → Option ((Nat ⊕ Nat) × AH)) (r_X13_positive : Nat → AH → Option ((Nat ⊕ Nat) × AH)) (r_X13_sum : Nat → AH → Option ((Nat ⊕ Nat) × AH)) (r_X13_term : Nat → AH → Option ((Nat ⊕ Nat) × AH)) (r_X13_part : Nat → AH → Option ((Nat ⊕ Nat) × AH)) (hr_X13_test : ∀ (w : AH) (a : Nat) (r : Nat ⊕ Nat) (w' : AH) , r_X13_test a w = some (r, w') → Ext w w') (hr_X13_both : ∀ (w : AH) (a : Nat) (r : Nat ⊕ Nat) (w' : AH) , r_X13_both a w = some (r, w') → Ext w w') (hr_X13_plain : ∀ (w : AH) (a : Nat) (r : Nat ⊕ Nat) (w' : AH) , r_X13_plain a w = some (r, w') → Ext w w') (hr_X13_positive : ∀ (w : AH) (a : Nat) (r : Nat ⊕ Nat) (w' : AH) , r_X13_positive a w = some (r, w') → Ext w w') (hr_X13_sum : ∀ (w : AH) (a : Nat) (r : Nat ⊕ Nat) (w' : AH) , r_X13_sum a w = some (r, w') → Ext w w') (hr_X13_term : ∀ (w : AH) (a : Nat) (r : Nat ⊕ Nat) (w' : AH) , r_X13_term a w = some (r, w') → Ext w w') (hr_X13_part : ∀ (w : AH) (a : Nat) (r : Nat ⊕ Nat) (w' : AH) , r_X13_part a w = some (r, w') → Ext w w') (k5 : Nat → Nat → AH → Option ((Nat ⊕ Nat) × AH)) (hk5 : ∀ (v0 : Nat) (v1 : Nat) (w : AH), k5 v0 v1 w = some (r, w') → Ext w w') (v0 : Nat) (v1 : Nat) (w : AH) (hf : mB_X13_term_23 r_X13_test r_X13_both r_X13_plain r_X13_positive r_X13_sum r_X13_term r_X13_part k5 v0 v1 w = some (r, w')) : Ext w w' := by
  unfold mB_X13_term_23 at hf
  have hx := Ext.refl w
  obtain ⟨h1, hf⟩ := ck_ex hf
  obtain ⟨b2, hb3, hf⟩ := bd1_ex hf
  obtain ⟨h4, hf⟩ := ck_ex hf
  obtain ⟨w6, hc5, hf⟩ := bd1_ex hf
  have hx := hx.trans (mC_X13_next_x _ _ _ hc5)
  obtain ⟨h7, hf⟩ := ck_ex hf
  obtain ⟨b8, hb9, hf⟩ := st1_ex hf
  obtain ⟨w10, hs11, hf⟩ := st1_ex hf
  have hx := hx.trans (Ext.new hs11)
  obtain ⟨h12, hf⟩ := ck_ex hf
  obtain ⟨x15, w16, hc13, hf⟩ | ⟨r14, w16, hc13, hf⟩ := (bdT_ex hf).symm
  · have hx := hx.trans (hr_X13_part _ _ _ _ hc13)
    cases some_ex hf
    exact hx
  have hx := hx.trans (hr_X13_part _ _ _ _ hc13)
  obtain ⟨w18, hc17, hf⟩ := bd1_ex hf
  have hx := hx.trans (mC_X19_init_x _ _ _ _ _ _ hc17)
  exact hx.trans (hk5 v0 b8 w18 hf)
set_option maxHeartbeats 4000000 in
theorem mB_X13_term_5_x {r : Nat ⊕ Nat} {w' : AH}  (r_X13_test : Nat → AH → Option ((Nat ⊕ Nat) × AH)) (r_X13_both : Nat → AH → Option ((Nat ⊕ Nat) × AH)) (r_X13_plain : Nat → AH → Option ((Nat ⊕ Nat) × AH)) (r_X13_positive : Nat → AH → Option ((Nat ⊕ Nat) × AH)) (r_X13_sum : Nat → AH → Option ((Nat ⊕ Nat) × AH)) (r_X13_term : Nat → AH → Option ((Nat ⊕ Nat) × AH)) (r_X13_part : Nat → AH → Option ((Nat ⊕ Nat) × AH)) (hr_X13_test : ∀ (w : AH) (a : Nat) (r : Nat ⊕ Nat) (w' : AH) , r_X13_test a w = some (r, w') → Ext w w') (hr_X13_both : ∀ (w : AH) (a : Nat) (r : Nat ⊕ Nat) (w' : AH) , r_X13_both a w = some (r, w') → Ext w w') (hr_X13_plain : ∀ (w : AH) (a : Nat) (r : Nat ⊕ Nat) (w' : AH) , r_X13_plain a w = some (r, w') → Ext w w') (hr_X13_positive : ∀ (w : AH) (a : Nat) (r : Nat ⊕ Nat) (w' : AH) , r_X13_positive a w = some (r, w') → Ext w w') (hr_X13_sum : ∀ (w : AH) (a : Nat) (r : Nat ⊕ Nat) (w' : AH) , r_X13_sum a w = some (r, w') → Ext w w') (hr_X13_term : ∀ (w : AH) (a : Nat) (r : Nat ⊕ Nat) (w' : AH) , r_X13_term a w = some (r, w') → Ext w w') (hr_X13_part : ∀ (w : AH) (a : Nat) (r : Nat ⊕ Nat) (w' : AH) , r_X13_part a w = some (r, w') → Ext w w') (k5 : Nat → Nat → AH → Option ((Nat ⊕ Nat) × AH)) (hk5 : ∀ (v0 : Nat) (v1 : Nat) (w : AH), k5 v0 v1 w = some (r, w') → Ext w w') (v0 : Nat) (v1 : Nat) (w : AH) (hf : mB_X13_term_5 r_X13_test r_X13_both r_X13_plain r_X13_positive r_X13_sum r_X13_term r_X13_part k5 v0 v1 w = some (r, w')) : Ext w w' := by
  unfold mB_X13_term_5 at hf
  have hx := Ext.refl w
  obtain ⟨b1, ha2, hf⟩ := bd1_ex hf
  obtain ⟨h3, hf⟩ := ck_ex hf
  obtain ⟨r5, hc4, hf⟩ := bd1_ex hf
  by_cases hc6 : r5 = (0 : Int32)
  · have hf := if_t hf hc6
    obtain ⟨b7, ha8, hf⟩ := bd1_ex hf
    obtain ⟨r10, hc9, hf⟩ := bd1_ex hf
    by_cases hc11 : r10 = (0 : Int32)
    · have hf := if_t hf hc11
      cases some_ex hf
      exact hx
    · have hf := if_f hf hc11
      exact hx.trans (mB_X13_term_23_x r_X13_test r_X13_both r_X13_plain r_X13_positive r_X13_sum r_X13_term r_X13_part hr_X13_test hr_X13_both hr_X13_plain hr_X13_positive hr_X13_sum hr_X13_term hr_X13_part k5 hk5 v0 v1 w hf)
  · have hf := if_f hf hc6
    exact hx.trans (mB_X13_term_23_x r_X13_test r_X13_both r_X13_plain r_X13_positive r_X13_sum r_X13_term r_X13_part hr_X13_test hr_X13_both hr_X13_plain hr_X13_positive hr_X13_sum hr_X13_term hr_X13_part k5 hk5 v0 v1 w hf)
set_option maxHeartbeats 4000000 in
theorem mB_X13_term_x (r_X13_test : Nat → AH → Option ((Nat ⊕ Nat) × AH)) (r_X13_both : Nat → AH → Option ((Nat ⊕ Nat) × AH)) (r_X13_plain : Nat → AH → Option ((Nat ⊕ Nat) × AH)) (r_X13_positive : Nat → AH → Option ((Nat ⊕ Nat) × AH)) (r_X13_sum : Nat → AH → Option ((Nat ⊕ Nat) × AH)) (r_X13_term : Nat → AH → Option ((Nat ⊕ Nat) × AH)) (r_X13_part : Nat → AH → Option ((Nat ⊕ Nat) × AH))  (hr_X13_test : ∀ (w : AH) (a : Nat) (r : Nat ⊕ Nat) (w' : AH) , r_X13_test a w = some (r, w') → Ext w w') (hr_X13_both : ∀ (w : AH) (a : Nat) (r : Nat ⊕ Nat) (w' : AH) , r_X13_both a w = some (r, w') → Ext w w') (hr_X13_plain : ∀ (w : AH) (a : Nat) (r : Nat ⊕ Nat) (w' : AH) , r_X13_plain a w = some (r, w') → Ext w w') (hr_X13_positive : ∀ (w : AH) (a : Nat) (r : Nat ⊕ Nat) (w' : AH) , r_X13_positive a w = some (r, w') → Ext w w') (hr_X13_sum : ∀ (w : AH) (a : Nat) (r : Nat ⊕ Nat) (w' : AH) , r_X13_sum a w = some (r, w') → Ext w w') (hr_X13_term : ∀ (w : AH) (a : Nat) (r : Nat ⊕ Nat) (w' : AH) , r_X13_term a w = some (r, w') → Ext w w') (hr_X13_part : ∀ (w : AH) (a : Nat) (r : Nat ⊕ Nat) (w' : AH) , r_X13_part a w = some (r, w') → Ext w w') (w : AH) (a : Nat) (r : Nat ⊕ Nat) (w' : AH) (hf : mB_X13_term r_X13_test r_X13_both r_X13_plain r_X13_positive r_X13_sum r_X13_term r_X13_part a w = some (r, w')) : Ext w w' := by
  unfold mB_X13_term at hf
  have hx := Ext.refl w
  obtain ⟨h1, hf⟩ := ck_ex hf
  obtain ⟨x4, w5, hc2, hf⟩ | ⟨r3, w5, hc2, hf⟩ := (bdT_ex hf).symm
  · have hx := hx.trans (hr_X13_part _ _ _ _ hc2)
    cases some_ex hf
    exact hx
  have hx := hx.trans (hr_X13_part _ _ _ _ hc2)
  exact hx.trans (lq3_ex (P := fun v0 v1 w => Ext w w') (fun k hk v0 v1 w hf => mB_X13_term_5_x r_X13_test r_X13_both r_X13_plain r_X13_positive r_X13_sum r_X13_term r_X13_part hr_X13_test hr_X13_both hr_X13_plain hr_X13_positive hr_X13_sum hr_X13_term hr_X13_part k hk v0 v1 w hf) LF a r3 w5 hf)
set_option maxHeartbeats 4000000 in
theorem mB_X13_part_x (r_X13_test : Nat → AH → Option ((Nat ⊕ Nat) × AH)) (r_X13_both : Nat → AH → Option ((Nat ⊕ Nat) × AH)) (r_X13_plain : Nat → AH → Option ((Nat ⊕ Nat) × AH)) (r_X13_positive : Nat → AH → Option ((Nat ⊕ Nat) × AH)) (r_X13_sum : Nat → AH → Option ((Nat ⊕ Nat) × AH)) (r_X13_term : Nat → AH → Option ((Nat ⊕ Nat) × AH)) (r_X13_part : Nat → AH → Option ((Nat ⊕ Nat) × AH))  (hr_X13_test : ∀ (w : AH) (a : Nat) (r : Nat ⊕ Nat) (w' : AH) , r_X13_test a w = some (r, w') → Ext w w') (hr_X13_both : ∀ (w : AH) (a : Nat) (r : Nat ⊕ Nat) (w' : AH) , r_X13_both a w = some (r, w') → Ext w w') (hr_X13_plain : ∀ (w : AH) (a : Nat) (r : Nat ⊕ Nat) (w' : AH) , r_X13_plain a w = some (r, w') → Ext w w') (hr_X13_positive : ∀ (w : AH) (a : Nat) (r : Nat ⊕ Nat) (w' : AH) , r_X13_positive a w = some (r, w') → Ext w w') (hr_X13_sum : ∀ (w : AH) (a : Nat) (r : Nat ⊕ Nat) (w' : AH) , r_X13_sum a w = some (r, w') → Ext w w') (hr_X13_term : ∀ (w : AH) (a : Nat) (r : Nat ⊕ Nat) (w' : AH) , r_X13_term a w = some (r, w') → Ext w w') (hr_X13_part : ∀ (w : AH) (a : Nat) (r : Nat ⊕ Nat) (w' : AH) , r_X13_part a w = some (r, w') → Ext w w') (w : AH) (a : Nat) (r : Nat ⊕ Nat) (w' : AH) (hf : mB_X13_part r_X13_test r_X13_both r_X13_plain r_X13_positive r_X13_sum r_X13_term r_X13_part a w = some (r, w')) : Ext w w' := by
  unfold mB_X13_part at hf
  have hx := Ext.refl w
  obtain ⟨b1, ha2, hf⟩ := bd1_ex hf
  obtain ⟨h3, hf⟩ := ck_ex hf
  obtain ⟨r5, hc4, hf⟩ := bd1_ex hf
  by_cases hc6 : r5 = (0 : Int32)
  · have hf := if_t hf hc6
    obtain ⟨r8, hc7, hf⟩ := bd1_ex hf
    by_cases hc9 : r8 = (0 : Int32)
    · have hf := if_t hf hc9
      obtain ⟨r11, hc10, hf⟩ := bd1_ex hf
      by_cases hc12 : r11 = (-1 : Int32)
      · have hf := if_t hf hc12
        obtain ⟨h27, hf⟩ := ck_ex hf
        obtain ⟨b28, hb29, hf⟩ := st1_ex hf
        obtain ⟨w30, hs31, hf⟩ := st1_ex hf
        have hx := hx.trans (Ext.new hs31)
        obtain ⟨h32, hf⟩ := ck_ex hf
        obtain ⟨w34, hc33, hf⟩ := bd1_ex hf
        have hx := hx.trans (mC_X14_init_x _ _ _ _ hc33)
        cases some_ex hf
        exact hx
      · have hf := if_f hf hc12
        obtain ⟨x15, w16, hc13, hf⟩ | ⟨r14, w16, hc13, hf⟩ := (bdT_ex hf).symm
        · have hx := hx.trans (mC_X13_leaf_x _ _ _ _ hc13)
          cases some_ex hf
          exact hx
        have hx := hx.trans (mC_X13_leaf_x _ _ _ _ hc13)
        obtain ⟨h17, hf⟩ := ck_ex hf
        obtain ⟨w19, hc18, hf⟩ := bd1_ex hf
        have hx := hx.trans (mC_X13_next_x _ _ _ hc18)
        obtain ⟨h20, hf⟩ := ck_ex hf
        obtain ⟨b21, hb22, hf⟩ := st1_ex hf
        obtain ⟨w23, hs24, hf⟩ := st1_ex hf
        have hx := hx.trans (Ext.new hs24)
        obtain ⟨w26, hc25, hf⟩ := bd1_ex hf
        have hx := hx.trans (mC_X18_init_x _ _ _ _ hc25)
        cases some_ex hf
        exact hx
    · have hf := if_f hf hc9
      obtain ⟨x37, w38, hc35, hf⟩ | ⟨r36, w38, hc35, hf⟩ := (bdT_ex hf).symm
      · have hx := hx.trans (mC_X13_leaf_x _ _ _ _ hc35)
        cases some_ex hf
        exact hx
      have hx := hx.trans (mC_X13_leaf_x _ _ _ _ hc35)
      obtain ⟨h39, hf⟩ := ck_ex hf
      obtain ⟨b40, hb41, hf⟩ := st1_ex hf
      obtain ⟨w42, hs43, hf⟩ := st1_ex hf
      have hx := hx.trans (Ext.new hs43)
      obtain ⟨h44, hf⟩ := ck_ex hf
      obtain ⟨x47, w48, hc45, hf⟩ | ⟨r46, w48, hc45, hf⟩ := (bdT_ex hf).symm
      · have hx := hx.trans (mC_X13_number_x _ _ _ _ _ _ hc45)
        cases some_ex hf
        exact hx
      have hx := hx.trans (mC_X13_number_x _ _ _ _ _ _ hc45)
      obtain ⟨w50, hc49, hf⟩ := bd1_ex hf
      have hx := hx.trans (mC_X17_init_x _ _ _ _ hc49)
      cases some_ex hf
      exact hx
  · have hf := if_f hf hc6
    obtain ⟨x53, w54, hc51, hf⟩ | ⟨r52, w54, hc51, hf⟩ := (bdT_ex hf).symm
    · have hx := hx.trans (mC_X13_opens_x _ _ _ _ hc51)
      cases some_ex hf
      exact hx
    have hx := hx.trans (mC_X13_opens_x _ _ _ _ hc51)
    obtain ⟨h55, hf⟩ := ck_ex hf
    obtain ⟨x58, w59, hc56, hf⟩ | ⟨r57, w59, hc56, hf⟩ := (bdT_ex hf).symm
    · have hx := hx.trans (hr_X13_sum _ _ _ _ hc56)
      cases some_ex hf
      exact hx
    have hx := hx.trans (hr_X13_sum _ _ _ _ hc56)
    obtain ⟨b60, ha61, hf⟩ := bd1_ex hf
    obtain ⟨h62, hf⟩ := ck_ex hf
    obtain ⟨x65, w66, hc63, hf⟩ | ⟨r64, w66, hc63, hf⟩ := (bdT_ex hf).symm
    · have hx := hx.trans (mC_X13_need_x _ _ _ _ _ hc63)
      cases some_ex hf
      exact hx
    have hx := hx.trans (mC_X13_need_x _ _ _ _ _ hc63)
    obtain ⟨h67, hf⟩ := ck_ex hf
    obtain ⟨w68, hs69, hf⟩ := st1_ex hf
    have hx := hx.trans (Ext.I hs69)
    cases some_ex hf
    exact hx
set_option maxHeartbeats 4000000 in
theorem mG_rd_x : ∀ n : Nat, (∀ (w : AH) (a : Nat) (r : Nat ⊕ Nat) (w' : AH) , mC_X13_test n a w = some (r, w') → Ext w w') ∧ (∀ (w : AH) (a : Nat) (r : Nat ⊕ Nat) (w' : AH) , mC_X13_both n a w = some (r, w') → Ext w w') ∧ (∀ (w : AH) (a : Nat) (r : Nat ⊕ Nat) (w' : AH) , mC_X13_plain n a w = some (r, w') → Ext w w') ∧ (∀ (w : AH) (a : Nat) (r : Nat ⊕ Nat) (w' : AH) , mC_X13_positive n a w = some (r, w') → Ext w w') ∧ (∀ (w : AH) (a : Nat) (r : Nat ⊕ Nat) (w' : AH) , mC_X13_sum n a w = some (r, w') → Ext w w') ∧ (∀ (w : AH) (a : Nat) (r : Nat ⊕ Nat) (w' : AH) , mC_X13_term n a w = some (r, w') → Ext w w') ∧ (∀ (w : AH) (a : Nat) (r : Nat ⊕ Nat) (w' : AH) , mC_X13_part n a w = some (r, w') → Ext w w')
  | 0 => ⟨fun _ _ _ _ hf => (by cases hf), fun _ _ _ _ hf => (by cases hf), fun _ _ _ _ hf => (by cases hf), fun _ _ _ _ hf => (by cases hf), fun _ _ _ _ hf => (by cases hf), fun _ _ _ _ hf => (by cases hf), fun _ _ _ _ hf => (by cases hf)⟩
  | n + 1 => by
    have ih := mG_rd_x n
    exact ⟨fun x0 x1 x2 x3 hf => mB_X13_test_x _ _ _ _ _ _ _ ih.1 ih.2.1 ih.2.2.1 ih.2.2.2.1 ih.2.2.2.2.1 ih.2.2.2.2.2.1 ih.2.2.2.2.2.2 x0 x1 x2 x3 hf, fun x0 x1 x2 x3 hf => mB_X13_both_x _ _ _ _ _ _ _ ih.1 ih.2.1 ih.2.2.1 ih.2.2.2.1 ih.2.2.2.2.1 ih.2.2.2.2.2.1 ih.2.2.2.2.2.2 x0 x1 x2 x3 hf, fun x0 x1 x2 x3 hf => mB_X13_plain_x _ _ _ _ _ _ _ ih.1 ih.2.1 ih.2.2.1 ih.2.2.2.1 ih.2.2.2.2.1 ih.2.2.2.2.2.1 ih.2.2.2.2.2.2 x0 x1 x2 x3 hf, fun x0 x1 x2 x3 hf => mB_X13_positive_x _ _ _ _ _ _ _ ih.1 ih.2.1 ih.2.2.1 ih.2.2.2.1 ih.2.2.2.2.1 ih.2.2.2.2.2.1 ih.2.2.2.2.2.2 x0 x1 x2 x3 hf, fun x0 x1 x2 x3 hf => mB_X13_sum_x _ _ _ _ _ _ _ ih.1 ih.2.1 ih.2.2.1 ih.2.2.2.1 ih.2.2.2.2.1 ih.2.2.2.2.2.1 ih.2.2.2.2.2.2 x0 x1 x2 x3 hf, fun x0 x1 x2 x3 hf => mB_X13_term_x _ _ _ _ _ _ _ ih.1 ih.2.1 ih.2.2.1 ih.2.2.2.1 ih.2.2.2.2.1 ih.2.2.2.2.2.1 ih.2.2.2.2.2.2 x0 x1 x2 x3 hf, fun x0 x1 x2 x3 hf => mB_X13_part_x _ _ _ _ _ _ _ ih.1 ih.2.1 ih.2.2.1 ih.2.2.2.1 ih.2.2.2.2.1 ih.2.2.2.2.2.1 ih.2.2.2.2.2.2 x0 x1 x2 x3 hf⟩
set_option maxHeartbeats 4000000 in
theorem mC_X13_test_x (n : Nat) : ∀ (w : AH) (a : Nat) (r : Nat ⊕ Nat) (w' : AH) , mC_X13_test n a w = some (r, w') → Ext w w' := (mG_rd_x n).1
set_option maxHeartbeats 4000000 in
theorem mC_X13_both_x (n : Nat) : ∀ (w : AH) (a : Nat) (r : Nat ⊕ Nat) (w' : AH) , mC_X13_both n a w = some (r, w') → Ext w w' := (mG_rd_x n).2.1
set_option maxHeartbeats 4000000 in
theorem mC_X13_plain_x (n : Nat) : ∀ (w : AH) (a : Nat) (r : Nat ⊕ Nat) (w' : AH) , mC_X13_plain n a w = some (r, w') → Ext w w' := (mG_rd_x n).2.2.1
set_option maxHeartbeats 4000000 in
theorem mC_X13_positive_x (n : Nat) : ∀ (w : AH) (a : Nat) (r : Nat ⊕ Nat) (w' : AH) , mC_X13_positive n a w = some (r, w') → Ext w w' := (mG_rd_x n).2.2.2.1
set_option maxHeartbeats 4000000 in
theorem mC_X13_sum_x (n : Nat) : ∀ (w : AH) (a : Nat) (r : Nat ⊕ Nat) (w' : AH) , mC_X13_sum n a w = some (r, w') → Ext w w' := (mG_rd_x n).2.2.2.2.1
set_option maxHeartbeats 4000000 in
theorem mC_X13_term_x (n : Nat) : ∀ (w : AH) (a : Nat) (r : Nat ⊕ Nat) (w' : AH) , mC_X13_term n a w = some (r, w') → Ext w w' := (mG_rd_x n).2.2.2.2.2.1
set_option maxHeartbeats 4000000 in
theorem mC_X13_part_x (n : Nat) : ∀ (w : AH) (a : Nat) (r : Nat ⊕ Nat) (w' : AH) , mC_X13_part n a w = some (r, w') → Ext w w' := (mG_rd_x n).2.2.2.2.2.2
set_option maxHeartbeats 4000000 in
theorem mC_X13_head_151_x {r : Nat ⊕ Nat} {w' : AH}  (v0 : Nat) (v1 : Nat) (w : AH) (hf : mC_X13_head_151 v0 v1 w = some (r, w')) : Ext w w' := by
  unfold mC_X13_head_151 at hf
  have hx := Ext.refl w
  obtain ⟨h1, hf⟩ := ck_ex hf
  obtain ⟨x4, w5, hc2, hf⟩ | ⟨r3, w5, hc2, hf⟩ := (bdT_ex hf).symm
  · have hx := hx.trans (mC_X13_sum_x 200 _ _ _ _ hc2)
    cases some_ex hf
    exact hx
  have hx := hx.trans (mC_X13_sum_x 200 _ _ _ _ hc2)
  obtain ⟨h6, hf⟩ := ck_ex hf
  obtain ⟨w7, hs8, hf⟩ := st1_ex hf
  have hx := hx.trans (Ext.R hs8)
  cases some_ex hf
  exact hx
set_option maxHeartbeats 4000000 in
theorem mC_X13_head_x  (w : AH) (a : Nat) (r : Nat ⊕ Nat) (w' : AH) (hf : mC_X13_head a w = some (r, w')) : Ext w w' := by
  unfold mC_X13_head at hf
  have hx := Ext.refl w
  obtain ⟨b1, ha2, hf⟩ := bd1_ex hf
  obtain ⟨h3, hf⟩ := ck_ex hf
  obtain ⟨r5, w6, hc4, hf⟩ := bd2_ex hf
  have hx := hx.trans (mC_X13_takes_x _ _ _ _ _ hc4)
  by_cases hc7 : r5 = (0 : Int32)
  · have hf := if_t hf hc7
    obtain ⟨b8, ha9, hf⟩ := bd1_ex hf
    obtain ⟨h10, hf⟩ := ck_ex hf
    obtain ⟨r12, w13, hc11, hf⟩ := bd2_ex hf
    have hx := hx.trans (mC_X13_takes_x _ _ _ _ _ hc11)
    by_cases hc14 : r12 = (0 : Int32)
    · have hf := if_t hf hc14
      obtain ⟨b15, ha16, hf⟩ := bd1_ex hf
      obtain ⟨h17, hf⟩ := ck_ex hf
      obtain ⟨r19, w20, hc18, hf⟩ := bd2_ex hf
      have hx := hx.trans (mC_X13_takes_x _ _ _ _ _ hc18)
      by_cases hc21 : r19 = (0 : Int32)
      · have hf := if_t hf hc21
        obtain ⟨b22, ha23, hf⟩ := bd1_ex hf
        obtain ⟨h24, hf⟩ := ck_ex hf
        obtain ⟨r26, w27, hc25, hf⟩ := bd2_ex hf
        have hx := hx.trans (mC_X13_takes_x _ _ _ _ _ hc25)
        by_cases hc28 : r26 = (0 : Int32)
        · have hf := if_t hf hc28
          obtain ⟨b29, ha30, hf⟩ := bd1_ex hf
          obtain ⟨h31, hf⟩ := ck_ex hf
          obtain ⟨r33, w34, hc32, hf⟩ := bd2_ex hf
          have hx := hx.trans (mC_X13_takes_x _ _ _ _ _ hc32)
          by_cases hc35 : r33 = (0 : Int32)
          · have hf := if_t hf hc35
            obtain ⟨b36, ha37, hf⟩ := bd1_ex hf
            obtain ⟨h38, hf⟩ := ck_ex hf
            obtain ⟨r40, w41, hc39, hf⟩ := bd2_ex hf
            have hx := hx.trans (mC_X13_takes_x _ _ _ _ _ hc39)
            by_cases hc42 : r40 = (0 : Int32)
            · have hf := if_t hf hc42
              obtain ⟨b43, ha44, hf⟩ := bd1_ex hf
              obtain ⟨h45, hf⟩ := ck_ex hf
              obtain ⟨x48, w49, hc46, hf⟩ | ⟨r47, w49, hc46, hf⟩ := (bdT_ex hf).symm
              · have hx := hx.trans (mC_X13_need_x _ _ _ _ _ hc46)
                cases some_ex hf
                exact hx
              have hx := hx.trans (mC_X13_need_x _ _ _ _ _ hc46)
              obtain ⟨h50, hf⟩ := ck_ex hf
              obtain ⟨b51, hb52, hf⟩ := st1_ex hf
              obtain ⟨w53, hs54, hf⟩ := st1_ex hf
              have hx := hx.trans (Ext.new hs54)
              obtain ⟨w56, hc55, hf⟩ := bd1_ex hf
              have hx := hx.trans (mC_X15_init_x _ _ _ _ _ _ hc55)
              exact hx.trans (mC_X13_head_151_x a b51 w56 hf)
            · have hf := if_f hf hc42
              obtain ⟨h57, hf⟩ := ck_ex hf
              obtain ⟨b58, hb59, hf⟩ := st1_ex hf
              obtain ⟨w60, hs61, hf⟩ := st1_ex hf
              have hx := hx.trans (Ext.new hs61)
              obtain ⟨w63, hc62, hf⟩ := bd1_ex hf
              have hx := hx.trans (mC_X15_init_x _ _ _ _ _ _ hc62)
              exact hx.trans (mC_X13_head_151_x a b58 w63 hf)
          · have hf := if_f hf hc35
            obtain ⟨h64, hf⟩ := ck_ex hf
            obtain ⟨b65, hb66, hf⟩ := st1_ex hf
            obtain ⟨w67, hs68, hf⟩ := st1_ex hf
            have hx := hx.trans (Ext.new hs68)
            obtain ⟨w70, hc69, hf⟩ := bd1_ex hf
            have hx := hx.trans (mC_X15_init_x _ _ _ _ _ _ hc69)
            exact hx.trans (mC_X13_head_151_x a b65 w70 hf)
        · have hf := if_f hf hc28
          obtain ⟨h71, hf⟩ := ck_ex hf
          obtain ⟨b72, hb73, hf⟩ := st1_ex hf
          obtain ⟨w74, hs75, hf⟩ := st1_ex hf
          have hx := hx.trans (Ext.new hs75)
          obtain ⟨h76, hf⟩ := ck_ex hf
          obtain ⟨x79, w80, hc77, hf⟩ | ⟨r78, w80, hc77, hf⟩ := (bdT_ex hf).symm
          · have hx := hx.trans (mC_X13_number_x _ _ _ _ _ _ hc77)
            cases some_ex hf
            exact hx
          have hx := hx.trans (mC_X13_number_x _ _ _ _ _ _ hc77)
          obtain ⟨w82, hc81, hf⟩ := bd1_ex hf
          have hx := hx.trans (mC_X15_init_x _ _ _ _ _ _ hc81)
          cases some_ex hf
          exact hx
      · have hf := if_f hf hc21
        obtain ⟨h83, hf⟩ := ck_ex hf
        obtain ⟨b84, hb85, hf⟩ := st1_ex hf
        obtain ⟨w86, hs87, hf⟩ := st1_ex hf
        have hx := hx.trans (Ext.new hs87)
        obtain ⟨w89, hc88, hf⟩ := bd1_ex hf
        have hx := hx.trans (mC_X15_init_x _ _ _ _ _ _ hc88)
        cases some_ex hf
        exact hx
    · have hf := if_f hf hc14
      obtain ⟨h90, hf⟩ := ck_ex hf
      obtain ⟨b91, hb92, hf⟩ := st1_ex hf
      obtain ⟨w93, hs94, hf⟩ := st1_ex hf
      have hx := hx.trans (Ext.new hs94)
      obtain ⟨w96, hc95, hf⟩ := bd1_ex hf
      have hx := hx.trans (mC_X15_init_x _ _ _ _ _ _ hc95)
      cases some_ex hf
      exact hx
  · have hf := if_f hf hc7
    obtain ⟨h97, hf⟩ := ck_ex hf
    obtain ⟨b98, hb99, hf⟩ := st1_ex hf
    obtain ⟨w100, hs101, hf⟩ := st1_ex hf
    have hx := hx.trans (Ext.new hs101)
    obtain ⟨w103, hc102, hf⟩ := bd1_ex hf
    have hx := hx.trans (mC_X15_init_x _ _ _ _ _ _ hc102)
    cases some_ex hf
    exact hx
set_option maxHeartbeats 4000000 in
theorem mC_X13_clause_94_x {r : Unit ⊕ Nat} {w' : AH}  (v0 : Nat) (v1 : Nat) (w : AH) (hf : mC_X13_clause_94 v0 v1 w = some (r, w')) : Ext w w' := by
  unfold mC_X13_clause_94 at hf
  have hx := Ext.refl w
  obtain ⟨h1, hf⟩ := ck_ex hf
  obtain ⟨b2, hb3, hf⟩ := bd1_ex hf
  obtain ⟨h4, hf⟩ := ck_ex hf
  obtain ⟨r6, w7, hc5, hf⟩ := bd2_ex hf
  have hx := hx.trans (mC_J2_add_x _ _ _ _ _ hc5)
  cases some_ex hf
  exact hx
set_option maxHeartbeats 4000000 in
theorem mC_X13_clause_x  (w : AH) (a : Nat) (r : Unit ⊕ Nat) (w' : AH) (hf : mC_X13_clause a w = some (r, w')) : Ext w w' := by
  unfold mC_X13_clause at hf
  have hx := Ext.refl w
  obtain ⟨h1, hf⟩ := ck_ex hf
  obtain ⟨b2, hb3, hf⟩ := bd1_ex hf
  obtain ⟨h4, hf⟩ := ck_ex hf
  obtain ⟨r6, hc5, hf⟩ := bd1_ex hf
  by_cases hc7 : r6 = (12 : Int32)
  · have hf := if_t hf hc7
    obtain ⟨h65, hf⟩ := ck_ex hf
    obtain ⟨b66, hb67, hf⟩ := st1_ex hf
    obtain ⟨w68, hs69, hf⟩ := st1_ex hf
    have hx := hx.trans (Ext.new hs69)
    obtain ⟨h70, hf⟩ := ck_ex hf
    obtain ⟨w72, hc71, hf⟩ := bd1_ex hf
    have hx := hx.trans (mC_X14_init_x _ _ _ _ hc71)
    cases some_ex hf
    exact hx
  · have hf := if_f hf hc7
    obtain ⟨b8, ha9, hf⟩ := bd1_ex hf
    obtain ⟨r11, w12, hc10, hf⟩ := bd2_ex hf
    have hx := hx.trans (mC_X13_takes_x _ _ _ _ _ hc10)
    by_cases hc13 : r11 = (0 : Int32)
    · have hf := if_t hf hc13
      obtain ⟨h14, hf⟩ := ck_ex hf
      obtain ⟨x17, w18, hc15, hf⟩ | ⟨r16, w18, hc15, hf⟩ := (bdT_ex hf).symm
      · have hx := hx.trans (mC_X13_head_x _ _ _ _ hc15)
        cases some_ex hf
        exact hx
      have hx := hx.trans (mC_X13_head_x _ _ _ _ hc15)
      obtain ⟨b19, ha20, hf⟩ := bd1_ex hf
      obtain ⟨h21, hf⟩ := ck_ex hf
      obtain ⟨r23, w24, hc22, hf⟩ := bd2_ex hf
      have hx := hx.trans (mC_X13_takes_x _ _ _ _ _ hc22)
      by_cases hc25 : r23 = (0 : Int32)
      · have hf := if_t hf hc25
        exact hx.trans (mC_X13_clause_94_x a r16 w24 hf)
      · have hf := if_f hf hc25
        obtain ⟨h26, hf⟩ := ck_ex hf
        obtain ⟨x29, w30, hc27, hf⟩ | ⟨r28, w30, hc27, hf⟩ := (bdT_ex hf).symm
        · have hx := hx.trans (mC_X13_test_x 200 _ _ _ _ hc27)
          cases some_ex hf
          exact hx
        have hx := hx.trans (mC_X13_test_x 200 _ _ _ _ hc27)
        obtain ⟨h31, hf⟩ := ck_ex hf
        obtain ⟨w32, hs33, hf⟩ := st1_ex hf
        have hx := hx.trans (Ext.R hs33)
        exact hx.trans (mC_X13_clause_94_x a r16 w32 hf)
    · have hf := if_f hf hc13
      obtain ⟨h34, hf⟩ := ck_ex hf
      obtain ⟨x37, w38, hc35, hf⟩ | ⟨r36, w38, hc35, hf⟩ := (bdT_ex hf).symm
      · have hx := hx.trans (mC_X13_number_x _ _ _ _ _ _ hc35)
        cases some_ex hf
        exact hx
      have hx := hx.trans (mC_X13_number_x _ _ _ _ _ _ hc35)
      obtain ⟨b39, ha40, hf⟩ := bd1_ex hf
      obtain ⟨h41, hf⟩ := ck_ex hf
      obtain ⟨x44, w45, hc42, hf⟩ | ⟨r43, w45, hc42, hf⟩ := (bdT_ex hf).symm
      · have hx := hx.trans (mC_X13_need_x _ _ _ _ _ hc42)
        cases some_ex hf
        exact hx
      have hx := hx.trans (mC_X13_need_x _ _ _ _ _ hc42)
      obtain ⟨h46, hf⟩ := ck_ex hf
      obtain ⟨b47, hb48, hf⟩ := bd1_ex hf
      obtain ⟨h49, hf⟩ := ck_ex hf
      obtain ⟨b50, hb51, hf⟩ := st1_ex hf
      obtain ⟨w52, hs53, hf⟩ := st1_ex hf
      have hx := hx.trans (Ext.new hs53)
      obtain ⟨h54, hf⟩ := ck_ex hf
      obtain ⟨x57, w58, hc55, hf⟩ | ⟨r56, w58, hc55, hf⟩ := (bdT_ex hf).symm
      · have hx := hx.trans (mC_X13_number_x _ _ _ _ _ _ hc55)
        cases some_ex hf
        exact hx
      have hx := hx.trans (mC_X13_number_x _ _ _ _ _ _ hc55)
      obtain ⟨w60, hc59, hf⟩ := bd1_ex hf
      have hx := hx.trans (mC_X15_init_x _ _ _ _ _ _ hc59)
      obtain ⟨h61, hf⟩ := ck_ex hf
      obtain ⟨r63, w64, hc62, hf⟩ := bd2_ex hf
      have hx := hx.trans (mC_J2_add_x _ _ _ _ _ hc62)
      cases some_ex hf
      exact hx
set_option maxHeartbeats 4000000 in
theorem mC_X13_read_8_x {r : Unit ⊕ Nat} {w' : AH}  (k8 : Nat → AH → Option ((Unit ⊕ Nat) × AH)) (hk8 : ∀ (v0 : Nat) (w : AH), k8 v0 w = some (r, w') → Ext w w') (v0 : Nat) (w : AH) (hf : mC_X13_read_8 k8 v0 w = some (r, w')) : Ext w w' := by
  unfold mC_X13_read_8 at hf
  have hx := Ext.refl w
  obtain ⟨b1, ha2, hf⟩ := bd1_ex hf
  obtain ⟨h3, hf⟩ := ck_ex hf
  obtain ⟨r5, w6, hc4, hf⟩ := bd2_ex hf
  have hx := hx.trans (mC_X13_takes_x _ _ _ _ _ hc4)
  by_cases hc7 : r5 = (0 : Int32)
  · have hf := if_t hf hc7
    obtain ⟨h8, hf⟩ := ck_ex hf
    by_cases hc9 : (hvi w6 v0 1) ≤ (hvi w6 v0 3)
    · have hf := if_t hf hc9
      cases some_ex hf
      exact hx
    · have hf := if_f hf hc9
      obtain ⟨h10, hf⟩ := ck_ex hf
      obtain ⟨b11, hb12, hf⟩ := st1_ex hf
      obtain ⟨w13, hs14, hf⟩ := st1_ex hf
      have hx := hx.trans (Ext.new hs14)
      obtain ⟨h15, hf⟩ := ck_ex hf
      obtain ⟨w17, hc16, hf⟩ := bd1_ex hf
      have hx := hx.trans (mC_X14_init_x _ _ _ _ hc16)
      cases some_ex hf
      exact hx
  · have hf := if_f hf hc7
    obtain ⟨h18, hf⟩ := ck_ex hf
    obtain ⟨x21, w22, hc19, hf⟩ | ⟨r20, w22, hc19, hf⟩ := (bdT_ex hf).symm
    · have hx := hx.trans (mC_X13_clause_x _ _ _ _ hc19)
      cases some_ex hf
      exact hx
    have hx := hx.trans (mC_X13_clause_x _ _ _ _ hc19)
    exact hx.trans (hk8 v0 w22 hf)
set_option maxHeartbeats 4000000 in
theorem mC_X13_read_x  (w : AH) (a : Nat) (r : Unit ⊕ Nat) (w' : AH) (hf : mC_X13_read a w = some (r, w')) : Ext w w' := by
  unfold mC_X13_read at hf
  have hx := Ext.refl w
  obtain ⟨h1, hf⟩ := ck_ex hf
  obtain ⟨w3, hc2, hf⟩ := bd1_ex hf
  have hx := hx.trans (mC_X13_next_x _ _ _ hc2)
  obtain ⟨h4, hf⟩ := ck_ex hf
  obtain ⟨x7, w8, hc5, hf⟩ | ⟨r6, w8, hc5, hf⟩ := (bdT_ex hf).symm
  · have hx := hx.trans (mC_X13_clause_x _ _ _ _ hc5)
    cases some_ex hf
    exact hx
  have hx := hx.trans (mC_X13_clause_x _ _ _ _ hc5)
  exact hx.trans (lq2_ex (P := fun v0 w => Ext w w') (fun k hk v0 w hf => mC_X13_read_8_x k hk v0 w hf) LF a w8 hf)
set_option maxHeartbeats 4000000 in
theorem mC_X25_init_x  (w : AH) (a : Nat) (p0 : Int32) (p1 : Int32) (p2 : Nat) (w' : AH) (hf : mC_X25_init a p0 p1 p2 w = some w') : Ext w w' := by
  unfold mC_X25_init at hf
  have hx := Ext.refl w
  obtain ⟨h1, hf⟩ := ck_ex hf
  obtain ⟨w2, hs3, hf⟩ := st1_ex hf
  have hx := hx.trans (Ext.I hs3)
  obtain ⟨h4, hf⟩ := ck_ex hf
  obtain ⟨w5, hs6, hf⟩ := st1_ex hf
  have hx := hx.trans (Ext.I hs6)
  obtain ⟨h7, hf⟩ := ck_ex hf
  obtain ⟨w8, hs9, hf⟩ := st1_ex hf
  have hx := hx.trans (Ext.R hs9)
  cases some_ex hf
  exact hx
set_option maxHeartbeats 4000000 in
theorem mC_X0_order_65_x {r : Int32} {w' : AH}  (v0 : Nat) (t0 : Nat) (w : AH) (hf : mC_X0_order_65 v0 t0 w = some (r, w')) : Ext w w' := by
  unfold mC_X0_order_65 at hf
  have hx := Ext.refl w
  obtain ⟨h1, hf⟩ := ck_ex hf
  obtain ⟨h2, hf⟩ := ck_ex hf
  obtain ⟨w3, hs4, hf⟩ := st1_ex hf
  have hx := hx.trans (Ext.I hs4)
  obtain ⟨h5, hf⟩ := ck_ex hf
  obtain ⟨r7, w8, hc6, hf⟩ := bd2_ex hf
  have hx := hx.trans (mC_X0_refuse_x _ _ _ _ _ hc6)
  cases some_ex hf
  exact hx
set_option maxHeartbeats 4000000 in
theorem mC_X0_order_x  (w : AH) (a : Nat) (p0 : Int32) (r : Int32) (w' : AH) (hf : mC_X0_order a p0 w = some (r, w')) : Ext w w' := by
  unfold mC_X0_order at hf
  have hx := Ext.refl w
  obtain ⟨h1, hf⟩ := ck_ex hf
  obtain ⟨w2, hs3, hf⟩ := st1_ex hf
  have hx := hx.trans (Ext.I hs3)
  obtain ⟨r5, hc4, hf⟩ := bd1_ex hf
  by_cases hc6 : r5 = (0 : Int32)
  · have hf := if_t hf hc6
    obtain ⟨h80, hf⟩ := ck_ex hf
    obtain ⟨r82, w83, hc81, hf⟩ := bd2_ex hf
    have hx := hx.trans (mC_X0_refuse_x _ _ _ _ _ hc81)
    cases some_ex hf
    exact hx
  · have hf := if_f hf hc6
    obtain ⟨h7, hf⟩ := ck_ex hf
    obtain ⟨b8, hb9, hf⟩ := bd1_ex hf
    obtain ⟨h10, hf⟩ := ck_ex hf
    obtain ⟨b11, hb12, hf⟩ := bd1_ex hf
    obtain ⟨h13, hf⟩ := ck_ex hf
    obtain ⟨r15, hc14, hf⟩ := bd1_ex hf
    by_cases hc16 : r15 = (20 : Int32)
    · have hf := if_t hf hc16
      obtain ⟨r78, w79, hc77, hf⟩ := bd2_ex hf
      have hx := hx.trans (mC_X0_refuse_x _ _ _ _ _ hc77)
      cases some_ex hf
      exact hx
    · have hf := if_f hf hc16
      obtain ⟨h17, hf⟩ := ck_ex hf
      obtain ⟨b18, hb19, hf⟩ := st1_ex hf
      obtain ⟨w20, hs21, hf⟩ := st1_ex hf
      have hx := hx.trans (Ext.new hs21)
      obtain ⟨h22, hf⟩ := ck_ex hf
      obtain ⟨b23, hb24, hf⟩ := bd1_ex hf
      obtain ⟨w26, hc25, hf⟩ := bd1_ex hf
      have hx := hx.trans (mC_X13_init_x _ _ _ _ _ hc25)
      obtain ⟨h27, hf⟩ := ck_ex hf
      obtain ⟨x30, w31, hc28, hf⟩ | ⟨r29, w31, hc28, hf⟩ := (bdT_ex hf).symm
      · have hx := hx.trans (mC_X13_read_x _ _ _ _ hc28)
        obtain ⟨h32, hf⟩ := ck_ex hf
        exact hx.trans (mC_X0_order_65_x a x30 w31 hf)
      have hx := hx.trans (mC_X13_read_x _ _ _ _ hc28)
      obtain ⟨h33, hf⟩ := ck_ex hf
      obtain ⟨w34, hs35, hf⟩ := st1_ex hf
      have hx := hx.trans (Ext.I hs35)
      obtain ⟨h36, hf⟩ := ck_ex hf
      obtain ⟨b37, hb38, hf⟩ := bd1_ex hf
      obtain ⟨h39, hf⟩ := ck_ex hf
      obtain ⟨b40, hb41, hf⟩ := bd1_ex hf
      obtain ⟨h42, hf⟩ := ck_ex hf
      obtain ⟨b43, hb44, hf⟩ := st1_ex hf
      obtain ⟨w45, hs46, hf⟩ := st1_ex hf
      have hx := hx.trans (Ext.new hs46)
      obtain ⟨h47, hf⟩ := ck_ex hf
      obtain ⟨b48, hb49, hf⟩ := bd1_ex hf
      obtain ⟨h50, hf⟩ := ck_ex hf
      obtain ⟨b51, hb52, hf⟩ := bd1_ex hf
      obtain ⟨h53, hf⟩ := ck_ex hf
      obtain ⟨r55, hc54, hf⟩ := bd1_ex hf
      obtain ⟨h56, hf⟩ := ck_ex hf
      obtain ⟨b57, hb58, hf⟩ := bd1_ex hf
      obtain ⟨w60, hc59, hf⟩ := bd1_ex hf
      have hx := hx.trans (mC_X25_init_x _ _ _ _ _ _ hc59)
      obtain ⟨h61, hf⟩ := ck_ex hf
      obtain ⟨r63, w64, hc62, hf⟩ := bd2_ex hf
      have hx := hx.trans (mC_J2_add_x _ _ _ _ _ hc62)
      obtain ⟨h65, hf⟩ := ck_ex hf
      obtain ⟨b66, hb67, hf⟩ := bd1_ex hf
      obtain ⟨h68, hf⟩ := ck_ex hf
      obtain ⟨b69, hb70, hf⟩ := bd1_ex hf
      obtain ⟨h71, hf⟩ := ck_ex hf
      obtain ⟨r73, hc72, hf⟩ := bd1_ex hf
      obtain ⟨r75, w76, hc74, hf⟩ := bd2_ex hf
      have hx := hx.trans (mC_X0_told_x _ _ _ _ _ hc74)
      cases some_ex hf
      exact hx
set_option maxHeartbeats 4000000 in
theorem mC_X2_goes_105_x {w' : AH}  (k2 : Nat → Nat → Int32 → AH → Option (AH)) (hk2 : ∀ (v0 : Nat) (v1 : Nat) (v2 : Int32) (w : AH), k2 v0 v1 v2 w = some w' → Ext w w') (v0 : Nat) (v1 : Nat) (v2 : Int32) (w : AH) (hf : mC_X2_goes_105 k2 v0 v1 v2 w = some w') : Ext w w' := by
  unfold mC_X2_goes_105 at hf
  have hx := Ext.refl w
  exact hx.trans (hk2 v0 v1 (v2 + (1 : Int32)) w hf)
set_option maxHeartbeats 4000000 in
theorem mC_X2_goes_42_x {w' : AH}  (k2 : Nat → Nat → Int32 → AH → Option (AH)) (hk2 : ∀ (v0 : Nat) (v1 : Nat) (v2 : Int32) (w : AH), k2 v0 v1 v2 w = some w' → Ext w w') (v0 : Nat) (v1 : Nat) (v2 : Int32) (v3 : Int32) (t0 : Int32) (t1 : Int32) (t2 : Nat) (w : AH) (hf : mC_X2_goes_42 k2 v0 v1 v2 v3 t0 t1 t2 w = some w') : Ext w w' := by
  unfold mC_X2_goes_42 at hf
  have hx := Ext.refl w
  obtain ⟨h1, hf⟩ := ck_ex hf
  obtain ⟨h2, hf⟩ := ck_ex hf
  obtain ⟨w3, hs4, hf⟩ := st1_ex hf
  have hx := hx.trans (Ext.I hs4)
  obtain ⟨h5, hf⟩ := ck_ex hf
  obtain ⟨b6, hb7, hf⟩ := bd1_ex hf
  obtain ⟨h8, hf⟩ := ck_ex hf
  obtain ⟨r10, hc9, hf⟩ := bd1_ex hf
  obtain ⟨h11, hf⟩ := ck_ex hf
  obtain ⟨h12, hf⟩ := ck_ex hf
  obtain ⟨b13, hb14, hf⟩ := bd1_ex hf
  obtain ⟨h15, hf⟩ := ck_ex hf
  by_cases hc16 : (hvi w3 b13 (v3.toNatClampNeg)) = (0 : Int32)
  · have hf := if_t hf hc16
    exact hx.trans (mC_X2_goes_105_x k2 hk2 v0 v1 v2 w3 hf)
  · have hf := if_f hf hc16
    by_cases hc17 : (hvi w3 r10 0) = (0 : Int32)
    · have hf := if_t hf hc17
      by_cases hc18 : (hvi w3 v1 0) ≤ (hvi w3 r10 1)
      · have hf := if_t hf hc18
        exact hx.trans (mC_X2_goes_105_x k2 hk2 v0 v1 v2 w3 hf)
      · have hf := if_f hf hc18
        obtain ⟨b19, hb20, hf⟩ := bd1_ex hf
        obtain ⟨h21, hf⟩ := ck_ex hf
        obtain ⟨w22, hs23, hf⟩ := st1_ex hf
        have hx := hx.trans (Ext.I hs23)
        exact hx.trans (mC_X2_goes_105_x k2 hk2 v0 v1 v2 w22 hf)
    · have hf := if_f hf hc17
      exact hx.trans (mC_X2_goes_105_x k2 hk2 v0 v1 v2 w3 hf)
set_option maxHeartbeats 4000000 in
theorem mC_X2_goes_2_x {w' : AH}  (k2 : Nat → Nat → Int32 → AH → Option (AH)) (hk2 : ∀ (v0 : Nat) (v1 : Nat) (v2 : Int32) (w : AH), k2 v0 v1 v2 w = some w' → Ext w w') (v0 : Nat) (v1 : Nat) (v2 : Int32) (w : AH) (hf : mC_X2_goes_2 k2 v0 v1 v2 w = some w') : Ext w w' := by
  unfold mC_X2_goes_2 at hf
  have hx := Ext.refl w
  obtain ⟨h1, hf⟩ := ck_ex hf
  obtain ⟨b2, hb3, hf⟩ := bd1_ex hf
  obtain ⟨h4, hf⟩ := ck_ex hf
  obtain ⟨r6, hc5, hf⟩ := bd1_ex hf
  by_cases hc7 : r6 ≤ v2
  · have hf := if_t hf hc7
    cases some_ex hf
    exact hx
  · have hf := if_f hf hc7
    obtain ⟨h8, hf⟩ := ck_ex hf
    obtain ⟨b9, hb10, hf⟩ := bd1_ex hf
    obtain ⟨b11, hb12, hf⟩ := bd1_ex hf
    obtain ⟨h13, hf⟩ := ck_ex hf
    by_cases hc14 : (hvi w b11 ((((12 : Int32) * (hvi w v1 0)) + v2).toNatClampNeg)) = (0 : Int32)
    · have hf := if_t hf hc14
      exact hx.trans (mC_X2_goes_42_x k2 hk2 v0 v1 v2 (((12 : Int32) * (hvi w v1 0)) + v2) (1 : Int32) (((12 : Int32) * (hvi w v1 0)) + v2) b9 w hf)
    · have hf := if_f hf hc14
      exact hx.trans (mC_X2_goes_42_x k2 hk2 v0 v1 v2 (((12 : Int32) * (hvi w v1 0)) + v2) (0 : Int32) (((12 : Int32) * (hvi w v1 0)) + v2) b9 w hf)
set_option maxHeartbeats 4000000 in
theorem mC_X2_goes_x  (w : AH) (a : Nat) (p0 : Nat) (w' : AH) (hf : mC_X2_goes a p0 w = some w') : Ext w w' := by
  unfold mC_X2_goes at hf
  have hx := Ext.refl w
  exact hx.trans (lq4_ex (P := fun v0 v1 v2 w => Ext w w') (fun k hk v0 v1 v2 w hf => mC_X2_goes_2_x k hk v0 v1 v2 w hf) LF a p0 (0 : Int32) w hf)
set_option maxHeartbeats 4000000 in
theorem mC_X2_looks_133_x {w' : AH}  (k84 : Nat → Int32 → Int32 → AH → Option (AH)) (hk84 : ∀ (v0 : Nat) (v1 : Int32) (v2 : Int32) (w : AH), k84 v0 v1 v2 w = some w' → Ext w w') (v0 : Nat) (v1 : Int32) (v2 : Int32) (w : AH) (hf : mC_X2_looks_133 k84 v0 v1 v2 w = some w') : Ext w w' := by
  unfold mC_X2_looks_133 at hf
  have hx := Ext.refl w
  exact hx.trans (hk84 v0 v1 (v2 + (-1 : Int32)) w hf)
set_option maxHeartbeats 4000000 in
theorem mC_X2_looks_84_x {w' : AH}  (k84 : Nat → Int32 → Int32 → AH → Option (AH)) (hk84 : ∀ (v0 : Nat) (v1 : Int32) (v2 : Int32) (w : AH), k84 v0 v1 v2 w = some w' → Ext w w') (v0 : Nat) (v1 : Int32) (v2 : Int32) (w : AH) (hf : mC_X2_looks_84 k84 v0 v1 v2 w = some w') : Ext w w' := by
  unfold mC_X2_looks_84 at hf
  have hx := Ext.refl w
  by_cases hc1 : v2 < (0 : Int32)
  · have hf := if_t hf hc1
    cases some_ex hf
    exact hx
  · have hf := if_f hf hc1
    obtain ⟨h2, hf⟩ := ck_ex hf
    obtain ⟨b3, hb4, hf⟩ := bd1_ex hf
    obtain ⟨h5, hf⟩ := ck_ex hf
    obtain ⟨b6, hb7, hf⟩ := bd1_ex hf
    obtain ⟨h8, hf⟩ := ck_ex hf
    obtain ⟨b9, hb10, hf⟩ := bd1_ex hf
    obtain ⟨h11, hf⟩ := ck_ex hf
    obtain ⟨r13, hc12, hf⟩ := bd1_ex hf
    obtain ⟨h14, hf⟩ := ck_ex hf
    by_cases hc15 : v1 < (hvi w r13 1)
    · have hf := if_t hf hc15
      exact hx.trans (mC_X2_looks_133_x k84 hk84 v0 v1 v2 w hf)
    · have hf := if_f hf hc15
      obtain ⟨r17, hc16, hf⟩ := bd1_ex hf
      obtain ⟨h18, hf⟩ := ck_ex hf
      obtain ⟨w20, hc19, hf⟩ := bd1_ex hf
      have hx := hx.trans (mC_X2_goes_x _ _ _ _ hc19)
      exact hx.trans (mC_X2_looks_133_x k84 hk84 v0 v1 v2 w20 hf)
set_option maxHeartbeats 4000000 in
theorem mC_X2_looks_41_x {w' : AH}  (k41 : Nat → Int32 → Int32 → AH → Option (AH)) (hk41 : ∀ (v0 : Nat) (v1 : Int32) (v2 : Int32) (w : AH), k41 v0 v1 v2 w = some w' → Ext w w') (v0 : Nat) (v1 : Int32) (v2 : Int32) (w : AH) (hf : mC_X2_looks_41 k41 v0 v1 v2 w = some w') : Ext w w' := by
  unfold mC_X2_looks_41 at hf
  have hx := Ext.refl w
  by_cases hc1 : (240 : Int32) ≤ v2
  · have hf := if_t hf hc1
    obtain ⟨h2, hf⟩ := ck_ex hf
    obtain ⟨b3, hb4, hf⟩ := bd1_ex hf
    obtain ⟨h5, hf⟩ := ck_ex hf
    obtain ⟨b6, hb7, hf⟩ := bd1_ex hf
    obtain ⟨h8, hf⟩ := ck_ex hf
    obtain ⟨b9, hb10, hf⟩ := bd1_ex hf
    obtain ⟨h11, hf⟩ := ck_ex hf
    obtain ⟨r13, hc12, hf⟩ := bd1_ex hf
    exact hx.trans (lq4_ex (P := fun v0 v1 v2 w => Ext w w') (fun k hk v0 v1 v2 w hf => mC_X2_looks_84_x k hk v0 v1 v2 w hf) LF v0 v1 (r13 - (1 : Int32)) w hf)
  · have hf := if_f hf hc1
    obtain ⟨h14, hf⟩ := ck_ex hf
    obtain ⟨b15, hb16, hf⟩ := bd1_ex hf
    obtain ⟨h17, hf⟩ := ck_ex hf
    obtain ⟨w18, hs19, hf⟩ := st1_ex hf
    have hx := hx.trans (Ext.I hs19)
    obtain ⟨h20, hf⟩ := ck_ex hf
    obtain ⟨b21, hb22, hf⟩ := bd1_ex hf
    obtain ⟨h23, hf⟩ := ck_ex hf
    obtain ⟨w24, hs25, hf⟩ := st1_ex hf
    have hx := hx.trans (Ext.I hs25)
    exact hx.trans (hk41 v0 v1 (v2 + (1 : Int32)) w24 hf)
set_option maxHeartbeats 4000000 in
theorem mC_X2_looks_23_x {w' : AH}  (v0 : Nat) (v1 : Int32) (w : AH) (hf : mC_X2_looks_23 v0 v1 w = some w') : Ext w w' := by
  unfold mC_X2_looks_23 at hf
  have hx := Ext.refl w
  obtain ⟨h1, hf⟩ := ck_ex hf
  obtain ⟨w2, hs3, hf⟩ := st1_ex hf
  have hx := hx.trans (Ext.I hs3)
  obtain ⟨h4, hf⟩ := ck_ex hf
  obtain ⟨b5, hb6, hf⟩ := bd1_ex hf
  obtain ⟨h7, hf⟩ := ck_ex hf
  obtain ⟨w8, hs9, hf⟩ := st1_ex hf
  have hx := hx.trans (Ext.I hs9)
  exact hx.trans (lq4_ex (P := fun v0 v1 v2 w => Ext w w') (fun k hk v0 v1 v2 w hf => mC_X2_looks_41_x k hk v0 v1 v2 w hf) LF v0 v1 (0 : Int32) w8 hf)
set_option maxHeartbeats 4000000 in
theorem mC_X2_looks_x  (w : AH) (a : Nat) (p0 : Int32) (w' : AH) (hf : mC_X2_looks a p0 w = some w') : Ext w w' := by
  unfold mC_X2_looks at hf
  have hx := Ext.refl w
  obtain ⟨h1, hf⟩ := ck_ex hf
  by_cases hc2 : (hvi w a 2) = p0
  · have hf := if_t hf hc2
    obtain ⟨b3, hb4, hf⟩ := bd1_ex hf
    obtain ⟨h5, hf⟩ := ck_ex hf
    by_cases hc6 : (hvi w a 3) = (hvi w b3 1)
    · have hf := if_t hf hc6
      cases some_ex hf
      exact hx
    · have hf := if_f hf hc6
      exact hx.trans (mC_X2_looks_23_x a p0 w hf)
  · have hf := if_f hf hc2
    exact hx.trans (mC_X2_looks_23_x a p0 w hf)
set_option maxHeartbeats 4000000 in
theorem mC_X0_force_x  (w : AH) (a : Nat) (p0 : Int32) (p1 : Int32) (p2 : Int32) (r : Int32) (w' : AH) (hf : mC_X0_force a p0 p1 p2 w = some (r, w')) : Ext w w' := by
  unfold mC_X0_force at hf
  have hx := Ext.refl w
  obtain ⟨h1, hf⟩ := ck_ex hf
  obtain ⟨b2, hb3, hf⟩ := bd1_ex hf
  obtain ⟨h4, hf⟩ := ck_ex hf
  obtain ⟨b5, hb6, hf⟩ := bd1_ex hf
  obtain ⟨h7, hf⟩ := ck_ex hf
  obtain ⟨r9, hc8, hf⟩ := bd1_ex hf
  obtain ⟨r11, hc10, hf⟩ := bd1_ex hf
  by_cases hc12 : r11 = (0 : Int32)
  · have hf := if_t hf hc12
    cases some_ex hf
    exact hx
  · have hf := if_f hf hc12
    obtain ⟨r14, hc13, hf⟩ := bd1_ex hf
    obtain ⟨h15, hf⟩ := ck_ex hf
    obtain ⟨b16, hb17, hf⟩ := bd1_ex hf
    obtain ⟨h18, hf⟩ := ck_ex hf
    obtain ⟨r20, hc19, hf⟩ := bd1_ex hf
    obtain ⟨r22, hc21, hf⟩ := bd1_ex hf
    by_cases hc23 : r22 = (0 : Int32)
    · have hf := if_t hf hc23
      cases some_ex hf
      exact hx
    · have hf := if_f hf hc23
      obtain ⟨r25, hc24, hf⟩ := bd1_ex hf
      by_cases hc26 : r25 = (0 : Int32)
      · have hf := if_t hf hc26
        cases some_ex hf
        exact hx
      · have hf := if_f hf hc26
        obtain ⟨b27, hb28, hf⟩ := bd1_ex hf
        obtain ⟨h29, hf⟩ := ck_ex hf
        obtain ⟨w31, hc30, hf⟩ := bd1_ex hf
        have hx := hx.trans (mC_X2_looks_x _ _ _ _ hc30)
        obtain ⟨h32, hf⟩ := ck_ex hf
        obtain ⟨b33, hb34, hf⟩ := bd1_ex hf
        obtain ⟨h35, hf⟩ := ck_ex hf
        obtain ⟨b36, hb37, hf⟩ := bd1_ex hf
        obtain ⟨h38, hf⟩ := ck_ex hf
        by_cases hc39 : (hvi w31 b36 ((((12 : Int32) * p0) + p1).toNatClampNeg)) = (0 : Int32)
        · have hf := if_t hf hc39
          cases some_ex hf
          exact hx
        · have hf := if_f hf hc39
          cases some_ex hf
          exact hx
