set_option maxRecDepth 100000
theorem kq_0 {x : Nat} {w : AH} (h : Lay x w) : kIn (hkd w x).1 [0] = true := by rw [lk_0 h]; rfl
theorem kq_1 {x : Nat} {w : AH} (h : Lay x w) : kIn (hkd w (x + 1)).1 [1] = true := by rw [lk_1 h]; rfl
theorem kq_2 {x : Nat} {w : AH} (h : Lay x w) : kIn (hkd w (x + 2)).1 [2] = true := by rw [lk_2 h]; rfl
theorem kq_4 {x : Nat} {w : AH} (h : Lay x w) : kIn (hkd w (x + 4)).1 [2] = true := by rw [lk_4 h]; rfl
theorem kq_6 {x : Nat} {w : AH} (h : Lay x w) : kIn (hkd w (x + 6)).1 [2] = true := by rw [lk_6 h]; rfl
theorem kq_8 {x : Nat} {w : AH} (h : Lay x w) : kIn (hkd w (x + 8)).1 [2] = true := by rw [lk_8 h]; rfl
theorem kq_10 {x : Nat} {w : AH} (h : Lay x w) : kIn (hkd w (x + 10)).1 [2] = true := by rw [lk_10 h]; rfl
theorem kq_12 {x : Nat} {w : AH} (h : Lay x w) : kIn (hkd w (x + 12)).1 [2] = true := by rw [lk_12 h]; rfl
theorem al_14 {x : Nat} {w : AH} (h : Lay x w) {i : Int32} : arB w (x + 14) 1 i = bnd i 16 := by unfold arB; rw [lk_14 h]; rfl
theorem kk_14 {x : Nat} {w : AH} (h : Lay x w) : arK (hkd w (x + 14)).1 = true := by rw [lk_14 h]; rfl
theorem kn_14 {x : Nat} {w : AH} (h : Lay x w) : (hkd w (x + 14)).2 = 16 := by rw [lk_14 h]
theorem ke_14 {x : Nat} {w : AH} (h : Lay x w) : ((hkd w (x + 14)).1 == 1) = true := by rw [lk_14 h]; rfl
theorem al_15 {x : Nat} {w : AH} (h : Lay x w) {i : Int32} : arB w (x + 15) 1 i = bnd i 16 := by unfold arB; rw [lk_15 h]; rfl
theorem kk_15 {x : Nat} {w : AH} (h : Lay x w) : arK (hkd w (x + 15)).1 = true := by rw [lk_15 h]; rfl
theorem kn_15 {x : Nat} {w : AH} (h : Lay x w) : (hkd w (x + 15)).2 = 16 := by rw [lk_15 h]
theorem ke_15 {x : Nat} {w : AH} (h : Lay x w) : ((hkd w (x + 15)).1 == 1) = true := by rw [lk_15 h]; rfl
theorem al_16 {x : Nat} {w : AH} (h : Lay x w) {i : Int32} : arB w (x + 16) 1 i = bnd i 16 := by unfold arB; rw [lk_16 h]; rfl
theorem kk_16 {x : Nat} {w : AH} (h : Lay x w) : arK (hkd w (x + 16)).1 = true := by rw [lk_16 h]; rfl
theorem kn_16 {x : Nat} {w : AH} (h : Lay x w) : (hkd w (x + 16)).2 = 16 := by rw [lk_16 h]
theorem ke_16 {x : Nat} {w : AH} (h : Lay x w) : ((hkd w (x + 16)).1 == 1) = true := by rw [lk_16 h]; rfl
theorem al_17 {x : Nat} {w : AH} (h : Lay x w) {i : Int32} : arB w (x + 17) 1 i = bnd i 200 := by unfold arB; rw [lk_17 h]; rfl
theorem kk_17 {x : Nat} {w : AH} (h : Lay x w) : arK (hkd w (x + 17)).1 = true := by rw [lk_17 h]; rfl
theorem kn_17 {x : Nat} {w : AH} (h : Lay x w) : (hkd w (x + 17)).2 = 200 := by rw [lk_17 h]
theorem ke_17 {x : Nat} {w : AH} (h : Lay x w) : ((hkd w (x + 17)).1 == 1) = true := by rw [lk_17 h]; rfl
theorem al_18 {x : Nat} {w : AH} (h : Lay x w) {i : Int32} : arB w (x + 18) 1 i = bnd i 200 := by unfold arB; rw [lk_18 h]; rfl
theorem kk_18 {x : Nat} {w : AH} (h : Lay x w) : arK (hkd w (x + 18)).1 = true := by rw [lk_18 h]; rfl
theorem kn_18 {x : Nat} {w : AH} (h : Lay x w) : (hkd w (x + 18)).2 = 200 := by rw [lk_18 h]
theorem ke_18 {x : Nat} {w : AH} (h : Lay x w) : ((hkd w (x + 18)).1 == 1) = true := by rw [lk_18 h]; rfl
theorem al_19 {x : Nat} {w : AH} (h : Lay x w) {i : Int32} : arB w (x + 19) 1 i = bnd i 200 := by unfold arB; rw [lk_19 h]; rfl
theorem kk_19 {x : Nat} {w : AH} (h : Lay x w) : arK (hkd w (x + 19)).1 = true := by rw [lk_19 h]; rfl
theorem kn_19 {x : Nat} {w : AH} (h : Lay x w) : (hkd w (x + 19)).2 = 200 := by rw [lk_19 h]
theorem ke_19 {x : Nat} {w : AH} (h : Lay x w) : ((hkd w (x + 19)).1 == 1) = true := by rw [lk_19 h]; rfl
theorem al_20 {x : Nat} {w : AH} (h : Lay x w) {i : Int32} : arB w (x + 20) 1 i = bnd i 200 := by unfold arB; rw [lk_20 h]; rfl
theorem kk_20 {x : Nat} {w : AH} (h : Lay x w) : arK (hkd w (x + 20)).1 = true := by rw [lk_20 h]; rfl
theorem kn_20 {x : Nat} {w : AH} (h : Lay x w) : (hkd w (x + 20)).2 = 200 := by rw [lk_20 h]
theorem ke_20 {x : Nat} {w : AH} (h : Lay x w) : ((hkd w (x + 20)).1 == 1) = true := by rw [lk_20 h]; rfl
theorem al_21 {x : Nat} {w : AH} (h : Lay x w) {i : Int32} : arB w (x + 21) 1 i = bnd i 200 := by unfold arB; rw [lk_21 h]; rfl
theorem kk_21 {x : Nat} {w : AH} (h : Lay x w) : arK (hkd w (x + 21)).1 = true := by rw [lk_21 h]; rfl
theorem kn_21 {x : Nat} {w : AH} (h : Lay x w) : (hkd w (x + 21)).2 = 200 := by rw [lk_21 h]
theorem ke_21 {x : Nat} {w : AH} (h : Lay x w) : ((hkd w (x + 21)).1 == 1) = true := by rw [lk_21 h]; rfl
theorem al_22 {x : Nat} {w : AH} (h : Lay x w) {i : Int32} : arB w (x + 22) 1 i = bnd i 20 := by unfold arB; rw [lk_22 h]; rfl
theorem kk_22 {x : Nat} {w : AH} (h : Lay x w) : arK (hkd w (x + 22)).1 = true := by rw [lk_22 h]; rfl
theorem kn_22 {x : Nat} {w : AH} (h : Lay x w) : (hkd w (x + 22)).2 = 20 := by rw [lk_22 h]
theorem ke_22 {x : Nat} {w : AH} (h : Lay x w) : ((hkd w (x + 22)).1 == 1) = true := by rw [lk_22 h]; rfl
theorem al_23 {x : Nat} {w : AH} (h : Lay x w) {i : Int32} : arB w (x + 23) 1 i = bnd i 40 := by unfold arB; rw [lk_23 h]; rfl
theorem kk_23 {x : Nat} {w : AH} (h : Lay x w) : arK (hkd w (x + 23)).1 = true := by rw [lk_23 h]; rfl
theorem kn_23 {x : Nat} {w : AH} (h : Lay x w) : (hkd w (x + 23)).2 = 40 := by rw [lk_23 h]
theorem ke_23 {x : Nat} {w : AH} (h : Lay x w) : ((hkd w (x + 23)).1 == 1) = true := by rw [lk_23 h]; rfl
theorem al_24 {x : Nat} {w : AH} (h : Lay x w) {i : Int32} : arB w (x + 24) 1 i = bnd i 40 := by unfold arB; rw [lk_24 h]; rfl
theorem kk_24 {x : Nat} {w : AH} (h : Lay x w) : arK (hkd w (x + 24)).1 = true := by rw [lk_24 h]; rfl
theorem kn_24 {x : Nat} {w : AH} (h : Lay x w) : (hkd w (x + 24)).2 = 40 := by rw [lk_24 h]
theorem ke_24 {x : Nat} {w : AH} (h : Lay x w) : ((hkd w (x + 24)).1 == 1) = true := by rw [lk_24 h]; rfl
theorem al_25 {x : Nat} {w : AH} (h : Lay x w) {i : Int32} : arB w (x + 25) 1 i = bnd i 200 := by unfold arB; rw [lk_25 h]; rfl
theorem kk_25 {x : Nat} {w : AH} (h : Lay x w) : arK (hkd w (x + 25)).1 = true := by rw [lk_25 h]; rfl
theorem kn_25 {x : Nat} {w : AH} (h : Lay x w) : (hkd w (x + 25)).2 = 200 := by rw [lk_25 h]
theorem ke_25 {x : Nat} {w : AH} (h : Lay x w) : ((hkd w (x + 25)).1 == 1) = true := by rw [lk_25 h]; rfl
theorem al_26 {x : Nat} {w : AH} (h : Lay x w) {i : Int32} : arB w (x + 26) 1 i = bnd i 20 := by unfold arB; rw [lk_26 h]; rfl
theorem kk_26 {x : Nat} {w : AH} (h : Lay x w) : arK (hkd w (x + 26)).1 = true := by rw [lk_26 h]; rfl
theorem kn_26 {x : Nat} {w : AH} (h : Lay x w) : (hkd w (x + 26)).2 = 20 := by rw [lk_26 h]
theorem ke_26 {x : Nat} {w : AH} (h : Lay x w) : ((hkd w (x + 26)).1 == 1) = true := by rw [lk_26 h]; rfl
theorem al_27 {x : Nat} {w : AH} (h : Lay x w) {i : Int32} : arB w (x + 27) 2 i = bnd i 20 := by unfold arB; rw [lk_27 h]; rfl
theorem kk_27 {x : Nat} {w : AH} (h : Lay x w) : arK (hkd w (x + 27)).1 = true := by rw [lk_27 h]; rfl
theorem kn_27 {x : Nat} {w : AH} (h : Lay x w) : (hkd w (x + 27)).2 = 20 := by rw [lk_27 h]
theorem ke_27 {x : Nat} {w : AH} (h : Lay x w) : ((hkd w (x + 27)).1 == 2) = true := by rw [lk_27 h]; rfl
theorem al_28 {x : Nat} {w : AH} (h : Lay x w) {i : Int32} : arB w (x + 28) 2 i = bnd i 20 := by unfold arB; rw [lk_28 h]; rfl
theorem kk_28 {x : Nat} {w : AH} (h : Lay x w) : arK (hkd w (x + 28)).1 = true := by rw [lk_28 h]; rfl
theorem kn_28 {x : Nat} {w : AH} (h : Lay x w) : (hkd w (x + 28)).2 = 20 := by rw [lk_28 h]
theorem ke_28 {x : Nat} {w : AH} (h : Lay x w) : ((hkd w (x + 28)).1 == 2) = true := by rw [lk_28 h]; rfl
theorem al_29 {x : Nat} {w : AH} (h : Lay x w) {i : Int32} : arB w (x + 29) 3 i = bnd i 48 := by unfold arB; rw [lk_29 h]; rfl
theorem kk_29 {x : Nat} {w : AH} (h : Lay x w) : arK (hkd w (x + 29)).1 = true := by rw [lk_29 h]; rfl
theorem kn_29 {x : Nat} {w : AH} (h : Lay x w) : (hkd w (x + 29)).2 = 48 := by rw [lk_29 h]
theorem ke_29 {x : Nat} {w : AH} (h : Lay x w) : ((hkd w (x + 29)).1 == 3) = true := by rw [lk_29 h]; rfl
theorem al_30 {x : Nat} {w : AH} (h : Lay x w) {i : Int32} : arB w (x + 30) 6 i = bnd i 2 := by unfold arB; rw [lk_30 h]; rfl
theorem kk_30 {x : Nat} {w : AH} (h : Lay x w) : arK (hkd w (x + 30)).1 = true := by rw [lk_30 h]; rfl
theorem kn_30 {x : Nat} {w : AH} (h : Lay x w) : (hkd w (x + 30)).2 = 2 := by rw [lk_30 h]
theorem ke_30 {x : Nat} {w : AH} (h : Lay x w) : ((hkd w (x + 30)).1 == 6) = true := by rw [lk_30 h]; rfl
theorem al_31 {x : Nat} {w : AH} (h : Lay x w) {i : Int32} : arB w (x + 31) 4 i = bnd i 400 := by unfold arB; rw [lk_31 h]; rfl
theorem kk_31 {x : Nat} {w : AH} (h : Lay x w) : arK (hkd w (x + 31)).1 = true := by rw [lk_31 h]; rfl
theorem kn_31 {x : Nat} {w : AH} (h : Lay x w) : (hkd w (x + 31)).2 = 400 := by rw [lk_31 h]
theorem ke_31 {x : Nat} {w : AH} (h : Lay x w) : ((hkd w (x + 31)).1 == 4) = true := by rw [lk_31 h]; rfl
theorem kq_32 {x : Nat} {w : AH} (h : Lay x w) : kIn (hkd w (x + 32)).1 [3] = true := by rw [lk_32 h]; rfl
theorem al_33 {x : Nat} {w : AH} (h : Lay x w) {i : Int32} : arB w (x + 33) 3 i = bnd i 240 := by unfold arB; rw [lk_33 h]; rfl
theorem kk_33 {x : Nat} {w : AH} (h : Lay x w) : arK (hkd w (x + 33)).1 = true := by rw [lk_33 h]; rfl
theorem kn_33 {x : Nat} {w : AH} (h : Lay x w) : (hkd w (x + 33)).2 = 240 := by rw [lk_33 h]
theorem ke_33 {x : Nat} {w : AH} (h : Lay x w) : ((hkd w (x + 33)).1 == 3) = true := by rw [lk_33 h]; rfl
theorem al_34 {x : Nat} {w : AH} (h : Lay x w) {i : Int32} : arB w (x + 34) 3 i = bnd i 240 := by unfold arB; rw [lk_34 h]; rfl
theorem kk_34 {x : Nat} {w : AH} (h : Lay x w) : arK (hkd w (x + 34)).1 = true := by rw [lk_34 h]; rfl
theorem kn_34 {x : Nat} {w : AH} (h : Lay x w) : (hkd w (x + 34)).2 = 240 := by rw [lk_34 h]
theorem ke_34 {x : Nat} {w : AH} (h : Lay x w) : ((hkd w (x + 34)).1 == 3) = true := by rw [lk_34 h]; rfl
theorem kq_35 {x : Nat} {w : AH} (h : Lay x w) : kIn (hkd w (x + 35)).1 [4] = true := by rw [lk_35 h]; rfl
theorem kq_36 {x : Nat} {w : AH} (h : Lay x w) : kIn (hkd w (x + 36)).1 [5] = true := by rw [lk_36 h]; rfl
theorem al_37 {x : Nat} {w : AH} (h : Lay x w) {i : Int32} : arB w (x + 37) 2 i = bnd i 11 := by unfold arB; rw [lk_37 h]; rfl
theorem kk_37 {x : Nat} {w : AH} (h : Lay x w) : arK (hkd w (x + 37)).1 = true := by rw [lk_37 h]; rfl
theorem kn_37 {x : Nat} {w : AH} (h : Lay x w) : (hkd w (x + 37)).2 = 11 := by rw [lk_37 h]
theorem ke_37 {x : Nat} {w : AH} (h : Lay x w) : ((hkd w (x + 37)).1 == 2) = true := by rw [lk_37 h]; rfl
theorem al_38 {x : Nat} {w : AH} (h : Lay x w) {i : Int32} : arB w (x + 38) 3 i = bnd i 5 := by unfold arB; rw [lk_38 h]; rfl
theorem kk_38 {x : Nat} {w : AH} (h : Lay x w) : arK (hkd w (x + 38)).1 = true := by rw [lk_38 h]; rfl
theorem kn_38 {x : Nat} {w : AH} (h : Lay x w) : (hkd w (x + 38)).2 = 5 := by rw [lk_38 h]
theorem ke_38 {x : Nat} {w : AH} (h : Lay x w) : ((hkd w (x + 38)).1 == 3) = true := by rw [lk_38 h]; rfl
theorem kq_39 {x : Nat} {w : AH} (h : Lay x w) : kIn (hkd w (x + 39)).1 [6] = true := by rw [lk_39 h]; rfl
theorem al_40 {x : Nat} {w : AH} (h : Lay x w) {i : Int32} : arB w (x + 40) 3 i = bnd i 200 := by unfold arB; rw [lk_40 h]; rfl
theorem kk_40 {x : Nat} {w : AH} (h : Lay x w) : arK (hkd w (x + 40)).1 = true := by rw [lk_40 h]; rfl
theorem kn_40 {x : Nat} {w : AH} (h : Lay x w) : (hkd w (x + 40)).2 = 200 := by rw [lk_40 h]
theorem ke_40 {x : Nat} {w : AH} (h : Lay x w) : ((hkd w (x + 40)).1 == 3) = true := by rw [lk_40 h]; rfl
theorem al_41 {x : Nat} {w : AH} (h : Lay x w) {i : Int32} : arB w (x + 41) 1 i = bnd i 200 := by unfold arB; rw [lk_41 h]; rfl
theorem kk_41 {x : Nat} {w : AH} (h : Lay x w) : arK (hkd w (x + 41)).1 = true := by rw [lk_41 h]; rfl
theorem kn_41 {x : Nat} {w : AH} (h : Lay x w) : (hkd w (x + 41)).2 = 200 := by rw [lk_41 h]
theorem ke_41 {x : Nat} {w : AH} (h : Lay x w) : ((hkd w (x + 41)).1 == 1) = true := by rw [lk_41 h]; rfl
theorem al_42 {x : Nat} {w : AH} (h : Lay x w) {i : Int32} : arB w (x + 42) 1 i = bnd i 16 := by unfold arB; rw [lk_42 h]; rfl
theorem kk_42 {x : Nat} {w : AH} (h : Lay x w) : arK (hkd w (x + 42)).1 = true := by rw [lk_42 h]; rfl
theorem kn_42 {x : Nat} {w : AH} (h : Lay x w) : (hkd w (x + 42)).2 = 16 := by rw [lk_42 h]
theorem ke_42 {x : Nat} {w : AH} (h : Lay x w) : ((hkd w (x + 42)).1 == 1) = true := by rw [lk_42 h]; rfl
theorem al_43 {x : Nat} {w : AH} (h : Lay x w) {i : Int32} : arB w (x + 43) 1 i = bnd i 7 := by unfold arB; rw [lk_43 h]; rfl
theorem kk_43 {x : Nat} {w : AH} (h : Lay x w) : arK (hkd w (x + 43)).1 = true := by rw [lk_43 h]; rfl
theorem kn_43 {x : Nat} {w : AH} (h : Lay x w) : (hkd w (x + 43)).2 = 7 := by rw [lk_43 h]
theorem ke_43 {x : Nat} {w : AH} (h : Lay x w) : ((hkd w (x + 43)).1 == 1) = true := by rw [lk_43 h]; rfl
theorem al_44 {x : Nat} {w : AH} (h : Lay x w) {i : Int32} : arB w (x + 44) 1 i = bnd i 7 := by unfold arB; rw [lk_44 h]; rfl
theorem kk_44 {x : Nat} {w : AH} (h : Lay x w) : arK (hkd w (x + 44)).1 = true := by rw [lk_44 h]; rfl
theorem kn_44 {x : Nat} {w : AH} (h : Lay x w) : (hkd w (x + 44)).2 = 7 := by rw [lk_44 h]
theorem ke_44 {x : Nat} {w : AH} (h : Lay x w) : ((hkd w (x + 44)).1 == 1) = true := by rw [lk_44 h]; rfl
theorem al_45 {x : Nat} {w : AH} (h : Lay x w) {i : Int32} : arB w (x + 45) 1 i = bnd i 7 := by unfold arB; rw [lk_45 h]; rfl
theorem kk_45 {x : Nat} {w : AH} (h : Lay x w) : arK (hkd w (x + 45)).1 = true := by rw [lk_45 h]; rfl
theorem kn_45 {x : Nat} {w : AH} (h : Lay x w) : (hkd w (x + 45)).2 = 7 := by rw [lk_45 h]
theorem ke_45 {x : Nat} {w : AH} (h : Lay x w) : ((hkd w (x + 45)).1 == 1) = true := by rw [lk_45 h]; rfl
theorem al_46 {x : Nat} {w : AH} (h : Lay x w) {i : Int32} : arB w (x + 46) 1 i = bnd i 7 := by unfold arB; rw [lk_46 h]; rfl
theorem kk_46 {x : Nat} {w : AH} (h : Lay x w) : arK (hkd w (x + 46)).1 = true := by rw [lk_46 h]; rfl
theorem kn_46 {x : Nat} {w : AH} (h : Lay x w) : (hkd w (x + 46)).2 = 7 := by rw [lk_46 h]
theorem ke_46 {x : Nat} {w : AH} (h : Lay x w) : ((hkd w (x + 46)).1 == 1) = true := by rw [lk_46 h]; rfl
theorem al_47 {x : Nat} {w : AH} (h : Lay x w) {i : Int32} : arB w (x + 47) 1 i = bnd i 7 := by unfold arB; rw [lk_47 h]; rfl
theorem kk_47 {x : Nat} {w : AH} (h : Lay x w) : arK (hkd w (x + 47)).1 = true := by rw [lk_47 h]; rfl
theorem kn_47 {x : Nat} {w : AH} (h : Lay x w) : (hkd w (x + 47)).2 = 7 := by rw [lk_47 h]
theorem ke_47 {x : Nat} {w : AH} (h : Lay x w) : ((hkd w (x + 47)).1 == 1) = true := by rw [lk_47 h]; rfl
theorem al_48 {x : Nat} {w : AH} (h : Lay x w) {i : Int32} : arB w (x + 48) 1 i = bnd i 7 := by unfold arB; rw [lk_48 h]; rfl
theorem kk_48 {x : Nat} {w : AH} (h : Lay x w) : arK (hkd w (x + 48)).1 = true := by rw [lk_48 h]; rfl
theorem kn_48 {x : Nat} {w : AH} (h : Lay x w) : (hkd w (x + 48)).2 = 7 := by rw [lk_48 h]
theorem ke_48 {x : Nat} {w : AH} (h : Lay x w) : ((hkd w (x + 48)).1 == 1) = true := by rw [lk_48 h]; rfl
theorem al_49 {x : Nat} {w : AH} (h : Lay x w) {i : Int32} : arB w (x + 49) 1 i = bnd i 7 := by unfold arB; rw [lk_49 h]; rfl
theorem kk_49 {x : Nat} {w : AH} (h : Lay x w) : arK (hkd w (x + 49)).1 = true := by rw [lk_49 h]; rfl
theorem kn_49 {x : Nat} {w : AH} (h : Lay x w) : (hkd w (x + 49)).2 = 7 := by rw [lk_49 h]
theorem ke_49 {x : Nat} {w : AH} (h : Lay x w) : ((hkd w (x + 49)).1 == 1) = true := by rw [lk_49 h]; rfl
theorem al_50 {x : Nat} {w : AH} (h : Lay x w) {i : Int32} : arB w (x + 50) 1 i = bnd i 7 := by unfold arB; rw [lk_50 h]; rfl
theorem kk_50 {x : Nat} {w : AH} (h : Lay x w) : arK (hkd w (x + 50)).1 = true := by rw [lk_50 h]; rfl
theorem kn_50 {x : Nat} {w : AH} (h : Lay x w) : (hkd w (x + 50)).2 = 7 := by rw [lk_50 h]
theorem ke_50 {x : Nat} {w : AH} (h : Lay x w) : ((hkd w (x + 50)).1 == 1) = true := by rw [lk_50 h]; rfl
theorem al_51 {x : Nat} {w : AH} (h : Lay x w) {i : Int32} : arB w (x + 51) 1 i = bnd i 7 := by unfold arB; rw [lk_51 h]; rfl
theorem kk_51 {x : Nat} {w : AH} (h : Lay x w) : arK (hkd w (x + 51)).1 = true := by rw [lk_51 h]; rfl
theorem kn_51 {x : Nat} {w : AH} (h : Lay x w) : (hkd w (x + 51)).2 = 7 := by rw [lk_51 h]
theorem ke_51 {x : Nat} {w : AH} (h : Lay x w) : ((hkd w (x + 51)).1 == 1) = true := by rw [lk_51 h]; rfl
theorem kq_52 {x : Nat} {w : AH} (h : Lay x w) : kIn (hkd w (x + 52)).1 [7] = true := by rw [lk_52 h]; rfl
theorem al_53 {x : Nat} {w : AH} (h : Lay x w) {i : Int32} : arB w (x + 53) 1 i = bnd i 80 := by unfold arB; rw [lk_53 h]; rfl
theorem kk_53 {x : Nat} {w : AH} (h : Lay x w) : arK (hkd w (x + 53)).1 = true := by rw [lk_53 h]; rfl
theorem kn_53 {x : Nat} {w : AH} (h : Lay x w) : (hkd w (x + 53)).2 = 80 := by rw [lk_53 h]
theorem ke_53 {x : Nat} {w : AH} (h : Lay x w) : ((hkd w (x + 53)).1 == 1) = true := by rw [lk_53 h]; rfl
theorem al_54 {x : Nat} {w : AH} (h : Lay x w) {i : Int32} : arB w (x + 54) 1 i = bnd i 20 := by unfold arB; rw [lk_54 h]; rfl
theorem kk_54 {x : Nat} {w : AH} (h : Lay x w) : arK (hkd w (x + 54)).1 = true := by rw [lk_54 h]; rfl
theorem kn_54 {x : Nat} {w : AH} (h : Lay x w) : (hkd w (x + 54)).2 = 20 := by rw [lk_54 h]
theorem ke_54 {x : Nat} {w : AH} (h : Lay x w) : ((hkd w (x + 54)).1 == 1) = true := by rw [lk_54 h]; rfl
theorem al_55 {x : Nat} {w : AH} (h : Lay x w) {i : Int32} : arB w (x + 55) 1 i = bnd i 160 := by unfold arB; rw [lk_55 h]; rfl
theorem kk_55 {x : Nat} {w : AH} (h : Lay x w) : arK (hkd w (x + 55)).1 = true := by rw [lk_55 h]; rfl
theorem kn_55 {x : Nat} {w : AH} (h : Lay x w) : (hkd w (x + 55)).2 = 160 := by rw [lk_55 h]
theorem ke_55 {x : Nat} {w : AH} (h : Lay x w) : ((hkd w (x + 55)).1 == 1) = true := by rw [lk_55 h]; rfl
theorem al_56 {x : Nat} {w : AH} (h : Lay x w) {i : Int32} : arB w (x + 56) 3 i = bnd i 20 := by unfold arB; rw [lk_56 h]; rfl
theorem kk_56 {x : Nat} {w : AH} (h : Lay x w) : arK (hkd w (x + 56)).1 = true := by rw [lk_56 h]; rfl
theorem kn_56 {x : Nat} {w : AH} (h : Lay x w) : (hkd w (x + 56)).2 = 20 := by rw [lk_56 h]
theorem ke_56 {x : Nat} {w : AH} (h : Lay x w) : ((hkd w (x + 56)).1 == 3) = true := by rw [lk_56 h]; rfl
theorem al_57 {x : Nat} {w : AH} (h : Lay x w) {i : Int32} : arB w (x + 57) 3 i = bnd i 20 := by unfold arB; rw [lk_57 h]; rfl
theorem kk_57 {x : Nat} {w : AH} (h : Lay x w) : arK (hkd w (x + 57)).1 = true := by rw [lk_57 h]; rfl
theorem kn_57 {x : Nat} {w : AH} (h : Lay x w) : (hkd w (x + 57)).2 = 20 := by rw [lk_57 h]
theorem ke_57 {x : Nat} {w : AH} (h : Lay x w) : ((hkd w (x + 57)).1 == 3) = true := by rw [lk_57 h]; rfl
theorem al_58 {x : Nat} {w : AH} (h : Lay x w) {i : Int32} : arB w (x + 58) 3 i = bnd i 200 := by unfold arB; rw [lk_58 h]; rfl
theorem kk_58 {x : Nat} {w : AH} (h : Lay x w) : arK (hkd w (x + 58)).1 = true := by rw [lk_58 h]; rfl
theorem kn_58 {x : Nat} {w : AH} (h : Lay x w) : (hkd w (x + 58)).2 = 200 := by rw [lk_58 h]
theorem ke_58 {x : Nat} {w : AH} (h : Lay x w) : ((hkd w (x + 58)).1 == 3) = true := by rw [lk_58 h]; rfl
theorem al_59 {x : Nat} {w : AH} (h : Lay x w) {i : Int32} : arB w (x + 59) 1 i = bnd i 8 := by unfold arB; rw [lk_59 h]; rfl
theorem kk_59 {x : Nat} {w : AH} (h : Lay x w) : arK (hkd w (x + 59)).1 = true := by rw [lk_59 h]; rfl
theorem kn_59 {x : Nat} {w : AH} (h : Lay x w) : (hkd w (x + 59)).2 = 8 := by rw [lk_59 h]
theorem ke_59 {x : Nat} {w : AH} (h : Lay x w) : ((hkd w (x + 59)).1 == 1) = true := by rw [lk_59 h]; rfl
theorem al_60 {x : Nat} {w : AH} (h : Lay x w) {i : Int32} : arB w (x + 60) 1 i = bnd i 20 := by unfold arB; rw [lk_60 h]; rfl
theorem kk_60 {x : Nat} {w : AH} (h : Lay x w) : arK (hkd w (x + 60)).1 = true := by rw [lk_60 h]; rfl
theorem kn_60 {x : Nat} {w : AH} (h : Lay x w) : (hkd w (x + 60)).2 = 20 := by rw [lk_60 h]
theorem ke_60 {x : Nat} {w : AH} (h : Lay x w) : ((hkd w (x + 60)).1 == 1) = true := by rw [lk_60 h]; rfl
theorem al_61 {x : Nat} {w : AH} (h : Lay x w) {i : Int32} : arB w (x + 61) 1 i = bnd i 8 := by unfold arB; rw [lk_61 h]; rfl
theorem kk_61 {x : Nat} {w : AH} (h : Lay x w) : arK (hkd w (x + 61)).1 = true := by rw [lk_61 h]; rfl
theorem kn_61 {x : Nat} {w : AH} (h : Lay x w) : (hkd w (x + 61)).2 = 8 := by rw [lk_61 h]
theorem ke_61 {x : Nat} {w : AH} (h : Lay x w) : ((hkd w (x + 61)).1 == 1) = true := by rw [lk_61 h]; rfl
theorem al_62 {x : Nat} {w : AH} (h : Lay x w) {i : Int32} : arB w (x + 62) 2 i = bnd i 8 := by unfold arB; rw [lk_62 h]; rfl
theorem kk_62 {x : Nat} {w : AH} (h : Lay x w) : arK (hkd w (x + 62)).1 = true := by rw [lk_62 h]; rfl
theorem kn_62 {x : Nat} {w : AH} (h : Lay x w) : (hkd w (x + 62)).2 = 8 := by rw [lk_62 h]
theorem ke_62 {x : Nat} {w : AH} (h : Lay x w) : ((hkd w (x + 62)).1 == 2) = true := by rw [lk_62 h]; rfl
theorem al_63 {x : Nat} {w : AH} (h : Lay x w) {i : Int32} : arB w (x + 63) 1 i = bnd i 7 := by unfold arB; rw [lk_63 h]; rfl
theorem kk_63 {x : Nat} {w : AH} (h : Lay x w) : arK (hkd w (x + 63)).1 = true := by rw [lk_63 h]; rfl
theorem kn_63 {x : Nat} {w : AH} (h : Lay x w) : (hkd w (x + 63)).2 = 7 := by rw [lk_63 h]
theorem ke_63 {x : Nat} {w : AH} (h : Lay x w) : ((hkd w (x + 63)).1 == 1) = true := by rw [lk_63 h]; rfl
theorem al_64 {x : Nat} {w : AH} (h : Lay x w) {i : Int32} : arB w (x + 64) 1 i = bnd i 7 := by unfold arB; rw [lk_64 h]; rfl
theorem kk_64 {x : Nat} {w : AH} (h : Lay x w) : arK (hkd w (x + 64)).1 = true := by rw [lk_64 h]; rfl
theorem kn_64 {x : Nat} {w : AH} (h : Lay x w) : (hkd w (x + 64)).2 = 7 := by rw [lk_64 h]
theorem ke_64 {x : Nat} {w : AH} (h : Lay x w) : ((hkd w (x + 64)).1 == 1) = true := by rw [lk_64 h]; rfl
theorem al_65 {x : Nat} {w : AH} (h : Lay x w) {i : Int32} : arB w (x + 65) 1 i = bnd i 7 := by unfold arB; rw [lk_65 h]; rfl
theorem kk_65 {x : Nat} {w : AH} (h : Lay x w) : arK (hkd w (x + 65)).1 = true := by rw [lk_65 h]; rfl
theorem kn_65 {x : Nat} {w : AH} (h : Lay x w) : (hkd w (x + 65)).2 = 7 := by rw [lk_65 h]
theorem ke_65 {x : Nat} {w : AH} (h : Lay x w) : ((hkd w (x + 65)).1 == 1) = true := by rw [lk_65 h]; rfl
theorem al_66 {x : Nat} {w : AH} (h : Lay x w) {i : Int32} : arB w (x + 66) 1 i = bnd i 7 := by unfold arB; rw [lk_66 h]; rfl
theorem kk_66 {x : Nat} {w : AH} (h : Lay x w) : arK (hkd w (x + 66)).1 = true := by rw [lk_66 h]; rfl
theorem kn_66 {x : Nat} {w : AH} (h : Lay x w) : (hkd w (x + 66)).2 = 7 := by rw [lk_66 h]
theorem ke_66 {x : Nat} {w : AH} (h : Lay x w) : ((hkd w (x + 66)).1 == 1) = true := by rw [lk_66 h]; rfl
/-! congruences for the flat mirrors -/
section CG
variable {α β γ : Type}
theorem ck_cg {b : Bool} {k k' : Option α} (h : b = true → k = k') : ck b k = ck b k' := by unfold ck; split <;> simp_all
theorem st1_cg {a : α} {f g : α → β} (h : ∀ q, a = q → f q = g q) : st1 a f = st1 a g := h a rfl
theorem bd1_cg {m : Option α} {f g : α → Option β} (h : ∀ q, m = some q → f q = g q) : bd1 m f = bd1 m g := by cases m with
  | none => rfl
  | some a => exact h a rfl
theorem bd2_cg {m : Option (α × γ)} {f g : α → γ → Option β} (h : ∀ a b, m = some (a, b) → f a b = g a b) : bd2 m f = bd2 m g := by cases m with
  | none => rfl
  | some q => exact h q.1 q.2 rfl
theorem if_cg {c : Prop} {_ : Decidable c} {a a' b b' : α} (h : c → a = a') (g : ¬ c → b = b') : (if c then a else b) = if c then a' else b' := by
  by_cases hc : c
  · rw [if_pos hc, if_pos hc]; exact h hc
  · rw [if_neg hc, if_neg hc]; exact g hc
theorem nzI_cg {y : Int32} {k k' : Option α} (h : ¬ y = 0 → k = k') : nzI y k = nzI y k' := by
  unfold nzI
  by_cases hc : y = 0
  · rw [if_pos hc, if_pos hc]
  · rw [if_neg hc, if_neg hc]; exact h hc
theorem nzL_cg {y : Int64} {k k' : Option α} (h : ¬ y = 0 → k = k') : nzL y k = nzL y k' := by
  unfold nzL
  by_cases hc : y = 0
  · rw [if_pos hc, if_pos hc]
  · rw [if_neg hc, if_neg hc]; exact h hc
end CG
section LF2
variable {x a b i j k n : Nat} {w w' : AH} {v : Int32} {u : Int64}
theorem Lay.I (hs : siI w a i v = w') (h : Lay x w) : Lay x w' := hs ▸ h
theorem Lay.L (hs : siL w a i u = w') (h : Lay x w) : Lay x w' := hs ▸ h
theorem Lay.cI (hs : hcpI w a i b j n = w') (h : Lay x w) : Lay x w' := hs ▸ h
theorem Lay.cL (hs : hcpL w a i b j n = w') (h : Lay x w) : Lay x w' := hs ▸ h
theorem Sx.Ie (hs : siI w a i v = w') (h : x ≤ a ∧ a < x + 67) : Sx x w w' := hs ▸ Sx.one (by omega) i v
theorem Sx.Le (hs : siL w a i u = w') (h : x ≤ a ∧ a < x + 67) : Sx x w w' := hs ▸ Sx.oneL (by omega) i u
theorem Sc.Ie (hs : siI w a i v = w') (h : cS x a i) : Sc x w w' := hs ▸ Sc.I i v h
theorem Sc.Le (hs : siL w a i u = w') (h : a = x ∨ (x + 32 ≤ a ∧ a ≤ x + 64)) : Sc x w w' := hs ▸ Sc.L i u h
theorem vi_cI (b : Nat) (q : Nat) : hvi (hcpI w a i b j n) k q = if k = b then va_cpy (hvi w a) (hvi w b) i j n q else hvi w k q := by
  unfold hvi hcpI up1
  dsimp only
  split <;> rfl
theorem Sx.cIe (hs : hcpI w a i b j n = w') (h : x ≤ b ∧ b < x + 67) : Sx x w w' := by
  subst hs
  refine ⟨⟨rfl, rfl, rfl⟩, fun c q hc => ?_, fun _ _ _ => rfl⟩
  rw [vi_cI, if_neg (by omega)]
theorem Sc.cIe (hs : hcpI w a i b j n = w') (h : ∀ q, cS x b q) : Sc x w w' := by
  subst hs
  refine ⟨⟨rfl, rfl, rfl⟩, fun c q hc => ?_, fun _ _ _ => rfl⟩
  rw [vi_cI, if_neg]
  intro g
  rw [g] at hc
  exact hc (h q)
theorem Sd.Ie (hs : siI w a i v = w') (h : dS x a i) : Sd x w w' := hs ▸ Sd.I i v h
theorem Sd.Le (hs : siL w a i u = w') (h : a = x ∨ (x + 32 ≤ a ∧ a ≤ x + 64)) : Sd x w w' := hs ▸ Sd.L i u h
theorem Sd.cIe (hs : hcpI w a i b j n = w') (h : ∀ q, dS x b q) : Sd x w w' := by
  subst hs
  refine ⟨⟨rfl, rfl, rfl⟩, fun c q hc => ?_, fun _ _ _ => rfl⟩
  rw [vi_cI, if_neg]
  intro g
  rw [g] at hc
  exact hc (h q)
end LF2
def fC_X0_refuse (x : Nat) (p0 : Int32) (w : AH) : Option (Int32 × AH) :=
  st1 (siI w x 0 p0) fun w1 =>
  some (p0, w1)
def fC_X0_done (x : Nat) (p0 : Int32) (w : AH) : Option (Int32 × AH) :=
  st1 (siI w x 0 (0 : Int32)) fun w1 =>
  some (p0, w1)
def fC_X0_told (x : Nat) (p0 : Int32) (w : AH) : Option (Int32 × AH) :=
  st1 (siI w x 1 ((hvi w x 1) + (1 : Int32))) fun w1 =>
  bd2 (fC_X0_done x p0 w1) fun r5 w4 =>
  some (r5, w4)
def fC_X0_place_29 (x : Nat) (w : AH) : Option (Int32 × AH) :=
  bd2 (fC_X0_refuse x (-1 : Int32) w) fun r3 w2 =>
  some (r3, w2)
def fC_X0_place (x : Nat) (p0 : Int32) (p1 : Int32) (p2 : Int32) (w : AH) : Option (Int32 × AH) :=
  bd1 (mC_X0_in p0 (0 : Int32) (5 : Int32)) fun r2 =>
  if r2 = (0 : Int32) then
  (fC_X0_place_29 x w)
  else
  (bd1 (mC_X0_in p1 (0 : Int32) (99 : Int32)) fun r4 =>
  if r4 = (0 : Int32) then
  (fC_X0_place_29 x w)
  else
  (bd1 (mC_X0_in p2 (0 : Int32) (99 : Int32)) fun r6 =>
  if r6 = (0 : Int32) then
  (fC_X0_place_29 x w)
  else
  (if (hvi w (x + 1) 22) = (16 : Int32) then
  (bd2 (fC_X0_refuse x (-5 : Int32) w) fun r23 w22 =>
  some (r23, w22))
  else
  (ck (bnd (hvi w (x + 1) 22) 16) <|
  st1 (siI w (x + 14) ((hvi w (x + 1) 22).toNatClampNeg) p0) fun w8 =>
  ck (bnd (hvi w8 (x + 1) 22) 16) <|
  st1 (siI w8 (x + 15) ((hvi w8 (x + 1) 22).toNatClampNeg) p1) fun w11 =>
  ck (bnd (hvi w11 (x + 1) 22) 16) <|
  st1 (siI w11 (x + 16) ((hvi w11 (x + 1) 22).toNatClampNeg) p2) fun w14 =>
  st1 (siI w14 (x + 1) 22 ((hvi w14 (x + 1) 22) + (1 : Int32))) fun w16 =>
  bd2 (fC_X0_told x ((hvi w16 (x + 1) 22) - (1 : Int32)) w16) fun r20 w19 =>
  some (r20, w19)))))
def fC_X0_isPlace (x : Nat) (p0 : Int32) (w : AH) : Option (Int32) :=
  bd1 (mC_X0_in p0 (0 : Int32) ((hvi w (x + 1) 22) - (1 : Int32))) fun r2 =>
  ck (isZ r2) <|
  some r2
def fC_X0_isName (x : Nat) (p0 : Int32) (w : AH) : Option (Int32) :=
  if p0 < (0 : Int32) then
  (some (0 : Int32))
  else
  (bd1 (mC_J2_size (x + 4) w) fun r2 =>
  if r2 ≤ p0 then
  (some (0 : Int32))
  else
  (some (1 : Int32)))
def fC_X0_off_14 (x : Nat) (w : AH) : Option (Int32 × AH) :=
  bd2 (fC_X0_refuse x (-1 : Int32) w) fun r3 w2 =>
  some (r3, w2)
def fC_X0_off (x : Nat) (p0 : Int32) (p1 : Int32) (p2 : Int32) (w : AH) : Option (Int32 × AH) :=
  bd1 (mC_X0_isDay p1) fun r2 =>
  if r2 = (0 : Int32) then
  (fC_X0_off_14 x w)
  else
  (bd1 (mC_X0_isDay p2) fun r4 =>
  if r4 = (0 : Int32) then
  (fC_X0_off_14 x w)
  else
  (bd1 (fC_X0_isName x p0 w) fun r6 =>
  if r6 = (0 : Int32) then
  (bd2 (fC_X0_refuse x (-2 : Int32) w) fun r22 w21 =>
  some (r22, w21))
  else
  (ck (bnd p0 200) <|
  if (hvi w (x + 17) (p0.toNatClampNeg)) = (-1 : Int32) then
  (st1 (siI w (x + 17) (p0.toNatClampNeg) p1) fun w8 =>
  ck (bnd p0 200) <|
  st1 (siI w8 (x + 18) (p0.toNatClampNeg) p2) fun w11 =>
  bd2 (fC_X0_told x (0 : Int32) w11) fun r15 w14 =>
  some (r15, w14))
  else
  (bd2 (fC_X0_refuse x (-4 : Int32) w) fun r18 w17 =>
  some (r18, w17)))))
def fC_X0_moved_15 (x : Nat) (w : AH) : Option (Int32 × AH) :=
  bd2 (fC_X0_refuse x (-1 : Int32) w) fun r3 w2 =>
  some (r3, w2)
def fC_X0_moved_37 (x : Nat) (w : AH) : Option (Int32 × AH) :=
  bd2 (fC_X0_refuse x (-2 : Int32) w) fun r3 w2 =>
  some (r3, w2)
def fC_X0_moved (x : Nat) (p0 : Int32) (p1 : Int32) (p2 : Int32) (p3 : Int32) (w : AH) : Option (Int32 × AH) :=
  bd1 (mC_X0_isDay p2) fun r2 =>
  if r2 = (0 : Int32) then
  (fC_X0_moved_15 x w)
  else
  (bd1 (mC_X0_isDay p3) fun r4 =>
  if r4 = (0 : Int32) then
  (fC_X0_moved_15 x w)
  else
  (bd1 (fC_X0_isName x p0 w) fun r6 =>
  if r6 = (0 : Int32) then
  (fC_X0_moved_37 x w)
  else
  (bd1 (fC_X0_isPlace x p1 w) fun r8 =>
  if r8 = (0 : Int32) then
  (fC_X0_moved_37 x w)
  else
  (bd1 (mC_J2_get (x + 4) p0 w) fun r10 =>
  ck (kIn (hkd w r10).1 [9, 10, 11, 12]) <|
  if (hvi w r10 0) = p1 then
  (bd2 (fC_X0_refuse x (-3 : Int32) w) fun r30 w29 =>
  some (r30, w29))
  else
  (ck (bnd p0 200) <|
  if (hvi w (x + 19) (p0.toNatClampNeg)) = (-1 : Int32) then
  (st1 (siI w (x + 19) (p0.toNatClampNeg) p1) fun w13 =>
  ck (bnd p0 200) <|
  st1 (siI w13 (x + 20) (p0.toNatClampNeg) p2) fun w16 =>
  ck (bnd p0 200) <|
  st1 (siI w16 (x + 21) (p0.toNatClampNeg) p3) fun w19 =>
  bd2 (fC_X0_told x (0 : Int32) w19) fun r23 w22 =>
  some (r23, w22))
  else
  (bd2 (fC_X0_refuse x (-4 : Int32) w) fun r26 w25 =>
  some (r26, w25)))))))
def fC_X0_of (x : Nat) (p0 : Int32) (p1 : Int32) (w : AH) : Option (Int32) :=
  bd1 (fC_X0_isName x p0 w) fun r2 =>
  if r2 = (0 : Int32) then
  (some (-1 : Int32))
  else
  (bd1 (mC_J2_get (x + 4) p0 w) fun r4 =>
  ck (kIn (hkd w r4).1 [9, 10, 11, 12]) <|
  (if p1 = (0 : Int32) then
  (some (hvi w r4 0))
  else if p1 = (1 : Int32) then
  (some (hvi w r4 1))
  else if p1 = (2 : Int32) then
  (some (hvi w r4 2))
  else if p1 = (3 : Int32) then
  (bd1 (dKind r4 w) fun r6 =>
  some r6)
  else if p1 = (4 : Int32) then
  (some (hvi w r4 3))
  else (some (-1 : Int32))))
def fC_X0_hasMoved (x : Nat) (p0 : Int32) (p1 : Int32) (p2 : Int32) (w : AH) : Option (Int32) :=
  ck (bnd p0 200) <|
  if (hvi w (x + 19) (p0.toNatClampNeg)) = (-1 : Int32) then
  (some (0 : Int32))
  else
  (ck (bnd p0 200) <|
  if p1 < (hvi w (x + 20) (p0.toNatClampNeg)) then
  (some (0 : Int32))
  else
  (ck (bnd p0 200) <|
  if p2 < (hvi w (x + 21) (p0.toNatClampNeg)) then
  (some (0 : Int32))
  else
  (some (1 : Int32))))
def fC_X0_placeOf (x : Nat) (p0 : Int32) (p1 : Int32) (p2 : Int32) (w : AH) : Option (Int32) :=
  bd1 (fC_X0_hasMoved x p0 p1 p2 w) fun r2 =>
  if r2 = (0 : Int32) then
  (bd1 (mC_J2_get (x + 4) p0 w) fun r4 =>
  ck (kIn (hkd w r4).1 [9, 10, 11, 12]) <|
  some (hvi w r4 0))
  else
  (ck (bnd p0 200) <|
  some (hvi w (x + 19) (p0.toNatClampNeg)))
def fC_X0_where (x : Nat) (p0 : Int32) (p1 : Int32) (p2 : Int32) (w : AH) : Option (Int32) :=
  bd1 (fC_X0_isName x p0 w) fun r2 =>
  if r2 = (0 : Int32) then
  (some (-1 : Int32))
  else
  (bd1 (mC_X0_isDay p1) fun r4 =>
  if r4 = (0 : Int32) then
  (some (-1 : Int32))
  else
  (bd1 (mC_X0_isDay p2) fun r6 =>
  if r6 = (0 : Int32) then
  (some (-1 : Int32))
  else
  (bd1 (mC_J2_get (x + 4) p0 w) fun r8 =>
  ck (kIn (hkd w r8).1 [9, 10, 11, 12]) <|
  if p2 < (hvi w r8 4) then
  (some (-1 : Int32))
  else
  (bd1 (fC_X0_placeOf x p0 p1 p2 w) fun r11 =>
  some r11))))
def fC_X0_likeOf_121 (x : Nat) (w : AH) (k76 : Nat → Nat → Int32 → Int32 → Option (Int32)) (v3 : Nat) (v4 : Nat) (v6 : Int32) (t0 : Int32) (t1 : Int32) : Option (Int32) :=
  k76 v3 v4 (t1 + t0) (v6 + (1 : Int32))
def fC_X0_likeOf_76 (x : Nat) (w : AH) (k76 : Nat → Nat → Int32 → Int32 → Option (Int32)) (v3 : Nat) (v4 : Nat) (v5 : Int32) (v6 : Int32) : Option (Int32) :=
  if (4 : Int32) ≤ v6 then
  (some v5)
  else
  (ck (kIn (hkd w v3).1 [9, 10, 11, 12]) <|
  ck (kIn (hkd w v4).1 [9, 10, 11, 12]) <|
  if (((hvi w v3 3) >>> (((8 : Int32) * v6) &&& 31)) &&& (255 : Int32)) = (((hvi w v4 3) >>> (((8 : Int32) * v6) &&& 31)) &&& (255 : Int32)) then
  (fC_X0_likeOf_121 x w k76 v3 v4 v6 (1 : Int32) v5)
  else
  (fC_X0_likeOf_121 x w k76 v3 v4 v6 (0 : Int32) v5))
def fC_X0_likeOf_70 (x : Nat) (w : AH) (v3 : Nat) (v4 : Nat) (t0 : Int32) (t1 : Int32) : Option (Int32) :=
  lq4 (fC_X0_likeOf_76 x w) LF v3 v4 (t1 + t0) (0 : Int32)
def fC_X0_likeOf_48 (x : Nat) (w : AH) (v3 : Nat) (v4 : Nat) (t0 : Int32) : Option (Int32) :=
  ck (kIn (hkd w v3).1 [9, 10, 11, 12]) <|
  ck (kIn (hkd w v4).1 [9, 10, 11, 12]) <|
  st1 (if 0 ≤ ((hvi w v3 2) - (hvi w v4 2)) then ((hvi w v3 2) - (hvi w v4 2)) else 0 - ((hvi w v3 2) - (hvi w v4 2))) fun r3 =>
  if (2 : Int32) < r3 then
  (fC_X0_likeOf_70 x w v3 v4 (0 : Int32) t0)
  else
  (fC_X0_likeOf_70 x w v3 v4 (1 : Int32) t0)
def fC_X0_likeOf (x : Nat) (p0 : Int32) (p1 : Int32) (w : AH) : Option (Int32) :=
  bd1 (mC_J2_get (x + 4) p0 w) fun r2 =>
  ck (kIn (hkd w r2).1 [9, 10, 11, 12]) <|
  bd1 (mC_J2_get (x + 4) p1 w) fun r5 =>
  ck (kIn (hkd w r5).1 [9, 10, 11, 12]) <|
  if (hvi w r2 1) = (hvi w r5 1) then
  (fC_X0_likeOf_48 x w r2 r5 (1 : Int32))
  else
  (fC_X0_likeOf_48 x w r2 r5 (0 : Int32))
def fC_X0_like (x : Nat) (p0 : Int32) (p1 : Int32) (w : AH) : Option (Int32) :=
  bd1 (fC_X0_isName x p0 w) fun r2 =>
  if r2 = (0 : Int32) then
  (some (-1 : Int32))
  else
  (bd1 (fC_X0_isName x p1 w) fun r4 =>
  if r4 = (0 : Int32) then
  (some (-1 : Int32))
  else
  (if p0 = p1 then
  (some (-1 : Int32))
  else
  (bd1 (fC_X0_likeOf x p0 p1 w) fun r6 =>
  some r6)))
def fC_X0_four_3 (x : Nat) (k3 : Int32 → Int32 → AH → Option (AH)) (v1 : Int32) (v2 : Int32) (w : AH) : Option (AH) :=
  if v2 < (0 : Int32) then
  (some w)
  else
  (ck (bnd (hvi w x 5) 400) <|
  st1 (siI w (x + 31) ((hvi w x 5).toNatClampNeg) ((v1 >>> (v2 &&& 31)).toInt8.toInt32).toInt8.toInt32) fun w2 =>
  st1 (siI w2 x 5 ((hvi w2 x 5) + (1 : Int32))) fun w4 =>
  k3 v1 (v2 + (-8 : Int32)) w4)
def fC_X0_four (x : Nat) (p0 : Int32) (w : AH) : Option (AH) :=
  lq3 (fC_X0_four_3 x) LF p0 (24 : Int32) w
def fC_X0_feed (x : Nat) (p0 : Int32) (p1 : Int32) (p2 : Int32) (p3 : Int32) (p4 : Int32) (w : AH) : Option (Int32 × AH) :=
  if ((hvi w x 5) + (20 : Int32)) ≤ (400 : Int32) then
  (bd1 (fC_X0_four x p0 w) fun w2 =>
  bd1 (fC_X0_four x p1 w2) fun w4 =>
  bd1 (fC_X0_four x p2 w4) fun w6 =>
  bd1 (fC_X0_four x p3 w6) fun w8 =>
  bd1 (fC_X0_four x p4 w8) fun w10 =>
  some ((hvi w10 x 5), w10))
  else
  (some ((-1 : Int32), w))
def fC_X0_end (x : Nat) (p0 : Int32) (w : AH) : Option (Int32 × AH) :=
  if p0 < (0 : Int32) then
  (some ((-1 : Int32), w))
  else
  (if p0 ≤ (hvi w x 5) then
  (st1 (siI w x 5 p0) fun w1 =>
  some (p0, w1))
  else
  (some ((-1 : Int32), w)))
def fC_X0_fault (x : Nat) (w : AH) : Option (Int32) :=
  some (hvi w x 6)
def fC_X2_goes_105 (x : Nat) (k2 : Nat → Int32 → AH → Option (AH)) (v1 : Nat) (v2 : Int32) (w : AH) : Option (AH) :=
  k2 v1 (v2 + (1 : Int32)) w
def fC_X2_goes_42 (x : Nat) (k2 : Nat → Int32 → AH → Option (AH)) (v1 : Nat) (v2 : Int32) (v3 : Int32) (t0 : Int32) (t1 : Int32) (w : AH) : Option (AH) :=
  ck (bnd t1 240) <|
  ck (isZ t0) <|
  st1 (siI w (x + 33) (t1.toNatClampNeg) t0) fun w3 =>
  ck (kIn (hkd w3 v1).1 [25]) <|
  bd1 (hvr w3 v1 2) fun b6 =>
  ck (kIn (hkd w3 b6).1 [2]) <|
  bd1 (mC_J2_get b6 v2 w3) fun r9 =>
  ck (kIn (hkd w3 r9).1 [17]) <|
  ck (bnd v3 240) <|
  if (hvi w3 (x + 33) (v3.toNatClampNeg)) = (0 : Int32) then
  (fC_X2_goes_105 x k2 v1 v2 w3)
  else
  (if (hvi w3 r9 0) = (0 : Int32) then
  (if (hvi w3 v1 0) ≤ (hvi w3 r9 1) then
  (fC_X2_goes_105 x k2 v1 v2 w3)
  else
  (ck (bnd (((12 : Int32) * (hvi w3 r9 1)) + (hvi w3 r9 2)) 240) <|
  st1 (siI w3 (x + 34) ((((12 : Int32) * (hvi w3 r9 1)) + (hvi w3 r9 2)).toNatClampNeg) (1 : Int32)) fun w13 =>
  fC_X2_goes_105 x k2 v1 v2 w13))
  else
  (fC_X2_goes_105 x k2 v1 v2 w3))
def fC_X2_goes_2 (x : Nat) (k2 : Nat → Int32 → AH → Option (AH)) (v1 : Nat) (v2 : Int32) (w : AH) : Option (AH) :=
  ck (kIn (hkd w v1).1 [25]) <|
  bd1 (hvr w v1 2) fun b2 =>
  ck (kIn (hkd w b2).1 [2]) <|
  bd1 (mC_J2_size b2 w) fun r5 =>
  if r5 ≤ v2 then
  (some w)
  else
  (ck (bnd (((12 : Int32) * (hvi w v1 0)) + v2) 240) <|
  if (hvi w (x + 34) ((((12 : Int32) * (hvi w v1 0)) + v2).toNatClampNeg)) = (0 : Int32) then
  (fC_X2_goes_42 x k2 v1 v2 (((12 : Int32) * (hvi w v1 0)) + v2) (1 : Int32) (((12 : Int32) * (hvi w v1 0)) + v2) w)
  else
  (fC_X2_goes_42 x k2 v1 v2 (((12 : Int32) * (hvi w v1 0)) + v2) (0 : Int32) (((12 : Int32) * (hvi w v1 0)) + v2) w))
def fC_X2_goes (x : Nat) (p0 : Nat) (w : AH) : Option (AH) :=
  lq3 (fC_X2_goes_2 x) LF p0 (0 : Int32) w
def fC_X2_looks_133 (x : Nat) (k84 : Int32 → Int32 → AH → Option (AH)) (v1 : Int32) (v2 : Int32) (w : AH) : Option (AH) :=
  k84 v1 (v2 + (-1 : Int32)) w
def fC_X2_looks_84 (x : Nat) (k84 : Int32 → Int32 → AH → Option (AH)) (v1 : Int32) (v2 : Int32) (w : AH) : Option (AH) :=
  if v2 < (0 : Int32) then
  (some w)
  else
  (bd1 (mC_J2_get (x + 2) v2 w) fun r2 =>
  ck (kIn (hkd w r2).1 [25]) <|
  if v1 < (hvi w r2 1) then
  (fC_X2_looks_133 x k84 v1 v2 w)
  else
  (bd1 (mC_J2_get (x + 2) v2 w) fun r5 =>
  ck (kIn (hkd w r5).1 [25]) <|
  bd1 (fC_X2_goes x r5 w) fun w8 =>
  fC_X2_looks_133 x k84 v1 v2 w8))
def fC_X2_looks_41 (x : Nat) (k41 : Int32 → Int32 → AH → Option (AH)) (v1 : Int32) (v2 : Int32) (w : AH) : Option (AH) :=
  if (240 : Int32) ≤ v2 then
  (bd1 (mC_J2_size (x + 2) w) fun r2 =>
  lq3 (fC_X2_looks_84 x) LF v1 (r2 - (1 : Int32)) w)
  else
  (ck (bnd v2 240) <|
  st1 (siI w (x + 33) (v2.toNatClampNeg) (0 : Int32)) fun w4 =>
  ck (bnd v2 240) <|
  st1 (siI w4 (x + 34) (v2.toNatClampNeg) (0 : Int32)) fun w7 =>
  k41 v1 (v2 + (1 : Int32)) w7)
def fC_X2_looks_23 (x : Nat) (v1 : Int32) (w : AH) : Option (AH) :=
  st1 (siI w (x + 32) 2 v1) fun w1 =>
  st1 (siI w1 (x + 32) 3 (hvi w1 x 1)) fun w3 =>
  lq3 (fC_X2_looks_41 x) LF v1 (0 : Int32) w3
def fC_X2_looks (x : Nat) (p0 : Int32) (w : AH) : Option (AH) :=
  if (hvi w (x + 32) 2) = p0 then
  (if (hvi w (x + 32) 3) = (hvi w x 1) then
  (some w)
  else
  (fC_X2_looks_23 x p0 w))
  else
  (fC_X2_looks_23 x p0 w)
def fC_X0_force (x : Nat) (p0 : Int32) (p1 : Int32) (p2 : Int32) (w : AH) : Option (Int32 × AH) :=
  bd1 (mC_J2_size (x + 2) w) fun r2 =>
  bd1 (mC_X0_in p0 (0 : Int32) (r2 - (1 : Int32))) fun r4 =>
  if r4 = (0 : Int32) then
  (some ((-1 : Int32), w))
  else
  (bd1 (mC_J2_get (x + 2) p0 w) fun r6 =>
  ck (kIn (hkd w r6).1 [25]) <|
  bd1 (hvr w r6 2) fun b8 =>
  ck (kIn (hkd w b8).1 [2]) <|
  bd1 (mC_J2_size b8 w) fun r11 =>
  bd1 (mC_X0_in p1 (0 : Int32) (r11 - (1 : Int32))) fun r13 =>
  if r13 = (0 : Int32) then
  (some ((-1 : Int32), w))
  else
  (bd1 (mC_X0_isDay p2) fun r15 =>
  if r15 = (0 : Int32) then
  (some ((-1 : Int32), w))
  else
  (bd1 (fC_X2_looks x p2 w) fun w17 =>
  ck (bnd (((12 : Int32) * p0) + p1) 240) <|
  if (hvi w17 (x + 33) ((((12 : Int32) * p0) + p1).toNatClampNeg)) = (0 : Int32) then
  (some ((0 : Int32), w17))
  else
  (some ((1 : Int32), w17)))))
def fC_X3_empties_26 (x : Nat) (k26 : Int32 → AH → Option (AH)) (v1 : Int32) (w : AH) : Option (AH) :=
  if (Int32.ofNat 5) ≤ v1 then
  (some w)
  else
  (ck (bnd v1 5) <|
  st1 (siI w (x + 38) (v1.toNatClampNeg) (0 : Int32)) fun w2 =>
  k26 (v1 + (1 : Int32)) w2)
def fC_X3_empties_2 (x : Nat) (k2 : Int32 → AH → Option (AH)) (v1 : Int32) (w : AH) : Option (AH) :=
  if (Int32.ofNat 11) ≤ v1 then
  (lq2 (fC_X3_empties_26 x) LF (0 : Int32) w)
  else
  (ck (bnd v1 11) <|
  st1 (siL w (x + 37) (v1.toNatClampNeg) (0 : Int64)) fun w2 =>
  k2 (v1 + (1 : Int32)) w2)
def fC_X3_empties (x : Nat) (w : AH) : Option (AH) :=
  lq2 (fC_X3_empties_2 x) LF (0 : Int32) w
def fC_X0_asks (x : Nat) (p0 : Int32) (w : AH) : Option (AH) :=
  bd1 (fC_X3_empties x w) fun w2 =>
  ck (bnd (4 : Int32) 11) <|
  st1 (siL w2 (x + 37) 4 (p0.toInt64)) fun w4 =>
  some w4
def fC_X0_last_152 (x : Nat) (k54 : Int32 → Int32 → Int64 → Int32 → Nat → Int32 → AH → Option (Int64 × AH)) (v1 : Int32) (v2 : Int32) (v4 : Int64) (v6 : Int32) (v7 : Nat) (v8 : Int32) (w : AH) : Option (Int64 × AH) :=
  k54 v1 v2 v4 v6 v7 (v8 + (1 : Int32)) w
def fC_X0_last_54 (x : Nat) (k16 : Int32 → Int32 → Int64 → Int32 → AH → Option (Int64 × AH)) (k54 : Int32 → Int32 → Int64 → Int32 → Nat → Int32 → AH → Option (Int64 × AH)) (v1 : Int32) (v2 : Int32) (v4 : Int64) (v6 : Int32) (v7 : Nat) (v8 : Int32) (w : AH) : Option (Int64 × AH) :=
  ck (kIn (hkd w v7).1 [2]) <|
  bd1 (mC_J2_size v7 w) fun r3 =>
  if r3 ≤ v8 then
  (k16 v1 v2 v4 (v6 + (1 : Int32)) w)
  else
  (ck (bnd (((12 : Int32) * v6) + v8) 240) <|
  if (hvi w (x + 33) ((((12 : Int32) * v6) + v8).toNatClampNeg)) = (0 : Int32) then
  (fC_X0_last_152 x k54 v1 v2 v4 v6 v7 v8 w)
  else
  (bd1 (mC_J2_get v7 v8 w) fun r6 =>
  ck (kIn (hkd w r6).1 [17]) <|
  if (hvi w r6 0) = v1 then
  (bd1 (mC_J2_get v7 v8 w) fun r9 =>
  ck (kIn (hkd w r9).1 [17]) <|
  if (hvi w r9 1) = v2 then
  (bd1 (mC_J2_get v7 v8 w) fun r12 =>
  ck (kIn (hkd w r12).1 [17]) <|
  bd1 (mC_X15_tells r12 (x + 35) w) fun r15 =>
  if r15 = (-4000000000 : Int64) then
  (fC_X0_last_152 x k54 v1 v2 v4 v6 v7 v8 w)
  else
  (fC_X0_last_152 x k54 v1 v2 r15 v6 v7 v8 w))
  else
  (fC_X0_last_152 x k54 v1 v2 v4 v6 v7 v8 w))
  else
  (fC_X0_last_152 x k54 v1 v2 v4 v6 v7 v8 w)))
def fC_X0_last_16 (x : Nat) (k16 : Int32 → Int32 → Int64 → Int32 → AH → Option (Int64 × AH)) (v1 : Int32) (v2 : Int32) (v4 : Int64) (v6 : Int32) (w : AH) : Option (Int64 × AH) :=
  bd1 (mC_J2_size (x + 2) w) fun r2 =>
  if r2 ≤ v6 then
  (some (v4, w))
  else
  (bd1 (mC_J2_get (x + 2) v6 w) fun r4 =>
  ck (kIn (hkd w r4).1 [25]) <|
  bd1 (hvr w r4 2) fun b6 =>
  lq7 (fC_X0_last_54 x k16) LF v1 v2 v4 v6 b6 (0 : Int32) w)
def fC_X0_last (x : Nat) (p0 : Int32) (p1 : Int32) (p2 : Int32) (w : AH) : Option (Int64 × AH) :=
  bd1 (fC_X2_looks x p2 w) fun w2 =>
  lq5 (fC_X0_last_16 x) LF p0 p1 (-4000000000 : Int64) (0 : Int32) w2
def fC_X5_isOn_248 (x : Nat) (v1 : Int32) (v2 : Int32) (v3 : Int32) (t0 : Int32) (t1 : Int32) (w : AH) : Option (Int32 × AH) :=
  ck (bnd t1 5) <|
  ck (isZ t0) <|
  st1 (siI w (x + 38) (t1.toNatClampNeg) t0) fun w3 =>
  bd1 (fC_X0_hasMoved x v1 v2 v3 w3) fun r6 =>
  ck (bnd (3 : Int32) 5) <|
  ck (isZ r6) <|
  st1 (siI w3 (x + 38) 3 r6) fun w9 =>
  bd2 (fC_X0_last x (1 : Int32) (0 : Int32) v2 w9) fun r13 w12 =>
  if r13 = (-4000000000 : Int64) then
  (some ((0 : Int32), w12))
  else
  (bd2 (fC_X0_last x (2 : Int32) (0 : Int32) v2 w12) fun r16 w15 =>
  if r16 = (-4000000000 : Int64) then
  (some ((1 : Int32), w15))
  else
  (some ((0 : Int32), w15)))
def fC_X5_isOn_222 (x : Nat) (v1 : Int32) (v2 : Int32) (v3 : Int32) (v4 : Nat) (t0 : Int32) (t1 : Int32) (w : AH) : Option (Int32 × AH) :=
  ck (bnd t1 5) <|
  ck (isZ t0) <|
  st1 (siI w (x + 38) (t1.toNatClampNeg) t0) fun w3 =>
  bd1 (dKind v4 w3) fun r5 =>
  if r5 = (3 : Int32) then
  (fC_X5_isOn_248 x v1 v2 v3 (1 : Int32) (2 : Int32) w3)
  else
  (fC_X5_isOn_248 x v1 v2 v3 (0 : Int32) (2 : Int32) w3)
def fC_X5_isOn_196 (x : Nat) (v1 : Int32) (v2 : Int32) (v3 : Int32) (v4 : Nat) (t0 : Int32) (t1 : Int32) (w : AH) : Option (Int32 × AH) :=
  ck (bnd t1 5) <|
  ck (isZ t0) <|
  st1 (siI w (x + 38) (t1.toNatClampNeg) t0) fun w3 =>
  bd1 (dKind v4 w3) fun r5 =>
  if r5 = (2 : Int32) then
  (fC_X5_isOn_222 x v1 v2 v3 v4 (1 : Int32) (1 : Int32) w3)
  else
  (fC_X5_isOn_222 x v1 v2 v3 v4 (0 : Int32) (1 : Int32) w3)
def fC_X5_isOn_78 (x : Nat) (v1 : Int32) (v2 : Int32) (v3 : Int32) (v4 : Nat) (w : AH) : Option (Int32 × AH) :=
  bd1 (fC_X0_asks x v2 w) fun w2 =>
  ck (kIn (hkd w2 v4).1 [9, 10, 11, 12]) <|
  ck (bnd (0 : Int32) 11) <|
  st1 (siL w2 (x + 37) 0 ((hvi w2 v4 2).toInt64)) fun w5 =>
  ck (kIn (hkd w5 v4).1 [9, 10, 11, 12]) <|
  ck (bnd (1 : Int32) 11) <|
  st1 (siL w5 (x + 37) 1 ((hvi w5 v4 1).toInt64)) fun w9 =>
  ck (bnd v1 200) <|
  ck (bnd (2 : Int32) 11) <|
  st1 (siL w9 (x + 37) 2 ((hvi w9 (x + 41) (v1.toNatClampNeg)).toInt64)) fun w13 =>
  ck (bnd v1 200) <|
  ck (bnd (hvi w13 (x + 41) (v1.toNatClampNeg)) 16) <|
  ck (bnd (3 : Int32) 11) <|
  st1 (siL w13 (x + 37) 3 ((hvi w13 (x + 14) ((hvi w13 (x + 41) (v1.toNatClampNeg)).toNatClampNeg)).toInt64)) fun w18 =>
  bd1 (dKind v4 w18) fun r20 =>
  if r20 = (1 : Int32) then
  (fC_X5_isOn_196 x v1 v2 v3 v4 (1 : Int32) (0 : Int32) w18)
  else
  (fC_X5_isOn_196 x v1 v2 v3 v4 (0 : Int32) (0 : Int32) w18)
def fC_X5_isOn (x : Nat) (p0 : Int32) (p1 : Int32) (p2 : Int32) (w : AH) : Option (Int32 × AH) :=
  bd1 (mC_J2_get (x + 4) p0 w) fun r2 =>
  ck (kIn (hkd w r2).1 [9, 10, 11, 12]) <|
  if p2 < (hvi w r2 4) then
  (some ((0 : Int32), w))
  else
  (ck (bnd p0 200) <|
  if (hvi w (x + 17) (p0.toNatClampNeg)) = (-1 : Int32) then
  (fC_X5_isOn_78 x p0 p1 p2 r2 w)
  else
  (if p1 < (hvi w (x + 17) (p0.toNatClampNeg)) then
  (fC_X5_isOn_78 x p0 p1 p2 r2 w)
  else
  (ck (bnd p0 200) <|
  if p2 < (hvi w (x + 18) (p0.toNatClampNeg)) then
  (fC_X5_isOn_78 x p0 p1 p2 r2 w)
  else
  (some ((0 : Int32), w)))))
def fC_X5_looks_145 (x : Nat) (k75 : Int32 → Int32 → Int32 → AH → Option (AH)) (v1 : Int32) (v2 : Int32) (v3 : Int32) (w : AH) : Option (AH) :=
  k75 v1 v2 (v3 + (1 : Int32)) w
def fC_X5_looks_75 (x : Nat) (k75 : Int32 → Int32 → Int32 → AH → Option (AH)) (v1 : Int32) (v2 : Int32) (v3 : Int32) (w : AH) : Option (AH) :=
  bd1 (mC_J2_size (x + 4) w) fun r2 =>
  if r2 ≤ v3 then
  (some w)
  else
  (bd1 (fC_X0_placeOf x v3 v1 v2 w) fun r4 =>
  ck (bnd v3 200) <|
  st1 (siI w (x + 41) (v3.toNatClampNeg) r4) fun w6 =>
  bd2 (fC_X5_isOn x v3 v1 v2 w6) fun r10 w9 =>
  ck (bnd v3 200) <|
  ck (isZ r10) <|
  st1 (siI w9 (x + 40) (v3.toNatClampNeg) r10) fun w13 =>
  ck (bnd v3 200) <|
  if (hvi w13 (x + 40) (v3.toNatClampNeg)) = (0 : Int32) then
  (fC_X5_looks_145 x k75 v1 v2 v3 w13)
  else
  (ck (bnd v3 200) <|
  ck (bnd (hvi w13 (x + 41) (v3.toNatClampNeg)) 16) <|
  st1 (siI w13 (x + 42) ((hvi w13 (x + 41) (v3.toNatClampNeg)).toNatClampNeg) ((hvi w13 (x + 42) ((hvi w13 (x + 41) (v3.toNatClampNeg)).toNatClampNeg)) + (1 : Int32))) fun w18 =>
  fC_X5_looks_145 x k75 v1 v2 v3 w18))
def fC_X5_looks_54 (x : Nat) (k54 : Int32 → Int32 → Int32 → AH → Option (AH)) (v1 : Int32) (v2 : Int32) (v3 : Int32) (w : AH) : Option (AH) :=
  if (16 : Int32) ≤ v3 then
  (lq4 (fC_X5_looks_75 x) LF v1 v2 (0 : Int32) w)
  else
  (ck (bnd v3 16) <|
  st1 (siI w (x + 42) (v3.toNatClampNeg) (0 : Int32)) fun w2 =>
  k54 v1 v2 (v3 + (1 : Int32)) w2)
def fC_X5_looks_31 (x : Nat) (v1 : Int32) (v2 : Int32) (w : AH) : Option (AH) :=
  st1 (siI w (x + 39) 3 v1) fun w1 =>
  st1 (siI w1 (x + 39) 4 v2) fun w3 =>
  st1 (siI w3 (x + 39) 5 (hvi w3 x 1)) fun w5 =>
  lq4 (fC_X5_looks_54 x) LF v1 v2 (0 : Int32) w5
def fC_X5_looks (x : Nat) (p0 : Int32) (p1 : Int32) (w : AH) : Option (AH) :=
  if (hvi w (x + 39) 3) = p0 then
  (if (hvi w (x + 39) 4) = p1 then
  (if (hvi w (x + 39) 5) = (hvi w x 1) then
  (some w)
  else
  (fC_X5_looks_31 x p0 p1 w))
  else
  (fC_X5_looks_31 x p0 p1 w))
  else
  (fC_X5_looks_31 x p0 p1 w)
def fC_X0_on (x : Nat) (p0 : Int32) (p1 : Int32) (p2 : Int32) (w : AH) : Option (Int32 × AH) :=
  bd1 (fC_X0_isName x p0 w) fun r2 =>
  if r2 = (0 : Int32) then
  (some ((-1 : Int32), w))
  else
  (bd1 (mC_X0_isDay p1) fun r4 =>
  if r4 = (0 : Int32) then
  (some ((-1 : Int32), w))
  else
  (bd1 (mC_X0_isDay p2) fun r6 =>
  if r6 = (0 : Int32) then
  (some ((-1 : Int32), w))
  else
  (bd1 (fC_X5_looks x p1 p2 w) fun w8 =>
  ck (bnd p0 200) <|
  if (hvi w8 (x + 40) (p0.toNatClampNeg)) = (0 : Int32) then
  (some ((0 : Int32), w8))
  else
  (some ((1 : Int32), w8)))))
def fC_X0_roll (x : Nat) (p0 : Int32) (p1 : Int32) (p2 : Int32) (w : AH) : Option (Int32 × AH) :=
  bd1 (fC_X0_isPlace x p0 w) fun r2 =>
  if r2 = (0 : Int32) then
  (some ((-1 : Int32), w))
  else
  (bd1 (mC_X0_isDay p1) fun r4 =>
  if r4 = (0 : Int32) then
  (some ((-1 : Int32), w))
  else
  (bd1 (mC_X0_isDay p2) fun r6 =>
  if r6 = (0 : Int32) then
  (some ((-1 : Int32), w))
  else
  (bd1 (fC_X5_looks x p1 p2 w) fun w8 =>
  ck (bnd p0 16) <|
  some ((hvi w8 (x + 42) (p0.toNatClampNeg)), w8))))
def fC_X0_areBarred_102 (x : Nat) (w : AH) (k2 : Int32 → Int32 → Int32 → Option (Int32)) (v1 : Int32) (v2 : Int32) (v3 : Int32) : Option (Int32) :=
  k2 v1 v2 (v3 + (1 : Int32))
def fC_X0_areBarred_58 (x : Nat) (w : AH) (k2 : Int32 → Int32 → Int32 → Option (Int32)) (v1 : Int32) (v2 : Int32) (v3 : Int32) : Option (Int32) :=
  bd1 (mC_J2_get (x + 6) v3 w) fun r2 =>
  ck (kIn (hkd w r2).1 [14]) <|
  if (hvi w r2 0) = v2 then
  (bd1 (mC_J2_get (x + 6) v3 w) fun r5 =>
  ck (kIn (hkd w r5).1 [14]) <|
  if (hvi w r5 1) = v1 then
  (some (1 : Int32))
  else
  (fC_X0_areBarred_102 x w k2 v1 v2 v3))
  else
  (fC_X0_areBarred_102 x w k2 v1 v2 v3)
def fC_X0_areBarred_2 (x : Nat) (w : AH) (k2 : Int32 → Int32 → Int32 → Option (Int32)) (v1 : Int32) (v2 : Int32) (v3 : Int32) : Option (Int32) :=
  bd1 (mC_J2_size (x + 6) w) fun r2 =>
  if r2 ≤ v3 then
  (some (0 : Int32))
  else
  (bd1 (mC_J2_get (x + 6) v3 w) fun r4 =>
  ck (kIn (hkd w r4).1 [14]) <|
  if (hvi w r4 0) = v1 then
  (bd1 (mC_J2_get (x + 6) v3 w) fun r7 =>
  ck (kIn (hkd w r7).1 [14]) <|
  if (hvi w r7 1) = v2 then
  (some (1 : Int32))
  else
  (fC_X0_areBarred_58 x w k2 v1 v2 v3))
  else
  (fC_X0_areBarred_58 x w k2 v1 v2 v3))
def fC_X0_areBarred (x : Nat) (p0 : Int32) (p1 : Int32) (w : AH) : Option (Int32) :=
  lq3 (fC_X0_areBarred_2 x w) LF p0 p1 (0 : Int32)
def fC_X0_twice_166 (x : Nat) (k57 : Int32 → Int32 → Int32 → Int32 → AH → Option (Int32 × AH)) (v3 : Int32) (v4 : Int32) (v5 : Int32) (v6 : Int32) (w : AH) : Option (Int32 × AH) :=
  k57 v3 v4 v5 (v6 + (1 : Int32)) w
def fC_X0_twice_57 (x : Nat) (k36 : Int32 → Int32 → Int32 → AH → Option (Int32 × AH)) (k57 : Int32 → Int32 → Int32 → Int32 → AH → Option (Int32 × AH)) (v3 : Int32) (v4 : Int32) (v5 : Int32) (v6 : Int32) (w : AH) : Option (Int32 × AH) :=
  bd1 (mC_J2_size (x + 4) w) fun r2 =>
  if r2 ≤ v6 then
  (k36 v3 v4 (v5 + (1 : Int32)) w)
  else
  (ck (bnd v5 200) <|
  if (hvi w (x + 40) (v5.toNatClampNeg)) = (0 : Int32) then
  (fC_X0_twice_166 x k57 v3 v4 v5 v6 w)
  else
  (ck (bnd v6 200) <|
  if (hvi w (x + 40) (v6.toNatClampNeg)) = (0 : Int32) then
  (fC_X0_twice_166 x k57 v3 v4 v5 v6 w)
  else
  (ck (bnd v5 200) <|
  ck (bnd v6 200) <|
  if (hvi w (x + 41) (v5.toNatClampNeg)) = (hvi w (x + 41) (v6.toNatClampNeg)) then
  (fC_X0_twice_166 x k57 v3 v4 v5 v6 w)
  else
  (bd1 (fC_X0_likeOf x v5 v6 w) fun r8 =>
  if r8 < (5 : Int32) then
  (fC_X0_twice_166 x k57 v3 v4 v5 v6 w)
  else
  (bd1 (fC_X0_areBarred x v5 v6 w) fun r10 =>
  if r10 = (0 : Int32) then
  (if v4 = v3 then
  (some ((((200 : Int32) * v5) + v6), w))
  else
  (fC_X0_twice_166 x k57 v3 (v4 + (1 : Int32)) v5 v6 w))
  else
  (fC_X0_twice_166 x k57 v3 v4 v5 v6 w))))))
def fC_X0_twice_36 (x : Nat) (k36 : Int32 → Int32 → Int32 → AH → Option (Int32 × AH)) (v3 : Int32) (v4 : Int32) (v5 : Int32) (w : AH) : Option (Int32 × AH) :=
  bd1 (mC_J2_size (x + 4) w) fun r2 =>
  if r2 ≤ v5 then
  (if v3 = (-1 : Int32) then
  (some (v4, w))
  else
  (some ((-1 : Int32), w)))
  else
  (lq5 (fC_X0_twice_57 x k36) LF v3 v4 v5 (v5 + (1 : Int32)) w)
def fC_X0_twice (x : Nat) (p0 : Int32) (p1 : Int32) (p2 : Int32) (w : AH) : Option (Int32 × AH) :=
  bd1 (mC_X0_isDay p0) fun r2 =>
  if r2 = (0 : Int32) then
  (some ((-1 : Int32), w))
  else
  (bd1 (mC_X0_isDay p1) fun r4 =>
  if r4 = (0 : Int32) then
  (some ((-1 : Int32), w))
  else
  (if (-1 : Int32) ≤ p2 then
  (bd1 (fC_X5_looks x p0 p1 w) fun w6 =>
  lq4 (fC_X0_twice_36 x) LF p2 (0 : Int32) (0 : Int32) w6)
  else
  (some ((-1 : Int32), w))))
def fC_X0_fewOn (x : Nat) (p0 : Int32) (w : AH) : Option (Int32 × AH) :=
  bd1 (fC_X0_asks x p0 w) fun w2 =>
  bd2 (fC_X0_last x (7 : Int32) (0 : Int32) p0 w2) fun r5 w4 =>
  bd1 (mC_X0_atLeast r5 (0 : Int32)) fun r7 =>
  some (r7, w4)
def fC_X0_asksPlace (x : Nat) (p0 : Int32) (p1 : Int32) (w : AH) : Option (AH) :=
  bd1 (fC_X0_asks x p1 w) fun w2 =>
  ck (bnd (2 : Int32) 11) <|
  st1 (siL w2 (x + 37) 2 (p0.toInt64)) fun w4 =>
  ck (bnd p0 16) <|
  ck (bnd (3 : Int32) 11) <|
  st1 (siL w4 (x + 37) 3 ((hvi w4 (x + 14) (p0.toNatClampNeg)).toInt64)) fun w8 =>
  ck (bnd p0 16) <|
  ck (bnd (5 : Int32) 11) <|
  st1 (siL w8 (x + 37) 5 ((hvi w8 (x + 42) (p0.toNatClampNeg)).toInt64)) fun w12 =>
  some w12
def fC_X0_ruleOf (x : Nat) (p0 : Int32) (p1 : Int32) (p2 : Int32) (p3 : Int32) (w : AH) : Option (Int32 × AH) :=
  bd1 (fC_X0_asksPlace x p1 p2 w) fun w2 =>
  bd2 (fC_X0_last x p0 (0 : Int32) p2 w2) fun r5 w4 =>
  bd1 (mC_X0_atLeast r5 p3) fun r7 =>
  some (r7, w4)
def fC_X0_rule_40 (x : Nat) (v1 : Int32) (v2 : Int32) (v3 : Int32) (v4 : Int32) (w : AH) : Option (Int32 × AH) :=
  bd1 (fC_X5_looks x v2 v3 w) fun w2 =>
  if v4 = (2 : Int32) then
  (bd2 (fC_X0_fewOn x v2 w2) fun r12 w11 =>
  some (r12, w11))
  else
  (if v4 = (0 : Int32) then
  (bd2 (fC_X0_ruleOf x (5 : Int32) v1 v2 (1000 : Int32) w2) fun r8 w7 =>
  some (r8, w7))
  else
  (bd2 (fC_X0_ruleOf x (6 : Int32) v1 v2 (200 : Int32) w2) fun r5 w4 =>
  some (r5, w4)))
def fC_X0_rule (x : Nat) (p0 : Int32) (p1 : Int32) (p2 : Int32) (p3 : Int32) (w : AH) : Option (Int32 × AH) :=
  bd1 (mC_X0_isDay p1) fun r2 =>
  if r2 = (0 : Int32) then
  (some ((-1 : Int32), w))
  else
  (bd1 (mC_X0_isDay p2) fun r4 =>
  if r4 = (0 : Int32) then
  (some ((-1 : Int32), w))
  else
  (bd1 (mC_X0_in p3 (0 : Int32) (2 : Int32)) fun r6 =>
  if r6 = (0 : Int32) then
  (some ((-1 : Int32), w))
  else
  (if (2 : Int32) ≤ p3 then
  (fC_X0_rule_40 x p0 p1 p2 p3 w)
  else
  (bd1 (fC_X0_isPlace x p0 w) fun r8 =>
  if r8 = (0 : Int32) then
  (some ((-1 : Int32), w))
  else
  (fC_X0_rule_40 x p0 p1 p2 p3 w)))))
def fC_X0_wish_17 (x : Nat) (k17 : Int32 → Int32 → AH → Option (Int32 × AH)) (v1 : Int32) (v2 : Int32) (w : AH) : Option (Int32 × AH) :=
  if (hvi w x 19) ≤ v2 then
  (if (hvi w x 19) = (7 : Int32) then
  (bd2 (fC_X0_refuse x (-5 : Int32) w) fun r17 w16 =>
  some (r17, w16))
  else
  (ck (bnd (hvi w x 19) 7) <|
  st1 (siI w (x + 43) ((hvi w x 19).toNatClampNeg) v1) fun w2 =>
  ck (bnd (hvi w2 x 19) 7) <|
  st1 (siI w2 (x + 44) ((hvi w2 x 19).toNatClampNeg) (0 : Int32)) fun w5 =>
  ck (bnd (hvi w5 x 19) 7) <|
  st1 (siI w5 (x + 45) ((hvi w5 x 19).toNatClampNeg) (399 : Int32)) fun w8 =>
  st1 (siI w8 x 19 ((hvi w8 x 19) + (1 : Int32))) fun w10 =>
  bd2 (fC_X0_done x (hvi w10 x 19) w10) fun r14 w13 =>
  some (r14, w13)))
  else
  (ck (bnd v2 7) <|
  if (hvi w (x + 43) (v2.toNatClampNeg)) = v1 then
  (bd2 (fC_X0_refuse x (-4 : Int32) w) fun r22 w21 =>
  some (r22, w21))
  else
  (k17 v1 (v2 + (1 : Int32)) w))
def fC_X0_wish (x : Nat) (p0 : Int32) (w : AH) : Option (Int32 × AH) :=
  bd1 (fC_X0_isPlace x p0 w) fun r2 =>
  if r2 = (0 : Int32) then
  (bd2 (fC_X0_refuse x (-2 : Int32) w) fun r5 w4 =>
  some (r5, w4))
  else
  (lq3 (fC_X0_wish_17 x) LF p0 (0 : Int32) w)
def fC_X0_clear (x : Nat) (w : AH) : Option (Int32 × AH) :=
  st1 (siI w x 19 (0 : Int32)) fun w1 =>
  some ((hvi w x 19), w1)
def fC_X0_areThere_2 (x : Nat) (w : AH) (k2 : Int32 → Option (Int32)) (v1 : Int32) : Option (Int32) :=
  if (hvi w x 19) ≤ v1 then
  (some (1 : Int32))
  else
  (ck (bnd v1 7) <|
  bd1 (fC_X0_isPlace x (hvi w (x + 43) (v1.toNatClampNeg)) w) fun r3 =>
  if r3 = (0 : Int32) then
  (some (0 : Int32))
  else
  (k2 (v1 + (1 : Int32))))
def fC_X0_areThere (x : Nat) (w : AH) : Option (Int32) :=
  lq1 (fC_X0_areThere_2 x w) LF (0 : Int32)
def fC_X0_lays_11 (x : Nat) (k11 : Int32 → Int32 → AH → Option (AH)) (v1 : Int32) (v3 : Int32) (w : AH) : Option (AH) :=
  if (hvi w x 19) ≤ v3 then
  (some w)
  else
  (ck (bnd v3 7) <|
  bd2 (fC_X0_ruleOf x (5 : Int32) (hvi w (x + 43) (v3.toNatClampNeg)) v1 (1000 : Int32) w) fun r4 w3 =>
  ck (bnd v3 7) <|
  st1 (siI w3 (x + 46) (v3.toNatClampNeg) r4) fun w6 =>
  ck (bnd v3 7) <|
  bd2 (fC_X0_ruleOf x (6 : Int32) (hvi w6 (x + 43) (v3.toNatClampNeg)) v1 (200 : Int32) w6) fun r11 w10 =>
  ck (bnd v3 7) <|
  st1 (siI w10 (x + 47) (v3.toNatClampNeg) r11) fun w13 =>
  k11 v1 (v3 + (1 : Int32)) w13)
def fC_X0_lays (x : Nat) (p0 : Int32) (p1 : Int32) (w : AH) : Option (AH) :=
  bd1 (fC_X5_looks x p0 p1 w) fun w2 =>
  lq3 (fC_X0_lays_11 x) LF p0 (0 : Int32) w2
def fC_X1_far (x : Nat) (p0 : Int32) (p1 : Int32) (w : AH) : Option (Int32) :=
  ck (bnd p0 16) <|
  ck (bnd p1 16) <|
  st1 (if 0 ≤ ((hvi w (x + 15) (p0.toNatClampNeg)) - (hvi w (x + 15) (p1.toNatClampNeg))) then ((hvi w (x + 15) (p0.toNatClampNeg)) - (hvi w (x + 15) (p1.toNatClampNeg))) else 0 - ((hvi w (x + 15) (p0.toNatClampNeg)) - (hvi w (x + 15) (p1.toNatClampNeg)))) fun r3 =>
  ck (bnd p0 16) <|
  ck (bnd p1 16) <|
  st1 (if 0 ≤ ((hvi w (x + 16) (p0.toNatClampNeg)) - (hvi w (x + 16) (p1.toNatClampNeg))) then ((hvi w (x + 16) (p0.toNatClampNeg)) - (hvi w (x + 16) (p1.toNatClampNeg))) else 0 - ((hvi w (x + 16) (p0.toNatClampNeg)) - (hvi w (x + 16) (p1.toNatClampNeg)))) fun r6 =>
  some (r3 + r6)
def fB_X0_leads_185 (x : Nat) (r_X0_leads : Int32 → Int32 → Int32 → AH → Option (AH)) (k67 : Int32 → Int32 → Int32 → Int32 → Int32 → AH → Option (AH)) (v1 : Int32) (v2 : Int32) (v3 : Int32) (v4 : Int32) (v5 : Int32) (w : AH) : Option (AH) :=
  k67 v1 v2 v3 v4 (v5 + (1 : Int32)) w
def fB_X0_leads_67 (x : Nat) (r_X0_leads : Int32 → Int32 → Int32 → AH → Option (AH)) (k67 : Int32 → Int32 → Int32 → Int32 → Int32 → AH → Option (AH)) (v1 : Int32) (v2 : Int32) (v3 : Int32) (v4 : Int32) (v5 : Int32) (w : AH) : Option (AH) :=
  if (hvi w x 19) ≤ v5 then
  (some w)
  else
  (ck (bnd v1 7) <|
  ck (bnd v5 7) <|
  bd1 (fC_X1_far x (hvi w (x + 43) (v1.toNatClampNeg)) (hvi w (x + 43) (v5.toNatClampNeg)) w) fun r4 =>
  if ((v2 >>> (v5 &&& 31)) &&& (1 : Int32)) = (0 : Int32) then
  (fB_X0_leads_185 x r_X0_leads k67 v1 v2 v3 v4 v5 w)
  else
  (ck (bnd v1 7) <|
  if (hvi w (x + 47) (v1.toNatClampNeg)) < r4 then
  (fB_X0_leads_185 x r_X0_leads k67 v1 v2 v3 v4 v5 w)
  else
  (ck (bnd v5 7) <|
  ck (bnd v5 7) <|
  if ((hvi w (x + 48) (v5.toNatClampNeg)) + v4) ≤ (hvi w (x + 46) (v5.toNatClampNeg)) then
  (st1 (siI w (x + 48) (v5.toNatClampNeg) ((hvi w (x + 48) (v5.toNatClampNeg)) + v4)) fun w8 =>
  ck (bnd v1 7) <|
  st1 (siI w8 (x + 49) (v1.toNatClampNeg) v5) fun w11 =>
  bd1 (r_X0_leads (v1 + (1 : Int32)) v2 (v3 + r4) w11) fun w14 =>
  ck (bnd v5 7) <|
  st1 (siI w14 (x + 48) (v5.toNatClampNeg) ((hvi w14 (x + 48) (v5.toNatClampNeg)) - v4)) fun w16 =>
  fB_X0_leads_185 x r_X0_leads k67 v1 v2 v3 v4 v5 w16)
  else
  (fB_X0_leads_185 x r_X0_leads k67 v1 v2 v3 v4 v5 w))))
def fB_X0_leads_17 (x : Nat) (r_X0_leads : Int32 → Int32 → Int32 → AH → Option (AH)) (v1 : Int32) (v2 : Int32) (v3 : Int32) (w : AH) : Option (AH) :=
  if v1 = (hvi w x 19) then
  (st1 (siI w x 22 v3) fun w3 =>
  ck (cpOk (0 : Int32) (hvi w3 x 19) 7 (0 : Int32) 7) <|
  st1 (hcpI w3 (x + 49) (0 : Int32).toNatClampNeg (x + 50) (0 : Int32).toNatClampNeg (hvi w3 x 19).toNatClampNeg) fun w6 =>
  some w6)
  else
  (ck (bnd v1 7) <|
  ck (bnd (hvi w (x + 43) (v1.toNatClampNeg)) 16) <|
  lq6 (fB_X0_leads_67 x r_X0_leads) LF v1 v2 v3 (hvi w (x + 42) ((hvi w (x + 43) (v1.toNatClampNeg)).toNatClampNeg)) (0 : Int32) w)
def fB_X0_leads (x : Nat) (r_X0_leads : Int32 → Int32 → Int32 → AH → Option (AH)) (p0 : Int32) (p1 : Int32) (p2 : Int32) (w : AH) : Option (AH) :=
  if (hvi w x 22) = (-1 : Int32) then
  (fB_X0_leads_17 x r_X0_leads p0 p1 p2 w)
  else
  (if p2 < (hvi w x 22) then
  (fB_X0_leads_17 x r_X0_leads p0 p1 p2 w)
  else
  (some w))
def fC_X0_leads (x : Nat) : Nat → Int32 → Int32 → Int32 → AH → Option (AH)
  | 0 => fun _ _ _ _ => none
  | n + 1 => fB_X0_leads x (fC_X0_leads x n)
def fC_X0_sumOf_7 (x : Nat) (k7 : Int32 → Int32 → AH → Option (Int32 × AH)) (v1 : Int32) (v2 : Int32) (w : AH) : Option (Int32 × AH) :=
  if (hvi w x 19) ≤ v2 then
  (bd1 (fC_X0_leads x 200 (0 : Int32) v1 (0 : Int32) w) fun w2 =>
  some ((hvi w2 x 22), w2))
  else
  (ck (bnd v2 7) <|
  st1 (siI w (x + 48) (v2.toNatClampNeg) (0 : Int32)) fun w4 =>
  k7 v1 (v2 + (1 : Int32)) w4)
def fC_X0_sumOf (x : Nat) (p0 : Int32) (w : AH) : Option (Int32 × AH) :=
  st1 (siI w x 22 (-1 : Int32)) fun w1 =>
  lq3 (fC_X0_sumOf_7 x) LF p0 (0 : Int32) w1
def fC_X0_booths_143 (x : Nat) (v3 : Int32) (v4 : Int32) (w : AH) : Option (Int32 × AH) :=
  if v3 = (-1 : Int32) then
  (some ((-1 : Int32), w))
  else
  (st1 (siI w x 20 (hvi w x 19)) fun w1 =>
  st1 (siI w1 x 21 v4) fun w3 =>
  some (v3, w3))
def fC_X0_booths_131 (x : Nat) (k54 : Int32 → Int32 → Int32 → Int32 → AH → Option (Int32 × AH)) (v3 : Int32) (v4 : Int32) (v5 : Int32) (v6 : Int32) (w : AH) : Option (Int32 × AH) :=
  k54 v3 v4 v5 (v6 + (1 : Int32)) w
def fC_X0_booths_107 (x : Nat) (k54 : Int32 → Int32 → Int32 → Int32 → AH → Option (Int32 × AH)) (v5 : Int32) (v6 : Int32) (v7 : Int32) (w : AH) : Option (Int32 × AH) :=
  ck (cpOk (0 : Int32) (hvi w x 19) 7 (0 : Int32) 7) <|
  st1 (hcpI w (x + 50) (0 : Int32).toNatClampNeg (x + 51) (0 : Int32).toNatClampNeg (hvi w x 19).toNatClampNeg) fun w2 =>
  fC_X0_booths_131 x k54 v6 v7 v5 v6 w2
def fC_X0_booths_54 (x : Nat) (k37 : Int32 → Int32 → Int32 → AH → Option (Int32 × AH)) (k54 : Int32 → Int32 → Int32 → Int32 → AH → Option (Int32 × AH)) (v3 : Int32) (v4 : Int32) (v5 : Int32) (v6 : Int32) (w : AH) : Option (Int32 × AH) :=
  if ((1 : Int32) <<< ((hvi w x 19) &&& 31)) ≤ v6 then
  (k37 v3 v4 (v5 + (1 : Int32)) w)
  else
  (bd1 (mC_J16_bitCount v6) fun r2 =>
  if r2 = v5 then
  (bd2 (fC_X0_sumOf x v6 w) fun r5 w4 =>
  if r5 = (-1 : Int32) then
  (fC_X0_booths_131 x k54 v3 v4 v5 v6 w4)
  else
  (if v3 = (-1 : Int32) then
  (fC_X0_booths_107 x k54 v5 v6 r5 w4)
  else
  (if r5 < v4 then
  (fC_X0_booths_107 x k54 v5 v6 r5 w4)
  else
  (fC_X0_booths_131 x k54 v3 v4 v5 v6 w4))))
  else
  (fC_X0_booths_131 x k54 v3 v4 v5 v6 w))
def fC_X0_booths_37 (x : Nat) (k37 : Int32 → Int32 → Int32 → AH → Option (Int32 × AH)) (v3 : Int32) (v4 : Int32) (v5 : Int32) (w : AH) : Option (Int32 × AH) :=
  if (hvi w x 19) < v5 then
  (fC_X0_booths_143 x v3 v4 w)
  else
  (if v3 = (-1 : Int32) then
  (lq5 (fC_X0_booths_54 x k37) LF v3 v4 v5 (0 : Int32) w)
  else
  (fC_X0_booths_143 x v3 v4 w))
def fC_X0_booths (x : Nat) (p0 : Int32) (p1 : Int32) (w : AH) : Option (Int32 × AH) :=
  bd1 (mC_X0_isDay p0) fun r2 =>
  if r2 = (0 : Int32) then
  (some ((-1 : Int32), w))
  else
  (bd1 (mC_X0_isDay p1) fun r4 =>
  if r4 = (0 : Int32) then
  (some ((-1 : Int32), w))
  else
  (bd1 (fC_X0_areThere x w) fun r6 =>
  if r6 = (0 : Int32) then
  (some ((-1 : Int32), w))
  else
  (bd1 (fC_X0_lays x p0 p1 w) fun w8 =>
  lq4 (fC_X0_booths_37 x) LF (-1 : Int32) (0 : Int32) (0 : Int32) w8)))
def fC_X0_led (x : Nat) (p0 : Int32) (w : AH) : Option (Int32) :=
  if (hvi w x 20) = (-1 : Int32) then
  (some (-1 : Int32))
  else
  (bd1 (mC_X0_in p0 (-1 : Int32) ((hvi w x 20) - (1 : Int32))) fun r2 =>
  if r2 = (0 : Int32) then
  (some (-1 : Int32))
  else
  (if p0 = (-1 : Int32) then
  (some (hvi w x 21))
  else
  (ck (bnd p0 7) <|
  some (hvi w (x + 51) (p0.toNatClampNeg)))))
def fC_X0_judge (x : Nat) (p0 : Int32) (p1 : Int32) (p2 : Int32) (w : AH) : Option (Int32 × AH) :=
  bd1 (mC_X0_isDay p1) fun r2 =>
  if r2 = (0 : Int32) then
  (some ((-1 : Int32), w))
  else
  (bd1 (mC_X0_isDay p2) fun r4 =>
  if r4 = (0 : Int32) then
  (some ((-1 : Int32), w))
  else
  (if p0 < (0 : Int32) then
  (some ((-1 : Int32), w))
  else
  (if (p0 >>> ((hvi w x 19) &&& 31)) = (0 : Int32) then
  (bd1 (fC_X0_areThere x w) fun r6 =>
  if r6 = (0 : Int32) then
  (some ((-1 : Int32), w))
  else
  (bd1 (fC_X0_lays x p1 p2 w) fun w8 =>
  bd2 (fC_X0_sumOf x p0 w8) fun r11 w10 =>
  some (r11, w10)))
  else
  (some ((-1 : Int32), w)))))
def fC_X0_booth (x : Nat) (p0 : Int32) (w : AH) : Option (Int32 × AH) :=
  bd1 (fC_X0_isPlace x p0 w) fun r2 =>
  if r2 = (0 : Int32) then
  (bd2 (fC_X0_refuse x (-2 : Int32) w) fun r20 w19 =>
  some (r20, w19))
  else
  (if (hvi w (x + 1) 23) = (20 : Int32) then
  (bd2 (fC_X0_refuse x (-5 : Int32) w) fun r16 w15 =>
  some (r16, w15))
  else
  (ck (bnd (hvi w (x + 1) 23) 20) <|
  st1 (siI w (x + 22) ((hvi w (x + 1) 23).toNatClampNeg) p0) fun w4 =>
  ck (bnd (hvi w4 (x + 1) 23) 20) <|
  st1 (siI w4 (x + 26) ((hvi w4 (x + 1) 23).toNatClampNeg) (-1 : Int32)) fun w7 =>
  st1 (siI w7 (x + 1) 23 ((hvi w7 (x + 1) 23) + (1 : Int32))) fun w9 =>
  bd2 (fC_X0_told x ((hvi w9 (x + 1) 23) - (1 : Int32)) w9) fun r13 w12 =>
  some (r13, w12)))
def fC_X0_isBooth (x : Nat) (p0 : Int32) (w : AH) : Option (Int32) :=
  bd1 (mC_X0_in p0 (0 : Int32) ((hvi w (x + 1) 23) - (1 : Int32))) fun r2 =>
  ck (isZ r2) <|
  some r2
def fC_X0_box (x : Nat) (p0 : Int32) (p1 : Int32) (w : AH) : Option (Int32 × AH) :=
  bd1 (mC_X0_in p1 (0 : Int32) (99999 : Int32)) fun r2 =>
  if r2 = (0 : Int32) then
  (bd2 (fC_X0_refuse x (-1 : Int32) w) fun r26 w25 =>
  some (r26, w25))
  else
  (bd1 (fC_X0_isBooth x p0 w) fun r4 =>
  if r4 = (0 : Int32) then
  (bd2 (fC_X0_refuse x (-2 : Int32) w) fun r22 w21 =>
  some (r22, w21))
  else
  (if (hvi w (x + 1) 24) = (40 : Int32) then
  (bd2 (fC_X0_refuse x (-5 : Int32) w) fun r18 w17 =>
  some (r18, w17))
  else
  (ck (bnd (hvi w (x + 1) 24) 40) <|
  st1 (siI w (x + 23) ((hvi w (x + 1) 24).toNatClampNeg) p0) fun w6 =>
  ck (bnd (hvi w6 (x + 1) 24) 40) <|
  st1 (siI w6 (x + 24) ((hvi w6 (x + 1) 24).toNatClampNeg) p1) fun w9 =>
  st1 (siI w9 (x + 1) 24 ((hvi w9 (x + 1) 24) + (1 : Int32))) fun w11 =>
  bd2 (fC_X0_told x ((hvi w11 (x + 1) 24) - (1 : Int32)) w11) fun r15 w14 =>
  some (r15, w14))))
def fC_X0_isBox (x : Nat) (p0 : Int32) (w : AH) : Option (Int32) :=
  bd1 (mC_X0_in p0 (0 : Int32) ((hvi w (x + 1) 24) - (1 : Int32))) fun r2 =>
  ck (isZ r2) <|
  some r2
def fC_X0_handed_149 (x : Nat) (w : AH) (k38 : Int32 → Int32 → Int32 → Int32 → Option Nat → Int32 → Int32 → Option (Option Nat)) (v1 : Int32) (v2 : Int32) (v3 : Int32) (v4 : Int32) (v5 : Option Nat) (v6 : Int32) (v7 : Int32) : Option (Option Nat) :=
  k38 v1 v2 v3 v4 v5 v6 (v7 + (1 : Int32))
def fC_X0_handed_145 (x : Nat) (w : AH) (k38 : Int32 → Int32 → Int32 → Int32 → Option Nat → Int32 → Int32 → Option (Option Nat)) (v1 : Int32) (v2 : Int32) (v3 : Int32) (v4 : Int32) (v6 : Int32) (v7 : Int32) (v8 : Nat) : Option (Option Nat) :=
  fC_X0_handed_149 x w k38 v1 v2 v3 v4 (some v8) v6 v7
def fC_X0_handed_127 (x : Nat) (w : AH) (k38 : Int32 → Int32 → Int32 → Int32 → Option Nat → Int32 → Int32 → Option (Option Nat)) (v1 : Int32) (v2 : Int32) (v3 : Int32) (v4 : Int32) (v5 : Option Nat) (v6 : Int32) (v7 : Int32) (v8 : Nat) : Option (Option Nat) :=
  if v5 = none then
  (fC_X0_handed_145 x w k38 v1 v2 v3 v4 v6 v7 v8)
  else
  (ck (kIn (hkd w v8).1 [14]) <|
  bd1 v5 fun b2 =>
  ck (kIn (hkd w b2).1 [14]) <|
  if (hvi w v8 2) < (hvi w b2 2) then
  (fC_X0_handed_149 x w k38 v1 v2 v3 v4 (some b2) v6 v7)
  else
  (fC_X0_handed_145 x w k38 v1 v2 v3 v4 v6 v7 v8))
def fC_X0_handed_38 (x : Nat) (w : AH) (k38 : Int32 → Int32 → Int32 → Int32 → Option Nat → Int32 → Int32 → Option (Option Nat)) (v1 : Int32) (v2 : Int32) (v3 : Int32) (v4 : Int32) (v5 : Option Nat) (v6 : Int32) (v7 : Int32) : Option (Option Nat) :=
  bd1 (mC_J2_size (x + 8) w) fun r2 =>
  if r2 ≤ v7 then
  (some v5)
  else
  (bd1 (mC_J2_get (x + 8) v7 w) fun r4 =>
  ck (kIn (hkd w r4).1 [14]) <|
  if (hvi w r4 0) = v1 then
  (if v3 < (hvi w r4 4) then
  (fC_X0_handed_149 x w k38 v1 v2 v3 v4 v5 v6 v7)
  else
  (if v2 < (hvi w r4 2) then
  (fC_X0_handed_149 x w k38 v1 v2 v3 v4 v5 v6 v7)
  else
  (if v6 < (hvi w r4 2) then
  (fC_X0_handed_149 x w k38 v1 v2 v3 v4 v5 v6 v7)
  else
  (if (hvi w r4 2) = v6 then
  (if v7 < v4 then
  (fC_X0_handed_127 x w k38 v1 v2 v3 v4 v5 v6 v7 r4)
  else
  (fC_X0_handed_149 x w k38 v1 v2 v3 v4 v5 v6 v7))
  else
  (fC_X0_handed_127 x w k38 v1 v2 v3 v4 v5 v6 v7 r4)))))
  else
  (fC_X0_handed_149 x w k38 v1 v2 v3 v4 v5 v6 v7))
def fC_X0_handed_33 (x : Nat) (w : AH) (v1 : Int32) (v2 : Int32) (v3 : Int32) (v4 : Int32) (v5 : Option Nat) (t0 : Int32) : Option (Option Nat) :=
  lq7 (fC_X0_handed_38 x w) LF v1 v2 v3 v4 v5 t0 (0 : Int32)
def fC_X0_handed (x : Nat) (p0 : Int32) (p1 : Int32) (p2 : Int32) (p3 : Int32) (w : AH) : Option (Option Nat) :=
  if p3 = (-1 : Int32) then
  (fC_X0_handed_33 x w p0 p1 p2 p3 none (400 : Int32))
  else
  (bd1 (mC_J2_get (x + 8) p3 w) fun r2 =>
  ck (kIn (hkd w r2).1 [14]) <|
  fC_X0_handed_33 x w p0 p1 p2 p3 none (hvi w r2 2))
def fC_X0_held (x : Nat) (p0 : Int32) (p1 : Int32) (p2 : Int32) (w : AH) : Option (Int32) :=
  bd1 (fC_X0_isBox x p0 w) fun r2 =>
  if r2 = (0 : Int32) then
  (some (-1 : Int32))
  else
  (bd1 (mC_X0_isDay p1) fun r4 =>
  if r4 = (0 : Int32) then
  (some (-1 : Int32))
  else
  (bd1 (mC_X0_isDay p2) fun r6 =>
  if r6 = (0 : Int32) then
  (some (-1 : Int32))
  else
  (bd1 (fC_X0_handed x p0 p1 p2 (-1 : Int32) w) fun r8 =>
  if r8 = none then
  (some (-1 : Int32))
  else
  (bd1 r8 fun b9 =>
  ck (kIn (hkd w b9).1 [14]) <|
  some (hvi w b9 1)))))
def fC_X0_breaks_105 (x : Nat) (w : AH) (k5 : Int32 → Int32 → Int32 → Int32 → Option (Int32)) (v1 : Int32) (v2 : Int32) (v3 : Int32) (v4 : Int32) : Option (Int32) :=
  k5 v1 v2 v3 (v4 + (1 : Int32))
def fC_X0_breaks_102 (x : Nat) (w : AH) (k5 : Int32 → Int32 → Int32 → Int32 → Option (Int32)) (v1 : Int32) (v2 : Int32) (v4 : Int32) : Option (Int32) :=
  fC_X0_breaks_105 x w k5 v1 v2 v4 v4
def fC_X0_breaks_5 (x : Nat) (w : AH) (k5 : Int32 → Int32 → Int32 → Int32 → Option (Int32)) (v1 : Int32) (v2 : Int32) (v3 : Int32) (v4 : Int32) : Option (Int32) :=
  bd1 (mC_J2_size (x + 8) w) fun r2 =>
  if r2 ≤ v4 then
  (some v3)
  else
  (bd1 (mC_J2_get (x + 8) v4 w) fun r4 =>
  ck (kIn (hkd w r4).1 [14]) <|
  if (hvi w r4 0) = v1 then
  (if v2 < (hvi w r4 4) then
  (fC_X0_breaks_105 x w k5 v1 v2 v3 v4)
  else
  (ck (bnd v1 40) <|
  if (hvi w r4 3) = (hvi w (x + 24) (v1.toNatClampNeg)) then
  (fC_X0_breaks_105 x w k5 v1 v2 v3 v4)
  else
  (if v3 = (-1 : Int32) then
  (fC_X0_breaks_102 x w k5 v1 v2 v4)
  else
  (bd1 (mC_J2_get (x + 8) v3 w) fun r8 =>
  ck (kIn (hkd w r8).1 [14]) <|
  if (hvi w r8 2) ≤ (hvi w r4 2) then
  (fC_X0_breaks_105 x w k5 v1 v2 v3 v4)
  else
  (fC_X0_breaks_102 x w k5 v1 v2 v4)))))
  else
  (fC_X0_breaks_105 x w k5 v1 v2 v3 v4))
def fC_X0_breaks (x : Nat) (p0 : Int32) (p1 : Int32) (w : AH) : Option (Int32) :=
  lq4 (fC_X0_breaks_5 x w) LF p0 p1 (-1 : Int32) (0 : Int32)
def fC_X0_broken (x : Nat) (p0 : Int32) (p1 : Int32) (p2 : Int32) (w : AH) : Option (Int32) :=
  bd1 (fC_X0_isBox x p0 w) fun r2 =>
  if r2 = (0 : Int32) then
  (some (-1 : Int32))
  else
  (bd1 (mC_X0_isDay p1) fun r4 =>
  if r4 = (0 : Int32) then
  (some (-1 : Int32))
  else
  (bd1 (mC_X0_in p2 (0 : Int32) (2 : Int32)) fun r6 =>
  if r6 = (0 : Int32) then
  (some (-1 : Int32))
  else
  (bd1 (fC_X0_breaks x p0 p1 w) fun r8 =>
  if r8 = (-1 : Int32) then
  (some (-1 : Int32))
  else
  (if p2 = (1 : Int32) then
  (bd1 (fC_X0_handed x p0 (400 : Int32) p1 r8 w) fun r10 =>
  if r10 = none then
  (some (-1 : Int32))
  else
  (bd1 r10 fun b11 =>
  ck (kIn (hkd w b11).1 [14]) <|
  some (hvi w b11 1)))
  else
  (if p2 = (0 : Int32) then
  (bd1 (mC_J2_get (x + 8) r8 w) fun r18 =>
  ck (kIn (hkd w r18).1 [14]) <|
  some (hvi w r18 1))
  else
  (bd1 (mC_J2_get (x + 8) r8 w) fun r15 =>
  ck (kIn (hkd w r15).1 [14]) <|
  some (hvi w r15 2)))))))
def fC_X6_empties_26 (x : Nat) (k26 : Int32 → Int32 → AH → Option (AH)) (v1 : Int32) (v2 : Int32) (w : AH) : Option (AH) :=
  if (8 : Int32) ≤ v2 then
  (ck (bnd v1 20) <|
  st1 (siI w (x + 54) (v1.toNatClampNeg) (0 : Int32)) fun w2 =>
  ck (bnd v1 20) <|
  st1 (siI w2 (x + 57) (v1.toNatClampNeg) (0 : Int32)) fun w5 =>
  some w5)
  else
  (ck (bnd (((8 : Int32) * v1) + v2) 160) <|
  st1 (siI w (x + 55) ((((8 : Int32) * v1) + v2).toNatClampNeg) (0 : Int32)) fun w8 =>
  k26 v1 (v2 + (1 : Int32)) w8)
def fC_X6_empties_2 (x : Nat) (k2 : Int32 → Int32 → AH → Option (AH)) (v1 : Int32) (v2 : Int32) (w : AH) : Option (AH) :=
  if (4 : Int32) ≤ v2 then
  (lq3 (fC_X6_empties_26 x) LF v1 (0 : Int32) w)
  else
  (ck (bnd (((4 : Int32) * v1) + v2) 80) <|
  st1 (siI w (x + 53) ((((4 : Int32) * v1) + v2).toNatClampNeg) (0 : Int32)) fun w2 =>
  k2 v1 (v2 + (1 : Int32)) w2)
def fC_X6_empties (x : Nat) (p0 : Int32) (w : AH) : Option (AH) :=
  lq3 (fC_X6_empties_2 x) LF p0 (0 : Int32) w
def fC_X6_isLast_118 (x : Nat) (w : AH) (k33 : Int32 → Nat → Int32 → Option (Int32)) (v2 : Int32) (v3 : Nat) (v4 : Int32) : Option (Int32) :=
  k33 v2 v3 (v4 + (1 : Int32))
def fC_X6_isLast_33 (x : Nat) (w : AH) (k33 : Int32 → Nat → Int32 → Option (Int32)) (v2 : Int32) (v3 : Nat) (v4 : Int32) : Option (Int32) :=
  bd1 (mC_J2_size (x + 12) w) fun r2 =>
  if r2 ≤ v4 then
  (some (1 : Int32))
  else
  (bd1 (mC_J2_get (x + 12) v4 w) fun r4 =>
  ck (kIn (hkd w r4).1 [14]) <|
  if v2 < (hvi w r4 3) then
  (fC_X6_isLast_118 x w k33 v2 v3 v4)
  else
  (ck (kIn (hkd w v3).1 [14]) <|
  if (hvi w r4 0) = (hvi w v3 0) then
  (if (hvi w r4 1) = (hvi w v3 1) then
  (if (hvi w r4 2) = (hvi w v3 2) then
  (some (0 : Int32))
  else
  (fC_X6_isLast_118 x w k33 v2 v3 v4))
  else
  (fC_X6_isLast_118 x w k33 v2 v3 v4))
  else
  (fC_X6_isLast_118 x w k33 v2 v3 v4)))
def fC_X6_isLast (x : Nat) (p0 : Int32) (p1 : Int32) (w : AH) : Option (Int32) :=
  bd1 (mC_J2_get (x + 12) p0 w) fun r2 =>
  ck (kIn (hkd w r2).1 [14]) <|
  if (hvi w r2 3) ≤ p1 then
  (lq3 (fC_X6_isLast_33 x w) LF p1 r2 (p0 + (1 : Int32)))
  else
  (some (0 : Int32))
def fC_X6_lost (x : Nat) (p0 : Int32) (w : AH) : Option (Int32) :=
  ck (bnd (((4 : Int32) * p0) + (1 : Int32)) 80) <|
  ck (bnd p0 20) <|
  ck (bnd (((4 : Int32) * p0) + (2 : Int32)) 80) <|
  some (((hvi w (x + 53) ((((4 : Int32) * p0) + (1 : Int32)).toNatClampNeg)) - (hvi w (x + 54) (p0.toNatClampNeg))) - (hvi w (x + 53) ((((4 : Int32) * p0) + (2 : Int32)).toNatClampNeg)))
def fC_X6_asksAll_193 (x : Nat) (k152 : Int32 → Int32 → AH → Option (AH)) (v1 : Int32) (v2 : Int32) (t0 : Int32) (t1 : Int32) (w : AH) : Option (AH) :=
  ck (bnd t1 200) <|
  ck (isZ t0) <|
  st1 (siI w (x + 58) (t1.toNatClampNeg) t0) fun w3 =>
  k152 v1 (v2 + (1 : Int32)) w3
def fC_X6_asksAll_152 (x : Nat) (k152 : Int32 → Int32 → AH → Option (AH)) (v1 : Int32) (v2 : Int32) (w : AH) : Option (AH) :=
  if (10 : Int32) ≤ v2 then
  (bd2 (fC_X0_last x (4 : Int32) (0 : Int32) (hvi w (x + 52) 6) w) fun r3 w2 =>
  if r3 = (-4000000000 : Int64) then
  (ck (bnd v1 20) <|
  st1 (siI w2 (x + 56) (v1.toNatClampNeg) (0 : Int32)) fun w5 =>
  some w5)
  else
  (ck (bnd v1 20) <|
  st1 (siI w2 (x + 56) (v1.toNatClampNeg) (1 : Int32)) fun w8 =>
  some w8))
  else
  (bd2 (fC_X0_last x (3 : Int32) v2 (hvi w (x + 52) 6) w) fun r13 w12 =>
  if r13 = (-4000000000 : Int64) then
  (fC_X6_asksAll_193 x k152 v1 v2 (0 : Int32) (((10 : Int32) * v1) + v2) w12)
  else
  (fC_X6_asksAll_193 x k152 v1 v2 (1 : Int32) (((10 : Int32) * v1) + v2) w12))
def fC_X6_asksAll (x : Nat) (p0 : Int32) (w : AH) : Option (AH) :=
  ck (bnd p0 20) <|
  bd1 (fC_X0_asksPlace x (hvi w (x + 22) (p0.toNatClampNeg)) (hvi w (x + 52) 6) w) fun w3 =>
  ck (bnd ((4 : Int32) * p0) 80) <|
  ck (bnd (6 : Int32) 11) <|
  st1 (siL w3 (x + 37) 6 ((hvi w3 (x + 53) (((4 : Int32) * p0).toNatClampNeg)).toInt64)) fun w6 =>
  ck (bnd (((4 : Int32) * p0) + (1 : Int32)) 80) <|
  ck (bnd (7 : Int32) 11) <|
  st1 (siL w6 (x + 37) 7 ((hvi w6 (x + 53) ((((4 : Int32) * p0) + (1 : Int32)).toNatClampNeg)).toInt64)) fun w10 =>
  ck (bnd p0 20) <|
  ck (bnd (8 : Int32) 11) <|
  st1 (siL w10 (x + 37) 8 ((hvi w10 (x + 54) (p0.toNatClampNeg)).toInt64)) fun w14 =>
  ck (bnd (((4 : Int32) * p0) + (2 : Int32)) 80) <|
  ck (bnd (9 : Int32) 11) <|
  st1 (siL w14 (x + 37) 9 ((hvi w14 (x + 53) ((((4 : Int32) * p0) + (2 : Int32)).toNatClampNeg)).toInt64)) fun w18 =>
  bd1 (fC_X6_lost x p0 w18) fun r21 =>
  ck (bnd (10 : Int32) 11) <|
  st1 (siL w18 (x + 37) 10 (r21.toInt64)) fun w23 =>
  ck (bnd p0 20) <|
  ck (bnd (4 : Int32) 5) <|
  ck (isZ (hvi w23 (x + 57) (p0.toNatClampNeg))) <|
  st1 (siI w23 (x + 38) 4 (hvi w23 (x + 57) (p0.toNatClampNeg))) fun w28 =>
  lq3 (fC_X6_asksAll_152 x) LF p0 (0 : Int32) w28
def fC_X6_looks_447 (x : Nat) (k334 : Int32 → Int32 → AH → Option (AH)) (v2 : Int32) (v3 : Int32) (w : AH) : Option (AH) :=
  k334 v2 (v3 + (1 : Int32)) w
def fC_X6_looks_334 (x : Nat) (k334 : Int32 → Int32 → AH → Option (AH)) (v2 : Int32) (v3 : Int32) (w : AH) : Option (AH) :=
  bd1 (mC_J2_size (x + 12) w) fun r2 =>
  if r2 ≤ v3 then
  (some w)
  else
  (bd1 (mC_J2_get (x + 12) v3 w) fun r4 =>
  ck (kIn (hkd w r4).1 [14]) <|
  ck (bnd (hvi w r4 0) 40) <|
  bd1 (fC_X6_isLast x v3 v2 w) fun r8 =>
  if r8 = (0 : Int32) then
  (fC_X6_looks_447 x k334 v2 v3 w)
  else
  (ck (bnd (((10 : Int32) * (hvi w (x + 23) ((hvi w r4 0).toNatClampNeg))) + (hvi w r4 2)) 200) <|
  if (hvi w (x + 58) ((((10 : Int32) * (hvi w (x + 23) ((hvi w r4 0).toNatClampNeg))) + (hvi w r4 2)).toNatClampNeg)) = (0 : Int32) then
  (ck (bnd (((8 : Int32) * (hvi w (x + 23) ((hvi w r4 0).toNatClampNeg))) + (hvi w r4 1)) 160) <|
  ck (bnd v3 200) <|
  st1 (siI w (x + 55) ((((8 : Int32) * (hvi w (x + 23) ((hvi w r4 0).toNatClampNeg))) + (hvi w r4 1)).toNatClampNeg) ((hvi w (x + 55) ((((8 : Int32) * (hvi w (x + 23) ((hvi w r4 0).toNatClampNeg))) + (hvi w r4 1)).toNatClampNeg)) + (hvi w (x + 25) (v3.toNatClampNeg)))) fun w12 =>
  fC_X6_looks_447 x k334 v2 v3 w12)
  else
  (fC_X6_looks_447 x k334 v2 v3 w)))
def fC_X6_looks_307 (x : Nat) (k307 : Int32 → Int32 → AH → Option (AH)) (v2 : Int32) (v3 : Int32) (w : AH) : Option (AH) :=
  if (hvi w (x + 1) 23) ≤ v3 then
  (lq3 (fC_X6_looks_334 x) LF v2 (0 : Int32) w)
  else
  (bd1 (fC_X6_asksAll x v3 w) fun w2 =>
  k307 v2 (v3 + (1 : Int32)) w2)
def fC_X6_looks_299 (x : Nat) (k222 : Int32 → Int32 → AH → Option (AH)) (v2 : Int32) (v3 : Int32) (w : AH) : Option (AH) :=
  k222 v2 (v3 + (1 : Int32)) w
def fC_X6_looks_222 (x : Nat) (k222 : Int32 → Int32 → AH → Option (AH)) (v2 : Int32) (v3 : Int32) (w : AH) : Option (AH) :=
  bd1 (mC_J2_size (x + 12) w) fun r2 =>
  if r2 ≤ v3 then
  (lq3 (fC_X6_looks_307 x) LF v2 (0 : Int32) w)
  else
  (bd1 (fC_X6_isLast x v3 v2 w) fun r4 =>
  if r4 = (0 : Int32) then
  (fC_X6_looks_299 x k222 v2 v3 w)
  else
  (bd1 (mC_J2_get (x + 12) v3 w) fun r6 =>
  ck (kIn (hkd w r6).1 [14]) <|
  ck (bnd (hvi w r6 0) 40) <|
  ck (bnd (hvi w (x + 23) ((hvi w r6 0).toNatClampNeg)) 20) <|
  ck (bnd v3 200) <|
  st1 (siI w (x + 54) ((hvi w (x + 23) ((hvi w r6 0).toNatClampNeg)).toNatClampNeg) ((hvi w (x + 54) ((hvi w (x + 23) ((hvi w r6 0).toNatClampNeg)).toNatClampNeg)) + (hvi w (x + 25) (v3.toNatClampNeg)))) fun w11 =>
  fC_X6_looks_299 x k222 v2 v3 w11))
def fC_X6_looks_214 (x : Nat) (k169 : Int32 → Int32 → AH → Option (AH)) (v2 : Int32) (v3 : Int32) (w : AH) : Option (AH) :=
  k169 v2 (v3 + (1 : Int32)) w
def fC_X6_looks_169 (x : Nat) (k169 : Int32 → Int32 → AH → Option (AH)) (v2 : Int32) (v3 : Int32) (w : AH) : Option (AH) :=
  if (hvi w (x + 1) 24) ≤ v3 then
  (lq3 (fC_X6_looks_222 x) LF v2 (0 : Int32) w)
  else
  (bd1 (fC_X0_breaks x v3 v2 w) fun r2 =>
  if r2 = (-1 : Int32) then
  (fC_X6_looks_214 x k169 v2 v3 w)
  else
  (ck (bnd v3 40) <|
  ck (bnd (hvi w (x + 23) (v3.toNatClampNeg)) 20) <|
  st1 (siI w (x + 57) ((hvi w (x + 23) (v3.toNatClampNeg)).toNatClampNeg) (1 : Int32)) fun w5 =>
  fC_X6_looks_214 x k169 v2 v3 w5))
def fC_X6_looks_161 (x : Nat) (k93 : Int32 → Int32 → AH → Option (AH)) (v2 : Int32) (v3 : Int32) (w : AH) : Option (AH) :=
  k93 v2 (v3 + (1 : Int32)) w
def fC_X6_looks_93 (x : Nat) (k93 : Int32 → Int32 → AH → Option (AH)) (v2 : Int32) (v3 : Int32) (w : AH) : Option (AH) :=
  bd1 (mC_J2_size (x + 10) w) fun r2 =>
  if r2 ≤ v3 then
  (lq3 (fC_X6_looks_169 x) LF v2 (0 : Int32) w)
  else
  (bd1 (mC_J2_get (x + 10) v3 w) fun r4 =>
  ck (kIn (hkd w r4).1 [14]) <|
  if v2 < (hvi w r4 3) then
  (fC_X6_looks_161 x k93 v2 v3 w)
  else
  (ck (bnd (((4 : Int32) * (hvi w r4 0)) + (hvi w r4 1)) 80) <|
  st1 (siI w (x + 53) ((((4 : Int32) * (hvi w r4 0)) + (hvi w r4 1)).toNatClampNeg) (hvi w r4 2)) fun w7 =>
  fC_X6_looks_161 x k93 v2 v3 w7))
def fC_X6_looks_66 (x : Nat) (k66 : Int32 → Int32 → AH → Option (AH)) (v2 : Int32) (v3 : Int32) (w : AH) : Option (AH) :=
  if (hvi w (x + 1) 23) ≤ v3 then
  (lq3 (fC_X6_looks_93 x) LF v2 (0 : Int32) w)
  else
  (bd1 (fC_X6_empties x v3 w) fun w2 =>
  k66 v2 (v3 + (1 : Int32)) w2)
def fC_X6_looks_43 (x : Nat) (v1 : Int32) (v2 : Int32) (w : AH) : Option (AH) :=
  st1 (siI w (x + 52) 6 v1) fun w1 =>
  st1 (siI w1 (x + 52) 7 v2) fun w3 =>
  st1 (siI w3 (x + 52) 8 (hvi w3 x 1)) fun w5 =>
  lq3 (fC_X6_looks_66 x) LF v2 (0 : Int32) w5
def fC_X6_looks (x : Nat) (p0 : Int32) (p1 : Int32) (w : AH) : Option (AH) :=
  bd1 (fC_X5_looks x p0 p1 w) fun w2 =>
  if (hvi w2 (x + 52) 6) = p0 then
  (if (hvi w2 (x + 52) 7) = p1 then
  (if (hvi w2 (x + 52) 8) = (hvi w2 x 1) then
  (some w2)
  else
  (fC_X6_looks_43 x p0 p1 w2))
  else
  (fC_X6_looks_43 x p0 p1 w2))
  else
  (fC_X6_looks_43 x p0 p1 w2)
def fC_X6_validOf_4 (x : Nat) (w : AH) (k4 : Int32 → Int32 → Int32 → Option (Int32)) (v1 : Int32) (v2 : Int32) (v3 : Int32) : Option (Int32) :=
  if (8 : Int32) ≤ v3 then
  (some v2)
  else
  (ck (bnd (((8 : Int32) * v1) + v3) 160) <|
  k4 v1 (v2 + (hvi w (x + 55) ((((8 : Int32) * v1) + v3).toNatClampNeg))) (v3 + (1 : Int32)))
def fC_X6_validOf (x : Nat) (p0 : Int32) (w : AH) : Option (Int32) :=
  lq3 (fC_X6_validOf_4 x w) LF p0 (0 : Int32) (0 : Int32)
def fC_X0_tells (x : Nat) (p0 : Int32) (p1 : Int32) (p2 : Int32) (p3 : Int32) (w : AH) : Option (Int32 × AH) :=
  bd1 (fC_X0_isBooth x p0 w) fun r2 =>
  if r2 = (0 : Int32) then
  (some ((-2000000000 : Int32), w))
  else
  (bd1 (mC_X0_isDay p1) fun r4 =>
  if r4 = (0 : Int32) then
  (some ((-2000000000 : Int32), w))
  else
  (bd1 (mC_X0_isDay p2) fun r6 =>
  if r6 = (0 : Int32) then
  (some ((-2000000000 : Int32), w))
  else
  (bd1 (mC_X0_in p3 (0 : Int32) (8 : Int32)) fun r8 =>
  if r8 = (0 : Int32) then
  (some ((-2000000000 : Int32), w))
  else
  (bd1 (fC_X6_looks x p1 p2 w) fun w10 =>
  if (4 : Int32) ≤ p3 then
  ((if p3 = (4 : Int32) then
  (ck (bnd p0 20) <|
  some ((hvi w10 (x + 54) (p0.toNatClampNeg)), w10))
  else if p3 = (5 : Int32) then
  (bd1 (fC_X6_lost x p0 w10) fun r13 =>
  some (r13, w10))
  else if p3 = (6 : Int32) then
  (ck (bnd ((4 : Int32) * p0) 80) <|
  ck (bnd (((4 : Int32) * p0) + (1 : Int32)) 80) <|
  ck (bnd (((4 : Int32) * p0) + (3 : Int32)) 80) <|
  if (hvi w10 (x + 53) (((4 : Int32) * p0).toNatClampNeg)) = ((hvi w10 (x + 53) ((((4 : Int32) * p0) + (1 : Int32)).toNatClampNeg)) + (hvi w10 (x + 53) ((((4 : Int32) * p0) + (3 : Int32)).toNatClampNeg))) then
  (bd1 (fC_X6_lost x p0 w10) fun r18 =>
  if r18 = (0 : Int32) then
  (some ((1 : Int32), w10))
  else
  (some ((0 : Int32), w10)))
  else
  (some ((0 : Int32), w10)))
  else if p3 = (7 : Int32) then
  (ck (bnd p0 20) <|
  if (hvi w10 (x + 56) (p0.toNatClampNeg)) = (0 : Int32) then
  (some ((0 : Int32), w10))
  else
  (some ((1 : Int32), w10)))
  else (bd1 (fC_X6_validOf x p0 w10) fun r24 =>
  some (r24, w10))))
  else
  (ck (bnd (((4 : Int32) * p0) + p3) 80) <|
  some ((hvi w10 (x + 53) ((((4 : Int32) * p0) + p3).toNatClampNeg)), w10))))))
def fC_X0_keep_19 (x : Nat) (w : AH) : Option (Int32 × AH) :=
  bd2 (fC_X0_refuse x (-1 : Int32) w) fun r3 w2 =>
  some (r3, w2)
def fC_X0_keep (x : Nat) (p0 : Int32) (p1 : Int32) (w : AH) : Option (Int32 × AH) :=
  bd1 (mC_X0_in p0 (0 : Int32) (5 : Int32)) fun r2 =>
  if r2 = (0 : Int32) then
  (fC_X0_keep_19 x w)
  else
  (bd1 (mC_X0_in p1 (0 : Int32) (7 : Int32)) fun r4 =>
  if r4 = (0 : Int32) then
  (fC_X0_keep_19 x w)
  else
  (ck (bnd (((8 : Int32) * p0) + p1) 48) <|
  if (hvi w (x + 29) ((((8 : Int32) * p0) + p1).toNatClampNeg)) = (0 : Int32) then
  (st1 (siI w (x + 29) ((((8 : Int32) * p0) + p1).toNatClampNeg) (1 : Int32)) fun w6 =>
  bd2 (fC_X0_told x (0 : Int32) w6) fun r10 w9 =>
  some (r10, w9))
  else
  (bd2 (fC_X0_refuse x (-4 : Int32) w) fun r13 w12 =>
  some (r13, w12))))
def fC_X0_seatOf (x : Nat) (p0 : Int32) (w : AH) : Option (Int32) :=
  ck (bnd p0 20) <|
  ck (bnd (hvi w (x + 22) (p0.toNatClampNeg)) 16) <|
  some (hvi w (x + 14) ((hvi w (x + 22) (p0.toNatClampNeg)).toNatClampNeg))
def fC_X0_reckons_236 (x : Nat) (v3 : Int32) (v4 : Int32) (w : AH) : Option (AH) :=
  if (hvi w x 25) = (-1 : Int32) then
  (st1 (siI w x 26 (0 : Int32)) fun w3 =>
  some w3)
  else
  (st1 (siI w x 26 (v3 - v4)) fun w1 =>
  some w1)
def fC_X0_reckons_219 (x : Nat) (k142 : Int32 → Int32 → Int32 → Int32 → Int32 → AH → Option (AH)) (v1 : Int32) (v2 : Int32) (v3 : Int32) (v4 : Int32) (v5 : Int32) (w : AH) : Option (AH) :=
  k142 v1 v2 v3 v4 (v5 + (1 : Int32)) w
def fC_X0_reckons_174 (x : Nat) (k142 : Int32 → Int32 → Int32 → Int32 → Int32 → AH → Option (AH)) (v1 : Int32) (v2 : Int32) (v3 : Int32) (v4 : Int32) (v5 : Int32) (w : AH) : Option (AH) :=
  ck (bnd v5 8) <|
  if (hvi w (x + 59) (v5.toNatClampNeg)) ≤ v3 then
  (st1 (if v4 < (hvi w (x + 59) (v5.toNatClampNeg)) then (hvi w (x + 59) (v5.toNatClampNeg)) else v4) fun r2 =>
  fC_X0_reckons_219 x k142 v1 v2 v3 r2 v5 w)
  else
  (st1 (siI w x 25 v5) fun w3 =>
  fC_X0_reckons_219 x k142 v1 v2 (hvi w (x + 59) (v5.toNatClampNeg)) v3 v5 w3)
def fC_X0_reckons_142 (x : Nat) (k142 : Int32 → Int32 → Int32 → Int32 → Int32 → AH → Option (AH)) (v1 : Int32) (v2 : Int32) (v3 : Int32) (v4 : Int32) (v5 : Int32) (w : AH) : Option (AH) :=
  if (8 : Int32) ≤ v5 then
  (if v4 = v3 then
  (st1 (siI w x 25 (-1 : Int32)) fun w1 =>
  fC_X0_reckons_236 x v3 v4 w1)
  else
  (fC_X0_reckons_236 x v3 v4 w))
  else
  (if v2 = (0 : Int32) then
  (fC_X0_reckons_174 x k142 v1 v2 v3 v4 v5 w)
  else
  (ck (bnd (((8 : Int32) * v1) + v5) 48) <|
  if (hvi w (x + 29) ((((8 : Int32) * v1) + v5).toNatClampNeg)) = (0 : Int32) then
  (fC_X0_reckons_219 x k142 v1 v2 v3 v4 v5 w)
  else
  (fC_X0_reckons_174 x k142 v1 v2 v3 v4 v5 w)))
def fC_X0_reckons_122 (x : Nat) (k90 : Int32 → Int32 → Int32 → AH → Option (AH)) (v1 : Int32) (v3 : Int32) (t0 : Int32) (w : AH) : Option (AH) :=
  k90 v1 t0 (v3 + (1 : Int32)) w
def fC_X0_reckons_117 (x : Nat) (k90 : Int32 → Int32 → Int32 → AH → Option (AH)) (v1 : Int32) (v3 : Int32) (w : AH) : Option (AH) :=
  fC_X0_reckons_122 x k90 v1 v3 (1 : Int32) w
def fC_X0_reckons_90 (x : Nat) (k90 : Int32 → Int32 → Int32 → AH → Option (AH)) (v1 : Int32) (v2 : Int32) (v3 : Int32) (w : AH) : Option (AH) :=
  if (8 : Int32) ≤ v3 then
  (st1 (siI w x 25 (-1 : Int32)) fun w1 =>
  lq6 (fC_X0_reckons_142 x) LF v1 v2 (0 : Int32) (0 : Int32) (0 : Int32) w1)
  else
  (if v2 = (0 : Int32) then
  (ck (bnd (((8 : Int32) * v1) + v3) 48) <|
  if (hvi w (x + 29) ((((8 : Int32) * v1) + v3).toNatClampNeg)) = (0 : Int32) then
  (fC_X0_reckons_122 x k90 v1 v3 (0 : Int32) w)
  else
  (fC_X0_reckons_117 x k90 v1 v3 w))
  else
  (fC_X0_reckons_117 x k90 v1 v3 w))
def fC_X0_reckons_80 (x : Nat) (k23 : Int32 → Int32 → AH → Option (AH)) (v1 : Int32) (v2 : Int32) (w : AH) : Option (AH) :=
  k23 v1 (v2 + (1 : Int32)) w
def fC_X0_reckons_45 (x : Nat) (k23 : Int32 → Int32 → AH → Option (AH)) (k45 : Int32 → Int32 → Int32 → AH → Option (AH)) (v1 : Int32) (v2 : Int32) (v3 : Int32) (w : AH) : Option (AH) :=
  if (8 : Int32) ≤ v3 then
  (fC_X0_reckons_80 x k23 v1 v2 w)
  else
  (ck (bnd v3 8) <|
  ck (bnd (((8 : Int32) * v2) + v3) 160) <|
  st1 (siI w (x + 59) (v3.toNatClampNeg) ((hvi w (x + 59) (v3.toNatClampNeg)) + (hvi w (x + 55) ((((8 : Int32) * v2) + v3).toNatClampNeg)))) fun w3 =>
  k45 v1 v2 (v3 + (1 : Int32)) w3)
def fC_X0_reckons_23 (x : Nat) (k23 : Int32 → Int32 → AH → Option (AH)) (v1 : Int32) (v2 : Int32) (w : AH) : Option (AH) :=
  if (hvi w (x + 1) 23) ≤ v2 then
  (lq4 (fC_X0_reckons_90 x) LF v1 (0 : Int32) (0 : Int32) w)
  else
  (bd1 (fC_X0_seatOf x v2 w) fun r2 =>
  if r2 = v1 then
  (lq4 (fC_X0_reckons_45 x k23) LF v1 v2 (0 : Int32) w)
  else
  (fC_X0_reckons_80 x k23 v1 v2 w))
def fC_X0_reckons_2 (x : Nat) (k2 : Int32 → Int32 → AH → Option (AH)) (v1 : Int32) (v2 : Int32) (w : AH) : Option (AH) :=
  if (8 : Int32) ≤ v2 then
  (lq3 (fC_X0_reckons_23 x) LF v1 (0 : Int32) w)
  else
  (ck (bnd v2 8) <|
  st1 (siI w (x + 59) (v2.toNatClampNeg) (0 : Int32)) fun w2 =>
  k2 v1 (v2 + (1 : Int32)) w2)
def fC_X0_reckons (x : Nat) (p0 : Int32) (w : AH) : Option (AH) :=
  lq3 (fC_X0_reckons_2 x) LF p0 (0 : Int32) w
def fC_X0_doesHang_120 (x : Nat) (w : AH) (k7 : Int32 → Int32 → Int32 → Int32 → Option (Int32)) (v1 : Int32) (v2 : Int32) (v3 : Int32) (v4 : Int32) : Option (Int32) :=
  k7 v1 v2 v3 (v4 + (1 : Int32))
def fC_X0_doesHang_75 (x : Nat) (w : AH) (k25 : Int32 → Int32 → Int32 → Int32 → Int32 → Int32 → Option (Int32)) (v1 : Int32) (v2 : Int32) (v3 : Int32) (v4 : Int32) (v6 : Int32) (t0 : Int32) : Option (Int32) :=
  k25 v1 v2 v3 v4 t0 (v6 + (1 : Int32))
def fC_X0_doesHang_70 (x : Nat) (w : AH) (k25 : Int32 → Int32 → Int32 → Int32 → Int32 → Int32 → Option (Int32)) (v1 : Int32) (v2 : Int32) (v3 : Int32) (v4 : Int32) (v6 : Int32) : Option (Int32) :=
  fC_X0_doesHang_75 x w k25 v1 v2 v3 v4 v6 (1 : Int32)
def fC_X0_doesHang_74 (x : Nat) (w : AH) (k25 : Int32 → Int32 → Int32 → Int32 → Int32 → Int32 → Option (Int32)) (v1 : Int32) (v2 : Int32) (v3 : Int32) (v4 : Int32) (v6 : Int32) : Option (Int32) :=
  fC_X0_doesHang_75 x w k25 v1 v2 v3 v4 v6 (0 : Int32)
def fC_X0_doesHang_25 (x : Nat) (w : AH) (k7 : Int32 → Int32 → Int32 → Int32 → Option (Int32)) (k25 : Int32 → Int32 → Int32 → Int32 → Int32 → Int32 → Option (Int32)) (v1 : Int32) (v2 : Int32) (v3 : Int32) (v4 : Int32) (v5 : Int32) (v6 : Int32) : Option (Int32) :=
  if (hvi w (x + 1) 23) ≤ v6 then
  (if v5 = (0 : Int32) then
  (fC_X0_doesHang_120 x w k7 v1 v2 v3 v4)
  else
  (ck (bnd v4 16) <|
  if (hvi w (x + 14) (v4.toNatClampNeg)) = v1 then
  (ck (bnd v4 16) <|
  fC_X0_doesHang_120 x w k7 v1 (v2 + (hvi w (x + 42) (v4.toNatClampNeg))) (1 : Int32) v4)
  else
  (fC_X0_doesHang_120 x w k7 v1 v2 v3 v4)))
  else
  (if v5 = (0 : Int32) then
  (ck (bnd v6 20) <|
  if (hvi w (x + 22) (v6.toNatClampNeg)) = v4 then
  (ck (bnd v6 20) <|
  if (hvi w (x + 56) (v6.toNatClampNeg)) = (0 : Int32) then
  (fC_X0_doesHang_74 x w k25 v1 v2 v3 v4 v6)
  else
  (fC_X0_doesHang_70 x w k25 v1 v2 v3 v4 v6))
  else
  (fC_X0_doesHang_74 x w k25 v1 v2 v3 v4 v6))
  else
  (fC_X0_doesHang_70 x w k25 v1 v2 v3 v4 v6))
def fC_X0_doesHang_7 (x : Nat) (w : AH) (k7 : Int32 → Int32 → Int32 → Int32 → Option (Int32)) (v1 : Int32) (v2 : Int32) (v3 : Int32) (v4 : Int32) : Option (Int32) :=
  if (hvi w (x + 1) 22) ≤ v4 then
  (if v3 = (0 : Int32) then
  (some (0 : Int32))
  else
  (if v2 < (hvi w x 26) then
  (some (0 : Int32))
  else
  (some (1 : Int32))))
  else
  (lq6 (fC_X0_doesHang_25 x w k7) LF v1 v2 v3 v4 (0 : Int32) (0 : Int32))
def fC_X0_doesHang (x : Nat) (p0 : Int32) (w : AH) : Option (Int32) :=
  lq4 (fC_X0_doesHang_7 x w) LF p0 (0 : Int32) (0 : Int32) (0 : Int32)
def fC_X0_seat (x : Nat) (p0 : Int32) (p1 : Int32) (p2 : Int32) (p3 : Int32) (w : AH) : Option (Int32 × AH) :=
  bd1 (mC_X0_in p0 (0 : Int32) (5 : Int32)) fun r2 =>
  if r2 = (0 : Int32) then
  (some ((-2000000000 : Int32), w))
  else
  (bd1 (mC_X0_isDay p1) fun r4 =>
  if r4 = (0 : Int32) then
  (some ((-2000000000 : Int32), w))
  else
  (bd1 (mC_X0_isDay p2) fun r6 =>
  if r6 = (0 : Int32) then
  (some ((-2000000000 : Int32), w))
  else
  (bd1 (mC_X0_in p3 (0 : Int32) (10 : Int32)) fun r8 =>
  if r8 = (0 : Int32) then
  (some ((-2000000000 : Int32), w))
  else
  (bd1 (fC_X6_looks x p1 p2 w) fun w10 =>
  bd1 (fC_X0_reckons x p0 w10) fun w12 =>
  if (8 : Int32) ≤ p3 then
  (if p3 = (8 : Int32) then
  (some ((hvi w12 x 25), w12))
  else
  (if p3 = (9 : Int32) then
  (some ((hvi w12 x 26), w12))
  else
  (bd1 (fC_X0_doesHang x p0 w12) fun r14 =>
  if r14 = (0 : Int32) then
  (some ((0 : Int32), w12))
  else
  (some ((1 : Int32), w12)))))
  else
  (ck (bnd p3 8) <|
  some ((hvi w12 (x + 59) (p3.toNatClampNeg)), w12))))))
def fC_X0_mayTell_28 (x : Nat) (w : AH) (k5 : Int32 → Int32 → Int32 → Int32 → Option (Int32)) (v1 : Int32) (v2 : Int32) (v4 : Int32) (t0 : Int32) (t1 : Int32) : Option (Int32) :=
  k5 v1 v2 (t1 + t0) (v4 + (1 : Int32))
def fC_X0_mayTell_5 (x : Nat) (w : AH) (k5 : Int32 → Int32 → Int32 → Int32 → Option (Int32)) (v1 : Int32) (v2 : Int32) (v3 : Int32) (v4 : Int32) : Option (Int32) :=
  if (8 : Int32) ≤ v4 then
  (if v1 < v2 then
  (some (0 : Int32))
  else
  (if v3 < (2 : Int32) then
  (some (0 : Int32))
  else
  (some (1 : Int32))))
  else
  (ck (bnd v4 8) <|
  if (hvi w (x + 61) (v4.toNatClampNeg)) ≤ (0 : Int32) then
  (fC_X0_mayTell_28 x w k5 v1 v2 v4 (0 : Int32) v3)
  else
  (fC_X0_mayTell_28 x w k5 v1 v2 v4 (1 : Int32) v3))
def fC_X0_mayTell (x : Nat) (p0 : Int32) (p1 : Int32) (w : AH) : Option (Int32) :=
  lq4 (fC_X0_mayTell_5 x w) LF p0 p1 (0 : Int32) (0 : Int32)
def fC_X0_hides_215 (x : Nat) (k183 : Int32 → Int32 → Int32 → AH → Option (AH)) (v3 : Int32) (v4 : Int32) (v6 : Int32) (w : AH) : Option (AH) :=
  k183 v3 v4 (v6 + (1 : Int32)) w
def fC_X0_hides_183 (x : Nat) (k183 : Int32 → Int32 → Int32 → AH → Option (AH)) (v3 : Int32) (v4 : Int32) (v6 : Int32) (w : AH) : Option (AH) :=
  if (hvi w (x + 1) 23) ≤ v6 then
  (some w)
  else
  (ck (bnd v6 20) <|
  if (hvi w (x + 60) (v6.toNatClampNeg)) = v3 then
  (st1 (siI w (x + 60) (v6.toNatClampNeg) v4) fun w2 =>
  fC_X0_hides_215 x k183 v3 v4 v6 w2)
  else
  (fC_X0_hides_215 x k183 v3 v4 v6 w))
def fC_X0_hides_162 (x : Nat) (k11 : Int32 → Int32 → Int32 → Int32 → Int32 → Int32 → AH → Option (AH)) (v1 : Int32) (v2 : Int32) (v3 : Int32) (v4 : Int32) (v5 : Int32) (v6 : Int32) (w : AH) : Option (AH) :=
  k11 v1 v2 v3 v4 v5 (v6 + (1 : Int32)) w
def fC_X0_hides_105 (x : Nat) (k11 : Int32 → Int32 → Int32 → Int32 → Int32 → Int32 → AH → Option (AH)) (k105 : Int32 → Int32 → Int32 → Int32 → Int32 → Int32 → Int32 → AH → Option (AH)) (v1 : Int32) (v2 : Int32) (v3 : Int32) (v4 : Int32) (v5 : Int32) (v6 : Int32) (v7 : Int32) (w : AH) : Option (AH) :=
  if (8 : Int32) ≤ v7 then
  (bd1 (fC_X0_mayTell x v5 v2 w) fun r2 =>
  if r2 = (0 : Int32) then
  (fC_X0_hides_162 x k11 v1 v2 v3 v4 v5 v6 w)
  else
  (fC_X0_hides_162 x k11 v1 v2 (-1 : Int32) v3 v5 v6 w))
  else
  (ck (bnd v7 8) <|
  ck (bnd (((8 : Int32) * v6) + v7) 160) <|
  st1 (siI w (x + 61) (v7.toNatClampNeg) ((hvi w (x + 61) (v7.toNatClampNeg)) + (hvi w (x + 55) ((((8 : Int32) * v6) + v7).toNatClampNeg)))) fun w6 =>
  k105 v1 v2 v3 v4 v5 v6 (v7 + (1 : Int32)) w6)
def fC_X0_hides_79 (x : Nat) (k11 : Int32 → Int32 → Int32 → Int32 → Int32 → Int32 → AH → Option (AH)) (v1 : Int32) (v2 : Int32) (v3 : Int32) (v4 : Int32) (v5 : Int32) (v6 : Int32) (w : AH) : Option (AH) :=
  ck (bnd v6 20) <|
  st1 (siI w (x + 60) (v6.toNatClampNeg) v3) fun w2 =>
  ck (bnd v6 20) <|
  lq8 (fC_X0_hides_105 x k11) LF v1 v2 v3 v4 (v5 + (hvi w2 (x + 54) (v6.toNatClampNeg))) v6 (0 : Int32) w2
def fC_X0_hides_58 (x : Nat) (k11 : Int32 → Int32 → Int32 → Int32 → Int32 → Int32 → AH → Option (AH)) (k58 : Int32 → Int32 → Int32 → Int32 → Int32 → Int32 → Int32 → AH → Option (AH)) (v1 : Int32) (v2 : Int32) (v3 : Int32) (v4 : Int32) (v5 : Int32) (v6 : Int32) (v7 : Int32) (w : AH) : Option (AH) :=
  if (8 : Int32) ≤ v7 then
  (fC_X0_hides_79 x k11 v1 v2 v3 v4 v5 v6 w)
  else
  (ck (bnd v7 8) <|
  st1 (siI w (x + 61) (v7.toNatClampNeg) (0 : Int32)) fun w2 =>
  k58 v1 v2 v3 v4 v5 v6 (v7 + (1 : Int32)) w2)
def fC_X0_hides_11 (x : Nat) (k11 : Int32 → Int32 → Int32 → Int32 → Int32 → Int32 → AH → Option (AH)) (v1 : Int32) (v2 : Int32) (v3 : Int32) (v4 : Int32) (v5 : Int32) (v6 : Int32) (w : AH) : Option (AH) :=
  if (hvi w (x + 1) 23) ≤ v6 then
  (if v3 = (-1 : Int32) then
  (some w)
  else
  (if v4 = (-1 : Int32) then
  (some w)
  else
  (lq4 (fC_X0_hides_183 x) LF v3 v4 (0 : Int32) w)))
  else
  (ck (bnd v6 20) <|
  st1 (siI w (x + 60) (v6.toNatClampNeg) (-1 : Int32)) fun w4 =>
  bd1 (fC_X0_seatOf x v6 w4) fun r7 =>
  if r7 = v1 then
  (if v3 = (-1 : Int32) then
  (lq8 (fC_X0_hides_58 x k11) LF v1 v2 v6 v4 (0 : Int32) v6 (0 : Int32) w4)
  else
  (fC_X0_hides_79 x k11 v1 v2 v3 v4 v5 v6 w4))
  else
  (fC_X0_hides_162 x k11 v1 v2 v3 v4 v5 v6 w4))
def fC_X0_hides (x : Nat) (p0 : Int32) (p1 : Int32) (w : AH) : Option (AH) :=
  lq7 (fC_X0_hides_11 x) LF p0 p1 (-1 : Int32) (-1 : Int32) (0 : Int32) (0 : Int32) w
def fC_X0_hidden_143 (x : Nat) (k75 : Int32 → Int32 → Int32 → Int32 → Int32 → AH → Option (Int32 × AH)) (v1 : Int32) (v2 : Int32) (v5 : Int32) (v6 : Int32) (v7 : Int32) (w : AH) : Option (Int32 × AH) :=
  k75 v1 v2 v5 v6 (v7 + (1 : Int32)) w
def fC_X0_hidden_140 (x : Nat) (k75 : Int32 → Int32 → Int32 → Int32 → Int32 → AH → Option (Int32 × AH)) (v1 : Int32) (v2 : Int32) (v5 : Int32) (v7 : Int32) (t0 : Int32) (t1 : Int32) (w : AH) : Option (Int32 × AH) :=
  fC_X0_hidden_143 x k75 v1 v2 v5 (t1 + t0) v7 w
def fC_X0_hidden_75 (x : Nat) (k75 : Int32 → Int32 → Int32 → Int32 → Int32 → AH → Option (Int32 × AH)) (v1 : Int32) (v2 : Int32) (v5 : Int32) (v6 : Int32) (v7 : Int32) (w : AH) : Option (Int32 × AH) :=
  if (hvi w (x + 1) 23) ≤ v7 then
  (some (v6, w))
  else
  (ck (bnd v7 20) <|
  if (hvi w (x + 60) (v7.toNatClampNeg)) = (-1 : Int32) then
  (fC_X0_hidden_143 x k75 v1 v2 v5 v6 v7 w)
  else
  (ck (bnd v1 20) <|
  if (hvi w (x + 60) (v7.toNatClampNeg)) = (hvi w (x + 60) (v1.toNatClampNeg)) then
  (if v5 = (0 : Int32) then
  (ck (bnd (((8 : Int32) * v7) + v2) 160) <|
  fC_X0_hidden_140 x k75 v1 v2 v5 v7 (hvi w (x + 55) ((((8 : Int32) * v7) + v2).toNatClampNeg)) v6 w)
  else
  (fC_X0_hidden_140 x k75 v1 v2 v5 v7 (1 : Int32) v6 w))
  else
  (fC_X0_hidden_143 x k75 v1 v2 v5 v6 v7 w)))
def fC_X0_hidden (x : Nat) (p0 : Int32) (p1 : Int32) (p2 : Int32) (p3 : Int32) (p4 : Int32) (w : AH) : Option (Int32 × AH) :=
  bd1 (fC_X0_isBooth x p0 w) fun r2 =>
  if r2 = (0 : Int32) then
  (some ((-1 : Int32), w))
  else
  (bd1 (mC_X0_in p1 (0 : Int32) (7 : Int32)) fun r4 =>
  if r4 = (0 : Int32) then
  (some ((-1 : Int32), w))
  else
  (bd1 (mC_X0_isDay p2) fun r6 =>
  if r6 = (0 : Int32) then
  (some ((-1 : Int32), w))
  else
  (bd1 (mC_X0_isDay p3) fun r8 =>
  if r8 = (0 : Int32) then
  (some ((-1 : Int32), w))
  else
  (bd1 (mC_X0_in p4 (0 : Int32) (1 : Int32)) fun r10 =>
  if r10 = (0 : Int32) then
  (some ((-1 : Int32), w))
  else
  (bd1 (fC_X6_looks x p2 p3 w) fun w12 =>
  bd1 (fC_X0_seatOf x p0 w12) fun r14 =>
  bd2 (fC_X0_fewOn x p2 w12) fun r17 w16 =>
  bd1 (fC_X0_hides x r14 r17 w16) fun w19 =>
  lq6 (fC_X0_hidden_75 x) LF p0 p1 p4 (0 : Int32) (0 : Int32) w19)))))
def fC_X0_shares_296 (x : Nat) (k227 : Int32 → Int32 → Int32 → AH → Option (Int32 × AH)) (v2 : Int32) (v7 : Int32) (t0 : Int32) (t1 : Int32) (w : AH) : Option (Int32 × AH) :=
  k227 v2 (v7 + (-1 : Int32)) (t1 + t0) w
def fC_X0_shares_267 (x : Nat) (k238 : Int32 → Int32 → Int32 → Int32 → Int32 → AH → Option (Int32 × AH)) (v2 : Int32) (v7 : Int32) (v8 : Int32) (v9 : Int32) (v10 : Int32) (w : AH) : Option (Int32 × AH) :=
  k238 v2 v7 v8 v9 (v10 + (1 : Int32)) w
def fC_X0_shares_238 (x : Nat) (k227 : Int32 → Int32 → Int32 → AH → Option (Int32 × AH)) (k238 : Int32 → Int32 → Int32 → Int32 → Int32 → AH → Option (Int32 × AH)) (v2 : Int32) (v7 : Int32) (v8 : Int32) (v9 : Int32) (v10 : Int32) (w : AH) : Option (Int32 × AH) :=
  if (8 : Int32) ≤ v10 then
  (ck (bnd v9 8) <|
  st1 (siL w (x + 62) (v9.toNatClampNeg) (-1 : Int64)) fun w2 =>
  if v9 = v2 then
  (fC_X0_shares_296 x k227 v2 v7 (1 : Int32) v8 w2)
  else
  (fC_X0_shares_296 x k227 v2 v7 (0 : Int32) v8 w2))
  else
  (ck (bnd v10 8) <|
  ck (bnd v9 8) <|
  if (hvl w (x + 62) (v10.toNatClampNeg)) ≤ (hvl w (x + 62) (v9.toNatClampNeg)) then
  (fC_X0_shares_267 x k238 v2 v7 v8 v9 v10 w)
  else
  (fC_X0_shares_267 x k238 v2 v7 v8 v10 v10 w))
def fC_X0_shares_227 (x : Nat) (k227 : Int32 → Int32 → Int32 → AH → Option (Int32 × AH)) (v2 : Int32) (v7 : Int32) (v8 : Int32) (w : AH) : Option (Int32 × AH) :=
  if v7 ≤ (0 : Int32) then
  (some (v8, w))
  else
  (lq6 (fC_X0_shares_238 x k227) LF v2 v7 v8 (0 : Int32) (1 : Int32) w)
def fC_X0_shares_218 (x : Nat) (k152 : Int32 → Int32 → Int64 → Int32 → Int32 → Int32 → AH → Option (Int32 × AH)) (v1 : Int32) (v2 : Int32) (v5 : Int64) (v7 : Int32) (v9 : Int32) (t0 : Int32) (t1 : Int32) (w : AH) : Option (Int32 × AH) :=
  k152 v1 v2 v5 v7 (t1 + t0) (v9 + (1 : Int32)) w
def fC_X0_shares_152 (x : Nat) (k152 : Int32 → Int32 → Int64 → Int32 → Int32 → Int32 → AH → Option (Int32 × AH)) (v1 : Int32) (v2 : Int32) (v5 : Int64) (v7 : Int32) (v8 : Int32) (v9 : Int32) (w : AH) : Option (Int32 × AH) :=
  if (8 : Int32) ≤ v9 then
  (lq4 (fC_X0_shares_227 x) LF v2 v7 v8 w)
  else
  (ck (bnd v9 8) <|
  nzL v5 <|
  nzL v5 <|
  ck (bnd v9 8) <|
  st1 (siL w (x + 62) (v9.toNatClampNeg) ((v1.toInt64 * (hvi w (x + 59) (v9.toNatClampNeg)).toInt64) - (v1.toInt64 * (hvi w (x + 59) (v9.toNatClampNeg)).toInt64) / v5 * v5)) fun w5 =>
  if v9 = v2 then
  (fC_X0_shares_218 x k152 v1 v2 v5 (v7 - ((v1.toInt64 * (hvi w (x + 59) (v9.toNatClampNeg)).toInt64) / v5).toInt32) v9 (((v1.toInt64 * (hvi w (x + 59) (v9.toNatClampNeg)).toInt64) / v5).toInt32) v8 w5)
  else
  (fC_X0_shares_218 x k152 v1 v2 v5 (v7 - ((v1.toInt64 * (hvi w (x + 59) (v9.toNatClampNeg)).toInt64) / v5).toInt32) v9 (0 : Int32) v8 w5))
def fC_X0_shares_71 (x : Nat) (k53 : Int32 → Int32 → Int64 → Int32 → AH → Option (Int32 × AH)) (k71 : Int32 → Int32 → Int64 → Int32 → Int32 → AH → Option (Int32 × AH)) (v1 : Int32) (v2 : Int32) (v5 : Int64) (v7 : Int32) (v8 : Int32) (w : AH) : Option (Int32 × AH) :=
  if (hvi w (x + 1) 23) ≤ v8 then
  (ck (bnd v7 8) <|
  k53 v1 v2 (v5 + (hvi w (x + 59) (v7.toNatClampNeg)).toInt64) (v7 + (1 : Int32)) w)
  else
  (ck (bnd v7 8) <|
  ck (bnd (((8 : Int32) * v8) + v7) 160) <|
  st1 (siI w (x + 59) (v7.toNatClampNeg) ((hvi w (x + 59) (v7.toNatClampNeg)) + (hvi w (x + 55) ((((8 : Int32) * v8) + v7).toNatClampNeg)))) fun w4 =>
  k71 v1 v2 v5 v7 (v8 + (1 : Int32)) w4)
def fC_X0_shares_53 (x : Nat) (k53 : Int32 → Int32 → Int64 → Int32 → AH → Option (Int32 × AH)) (v1 : Int32) (v2 : Int32) (v5 : Int64) (v7 : Int32) (w : AH) : Option (Int32 × AH) :=
  if (8 : Int32) ≤ v7 then
  (if v5 = (0 : Int64) then
  (some ((-1 : Int32), w))
  else
  (lq7 (fC_X0_shares_152 x) LF v1 v2 v5 v1 (0 : Int32) (0 : Int32) w))
  else
  (ck (bnd v7 8) <|
  st1 (siI w (x + 59) (v7.toNatClampNeg) (0 : Int32)) fun w3 =>
  lq6 (fC_X0_shares_71 x k53) LF v1 v2 v5 v7 (0 : Int32) w3)
def fC_X0_shares (x : Nat) (p0 : Int32) (p1 : Int32) (p2 : Int32) (p3 : Int32) (w : AH) : Option (Int32 × AH) :=
  bd1 (mC_X0_in p0 (1 : Int32) (20 : Int32)) fun r2 =>
  if r2 = (0 : Int32) then
  (some ((-1 : Int32), w))
  else
  (bd1 (mC_X0_in p1 (0 : Int32) (7 : Int32)) fun r4 =>
  if r4 = (0 : Int32) then
  (some ((-1 : Int32), w))
  else
  (bd1 (mC_X0_isDay p2) fun r6 =>
  if r6 = (0 : Int32) then
  (some ((-1 : Int32), w))
  else
  (bd1 (mC_X0_isDay p3) fun r8 =>
  if r8 = (0 : Int32) then
  (some ((-1 : Int32), w))
  else
  (bd1 (fC_X6_looks x p2 p3 w) fun w10 =>
  lq5 (fC_X0_shares_53 x) LF p0 p1 (0 : Int64) (0 : Int32) w10))))
def fC_X0_terms_20 (x : Nat) (w : AH) : Option (Int32 × AH) :=
  bd2 (fC_X0_refuse x (-1 : Int32) w) fun r3 w2 =>
  some (r3, w2)
def fC_X0_terms (x : Nat) (p0 : Int32) (p1 : Int32) (w : AH) : Option (Int32 × AH) :=
  bd1 (mC_X0_in p0 (1 : Int32) (50 : Int32)) fun r2 =>
  if r2 = (0 : Int32) then
  (fC_X0_terms_20 x w)
  else
  (bd1 (mC_X0_in p1 (0 : Int32) (9 : Int32)) fun r4 =>
  if r4 = (0 : Int32) then
  (fC_X0_terms_20 x w)
  else
  (st1 (siI w (x + 1) 25 p0) fun w5 =>
  st1 (siI w5 (x + 1) 26 p1) fun w7 =>
  bd2 (fC_X0_done x (0 : Int32) w7) fun r11 w10 =>
  some (r11, w10)))
def fC_X0_span_18 (x : Nat) (w : AH) : Option (Int32 × AH) :=
  bd2 (fC_X0_refuse x (-1 : Int32) w) fun r3 w2 =>
  some (r3, w2)
def fC_X0_span (x : Nat) (p0 : Int32) (p1 : Int32) (p2 : Int32) (w : AH) : Option (Int32 × AH) :=
  bd1 (mC_X0_isDay p1) fun r2 =>
  if r2 = (0 : Int32) then
  (fC_X0_span_18 x w)
  else
  (bd1 (mC_X0_in p2 p1 (399 : Int32)) fun r4 =>
  if r4 = (0 : Int32) then
  (fC_X0_span_18 x w)
  else
  (bd1 (mC_X0_in p0 (0 : Int32) ((hvi w x 19) - (1 : Int32))) fun r6 =>
  if r6 = (0 : Int32) then
  (bd2 (fC_X0_refuse x (-2 : Int32) w) fun r18 w17 =>
  some (r18, w17))
  else
  (ck (bnd p0 7) <|
  st1 (siI w (x + 44) (p0.toNatClampNeg) p1) fun w8 =>
  ck (bnd p0 7) <|
  st1 (siI w8 (x + 45) (p0.toNatClampNeg) p2) fun w11 =>
  bd2 (fC_X0_done x (0 : Int32) w11) fun r15 w14 =>
  some (r15, w14))))
def fC_X0_daysOf (x : Nat) (p0 : Int32) (p1 : Int32) (w : AH) : Option (Int32) :=
  bd1 (fC_X1_far x p0 p1 w) fun r2 =>
  nzI (hvi w (x + 1) 25) <|
  ck (bnd p0 16) <|
  ck (bnd p1 16) <|
  if (hvi w (x + 14) (p0.toNatClampNeg)) = (hvi w (x + 14) (p1.toNatClampNeg)) then
  (some ((((r2 + (hvi w (x + 1) 25)) - (1 : Int32)) / (hvi w (x + 1) 25)) + (0 : Int32)))
  else
  (some ((((r2 + (hvi w (x + 1) 25)) - (1 : Int32)) / (hvi w (x + 1) 25)) + (hvi w (x + 1) 26)))
def fB_X0_goes_187 (x : Nat) (r_X0_goes : Int32 → Int32 → Int32 → Int32 → AH → Option (AH)) (k75 : Int32 → Int32 → Int32 → Int32 → Int32 → AH → Option (AH)) (v1 : Int32) (v2 : Int32) (v3 : Int32) (v4 : Int32) (v5 : Int32) (w : AH) : Option (AH) :=
  k75 v1 v2 v3 v4 (v5 + (1 : Int32)) w
def fB_X0_goes_75 (x : Nat) (r_X0_goes : Int32 → Int32 → Int32 → Int32 → AH → Option (AH)) (k75 : Int32 → Int32 → Int32 → Int32 → Int32 → AH → Option (AH)) (v1 : Int32) (v2 : Int32) (v3 : Int32) (v4 : Int32) (v5 : Int32) (w : AH) : Option (AH) :=
  if (hvi w x 19) ≤ v5 then
  (some w)
  else
  (if ((v2 >>> (v5 &&& 31)) &&& (1 : Int32)) = (1 : Int32) then
  (fB_X0_goes_187 x r_X0_goes k75 v1 v2 v3 v4 v5 w)
  else
  (ck (bnd v5 7) <|
  bd1 (fC_X0_daysOf x v3 (hvi w (x + 43) (v5.toNatClampNeg)) w) fun r3 =>
  ck (bnd v5 7) <|
  st1 (if (v4 + r3) < (hvi w (x + 44) (v5.toNatClampNeg)) then (hvi w (x + 44) (v5.toNatClampNeg)) else (v4 + r3)) fun r5 =>
  ck (bnd v5 7) <|
  if (hvi w (x + 45) (v5.toNatClampNeg)) < r5 then
  (fB_X0_goes_187 x r_X0_goes k75 v1 v2 v3 v4 v5 w)
  else
  (if r5 < (400 : Int32) then
  (ck (bnd v1 7) <|
  st1 (siI w (x + 63) (v1.toNatClampNeg) v5) fun w8 =>
  ck (bnd v1 7) <|
  st1 (siI w8 (x + 64) (v1.toNatClampNeg) r5) fun w11 =>
  ck (bnd v5 7) <|
  bd1 (r_X0_goes (v1 + (1 : Int32)) (v2 ||| ((1 : Int32) <<< (v5 &&& 31))) (hvi w11 (x + 43) (v5.toNatClampNeg)) (r5 + (1 : Int32)) w11) fun w15 =>
  fB_X0_goes_187 x r_X0_goes k75 v1 v2 v3 v4 v5 w15)
  else
  (fB_X0_goes_187 x r_X0_goes k75 v1 v2 v3 v4 v5 w))))
def fB_X0_goes_72 (x : Nat) (r_X0_goes : Int32 → Int32 → Int32 → Int32 → AH → Option (AH)) (v1 : Int32) (v2 : Int32) (v3 : Int32) (v4 : Int32) (w : AH) : Option (AH) :=
  lq6 (fB_X0_goes_75 x r_X0_goes) LF v1 v2 v3 v4 (0 : Int32) w
def fB_X0_goes_39 (x : Nat) (r_X0_goes : Int32 → Int32 → Int32 → Int32 → AH → Option (AH)) (v1 : Int32) (v2 : Int32) (v3 : Int32) (v4 : Int32) (w : AH) : Option (AH) :=
  st1 (siI w x 35 v1) fun w1 =>
  ck (cpOk (0 : Int32) v1 7 (0 : Int32) 7) <|
  st1 (hcpI w1 (x + 63) (0 : Int32).toNatClampNeg (x + 65) (0 : Int32).toNatClampNeg v1.toNatClampNeg) fun w4 =>
  ck (cpOk (0 : Int32) v1 7 (0 : Int32) 7) <|
  st1 (hcpI w4 (x + 64) (0 : Int32).toNatClampNeg (x + 66) (0 : Int32).toNatClampNeg v1.toNatClampNeg) fun w7 =>
  fB_X0_goes_72 x r_X0_goes v1 v2 v3 v4 w7
def fB_X0_goes (x : Nat) (r_X0_goes : Int32 → Int32 → Int32 → Int32 → AH → Option (AH)) (p0 : Int32) (p1 : Int32) (p2 : Int32) (p3 : Int32) (w : AH) : Option (AH) :=
  if (hvi w x 35) < p0 then
  (fB_X0_goes_39 x r_X0_goes p0 p1 p2 p3 w)
  else
  (if p0 = (hvi w x 35) then
  (if p0 ≤ (0 : Int32) then
  (fB_X0_goes_72 x r_X0_goes p0 p1 p2 p3 w)
  else
  (ck (bnd (p0 - (1 : Int32)) 7) <|
  ck (bnd (p0 - (1 : Int32)) 7) <|
  if (hvi w (x + 66) ((p0 - (1 : Int32)).toNatClampNeg)) ≤ (hvi w (x + 64) ((p0 - (1 : Int32)).toNatClampNeg)) then
  (fB_X0_goes_72 x r_X0_goes p0 p1 p2 p3 w)
  else
  (fB_X0_goes_39 x r_X0_goes p0 p1 p2 p3 w)))
  else
  (fB_X0_goes_72 x r_X0_goes p0 p1 p2 p3 w))
def fC_X0_goes (x : Nat) : Nat → Int32 → Int32 → Int32 → Int32 → AH → Option (AH)
  | 0 => fun _ _ _ _ _ => none
  | n + 1 => fB_X0_goes x (fC_X0_goes x n)
def fC_X0_way (x : Nat) (p0 : Int32) (p1 : Int32) (w : AH) : Option (Int32 × AH) :=
  bd1 (fC_X0_isPlace x p0 w) fun r2 =>
  if r2 = (0 : Int32) then
  (some ((-1 : Int32), w))
  else
  (bd1 (mC_X0_isDay p1) fun r4 =>
  if r4 = (0 : Int32) then
  (some ((-1 : Int32), w))
  else
  (bd1 (fC_X0_areThere x w) fun r6 =>
  if r6 = (0 : Int32) then
  (some ((-1 : Int32), w))
  else
  (st1 (siI w x 35 (0 : Int32)) fun w7 =>
  bd1 (fC_X0_goes x 200 (0 : Int32) (0 : Int32) p0 p1 w7) fun w10 =>
  st1 (siI w10 x 34 (hvi w10 x 35)) fun w11 =>
  some ((hvi w11 x 35), w11))))
def fC_X0_leg (x : Nat) (p0 : Int32) (p1 : Int32) (w : AH) : Option (Int32) :=
  if (hvi w x 34) = (-1 : Int32) then
  (some (-1 : Int32))
  else
  (bd1 (mC_X0_in p0 (0 : Int32) ((hvi w x 34) - (1 : Int32))) fun r2 =>
  if r2 = (0 : Int32) then
  (some (-1 : Int32))
  else
  (bd1 (mC_X0_in p1 (0 : Int32) (1 : Int32)) fun r4 =>
  if r4 = (0 : Int32) then
  (some (-1 : Int32))
  else
  (if p1 = (0 : Int32) then
  (ck (bnd p0 7) <|
  some (hvi w (x + 65) (p0.toNatClampNeg)))
  else
  (ck (bnd p0 7) <|
  some (hvi w (x + 66) (p0.toNatClampNeg))))))
def fC_X0_doors_83 (x : Nat) (w : AH) (k51 : Int32 → Int32 → Int32 → Int32 → Int32 → Int32 → Option (Int32)) (v1 : Int32) (v2 : Int32) (v3 : Int32) (v4 : Int32) (v5 : Int32) (v6 : Int32) : Option (Int32) :=
  k51 v1 v2 v3 v4 v5 (v6 + (1 : Int32))
def fC_X0_doors_51 (x : Nat) (w : AH) (k51 : Int32 → Int32 → Int32 → Int32 → Int32 → Int32 → Option (Int32)) (v1 : Int32) (v2 : Int32) (v3 : Int32) (v4 : Int32) (v5 : Int32) (v6 : Int32) : Option (Int32) :=
  if v1 < v6 then
  (some v5)
  else
  (bd1 (mC_X0_mayBe v1 v2 v3 v6) fun r2 =>
  if r2 = (0 : Int32) then
  (fC_X0_doors_83 x w k51 v1 v2 v3 v4 v5 v6)
  else
  (if v4 = (0 : Int32) then
  (some v6)
  else
  (fC_X0_doors_83 x w k51 v1 v2 v3 v4 v6 v6)))
def fC_X0_doors (x : Nat) (p0 : Int32) (p1 : Int32) (p2 : Int32) (p3 : Int32) (w : AH) : Option (Int32) :=
  bd1 (mC_X0_in p0 (1 : Int32) (60 : Int32)) fun r2 =>
  if r2 = (0 : Int32) then
  (some (-1 : Int32))
  else
  (st1 (if p0 < (12 : Int32) then p0 else (12 : Int32)) fun r3 =>
  bd1 (mC_X0_in p1 (1 : Int32) r3) fun r5 =>
  if r5 = (0 : Int32) then
  (some (-1 : Int32))
  else
  (bd1 (mC_X0_in p2 (0 : Int32) p1) fun r7 =>
  if r7 = (0 : Int32) then
  (some (-1 : Int32))
  else
  (bd1 (mC_X0_in p3 (0 : Int32) (1 : Int32)) fun r9 =>
  if r9 = (0 : Int32) then
  (some (-1 : Int32))
  else
  (lq6 (fC_X0_doors_51 x w) LF p0 p1 p2 p3 (-1 : Int32) (0 : Int32)))))
def fC_X0_isOf (x : Nat) (p0 : Int32) (p1 : Int32) (w : AH) : Option (Int32) :=
  bd1 (mC_J2_get (x + 12) p0 w) fun r2 =>
  ck (kIn (hkd w r2).1 [14]) <|
  ck (bnd (hvi w r2 0) 40) <|
  if (hvi w (x + 23) ((hvi w r2 0).toNatClampNeg)) = p1 then
  (some (1 : Int32))
  else
  (some (0 : Int32))
def fC_X0_adds_2_97 (x : Nat) (k17 : Int32 → Int32 → AH → Option (AH)) (v1 : Int32) (v2 : Int32) (w : AH) : Option (AH) :=
  k17 v1 (v2 + (1 : Int32)) w
def fC_X0_adds_2_17 (x : Nat) (k17 : Int32 → Int32 → AH → Option (AH)) (v1 : Int32) (v2 : Int32) (w : AH) : Option (AH) :=
  bd1 (mC_J2_size (x + 12) w) fun r2 =>
  if r2 ≤ v2 then
  (some w)
  else
  (bd1 (fC_X0_isOf x v2 v1 w) fun r4 =>
  if r4 = (0 : Int32) then
  (fC_X0_adds_2_97 x k17 v1 v2 w)
  else
  (st1 (siI w x 38 ((hvi w x 38) + (1 : Int32))) fun w5 =>
  ck (bnd v2 200) <|
  st1 (siL w5 x 36 ((hvl w5 x 36) + (hvi w5 (x + 25) (v2.toNatClampNeg)).toInt64)) fun w8 =>
  ck (bnd v2 200) <|
  st1 (siL w8 x 37 ((hvl w8 x 37) + ((hvi w8 x 38).toInt64 * (hvi w8 (x + 25) (v2.toNatClampNeg)).toInt64))) fun w11 =>
  fC_X0_adds_2_97 x k17 v1 v2 w11))
def fC_X0_adds_2 (x : Nat) (p0 : Int32) (w : AH) : Option (AH) :=
  st1 (siL w x 36 (0 : Int64)) fun w1 =>
  st1 (siL w1 x 37 (0 : Int64)) fun w3 =>
  st1 (siI w3 x 38 (0 : Int32)) fun w5 =>
  lq3 (fC_X0_adds_2_17 x) LF p0 (0 : Int32) w5
def fC_X0_seal (x : Nat) (p0 : Int32) (w : AH) : Option (Int32 × AH) :=
  bd1 (fC_X0_isBooth x p0 w) fun r2 =>
  if r2 = (0 : Int32) then
  (bd2 (fC_X0_refuse x (-2 : Int32) w) fun r19 w18 =>
  some (r19, w18))
  else
  (bd1 (fC_X0_adds_2 x p0 w) fun w4 =>
  ck (bnd p0 20) <|
  st1 (siI w4 (x + 26) (p0.toNatClampNeg) (hvi w4 x 38)) fun w6 =>
  ck (bnd p0 20) <|
  st1 (siL w6 (x + 27) (p0.toNatClampNeg) (hvl w6 x 36)) fun w9 =>
  ck (bnd p0 20) <|
  st1 (siL w9 (x + 28) (p0.toNatClampNeg) (hvl w9 x 37)) fun w12 =>
  bd2 (fC_X0_done x (hvi w12 x 38) w12) fun r16 w15 =>
  some (r16, w15))
def fC_X0_alter_35 (x : Nat) (w : AH) : Option (Int32 × AH) :=
  bd2 (fC_X0_refuse x (-2 : Int32) w) fun r3 w2 =>
  some (r3, w2)
def fC_X0_alter (x : Nat) (p0 : Int32) (p1 : Int32) (w : AH) : Option (Int32 × AH) :=
  bd1 (mC_X0_in p1 (1 : Int32) (255 : Int32)) fun r2 =>
  if r2 = (0 : Int32) then
  (bd2 (fC_X0_refuse x (-1 : Int32) w) fun r16 w15 =>
  some (r16, w15))
  else
  (if p0 < (0 : Int32) then
  (fC_X0_alter_35 x w)
  else
  (bd1 (mC_J2_size (x + 12) w) fun r4 =>
  if p0 < r4 then
  (ck (bnd p0 200) <|
  st1 (siI w (x + 25) (p0.toNatClampNeg) ((hvi w (x + 25) (p0.toNatClampNeg)) ^^^ p1)) fun w6 =>
  ck (bnd p0 200) <|
  bd2 (fC_X0_told x (hvi w6 (x + 25) (p0.toNatClampNeg)) w6) fun r11 w10 =>
  some (r11, w10))
  else
  (fC_X0_alter_35 x w)))
def fC_X0_found_151 (x : Nat) (k100 : Int32 → Int64 → Int64 → Int32 → Int32 → AH → Option (Int32 × AH)) (v1 : Int32) (v2 : Int64) (v4 : Int64) (v6 : Int32) (v7 : Int32) (w : AH) : Option (Int32 × AH) :=
  k100 v1 v2 v4 v6 (v7 + (1 : Int32)) w
def fC_X0_found_100 (x : Nat) (k100 : Int32 → Int64 → Int64 → Int32 → Int32 → AH → Option (Int32 × AH)) (v1 : Int32) (v2 : Int64) (v4 : Int64) (v6 : Int32) (v7 : Int32) (w : AH) : Option (Int32 × AH) :=
  bd1 (mC_J2_size (x + 12) w) fun r2 =>
  if r2 ≤ v7 then
  (some ((-2 : Int32), w))
  else
  (if v2 = (0 : Int64) then
  (some ((-2 : Int32), w))
  else
  (bd1 (fC_X0_isOf x v7 v1 w) fun r4 =>
  if r4 = (0 : Int32) then
  (fC_X0_found_151 x k100 v1 v2 v4 v6 v7 w)
  else
  (if ((v6 + (1 : Int32)).toInt64 * v2) = v4 then
  (some (v7, w))
  else
  (fC_X0_found_151 x k100 v1 v2 v4 (v6 + (1 : Int32)) v7 w))))
def fC_X0_found_94 (x : Nat) (v1 : Int32) (v2 : Int64) (v4 : Int64) (w : AH) : Option (Int32 × AH) :=
  lq6 (fC_X0_found_100 x) LF v1 v2 v4 (0 : Int32) (0 : Int32) w
def fC_X0_found (x : Nat) (p0 : Int32) (w : AH) : Option (Int32 × AH) :=
  bd1 (fC_X0_isBooth x p0 w) fun r2 =>
  if r2 = (0 : Int32) then
  (some ((-3 : Int32), w))
  else
  (ck (bnd p0 20) <|
  if (hvi w (x + 26) (p0.toNatClampNeg)) = (-1 : Int32) then
  (some ((-3 : Int32), w))
  else
  (bd1 (fC_X0_adds_2 x p0 w) fun w5 =>
  ck (bnd p0 20) <|
  if (hvi w5 x 38) = (hvi w5 (x + 26) (p0.toNatClampNeg)) then
  (ck (bnd p0 20) <|
  ck (bnd p0 20) <|
  if ((hvl w5 x 36) - (hvl w5 (x + 27) (p0.toNatClampNeg))) = (0 : Int64) then
  (if ((hvl w5 x 37) - (hvl w5 (x + 28) (p0.toNatClampNeg))) = (0 : Int64) then
  (some ((-1 : Int32), w5))
  else
  (fC_X0_found_94 x p0 ((hvl w5 x 36) - (hvl w5 (x + 27) (p0.toNatClampNeg))) ((hvl w5 x 37) - (hvl w5 (x + 28) (p0.toNatClampNeg))) w5))
  else
  (fC_X0_found_94 x p0 ((hvl w5 x 36) - (hvl w5 (x + 27) (p0.toNatClampNeg))) ((hvl w5 x 37) - (hvl w5 (x + 28) (p0.toNatClampNeg))) w5))
  else
  (some ((-2 : Int32), w5))))
def fC_X0_all (x : Nat) (p0 : Int32) (w : AH) : Option (Int32) :=
  (if p0 = (0 : Int32) then
  (some (hvi w (x + 1) 22))
  else if p0 = (1 : Int32) then
  (bd1 (mC_J2_size (x + 4) w) fun r2 =>
  some r2)
  else if p0 = (2 : Int32) then
  (bd1 (mC_J2_size (x + 2) w) fun r4 =>
  some r4)
  else if p0 = (3 : Int32) then
  (some (hvi w (x + 1) 23))
  else if p0 = (4 : Int32) then
  (some (hvi w (x + 1) 24))
  else if p0 = (5 : Int32) then
  (bd1 (mC_J2_size (x + 8) w) fun r6 =>
  some r6)
  else if p0 = (6 : Int32) then
  (bd1 (mC_J2_size (x + 12) w) fun r8 =>
  some r8)
  else if p0 = (7 : Int32) then
  (some (hvi w x 19))
  else if p0 = (8 : Int32) then
  (some (hvi w x 5))
  else (some (-1 : Int32)))
def fC_X0_status (x : Nat) (w : AH) : Option (Int32) :=
  some (hvi w x 0)
