def mC_J0_init (a : Nat) (w : AH) : Option (Unit) :=
  some ()
def mC_J1_init (a : Nat) (w : AH) : Option (AH) :=
  bd1 (mC_J0_init a w) fun r2 =>
  ck (kIn (hkd w a).1 [2]) <|
  st1 (siI w a 0 (0 : Int32)) fun w4 =>
  some w4
def mC_J2_init (a : Nat) (p0 : Int32) (w : AH) : Option (AH) :=
  bd1 (mC_J1_init a w) fun w2 =>
  if p0 ≤ (0 : Int32) then
  (if p0 = (0 : Int32) then
  (none)
  else
  (none))
  else
  (ck (naB w2 p0 4) <|
  st1 (hsz w2) fun b6 =>
  st1 (hnew w2 5 (p0.toNatClampNeg)) fun w8 =>
  ck (kIn (hkd w8 a).1 [2]) <|
  st1 (siR w8 a 1 (some b6)) fun w11 =>
  some w11)
def mC_X1_init (a : Nat) (w : AH) : Option (AH) :=
  ck (rmB w 3) <|
  st1 (hsz w) fun b2 =>
  st1 (hnew w 12 3) fun w4 =>
  bd1 (mC_J2_init b2 (4 : Int32) w4) fun w7 =>
  ck (kIn (hkd w7 a).1 [1]) <|
  st1 (siR w7 a 0 (some b2)) fun w9 =>
  ck (rmB w9 3) <|
  st1 (hsz w9) fun b12 =>
  st1 (hnew w9 12 3) fun w14 =>
  bd1 (mC_J2_init b12 (8 : Int32) w14) fun w17 =>
  ck (kIn (hkd w17 a).1 [1]) <|
  st1 (siR w17 a 1 (some b12)) fun w19 =>
  ck (rmB w19 3) <|
  st1 (hsz w19) fun b22 =>
  st1 (hnew w19 12 3) fun w24 =>
  bd1 (mC_J2_init b22 (4 : Int32) w24) fun w27 =>
  ck (kIn (hkd w27 a).1 [1]) <|
  st1 (siR w27 a 2 (some b22)) fun w29 =>
  ck (rmB w29 3) <|
  st1 (hsz w29) fun b32 =>
  st1 (hnew w29 12 3) fun w34 =>
  bd1 (mC_J2_init b32 (4 : Int32) w34) fun w37 =>
  ck (kIn (hkd w37 a).1 [1]) <|
  st1 (siR w37 a 3 (some b32)) fun w39 =>
  ck (rmB w39 3) <|
  st1 (hsz w39) fun b42 =>
  st1 (hnew w39 12 3) fun w44 =>
  bd1 (mC_J2_init b42 (4 : Int32) w44) fun w47 =>
  ck (kIn (hkd w47 a).1 [1]) <|
  st1 (siR w47 a 4 (some b42)) fun w49 =>
  ck (rmB w49 3) <|
  st1 (hsz w49) fun b52 =>
  st1 (hnew w49 12 3) fun w54 =>
  bd1 (mC_J2_init b52 (4 : Int32) w54) fun w57 =>
  ck (kIn (hkd w57 a).1 [1]) <|
  st1 (siR w57 a 5 (some b52)) fun w59 =>
  ck (naB w59 (16 : Int32) 4) <|
  st1 (hsz w59) fun b62 =>
  st1 (hnew w59 1 16) fun w64 =>
  ck (kIn (hkd w64 a).1 [1]) <|
  st1 (siR w64 a 6 (some b62)) fun w67 =>
  ck (naB w67 (16 : Int32) 4) <|
  st1 (hsz w67) fun b70 =>
  st1 (hnew w67 1 16) fun w72 =>
  ck (kIn (hkd w72 a).1 [1]) <|
  st1 (siR w72 a 7 (some b70)) fun w75 =>
  ck (naB w75 (16 : Int32) 4) <|
  st1 (hsz w75) fun b78 =>
  st1 (hnew w75 1 16) fun w80 =>
  ck (kIn (hkd w80 a).1 [1]) <|
  st1 (siR w80 a 8 (some b78)) fun w83 =>
  ck (naB w83 (200 : Int32) 4) <|
  st1 (hsz w83) fun b86 =>
  st1 (hnew w83 1 200) fun w88 =>
  ck (kIn (hkd w88 a).1 [1]) <|
  st1 (siR w88 a 9 (some b86)) fun w91 =>
  ck (naB w91 (200 : Int32) 4) <|
  st1 (hsz w91) fun b94 =>
  st1 (hnew w91 1 200) fun w96 =>
  ck (kIn (hkd w96 a).1 [1]) <|
  st1 (siR w96 a 10 (some b94)) fun w99 =>
  ck (naB w99 (200 : Int32) 4) <|
  st1 (hsz w99) fun b102 =>
  st1 (hnew w99 1 200) fun w104 =>
  ck (kIn (hkd w104 a).1 [1]) <|
  st1 (siR w104 a 11 (some b102)) fun w107 =>
  ck (naB w107 (200 : Int32) 4) <|
  st1 (hsz w107) fun b110 =>
  st1 (hnew w107 1 200) fun w112 =>
  ck (kIn (hkd w112 a).1 [1]) <|
  st1 (siR w112 a 12 (some b110)) fun w115 =>
  ck (naB w115 (200 : Int32) 4) <|
  st1 (hsz w115) fun b118 =>
  st1 (hnew w115 1 200) fun w120 =>
  ck (kIn (hkd w120 a).1 [1]) <|
  st1 (siR w120 a 13 (some b118)) fun w123 =>
  ck (naB w123 (20 : Int32) 4) <|
  st1 (hsz w123) fun b126 =>
  st1 (hnew w123 1 20) fun w128 =>
  ck (kIn (hkd w128 a).1 [1]) <|
  st1 (siR w128 a 14 (some b126)) fun w131 =>
  ck (naB w131 (40 : Int32) 4) <|
  st1 (hsz w131) fun b134 =>
  st1 (hnew w131 1 40) fun w136 =>
  ck (kIn (hkd w136 a).1 [1]) <|
  st1 (siR w136 a 15 (some b134)) fun w139 =>
  ck (naB w139 (40 : Int32) 4) <|
  st1 (hsz w139) fun b142 =>
  st1 (hnew w139 1 40) fun w144 =>
  ck (kIn (hkd w144 a).1 [1]) <|
  st1 (siR w144 a 16 (some b142)) fun w147 =>
  ck (naB w147 (200 : Int32) 4) <|
  st1 (hsz w147) fun b150 =>
  st1 (hnew w147 1 200) fun w152 =>
  ck (kIn (hkd w152 a).1 [1]) <|
  st1 (siR w152 a 17 (some b150)) fun w155 =>
  ck (naB w155 (20 : Int32) 4) <|
  st1 (hsz w155) fun b158 =>
  st1 (hnew w155 1 20) fun w160 =>
  ck (kIn (hkd w160 a).1 [1]) <|
  st1 (siR w160 a 18 (some b158)) fun w163 =>
  ck (naB w163 (20 : Int32) 8) <|
  st1 (hsz w163) fun b166 =>
  st1 (hnew w163 2 20) fun w168 =>
  ck (kIn (hkd w168 a).1 [1]) <|
  st1 (siR w168 a 19 (some b166)) fun w171 =>
  ck (naB w171 (20 : Int32) 8) <|
  st1 (hsz w171) fun b174 =>
  st1 (hnew w171 2 20) fun w176 =>
  ck (kIn (hkd w176 a).1 [1]) <|
  st1 (siR w176 a 20 (some b174)) fun w179 =>
  ck (naB w179 (48 : Int32) 1) <|
  st1 (hsz w179) fun b182 =>
  st1 (hnew w179 3 48) fun w184 =>
  ck (kIn (hkd w184 a).1 [1]) <|
  st1 (siR w184 a 21 (some b182)) fun w187 =>
  ck (kIn (hkd w187 a).1 [1]) <|
  st1 (siI w187 a 25 (20 : Int32)) fun w190 =>
  some w190
def mC_X2_init (a : Nat) (p0 : Nat) (w : AH) : Option (AH) :=
  ck (kIn (hkd w a).1 [3]) <|
  st1 (siR w a 4 (some p0)) fun w2 =>
  ck (naB w2 (240 : Int32) 1) <|
  st1 (hsz w2) fun b5 =>
  st1 (hnew w2 3 240) fun w7 =>
  ck (kIn (hkd w7 a).1 [3]) <|
  st1 (siR w7 a 0 (some b5)) fun w10 =>
  ck (naB w10 (240 : Int32) 1) <|
  st1 (hsz w10) fun b13 =>
  st1 (hnew w10 3 240) fun w15 =>
  ck (kIn (hkd w15 a).1 [3]) <|
  st1 (siR w15 a 1 (some b13)) fun w18 =>
  ck (kIn (hkd w18 a).1 [3]) <|
  st1 (siI w18 a 2 (-1 : Int32)) fun w21 =>
  ck (kIn (hkd w21 a).1 [3]) <|
  st1 (siI w21 a 3 (-1 : Int32)) fun w24 =>
  some w24
def mC_J3_init_2_41 (v0 : Nat) (v1 : Option Nat) (v2 : Option Nat) (v3 : Int32) (w : AH) : Option (AH) :=
  ck (kIn (hkd w v0).1 [5, 16]) <|
  st1 (siR w v0 3 v1) fun w2 =>
  ck (kIn (hkd w2 v0).1 [5, 16]) <|
  st1 (siR w2 v0 0 v2) fun w5 =>
  if v3 = (0 : Int32) then
  (ck (kIn (hkd w5 v0).1 [5, 16]) <|
  st1 (siR w5 v0 2 none) fun w9 =>
  some w9)
  else
  (some w5)
def mC_J3_init_2 (a : Nat) (p0 : Option Nat) (p1 : Option Nat) (p2 : Int32) (p3 : Int32) (w : AH) : Option (AH) :=
  ck (kIn (hkd w a).1 [5, 16]) <|
  st1 (siR w a 0 (some a)) fun w2 =>
  st1 (hst w2 1000) fun x4 =>
  ck (kIn (hkd w2 a).1 [5, 16]) <|
  st1 (siR w2 a 1 x4) fun w7 =>
  st1 (hst w7 1001) fun x9 =>
  ck (kIn (hkd w7 a).1 [5, 16]) <|
  st1 (siR w7 a 2 x9) fun w12 =>
  if p3 = (0 : Int32) then
  (ck (kIn (hkd w12 a).1 [5, 16]) <|
  st1 (siR w12 a 1 none) fun w16 =>
  mC_J3_init_2_41 a p0 p1 p2 w16)
  else
  (none)
def mC_J4_init (a : Nat) (p0 : Option Nat) (p1 : Option Nat) (p2 : Int32) (p3 : Int32) (w : AH) : Option (AH) :=
  bd1 (mC_J3_init_2 a p0 p1 p2 p3 w) fun w2 =>
  some w2
def mC_X4_init (a : Nat) (w : AH) : Option (AH) :=
  bd1 (mC_J4_init a none none (0 : Int32) (0 : Int32) w) fun w2 =>
  some w2
def mC_X3_init (a : Nat) (w : AH) : Option (AH) :=
  ck (rmB w 6) <|
  st1 (hsz w) fun b2 =>
  st1 (hnew w 15 6) fun w4 =>
  bd1 (mC_X4_init b2 w4) fun w7 =>
  ck (kIn (hkd w7 a).1 [4]) <|
  st1 (siR w7 a 0 (some b2)) fun w9 =>
  ck (naB w9 (11 : Int32) 8) <|
  st1 (hsz w9) fun b12 =>
  st1 (hnew w9 2 11) fun w14 =>
  ck (kIn (hkd w14 a).1 [4]) <|
  st1 (siR w14 a 1 (some b12)) fun w17 =>
  ck (naB w17 (5 : Int32) 1) <|
  st1 (hsz w17) fun b20 =>
  st1 (hnew w17 3 5) fun w22 =>
  ck (kIn (hkd w22 a).1 [4]) <|
  st1 (siR w22 a 2 (some b20)) fun w25 =>
  some w25
def mC_X5_init (a : Nat) (p0 : Nat) (w : AH) : Option (AH) :=
  ck (kIn (hkd w a).1 [6]) <|
  st1 (siR w a 6 (some p0)) fun w2 =>
  ck (naB w2 (200 : Int32) 1) <|
  st1 (hsz w2) fun b5 =>
  st1 (hnew w2 3 200) fun w7 =>
  ck (kIn (hkd w7 a).1 [6]) <|
  st1 (siR w7 a 0 (some b5)) fun w10 =>
  ck (naB w10 (200 : Int32) 4) <|
  st1 (hsz w10) fun b13 =>
  st1 (hnew w10 1 200) fun w15 =>
  ck (kIn (hkd w15 a).1 [6]) <|
  st1 (siR w15 a 1 (some b13)) fun w18 =>
  ck (naB w18 (16 : Int32) 4) <|
  st1 (hsz w18) fun b21 =>
  st1 (hnew w18 1 16) fun w23 =>
  ck (kIn (hkd w23 a).1 [6]) <|
  st1 (siR w23 a 2 (some b21)) fun w26 =>
  ck (kIn (hkd w26 a).1 [6]) <|
  st1 (siI w26 a 3 (-1 : Int32)) fun w29 =>
  ck (kIn (hkd w29 a).1 [6]) <|
  st1 (siI w29 a 4 (-1 : Int32)) fun w32 =>
  ck (kIn (hkd w32 a).1 [6]) <|
  st1 (siI w32 a 5 (-1 : Int32)) fun w35 =>
  some w35
def mC_X6_init (a : Nat) (p0 : Nat) (w : AH) : Option (AH) :=
  ck (kIn (hkd w a).1 [7]) <|
  st1 (siR w a 9 (some p0)) fun w2 =>
  ck (naB w2 (80 : Int32) 4) <|
  st1 (hsz w2) fun b5 =>
  st1 (hnew w2 1 80) fun w7 =>
  ck (kIn (hkd w7 a).1 [7]) <|
  st1 (siR w7 a 0 (some b5)) fun w10 =>
  ck (naB w10 (20 : Int32) 4) <|
  st1 (hsz w10) fun b13 =>
  st1 (hnew w10 1 20) fun w15 =>
  ck (kIn (hkd w15 a).1 [7]) <|
  st1 (siR w15 a 1 (some b13)) fun w18 =>
  ck (naB w18 (160 : Int32) 4) <|
  st1 (hsz w18) fun b21 =>
  st1 (hnew w18 1 160) fun w23 =>
  ck (kIn (hkd w23 a).1 [7]) <|
  st1 (siR w23 a 2 (some b21)) fun w26 =>
  ck (naB w26 (20 : Int32) 1) <|
  st1 (hsz w26) fun b29 =>
  st1 (hnew w26 3 20) fun w31 =>
  ck (kIn (hkd w31 a).1 [7]) <|
  st1 (siR w31 a 3 (some b29)) fun w34 =>
  ck (naB w34 (20 : Int32) 1) <|
  st1 (hsz w34) fun b37 =>
  st1 (hnew w34 3 20) fun w39 =>
  ck (kIn (hkd w39 a).1 [7]) <|
  st1 (siR w39 a 4 (some b37)) fun w42 =>
  ck (naB w42 (200 : Int32) 1) <|
  st1 (hsz w42) fun b45 =>
  st1 (hnew w42 3 200) fun w47 =>
  ck (kIn (hkd w47 a).1 [7]) <|
  st1 (siR w47 a 5 (some b45)) fun w50 =>
  ck (kIn (hkd w50 a).1 [7]) <|
  st1 (siI w50 a 6 (-1 : Int32)) fun w53 =>
  ck (kIn (hkd w53 a).1 [7]) <|
  st1 (siI w53 a 7 (-1 : Int32)) fun w56 =>
  ck (kIn (hkd w56 a).1 [7]) <|
  st1 (siI w56 a 8 (-1 : Int32)) fun w59 =>
  some w59
def mC_X0_init (a : Nat) (w : AH) : Option (AH) :=
  ck (rmB w 27) <|
  st1 (hsz w) fun b2 =>
  st1 (hnew w 11 27) fun w4 =>
  bd1 (mC_X1_init b2 w4) fun w7 =>
  ck (kIn (hkd w7 a).1 [0]) <|
  st1 (siR w7 a 2 (some b2)) fun w9 =>
  ck (naB w9 (2 : Int32) 4) <|
  st1 (hsz w9) fun b12 =>
  st1 (hnew w9 6 2) fun w14 =>
  ck (kIn (hkd w14 a).1 [0]) <|
  st1 (siR w14 a 3 (some b12)) fun w17 =>
  ck (naB w17 (400 : Int32) 1) <|
  st1 (hsz w17) fun b20 =>
  st1 (hnew w17 4 400) fun w22 =>
  ck (kIn (hkd w22 a).1 [0]) <|
  st1 (siR w22 a 4 (some b20)) fun w25 =>
  ck (kIn (hkd w25 a).1 [0]) <|
  st1 (siI w25 a 6 (-1 : Int32)) fun w28 =>
  ck (rmB w28 5) <|
  st1 (hsz w28) fun b31 =>
  st1 (hnew w28 13 5) fun w33 =>
  bd1 (mC_X2_init b31 a w33) fun w36 =>
  ck (kIn (hkd w36 a).1 [0]) <|
  st1 (siR w36 a 7 (some b31)) fun w38 =>
  ck (rmB w38 3) <|
  st1 (hsz w38) fun b41 =>
  st1 (hnew w38 14 3) fun w43 =>
  bd1 (mC_X3_init b41 w43) fun w46 =>
  ck (kIn (hkd w46 a).1 [0]) <|
  st1 (siR w46 a 8 (some b41)) fun w48 =>
  ck (rmB w48 7) <|
  st1 (hsz w48) fun b51 =>
  st1 (hnew w48 16 7) fun w53 =>
  bd1 (mC_X5_init b51 a w53) fun w56 =>
  ck (kIn (hkd w56 a).1 [0]) <|
  st1 (siR w56 a 9 (some b51)) fun w58 =>
  ck (naB w58 (7 : Int32) 4) <|
  st1 (hsz w58) fun b61 =>
  st1 (hnew w58 1 7) fun w63 =>
  ck (kIn (hkd w63 a).1 [0]) <|
  st1 (siR w63 a 10 (some b61)) fun w66 =>
  ck (naB w66 (7 : Int32) 4) <|
  st1 (hsz w66) fun b69 =>
  st1 (hnew w66 1 7) fun w71 =>
  ck (kIn (hkd w71 a).1 [0]) <|
  st1 (siR w71 a 11 (some b69)) fun w74 =>
  ck (naB w74 (7 : Int32) 4) <|
  st1 (hsz w74) fun b77 =>
  st1 (hnew w74 1 7) fun w79 =>
  ck (kIn (hkd w79 a).1 [0]) <|
  st1 (siR w79 a 12 (some b77)) fun w82 =>
  ck (naB w82 (7 : Int32) 4) <|
  st1 (hsz w82) fun b85 =>
  st1 (hnew w82 1 7) fun w87 =>
  ck (kIn (hkd w87 a).1 [0]) <|
  st1 (siR w87 a 13 (some b85)) fun w90 =>
  ck (naB w90 (7 : Int32) 4) <|
  st1 (hsz w90) fun b93 =>
  st1 (hnew w90 1 7) fun w95 =>
  ck (kIn (hkd w95 a).1 [0]) <|
  st1 (siR w95 a 14 (some b93)) fun w98 =>
  ck (naB w98 (7 : Int32) 4) <|
  st1 (hsz w98) fun b101 =>
  st1 (hnew w98 1 7) fun w103 =>
  ck (kIn (hkd w103 a).1 [0]) <|
  st1 (siR w103 a 15 (some b101)) fun w106 =>
  ck (naB w106 (7 : Int32) 4) <|
  st1 (hsz w106) fun b109 =>
  st1 (hnew w106 1 7) fun w111 =>
  ck (kIn (hkd w111 a).1 [0]) <|
  st1 (siR w111 a 16 (some b109)) fun w114 =>
  ck (naB w114 (7 : Int32) 4) <|
  st1 (hsz w114) fun b117 =>
  st1 (hnew w114 1 7) fun w119 =>
  ck (kIn (hkd w119 a).1 [0]) <|
  st1 (siR w119 a 17 (some b117)) fun w122 =>
  ck (naB w122 (7 : Int32) 4) <|
  st1 (hsz w122) fun b125 =>
  st1 (hnew w122 1 7) fun w127 =>
  ck (kIn (hkd w127 a).1 [0]) <|
  st1 (siR w127 a 18 (some b125)) fun w130 =>
  ck (kIn (hkd w130 a).1 [0]) <|
  st1 (siI w130 a 20 (-1 : Int32)) fun w133 =>
  ck (rmB w133 10) <|
  st1 (hsz w133) fun b136 =>
  st1 (hnew w133 17 10) fun w138 =>
  bd1 (mC_X6_init b136 a w138) fun w141 =>
  ck (kIn (hkd w141 a).1 [0]) <|
  st1 (siR w141 a 23 (some b136)) fun w143 =>
  ck (naB w143 (8 : Int32) 4) <|
  st1 (hsz w143) fun b146 =>
  st1 (hnew w143 1 8) fun w148 =>
  ck (kIn (hkd w148 a).1 [0]) <|
  st1 (siR w148 a 24 (some b146)) fun w151 =>
  ck (naB w151 (20 : Int32) 4) <|
  st1 (hsz w151) fun b154 =>
  st1 (hnew w151 1 20) fun w156 =>
  ck (kIn (hkd w156 a).1 [0]) <|
  st1 (siR w156 a 27 (some b154)) fun w159 =>
  ck (naB w159 (8 : Int32) 4) <|
  st1 (hsz w159) fun b162 =>
  st1 (hnew w159 1 8) fun w164 =>
  ck (kIn (hkd w164 a).1 [0]) <|
  st1 (siR w164 a 28 (some b162)) fun w167 =>
  ck (naB w167 (8 : Int32) 8) <|
  st1 (hsz w167) fun b170 =>
  st1 (hnew w167 2 8) fun w172 =>
  ck (kIn (hkd w172 a).1 [0]) <|
  st1 (siR w172 a 29 (some b170)) fun w175 =>
  ck (naB w175 (7 : Int32) 4) <|
  st1 (hsz w175) fun b178 =>
  st1 (hnew w175 1 7) fun w180 =>
  ck (kIn (hkd w180 a).1 [0]) <|
  st1 (siR w180 a 30 (some b178)) fun w183 =>
  ck (naB w183 (7 : Int32) 4) <|
  st1 (hsz w183) fun b186 =>
  st1 (hnew w183 1 7) fun w188 =>
  ck (kIn (hkd w188 a).1 [0]) <|
  st1 (siR w188 a 31 (some b186)) fun w191 =>
  ck (naB w191 (7 : Int32) 4) <|
  st1 (hsz w191) fun b194 =>
  st1 (hnew w191 1 7) fun w196 =>
  ck (kIn (hkd w196 a).1 [0]) <|
  st1 (siR w196 a 32 (some b194)) fun w199 =>
  ck (naB w199 (7 : Int32) 4) <|
  st1 (hsz w199) fun b202 =>
  st1 (hnew w199 1 7) fun w204 =>
  ck (kIn (hkd w204 a).1 [0]) <|
  st1 (siR w204 a 33 (some b202)) fun w207 =>
  ck (kIn (hkd w207 a).1 [0]) <|
  st1 (siI w207 a 34 (-1 : Int32)) fun w210 =>
  some w210
def mC_X0_in (p0 : Int32) (p1 : Int32) (p2 : Int32) : Option (Int32) :=
  if p0 < p1 then
  (some (0 : Int32))
  else
  (if p2 < p0 then
  (some (0 : Int32))
  else
  (some (1 : Int32)))
def mC_X0_refuse (a : Nat) (p0 : Int32) (w : AH) : Option (Int32 × AH) :=
  ck (kIn (hkd w a).1 [0]) <|
  st1 (siI w a 0 p0) fun w2 =>
  some (p0, w2)
def mC_J2_clear_27 (k27 : Nat → Int32 → Int32 → AH → Option (AH)) (v1 : Nat) (v2 : Int32) (v3 : Int32) (w : AH) : Option (AH) :=
  if v2 ≤ v3 then
  (some w)
  else
  (ck (arB w v1 5 v3) <|
  st1 (siR w v1 (v3.toNatClampNeg) none) fun w3 =>
  k27 v1 v2 (v3 + (1 : Int32)) w3)
def mC_J2_clear (a : Nat) (w : AH) : Option (AH) :=
  ck (kIn (hkd w a).1 [2]) <|
  st1 (siI w a 0 ((hvi w a 0) + (1 : Int32))) fun w2 =>
  ck (kIn (hkd w2 a).1 [2]) <|
  bd1 (hvr w2 a 1) fun b5 =>
  st1 (siI w2 a 2 (0 : Int32)) fun w7 =>
  lq4 (mC_J2_clear_27) LF b5 (hvi w2 a 2) (0 : Int32) w7
def mC_J7_copyOf_2_24 (v0 : Nat) (v1 : Int32) (t0 : Nat) (w : AH) : Option (Nat × AH) :=
  ck (arK (hkd w v0).1) <|
  st1 (if v1 < (Int32.ofNat (hkd w v0).2) then v1 else (Int32.ofNat (hkd w v0).2)) fun r2 =>
  ck ((hkd w v0).1 == 5) <|
  ck ((hkd w t0).1 == 5) <|
  ck (cpOk (0 : Int32) r2 (hkd w v0).2 (0 : Int32) (hkd w t0).2) <|
  ck (allO w (hvr w v0) (0 : Int32).toNatClampNeg r2.toNatClampNeg) <|
  st1 (hcpR w v0 (0 : Int32).toNatClampNeg t0 (0 : Int32).toNatClampNeg r2.toNatClampNeg) fun w8 =>
  some (t0, w8)
def mC_J7_copyOf_2 (p0 : Nat) (p1 : Int32) (p2 : Nat) (w : AH) : Option (Nat × AH) :=
  bd1 (hst w 1003) fun b1 =>
  if (some p2) = (some b1) then
  (ck (naB w p1 4) <|
  st1 (hsz w) fun b5 =>
  st1 (hnew w 5 (p1.toNatClampNeg)) fun w7 =>
  mC_J7_copyOf_2_24 p0 p1 b5 w7)
  else
  (none)
def mC_J7_copyOf (p0 : Nat) (p1 : Int32) (w : AH) : Option (Nat × AH) :=
  ck ((hkd w p0).1 == 5) <|
  bd1 (hst w 1003) fun b2 =>
  bd2 (mC_J7_copyOf_2 p0 p1 b2 w) fun r5 w6 =>
  some (r5, w6)
def mC_J2_toArray (a : Nat) (w : AH) : Option (Nat × AH) :=
  ck (kIn (hkd w a).1 [2]) <|
  bd1 (hvr w a 1) fun b2 =>
  bd2 (mC_J7_copyOf b2 (hvi w a 2) w) fun r5 w6 =>
  some (r5, w6)
def mC_J5_newLength_21 (w : AH) (v0 : Int32) (v1 : Int32) : Option (Int32) :=
  none
def mC_J5_newLength (p0 : Int32) (p1 : Int32) (p2 : Int32) (w : AH) : Option (Int32) :=
  st1 (if p1 < p2 then p2 else p1) fun r1 =>
  if (p0 + r1) ≤ (0 : Int32) then
  (mC_J5_newLength_21 w p0 p1)
  else
  (if (2147483639 : Int32) < (p0 + r1) then
  (mC_J5_newLength_21 w p0 p1)
  else
  (some (p0 + r1)))
def mC_J2_grow_20 (v0 : Nat) (v1 : Int32) (v2 : Int32) (w : AH) : Option (Nat × AH) :=
  bd1 (mC_J5_newLength v2 (v1 - v2) (v2 >>> ((1 : Int32) &&& 31)) w) fun r2 =>
  ck (kIn (hkd w v0).1 [2]) <|
  bd1 (hvr w v0 1) fun b4 =>
  bd2 (mC_J7_copyOf b4 r2 w) fun r7 w8 =>
  ck (kIn (hkd w8 v0).1 [2]) <|
  st1 (siR w8 v0 1 (some r7)) fun w10 =>
  some (r7, w10)
def mC_J2_grow (a : Nat) (p0 : Int32) (w : AH) : Option (Nat × AH) :=
  ck (kIn (hkd w a).1 [2]) <|
  bd1 (hvr w a 1) fun b2 =>
  ck (arK (hkd w b2).1) <|
  if (0 : Int32) < (Int32.ofNat (hkd w b2).2) then
  (mC_J2_grow_20 a p0 (Int32.ofNat (hkd w b2).2) w)
  else
  (none)
def mC_J2_addAll_56 (v0 : Nat) (v2 : Nat) (v3 : Int32) (v4 : Nat) (v5 : Int32) (w : AH) : Option (Int32 × AH) :=
  ck ((hkd w v2).1 == 5) <|
  ck ((hkd w v4).1 == 5) <|
  ck (cpOk (0 : Int32) v3 (hkd w v2).2 v5 (hkd w v4).2) <|
  ck (allO w (hvr w v2) (0 : Int32).toNatClampNeg v3.toNatClampNeg) <|
  st1 (hcpR w v2 (0 : Int32).toNatClampNeg v4 v5.toNatClampNeg v3.toNatClampNeg) fun w5 =>
  ck (kIn (hkd w5 v0).1 [2]) <|
  st1 (siI w5 v0 2 (v5 + v3)) fun w8 =>
  some ((1 : Int32), w8)
def mC_J2_addAll (a : Nat) (p0 : Nat) (w : AH) : Option (Int32 × AH) :=
  ck (kIn (hkd w p0).1 [2]) <|
  bd2 (mC_J2_toArray p0 w) fun r3 w4 =>
  ck (kIn (hkd w4 a).1 [2]) <|
  st1 (siI w4 a 0 ((hvi w4 a 0) + (1 : Int32))) fun w6 =>
  ck (arK (hkd w6 r3).1) <|
  if (Int32.ofNat (hkd w6 r3).2) = (0 : Int32) then
  (some ((0 : Int32), w6))
  else
  (ck (kIn (hkd w6 a).1 [2]) <|
  bd1 (hvr w6 a 1) fun b11 =>
  ck (arK (hkd w6 b11).1) <|
  if (Int32.ofNat (hkd w6 r3).2) ≤ ((Int32.ofNat (hkd w6 b11).2) - (hvi w6 a 2)) then
  (mC_J2_addAll_56 a r3 (Int32.ofNat (hkd w6 r3).2) b11 (hvi w6 a 2) w6)
  else
  (bd2 (mC_J2_grow a ((hvi w6 a 2) + (Int32.ofNat (hkd w6 r3).2)) w6) fun r16 w17 =>
  mC_J2_addAll_56 a r3 (Int32.ofNat (hkd w6 r3).2) r16 (hvi w6 a 2) w17))
def mC_X1_over (p0 : Nat) (p1 : Nat) (w : AH) : Option (AH) :=
  ck (kIn (hkd w p0).1 [2]) <|
  bd1 (mC_J2_clear p0 w) fun w3 =>
  ck (kIn (hkd w3 p0).1 [2]) <|
  bd2 (mC_J2_addAll p0 p1 w3) fun r6 w7 =>
  some w7
def mC_X1_rows (p0 : Nat) (p1 : Nat) (w : AH) : Option (AH) :=
  ck (arK (hkd w p0).1) <|
  ck ((hkd w p1).1 == 1) <|
  ck ((hkd w p0).1 == 1) <|
  ck (cpOk (0 : Int32) (Int32.ofNat (hkd w p0).2) (hkd w p1).2 (0 : Int32) (hkd w p0).2) <|
  st1 (hcpI w p1 (0 : Int32).toNatClampNeg p0 (0 : Int32).toNatClampNeg (Int32.ofNat (hkd w p0).2).toNatClampNeg) fun w5 =>
  some w5
def mC_X1_takes (a : Nat) (p0 : Nat) (w : AH) : Option (AH) :=
  ck (kIn (hkd w a).1 [1]) <|
  bd1 (hvr w a 0) fun b2 =>
  ck (kIn (hkd w p0).1 [1]) <|
  bd1 (hvr w p0 0) fun b5 =>
  bd1 (mC_X1_over b2 b5 w) fun w8 =>
  ck (kIn (hkd w8 a).1 [1]) <|
  bd1 (hvr w8 a 1) fun b10 =>
  ck (kIn (hkd w8 p0).1 [1]) <|
  bd1 (hvr w8 p0 1) fun b13 =>
  bd1 (mC_X1_over b10 b13 w8) fun w16 =>
  ck (kIn (hkd w16 a).1 [1]) <|
  bd1 (hvr w16 a 2) fun b18 =>
  ck (kIn (hkd w16 p0).1 [1]) <|
  bd1 (hvr w16 p0 2) fun b21 =>
  bd1 (mC_X1_over b18 b21 w16) fun w24 =>
  ck (kIn (hkd w24 a).1 [1]) <|
  bd1 (hvr w24 a 3) fun b26 =>
  ck (kIn (hkd w24 p0).1 [1]) <|
  bd1 (hvr w24 p0 3) fun b29 =>
  bd1 (mC_X1_over b26 b29 w24) fun w32 =>
  ck (kIn (hkd w32 a).1 [1]) <|
  bd1 (hvr w32 a 4) fun b34 =>
  ck (kIn (hkd w32 p0).1 [1]) <|
  bd1 (hvr w32 p0 4) fun b37 =>
  bd1 (mC_X1_over b34 b37 w32) fun w40 =>
  ck (kIn (hkd w40 a).1 [1]) <|
  bd1 (hvr w40 a 5) fun b42 =>
  ck (kIn (hkd w40 p0).1 [1]) <|
  bd1 (hvr w40 p0 5) fun b45 =>
  bd1 (mC_X1_over b42 b45 w40) fun w48 =>
  ck (kIn (hkd w48 a).1 [1]) <|
  bd1 (hvr w48 a 6) fun b50 =>
  ck (kIn (hkd w48 p0).1 [1]) <|
  bd1 (hvr w48 p0 6) fun b53 =>
  bd1 (mC_X1_rows b50 b53 w48) fun w56 =>
  ck (kIn (hkd w56 a).1 [1]) <|
  bd1 (hvr w56 a 7) fun b58 =>
  ck (kIn (hkd w56 p0).1 [1]) <|
  bd1 (hvr w56 p0 7) fun b61 =>
  bd1 (mC_X1_rows b58 b61 w56) fun w64 =>
  ck (kIn (hkd w64 a).1 [1]) <|
  bd1 (hvr w64 a 8) fun b66 =>
  ck (kIn (hkd w64 p0).1 [1]) <|
  bd1 (hvr w64 p0 8) fun b69 =>
  bd1 (mC_X1_rows b66 b69 w64) fun w72 =>
  ck (kIn (hkd w72 a).1 [1]) <|
  bd1 (hvr w72 a 9) fun b74 =>
  ck (kIn (hkd w72 p0).1 [1]) <|
  bd1 (hvr w72 p0 9) fun b77 =>
  bd1 (mC_X1_rows b74 b77 w72) fun w80 =>
  ck (kIn (hkd w80 a).1 [1]) <|
  bd1 (hvr w80 a 10) fun b82 =>
  ck (kIn (hkd w80 p0).1 [1]) <|
  bd1 (hvr w80 p0 10) fun b85 =>
  bd1 (mC_X1_rows b82 b85 w80) fun w88 =>
  ck (kIn (hkd w88 a).1 [1]) <|
  bd1 (hvr w88 a 11) fun b90 =>
  ck (kIn (hkd w88 p0).1 [1]) <|
  bd1 (hvr w88 p0 11) fun b93 =>
  bd1 (mC_X1_rows b90 b93 w88) fun w96 =>
  ck (kIn (hkd w96 a).1 [1]) <|
  bd1 (hvr w96 a 12) fun b98 =>
  ck (kIn (hkd w96 p0).1 [1]) <|
  bd1 (hvr w96 p0 12) fun b101 =>
  bd1 (mC_X1_rows b98 b101 w96) fun w104 =>
  ck (kIn (hkd w104 a).1 [1]) <|
  bd1 (hvr w104 a 13) fun b106 =>
  ck (kIn (hkd w104 p0).1 [1]) <|
  bd1 (hvr w104 p0 13) fun b109 =>
  bd1 (mC_X1_rows b106 b109 w104) fun w112 =>
  ck (kIn (hkd w112 a).1 [1]) <|
  bd1 (hvr w112 a 14) fun b114 =>
  ck (kIn (hkd w112 p0).1 [1]) <|
  bd1 (hvr w112 p0 14) fun b117 =>
  bd1 (mC_X1_rows b114 b117 w112) fun w120 =>
  ck (kIn (hkd w120 a).1 [1]) <|
  bd1 (hvr w120 a 15) fun b122 =>
  ck (kIn (hkd w120 p0).1 [1]) <|
  bd1 (hvr w120 p0 15) fun b125 =>
  bd1 (mC_X1_rows b122 b125 w120) fun w128 =>
  ck (kIn (hkd w128 a).1 [1]) <|
  bd1 (hvr w128 a 16) fun b130 =>
  ck (kIn (hkd w128 p0).1 [1]) <|
  bd1 (hvr w128 p0 16) fun b133 =>
  bd1 (mC_X1_rows b130 b133 w128) fun w136 =>
  ck (kIn (hkd w136 a).1 [1]) <|
  bd1 (hvr w136 a 17) fun b138 =>
  ck (kIn (hkd w136 p0).1 [1]) <|
  bd1 (hvr w136 p0 17) fun b141 =>
  bd1 (mC_X1_rows b138 b141 w136) fun w144 =>
  ck (kIn (hkd w144 a).1 [1]) <|
  bd1 (hvr w144 a 18) fun b146 =>
  ck (kIn (hkd w144 p0).1 [1]) <|
  bd1 (hvr w144 p0 18) fun b149 =>
  bd1 (mC_X1_rows b146 b149 w144) fun w152 =>
  ck (kIn (hkd w152 p0).1 [1]) <|
  bd1 (hvr w152 p0 19) fun b154 =>
  ck (kIn (hkd w152 a).1 [1]) <|
  bd1 (hvr w152 a 19) fun b157 =>
  ck ((hkd w152 b154).1 == 2) <|
  ck ((hkd w152 b157).1 == 2) <|
  ck (cpOk (0 : Int32) (20 : Int32) (hkd w152 b154).2 (0 : Int32) (hkd w152 b157).2) <|
  st1 (hcpL w152 b154 (0 : Int32).toNatClampNeg b157 (0 : Int32).toNatClampNeg (20 : Int32).toNatClampNeg) fun w162 =>
  ck (kIn (hkd w162 p0).1 [1]) <|
  bd1 (hvr w162 p0 20) fun b165 =>
  ck (kIn (hkd w162 a).1 [1]) <|
  bd1 (hvr w162 a 20) fun b168 =>
  ck ((hkd w162 b165).1 == 2) <|
  ck ((hkd w162 b168).1 == 2) <|
  ck (cpOk (0 : Int32) (20 : Int32) (hkd w162 b165).2 (0 : Int32) (hkd w162 b168).2) <|
  st1 (hcpL w162 b165 (0 : Int32).toNatClampNeg b168 (0 : Int32).toNatClampNeg (20 : Int32).toNatClampNeg) fun w173 =>
  ck (kIn (hkd w173 p0).1 [1]) <|
  bd1 (hvr w173 p0 21) fun b176 =>
  ck (kIn (hkd w173 a).1 [1]) <|
  bd1 (hvr w173 a 21) fun b179 =>
  ck (arK (hkd w173 b179).1) <|
  ck ((hkd w173 b176).1 == 3) <|
  ck ((hkd w173 b179).1 == 3) <|
  ck (cpOk (0 : Int32) (Int32.ofNat (hkd w173 b179).2) (hkd w173 b176).2 (0 : Int32) (hkd w173 b179).2) <|
  ck (allF isZ (hvi w173 b176) (0 : Int32).toNatClampNeg (Int32.ofNat (hkd w173 b179).2).toNatClampNeg) <|
  st1 (hcpI w173 b176 (0 : Int32).toNatClampNeg b179 (0 : Int32).toNatClampNeg (Int32.ofNat (hkd w173 b179).2).toNatClampNeg) fun w186 =>
  ck (kIn (hkd w186 p0).1 [1]) <|
  ck (kIn (hkd w186 a).1 [1]) <|
  st1 (siI w186 a 22 (hvi w186 p0 22)) fun w190 =>
  ck (kIn (hkd w190 p0).1 [1]) <|
  ck (kIn (hkd w190 a).1 [1]) <|
  st1 (siI w190 a 23 (hvi w190 p0 23)) fun w194 =>
  ck (kIn (hkd w194 p0).1 [1]) <|
  ck (kIn (hkd w194 a).1 [1]) <|
  st1 (siI w194 a 24 (hvi w194 p0 24)) fun w198 =>
  ck (kIn (hkd w198 p0).1 [1]) <|
  ck (kIn (hkd w198 a).1 [1]) <|
  st1 (siI w198 a 25 (hvi w198 p0 25)) fun w202 =>
  ck (kIn (hkd w202 p0).1 [1]) <|
  ck (kIn (hkd w202 a).1 [1]) <|
  st1 (siI w202 a 26 (hvi w202 p0 26)) fun w206 =>
  some w206
def mC_X0_done (a : Nat) (p0 : Int32) (w : AH) : Option (Int32 × AH) :=
  ck (kIn (hkd w a).1 [0]) <|
  st1 (siI w a 0 (0 : Int32)) fun w2 =>
  some (p0, w2)
def mC_X0_image_37 (v0 : Nat) (v1 : Int32) (w : AH) : Option (Int32 × AH) :=
  ck (kIn (hkd w v0).1 [0]) <|
  bd1 (hvr w v0 3) fun b2 =>
  ck (arB w b2 6 v1) <|
  st1 (hvr w b2 (v1.toNatClampNeg)) fun x5 =>
  bd1 (hvr w v0 2) fun b7 =>
  bd1 x5 fun b9 =>
  ck (kIn (hkd w b9).1 [1]) <|
  bd1 (mC_X1_takes b9 b7 w) fun w12 =>
  ck (kIn (hkd w12 v0).1 [0]) <|
  bd2 (mC_X0_done v0 (0 : Int32) w12) fun r15 w16 =>
  some (r15, w16)
def mC_X0_image (a : Nat) (p0 : Int32) (w : AH) : Option (Int32 × AH) :=
  bd1 (mC_X0_in p0 (0 : Int32) (1 : Int32)) fun r2 =>
  if r2 = (0 : Int32) then
  (ck (kIn (hkd w a).1 [0]) <|
  bd2 (mC_X0_refuse a (-1 : Int32) w) fun r24 w25 =>
  some (r24, w25))
  else
  (ck (kIn (hkd w a).1 [0]) <|
  bd1 (hvr w a 3) fun b5 =>
  ck (arB w b5 6 p0) <|
  st1 (hvr w b5 (p0.toNatClampNeg)) fun x8 =>
  if x8 = none then
  (ck (rmB w 27) <|
  st1 (hsz w) fun b12 =>
  st1 (hnew w 11 27) fun w14 =>
  bd1 (mC_X1_init b12 w14) fun w17 =>
  ck (arB w17 b5 6 p0) <|
  ck (kIn (hkd w17 b12).1 [1]) <|
  st1 (siR w17 b5 (p0.toNatClampNeg) (some b12)) fun w20 =>
  mC_X0_image_37 a p0 w20)
  else
  (mC_X0_image_37 a p0 w))
def mC_X0_told (a : Nat) (p0 : Int32) (w : AH) : Option (Int32 × AH) :=
  ck (kIn (hkd w a).1 [0]) <|
  st1 (siI w a 1 ((hvi w a 1) + (1 : Int32))) fun w2 =>
  ck (kIn (hkd w2 a).1 [0]) <|
  bd2 (mC_X0_done a p0 w2) fun r6 w7 =>
  some (r6, w7)
def mC_X0_back (a : Nat) (p0 : Int32) (w : AH) : Option (Int32 × AH) :=
  bd1 (mC_X0_in p0 (0 : Int32) (1 : Int32)) fun r2 =>
  if r2 = (0 : Int32) then
  (ck (kIn (hkd w a).1 [0]) <|
  bd2 (mC_X0_refuse a (-1 : Int32) w) fun r28 w29 =>
  some (r28, w29))
  else
  (ck (kIn (hkd w a).1 [0]) <|
  bd1 (hvr w a 3) fun b5 =>
  ck (arB w b5 6 p0) <|
  st1 (hvr w b5 (p0.toNatClampNeg)) fun x8 =>
  if x8 = none then
  (bd2 (mC_X0_refuse a (-2 : Int32) w) fun r24 w25 =>
  some (r24, w25))
  else
  (bd1 (hvr w a 2) fun b11 =>
  st1 (hvr w b5 (p0.toNatClampNeg)) fun x13 =>
  bd1 x13 fun b15 =>
  ck (kIn (hkd w b11).1 [1]) <|
  bd1 (mC_X1_takes b11 b15 w) fun w18 =>
  ck (kIn (hkd w18 a).1 [0]) <|
  bd2 (mC_X0_told a (0 : Int32) w18) fun r21 w22 =>
  some (r21, w22)))
def mC_X0_place_29 (v0 : Nat) (w : AH) : Option (Int32 × AH) :=
  ck (kIn (hkd w v0).1 [0]) <|
  bd2 (mC_X0_refuse v0 (-1 : Int32) w) fun r3 w4 =>
  some (r3, w4)
def mC_X0_place (a : Nat) (p0 : Int32) (p1 : Int32) (p2 : Int32) (w : AH) : Option (Int32 × AH) :=
  bd1 (mC_X0_in p0 (0 : Int32) (5 : Int32)) fun r2 =>
  if r2 = (0 : Int32) then
  (mC_X0_place_29 a w)
  else
  (bd1 (mC_X0_in p1 (0 : Int32) (99 : Int32)) fun r5 =>
  if r5 = (0 : Int32) then
  (mC_X0_place_29 a w)
  else
  (bd1 (mC_X0_in p2 (0 : Int32) (99 : Int32)) fun r8 =>
  if r8 = (0 : Int32) then
  (mC_X0_place_29 a w)
  else
  (ck (kIn (hkd w a).1 [0]) <|
  bd1 (hvr w a 2) fun b11 =>
  ck (kIn (hkd w b11).1 [1]) <|
  if (hvi w b11 22) = (16 : Int32) then
  (bd2 (mC_X0_refuse a (-5 : Int32) w) fun r52 w53 =>
  some (r52, w53))
  else
  (bd1 (hvr w b11 6) fun b15 =>
  ck (arB w b15 1 (hvi w b11 22)) <|
  st1 (siI w b15 ((hvi w b11 22).toNatClampNeg) p0) fun w18 =>
  ck (kIn (hkd w18 a).1 [0]) <|
  bd1 (hvr w18 a 2) fun b21 =>
  ck (kIn (hkd w18 b21).1 [1]) <|
  bd1 (hvr w18 b21 7) fun b24 =>
  ck (arB w18 b24 1 (hvi w18 b21 22)) <|
  st1 (siI w18 b24 ((hvi w18 b21 22).toNatClampNeg) p1) fun w27 =>
  ck (kIn (hkd w27 a).1 [0]) <|
  bd1 (hvr w27 a 2) fun b30 =>
  ck (kIn (hkd w27 b30).1 [1]) <|
  bd1 (hvr w27 b30 8) fun b33 =>
  ck (arB w27 b33 1 (hvi w27 b30 22)) <|
  st1 (siI w27 b33 ((hvi w27 b30 22).toNatClampNeg) p2) fun w36 =>
  ck (kIn (hkd w36 a).1 [0]) <|
  bd1 (hvr w36 a 2) fun b39 =>
  ck (kIn (hkd w36 b39).1 [1]) <|
  st1 (siI w36 b39 22 ((hvi w36 b39 22) + (1 : Int32))) fun w42 =>
  ck (kIn (hkd w42 a).1 [0]) <|
  bd1 (hvr w42 a 2) fun b45 =>
  ck (kIn (hkd w42 b45).1 [1]) <|
  bd2 (mC_X0_told a ((hvi w42 b45 22) - (1 : Int32)) w42) fun r49 w50 =>
  some (r49, w50)))))
def mC_X0_areLetters_2 (k2 : Int32 → Int32 → Option (Int32)) (v0 : Int32) (v1 : Int32) : Option (Int32) :=
  if (4 : Int32) ≤ v1 then
  (some (1 : Int32))
  else
  (bd1 (mC_X0_in ((v0 >>> (((8 : Int32) * v1) &&& 31)) &&& (255 : Int32)) (97 : Int32) (122 : Int32)) fun r3 =>
  if r3 = (0 : Int32) then
  (some (0 : Int32))
  else
  (k2 v0 (v1 + (1 : Int32))))
def mC_X0_areLetters (p0 : Int32) : Option (Int32) :=
  lq2 (mC_X0_areLetters_2) LF p0 (0 : Int32)
def mC_X0_isOne (p0 : Int32) (p1 : Int32) (p2 : Int32) (p3 : Int32) : Option (Int32) :=
  bd1 (mC_X0_in p0 (0 : Int32) (99 : Int32)) fun r2 =>
  if r2 = (0 : Int32) then
  (some (0 : Int32))
  else
  (bd1 (mC_X0_in p1 (0 : Int32) (120 : Int32)) fun r5 =>
  if r5 = (0 : Int32) then
  (some (0 : Int32))
  else
  (bd1 (mC_X0_in p2 (0 : Int32) (3 : Int32)) fun r8 =>
  if r8 = (0 : Int32) then
  (some (0 : Int32))
  else
  (bd1 (mC_X0_areLetters p3) fun r11 =>
  if r11 = (0 : Int32) then
  (some (0 : Int32))
  else
  (some (1 : Int32)))))
def mC_X0_isDay (p0 : Int32) : Option (Int32) :=
  bd1 (mC_X0_in p0 (0 : Int32) (399 : Int32)) fun r2 =>
  ck (isZ r2) <|
  some r2
def mC_X0_isPlace (a : Nat) (p0 : Int32) (w : AH) : Option (Int32) :=
  ck (kIn (hkd w a).1 [0]) <|
  bd1 (hvr w a 2) fun b2 =>
  ck (kIn (hkd w b2).1 [1]) <|
  bd1 (mC_X0_in p0 (0 : Int32) ((hvi w b2 22) - (1 : Int32))) fun r6 =>
  ck (isZ r6) <|
  some r6
def mC_J2_size (a : Nat) (w : AH) : Option (Int32) :=
  ck (kIn (hkd w a).1 [2]) <|
  some (hvi w a 2)
def mC_X8_init (a : Nat) (p0 : Int32) (p1 : Int32) (p2 : Int32) (p3 : Int32) (p4 : Int32) (w : AH) : Option (AH) :=
  ck (kIn (hkd w a).1 [9, 10, 11, 12]) <|
  st1 (siI w a 0 p0) fun w2 =>
  ck (kIn (hkd w2 a).1 [9, 10, 11, 12]) <|
  st1 (siI w2 a 1 p1) fun w5 =>
  ck (kIn (hkd w5 a).1 [9, 10, 11, 12]) <|
  st1 (siI w5 a 2 p2) fun w8 =>
  ck (kIn (hkd w8 a).1 [9, 10, 11, 12]) <|
  st1 (siI w8 a 3 p3) fun w11 =>
  ck (kIn (hkd w11 a).1 [9, 10, 11, 12]) <|
  st1 (siI w11 a 4 p4) fun w14 =>
  some w14
def mC_J2_grow_2 (a : Nat) (w : AH) : Option (Nat × AH) :=
  ck (kIn (hkd w a).1 [2]) <|
  bd2 (mC_J2_grow a ((hvi w a 2) + (1 : Int32)) w) fun r3 w4 =>
  some (r3, w4)
def mC_J2_add_2_11 (v0 : Nat) (v1 : Nat) (v2 : Nat) (v3 : Int32) (w : AH) : Option (AH) :=
  ck (arB w v2 5 v3) <|
  ck (isO w (some v1)) <|
  st1 (siR w v2 (v3.toNatClampNeg) (some v1)) fun w3 =>
  ck (kIn (hkd w3 v0).1 [2]) <|
  st1 (siI w3 v0 2 (v3 + (1 : Int32))) fun w6 =>
  some w6
def mC_J2_add_2 (a : Nat) (p0 : Nat) (p1 : Nat) (p2 : Int32) (w : AH) : Option (AH) :=
  ck (arK (hkd w p1).1) <|
  if p2 = (Int32.ofNat (hkd w p1).2) then
  (ck (kIn (hkd w a).1 [2]) <|
  bd2 (mC_J2_grow_2 a w) fun r5 w6 =>
  mC_J2_add_2_11 a p0 r5 p2 w6)
  else
  (mC_J2_add_2_11 a p0 p1 p2 w)
def mC_J2_add (a : Nat) (p0 : Nat) (w : AH) : Option (Int32 × AH) :=
  ck (kIn (hkd w a).1 [2]) <|
  st1 (siI w a 0 ((hvi w a 0) + (1 : Int32))) fun w2 =>
  ck (kIn (hkd w2 a).1 [2]) <|
  bd1 (hvr w2 a 1) fun b5 =>
  bd1 (mC_J2_add_2 a p0 b5 (hvi w2 a 2) w2) fun w8 =>
  some ((1 : Int32), w8)
def mC_X9_init (a : Nat) (p0 : Int32) (p1 : Int32) (p2 : Int32) (p3 : Int32) (p4 : Int32) (w : AH) : Option (AH) :=
  bd1 (mC_X8_init a p0 p1 p2 p3 p4 w) fun w2 =>
  some w2
def mC_X10_init (a : Nat) (p0 : Int32) (p1 : Int32) (p2 : Int32) (p3 : Int32) (p4 : Int32) (w : AH) : Option (AH) :=
  bd1 (mC_X8_init a p0 p1 p2 p3 p4 w) fun w2 =>
  some w2
def mC_X11_init (a : Nat) (p0 : Int32) (p1 : Int32) (p2 : Int32) (p3 : Int32) (p4 : Int32) (w : AH) : Option (AH) :=
  bd1 (mC_X10_init a p0 p1 p2 p3 p4 w) fun w2 =>
  some w2
def mC_X0_adds_149 (v0 : Nat) (v7 : Int32) (w : AH) : Option (Int32 × AH) :=
  ck (kIn (hkd w v0).1 [0]) <|
  bd1 (hvr w v0 2) fun b2 =>
  ck (kIn (hkd w b2).1 [1]) <|
  bd1 (hvr w b2 9) fun b5 =>
  ck (arB w b5 1 v7) <|
  st1 (siI w b5 (v7.toNatClampNeg) (-1 : Int32)) fun w8 =>
  ck (kIn (hkd w8 v0).1 [0]) <|
  bd1 (hvr w8 v0 2) fun b11 =>
  ck (kIn (hkd w8 b11).1 [1]) <|
  bd1 (hvr w8 b11 11) fun b14 =>
  ck (arB w8 b14 1 v7) <|
  st1 (siI w8 b14 (v7.toNatClampNeg) (-1 : Int32)) fun w17 =>
  some (v7, w17)
def mC_X0_adds (a : Nat) (p0 : Int32) (p1 : Int32) (p2 : Int32) (p3 : Int32) (p4 : Int32) (p5 : Int32) (w : AH) : Option (Int32 × AH) :=
  ck (kIn (hkd w a).1 [0]) <|
  bd1 (hvr w a 2) fun b2 =>
  ck (kIn (hkd w b2).1 [1]) <|
  bd1 (hvr w b2 1) fun b5 =>
  ck (kIn (hkd w b5).1 [2]) <|
  bd1 (mC_J2_size b5 w) fun r9 =>
  (if p3 = (0 : Int32) then
  (ck (rmB w 5) <|
  st1 (hsz w) fun b11 =>
  st1 (hnew w 19 5) fun w13 =>
  bd1 (mC_X8_init b11 p0 p1 p2 p4 p5 w13) fun w16 =>
  ck (kIn (hkd w16 b5).1 [2]) <|
  bd2 (mC_J2_add b5 b11 w16) fun r19 w20 =>
  mC_X0_adds_149 a r9 w20)
  else if p3 = (1 : Int32) then
  (ck (rmB w 5) <|
  st1 (hsz w) fun b22 =>
  st1 (hnew w 20 5) fun w24 =>
  bd1 (mC_X9_init b22 p0 p1 p2 p4 p5 w24) fun w27 =>
  ck (kIn (hkd w27 b5).1 [2]) <|
  bd2 (mC_J2_add b5 b22 w27) fun r30 w31 =>
  mC_X0_adds_149 a r9 w31)
  else if p3 = (2 : Int32) then
  (ck (rmB w 5) <|
  st1 (hsz w) fun b33 =>
  st1 (hnew w 21 5) fun w35 =>
  bd1 (mC_X10_init b33 p0 p1 p2 p4 p5 w35) fun w38 =>
  ck (kIn (hkd w38 b5).1 [2]) <|
  bd2 (mC_J2_add b5 b33 w38) fun r41 w42 =>
  mC_X0_adds_149 a r9 w42)
  else (ck (rmB w 5) <|
  st1 (hsz w) fun b44 =>
  st1 (hnew w 22 5) fun w46 =>
  bd1 (mC_X11_init b44 p0 p1 p2 p4 p5 w46) fun w49 =>
  ck (kIn (hkd w49 b5).1 [2]) <|
  bd2 (mC_J2_add b5 b44 w49) fun r52 w53 =>
  mC_X0_adds_149 a r9 w53))
def mC_X0_name_20 (v0 : Nat) (w : AH) : Option (Int32 × AH) :=
  ck (kIn (hkd w v0).1 [0]) <|
  bd2 (mC_X0_refuse v0 (-1 : Int32) w) fun r3 w4 =>
  some (r3, w4)
def mC_X0_name (a : Nat) (p0 : Int32) (p1 : Int32) (p2 : Int32) (p3 : Int32) (p4 : Int32) (p5 : Int32) (w : AH) : Option (Int32 × AH) :=
  bd1 (mC_X0_isOne p1 p2 p3 p4) fun r2 =>
  if r2 = (0 : Int32) then
  (mC_X0_name_20 a w)
  else
  (bd1 (mC_X0_isDay p5) fun r5 =>
  if r5 = (0 : Int32) then
  (mC_X0_name_20 a w)
  else
  (ck (kIn (hkd w a).1 [0]) <|
  bd1 (mC_X0_isPlace a p0 w) fun r9 =>
  if r9 = (0 : Int32) then
  (bd2 (mC_X0_refuse a (-2 : Int32) w) fun r31 w32 =>
  some (r31, w32))
  else
  (bd1 (hvr w a 2) fun b11 =>
  ck (kIn (hkd w b11).1 [1]) <|
  bd1 (hvr w b11 1) fun b14 =>
  ck (kIn (hkd w b14).1 [2]) <|
  bd1 (mC_J2_size b14 w) fun r18 =>
  if r18 = (200 : Int32) then
  (bd2 (mC_X0_refuse a (-5 : Int32) w) fun r28 w29 =>
  some (r28, w29))
  else
  (bd2 (mC_X0_adds a p0 p1 p2 p3 p4 p5 w) fun r21 w22 =>
  ck (kIn (hkd w22 a).1 [0]) <|
  bd2 (mC_X0_told a r21 w22) fun r25 w26 =>
  some (r25, w26)))))
def mC_X0_reads_119 (k6 : Nat → Nat → Int32 → Int32 → Int32 → Int32 → AH → Option (Int32 × AH)) (v0 : Nat) (v1 : Nat) (v2 : Int32) (v3 : Int32) (v4 : Int32) (v5 : Int32) (w : AH) : Option (Int32 × AH) :=
  k6 v0 v1 v2 v3 v4 (v5 + (7 : Int32)) w
def mC_X0_reads_128 (v4 : Int32) (t0 : Nat) (w : AH) : Option (Int32 × AH) :=
  some (v4, w)
def mC_X0_reads_6 (k6 : Nat → Nat → Int32 → Int32 → Int32 → Int32 → AH → Option (Int32 × AH)) (v0 : Nat) (v1 : Nat) (v2 : Int32) (v3 : Int32) (v4 : Int32) (v5 : Int32) (w : AH) : Option (Int32 × AH) :=
  ck (arK (hkd w v1).1) <|
  if (Int32.ofNat (hkd w v1).2) ≤ v5 then
  (some (v4, w))
  else
  (ck ((hkd w v1).1 == 4) <|
  if bnd (v5 + (3 : Int32)) (hkd w v1).2 = true then
  (if bnd (v5 + (4 : Int32)) (hkd w v1).2 = true then
  (if bnd (v5 + (5 : Int32)) (hkd w v1).2 = true then
  (if bnd (v5 + (6 : Int32)) (hkd w v1).2 = true then
  (if bnd v5 (hkd w v1).2 = true then
  (if bnd (v5 + (1 : Int32)) (hkd w v1).2 = true then
  (if bnd (v5 + (2 : Int32)) (hkd w v1).2 = true then
  (bd1 (mC_X0_isOne (hvi w v1 (v5.toNatClampNeg)) (hvi w v1 ((v5 + (1 : Int32)).toNatClampNeg)) (hvi w v1 ((v5 + (2 : Int32)).toNatClampNeg)) (((((hvi w v1 ((v5 + (3 : Int32)).toNatClampNeg)) <<< ((24 : Int32) &&& 31)) ||| (((hvi w v1 ((v5 + (4 : Int32)).toNatClampNeg)) &&& (255 : Int32)) <<< ((16 : Int32) &&& 31))) ||| (((hvi w v1 ((v5 + (5 : Int32)).toNatClampNeg)) &&& (255 : Int32)) <<< ((8 : Int32) &&& 31))) ||| ((hvi w v1 ((v5 + (6 : Int32)).toNatClampNeg)) &&& (255 : Int32)))) fun r12 =>
  if r12 = (0 : Int32) then
  (mC_X0_reads_119 k6 v0 v1 v2 v3 v4 v5 w)
  else
  (if bnd v5 (hkd w v1).2 = true then
  (if bnd (v5 + (1 : Int32)) (hkd w v1).2 = true then
  (if bnd (v5 + (2 : Int32)) (hkd w v1).2 = true then
  (ck (kIn (hkd w v0).1 [0]) <|
  bd2 (mC_X0_adds v0 v2 (hvi w v1 (v5.toNatClampNeg)) (hvi w v1 ((v5 + (1 : Int32)).toNatClampNeg)) (hvi w v1 ((v5 + (2 : Int32)).toNatClampNeg)) (((((hvi w v1 ((v5 + (3 : Int32)).toNatClampNeg)) <<< ((24 : Int32) &&& 31)) ||| (((hvi w v1 ((v5 + (4 : Int32)).toNatClampNeg)) &&& (255 : Int32)) <<< ((16 : Int32) &&& 31))) ||| (((hvi w v1 ((v5 + (5 : Int32)).toNatClampNeg)) &&& (255 : Int32)) <<< ((8 : Int32) &&& 31))) ||| ((hvi w v1 ((v5 + (6 : Int32)).toNatClampNeg)) &&& (255 : Int32))) v3 w) fun r19 w20 =>
  mC_X0_reads_119 k6 v0 v1 v2 v3 (v4 + (1 : Int32)) v5 w20)
  else
  (ck (decide ((hkd w v1).2 < 2147483648)) <|
  ck (oobR w (v5 + (2 : Int32)) (hkd w v1).2) <|
  st1 (hsz w + 2) fun b22 =>
  st1 (hoob w (v5 + (2 : Int32)) (hkd w v1).2) fun w24 =>
  mC_X0_reads_128 v4 b22 w24))
  else
  (ck (decide ((hkd w v1).2 < 2147483648)) <|
  ck (oobR w (v5 + (1 : Int32)) (hkd w v1).2) <|
  st1 (hsz w + 2) fun b28 =>
  st1 (hoob w (v5 + (1 : Int32)) (hkd w v1).2) fun w30 =>
  mC_X0_reads_128 v4 b28 w30))
  else
  (ck (decide ((hkd w v1).2 < 2147483648)) <|
  ck (oobR w v5 (hkd w v1).2) <|
  st1 (hsz w + 2) fun b34 =>
  st1 (hoob w v5 (hkd w v1).2) fun w36 =>
  mC_X0_reads_128 v4 b34 w36)))
  else
  (ck (decide ((hkd w v1).2 < 2147483648)) <|
  ck (oobR w (v5 + (2 : Int32)) (hkd w v1).2) <|
  st1 (hsz w + 2) fun b40 =>
  st1 (hoob w (v5 + (2 : Int32)) (hkd w v1).2) fun w42 =>
  mC_X0_reads_128 v4 b40 w42))
  else
  (ck (decide ((hkd w v1).2 < 2147483648)) <|
  ck (oobR w (v5 + (1 : Int32)) (hkd w v1).2) <|
  st1 (hsz w + 2) fun b46 =>
  st1 (hoob w (v5 + (1 : Int32)) (hkd w v1).2) fun w48 =>
  mC_X0_reads_128 v4 b46 w48))
  else
  (ck (decide ((hkd w v1).2 < 2147483648)) <|
  ck (oobR w v5 (hkd w v1).2) <|
  st1 (hsz w + 2) fun b52 =>
  st1 (hoob w v5 (hkd w v1).2) fun w54 =>
  mC_X0_reads_128 v4 b52 w54))
  else
  (ck (decide ((hkd w v1).2 < 2147483648)) <|
  ck (oobR w (v5 + (6 : Int32)) (hkd w v1).2) <|
  st1 (hsz w + 2) fun b58 =>
  st1 (hoob w (v5 + (6 : Int32)) (hkd w v1).2) fun w60 =>
  mC_X0_reads_128 v4 b58 w60))
  else
  (ck (decide ((hkd w v1).2 < 2147483648)) <|
  ck (oobR w (v5 + (5 : Int32)) (hkd w v1).2) <|
  st1 (hsz w + 2) fun b64 =>
  st1 (hoob w (v5 + (5 : Int32)) (hkd w v1).2) fun w66 =>
  mC_X0_reads_128 v4 b64 w66))
  else
  (ck (decide ((hkd w v1).2 < 2147483648)) <|
  ck (oobR w (v5 + (4 : Int32)) (hkd w v1).2) <|
  st1 (hsz w + 2) fun b70 =>
  st1 (hoob w (v5 + (4 : Int32)) (hkd w v1).2) fun w72 =>
  mC_X0_reads_128 v4 b70 w72))
  else
  (ck (decide ((hkd w v1).2 < 2147483648)) <|
  ck (oobR w (v5 + (3 : Int32)) (hkd w v1).2) <|
  st1 (hsz w + 2) fun b76 =>
  st1 (hoob w (v5 + (3 : Int32)) (hkd w v1).2) fun w78 =>
  mC_X0_reads_128 v4 b76 w78))
def mC_X0_reads (a : Nat) (p0 : Nat) (p1 : Int32) (p2 : Int32) (w : AH) : Option (Int32 × AH) :=
  lq7 (mC_X0_reads_6) LF a p0 p1 p2 (0 : Int32) (0 : Int32) w
def mC_X0_row (a : Nat) (p0 : Int32) (p1 : Int32) (w : AH) : Option (Int32 × AH) :=
  ck (kIn (hkd w a).1 [0]) <|
  st1 (siI w a 5 (0 : Int32)) fun w2 =>
  bd1 (mC_X0_isDay p1) fun r5 =>
  if r5 = (0 : Int32) then
  (ck (kIn (hkd w2 a).1 [0]) <|
  bd2 (mC_X0_refuse a (-1 : Int32) w2) fun r54 w55 =>
  some (r54, w55))
  else
  (ck (kIn (hkd w2 a).1 [0]) <|
  bd1 (mC_X0_isPlace a p0 w2) fun r9 =>
  if r9 = (0 : Int32) then
  (bd2 (mC_X0_refuse a (-2 : Int32) w2) fun r50 w51 =>
  some (r50, w51))
  else
  (bd1 (hvr w2 a 2) fun b11 =>
  ck (kIn (hkd w2 b11).1 [1]) <|
  bd1 (hvr w2 b11 1) fun b14 =>
  ck (kIn (hkd w2 b14).1 [2]) <|
  bd1 (mC_J2_size b14 w2) fun r18 =>
  if (r18 + ((hvi w a 5) / (7 : Int32))) ≤ (200 : Int32) then
  (if (hvi w a 5) = (0 : Int32) then
  (bd2 (mC_X0_refuse a (-6 : Int32) w2) fun r44 w45 =>
  some (r44, w45))
  else
  (ck (naB w2 (hvi w a 5) 1) <|
  st1 (hsz w2) fun b22 =>
  st1 (hnew w2 4 ((hvi w a 5).toNatClampNeg)) fun w24 =>
  ck (kIn (hkd w24 a).1 [0]) <|
  bd1 (hvr w24 a 4) fun b27 =>
  ck ((hkd w24 b27).1 == 4) <|
  ck ((hkd w24 b22).1 == 4) <|
  ck (cpOk (0 : Int32) (hvi w a 5) (hkd w24 b27).2 (0 : Int32) (hkd w24 b22).2) <|
  ck (allF isB (hvi w24 b27) (0 : Int32).toNatClampNeg (hvi w a 5).toNatClampNeg) <|
  st1 (hcpI w24 b27 (0 : Int32).toNatClampNeg b22 (0 : Int32).toNatClampNeg (hvi w a 5).toNatClampNeg) fun w33 =>
  ck (kIn (hkd w33 a).1 [0]) <|
  bd2 (mC_X0_reads a b22 p0 p1 w33) fun r37 w38 =>
  ck (kIn (hkd w38 a).1 [0]) <|
  bd2 (mC_X0_told a r37 w38) fun r41 w42 =>
  some (r41, w42)))
  else
  (bd2 (mC_X0_refuse a (-5 : Int32) w2) fun r47 w48 =>
  some (r47, w48))))
def mC_X0_isName (a : Nat) (p0 : Int32) (w : AH) : Option (Int32) :=
  if p0 < (0 : Int32) then
  (some (0 : Int32))
  else
  (ck (kIn (hkd w a).1 [0]) <|
  bd1 (hvr w a 2) fun b3 =>
  ck (kIn (hkd w b3).1 [1]) <|
  bd1 (hvr w b3 1) fun b6 =>
  ck (kIn (hkd w b6).1 [2]) <|
  bd1 (mC_J2_size b6 w) fun r10 =>
  if r10 ≤ p0 then
  (some (0 : Int32))
  else
  (some (1 : Int32)))
def mC_X0_off_14 (v0 : Nat) (w : AH) : Option (Int32 × AH) :=
  ck (kIn (hkd w v0).1 [0]) <|
  bd2 (mC_X0_refuse v0 (-1 : Int32) w) fun r3 w4 =>
  some (r3, w4)
def mC_X0_off (a : Nat) (p0 : Int32) (p1 : Int32) (p2 : Int32) (w : AH) : Option (Int32 × AH) :=
  bd1 (mC_X0_isDay p1) fun r2 =>
  if r2 = (0 : Int32) then
  (mC_X0_off_14 a w)
  else
  (bd1 (mC_X0_isDay p2) fun r5 =>
  if r5 = (0 : Int32) then
  (mC_X0_off_14 a w)
  else
  (ck (kIn (hkd w a).1 [0]) <|
  bd1 (mC_X0_isName a p0 w) fun r9 =>
  if r9 = (0 : Int32) then
  (bd2 (mC_X0_refuse a (-2 : Int32) w) fun r37 w38 =>
  some (r37, w38))
  else
  (bd1 (hvr w a 2) fun b11 =>
  ck (kIn (hkd w b11).1 [1]) <|
  bd1 (hvr w b11 9) fun b14 =>
  ck (arB w b14 1 p0) <|
  if (hvi w b14 (p0.toNatClampNeg)) = (-1 : Int32) then
  (st1 (siI w b14 (p0.toNatClampNeg) p1) fun w18 =>
  ck (kIn (hkd w18 a).1 [0]) <|
  bd1 (hvr w18 a 2) fun b21 =>
  ck (kIn (hkd w18 b21).1 [1]) <|
  bd1 (hvr w18 b21 10) fun b24 =>
  ck (arB w18 b24 1 p0) <|
  st1 (siI w18 b24 (p0.toNatClampNeg) p2) fun w27 =>
  ck (kIn (hkd w27 a).1 [0]) <|
  bd2 (mC_X0_told a (0 : Int32) w27) fun r31 w32 =>
  some (r31, w32))
  else
  (bd2 (mC_X0_refuse a (-4 : Int32) w) fun r34 w35 =>
  some (r34, w35)))))
def mC_J13_checkIndex_9 (v0 : Int32) (v1 : Int32) (v2 : Option Nat) : Option (Int32) :=
  none
def mC_J13_checkIndex (p0 : Int32) (p1 : Int32) (p2 : Option Nat) : Option (Int32) :=
  if p0 < (0 : Int32) then
  (mC_J13_checkIndex_9 p0 p1 p2)
  else
  (if p0 < p1 then
  (some p0)
  else
  (mC_J13_checkIndex_9 p0 p1 p2))
def mC_J12_checkIndex (p0 : Int32) (p1 : Int32) : Option (Int32) :=
  bd1 (mC_J13_checkIndex p0 p1 none) fun r2 =>
  some r2
def mC_J2_elementData (a : Nat) (p0 : Int32) (w : AH) : Option (Nat) :=
  ck (kIn (hkd w a).1 [2]) <|
  bd1 (hvr w a 1) fun b2 =>
  ck (arB w b2 5 p0) <|
  st1 (hvr w b2 (p0.toNatClampNeg)) fun x5 =>
  bd1 x5 fun b7 =>
  some b7
def mC_J2_get (a : Nat) (p0 : Int32) (w : AH) : Option (Nat) :=
  ck (kIn (hkd w a).1 [2]) <|
  bd1 (mC_J12_checkIndex p0 (hvi w a 2)) fun r3 =>
  bd1 (mC_J2_elementData a p0 w) fun r5 =>
  some r5
def mC_X0_moved_15 (v0 : Nat) (w : AH) : Option (Int32 × AH) :=
  ck (kIn (hkd w v0).1 [0]) <|
  bd2 (mC_X0_refuse v0 (-1 : Int32) w) fun r3 w4 =>
  some (r3, w4)
def mC_X0_moved_37 (v0 : Nat) (w : AH) : Option (Int32 × AH) :=
  ck (kIn (hkd w v0).1 [0]) <|
  bd2 (mC_X0_refuse v0 (-2 : Int32) w) fun r3 w4 =>
  some (r3, w4)
def mC_X0_moved (a : Nat) (p0 : Int32) (p1 : Int32) (p2 : Int32) (p3 : Int32) (w : AH) : Option (Int32 × AH) :=
  bd1 (mC_X0_isDay p2) fun r2 =>
  if r2 = (0 : Int32) then
  (mC_X0_moved_15 a w)
  else
  (bd1 (mC_X0_isDay p3) fun r5 =>
  if r5 = (0 : Int32) then
  (mC_X0_moved_15 a w)
  else
  (ck (kIn (hkd w a).1 [0]) <|
  bd1 (mC_X0_isName a p0 w) fun r9 =>
  if r9 = (0 : Int32) then
  (mC_X0_moved_37 a w)
  else
  (bd1 (mC_X0_isPlace a p1 w) fun r12 =>
  if r12 = (0 : Int32) then
  (mC_X0_moved_37 a w)
  else
  (bd1 (hvr w a 2) fun b14 =>
  ck (kIn (hkd w b14).1 [1]) <|
  bd1 (hvr w b14 1) fun b17 =>
  ck (kIn (hkd w b17).1 [2]) <|
  bd1 (mC_J2_get b17 p0 w) fun r21 =>
  ck (kIn (hkd w r21).1 [9, 10, 11, 12]) <|
  if (hvi w r21 0) = p1 then
  (bd2 (mC_X0_refuse a (-3 : Int32) w) fun r56 w57 =>
  some (r56, w57))
  else
  (bd1 (hvr w b14 11) fun b24 =>
  ck (arB w b24 1 p0) <|
  if (hvi w b24 (p0.toNatClampNeg)) = (-1 : Int32) then
  (st1 (siI w b24 (p0.toNatClampNeg) p1) fun w28 =>
  ck (kIn (hkd w28 a).1 [0]) <|
  bd1 (hvr w28 a 2) fun b31 =>
  ck (kIn (hkd w28 b31).1 [1]) <|
  bd1 (hvr w28 b31 12) fun b34 =>
  ck (arB w28 b34 1 p0) <|
  st1 (siI w28 b34 (p0.toNatClampNeg) p2) fun w37 =>
  ck (kIn (hkd w37 a).1 [0]) <|
  bd1 (hvr w37 a 2) fun b40 =>
  ck (kIn (hkd w37 b40).1 [1]) <|
  bd1 (hvr w37 b40 13) fun b43 =>
  ck (arB w37 b43 1 p0) <|
  st1 (siI w37 b43 (p0.toNatClampNeg) p3) fun w46 =>
  ck (kIn (hkd w46 a).1 [0]) <|
  bd2 (mC_X0_told a (0 : Int32) w46) fun r50 w51 =>
  some (r50, w51))
  else
  (bd2 (mC_X0_refuse a (-4 : Int32) w) fun r53 w54 =>
  some (r53, w54)))))))
def mC_X8_kind (a : Nat) (w : AH) : Option (Int32) :=
  some (0 : Int32)
def mC_X9_kind (a : Nat) (w : AH) : Option (Int32) :=
  ck (kIn (hkd w a).1 [10]) <|
  bd1 (mC_X8_kind a w) fun r3 =>
  some (r3 + (1 : Int32))
def mC_X10_kind (a : Nat) (w : AH) : Option (Int32) :=
  some (2 : Int32)
def mC_X11_kind (a : Nat) (w : AH) : Option (Int32) :=
  ck (kIn (hkd w a).1 [12]) <|
  bd1 (mC_X10_kind a w) fun r3 =>
  some ((r3 + (3 : Int32)) - (2 : Int32))
def dKind (b : Nat) (w : AH) : Option (Int32) :=
  if (hkd w b).1 = 19 then mC_X8_kind b w else if (hkd w b).1 = 20 then mC_X9_kind b w else if (hkd w b).1 = 21 then mC_X10_kind b w else if (hkd w b).1 = 22 then mC_X11_kind b w else none
def mC_X0_of (a : Nat) (p0 : Int32) (p1 : Int32) (w : AH) : Option (Int32) :=
  ck (kIn (hkd w a).1 [0]) <|
  bd1 (mC_X0_isName a p0 w) fun r3 =>
  if r3 = (0 : Int32) then
  (some (-1 : Int32))
  else
  (bd1 (hvr w a 2) fun b5 =>
  ck (kIn (hkd w b5).1 [1]) <|
  bd1 (hvr w b5 1) fun b8 =>
  ck (kIn (hkd w b8).1 [2]) <|
  bd1 (mC_J2_get b8 p0 w) fun r12 =>
  ck (kIn (hkd w r12).1 [9, 10, 11, 12]) <|
  (if p1 = (0 : Int32) then
  (some (hvi w r12 0))
  else if p1 = (1 : Int32) then
  (some (hvi w r12 1))
  else if p1 = (2 : Int32) then
  (some (hvi w r12 2))
  else if p1 = (3 : Int32) then
  (bd1 (dKind r12 w) fun r15 =>
  some r15)
  else if p1 = (4 : Int32) then
  (some (hvi w r12 3))
  else (some (-1 : Int32))))
def mC_X0_hasMoved (a : Nat) (p0 : Int32) (p1 : Int32) (p2 : Int32) (w : AH) : Option (Int32) :=
  ck (kIn (hkd w a).1 [0]) <|
  bd1 (hvr w a 2) fun b2 =>
  ck (kIn (hkd w b2).1 [1]) <|
  bd1 (hvr w b2 11) fun b5 =>
  ck (arB w b5 1 p0) <|
  if (hvi w b5 (p0.toNatClampNeg)) = (-1 : Int32) then
  (some (0 : Int32))
  else
  (bd1 (hvr w b2 12) fun b9 =>
  ck (arB w b9 1 p0) <|
  if p1 < (hvi w b9 (p0.toNatClampNeg)) then
  (some (0 : Int32))
  else
  (bd1 (hvr w b2 13) fun b13 =>
  ck (arB w b13 1 p0) <|
  if p2 < (hvi w b13 (p0.toNatClampNeg)) then
  (some (0 : Int32))
  else
  (some (1 : Int32))))
def mC_X0_placeOf (a : Nat) (p0 : Int32) (p1 : Int32) (p2 : Int32) (w : AH) : Option (Int32) :=
  ck (kIn (hkd w a).1 [0]) <|
  bd1 (mC_X0_hasMoved a p0 p1 p2 w) fun r3 =>
  if r3 = (0 : Int32) then
  (bd1 (hvr w a 2) fun b5 =>
  ck (kIn (hkd w b5).1 [1]) <|
  bd1 (hvr w b5 1) fun b8 =>
  ck (kIn (hkd w b8).1 [2]) <|
  bd1 (mC_J2_get b8 p0 w) fun r12 =>
  ck (kIn (hkd w r12).1 [9, 10, 11, 12]) <|
  some (hvi w r12 0))
  else
  (bd1 (hvr w a 2) fun b14 =>
  ck (kIn (hkd w b14).1 [1]) <|
  bd1 (hvr w b14 11) fun b17 =>
  ck (arB w b17 1 p0) <|
  some (hvi w b17 (p0.toNatClampNeg)))
def mC_X0_where (a : Nat) (p0 : Int32) (p1 : Int32) (p2 : Int32) (w : AH) : Option (Int32) :=
  ck (kIn (hkd w a).1 [0]) <|
  bd1 (mC_X0_isName a p0 w) fun r3 =>
  if r3 = (0 : Int32) then
  (some (-1 : Int32))
  else
  (bd1 (mC_X0_isDay p1) fun r6 =>
  if r6 = (0 : Int32) then
  (some (-1 : Int32))
  else
  (bd1 (mC_X0_isDay p2) fun r9 =>
  if r9 = (0 : Int32) then
  (some (-1 : Int32))
  else
  (bd1 (hvr w a 2) fun b11 =>
  ck (kIn (hkd w b11).1 [1]) <|
  bd1 (hvr w b11 1) fun b14 =>
  ck (kIn (hkd w b14).1 [2]) <|
  bd1 (mC_J2_get b14 p0 w) fun r18 =>
  ck (kIn (hkd w r18).1 [9, 10, 11, 12]) <|
  if p2 < (hvi w r18 4) then
  (some (-1 : Int32))
  else
  (bd1 (mC_X0_placeOf a p0 p1 p2 w) fun r22 =>
  some r22))))
def mC_X0_likeOf_121 (w : AH) (k76 : Nat → Nat → Int32 → Int32 → Option (Int32)) (v3 : Nat) (v4 : Nat) (v6 : Int32) (t0 : Int32) (t1 : Int32) : Option (Int32) :=
  k76 v3 v4 (t1 + t0) (v6 + (1 : Int32))
def mC_X0_likeOf_76 (w : AH) (k76 : Nat → Nat → Int32 → Int32 → Option (Int32)) (v3 : Nat) (v4 : Nat) (v5 : Int32) (v6 : Int32) : Option (Int32) :=
  if (4 : Int32) ≤ v6 then
  (some v5)
  else
  (ck (kIn (hkd w v3).1 [9, 10, 11, 12]) <|
  ck (kIn (hkd w v4).1 [9, 10, 11, 12]) <|
  if (((hvi w v3 3) >>> (((8 : Int32) * v6) &&& 31)) &&& (255 : Int32)) = (((hvi w v4 3) >>> (((8 : Int32) * v6) &&& 31)) &&& (255 : Int32)) then
  (mC_X0_likeOf_121 w k76 v3 v4 v6 (1 : Int32) v5)
  else
  (mC_X0_likeOf_121 w k76 v3 v4 v6 (0 : Int32) v5))
def mC_X0_likeOf_70 (w : AH) (v3 : Nat) (v4 : Nat) (t0 : Int32) (t1 : Int32) : Option (Int32) :=
  lq4 (mC_X0_likeOf_76 w) LF v3 v4 (t1 + t0) (0 : Int32)
def mC_X0_likeOf_48 (w : AH) (v3 : Nat) (v4 : Nat) (t0 : Int32) : Option (Int32) :=
  ck (kIn (hkd w v3).1 [9, 10, 11, 12]) <|
  ck (kIn (hkd w v4).1 [9, 10, 11, 12]) <|
  st1 (if 0 ≤ ((hvi w v3 2) - (hvi w v4 2)) then ((hvi w v3 2) - (hvi w v4 2)) else 0 - ((hvi w v3 2) - (hvi w v4 2))) fun r3 =>
  if (2 : Int32) < r3 then
  (mC_X0_likeOf_70 w v3 v4 (0 : Int32) t0)
  else
  (mC_X0_likeOf_70 w v3 v4 (1 : Int32) t0)
def mC_X0_likeOf (a : Nat) (p0 : Int32) (p1 : Int32) (w : AH) : Option (Int32) :=
  ck (kIn (hkd w a).1 [0]) <|
  bd1 (hvr w a 2) fun b2 =>
  ck (kIn (hkd w b2).1 [1]) <|
  bd1 (hvr w b2 1) fun b5 =>
  ck (kIn (hkd w b5).1 [2]) <|
  bd1 (mC_J2_get b5 p0 w) fun r9 =>
  ck (kIn (hkd w r9).1 [9, 10, 11, 12]) <|
  bd1 (mC_J2_get b5 p1 w) fun r12 =>
  ck (kIn (hkd w r12).1 [9, 10, 11, 12]) <|
  if (hvi w r9 1) = (hvi w r12 1) then
  (mC_X0_likeOf_48 w r9 r12 (1 : Int32))
  else
  (mC_X0_likeOf_48 w r9 r12 (0 : Int32))
def mC_X0_like (a : Nat) (p0 : Int32) (p1 : Int32) (w : AH) : Option (Int32) :=
  ck (kIn (hkd w a).1 [0]) <|
  bd1 (mC_X0_isName a p0 w) fun r3 =>
  if r3 = (0 : Int32) then
  (some (-1 : Int32))
  else
  (bd1 (mC_X0_isName a p1 w) fun r6 =>
  if r6 = (0 : Int32) then
  (some (-1 : Int32))
  else
  (if p0 = p1 then
  (some (-1 : Int32))
  else
  (bd1 (mC_X0_likeOf a p0 p1 w) fun r10 =>
  some r10)))
def mC_X12_init (a : Nat) (p0 : Int32) (p1 : Int32) (p2 : Int32) (p3 : Int32) (p4 : Int32) (w : AH) : Option (AH) :=
  ck (kIn (hkd w a).1 [14]) <|
  st1 (siI w a 0 p0) fun w2 =>
  ck (kIn (hkd w2 a).1 [14]) <|
  st1 (siI w2 a 1 p1) fun w5 =>
  ck (kIn (hkd w5 a).1 [14]) <|
  st1 (siI w5 a 2 p2) fun w8 =>
  ck (kIn (hkd w8 a).1 [14]) <|
  st1 (siI w8 a 3 p3) fun w11 =>
  ck (kIn (hkd w11 a).1 [14]) <|
  st1 (siI w11 a 4 p4) fun w14 =>
  some w14
def mC_X0_apart_16 (v0 : Nat) (w : AH) : Option (Int32 × AH) :=
  ck (kIn (hkd w v0).1 [0]) <|
  bd2 (mC_X0_refuse v0 (-2 : Int32) w) fun r3 w4 =>
  some (r3, w4)
def mC_X0_apart (a : Nat) (p0 : Int32) (p1 : Int32) (w : AH) : Option (Int32 × AH) :=
  ck (kIn (hkd w a).1 [0]) <|
  bd1 (mC_X0_isName a p0 w) fun r3 =>
  if r3 = (0 : Int32) then
  (mC_X0_apart_16 a w)
  else
  (bd1 (mC_X0_isName a p1 w) fun r6 =>
  if r6 = (0 : Int32) then
  (mC_X0_apart_16 a w)
  else
  (if p0 = p1 then
  (bd2 (mC_X0_refuse a (-3 : Int32) w) fun r45 w46 =>
  some (r45, w46))
  else
  (bd1 (hvr w a 2) fun b9 =>
  ck (kIn (hkd w b9).1 [1]) <|
  bd1 (hvr w b9 2) fun b12 =>
  ck (kIn (hkd w b12).1 [2]) <|
  bd1 (mC_J2_size b12 w) fun r16 =>
  if r16 = (40 : Int32) then
  (bd2 (mC_X0_refuse a (-5 : Int32) w) fun r42 w43 =>
  some (r42, w43))
  else
  (ck (rmB w 5) <|
  st1 (hsz w) fun b19 =>
  st1 (hnew w 24 5) fun w21 =>
  bd1 (mC_X12_init b19 p0 p1 (0 : Int32) (0 : Int32) (0 : Int32) w21) fun w24 =>
  ck (kIn (hkd w24 b12).1 [2]) <|
  bd2 (mC_J2_add b12 b19 w24) fun r27 w28 =>
  ck (kIn (hkd w28 a).1 [0]) <|
  bd1 (hvr w28 a 2) fun b30 =>
  ck (kIn (hkd w28 b30).1 [1]) <|
  bd1 (hvr w28 b30 2) fun b33 =>
  ck (kIn (hkd w28 b33).1 [2]) <|
  bd1 (mC_J2_size b33 w28) fun r37 =>
  bd2 (mC_X0_told a r37 w28) fun r39 w40 =>
  some (r39, w40)))))
def mC_X0_four_3 (k3 : Nat → Int32 → Int32 → AH → Option (AH)) (v0 : Nat) (v1 : Int32) (v2 : Int32) (w : AH) : Option (AH) :=
  if v2 < (0 : Int32) then
  (some w)
  else
  (ck (kIn (hkd w v0).1 [0]) <|
  bd1 (hvr w v0 4) fun b3 =>
  ck (arB w b3 4 (hvi w v0 5)) <|
  st1 (siI w b3 ((hvi w v0 5).toNatClampNeg) ((v1 >>> (v2 &&& 31)).toInt8.toInt32).toInt8.toInt32) fun w6 =>
  ck (kIn (hkd w6 v0).1 [0]) <|
  st1 (siI w6 v0 5 ((hvi w6 v0 5) + (1 : Int32))) fun w9 =>
  k3 v0 v1 (v2 + (-8 : Int32)) w9)
def mC_X0_four (a : Nat) (p0 : Int32) (w : AH) : Option (AH) :=
  lq4 (mC_X0_four_3) LF a p0 (24 : Int32) w
def mC_X0_feed (a : Nat) (p0 : Int32) (p1 : Int32) (p2 : Int32) (p3 : Int32) (p4 : Int32) (w : AH) : Option (Int32 × AH) :=
  ck (kIn (hkd w a).1 [0]) <|
  if ((hvi w a 5) + (20 : Int32)) ≤ (400 : Int32) then
  (bd1 (mC_X0_four a p0 w) fun w4 =>
  ck (kIn (hkd w4 a).1 [0]) <|
  bd1 (mC_X0_four a p1 w4) fun w7 =>
  ck (kIn (hkd w7 a).1 [0]) <|
  bd1 (mC_X0_four a p2 w7) fun w10 =>
  ck (kIn (hkd w10 a).1 [0]) <|
  bd1 (mC_X0_four a p3 w10) fun w13 =>
  ck (kIn (hkd w13 a).1 [0]) <|
  bd1 (mC_X0_four a p4 w13) fun w16 =>
  ck (kIn (hkd w16 a).1 [0]) <|
  some ((hvi w16 a 5), w16))
  else
  (some ((-1 : Int32), w))
def mC_X0_end (a : Nat) (p0 : Int32) (w : AH) : Option (Int32 × AH) :=
  if p0 < (0 : Int32) then
  (some ((-1 : Int32), w))
  else
  (ck (kIn (hkd w a).1 [0]) <|
  if p0 ≤ (hvi w a 5) then
  (st1 (siI w a 5 p0) fun w4 =>
  some (p0, w4))
  else
  (some ((-1 : Int32), w)))
def mC_X13_init (a : Nat) (p0 : Nat) (p1 : Int32) (w : AH) : Option (AH) :=
  ck (rmB w 3) <|
  st1 (hsz w) fun b2 =>
  st1 (hnew w 12 3) fun w4 =>
  bd1 (mC_J2_init b2 (2 : Int32) w4) fun w7 =>
  ck (kIn (hkd w7 a).1 [15]) <|
  st1 (siR w7 a 2 (some b2)) fun w9 =>
  ck (kIn (hkd w9 a).1 [15]) <|
  st1 (siR w9 a 0 (some p0)) fun w12 =>
  ck (kIn (hkd w12 a).1 [15]) <|
  st1 (siI w12 a 1 p1) fun w15 =>
  some w15
def mC_X13_isIn (a : Nat) (p0 : Int32) (p1 : Int32) (p2 : Int32) (w : AH) : Option (Int32) :=
  ck (kIn (hkd w a).1 [15]) <|
  if (hvi w a 1) ≤ p0 then
  (some (0 : Int32))
  else
  (bd1 (hvr w a 0) fun b3 =>
  ck (arB w b3 4 p0) <|
  if (hvi w b3 (p0.toNatClampNeg)) < p1 then
  (some (0 : Int32))
  else
  (if p2 < (hvi w b3 (p0.toNatClampNeg)) then
  (some (0 : Int32))
  else
  (some (1 : Int32))))
def mC_X13_next_102 (k102 : Nat → AH → Option (AH)) (v0 : Nat) (w : AH) : Option (AH) :=
  ck (kIn (hkd w v0).1 [15]) <|
  bd1 (mC_X13_isIn v0 (hvi w v0 4) (48 : Int32) (57 : Int32) w) fun r3 =>
  if r3 = (0 : Int32) then
  (some w)
  else
  (st1 (siI w v0 4 ((hvi w v0 4) + (1 : Int32))) fun w5 =>
  k102 v0 w5)
def mC_X13_next_59 (k59 : Nat → AH → Option (AH)) (v0 : Nat) (w : AH) : Option (AH) :=
  ck (kIn (hkd w v0).1 [15]) <|
  bd1 (mC_X13_isIn v0 (hvi w v0 4) (97 : Int32) (122 : Int32) w) fun r3 =>
  if r3 = (0 : Int32) then
  (some w)
  else
  (st1 (siI w v0 4 ((hvi w v0 4) + (1 : Int32))) fun w5 =>
  k59 v0 w5)
def mC_X13_next_8 (k8 : Nat → AH → Option (AH)) (v0 : Nat) (w : AH) : Option (AH) :=
  ck (kIn (hkd w v0).1 [15]) <|
  bd1 (mC_X13_isIn v0 (hvi w v0 3) (32 : Int32) (32 : Int32) w) fun r3 =>
  if r3 = (0 : Int32) then
  (st1 (siI w v0 4 (hvi w v0 3)) fun w5 =>
  ck (kIn (hkd w5 v0).1 [15]) <|
  bd1 (mC_X13_isIn v0 (hvi w5 v0 3) (97 : Int32) (122 : Int32) w5) fun r9 =>
  if r9 = (0 : Int32) then
  (bd1 (mC_X13_isIn v0 (hvi w5 v0 3) (48 : Int32) (57 : Int32) w5) fun r12 =>
  if r12 = (0 : Int32) then
  (if (hvi w5 v0 1) ≤ (hvi w5 v0 3) then
  (some w5)
  else
  (st1 (siI w5 v0 4 ((hvi w5 v0 4) + (1 : Int32))) fun w15 =>
  some w15))
  else
  (lq2 (mC_X13_next_102) LF v0 w5))
  else
  (lq2 (mC_X13_next_59) LF v0 w5))
  else
  (st1 (siI w v0 3 ((hvi w v0 3) + (1 : Int32))) fun w17 =>
  k8 v0 w17)
def mC_X13_next (a : Nat) (w : AH) : Option (AH) :=
  ck (kIn (hkd w a).1 [15]) <|
  st1 (siI w a 3 (hvi w a 4)) fun w2 =>
  lq2 (mC_X13_next_8) LF a w2
def mC_X14_init (a : Nat) (p0 : Int32) (w : AH) : Option (AH) :=
  bd1 (mC_J4_init a none none (0 : Int32) (0 : Int32) w) fun w2 =>
  ck (kIn (hkd w2 a).1 [16]) <|
  st1 (siI w2 a 6 p0) fun w4 =>
  some w4
def mC_J11_coder (a : Nat) (w : AH) : Option (Int32) :=
  if (1 : Int32) = (0 : Int32) then
  (ck (narrow .byte (.int (1 : Int32)) == .int (1 : Int32)) <|
  some (1 : Int32))
  else
  (ck ((hkd w a).1 == 90) <|
  ck (narrow .byte (.int (hvi w a 1)) == .int (hvi w a 1)) <|
  some (hvi w a 1))
def mC_J11_length (a : Nat) (w : AH) : Option (Int32) :=
  ck ((hkd w a).1 == 90) <|
  bd1 (hvr w a 0) fun b2 =>
  ck (arC (hkd w b2).1) <|
  bd1 (mC_J11_coder a w) fun r6 =>
  some ((Int32.ofNat (hkd w b2).2) >>> (r6 &&& 31))
def mC_J11_isLatin1 (a : Nat) (w : AH) : Option (Int32) :=
  if (1 : Int32) = (0 : Int32) then
  (some (0 : Int32))
  else
  (ck ((hkd w a).1 == 90) <|
  if (hvi w a 1) = (0 : Int32) then
  (some (1 : Int32))
  else
  (some (0 : Int32)))
def mC_J11_checkIndex (p0 : Int32) (p1 : Int32) (w : AH) : Option (Unit) :=
  st1 (hst w 1002) fun x1 =>
  bd1 (mC_J13_checkIndex p0 p1 x1) fun r4 =>
  some ()
def mC_J14_charAt (p0 : Nat) (p1 : Int32) (w : AH) : Option (Int32) :=
  ck (arC (hkd w p0).1) <|
  bd1 (mC_J11_checkIndex p1 (Int32.ofNat (hkd w p0).2) w) fun r3 =>
  ck (bnd p1 (hkd w p0).2) <|
  ck (narrow .char (.int ((((hvi w p0 (p1.toNatClampNeg)) &&& (255 : Int32)).toUInt32 % 65536).toInt32)) == .int ((((hvi w p0 (p1.toNatClampNeg)) &&& (255 : Int32)).toUInt32 % 65536).toInt32)) <|
  some ((((hvi w p0 (p1.toNatClampNeg)) &&& (255 : Int32)).toUInt32 % 65536).toInt32)
def mC_J11_charAt (a : Nat) (p0 : Int32) (w : AH) : Option (Int32) :=
  ck ((hkd w a).1 == 90) <|
  bd1 (mC_J11_isLatin1 a w) fun r3 =>
  if r3 = (0 : Int32) then
  (bd1 (hvr w a 0) fun b5 =>
  none)
  else
  (bd1 (hvr w a 0) fun b7 =>
  bd1 (mC_J14_charAt b7 p0 w) fun r10 =>
  ck (narrow .char (.int r10) == .int r10) <|
  some r10)
def mC_X13_is_20 (w : AH) (k20 : Nat → Nat → Int32 → Option (Int32)) (v0 : Nat) (v1 : Nat) (v2 : Int32) : Option (Int32) :=
  ck ((hkd w v1).1 == 90) <|
  bd1 (mC_J11_length v1 w) fun r3 =>
  if r3 ≤ v2 then
  (some (1 : Int32))
  else
  (ck (kIn (hkd w v0).1 [15]) <|
  bd1 (hvr w v0 0) fun b6 =>
  ck (arB w b6 4 ((hvi w v0 3) + v2)) <|
  bd1 (mC_J11_charAt v1 v2 w) fun r10 =>
  if (hvi w b6 (((hvi w v0 3) + v2).toNatClampNeg)) = r10 then
  (k20 v0 v1 (v2 + (1 : Int32)))
  else
  (some (0 : Int32)))
def mC_X13_is (a : Nat) (p0 : Nat) (w : AH) : Option (Int32) :=
  ck (kIn (hkd w a).1 [15]) <|
  ck ((hkd w p0).1 == 90) <|
  bd1 (mC_J11_length p0 w) fun r4 =>
  if ((hvi w a 4) - (hvi w a 3)) = r4 then
  (lq3 (mC_X13_is_20 w) LF a p0 (0 : Int32))
  else
  (some (0 : Int32))
def mC_X13_takes (a : Nat) (p0 : Nat) (w : AH) : Option (Int32 × AH) :=
  ck (kIn (hkd w a).1 [15]) <|
  bd1 (mC_X13_is a p0 w) fun r3 =>
  if r3 = (0 : Int32) then
  (ck (isZ r3) <|
  some (r3, w))
  else
  (bd1 (mC_X13_next a w) fun w7 =>
  ck (isZ r3) <|
  some (r3, w7))
def mC_X13_number_81 (v0 : Nat) (w : AH) : Option ((Int32 ⊕ Nat) × AH) :=
  ck (rmB w 7) <|
  st1 (hsz w) fun b2 =>
  st1 (hnew w 26 7) fun w4 =>
  ck (kIn (hkd w4 v0).1 [15]) <|
  bd1 (mC_X14_init b2 (hvi w4 v0 3) w4) fun w8 =>
  some (Sum.inr b2, w8)
def mC_X13_number_71 (v0 : Nat) (v1 : Int32) (v2 : Int32) (v3 : Int32) (w : AH) : Option ((Int32 ⊕ Nat) × AH) :=
  if v3 < v1 then
  (mC_X13_number_81 v0 w)
  else
  (if v3 ≤ v2 then
  (ck (kIn (hkd w v0).1 [15]) <|
  bd1 (mC_X13_next v0 w) fun w5 =>
  some (Sum.inl v3, w5))
  else
  (mC_X13_number_81 v0 w))
def mC_X13_number_35 (k35 : Nat → Int32 → Int32 → Int32 → Int32 → AH → Option ((Int32 ⊕ Nat) × AH)) (v0 : Nat) (v1 : Int32) (v2 : Int32) (v3 : Int32) (v4 : Int32) (w : AH) : Option ((Int32 ⊕ Nat) × AH) :=
  ck (kIn (hkd w v0).1 [15]) <|
  if (hvi w v0 4) ≤ v4 then
  (mC_X13_number_71 v0 v1 v2 v3 w)
  else
  (if v2 < v3 then
  (mC_X13_number_71 v0 v1 v2 v3 w)
  else
  (bd1 (hvr w v0 0) fun b4 =>
  ck (arB w b4 4 v4) <|
  k35 v0 v1 v2 ((((10 : Int32) * v3) + (hvi w b4 (v4.toNatClampNeg))) - (48 : Int32)) (v4 + (1 : Int32)) w))
def mC_X13_number (a : Nat) (p0 : Int32) (p1 : Int32) (w : AH) : Option ((Int32 ⊕ Nat) × AH) :=
  ck (kIn (hkd w a).1 [15]) <|
  bd1 (mC_X13_isIn a (hvi w a 3) (48 : Int32) (57 : Int32) w) fun r3 =>
  if r3 = (0 : Int32) then
  (ck (rmB w 7) <|
  st1 (hsz w) fun b6 =>
  st1 (hnew w 26 7) fun w8 =>
  ck (kIn (hkd w8 a).1 [15]) <|
  bd1 (mC_X14_init b6 (hvi w8 a 3) w8) fun w12 =>
  some (Sum.inr b6, w12))
  else
  (lq6 (mC_X13_number_35) LF a p0 p1 (0 : Int32) (hvi w a 3) w)
def mC_X13_need (a : Nat) (p0 : Nat) (w : AH) : Option ((Unit ⊕ Nat) × AH) :=
  ck (kIn (hkd w a).1 [15]) <|
  bd2 (mC_X13_takes a p0 w) fun r3 w4 =>
  if r3 = (0 : Int32) then
  (ck (rmB w4 7) <|
  st1 (hsz w4) fun b7 =>
  st1 (hnew w4 26 7) fun w9 =>
  ck (kIn (hkd w9 a).1 [15]) <|
  bd1 (mC_X14_init b7 (hvi w9 a 3) w9) fun w13 =>
  some (Sum.inr b7, w13))
  else
  (some (Sum.inl (), w4))
def mC_X15_init (a : Nat) (p0 : Int32) (p1 : Int32) (p2 : Int32) (w : AH) : Option (AH) :=
  ck (kIn (hkd w a).1 [17]) <|
  st1 (siI w a 0 p0) fun w2 =>
  ck (kIn (hkd w2 a).1 [17]) <|
  st1 (siI w2 a 1 p1) fun w5 =>
  ck (kIn (hkd w5 a).1 [17]) <|
  st1 (siI w5 a 2 p2) fun w8 =>
  some w8
def mC_X20_init (a : Nat) (w : AH) : Option (Unit) :=
  some ()
def mC_X24_init (a : Nat) (p0 : Int32) (w : AH) : Option (AH) :=
  bd1 (mC_X20_init a w) fun r2 =>
  ck (rmB w 3) <|
  st1 (hsz w) fun b4 =>
  st1 (hnew w 12 3) fun w6 =>
  bd1 (mC_J2_init b4 (2 : Int32) w6) fun w9 =>
  ck (kIn (hkd w9 a).1 [24]) <|
  st1 (siR w9 a 1 (some b4)) fun w11 =>
  ck (kIn (hkd w11 a).1 [24]) <|
  ck (isZ p0) <|
  st1 (siI w11 a 0 p0) fun w15 =>
  some w15
def mC_X23_init (a : Nat) (p0 : Nat) (w : AH) : Option (AH) :=
  bd1 (mC_X20_init a w) fun r2 =>
  ck (kIn (hkd w a).1 [23]) <|
  st1 (siR w a 0 (some p0)) fun w4 =>
  some w4
def mC_X13_opens (a : Nat) (w : AH) : Option ((Unit ⊕ Nat) × AH) :=
  ck (kIn (hkd w a).1 [15]) <|
  if (hvi w a 6) = (8 : Int32) then
  (ck (rmB w 7) <|
  st1 (hsz w) fun b9 =>
  st1 (hnew w 26 7) fun w11 =>
  ck (kIn (hkd w11 a).1 [15]) <|
  bd1 (mC_X14_init b9 (hvi w11 a 3) w11) fun w15 =>
  some (Sum.inr b9, w15))
  else
  (st1 (siI w a 6 ((hvi w a 6) + (1 : Int32))) fun w3 =>
  ck (kIn (hkd w3 a).1 [15]) <|
  bd1 (mC_X13_next a w3) fun w7 =>
  some (Sum.inl (), w7))
def mC_X13_flag (a : Nat) (w : AH) : Option (Int32) :=
  bd1 (hst w 154) fun b1 =>
  ck (kIn (hkd w a).1 [15]) <|
  bd1 (mC_X13_is a b1 w) fun r5 =>
  if r5 = (0 : Int32) then
  (bd1 (hst w 156) fun b7 =>
  bd1 (mC_X13_is a b7 w) fun r10 =>
  if r10 = (0 : Int32) then
  (bd1 (hst w 158) fun b12 =>
  bd1 (mC_X13_is a b12 w) fun r15 =>
  if r15 = (0 : Int32) then
  (bd1 (hst w 160) fun b17 =>
  bd1 (mC_X13_is a b17 w) fun r20 =>
  if r20 = (0 : Int32) then
  (bd1 (hst w 162) fun b22 =>
  bd1 (mC_X13_is a b22 w) fun r25 =>
  if r25 = (0 : Int32) then
  (some (-1 : Int32))
  else
  (some (4 : Int32)))
  else
  (some (3 : Int32)))
  else
  (some (2 : Int32)))
  else
  (some (1 : Int32)))
  else
  (some (0 : Int32))
def mC_X13_leaf (a : Nat) (w : AH) : Option ((Unit ⊕ Nat) × AH) :=
  ck (kIn (hkd w a).1 [15]) <|
  if (hvi w a 5) = (50 : Int32) then
  (ck (rmB w 7) <|
  st1 (hsz w) fun b6 =>
  st1 (hnew w 26 7) fun w8 =>
  ck (kIn (hkd w8 a).1 [15]) <|
  bd1 (mC_X14_init b6 (hvi w8 a 3) w8) fun w12 =>
  some (Sum.inr b6, w12))
  else
  (st1 (siI w a 5 ((hvi w a 5) + (1 : Int32))) fun w3 =>
  some (Sum.inl (), w3))
def mC_X21_init (a : Nat) (p0 : Int32) (w : AH) : Option (AH) :=
  bd1 (mC_X20_init a w) fun r2 =>
  ck (kIn (hkd w a).1 [21]) <|
  st1 (siI w a 0 p0) fun w4 =>
  some w4
def mC_X22_init (a : Nat) (p0 : Int32) (p1 : Nat) (p2 : Nat) (w : AH) : Option (AH) :=
  bd1 (mC_X20_init a w) fun r2 =>
  ck (kIn (hkd w a).1 [22]) <|
  ck (isC p0) <|
  st1 (siI w a 0 p0) fun w5 =>
  ck (kIn (hkd w5 a).1 [22]) <|
  st1 (siR w5 a 1 (some p1)) fun w8 =>
  ck (kIn (hkd w8 a).1 [22]) <|
  st1 (siR w8 a 2 (some p2)) fun w11 =>
  some w11
def mC_X16_init (a : Nat) (w : AH) : Option (Unit) :=
  some ()
def mC_X19_init (a : Nat) (p0 : Int32) (p1 : Nat) (p2 : Nat) (w : AH) : Option (AH) :=
  bd1 (mC_X16_init a w) fun r2 =>
  ck (kIn (hkd w a).1 [20]) <|
  ck (isC p0) <|
  st1 (siI w a 0 p0) fun w5 =>
  ck (kIn (hkd w5 a).1 [20]) <|
  st1 (siR w5 a 1 (some p1)) fun w8 =>
  ck (kIn (hkd w8 a).1 [20]) <|
  st1 (siR w8 a 2 (some p2)) fun w11 =>
  some w11
def mC_X17_init (a : Nat) (p0 : Int32) (w : AH) : Option (AH) :=
  bd1 (mC_X16_init a w) fun r2 =>
  ck (kIn (hkd w a).1 [18]) <|
  st1 (siI w a 0 p0) fun w4 =>
  some w4
def mC_X13_value (a : Nat) (w : AH) : Option (Int32) :=
  bd1 (hst w 211) fun b1 =>
  ck (kIn (hkd w a).1 [15]) <|
  bd1 (mC_X13_is a b1 w) fun r5 =>
  if r5 = (0 : Int32) then
  (bd1 (hst w 213) fun b7 =>
  bd1 (mC_X13_is a b7 w) fun r10 =>
  if r10 = (0 : Int32) then
  (bd1 (hst w 215) fun b12 =>
  bd1 (mC_X13_is a b12 w) fun r15 =>
  if r15 = (0 : Int32) then
  (bd1 (hst w 217) fun b17 =>
  bd1 (mC_X13_is a b17 w) fun r20 =>
  if r20 = (0 : Int32) then
  (bd1 (hst w 219) fun b22 =>
  bd1 (mC_X13_is a b22 w) fun r25 =>
  if r25 = (0 : Int32) then
  (bd1 (hst w 221) fun b27 =>
  bd1 (mC_X13_is a b27 w) fun r30 =>
  if r30 = (0 : Int32) then
  (bd1 (hst w 223) fun b32 =>
  bd1 (mC_X13_is a b32 w) fun r35 =>
  if r35 = (0 : Int32) then
  (bd1 (hst w 225) fun b37 =>
  bd1 (mC_X13_is a b37 w) fun r40 =>
  if r40 = (0 : Int32) then
  (bd1 (hst w 227) fun b42 =>
  bd1 (mC_X13_is a b42 w) fun r45 =>
  if r45 = (0 : Int32) then
  (bd1 (hst w 229) fun b47 =>
  bd1 (mC_X13_is a b47 w) fun r50 =>
  if r50 = (0 : Int32) then
  (bd1 (hst w 231) fun b52 =>
  bd1 (mC_X13_is a b52 w) fun r55 =>
  if r55 = (0 : Int32) then
  (some (-1 : Int32))
  else
  (some (10 : Int32)))
  else
  (some (9 : Int32)))
  else
  (some (8 : Int32)))
  else
  (some (7 : Int32)))
  else
  (some (6 : Int32)))
  else
  (some (5 : Int32)))
  else
  (some (4 : Int32)))
  else
  (some (3 : Int32)))
  else
  (some (2 : Int32)))
  else
  (some (1 : Int32)))
  else
  (some (0 : Int32))
def mC_X18_init (a : Nat) (p0 : Int32) (w : AH) : Option (AH) :=
  bd1 (mC_X16_init a w) fun r2 =>
  ck (kIn (hkd w a).1 [19]) <|
  st1 (siI w a 0 p0) fun w4 =>
  some w4
def mB_X13_test_34 (r_X13_test : Nat → AH → Option ((Nat ⊕ Nat) × AH)) (r_X13_both : Nat → AH → Option ((Nat ⊕ Nat) × AH)) (r_X13_plain : Nat → AH → Option ((Nat ⊕ Nat) × AH)) (r_X13_positive : Nat → AH → Option ((Nat ⊕ Nat) × AH)) (r_X13_sum : Nat → AH → Option ((Nat ⊕ Nat) × AH)) (r_X13_term : Nat → AH → Option ((Nat ⊕ Nat) × AH)) (r_X13_part : Nat → AH → Option ((Nat ⊕ Nat) × AH)) (k34 : Nat → Nat → AH → Option ((Nat ⊕ Nat) × AH)) (v0 : Nat) (v2 : Nat) (w : AH) : Option ((Nat ⊕ Nat) × AH) :=
  bd1 (hst w 126) fun b1 =>
  ck (kIn (hkd w v0).1 [15]) <|
  bd2 (mC_X13_takes v0 b1 w) fun r5 w6 =>
  if r5 = (0 : Int32) then
  (some (Sum.inl v2, w6))
  else
  (ck (kIn (hkd w6 v2).1 [24]) <|
  bd1 (hvr w6 v2 1) fun b9 =>
  ck (kIn (hkd w6 v0).1 [15]) <|
  bdT (r_X13_both v0 w6) (fun x14 w15 => some (Sum.inr x14, w15)) fun r13 w15 =>
  ck (kIn (hkd w15 b9).1 [2]) <|
  bd2 (mC_J2_add b9 r13 w15) fun r18 w19 =>
  k34 v0 v2 w19)
def mB_X13_test (r_X13_test : Nat → AH → Option ((Nat ⊕ Nat) × AH)) (r_X13_both : Nat → AH → Option ((Nat ⊕ Nat) × AH)) (r_X13_plain : Nat → AH → Option ((Nat ⊕ Nat) × AH)) (r_X13_positive : Nat → AH → Option ((Nat ⊕ Nat) × AH)) (r_X13_sum : Nat → AH → Option ((Nat ⊕ Nat) × AH)) (r_X13_term : Nat → AH → Option ((Nat ⊕ Nat) × AH)) (r_X13_part : Nat → AH → Option ((Nat ⊕ Nat) × AH)) (a : Nat) (w : AH) : Option ((Nat ⊕ Nat) × AH) :=
  ck (kIn (hkd w a).1 [15]) <|
  bdT (r_X13_both a w) (fun x4 w5 => some (Sum.inr x4, w5)) fun r3 w5 =>
  bd1 (hst w5 126) fun b6 =>
  ck (kIn (hkd w5 a).1 [15]) <|
  bd1 (mC_X13_is a b6 w5) fun r10 =>
  if r10 = (0 : Int32) then
  (some (Sum.inl r3, w5))
  else
  (ck (rmB w5 2) <|
  st1 (hsz w5) fun b13 =>
  st1 (hnew w5 34 2) fun w15 =>
  bd1 (mC_X24_init b13 (0 : Int32) w15) fun w18 =>
  ck (kIn (hkd w18 b13).1 [24]) <|
  bd1 (hvr w18 b13 1) fun b20 =>
  ck (kIn (hkd w18 b20).1 [2]) <|
  bd2 (mC_J2_add b20 r3 w18) fun r24 w25 =>
  lq3 (mB_X13_test_34 r_X13_test r_X13_both r_X13_plain r_X13_positive r_X13_sum r_X13_term r_X13_part) LF a b13 w25)
def mB_X13_both_34 (r_X13_test : Nat → AH → Option ((Nat ⊕ Nat) × AH)) (r_X13_both : Nat → AH → Option ((Nat ⊕ Nat) × AH)) (r_X13_plain : Nat → AH → Option ((Nat ⊕ Nat) × AH)) (r_X13_positive : Nat → AH → Option ((Nat ⊕ Nat) × AH)) (r_X13_sum : Nat → AH → Option ((Nat ⊕ Nat) × AH)) (r_X13_term : Nat → AH → Option ((Nat ⊕ Nat) × AH)) (r_X13_part : Nat → AH → Option ((Nat ⊕ Nat) × AH)) (k34 : Nat → Nat → AH → Option ((Nat ⊕ Nat) × AH)) (v0 : Nat) (v2 : Nat) (w : AH) : Option ((Nat ⊕ Nat) × AH) :=
  bd1 (hst w 139) fun b1 =>
  ck (kIn (hkd w v0).1 [15]) <|
  bd2 (mC_X13_takes v0 b1 w) fun r5 w6 =>
  if r5 = (0 : Int32) then
  (some (Sum.inl v2, w6))
  else
  (ck (kIn (hkd w6 v2).1 [24]) <|
  bd1 (hvr w6 v2 1) fun b9 =>
  ck (kIn (hkd w6 v0).1 [15]) <|
  bdT (r_X13_plain v0 w6) (fun x14 w15 => some (Sum.inr x14, w15)) fun r13 w15 =>
  ck (kIn (hkd w15 b9).1 [2]) <|
  bd2 (mC_J2_add b9 r13 w15) fun r18 w19 =>
  k34 v0 v2 w19)
def mB_X13_both (r_X13_test : Nat → AH → Option ((Nat ⊕ Nat) × AH)) (r_X13_both : Nat → AH → Option ((Nat ⊕ Nat) × AH)) (r_X13_plain : Nat → AH → Option ((Nat ⊕ Nat) × AH)) (r_X13_positive : Nat → AH → Option ((Nat ⊕ Nat) × AH)) (r_X13_sum : Nat → AH → Option ((Nat ⊕ Nat) × AH)) (r_X13_term : Nat → AH → Option ((Nat ⊕ Nat) × AH)) (r_X13_part : Nat → AH → Option ((Nat ⊕ Nat) × AH)) (a : Nat) (w : AH) : Option ((Nat ⊕ Nat) × AH) :=
  ck (kIn (hkd w a).1 [15]) <|
  bdT (r_X13_plain a w) (fun x4 w5 => some (Sum.inr x4, w5)) fun r3 w5 =>
  bd1 (hst w5 139) fun b6 =>
  ck (kIn (hkd w5 a).1 [15]) <|
  bd1 (mC_X13_is a b6 w5) fun r10 =>
  if r10 = (0 : Int32) then
  (some (Sum.inl r3, w5))
  else
  (ck (rmB w5 2) <|
  st1 (hsz w5) fun b13 =>
  st1 (hnew w5 34 2) fun w15 =>
  bd1 (mC_X24_init b13 (1 : Int32) w15) fun w18 =>
  ck (kIn (hkd w18 b13).1 [24]) <|
  bd1 (hvr w18 b13 1) fun b20 =>
  ck (kIn (hkd w18 b20).1 [2]) <|
  bd2 (mC_J2_add b20 r3 w18) fun r24 w25 =>
  lq3 (mB_X13_both_34 r_X13_test r_X13_both r_X13_plain r_X13_positive r_X13_sum r_X13_term r_X13_part) LF a b13 w25)
def mB_X13_plain_20 (r_X13_test : Nat → AH → Option ((Nat ⊕ Nat) × AH)) (r_X13_both : Nat → AH → Option ((Nat ⊕ Nat) × AH)) (r_X13_plain : Nat → AH → Option ((Nat ⊕ Nat) × AH)) (r_X13_positive : Nat → AH → Option ((Nat ⊕ Nat) × AH)) (r_X13_sum : Nat → AH → Option ((Nat ⊕ Nat) × AH)) (r_X13_term : Nat → AH → Option ((Nat ⊕ Nat) × AH)) (r_X13_part : Nat → AH → Option ((Nat ⊕ Nat) × AH)) (k2 : Nat → Int32 → AH → Option ((Nat ⊕ Nat) × AH)) (v0 : Nat) (t0 : Int32) (w : AH) : Option ((Nat ⊕ Nat) × AH) :=
  k2 v0 t0 w
def mB_X13_plain_2 (r_X13_test : Nat → AH → Option ((Nat ⊕ Nat) × AH)) (r_X13_both : Nat → AH → Option ((Nat ⊕ Nat) × AH)) (r_X13_plain : Nat → AH → Option ((Nat ⊕ Nat) × AH)) (r_X13_positive : Nat → AH → Option ((Nat ⊕ Nat) × AH)) (r_X13_sum : Nat → AH → Option ((Nat ⊕ Nat) × AH)) (r_X13_term : Nat → AH → Option ((Nat ⊕ Nat) × AH)) (r_X13_part : Nat → AH → Option ((Nat ⊕ Nat) × AH)) (k2 : Nat → Int32 → AH → Option ((Nat ⊕ Nat) × AH)) (v0 : Nat) (v1 : Int32) (w : AH) : Option ((Nat ⊕ Nat) × AH) :=
  bd1 (hst w 144) fun b1 =>
  ck (kIn (hkd w v0).1 [15]) <|
  bd2 (mC_X13_takes v0 b1 w) fun r5 w6 =>
  if r5 = (0 : Int32) then
  (ck (kIn (hkd w6 v0).1 [15]) <|
  bdT (r_X13_positive v0 w6) (fun x11 w12 => some (Sum.inr x11, w12)) fun r10 w12 =>
  if v1 = (0 : Int32) then
  (some (Sum.inl r10, w12))
  else
  (ck (rmB w12 1) <|
  st1 (hsz w12) fun b15 =>
  st1 (hnew w12 33 1) fun w17 =>
  bd1 (mC_X23_init b15 r10 w17) fun w20 =>
  some (Sum.inl b15, w20)))
  else
  (if v1 = (0 : Int32) then
  (mB_X13_plain_20 r_X13_test r_X13_both r_X13_plain r_X13_positive r_X13_sum r_X13_term r_X13_part k2 v0 (1 : Int32) w6)
  else
  (mB_X13_plain_20 r_X13_test r_X13_both r_X13_plain r_X13_positive r_X13_sum r_X13_term r_X13_part k2 v0 (0 : Int32) w6))
def mB_X13_plain (r_X13_test : Nat → AH → Option ((Nat ⊕ Nat) × AH)) (r_X13_both : Nat → AH → Option ((Nat ⊕ Nat) × AH)) (r_X13_plain : Nat → AH → Option ((Nat ⊕ Nat) × AH)) (r_X13_positive : Nat → AH → Option ((Nat ⊕ Nat) × AH)) (r_X13_sum : Nat → AH → Option ((Nat ⊕ Nat) × AH)) (r_X13_term : Nat → AH → Option ((Nat ⊕ Nat) × AH)) (r_X13_part : Nat → AH → Option ((Nat ⊕ Nat) × AH)) (a : Nat) (w : AH) : Option ((Nat ⊕ Nat) × AH) :=
  lq3 (mB_X13_plain_2 r_X13_test r_X13_both r_X13_plain r_X13_positive r_X13_sum r_X13_term r_X13_part) LF a (0 : Int32) w
def mB_X13_positive_107 (r_X13_test : Nat → AH → Option ((Nat ⊕ Nat) × AH)) (r_X13_both : Nat → AH → Option ((Nat ⊕ Nat) × AH)) (r_X13_plain : Nat → AH → Option ((Nat ⊕ Nat) × AH)) (r_X13_positive : Nat → AH → Option ((Nat ⊕ Nat) × AH)) (r_X13_sum : Nat → AH → Option ((Nat ⊕ Nat) × AH)) (r_X13_term : Nat → AH → Option ((Nat ⊕ Nat) × AH)) (r_X13_part : Nat → AH → Option ((Nat ⊕ Nat) × AH)) (v0 : Nat) (v2 : Nat) (w : AH) : Option ((Nat ⊕ Nat) × AH) :=
  ck (kIn (hkd w v0).1 [15]) <|
  bd1 (hvr w v0 0) fun b2 =>
  ck (arB w b2 4 (hvi w v0 3)) <|
  bd1 (mC_X13_next v0 w) fun w6 =>
  ck (rmB w6 3) <|
  st1 (hsz w6) fun b8 =>
  st1 (hnew w6 32 3) fun w10 =>
  ck (kIn (hkd w10 v0).1 [15]) <|
  bdT (r_X13_sum v0 w10) (fun x15 w16 => some (Sum.inr x15, w16)) fun r14 w16 =>
  bd1 (mC_X22_init b8 (((hvi w b2 ((hvi w v0 3).toNatClampNeg)).toUInt32 % 65536).toInt32) v2 r14 w16) fun w18 =>
  some (Sum.inl b8, w18)
def mB_X13_positive (r_X13_test : Nat → AH → Option ((Nat ⊕ Nat) × AH)) (r_X13_both : Nat → AH → Option ((Nat ⊕ Nat) × AH)) (r_X13_plain : Nat → AH → Option ((Nat ⊕ Nat) × AH)) (r_X13_positive : Nat → AH → Option ((Nat ⊕ Nat) × AH)) (r_X13_sum : Nat → AH → Option ((Nat ⊕ Nat) × AH)) (r_X13_term : Nat → AH → Option ((Nat ⊕ Nat) × AH)) (r_X13_part : Nat → AH → Option ((Nat ⊕ Nat) × AH)) (a : Nat) (w : AH) : Option ((Nat ⊕ Nat) × AH) :=
  bd1 (hst w 164) fun b1 =>
  ck (kIn (hkd w a).1 [15]) <|
  bd1 (mC_X13_is a b1 w) fun r5 =>
  if r5 = (0 : Int32) then
  (bd1 (mC_X13_flag a w) fun r8 =>
  if r8 = (-1 : Int32) then
  (bdT (r_X13_sum a w) (fun x12 w13 => some (Sum.inr x12, w13)) fun r11 w13 =>
  bd1 (hst w13 180) fun b14 =>
  ck (kIn (hkd w13 a).1 [15]) <|
  bd1 (mC_X13_is a b14 w13) fun r18 =>
  if r18 = (0 : Int32) then
  (bd1 (hst w13 182) fun b20 =>
  bd1 (mC_X13_is a b20 w13) fun r23 =>
  if r23 = (0 : Int32) then
  (bd1 (hst w13 184) fun b25 =>
  bd1 (mC_X13_is a b25 w13) fun r28 =>
  if r28 = (0 : Int32) then
  (ck (rmB w13 7) <|
  st1 (hsz w13) fun b31 =>
  st1 (hnew w13 26 7) fun w33 =>
  ck (kIn (hkd w33 a).1 [15]) <|
  bd1 (mC_X14_init b31 (hvi w33 a 3) w33) fun w37 =>
  some (Sum.inr b31, w37))
  else
  (mB_X13_positive_107 r_X13_test r_X13_both r_X13_plain r_X13_positive r_X13_sum r_X13_term r_X13_part a r11 w13))
  else
  (mB_X13_positive_107 r_X13_test r_X13_both r_X13_plain r_X13_positive r_X13_sum r_X13_term r_X13_part a r11 w13))
  else
  (mB_X13_positive_107 r_X13_test r_X13_both r_X13_plain r_X13_positive r_X13_sum r_X13_term r_X13_part a r11 w13))
  else
  (bdT (mC_X13_leaf a w) (fun x40 w41 => some (Sum.inr x40, w41)) fun r39 w41 =>
  ck (kIn (hkd w41 a).1 [15]) <|
  bd1 (mC_X13_next a w41) fun w44 =>
  ck (rmB w44 1) <|
  st1 (hsz w44) fun b46 =>
  st1 (hnew w44 31 1) fun w48 =>
  bd1 (mC_X21_init b46 r8 w48) fun w51 =>
  some (Sum.inl b46, w51)))
  else
  (bdT (mC_X13_opens a w) (fun x54 w55 => some (Sum.inr x54, w55)) fun r53 w55 =>
  ck (kIn (hkd w55 a).1 [15]) <|
  bdT (r_X13_test a w55) (fun x59 w60 => some (Sum.inr x59, w60)) fun r58 w60 =>
  bd1 (hst w60 169) fun b61 =>
  ck (kIn (hkd w60 a).1 [15]) <|
  bdT (mC_X13_need a b61 w60) (fun x66 w67 => some (Sum.inr x66, w67)) fun r65 w67 =>
  ck (kIn (hkd w67 a).1 [15]) <|
  st1 (siI w67 a 6 ((hvi w67 a 6) - (1 : Int32))) fun w69 =>
  some (Sum.inl r58, w69))
def mB_X13_sum_23 (r_X13_test : Nat → AH → Option ((Nat ⊕ Nat) × AH)) (r_X13_both : Nat → AH → Option ((Nat ⊕ Nat) × AH)) (r_X13_plain : Nat → AH → Option ((Nat ⊕ Nat) × AH)) (r_X13_positive : Nat → AH → Option ((Nat ⊕ Nat) × AH)) (r_X13_sum : Nat → AH → Option ((Nat ⊕ Nat) × AH)) (r_X13_term : Nat → AH → Option ((Nat ⊕ Nat) × AH)) (r_X13_part : Nat → AH → Option ((Nat ⊕ Nat) × AH)) (k5 : Nat → Nat → AH → Option ((Nat ⊕ Nat) × AH)) (v0 : Nat) (v1 : Nat) (w : AH) : Option ((Nat ⊕ Nat) × AH) :=
  ck (kIn (hkd w v0).1 [15]) <|
  bd1 (hvr w v0 0) fun b2 =>
  ck (arB w b2 4 (hvi w v0 3)) <|
  bd1 (mC_X13_next v0 w) fun w6 =>
  ck (rmB w6 3) <|
  st1 (hsz w6) fun b8 =>
  st1 (hnew w6 30 3) fun w10 =>
  ck (kIn (hkd w10 v0).1 [15]) <|
  bdT (r_X13_term v0 w10) (fun x15 w16 => some (Sum.inr x15, w16)) fun r14 w16 =>
  bd1 (mC_X19_init b8 (((hvi w b2 ((hvi w v0 3).toNatClampNeg)).toUInt32 % 65536).toInt32) v1 r14 w16) fun w18 =>
  k5 v0 b8 w18
def mB_X13_sum_5 (r_X13_test : Nat → AH → Option ((Nat ⊕ Nat) × AH)) (r_X13_both : Nat → AH → Option ((Nat ⊕ Nat) × AH)) (r_X13_plain : Nat → AH → Option ((Nat ⊕ Nat) × AH)) (r_X13_positive : Nat → AH → Option ((Nat ⊕ Nat) × AH)) (r_X13_sum : Nat → AH → Option ((Nat ⊕ Nat) × AH)) (r_X13_term : Nat → AH → Option ((Nat ⊕ Nat) × AH)) (r_X13_part : Nat → AH → Option ((Nat ⊕ Nat) × AH)) (k5 : Nat → Nat → AH → Option ((Nat ⊕ Nat) × AH)) (v0 : Nat) (v1 : Nat) (w : AH) : Option ((Nat ⊕ Nat) × AH) :=
  bd1 (hst w 194) fun b1 =>
  ck (kIn (hkd w v0).1 [15]) <|
  bd1 (mC_X13_is v0 b1 w) fun r5 =>
  if r5 = (0 : Int32) then
  (bd1 (hst w 196) fun b7 =>
  bd1 (mC_X13_is v0 b7 w) fun r10 =>
  if r10 = (0 : Int32) then
  (some (Sum.inl v1, w))
  else
  (mB_X13_sum_23 r_X13_test r_X13_both r_X13_plain r_X13_positive r_X13_sum r_X13_term r_X13_part k5 v0 v1 w))
  else
  (mB_X13_sum_23 r_X13_test r_X13_both r_X13_plain r_X13_positive r_X13_sum r_X13_term r_X13_part k5 v0 v1 w)
def mB_X13_sum (r_X13_test : Nat → AH → Option ((Nat ⊕ Nat) × AH)) (r_X13_both : Nat → AH → Option ((Nat ⊕ Nat) × AH)) (r_X13_plain : Nat → AH → Option ((Nat ⊕ Nat) × AH)) (r_X13_positive : Nat → AH → Option ((Nat ⊕ Nat) × AH)) (r_X13_sum : Nat → AH → Option ((Nat ⊕ Nat) × AH)) (r_X13_term : Nat → AH → Option ((Nat ⊕ Nat) × AH)) (r_X13_part : Nat → AH → Option ((Nat ⊕ Nat) × AH)) (a : Nat) (w : AH) : Option ((Nat ⊕ Nat) × AH) :=
  ck (kIn (hkd w a).1 [15]) <|
  bdT (r_X13_term a w) (fun x4 w5 => some (Sum.inr x4, w5)) fun r3 w5 =>
  lq3 (mB_X13_sum_5 r_X13_test r_X13_both r_X13_plain r_X13_positive r_X13_sum r_X13_term r_X13_part) LF a r3 w5
def mB_X13_term_23 (r_X13_test : Nat → AH → Option ((Nat ⊕ Nat) × AH)) (r_X13_both : Nat → AH → Option ((Nat ⊕ Nat) × AH)) (r_X13_plain : Nat → AH → Option ((Nat ⊕ Nat) × AH)) (r_X13_positive : Nat → AH → Option ((Nat ⊕ Nat) × AH)) (r_X13_sum : Nat → AH → Option ((Nat ⊕ Nat) × AH)) (r_X13_term : Nat → AH → Option ((Nat ⊕ Nat) × AH)) (r_X13_part : Nat → AH → Option ((Nat ⊕ Nat) × AH)) (k5 : Nat → Nat → AH → Option ((Nat ⊕ Nat) × AH)) (v0 : Nat) (v1 : Nat) (w : AH) : Option ((Nat ⊕ Nat) × AH) :=
  ck (kIn (hkd w v0).1 [15]) <|
  bd1 (hvr w v0 0) fun b2 =>
  ck (arB w b2 4 (hvi w v0 3)) <|
  bd1 (mC_X13_next v0 w) fun w6 =>
  ck (rmB w6 3) <|
  st1 (hsz w6) fun b8 =>
  st1 (hnew w6 30 3) fun w10 =>
  ck (kIn (hkd w10 v0).1 [15]) <|
  bdT (r_X13_part v0 w10) (fun x15 w16 => some (Sum.inr x15, w16)) fun r14 w16 =>
  bd1 (mC_X19_init b8 (((hvi w b2 ((hvi w v0 3).toNatClampNeg)).toUInt32 % 65536).toInt32) v1 r14 w16) fun w18 =>
  k5 v0 b8 w18
def mB_X13_term_5 (r_X13_test : Nat → AH → Option ((Nat ⊕ Nat) × AH)) (r_X13_both : Nat → AH → Option ((Nat ⊕ Nat) × AH)) (r_X13_plain : Nat → AH → Option ((Nat ⊕ Nat) × AH)) (r_X13_positive : Nat → AH → Option ((Nat ⊕ Nat) × AH)) (r_X13_sum : Nat → AH → Option ((Nat ⊕ Nat) × AH)) (r_X13_term : Nat → AH → Option ((Nat ⊕ Nat) × AH)) (r_X13_part : Nat → AH → Option ((Nat ⊕ Nat) × AH)) (k5 : Nat → Nat → AH → Option ((Nat ⊕ Nat) × AH)) (v0 : Nat) (v1 : Nat) (w : AH) : Option ((Nat ⊕ Nat) × AH) :=
  bd1 (hst w 204) fun b1 =>
  ck (kIn (hkd w v0).1 [15]) <|
  bd1 (mC_X13_is v0 b1 w) fun r5 =>
  if r5 = (0 : Int32) then
  (bd1 (hst w 206) fun b7 =>
  bd1 (mC_X13_is v0 b7 w) fun r10 =>
  if r10 = (0 : Int32) then
  (some (Sum.inl v1, w))
  else
  (mB_X13_term_23 r_X13_test r_X13_both r_X13_plain r_X13_positive r_X13_sum r_X13_term r_X13_part k5 v0 v1 w))
  else
  (mB_X13_term_23 r_X13_test r_X13_both r_X13_plain r_X13_positive r_X13_sum r_X13_term r_X13_part k5 v0 v1 w)
def mB_X13_term (r_X13_test : Nat → AH → Option ((Nat ⊕ Nat) × AH)) (r_X13_both : Nat → AH → Option ((Nat ⊕ Nat) × AH)) (r_X13_plain : Nat → AH → Option ((Nat ⊕ Nat) × AH)) (r_X13_positive : Nat → AH → Option ((Nat ⊕ Nat) × AH)) (r_X13_sum : Nat → AH → Option ((Nat ⊕ Nat) × AH)) (r_X13_term : Nat → AH → Option ((Nat ⊕ Nat) × AH)) (r_X13_part : Nat → AH → Option ((Nat ⊕ Nat) × AH)) (a : Nat) (w : AH) : Option ((Nat ⊕ Nat) × AH) :=
  ck (kIn (hkd w a).1 [15]) <|
  bdT (r_X13_part a w) (fun x4 w5 => some (Sum.inr x4, w5)) fun r3 w5 =>
  lq3 (mB_X13_term_5 r_X13_test r_X13_both r_X13_plain r_X13_positive r_X13_sum r_X13_term r_X13_part) LF a r3 w5
def mB_X13_part (r_X13_test : Nat → AH → Option ((Nat ⊕ Nat) × AH)) (r_X13_both : Nat → AH → Option ((Nat ⊕ Nat) × AH)) (r_X13_plain : Nat → AH → Option ((Nat ⊕ Nat) × AH)) (r_X13_positive : Nat → AH → Option ((Nat ⊕ Nat) × AH)) (r_X13_sum : Nat → AH → Option ((Nat ⊕ Nat) × AH)) (r_X13_term : Nat → AH → Option ((Nat ⊕ Nat) × AH)) (r_X13_part : Nat → AH → Option ((Nat ⊕ Nat) × AH)) (a : Nat) (w : AH) : Option ((Nat ⊕ Nat) × AH) :=
  bd1 (hst w 233) fun b1 =>
  ck (kIn (hkd w a).1 [15]) <|
  bd1 (mC_X13_is a b1 w) fun r5 =>
  if r5 = (0 : Int32) then
  (bd1 (mC_X13_isIn a (hvi w a 3) (48 : Int32) (57 : Int32) w) fun r8 =>
  if r8 = (0 : Int32) then
  (bd1 (mC_X13_value a w) fun r11 =>
  if r11 = (-1 : Int32) then
  (ck (rmB w 7) <|
  st1 (hsz w) fun b28 =>
  st1 (hnew w 26 7) fun w30 =>
  ck (kIn (hkd w30 a).1 [15]) <|
  bd1 (mC_X14_init b28 (hvi w30 a 3) w30) fun w34 =>
  some (Sum.inr b28, w34))
  else
  (bdT (mC_X13_leaf a w) (fun x15 w16 => some (Sum.inr x15, w16)) fun r14 w16 =>
  ck (kIn (hkd w16 a).1 [15]) <|
  bd1 (mC_X13_next a w16) fun w19 =>
  ck (rmB w19 1) <|
  st1 (hsz w19) fun b21 =>
  st1 (hnew w19 29 1) fun w23 =>
  bd1 (mC_X18_init b21 r11 w23) fun w26 =>
  some (Sum.inl b21, w26)))
  else
  (bdT (mC_X13_leaf a w) (fun x37 w38 => some (Sum.inr x37, w38)) fun r36 w38 =>
  ck (rmB w38 1) <|
  st1 (hsz w38) fun b40 =>
  st1 (hnew w38 28 1) fun w42 =>
  ck (kIn (hkd w42 a).1 [15]) <|
  bdT (mC_X13_number a (0 : Int32) (100000 : Int32) w42) (fun x47 w48 => some (Sum.inr x47, w48)) fun r46 w48 =>
  bd1 (mC_X17_init b40 r46 w48) fun w50 =>
  some (Sum.inl b40, w50)))
  else
  (bdT (mC_X13_opens a w) (fun x53 w54 => some (Sum.inr x53, w54)) fun r52 w54 =>
  ck (kIn (hkd w54 a).1 [15]) <|
  bdT (r_X13_sum a w54) (fun x58 w59 => some (Sum.inr x58, w59)) fun r57 w59 =>
  bd1 (hst w59 235) fun b60 =>
  ck (kIn (hkd w59 a).1 [15]) <|
  bdT (mC_X13_need a b60 w59) (fun x65 w66 => some (Sum.inr x65, w66)) fun r64 w66 =>
  ck (kIn (hkd w66 a).1 [15]) <|
  st1 (siI w66 a 6 ((hvi w66 a 6) - (1 : Int32))) fun w68 =>
  some (Sum.inl r57, w68))
def mG_rd : Nat → (Nat → AH → Option ((Nat ⊕ Nat) × AH)) × (Nat → AH → Option ((Nat ⊕ Nat) × AH)) × (Nat → AH → Option ((Nat ⊕ Nat) × AH)) × (Nat → AH → Option ((Nat ⊕ Nat) × AH)) × (Nat → AH → Option ((Nat ⊕ Nat) × AH)) × (Nat → AH → Option ((Nat ⊕ Nat) × AH)) × (Nat → AH → Option ((Nat ⊕ Nat) × AH))
  | 0 => (fun _ _ => none, fun _ _ => none, fun _ _ => none, fun _ _ => none, fun _ _ => none, fun _ _ => none, fun _ _ => none)
  | n + 1 => (mB_X13_test (mG_rd n).1 (mG_rd n).2.1 (mG_rd n).2.2.1 (mG_rd n).2.2.2.1 (mG_rd n).2.2.2.2.1 (mG_rd n).2.2.2.2.2.1 (mG_rd n).2.2.2.2.2.2, mB_X13_both (mG_rd n).1 (mG_rd n).2.1 (mG_rd n).2.2.1 (mG_rd n).2.2.2.1 (mG_rd n).2.2.2.2.1 (mG_rd n).2.2.2.2.2.1 (mG_rd n).2.2.2.2.2.2, mB_X13_plain (mG_rd n).1 (mG_rd n).2.1 (mG_rd n).2.2.1 (mG_rd n).2.2.2.1 (mG_rd n).2.2.2.2.1 (mG_rd n).2.2.2.2.2.1 (mG_rd n).2.2.2.2.2.2, mB_X13_positive (mG_rd n).1 (mG_rd n).2.1 (mG_rd n).2.2.1 (mG_rd n).2.2.2.1 (mG_rd n).2.2.2.2.1 (mG_rd n).2.2.2.2.2.1 (mG_rd n).2.2.2.2.2.2, mB_X13_sum (mG_rd n).1 (mG_rd n).2.1 (mG_rd n).2.2.1 (mG_rd n).2.2.2.1 (mG_rd n).2.2.2.2.1 (mG_rd n).2.2.2.2.2.1 (mG_rd n).2.2.2.2.2.2, mB_X13_term (mG_rd n).1 (mG_rd n).2.1 (mG_rd n).2.2.1 (mG_rd n).2.2.2.1 (mG_rd n).2.2.2.2.1 (mG_rd n).2.2.2.2.2.1 (mG_rd n).2.2.2.2.2.2, mB_X13_part (mG_rd n).1 (mG_rd n).2.1 (mG_rd n).2.2.1 (mG_rd n).2.2.2.1 (mG_rd n).2.2.2.2.1 (mG_rd n).2.2.2.2.2.1 (mG_rd n).2.2.2.2.2.2)
def mC_X13_test (n : Nat) : Nat → AH → Option ((Nat ⊕ Nat) × AH) := (mG_rd n).1
def mC_X13_both (n : Nat) : Nat → AH → Option ((Nat ⊕ Nat) × AH) := (mG_rd n).2.1
def mC_X13_plain (n : Nat) : Nat → AH → Option ((Nat ⊕ Nat) × AH) := (mG_rd n).2.2.1
def mC_X13_positive (n : Nat) : Nat → AH → Option ((Nat ⊕ Nat) × AH) := (mG_rd n).2.2.2.1
def mC_X13_sum (n : Nat) : Nat → AH → Option ((Nat ⊕ Nat) × AH) := (mG_rd n).2.2.2.2.1
def mC_X13_term (n : Nat) : Nat → AH → Option ((Nat ⊕ Nat) × AH) := (mG_rd n).2.2.2.2.2.1
def mC_X13_part (n : Nat) : Nat → AH → Option ((Nat ⊕ Nat) × AH) := (mG_rd n).2.2.2.2.2.2
def mC_X13_head_151 (v0 : Nat) (v1 : Nat) (w : AH) : Option ((Nat ⊕ Nat) × AH) :=
  ck (kIn (hkd w v0).1 [15]) <|
  bdT (mC_X13_sum 200 v0 w) (fun x4 w5 => some (Sum.inr x4, w5)) fun r3 w5 =>
  ck (kIn (hkd w5 v1).1 [17]) <|
  st1 (siR w5 v1 3 (some r3)) fun w7 =>
  some (Sum.inl v1, w7)
def mC_X13_head (a : Nat) (w : AH) : Option ((Nat ⊕ Nat) × AH) :=
  bd1 (hst w 102) fun b1 =>
  ck (kIn (hkd w a).1 [15]) <|
  bd2 (mC_X13_takes a b1 w) fun r5 w6 =>
  if r5 = (0 : Int32) then
  (bd1 (hst w6 104) fun b8 =>
  ck (kIn (hkd w6 a).1 [15]) <|
  bd2 (mC_X13_takes a b8 w6) fun r12 w13 =>
  if r12 = (0 : Int32) then
  (bd1 (hst w13 106) fun b15 =>
  ck (kIn (hkd w13 a).1 [15]) <|
  bd2 (mC_X13_takes a b15 w13) fun r19 w20 =>
  if r19 = (0 : Int32) then
  (bd1 (hst w20 108) fun b22 =>
  ck (kIn (hkd w20 a).1 [15]) <|
  bd2 (mC_X13_takes a b22 w20) fun r26 w27 =>
  if r26 = (0 : Int32) then
  (bd1 (hst w27 110) fun b29 =>
  ck (kIn (hkd w27 a).1 [15]) <|
  bd2 (mC_X13_takes a b29 w27) fun r33 w34 =>
  if r33 = (0 : Int32) then
  (bd1 (hst w34 112) fun b36 =>
  ck (kIn (hkd w34 a).1 [15]) <|
  bd2 (mC_X13_takes a b36 w34) fun r40 w41 =>
  if r40 = (0 : Int32) then
  (bd1 (hst w41 114) fun b43 =>
  ck (kIn (hkd w41 a).1 [15]) <|
  bdT (mC_X13_need a b43 w41) (fun x48 w49 => some (Sum.inr x48, w49)) fun r47 w49 =>
  ck (rmB w49 5) <|
  st1 (hsz w49) fun b51 =>
  st1 (hnew w49 27 5) fun w53 =>
  bd1 (mC_X15_init b51 (7 : Int32) (0 : Int32) (0 : Int32) w53) fun w56 =>
  mC_X13_head_151 a b51 w56)
  else
  (ck (rmB w41 5) <|
  st1 (hsz w41) fun b58 =>
  st1 (hnew w41 27 5) fun w60 =>
  bd1 (mC_X15_init b58 (6 : Int32) (0 : Int32) (0 : Int32) w60) fun w63 =>
  mC_X13_head_151 a b58 w63))
  else
  (ck (rmB w34 5) <|
  st1 (hsz w34) fun b65 =>
  st1 (hnew w34 27 5) fun w67 =>
  bd1 (mC_X15_init b65 (5 : Int32) (0 : Int32) (0 : Int32) w67) fun w70 =>
  mC_X13_head_151 a b65 w70))
  else
  (ck (rmB w27 5) <|
  st1 (hsz w27) fun b72 =>
  st1 (hnew w27 27 5) fun w74 =>
  ck (kIn (hkd w74 a).1 [15]) <|
  bdT (mC_X13_number a (0 : Int32) (9 : Int32) w74) (fun x79 w80 => some (Sum.inr x79, w80)) fun r78 w80 =>
  bd1 (mC_X15_init b72 (3 : Int32) r78 (0 : Int32) w80) fun w82 =>
  some (Sum.inl b72, w82)))
  else
  (ck (rmB w20 5) <|
  st1 (hsz w20) fun b84 =>
  st1 (hnew w20 27 5) fun w86 =>
  bd1 (mC_X15_init b84 (4 : Int32) (0 : Int32) (0 : Int32) w86) fun w89 =>
  some (Sum.inl b84, w89)))
  else
  (ck (rmB w13 5) <|
  st1 (hsz w13) fun b91 =>
  st1 (hnew w13 27 5) fun w93 =>
  bd1 (mC_X15_init b91 (2 : Int32) (0 : Int32) (0 : Int32) w93) fun w96 =>
  some (Sum.inl b91, w96)))
  else
  (ck (rmB w6 5) <|
  st1 (hsz w6) fun b98 =>
  st1 (hnew w6 27 5) fun w100 =>
  bd1 (mC_X15_init b98 (1 : Int32) (0 : Int32) (0 : Int32) w100) fun w103 =>
  some (Sum.inl b98, w103))
def mC_X13_clause_94 (v0 : Nat) (v1 : Nat) (w : AH) : Option ((Unit ⊕ Nat) × AH) :=
  ck (kIn (hkd w v0).1 [15]) <|
  bd1 (hvr w v0 2) fun b2 =>
  ck (kIn (hkd w b2).1 [2]) <|
  bd2 (mC_J2_add b2 v1 w) fun r6 w7 =>
  some (Sum.inl (), w7)
def mC_X13_clause (a : Nat) (w : AH) : Option ((Unit ⊕ Nat) × AH) :=
  ck (kIn (hkd w a).1 [15]) <|
  bd1 (hvr w a 2) fun b2 =>
  ck (kIn (hkd w b2).1 [2]) <|
  bd1 (mC_J2_size b2 w) fun r6 =>
  if r6 = (12 : Int32) then
  (ck (rmB w 7) <|
  st1 (hsz w) fun b66 =>
  st1 (hnew w 26 7) fun w68 =>
  ck (kIn (hkd w68 a).1 [15]) <|
  bd1 (mC_X14_init b66 (hvi w68 a 3) w68) fun w72 =>
  some (Sum.inr b66, w72))
  else
  (bd1 (hst w 68) fun b8 =>
  bd2 (mC_X13_takes a b8 w) fun r11 w12 =>
  if r11 = (0 : Int32) then
  (ck (kIn (hkd w12 a).1 [15]) <|
  bdT (mC_X13_head a w12) (fun x17 w18 => some (Sum.inr x17, w18)) fun r16 w18 =>
  bd1 (hst w18 92) fun b19 =>
  ck (kIn (hkd w18 a).1 [15]) <|
  bd2 (mC_X13_takes a b19 w18) fun r23 w24 =>
  if r23 = (0 : Int32) then
  (mC_X13_clause_94 a r16 w24)
  else
  (ck (kIn (hkd w24 a).1 [15]) <|
  bdT (mC_X13_test 200 a w24) (fun x29 w30 => some (Sum.inr x29, w30)) fun r28 w30 =>
  ck (kIn (hkd w30 r16).1 [17]) <|
  st1 (siR w30 r16 4 (some r28)) fun w32 =>
  mC_X13_clause_94 a r16 w32))
  else
  (ck (kIn (hkd w12 a).1 [15]) <|
  bdT (mC_X13_number a (0 : Int32) (19 : Int32) w12) (fun x37 w38 => some (Sum.inr x37, w38)) fun r36 w38 =>
  bd1 (hst w38 74) fun b39 =>
  ck (kIn (hkd w38 a).1 [15]) <|
  bdT (mC_X13_need a b39 w38) (fun x44 w45 => some (Sum.inr x44, w45)) fun r43 w45 =>
  ck (kIn (hkd w45 a).1 [15]) <|
  bd1 (hvr w45 a 2) fun b47 =>
  ck (rmB w45 5) <|
  st1 (hsz w45) fun b50 =>
  st1 (hnew w45 27 5) fun w52 =>
  ck (kIn (hkd w52 a).1 [15]) <|
  bdT (mC_X13_number a (0 : Int32) (11 : Int32) w52) (fun x57 w58 => some (Sum.inr x57, w58)) fun r56 w58 =>
  bd1 (mC_X15_init b50 (0 : Int32) r36 r56 w58) fun w60 =>
  ck (kIn (hkd w60 b47).1 [2]) <|
  bd2 (mC_J2_add b47 b50 w60) fun r63 w64 =>
  some (Sum.inl (), w64)))
def mC_X13_read_8 (k8 : Nat → AH → Option ((Unit ⊕ Nat) × AH)) (v0 : Nat) (w : AH) : Option ((Unit ⊕ Nat) × AH) :=
  bd1 (hst w 64) fun b1 =>
  ck (kIn (hkd w v0).1 [15]) <|
  bd2 (mC_X13_takes v0 b1 w) fun r5 w6 =>
  if r5 = (0 : Int32) then
  (ck (kIn (hkd w6 v0).1 [15]) <|
  if (hvi w6 v0 1) ≤ (hvi w6 v0 3) then
  (some (Sum.inl (), w6))
  else
  (ck (rmB w6 7) <|
  st1 (hsz w6) fun b11 =>
  st1 (hnew w6 26 7) fun w13 =>
  ck (kIn (hkd w13 v0).1 [15]) <|
  bd1 (mC_X14_init b11 (hvi w13 v0 3) w13) fun w17 =>
  some (Sum.inr b11, w17)))
  else
  (ck (kIn (hkd w6 v0).1 [15]) <|
  bdT (mC_X13_clause v0 w6) (fun x21 w22 => some (Sum.inr x21, w22)) fun r20 w22 =>
  k8 v0 w22)
def mC_X13_read (a : Nat) (w : AH) : Option ((Unit ⊕ Nat) × AH) :=
  ck (kIn (hkd w a).1 [15]) <|
  bd1 (mC_X13_next a w) fun w3 =>
  ck (kIn (hkd w3 a).1 [15]) <|
  bdT (mC_X13_clause a w3) (fun x7 w8 => some (Sum.inr x7, w8)) fun r6 w8 =>
  lq2 (mC_X13_read_8) LF a w8
def mC_X25_init (a : Nat) (p0 : Int32) (p1 : Int32) (p2 : Nat) (w : AH) : Option (AH) :=
  ck (kIn (hkd w a).1 [25]) <|
  st1 (siI w a 0 p0) fun w2 =>
  ck (kIn (hkd w2 a).1 [25]) <|
  st1 (siI w2 a 1 p1) fun w5 =>
  ck (kIn (hkd w5 a).1 [25]) <|
  st1 (siR w5 a 2 (some p2)) fun w8 =>
  some w8
def mC_X0_order_65 (v0 : Nat) (t0 : Nat) (w : AH) : Option (Int32 × AH) :=
  ck (kIn (hkd w t0).1 [16]) <|
  ck (kIn (hkd w v0).1 [0]) <|
  st1 (siI w v0 6 (hvi w t0 6)) fun w3 =>
  ck (kIn (hkd w3 v0).1 [0]) <|
  bd2 (mC_X0_refuse v0 (-6 : Int32) w3) fun r7 w8 =>
  some (r7, w8)
def mC_X0_order (a : Nat) (p0 : Int32) (w : AH) : Option (Int32 × AH) :=
  ck (kIn (hkd w a).1 [0]) <|
  st1 (siI w a 5 (0 : Int32)) fun w2 =>
  bd1 (mC_X0_isDay p0) fun r5 =>
  if r5 = (0 : Int32) then
  (ck (kIn (hkd w2 a).1 [0]) <|
  bd2 (mC_X0_refuse a (-1 : Int32) w2) fun r82 w83 =>
  some (r82, w83))
  else
  (ck (kIn (hkd w2 a).1 [0]) <|
  bd1 (hvr w2 a 2) fun b8 =>
  ck (kIn (hkd w2 b8).1 [1]) <|
  bd1 (hvr w2 b8 0) fun b11 =>
  ck (kIn (hkd w2 b11).1 [2]) <|
  bd1 (mC_J2_size b11 w2) fun r15 =>
  if r15 = (20 : Int32) then
  (bd2 (mC_X0_refuse a (-5 : Int32) w2) fun r78 w79 =>
  some (r78, w79))
  else
  (ck (rmB w2 7) <|
  st1 (hsz w2) fun b18 =>
  st1 (hnew w2 25 7) fun w20 =>
  ck (kIn (hkd w20 a).1 [0]) <|
  bd1 (hvr w20 a 4) fun b23 =>
  bd1 (mC_X13_init b18 b23 (hvi w a 5) w20) fun w26 =>
  ck (kIn (hkd w26 b18).1 [15]) <|
  bdT (mC_X13_read b18 w26) (fun x30 w31 => ck (kIn (hkd w31 x30).1 [16]) <| mC_X0_order_65 a x30 w31) fun r29 w31 =>
  ck (kIn (hkd w31 a).1 [0]) <|
  st1 (siI w31 a 6 (-1 : Int32)) fun w34 =>
  ck (kIn (hkd w34 a).1 [0]) <|
  bd1 (hvr w34 a 2) fun b37 =>
  ck (kIn (hkd w34 b37).1 [1]) <|
  bd1 (hvr w34 b37 0) fun b40 =>
  ck (rmB w34 3) <|
  st1 (hsz w34) fun b43 =>
  st1 (hnew w34 35 3) fun w45 =>
  ck (kIn (hkd w45 a).1 [0]) <|
  bd1 (hvr w45 a 2) fun b48 =>
  ck (kIn (hkd w45 b48).1 [1]) <|
  bd1 (hvr w45 b48 0) fun b51 =>
  ck (kIn (hkd w45 b51).1 [2]) <|
  bd1 (mC_J2_size b51 w45) fun r55 =>
  ck (kIn (hkd w45 b18).1 [15]) <|
  bd1 (hvr w45 b18 2) fun b57 =>
  bd1 (mC_X25_init b43 r55 p0 b57 w45) fun w60 =>
  ck (kIn (hkd w60 b40).1 [2]) <|
  bd2 (mC_J2_add b40 b43 w60) fun r63 w64 =>
  ck (kIn (hkd w64 a).1 [0]) <|
  bd1 (hvr w64 a 2) fun b66 =>
  ck (kIn (hkd w64 b66).1 [1]) <|
  bd1 (hvr w64 b66 0) fun b69 =>
  ck (kIn (hkd w64 b69).1 [2]) <|
  bd1 (mC_J2_size b69 w64) fun r73 =>
  bd2 (mC_X0_told a (r73 - (1 : Int32)) w64) fun r75 w76 =>
  some (r75, w76)))
def mC_X0_fault (a : Nat) (w : AH) : Option (Int32) :=
  ck (kIn (hkd w a).1 [0]) <|
  some (hvi w a 6)
def mC_X2_goes_105 (k2 : Nat → Nat → Int32 → AH → Option (AH)) (v0 : Nat) (v1 : Nat) (v2 : Int32) (w : AH) : Option (AH) :=
  k2 v0 v1 (v2 + (1 : Int32)) w
def mC_X2_goes_42 (k2 : Nat → Nat → Int32 → AH → Option (AH)) (v0 : Nat) (v1 : Nat) (v2 : Int32) (v3 : Int32) (t0 : Int32) (t1 : Int32) (t2 : Nat) (w : AH) : Option (AH) :=
  ck (arB w t2 3 t1) <|
  ck (isZ t0) <|
  st1 (siI w t2 (t1.toNatClampNeg) t0) fun w3 =>
  ck (kIn (hkd w3 v1).1 [25]) <|
  bd1 (hvr w3 v1 2) fun b6 =>
  ck (kIn (hkd w3 b6).1 [2]) <|
  bd1 (mC_J2_get b6 v2 w3) fun r10 =>
  ck (kIn (hkd w3 r10).1 [17]) <|
  ck (kIn (hkd w3 v0).1 [3]) <|
  bd1 (hvr w3 v0 0) fun b13 =>
  ck (arB w3 b13 3 v3) <|
  if (hvi w3 b13 (v3.toNatClampNeg)) = (0 : Int32) then
  (mC_X2_goes_105 k2 v0 v1 v2 w3)
  else
  (if (hvi w3 r10 0) = (0 : Int32) then
  (if (hvi w3 v1 0) ≤ (hvi w3 r10 1) then
  (mC_X2_goes_105 k2 v0 v1 v2 w3)
  else
  (bd1 (hvr w3 v0 1) fun b19 =>
  ck (arB w3 b19 3 (((12 : Int32) * (hvi w3 r10 1)) + (hvi w3 r10 2))) <|
  st1 (siI w3 b19 ((((12 : Int32) * (hvi w3 r10 1)) + (hvi w3 r10 2)).toNatClampNeg) (1 : Int32)) fun w22 =>
  mC_X2_goes_105 k2 v0 v1 v2 w22))
  else
  (mC_X2_goes_105 k2 v0 v1 v2 w3))
def mC_X2_goes_2 (k2 : Nat → Nat → Int32 → AH → Option (AH)) (v0 : Nat) (v1 : Nat) (v2 : Int32) (w : AH) : Option (AH) :=
  ck (kIn (hkd w v1).1 [25]) <|
  bd1 (hvr w v1 2) fun b2 =>
  ck (kIn (hkd w b2).1 [2]) <|
  bd1 (mC_J2_size b2 w) fun r6 =>
  if r6 ≤ v2 then
  (some w)
  else
  (ck (kIn (hkd w v0).1 [3]) <|
  bd1 (hvr w v0 0) fun b9 =>
  bd1 (hvr w v0 1) fun b11 =>
  ck (arB w b11 3 (((12 : Int32) * (hvi w v1 0)) + v2)) <|
  if (hvi w b11 ((((12 : Int32) * (hvi w v1 0)) + v2).toNatClampNeg)) = (0 : Int32) then
  (mC_X2_goes_42 k2 v0 v1 v2 (((12 : Int32) * (hvi w v1 0)) + v2) (1 : Int32) (((12 : Int32) * (hvi w v1 0)) + v2) b9 w)
  else
  (mC_X2_goes_42 k2 v0 v1 v2 (((12 : Int32) * (hvi w v1 0)) + v2) (0 : Int32) (((12 : Int32) * (hvi w v1 0)) + v2) b9 w))
def mC_X2_goes (a : Nat) (p0 : Nat) (w : AH) : Option (AH) :=
  lq4 (mC_X2_goes_2) LF a p0 (0 : Int32) w
def mC_X2_looks_133 (k84 : Nat → Int32 → Int32 → AH → Option (AH)) (v0 : Nat) (v1 : Int32) (v2 : Int32) (w : AH) : Option (AH) :=
  k84 v0 v1 (v2 + (-1 : Int32)) w
def mC_X2_looks_84 (k84 : Nat → Int32 → Int32 → AH → Option (AH)) (v0 : Nat) (v1 : Int32) (v2 : Int32) (w : AH) : Option (AH) :=
  if v2 < (0 : Int32) then
  (some w)
  else
  (ck (kIn (hkd w v0).1 [3]) <|
  bd1 (hvr w v0 4) fun b3 =>
  ck (kIn (hkd w b3).1 [0]) <|
  bd1 (hvr w b3 2) fun b6 =>
  ck (kIn (hkd w b6).1 [1]) <|
  bd1 (hvr w b6 0) fun b9 =>
  ck (kIn (hkd w b9).1 [2]) <|
  bd1 (mC_J2_get b9 v2 w) fun r13 =>
  ck (kIn (hkd w r13).1 [25]) <|
  if v1 < (hvi w r13 1) then
  (mC_X2_looks_133 k84 v0 v1 v2 w)
  else
  (bd1 (mC_J2_get b9 v2 w) fun r17 =>
  ck (kIn (hkd w r17).1 [25]) <|
  bd1 (mC_X2_goes v0 r17 w) fun w20 =>
  mC_X2_looks_133 k84 v0 v1 v2 w20))
def mC_X2_looks_41 (k41 : Nat → Int32 → Int32 → AH → Option (AH)) (v0 : Nat) (v1 : Int32) (v2 : Int32) (w : AH) : Option (AH) :=
  if (240 : Int32) ≤ v2 then
  (ck (kIn (hkd w v0).1 [3]) <|
  bd1 (hvr w v0 4) fun b3 =>
  ck (kIn (hkd w b3).1 [0]) <|
  bd1 (hvr w b3 2) fun b6 =>
  ck (kIn (hkd w b6).1 [1]) <|
  bd1 (hvr w b6 0) fun b9 =>
  ck (kIn (hkd w b9).1 [2]) <|
  bd1 (mC_J2_size b9 w) fun r13 =>
  lq4 (mC_X2_looks_84) LF v0 v1 (r13 - (1 : Int32)) w)
  else
  (ck (kIn (hkd w v0).1 [3]) <|
  bd1 (hvr w v0 0) fun b15 =>
  ck (arB w b15 3 v2) <|
  st1 (siI w b15 (v2.toNatClampNeg) (0 : Int32)) fun w18 =>
  ck (kIn (hkd w18 v0).1 [3]) <|
  bd1 (hvr w18 v0 1) fun b21 =>
  ck (arB w18 b21 3 v2) <|
  st1 (siI w18 b21 (v2.toNatClampNeg) (0 : Int32)) fun w24 =>
  k41 v0 v1 (v2 + (1 : Int32)) w24)
def mC_X2_looks_23 (v0 : Nat) (v1 : Int32) (w : AH) : Option (AH) :=
  ck (kIn (hkd w v0).1 [3]) <|
  st1 (siI w v0 2 v1) fun w2 =>
  ck (kIn (hkd w2 v0).1 [3]) <|
  bd1 (hvr w2 v0 4) fun b5 =>
  ck (kIn (hkd w2 b5).1 [0]) <|
  st1 (siI w2 v0 3 (hvi w2 b5 1)) fun w8 =>
  lq4 (mC_X2_looks_41) LF v0 v1 (0 : Int32) w8
def mC_X2_looks (a : Nat) (p0 : Int32) (w : AH) : Option (AH) :=
  ck (kIn (hkd w a).1 [3]) <|
  if (hvi w a 2) = p0 then
  (bd1 (hvr w a 4) fun b3 =>
  ck (kIn (hkd w b3).1 [0]) <|
  if (hvi w a 3) = (hvi w b3 1) then
  (some w)
  else
  (mC_X2_looks_23 a p0 w))
  else
  (mC_X2_looks_23 a p0 w)
def mC_X0_force (a : Nat) (p0 : Int32) (p1 : Int32) (p2 : Int32) (w : AH) : Option (Int32 × AH) :=
  ck (kIn (hkd w a).1 [0]) <|
  bd1 (hvr w a 2) fun b2 =>
  ck (kIn (hkd w b2).1 [1]) <|
  bd1 (hvr w b2 0) fun b5 =>
  ck (kIn (hkd w b5).1 [2]) <|
  bd1 (mC_J2_size b5 w) fun r9 =>
  bd1 (mC_X0_in p0 (0 : Int32) (r9 - (1 : Int32))) fun r11 =>
  if r11 = (0 : Int32) then
  (some ((-1 : Int32), w))
  else
  (bd1 (mC_J2_get b5 p0 w) fun r14 =>
  ck (kIn (hkd w r14).1 [25]) <|
  bd1 (hvr w r14 2) fun b16 =>
  ck (kIn (hkd w b16).1 [2]) <|
  bd1 (mC_J2_size b16 w) fun r20 =>
  bd1 (mC_X0_in p1 (0 : Int32) (r20 - (1 : Int32))) fun r22 =>
  if r22 = (0 : Int32) then
  (some ((-1 : Int32), w))
  else
  (bd1 (mC_X0_isDay p2) fun r25 =>
  if r25 = (0 : Int32) then
  (some ((-1 : Int32), w))
  else
  (bd1 (hvr w a 7) fun b27 =>
  ck (kIn (hkd w b27).1 [3]) <|
  bd1 (mC_X2_looks b27 p2 w) fun w31 =>
  ck (kIn (hkd w31 a).1 [0]) <|
  bd1 (hvr w31 a 7) fun b33 =>
  ck (kIn (hkd w31 b33).1 [3]) <|
  bd1 (hvr w31 b33 0) fun b36 =>
  ck (arB w31 b36 3 (((12 : Int32) * p0) + p1)) <|
  if (hvi w31 b36 ((((12 : Int32) * p0) + p1).toNatClampNeg)) = (0 : Int32) then
  (some ((0 : Int32), w31))
  else
  (some ((1 : Int32), w31)))))
def mC_X3_empties_26 (k26 : Nat → Int32 → AH → Option (AH)) (v0 : Nat) (v1 : Int32) (w : AH) : Option (AH) :=
  ck (kIn (hkd w v0).1 [4]) <|
  bd1 (hvr w v0 2) fun b2 =>
  ck (arK (hkd w b2).1) <|
  if (Int32.ofNat (hkd w b2).2) ≤ v1 then
  (some w)
  else
  (ck (arB w b2 3 v1) <|
  st1 (siI w b2 (v1.toNatClampNeg) (0 : Int32)) fun w7 =>
  k26 v0 (v1 + (1 : Int32)) w7)
def mC_X3_empties_2 (k2 : Nat → Int32 → AH → Option (AH)) (v0 : Nat) (v1 : Int32) (w : AH) : Option (AH) :=
  ck (kIn (hkd w v0).1 [4]) <|
  bd1 (hvr w v0 1) fun b2 =>
  ck (arK (hkd w b2).1) <|
  if (Int32.ofNat (hkd w b2).2) ≤ v1 then
  (lq3 (mC_X3_empties_26) LF v0 (0 : Int32) w)
  else
  (ck (arB w b2 2 v1) <|
  st1 (siL w b2 (v1.toNatClampNeg) (0 : Int64)) fun w7 =>
  k2 v0 (v1 + (1 : Int32)) w7)
def mC_X3_empties (a : Nat) (w : AH) : Option (AH) :=
  lq3 (mC_X3_empties_2) LF a (0 : Int32) w
def mC_X0_asks (a : Nat) (p0 : Int32) (w : AH) : Option (AH) :=
  ck (kIn (hkd w a).1 [0]) <|
  bd1 (hvr w a 8) fun b2 =>
  ck (kIn (hkd w b2).1 [4]) <|
  bd1 (mC_X3_empties b2 w) fun w6 =>
  ck (kIn (hkd w6 a).1 [0]) <|
  bd1 (hvr w6 a 8) fun b8 =>
  ck (kIn (hkd w6 b8).1 [4]) <|
  bd1 (hvr w6 b8 1) fun b11 =>
  ck (arB w6 b11 2 (4 : Int32)) <|
  st1 (siL w6 b11 4 (p0.toInt64)) fun w14 =>
  some w14
def mC_X21_is (a : Nat) (p0 : Nat) (w : AH) : Option (Int32) :=
  ck (kIn (hkd w p0).1 [4]) <|
  bd1 (hvr w p0 2) fun b2 =>
  ck (kIn (hkd w a).1 [21]) <|
  ck (arB w b2 3 (hvi w a 0)) <|
  ck (isZ (hvi w b2 ((hvi w a 0).toNatClampNeg))) <|
  some (hvi w b2 ((hvi w a 0).toNatClampNeg))
def mC_X17_of (a : Nat) (p0 : Nat) (w : AH) : Option (Int64) :=
  ck (kIn (hkd w a).1 [18]) <|
  some ((hvi w a 0).toInt64)
def mC_X18_of (a : Nat) (p0 : Nat) (w : AH) : Option (Int64) :=
  ck (kIn (hkd w p0).1 [4]) <|
  bd1 (hvr w p0 1) fun b2 =>
  ck (kIn (hkd w a).1 [19]) <|
  ck (arB w b2 2 (hvi w a 0)) <|
  some (hvl w b2 ((hvi w a 0).toNatClampNeg))
def dSum (r_X19_of : Nat → Nat → AH → Option (Int64 ⊕ Nat)) (b s0 : Nat) (w : AH) : Option (Int64 ⊕ Nat) :=
  if (hkd w b).1 = 28 then bd1 (mC_X17_of b s0 w) fun v => some (Sum.inl v) else if (hkd w b).1 = 29 then bd1 (mC_X18_of b s0 w) fun v => some (Sum.inl v) else if (hkd w b).1 = 30 then r_X19_of b s0 w else none
def mB_X19_of_112 (r_X19_of : Nat → Nat → AH → Option (Int64 ⊕ Nat)) (w : AH) (v1 : Nat) : Option (Int64 ⊕ Nat) :=
  ck (kIn (hkd w v1).1 [4]) <|
  bd1 (hvr w v1 0) fun b2 =>
  some (Sum.inr b2)
def mB_X19_of_92 (r_X19_of : Nat → Nat → AH → Option (Int64 ⊕ Nat)) (w : AH) (v1 : Nat) (t0 : Int64) : Option (Int64 ⊕ Nat) :=
  if (1000000000 : Int64) < t0 then
  (mB_X19_of_112 r_X19_of w v1)
  else
  (if (-1000000000 : Int64) ≤ t0 then
  (some (Sum.inl t0))
  else
  (mB_X19_of_112 r_X19_of w v1))
def mB_X19_of_40 (r_X19_of : Nat → Nat → AH → Option (Int64 ⊕ Nat)) (w : AH) (v0 : Nat) (v1 : Nat) (v2 : Int64) (v4 : Int64) : Option (Int64 ⊕ Nat) :=
  ck (kIn (hkd w v0).1 [20]) <|
  if (hvi w v0 0) = (43 : Int32) then
  (mB_X19_of_92 r_X19_of w v1 (v2 + v4))
  else
  (if (hvi w v0 0) = (45 : Int32) then
  (mB_X19_of_92 r_X19_of w v1 (v2 - v4))
  else
  (if (hvi w v0 0) = (42 : Int32) then
  (mB_X19_of_92 r_X19_of w v1 (v2 * v4))
  else
  (nzL v4 <|
  mB_X19_of_92 r_X19_of w v1 (v2 / v4))))
def mB_X19_of (r_X19_of : Nat → Nat → AH → Option (Int64 ⊕ Nat)) (a : Nat) (p0 : Nat) (w : AH) : Option (Int64 ⊕ Nat) :=
  ck (kIn (hkd w a).1 [20]) <|
  bd1 (hvr w a 1) fun b2 =>
  bdU (dSum r_X19_of b2 p0 w) (fun x6 => some (Sum.inr x6)) fun r5 =>
  bd1 (hvr w a 2) fun b7 =>
  bdU (dSum r_X19_of b7 p0 w) (fun x11 => some (Sum.inr x11)) fun r10 =>
  if (hvi w a 0) = (47 : Int32) then
  (if r10 = (0 : Int64) then
  (ck (kIn (hkd w p0).1 [4]) <|
  bd1 (hvr w p0 0) fun b15 =>
  some (Sum.inr b15))
  else
  (mB_X19_of_40 r_X19_of w a p0 r5 r10))
  else
  (mB_X19_of_40 r_X19_of w a p0 r5 r10)
def mC_X19_of : Nat → Nat → Nat → AH → Option (Int64 ⊕ Nat)
  | 0 => fun _ _ _ => none
  | n + 1 => mB_X19_of (mC_X19_of n)
def mC_X22_is (a : Nat) (p0 : Nat) (w : AH) : Option (Int32 ⊕ Nat) :=
  ck (kIn (hkd w a).1 [22]) <|
  bd1 (hvr w a 1) fun b2 =>
  bdU (dSum (mC_X19_of 200) b2 p0 w) (fun x6 => some (Sum.inr x6)) fun r5 =>
  bd1 (hvr w a 2) fun b7 =>
  bdU (dSum (mC_X19_of 200) b7 p0 w) (fun x11 => some (Sum.inr x11)) fun r10 =>
  if (hvi w a 0) = (60 : Int32) then
  (if r10 ≤ r5 then
  (some (Sum.inl (0 : Int32)))
  else
  (some (Sum.inl (1 : Int32))))
  else
  (if (hvi w a 0) = (62 : Int32) then
  (if r5 ≤ r10 then
  (some (Sum.inl (0 : Int32)))
  else
  (some (Sum.inl (1 : Int32))))
  else
  (if r5 = r10 then
  (some (Sum.inl (1 : Int32)))
  else
  (some (Sum.inl (0 : Int32)))))
def dTest (r_X23_is : Nat → Nat → AH → Option (Int32 ⊕ Nat)) (r_X24_is : Nat → Nat → AH → Option (Int32 ⊕ Nat)) (b s0 : Nat) (w : AH) : Option (Int32 ⊕ Nat) :=
  if (hkd w b).1 = 31 then bd1 (mC_X21_is b s0 w) fun v => some (Sum.inl v) else if (hkd w b).1 = 32 then mC_X22_is b s0 w else if (hkd w b).1 = 33 then r_X23_is b s0 w else if (hkd w b).1 = 34 then r_X24_is b s0 w else none
def mB_X23_is (r_X23_is : Nat → Nat → AH → Option (Int32 ⊕ Nat)) (r_X24_is : Nat → Nat → AH → Option (Int32 ⊕ Nat)) (a : Nat) (p0 : Nat) (w : AH) : Option (Int32 ⊕ Nat) :=
  ck (kIn (hkd w a).1 [23]) <|
  bd1 (hvr w a 0) fun b2 =>
  bdU (dTest r_X23_is r_X24_is b2 p0 w) (fun x6 => some (Sum.inr x6)) fun r5 =>
  if r5 = (0 : Int32) then
  (some (Sum.inl (1 : Int32)))
  else
  (some (Sum.inl (0 : Int32)))
def mB_X24_is_2 (r_X23_is : Nat → Nat → AH → Option (Int32 ⊕ Nat)) (r_X24_is : Nat → Nat → AH → Option (Int32 ⊕ Nat)) (w : AH) (k2 : Nat → Nat → Int32 → Option (Int32 ⊕ Nat)) (v0 : Nat) (v1 : Nat) (v2 : Int32) : Option (Int32 ⊕ Nat) :=
  ck (kIn (hkd w v0).1 [24]) <|
  bd1 (hvr w v0 1) fun b2 =>
  ck (kIn (hkd w b2).1 [2]) <|
  bd1 (mC_J2_size b2 w) fun r6 =>
  if r6 ≤ v2 then
  (ck (isZ (hvi w v0 0)) <|
  some (Sum.inl (hvi w v0 0)))
  else
  (bd1 (mC_J2_get b2 v2 w) fun r10 =>
  ck (kIn (hkd w r10).1 [21, 22, 23, 24]) <|
  bdU (dTest r_X23_is r_X24_is r10 v1 w) (fun x14 => some (Sum.inr x14)) fun r13 =>
  if r13 = (hvi w v0 0) then
  (k2 v0 v1 (v2 + (1 : Int32)))
  else
  (if (hvi w v0 0) = (0 : Int32) then
  (some (Sum.inl (1 : Int32)))
  else
  (some (Sum.inl (0 : Int32)))))
def mB_X24_is (r_X23_is : Nat → Nat → AH → Option (Int32 ⊕ Nat)) (r_X24_is : Nat → Nat → AH → Option (Int32 ⊕ Nat)) (a : Nat) (p0 : Nat) (w : AH) : Option (Int32 ⊕ Nat) :=
  lq3 (mB_X24_is_2 r_X23_is r_X24_is w) LF a p0 (0 : Int32)
def mG_tst : Nat → (Nat → Nat → AH → Option (Int32 ⊕ Nat)) × (Nat → Nat → AH → Option (Int32 ⊕ Nat))
  | 0 => (fun _ _ _ => none, fun _ _ _ => none)
  | n + 1 => (mB_X23_is (mG_tst n).1 (mG_tst n).2, mB_X24_is (mG_tst n).1 (mG_tst n).2)
def mC_X23_is (n : Nat) : Nat → Nat → AH → Option (Int32 ⊕ Nat) := (mG_tst n).1
def mC_X24_is (n : Nat) : Nat → Nat → AH → Option (Int32 ⊕ Nat) := (mG_tst n).2
def mC_X15_tells_42 (w : AH) (t0 : Nat) : Option (Int64) :=
  some (-4000000000 : Int64)
def mC_X15_tells_22 (w : AH) (v0 : Nat) (v1 : Nat) : Option (Int64) :=
  ck (kIn (hkd w v0).1 [17]) <|
  st1 (hvr w v0 3) fun x2 =>
  if x2 = none then
  (some (0 : Int64))
  else
  (st1 (hvr w v0 3) fun x5 =>
  bd1 x5 fun b7 =>
  bdU (dSum (mC_X19_of 200) b7 v1 w) (fun x10 => ck (kIn (hkd w x10).1 [5]) <| mC_X15_tells_42 w x10) fun r9 =>
  some r9)
def mC_X15_tells (a : Nat) (p0 : Nat) (w : AH) : Option (Int64) :=
  ck (kIn (hkd w a).1 [17]) <|
  st1 (hvr w a 4) fun x2 =>
  if x2 = none then
  (mC_X15_tells_22 w a p0)
  else
  (st1 (hvr w a 4) fun x5 =>
  bd1 x5 fun b7 =>
  bdU (dTest (mC_X23_is 200) (mC_X24_is 200) b7 p0 w) (fun x10 => ck (kIn (hkd w x10).1 [5]) <| mC_X15_tells_42 w x10) fun r9 =>
  if r9 = (0 : Int32) then
  (some (-4000000000 : Int64))
  else
  (mC_X15_tells_22 w a p0))
def mC_X0_last_152 (k54 : Nat → Int32 → Int32 → Int64 → Int32 → Nat → Int32 → AH → Option (Int64 × AH)) (v0 : Nat) (v1 : Int32) (v2 : Int32) (v4 : Int64) (v6 : Int32) (v7 : Nat) (v8 : Int32) (w : AH) : Option (Int64 × AH) :=
  k54 v0 v1 v2 v4 v6 v7 (v8 + (1 : Int32)) w
def mC_X0_last_54 (k16 : Nat → Int32 → Int32 → Int64 → Int32 → AH → Option (Int64 × AH)) (k54 : Nat → Int32 → Int32 → Int64 → Int32 → Nat → Int32 → AH → Option (Int64 × AH)) (v0 : Nat) (v1 : Int32) (v2 : Int32) (v4 : Int64) (v6 : Int32) (v7 : Nat) (v8 : Int32) (w : AH) : Option (Int64 × AH) :=
  ck (kIn (hkd w v7).1 [2]) <|
  bd1 (mC_J2_size v7 w) fun r3 =>
  if r3 ≤ v8 then
  (k16 v0 v1 v2 v4 (v6 + (1 : Int32)) w)
  else
  (ck (kIn (hkd w v0).1 [0]) <|
  bd1 (hvr w v0 7) fun b6 =>
  ck (kIn (hkd w b6).1 [3]) <|
  bd1 (hvr w b6 0) fun b9 =>
  ck (arB w b9 3 (((12 : Int32) * v6) + v8)) <|
  if (hvi w b9 ((((12 : Int32) * v6) + v8).toNatClampNeg)) = (0 : Int32) then
  (mC_X0_last_152 k54 v0 v1 v2 v4 v6 v7 v8 w)
  else
  (bd1 (mC_J2_get v7 v8 w) fun r14 =>
  ck (kIn (hkd w r14).1 [17]) <|
  if (hvi w r14 0) = v1 then
  (bd1 (mC_J2_get v7 v8 w) fun r18 =>
  ck (kIn (hkd w r18).1 [17]) <|
  if (hvi w r18 1) = v2 then
  (bd1 (mC_J2_get v7 v8 w) fun r22 =>
  ck (kIn (hkd w r22).1 [17]) <|
  bd1 (hvr w v0 8) fun b24 =>
  bd1 (mC_X15_tells r22 b24 w) fun r27 =>
  if r27 = (-4000000000 : Int64) then
  (mC_X0_last_152 k54 v0 v1 v2 v4 v6 v7 v8 w)
  else
  (mC_X0_last_152 k54 v0 v1 v2 r27 v6 v7 v8 w))
  else
  (mC_X0_last_152 k54 v0 v1 v2 v4 v6 v7 v8 w))
  else
  (mC_X0_last_152 k54 v0 v1 v2 v4 v6 v7 v8 w)))
def mC_X0_last_16 (k16 : Nat → Int32 → Int32 → Int64 → Int32 → AH → Option (Int64 × AH)) (v0 : Nat) (v1 : Int32) (v2 : Int32) (v4 : Int64) (v6 : Int32) (w : AH) : Option (Int64 × AH) :=
  ck (kIn (hkd w v0).1 [0]) <|
  bd1 (hvr w v0 2) fun b2 =>
  ck (kIn (hkd w b2).1 [1]) <|
  bd1 (hvr w b2 0) fun b5 =>
  ck (kIn (hkd w b5).1 [2]) <|
  bd1 (mC_J2_size b5 w) fun r9 =>
  if r9 ≤ v6 then
  (some (v4, w))
  else
  (bd1 (mC_J2_get b5 v6 w) fun r12 =>
  ck (kIn (hkd w r12).1 [25]) <|
  bd1 (hvr w r12 2) fun b14 =>
  lq8 (mC_X0_last_54 k16) LF v0 v1 v2 v4 v6 b14 (0 : Int32) w)
def mC_X0_last (a : Nat) (p0 : Int32) (p1 : Int32) (p2 : Int32) (w : AH) : Option (Int64 × AH) :=
  ck (kIn (hkd w a).1 [0]) <|
  bd1 (hvr w a 7) fun b2 =>
  ck (kIn (hkd w b2).1 [3]) <|
  bd1 (mC_X2_looks b2 p2 w) fun w6 =>
  lq6 (mC_X0_last_16) LF a p0 p1 (-4000000000 : Int64) (0 : Int32) w6
def mC_X5_isOn_248 (v0 : Nat) (v1 : Int32) (v2 : Int32) (v3 : Int32) (t0 : Int32) (t1 : Int32) (t2 : Nat) (w : AH) : Option (Int32 × AH) :=
  ck (arB w t2 3 t1) <|
  ck (isZ t0) <|
  st1 (siI w t2 (t1.toNatClampNeg) t0) fun w3 =>
  ck (kIn (hkd w3 v0).1 [6]) <|
  bd1 (hvr w3 v0 6) fun b6 =>
  ck (kIn (hkd w3 b6).1 [0]) <|
  bd1 (hvr w3 b6 8) fun b9 =>
  ck (kIn (hkd w3 b9).1 [4]) <|
  bd1 (hvr w3 b9 2) fun b12 =>
  bd1 (mC_X0_hasMoved b6 v1 v2 v3 w3) fun r15 =>
  ck (arB w3 b12 3 (3 : Int32)) <|
  ck (isZ r15) <|
  st1 (siI w3 b12 3 r15) fun w18 =>
  ck (kIn (hkd w18 v0).1 [6]) <|
  bd1 (hvr w18 v0 6) fun b21 =>
  ck (kIn (hkd w18 b21).1 [0]) <|
  bd2 (mC_X0_last b21 (1 : Int32) (0 : Int32) v2 w18) fun r25 w26 =>
  if r25 = (-4000000000 : Int64) then
  (some ((0 : Int32), w26))
  else
  (ck (kIn (hkd w26 v0).1 [6]) <|
  bd1 (hvr w26 v0 6) fun b29 =>
  ck (kIn (hkd w26 b29).1 [0]) <|
  bd2 (mC_X0_last b29 (2 : Int32) (0 : Int32) v2 w26) fun r33 w34 =>
  if r33 = (-4000000000 : Int64) then
  (some ((1 : Int32), w34))
  else
  (some ((0 : Int32), w34)))
def mC_X5_isOn_222 (v0 : Nat) (v1 : Int32) (v2 : Int32) (v3 : Int32) (v4 : Nat) (t0 : Int32) (t1 : Int32) (t2 : Nat) (w : AH) : Option (Int32 × AH) :=
  ck (arB w t2 3 t1) <|
  ck (isZ t0) <|
  st1 (siI w t2 (t1.toNatClampNeg) t0) fun w3 =>
  ck (kIn (hkd w3 v0).1 [6]) <|
  bd1 (hvr w3 v0 6) fun b6 =>
  ck (kIn (hkd w3 b6).1 [0]) <|
  bd1 (hvr w3 b6 8) fun b9 =>
  ck (kIn (hkd w3 b9).1 [4]) <|
  bd1 (hvr w3 b9 2) fun b12 =>
  bd1 (dKind v4 w3) fun r15 =>
  if r15 = (3 : Int32) then
  (mC_X5_isOn_248 v0 v1 v2 v3 (1 : Int32) (2 : Int32) b12 w3)
  else
  (mC_X5_isOn_248 v0 v1 v2 v3 (0 : Int32) (2 : Int32) b12 w3)
def mC_X5_isOn_196 (v0 : Nat) (v1 : Int32) (v2 : Int32) (v3 : Int32) (v4 : Nat) (t0 : Int32) (t1 : Int32) (t2 : Nat) (w : AH) : Option (Int32 × AH) :=
  ck (arB w t2 3 t1) <|
  ck (isZ t0) <|
  st1 (siI w t2 (t1.toNatClampNeg) t0) fun w3 =>
  ck (kIn (hkd w3 v0).1 [6]) <|
  bd1 (hvr w3 v0 6) fun b6 =>
  ck (kIn (hkd w3 b6).1 [0]) <|
  bd1 (hvr w3 b6 8) fun b9 =>
  ck (kIn (hkd w3 b9).1 [4]) <|
  bd1 (hvr w3 b9 2) fun b12 =>
  bd1 (dKind v4 w3) fun r15 =>
  if r15 = (2 : Int32) then
  (mC_X5_isOn_222 v0 v1 v2 v3 v4 (1 : Int32) (1 : Int32) b12 w3)
  else
  (mC_X5_isOn_222 v0 v1 v2 v3 v4 (0 : Int32) (1 : Int32) b12 w3)
def mC_X5_isOn_78 (v0 : Nat) (v1 : Int32) (v2 : Int32) (v3 : Int32) (v4 : Nat) (w : AH) : Option (Int32 × AH) :=
  ck (kIn (hkd w v0).1 [6]) <|
  bd1 (hvr w v0 6) fun b2 =>
  ck (kIn (hkd w b2).1 [0]) <|
  bd1 (mC_X0_asks b2 v2 w) fun w6 =>
  ck (kIn (hkd w6 v0).1 [6]) <|
  bd1 (hvr w6 v0 6) fun b8 =>
  ck (kIn (hkd w6 b8).1 [0]) <|
  bd1 (hvr w6 b8 8) fun b11 =>
  ck (kIn (hkd w6 b11).1 [4]) <|
  bd1 (hvr w6 b11 1) fun b14 =>
  ck (kIn (hkd w6 v4).1 [9, 10, 11, 12]) <|
  ck (arB w6 b14 2 (0 : Int32)) <|
  st1 (siL w6 b14 0 ((hvi w6 v4 2).toInt64)) fun w18 =>
  ck (kIn (hkd w18 v0).1 [6]) <|
  bd1 (hvr w18 v0 6) fun b21 =>
  ck (kIn (hkd w18 b21).1 [0]) <|
  bd1 (hvr w18 b21 8) fun b24 =>
  ck (kIn (hkd w18 b24).1 [4]) <|
  bd1 (hvr w18 b24 1) fun b27 =>
  ck (kIn (hkd w18 v4).1 [9, 10, 11, 12]) <|
  ck (arB w18 b27 2 (1 : Int32)) <|
  st1 (siL w18 b27 1 ((hvi w18 v4 1).toInt64)) fun w31 =>
  ck (kIn (hkd w31 v0).1 [6]) <|
  bd1 (hvr w31 v0 6) fun b34 =>
  ck (kIn (hkd w31 b34).1 [0]) <|
  bd1 (hvr w31 b34 8) fun b37 =>
  ck (kIn (hkd w31 b37).1 [4]) <|
  bd1 (hvr w31 b37 1) fun b40 =>
  bd1 (hvr w31 v0 1) fun b42 =>
  ck (arB w31 b42 1 v1) <|
  ck (arB w31 b40 2 (2 : Int32)) <|
  st1 (siL w31 b40 2 ((hvi w31 b42 (v1.toNatClampNeg)).toInt64)) fun w46 =>
  ck (kIn (hkd w46 v0).1 [6]) <|
  bd1 (hvr w46 v0 6) fun b49 =>
  ck (kIn (hkd w46 b49).1 [0]) <|
  bd1 (hvr w46 b49 8) fun b52 =>
  ck (kIn (hkd w46 b52).1 [4]) <|
  bd1 (hvr w46 b52 1) fun b55 =>
  bd1 (hvr w46 b49 2) fun b57 =>
  ck (kIn (hkd w46 b57).1 [1]) <|
  bd1 (hvr w46 b57 6) fun b60 =>
  bd1 (hvr w46 v0 1) fun b62 =>
  ck (arB w46 b62 1 v1) <|
  ck (arB w46 b60 1 (hvi w46 b62 (v1.toNatClampNeg))) <|
  ck (arB w46 b55 2 (3 : Int32)) <|
  st1 (siL w46 b55 3 ((hvi w46 b60 ((hvi w46 b62 (v1.toNatClampNeg)).toNatClampNeg)).toInt64)) fun w67 =>
  ck (kIn (hkd w67 v0).1 [6]) <|
  bd1 (hvr w67 v0 6) fun b70 =>
  ck (kIn (hkd w67 b70).1 [0]) <|
  bd1 (hvr w67 b70 8) fun b73 =>
  ck (kIn (hkd w67 b73).1 [4]) <|
  bd1 (hvr w67 b73 2) fun b76 =>
  bd1 (dKind v4 w67) fun r79 =>
  if r79 = (1 : Int32) then
  (mC_X5_isOn_196 v0 v1 v2 v3 v4 (1 : Int32) (0 : Int32) b76 w67)
  else
  (mC_X5_isOn_196 v0 v1 v2 v3 v4 (0 : Int32) (0 : Int32) b76 w67)
def mC_X5_isOn (a : Nat) (p0 : Int32) (p1 : Int32) (p2 : Int32) (w : AH) : Option (Int32 × AH) :=
  ck (kIn (hkd w a).1 [6]) <|
  bd1 (hvr w a 6) fun b2 =>
  ck (kIn (hkd w b2).1 [0]) <|
  bd1 (hvr w b2 2) fun b5 =>
  ck (kIn (hkd w b5).1 [1]) <|
  bd1 (hvr w b5 1) fun b8 =>
  ck (kIn (hkd w b8).1 [2]) <|
  bd1 (mC_J2_get b8 p0 w) fun r12 =>
  ck (kIn (hkd w r12).1 [9, 10, 11, 12]) <|
  if p2 < (hvi w r12 4) then
  (some ((0 : Int32), w))
  else
  (bd1 (hvr w b5 9) fun b15 =>
  ck (arB w b15 1 p0) <|
  if (hvi w b15 (p0.toNatClampNeg)) = (-1 : Int32) then
  (mC_X5_isOn_78 a p0 p1 p2 r12 w)
  else
  (if p1 < (hvi w b15 (p0.toNatClampNeg)) then
  (mC_X5_isOn_78 a p0 p1 p2 r12 w)
  else
  (bd1 (hvr w b5 10) fun b20 =>
  ck (arB w b20 1 p0) <|
  if p2 < (hvi w b20 (p0.toNatClampNeg)) then
  (mC_X5_isOn_78 a p0 p1 p2 r12 w)
  else
  (some ((0 : Int32), w)))))
def mC_X5_looks_145 (k75 : Nat → Int32 → Int32 → Int32 → AH → Option (AH)) (v0 : Nat) (v1 : Int32) (v2 : Int32) (v3 : Int32) (w : AH) : Option (AH) :=
  k75 v0 v1 v2 (v3 + (1 : Int32)) w
def mC_X5_looks_75 (k75 : Nat → Int32 → Int32 → Int32 → AH → Option (AH)) (v0 : Nat) (v1 : Int32) (v2 : Int32) (v3 : Int32) (w : AH) : Option (AH) :=
  ck (kIn (hkd w v0).1 [6]) <|
  bd1 (hvr w v0 6) fun b2 =>
  ck (kIn (hkd w b2).1 [0]) <|
  bd1 (hvr w b2 2) fun b5 =>
  ck (kIn (hkd w b5).1 [1]) <|
  bd1 (hvr w b5 1) fun b8 =>
  ck (kIn (hkd w b8).1 [2]) <|
  bd1 (mC_J2_size b8 w) fun r12 =>
  if r12 ≤ v3 then
  (some w)
  else
  (bd1 (hvr w v0 1) fun b14 =>
  bd1 (mC_X0_placeOf b2 v3 v1 v2 w) fun r17 =>
  ck (arB w b14 1 v3) <|
  st1 (siI w b14 (v3.toNatClampNeg) r17) fun w19 =>
  ck (kIn (hkd w19 v0).1 [6]) <|
  bd1 (hvr w19 v0 0) fun b22 =>
  bd2 (mC_X5_isOn v0 v3 v1 v2 w19) fun r25 w26 =>
  ck (arB w26 b22 3 v3) <|
  ck (isZ r25) <|
  st1 (siI w26 b22 (v3.toNatClampNeg) r25) fun w29 =>
  ck (kIn (hkd w29 v0).1 [6]) <|
  bd1 (hvr w29 v0 0) fun b32 =>
  ck (arB w29 b32 3 v3) <|
  if (hvi w29 b32 (v3.toNatClampNeg)) = (0 : Int32) then
  (mC_X5_looks_145 k75 v0 v1 v2 v3 w29)
  else
  (bd1 (hvr w29 v0 2) fun b36 =>
  bd1 (hvr w29 v0 1) fun b38 =>
  ck (arB w29 b38 1 v3) <|
  ck (arB w29 b36 1 (hvi w29 b38 (v3.toNatClampNeg))) <|
  st1 (siI w29 b36 ((hvi w29 b38 (v3.toNatClampNeg)).toNatClampNeg) ((hvi w29 b36 ((hvi w29 b38 (v3.toNatClampNeg)).toNatClampNeg)) + (1 : Int32))) fun w42 =>
  mC_X5_looks_145 k75 v0 v1 v2 v3 w42))
def mC_X5_looks_54 (k54 : Nat → Int32 → Int32 → Int32 → AH → Option (AH)) (v0 : Nat) (v1 : Int32) (v2 : Int32) (v3 : Int32) (w : AH) : Option (AH) :=
  if (16 : Int32) ≤ v3 then
  (lq5 (mC_X5_looks_75) LF v0 v1 v2 (0 : Int32) w)
  else
  (ck (kIn (hkd w v0).1 [6]) <|
  bd1 (hvr w v0 2) fun b3 =>
  ck (arB w b3 1 v3) <|
  st1 (siI w b3 (v3.toNatClampNeg) (0 : Int32)) fun w6 =>
  k54 v0 v1 v2 (v3 + (1 : Int32)) w6)
def mC_X5_looks_31 (v0 : Nat) (v1 : Int32) (v2 : Int32) (w : AH) : Option (AH) :=
  ck (kIn (hkd w v0).1 [6]) <|
  st1 (siI w v0 3 v1) fun w2 =>
  ck (kIn (hkd w2 v0).1 [6]) <|
  st1 (siI w2 v0 4 v2) fun w5 =>
  ck (kIn (hkd w5 v0).1 [6]) <|
  bd1 (hvr w5 v0 6) fun b8 =>
  ck (kIn (hkd w5 b8).1 [0]) <|
  st1 (siI w5 v0 5 (hvi w5 b8 1)) fun w11 =>
  lq5 (mC_X5_looks_54) LF v0 v1 v2 (0 : Int32) w11
def mC_X5_looks (a : Nat) (p0 : Int32) (p1 : Int32) (w : AH) : Option (AH) :=
  ck (kIn (hkd w a).1 [6]) <|
  if (hvi w a 3) = p0 then
  (if (hvi w a 4) = p1 then
  (bd1 (hvr w a 6) fun b4 =>
  ck (kIn (hkd w b4).1 [0]) <|
  if (hvi w a 5) = (hvi w b4 1) then
  (some w)
  else
  (mC_X5_looks_31 a p0 p1 w))
  else
  (mC_X5_looks_31 a p0 p1 w))
  else
  (mC_X5_looks_31 a p0 p1 w)
def mC_X0_on (a : Nat) (p0 : Int32) (p1 : Int32) (p2 : Int32) (w : AH) : Option (Int32 × AH) :=
  ck (kIn (hkd w a).1 [0]) <|
  bd1 (mC_X0_isName a p0 w) fun r3 =>
  if r3 = (0 : Int32) then
  (some ((-1 : Int32), w))
  else
  (bd1 (mC_X0_isDay p1) fun r6 =>
  if r6 = (0 : Int32) then
  (some ((-1 : Int32), w))
  else
  (bd1 (mC_X0_isDay p2) fun r9 =>
  if r9 = (0 : Int32) then
  (some ((-1 : Int32), w))
  else
  (bd1 (hvr w a 9) fun b11 =>
  ck (kIn (hkd w b11).1 [6]) <|
  bd1 (mC_X5_looks b11 p1 p2 w) fun w15 =>
  ck (kIn (hkd w15 a).1 [0]) <|
  bd1 (hvr w15 a 9) fun b17 =>
  ck (kIn (hkd w15 b17).1 [6]) <|
  bd1 (hvr w15 b17 0) fun b20 =>
  ck (arB w15 b20 3 p0) <|
  if (hvi w15 b20 (p0.toNatClampNeg)) = (0 : Int32) then
  (some ((0 : Int32), w15))
  else
  (some ((1 : Int32), w15)))))
def mC_X0_roll (a : Nat) (p0 : Int32) (p1 : Int32) (p2 : Int32) (w : AH) : Option (Int32 × AH) :=
  ck (kIn (hkd w a).1 [0]) <|
  bd1 (mC_X0_isPlace a p0 w) fun r3 =>
  if r3 = (0 : Int32) then
  (some ((-1 : Int32), w))
  else
  (bd1 (mC_X0_isDay p1) fun r6 =>
  if r6 = (0 : Int32) then
  (some ((-1 : Int32), w))
  else
  (bd1 (mC_X0_isDay p2) fun r9 =>
  if r9 = (0 : Int32) then
  (some ((-1 : Int32), w))
  else
  (bd1 (hvr w a 9) fun b11 =>
  ck (kIn (hkd w b11).1 [6]) <|
  bd1 (mC_X5_looks b11 p1 p2 w) fun w15 =>
  ck (kIn (hkd w15 a).1 [0]) <|
  bd1 (hvr w15 a 9) fun b17 =>
  ck (kIn (hkd w15 b17).1 [6]) <|
  bd1 (hvr w15 b17 2) fun b20 =>
  ck (arB w15 b20 1 p0) <|
  some ((hvi w15 b20 (p0.toNatClampNeg)), w15))))
def mC_X0_areBarred_102 (w : AH) (k2 : Nat → Int32 → Int32 → Int32 → Option (Int32)) (v0 : Nat) (v1 : Int32) (v2 : Int32) (v3 : Int32) : Option (Int32) :=
  k2 v0 v1 v2 (v3 + (1 : Int32))
def mC_X0_areBarred_58 (w : AH) (k2 : Nat → Int32 → Int32 → Int32 → Option (Int32)) (v0 : Nat) (v1 : Int32) (v2 : Int32) (v3 : Int32) : Option (Int32) :=
  ck (kIn (hkd w v0).1 [0]) <|
  bd1 (hvr w v0 2) fun b2 =>
  ck (kIn (hkd w b2).1 [1]) <|
  bd1 (hvr w b2 2) fun b5 =>
  ck (kIn (hkd w b5).1 [2]) <|
  bd1 (mC_J2_get b5 v3 w) fun r9 =>
  ck (kIn (hkd w r9).1 [14]) <|
  if (hvi w r9 0) = v2 then
  (bd1 (mC_J2_get b5 v3 w) fun r13 =>
  ck (kIn (hkd w r13).1 [14]) <|
  if (hvi w r13 1) = v1 then
  (some (1 : Int32))
  else
  (mC_X0_areBarred_102 w k2 v0 v1 v2 v3))
  else
  (mC_X0_areBarred_102 w k2 v0 v1 v2 v3)
def mC_X0_areBarred_2 (w : AH) (k2 : Nat → Int32 → Int32 → Int32 → Option (Int32)) (v0 : Nat) (v1 : Int32) (v2 : Int32) (v3 : Int32) : Option (Int32) :=
  ck (kIn (hkd w v0).1 [0]) <|
  bd1 (hvr w v0 2) fun b2 =>
  ck (kIn (hkd w b2).1 [1]) <|
  bd1 (hvr w b2 2) fun b5 =>
  ck (kIn (hkd w b5).1 [2]) <|
  bd1 (mC_J2_size b5 w) fun r9 =>
  if r9 ≤ v3 then
  (some (0 : Int32))
  else
  (bd1 (mC_J2_get b5 v3 w) fun r12 =>
  ck (kIn (hkd w r12).1 [14]) <|
  if (hvi w r12 0) = v1 then
  (bd1 (mC_J2_get b5 v3 w) fun r16 =>
  ck (kIn (hkd w r16).1 [14]) <|
  if (hvi w r16 1) = v2 then
  (some (1 : Int32))
  else
  (mC_X0_areBarred_58 w k2 v0 v1 v2 v3))
  else
  (mC_X0_areBarred_58 w k2 v0 v1 v2 v3))
def mC_X0_areBarred (a : Nat) (p0 : Int32) (p1 : Int32) (w : AH) : Option (Int32) :=
  lq4 (mC_X0_areBarred_2 w) LF a p0 p1 (0 : Int32)
def mC_X0_twice_166 (k57 : Nat → Int32 → Int32 → Int32 → Int32 → AH → Option (Int32 × AH)) (v0 : Nat) (v3 : Int32) (v4 : Int32) (v5 : Int32) (v6 : Int32) (w : AH) : Option (Int32 × AH) :=
  k57 v0 v3 v4 v5 (v6 + (1 : Int32)) w
def mC_X0_twice_57 (k36 : Nat → Int32 → Int32 → Int32 → AH → Option (Int32 × AH)) (k57 : Nat → Int32 → Int32 → Int32 → Int32 → AH → Option (Int32 × AH)) (v0 : Nat) (v3 : Int32) (v4 : Int32) (v5 : Int32) (v6 : Int32) (w : AH) : Option (Int32 × AH) :=
  ck (kIn (hkd w v0).1 [0]) <|
  bd1 (hvr w v0 2) fun b2 =>
  ck (kIn (hkd w b2).1 [1]) <|
  bd1 (hvr w b2 1) fun b5 =>
  ck (kIn (hkd w b5).1 [2]) <|
  bd1 (mC_J2_size b5 w) fun r9 =>
  if r9 ≤ v6 then
  (k36 v0 v3 v4 (v5 + (1 : Int32)) w)
  else
  (bd1 (hvr w v0 9) fun b11 =>
  ck (kIn (hkd w b11).1 [6]) <|
  bd1 (hvr w b11 0) fun b14 =>
  ck (arB w b14 3 v5) <|
  if (hvi w b14 (v5.toNatClampNeg)) = (0 : Int32) then
  (mC_X0_twice_166 k57 v0 v3 v4 v5 v6 w)
  else
  (ck (arB w b14 3 v6) <|
  if (hvi w b14 (v6.toNatClampNeg)) = (0 : Int32) then
  (mC_X0_twice_166 k57 v0 v3 v4 v5 v6 w)
  else
  (bd1 (hvr w b11 1) fun b20 =>
  ck (arB w b20 1 v5) <|
  ck (arB w b20 1 v6) <|
  if (hvi w b20 (v5.toNatClampNeg)) = (hvi w b20 (v6.toNatClampNeg)) then
  (mC_X0_twice_166 k57 v0 v3 v4 v5 v6 w)
  else
  (bd1 (mC_X0_likeOf v0 v5 v6 w) fun r26 =>
  if r26 < (5 : Int32) then
  (mC_X0_twice_166 k57 v0 v3 v4 v5 v6 w)
  else
  (bd1 (mC_X0_areBarred v0 v5 v6 w) fun r29 =>
  if r29 = (0 : Int32) then
  (if v4 = v3 then
  (some ((((200 : Int32) * v5) + v6), w))
  else
  (mC_X0_twice_166 k57 v0 v3 (v4 + (1 : Int32)) v5 v6 w))
  else
  (mC_X0_twice_166 k57 v0 v3 v4 v5 v6 w))))))
def mC_X0_twice_36 (k36 : Nat → Int32 → Int32 → Int32 → AH → Option (Int32 × AH)) (v0 : Nat) (v3 : Int32) (v4 : Int32) (v5 : Int32) (w : AH) : Option (Int32 × AH) :=
  ck (kIn (hkd w v0).1 [0]) <|
  bd1 (hvr w v0 2) fun b2 =>
  ck (kIn (hkd w b2).1 [1]) <|
  bd1 (hvr w b2 1) fun b5 =>
  ck (kIn (hkd w b5).1 [2]) <|
  bd1 (mC_J2_size b5 w) fun r9 =>
  if r9 ≤ v5 then
  (if v3 = (-1 : Int32) then
  (some (v4, w))
  else
  (some ((-1 : Int32), w)))
  else
  (lq6 (mC_X0_twice_57 k36) LF v0 v3 v4 v5 (v5 + (1 : Int32)) w)
def mC_X0_twice (a : Nat) (p0 : Int32) (p1 : Int32) (p2 : Int32) (w : AH) : Option (Int32 × AH) :=
  bd1 (mC_X0_isDay p0) fun r2 =>
  if r2 = (0 : Int32) then
  (some ((-1 : Int32), w))
  else
  (bd1 (mC_X0_isDay p1) fun r5 =>
  if r5 = (0 : Int32) then
  (some ((-1 : Int32), w))
  else
  (if (-1 : Int32) ≤ p2 then
  (ck (kIn (hkd w a).1 [0]) <|
  bd1 (hvr w a 9) fun b9 =>
  ck (kIn (hkd w b9).1 [6]) <|
  bd1 (mC_X5_looks b9 p0 p1 w) fun w13 =>
  lq5 (mC_X0_twice_36) LF a p2 (0 : Int32) (0 : Int32) w13)
  else
  (some ((-1 : Int32), w))))
def mC_X0_atLeast (p0 : Int64) (p1 : Int32) : Option (Int32) :=
  if p0 = (-4000000000 : Int64) then
  (some p1)
  else
  (st1 (if p0 < (0 : Int64) then (0 : Int64) else p0) fun r2 =>
  some (r2.toInt32))
def mC_X0_fewOn (a : Nat) (p0 : Int32) (w : AH) : Option (Int32 × AH) :=
  ck (kIn (hkd w a).1 [0]) <|
  bd1 (mC_X0_asks a p0 w) fun w3 =>
  ck (kIn (hkd w3 a).1 [0]) <|
  bd2 (mC_X0_last a (7 : Int32) (0 : Int32) p0 w3) fun r6 w7 =>
  bd1 (mC_X0_atLeast r6 (0 : Int32)) fun r9 =>
  some (r9, w7)
def mC_X0_asksPlace (a : Nat) (p0 : Int32) (p1 : Int32) (w : AH) : Option (AH) :=
  ck (kIn (hkd w a).1 [0]) <|
  bd1 (mC_X0_asks a p1 w) fun w3 =>
  ck (kIn (hkd w3 a).1 [0]) <|
  bd1 (hvr w3 a 8) fun b5 =>
  ck (kIn (hkd w3 b5).1 [4]) <|
  bd1 (hvr w3 b5 1) fun b8 =>
  ck (arB w3 b8 2 (2 : Int32)) <|
  st1 (siL w3 b8 2 (p0.toInt64)) fun w11 =>
  ck (kIn (hkd w11 a).1 [0]) <|
  bd1 (hvr w11 a 8) fun b14 =>
  ck (kIn (hkd w11 b14).1 [4]) <|
  bd1 (hvr w11 b14 1) fun b17 =>
  bd1 (hvr w11 a 2) fun b19 =>
  ck (kIn (hkd w11 b19).1 [1]) <|
  bd1 (hvr w11 b19 6) fun b22 =>
  ck (arB w11 b22 1 p0) <|
  ck (arB w11 b17 2 (3 : Int32)) <|
  st1 (siL w11 b17 3 ((hvi w11 b22 (p0.toNatClampNeg)).toInt64)) fun w26 =>
  ck (kIn (hkd w26 a).1 [0]) <|
  bd1 (hvr w26 a 8) fun b29 =>
  ck (kIn (hkd w26 b29).1 [4]) <|
  bd1 (hvr w26 b29 1) fun b32 =>
  bd1 (hvr w26 a 9) fun b34 =>
  ck (kIn (hkd w26 b34).1 [6]) <|
  bd1 (hvr w26 b34 2) fun b37 =>
  ck (arB w26 b37 1 p0) <|
  ck (arB w26 b32 2 (5 : Int32)) <|
  st1 (siL w26 b32 5 ((hvi w26 b37 (p0.toNatClampNeg)).toInt64)) fun w41 =>
  some w41
def mC_X0_ruleOf (a : Nat) (p0 : Int32) (p1 : Int32) (p2 : Int32) (p3 : Int32) (w : AH) : Option (Int32 × AH) :=
  ck (kIn (hkd w a).1 [0]) <|
  bd1 (mC_X0_asksPlace a p1 p2 w) fun w3 =>
  ck (kIn (hkd w3 a).1 [0]) <|
  bd2 (mC_X0_last a p0 (0 : Int32) p2 w3) fun r6 w7 =>
  bd1 (mC_X0_atLeast r6 p3) fun r9 =>
  some (r9, w7)
def mC_X0_rule_40 (v0 : Nat) (v1 : Int32) (v2 : Int32) (v3 : Int32) (v4 : Int32) (w : AH) : Option (Int32 × AH) :=
  ck (kIn (hkd w v0).1 [0]) <|
  bd1 (hvr w v0 9) fun b2 =>
  ck (kIn (hkd w b2).1 [6]) <|
  bd1 (mC_X5_looks b2 v2 v3 w) fun w6 =>
  if v4 = (2 : Int32) then
  (ck (kIn (hkd w6 v0).1 [0]) <|
  bd2 (mC_X0_fewOn v0 v2 w6) fun r19 w20 =>
  some (r19, w20))
  else
  (if v4 = (0 : Int32) then
  (ck (kIn (hkd w6 v0).1 [0]) <|
  bd2 (mC_X0_ruleOf v0 (5 : Int32) v1 v2 (1000 : Int32) w6) fun r15 w16 =>
  some (r15, w16))
  else
  (ck (kIn (hkd w6 v0).1 [0]) <|
  bd2 (mC_X0_ruleOf v0 (6 : Int32) v1 v2 (200 : Int32) w6) fun r11 w12 =>
  some (r11, w12)))
def mC_X0_rule (a : Nat) (p0 : Int32) (p1 : Int32) (p2 : Int32) (p3 : Int32) (w : AH) : Option (Int32 × AH) :=
  bd1 (mC_X0_isDay p1) fun r2 =>
  if r2 = (0 : Int32) then
  (some ((-1 : Int32), w))
  else
  (bd1 (mC_X0_isDay p2) fun r5 =>
  if r5 = (0 : Int32) then
  (some ((-1 : Int32), w))
  else
  (bd1 (mC_X0_in p3 (0 : Int32) (2 : Int32)) fun r8 =>
  if r8 = (0 : Int32) then
  (some ((-1 : Int32), w))
  else
  (if (2 : Int32) ≤ p3 then
  (mC_X0_rule_40 a p0 p1 p2 p3 w)
  else
  (ck (kIn (hkd w a).1 [0]) <|
  bd1 (mC_X0_isPlace a p0 w) fun r13 =>
  if r13 = (0 : Int32) then
  (some ((-1 : Int32), w))
  else
  (mC_X0_rule_40 a p0 p1 p2 p3 w)))))
def mC_X0_wish_17 (k17 : Nat → Int32 → Int32 → AH → Option (Int32 × AH)) (v0 : Nat) (v1 : Int32) (v2 : Int32) (w : AH) : Option (Int32 × AH) :=
  ck (kIn (hkd w v0).1 [0]) <|
  if (hvi w v0 19) ≤ v2 then
  (if (hvi w v0 19) = (7 : Int32) then
  (bd2 (mC_X0_refuse v0 (-5 : Int32) w) fun r29 w30 =>
  some (r29, w30))
  else
  (bd1 (hvr w v0 10) fun b4 =>
  ck (arB w b4 1 (hvi w v0 19)) <|
  st1 (siI w b4 ((hvi w v0 19).toNatClampNeg) v1) fun w7 =>
  ck (kIn (hkd w7 v0).1 [0]) <|
  bd1 (hvr w7 v0 11) fun b10 =>
  ck (arB w7 b10 1 (hvi w7 v0 19)) <|
  st1 (siI w7 b10 ((hvi w7 v0 19).toNatClampNeg) (0 : Int32)) fun w13 =>
  ck (kIn (hkd w13 v0).1 [0]) <|
  bd1 (hvr w13 v0 12) fun b16 =>
  ck (arB w13 b16 1 (hvi w13 v0 19)) <|
  st1 (siI w13 b16 ((hvi w13 v0 19).toNatClampNeg) (399 : Int32)) fun w19 =>
  ck (kIn (hkd w19 v0).1 [0]) <|
  st1 (siI w19 v0 19 ((hvi w19 v0 19) + (1 : Int32))) fun w22 =>
  ck (kIn (hkd w22 v0).1 [0]) <|
  bd2 (mC_X0_done v0 (hvi w22 v0 19) w22) fun r26 w27 =>
  some (r26, w27)))
  else
  (bd1 (hvr w v0 10) fun b31 =>
  ck (arB w b31 1 v2) <|
  if (hvi w b31 (v2.toNatClampNeg)) = v1 then
  (bd2 (mC_X0_refuse v0 (-4 : Int32) w) fun r36 w37 =>
  some (r36, w37))
  else
  (k17 v0 v1 (v2 + (1 : Int32)) w))
def mC_X0_wish (a : Nat) (p0 : Int32) (w : AH) : Option (Int32 × AH) :=
  ck (kIn (hkd w a).1 [0]) <|
  bd1 (mC_X0_isPlace a p0 w) fun r3 =>
  if r3 = (0 : Int32) then
  (bd2 (mC_X0_refuse a (-2 : Int32) w) fun r6 w7 =>
  some (r6, w7))
  else
  (lq4 (mC_X0_wish_17) LF a p0 (0 : Int32) w)
def mC_X0_clear (a : Nat) (w : AH) : Option (Int32 × AH) :=
  ck (kIn (hkd w a).1 [0]) <|
  st1 (siI w a 19 (0 : Int32)) fun w2 =>
  some ((hvi w a 19), w2)
def mC_X0_areThere_2 (w : AH) (k2 : Nat → Int32 → Option (Int32)) (v0 : Nat) (v1 : Int32) : Option (Int32) :=
  ck (kIn (hkd w v0).1 [0]) <|
  if (hvi w v0 19) ≤ v1 then
  (some (1 : Int32))
  else
  (bd1 (hvr w v0 10) fun b3 =>
  ck (arB w b3 1 v1) <|
  bd1 (mC_X0_isPlace v0 (hvi w b3 (v1.toNatClampNeg)) w) fun r7 =>
  if r7 = (0 : Int32) then
  (some (0 : Int32))
  else
  (k2 v0 (v1 + (1 : Int32))))
def mC_X0_areThere (a : Nat) (w : AH) : Option (Int32) :=
  lq2 (mC_X0_areThere_2 w) LF a (0 : Int32)
def mC_X0_lays_11 (k11 : Nat → Int32 → Int32 → AH → Option (AH)) (v0 : Nat) (v1 : Int32) (v3 : Int32) (w : AH) : Option (AH) :=
  ck (kIn (hkd w v0).1 [0]) <|
  if (hvi w v0 19) ≤ v3 then
  (some w)
  else
  (bd1 (hvr w v0 13) fun b3 =>
  bd1 (hvr w v0 10) fun b5 =>
  ck (arB w b5 1 v3) <|
  bd2 (mC_X0_ruleOf v0 (5 : Int32) (hvi w b5 (v3.toNatClampNeg)) v1 (1000 : Int32) w) fun r9 w10 =>
  ck (arB w10 b3 1 v3) <|
  st1 (siI w10 b3 (v3.toNatClampNeg) r9) fun w12 =>
  ck (kIn (hkd w12 v0).1 [0]) <|
  bd1 (hvr w12 v0 14) fun b15 =>
  bd1 (hvr w12 v0 10) fun b17 =>
  ck (arB w12 b17 1 v3) <|
  bd2 (mC_X0_ruleOf v0 (6 : Int32) (hvi w12 b17 (v3.toNatClampNeg)) v1 (200 : Int32) w12) fun r21 w22 =>
  ck (arB w22 b15 1 v3) <|
  st1 (siI w22 b15 (v3.toNatClampNeg) r21) fun w24 =>
  k11 v0 v1 (v3 + (1 : Int32)) w24)
def mC_X0_lays (a : Nat) (p0 : Int32) (p1 : Int32) (w : AH) : Option (AH) :=
  ck (kIn (hkd w a).1 [0]) <|
  bd1 (hvr w a 9) fun b2 =>
  ck (kIn (hkd w b2).1 [6]) <|
  bd1 (mC_X5_looks b2 p0 p1 w) fun w6 =>
  lq4 (mC_X0_lays_11) LF a p0 (0 : Int32) w6
def mC_J16_bitCount (p0 : Int32) : Option (Int32) :=
  some ((((((((p0 - (((p0.toUInt32 >>> ((1 : Int32).toUInt32 &&& Int32.toUInt32 31)).toInt32) &&& (1431655765 : Int32))) &&& (858993459 : Int32)) + ((((p0 - (((p0.toUInt32 >>> ((1 : Int32).toUInt32 &&& Int32.toUInt32 31)).toInt32) &&& (1431655765 : Int32))).toUInt32 >>> ((2 : Int32).toUInt32 &&& Int32.toUInt32 31)).toInt32) &&& (858993459 : Int32))) + (((((p0 - (((p0.toUInt32 >>> ((1 : Int32).toUInt32 &&& Int32.toUInt32 31)).toInt32) &&& (1431655765 : Int32))) &&& (858993459 : Int32)) + ((((p0 - (((p0.toUInt32 >>> ((1 : Int32).toUInt32 &&& Int32.toUInt32 31)).toInt32) &&& (1431655765 : Int32))).toUInt32 >>> ((2 : Int32).toUInt32 &&& Int32.toUInt32 31)).toInt32) &&& (858993459 : Int32))).toUInt32 >>> ((4 : Int32).toUInt32 &&& Int32.toUInt32 31)).toInt32)) &&& (252645135 : Int32)) + (((((((p0 - (((p0.toUInt32 >>> ((1 : Int32).toUInt32 &&& Int32.toUInt32 31)).toInt32) &&& (1431655765 : Int32))) &&& (858993459 : Int32)) + ((((p0 - (((p0.toUInt32 >>> ((1 : Int32).toUInt32 &&& Int32.toUInt32 31)).toInt32) &&& (1431655765 : Int32))).toUInt32 >>> ((2 : Int32).toUInt32 &&& Int32.toUInt32 31)).toInt32) &&& (858993459 : Int32))) + (((((p0 - (((p0.toUInt32 >>> ((1 : Int32).toUInt32 &&& Int32.toUInt32 31)).toInt32) &&& (1431655765 : Int32))) &&& (858993459 : Int32)) + ((((p0 - (((p0.toUInt32 >>> ((1 : Int32).toUInt32 &&& Int32.toUInt32 31)).toInt32) &&& (1431655765 : Int32))).toUInt32 >>> ((2 : Int32).toUInt32 &&& Int32.toUInt32 31)).toInt32) &&& (858993459 : Int32))).toUInt32 >>> ((4 : Int32).toUInt32 &&& Int32.toUInt32 31)).toInt32)) &&& (252645135 : Int32)).toUInt32 >>> ((8 : Int32).toUInt32 &&& Int32.toUInt32 31)).toInt32)) + ((((((((p0 - (((p0.toUInt32 >>> ((1 : Int32).toUInt32 &&& Int32.toUInt32 31)).toInt32) &&& (1431655765 : Int32))) &&& (858993459 : Int32)) + ((((p0 - (((p0.toUInt32 >>> ((1 : Int32).toUInt32 &&& Int32.toUInt32 31)).toInt32) &&& (1431655765 : Int32))).toUInt32 >>> ((2 : Int32).toUInt32 &&& Int32.toUInt32 31)).toInt32) &&& (858993459 : Int32))) + (((((p0 - (((p0.toUInt32 >>> ((1 : Int32).toUInt32 &&& Int32.toUInt32 31)).toInt32) &&& (1431655765 : Int32))) &&& (858993459 : Int32)) + ((((p0 - (((p0.toUInt32 >>> ((1 : Int32).toUInt32 &&& Int32.toUInt32 31)).toInt32) &&& (1431655765 : Int32))).toUInt32 >>> ((2 : Int32).toUInt32 &&& Int32.toUInt32 31)).toInt32) &&& (858993459 : Int32))).toUInt32 >>> ((4 : Int32).toUInt32 &&& Int32.toUInt32 31)).toInt32)) &&& (252645135 : Int32)) + (((((((p0 - (((p0.toUInt32 >>> ((1 : Int32).toUInt32 &&& Int32.toUInt32 31)).toInt32) &&& (1431655765 : Int32))) &&& (858993459 : Int32)) + ((((p0 - (((p0.toUInt32 >>> ((1 : Int32).toUInt32 &&& Int32.toUInt32 31)).toInt32) &&& (1431655765 : Int32))).toUInt32 >>> ((2 : Int32).toUInt32 &&& Int32.toUInt32 31)).toInt32) &&& (858993459 : Int32))) + (((((p0 - (((p0.toUInt32 >>> ((1 : Int32).toUInt32 &&& Int32.toUInt32 31)).toInt32) &&& (1431655765 : Int32))) &&& (858993459 : Int32)) + ((((p0 - (((p0.toUInt32 >>> ((1 : Int32).toUInt32 &&& Int32.toUInt32 31)).toInt32) &&& (1431655765 : Int32))).toUInt32 >>> ((2 : Int32).toUInt32 &&& Int32.toUInt32 31)).toInt32) &&& (858993459 : Int32))).toUInt32 >>> ((4 : Int32).toUInt32 &&& Int32.toUInt32 31)).toInt32)) &&& (252645135 : Int32)).toUInt32 >>> ((8 : Int32).toUInt32 &&& Int32.toUInt32 31)).toInt32)).toUInt32 >>> ((16 : Int32).toUInt32 &&& Int32.toUInt32 31)).toInt32)) &&& (63 : Int32))
def mC_X1_far (a : Nat) (p0 : Int32) (p1 : Int32) (w : AH) : Option (Int32) :=
  ck (kIn (hkd w a).1 [1]) <|
  bd1 (hvr w a 7) fun b2 =>
  ck (arB w b2 1 p0) <|
  ck (arB w b2 1 p1) <|
  st1 (if 0 ≤ ((hvi w b2 (p0.toNatClampNeg)) - (hvi w b2 (p1.toNatClampNeg))) then ((hvi w b2 (p0.toNatClampNeg)) - (hvi w b2 (p1.toNatClampNeg))) else 0 - ((hvi w b2 (p0.toNatClampNeg)) - (hvi w b2 (p1.toNatClampNeg)))) fun r6 =>
  bd1 (hvr w a 8) fun b8 =>
  ck (arB w b8 1 p0) <|
  ck (arB w b8 1 p1) <|
  st1 (if 0 ≤ ((hvi w b8 (p0.toNatClampNeg)) - (hvi w b8 (p1.toNatClampNeg))) then ((hvi w b8 (p0.toNatClampNeg)) - (hvi w b8 (p1.toNatClampNeg))) else 0 - ((hvi w b8 (p0.toNatClampNeg)) - (hvi w b8 (p1.toNatClampNeg)))) fun r12 =>
  some (r6 + r12)
def mB_X0_leads_185 (r_X0_leads : Nat → Int32 → Int32 → Int32 → AH → Option (AH)) (k67 : Nat → Int32 → Int32 → Int32 → Int32 → Int32 → AH → Option (AH)) (v0 : Nat) (v1 : Int32) (v2 : Int32) (v3 : Int32) (v4 : Int32) (v5 : Int32) (w : AH) : Option (AH) :=
  k67 v0 v1 v2 v3 v4 (v5 + (1 : Int32)) w
def mB_X0_leads_67 (r_X0_leads : Nat → Int32 → Int32 → Int32 → AH → Option (AH)) (k67 : Nat → Int32 → Int32 → Int32 → Int32 → Int32 → AH → Option (AH)) (v0 : Nat) (v1 : Int32) (v2 : Int32) (v3 : Int32) (v4 : Int32) (v5 : Int32) (w : AH) : Option (AH) :=
  ck (kIn (hkd w v0).1 [0]) <|
  if (hvi w v0 19) ≤ v5 then
  (some w)
  else
  (bd1 (hvr w v0 2) fun b3 =>
  bd1 (hvr w v0 10) fun b5 =>
  ck (arB w b5 1 v1) <|
  ck (arB w b5 1 v5) <|
  ck (kIn (hkd w b3).1 [1]) <|
  bd1 (mC_X1_far b3 (hvi w b5 (v1.toNatClampNeg)) (hvi w b5 (v5.toNatClampNeg)) w) fun r11 =>
  if ((v2 >>> (v5 &&& 31)) &&& (1 : Int32)) = (0 : Int32) then
  (mB_X0_leads_185 r_X0_leads k67 v0 v1 v2 v3 v4 v5 w)
  else
  (bd1 (hvr w v0 14) fun b13 =>
  ck (arB w b13 1 v1) <|
  if (hvi w b13 (v1.toNatClampNeg)) < r11 then
  (mB_X0_leads_185 r_X0_leads k67 v0 v1 v2 v3 v4 v5 w)
  else
  (bd1 (hvr w v0 15) fun b17 =>
  ck (arB w b17 1 v5) <|
  bd1 (hvr w v0 13) fun b20 =>
  ck (arB w b20 1 v5) <|
  if ((hvi w b17 (v5.toNatClampNeg)) + v4) ≤ (hvi w b20 (v5.toNatClampNeg)) then
  (st1 (siI w b17 (v5.toNatClampNeg) ((hvi w b17 (v5.toNatClampNeg)) + v4)) fun w24 =>
  ck (kIn (hkd w24 v0).1 [0]) <|
  bd1 (hvr w24 v0 16) fun b27 =>
  ck (arB w24 b27 1 v1) <|
  st1 (siI w24 b27 (v1.toNatClampNeg) v5) fun w30 =>
  ck (kIn (hkd w30 v0).1 [0]) <|
  bd1 (r_X0_leads v0 (v1 + (1 : Int32)) v2 (v3 + r11) w30) fun w34 =>
  ck (kIn (hkd w34 v0).1 [0]) <|
  bd1 (hvr w34 v0 15) fun b36 =>
  ck (arB w34 b36 1 v5) <|
  st1 (siI w34 b36 (v5.toNatClampNeg) ((hvi w34 b36 (v5.toNatClampNeg)) - v4)) fun w39 =>
  mB_X0_leads_185 r_X0_leads k67 v0 v1 v2 v3 v4 v5 w39)
  else
  (mB_X0_leads_185 r_X0_leads k67 v0 v1 v2 v3 v4 v5 w))))
def mB_X0_leads_17 (r_X0_leads : Nat → Int32 → Int32 → Int32 → AH → Option (AH)) (v0 : Nat) (v1 : Int32) (v2 : Int32) (v3 : Int32) (w : AH) : Option (AH) :=
  ck (kIn (hkd w v0).1 [0]) <|
  if v1 = (hvi w v0 19) then
  (st1 (siI w v0 22 v3) fun w12 =>
  ck (kIn (hkd w12 v0).1 [0]) <|
  bd1 (hvr w12 v0 16) fun b15 =>
  bd1 (hvr w12 v0 17) fun b17 =>
  ck ((hkd w12 b15).1 == 1) <|
  ck ((hkd w12 b17).1 == 1) <|
  ck (cpOk (0 : Int32) (hvi w12 v0 19) (hkd w12 b15).2 (0 : Int32) (hkd w12 b17).2) <|
  st1 (hcpI w12 b15 (0 : Int32).toNatClampNeg b17 (0 : Int32).toNatClampNeg (hvi w12 v0 19).toNatClampNeg) fun w22 =>
  some w22)
  else
  (bd1 (hvr w v0 9) fun b3 =>
  ck (kIn (hkd w b3).1 [6]) <|
  bd1 (hvr w b3 2) fun b6 =>
  bd1 (hvr w v0 10) fun b8 =>
  ck (arB w b8 1 v1) <|
  ck (arB w b6 1 (hvi w b8 (v1.toNatClampNeg))) <|
  lq7 (mB_X0_leads_67 r_X0_leads) LF v0 v1 v2 v3 (hvi w b6 ((hvi w b8 (v1.toNatClampNeg)).toNatClampNeg)) (0 : Int32) w)
def mB_X0_leads (r_X0_leads : Nat → Int32 → Int32 → Int32 → AH → Option (AH)) (a : Nat) (p0 : Int32) (p1 : Int32) (p2 : Int32) (w : AH) : Option (AH) :=
  ck (kIn (hkd w a).1 [0]) <|
  if (hvi w a 22) = (-1 : Int32) then
  (mB_X0_leads_17 r_X0_leads a p0 p1 p2 w)
  else
  (if p2 < (hvi w a 22) then
  (mB_X0_leads_17 r_X0_leads a p0 p1 p2 w)
  else
  (some w))
def mC_X0_leads : Nat → Nat → Int32 → Int32 → Int32 → AH → Option (AH)
  | 0 => fun _ _ _ _ _ => none
  | n + 1 => mB_X0_leads (mC_X0_leads n)
def mC_X0_sumOf_7 (k7 : Nat → Int32 → Int32 → AH → Option (Int32 × AH)) (v0 : Nat) (v1 : Int32) (v2 : Int32) (w : AH) : Option (Int32 × AH) :=
  ck (kIn (hkd w v0).1 [0]) <|
  if (hvi w v0 19) ≤ v2 then
  (bd1 (mC_X0_leads 200 v0 (0 : Int32) v1 (0 : Int32) w) fun w4 =>
  ck (kIn (hkd w4 v0).1 [0]) <|
  some ((hvi w4 v0 22), w4))
  else
  (bd1 (hvr w v0 15) fun b6 =>
  ck (arB w b6 1 v2) <|
  st1 (siI w b6 (v2.toNatClampNeg) (0 : Int32)) fun w9 =>
  k7 v0 v1 (v2 + (1 : Int32)) w9)
def mC_X0_sumOf (a : Nat) (p0 : Int32) (w : AH) : Option (Int32 × AH) :=
  ck (kIn (hkd w a).1 [0]) <|
  st1 (siI w a 22 (-1 : Int32)) fun w2 =>
  lq4 (mC_X0_sumOf_7) LF a p0 (0 : Int32) w2
def mC_X0_booths_143 (v0 : Nat) (v3 : Int32) (v4 : Int32) (w : AH) : Option (Int32 × AH) :=
  if v3 = (-1 : Int32) then
  (some ((-1 : Int32), w))
  else
  (ck (kIn (hkd w v0).1 [0]) <|
  st1 (siI w v0 20 (hvi w v0 19)) fun w3 =>
  ck (kIn (hkd w3 v0).1 [0]) <|
  st1 (siI w3 v0 21 v4) fun w6 =>
  some (v3, w6))
def mC_X0_booths_131 (k54 : Nat → Int32 → Int32 → Int32 → Int32 → AH → Option (Int32 × AH)) (v0 : Nat) (v3 : Int32) (v4 : Int32) (v5 : Int32) (v6 : Int32) (w : AH) : Option (Int32 × AH) :=
  k54 v0 v3 v4 v5 (v6 + (1 : Int32)) w
def mC_X0_booths_107 (k54 : Nat → Int32 → Int32 → Int32 → Int32 → AH → Option (Int32 × AH)) (v0 : Nat) (v5 : Int32) (v6 : Int32) (v7 : Int32) (w : AH) : Option (Int32 × AH) :=
  ck (kIn (hkd w v0).1 [0]) <|
  bd1 (hvr w v0 17) fun b2 =>
  bd1 (hvr w v0 18) fun b4 =>
  ck ((hkd w b2).1 == 1) <|
  ck ((hkd w b4).1 == 1) <|
  ck (cpOk (0 : Int32) (hvi w v0 19) (hkd w b2).2 (0 : Int32) (hkd w b4).2) <|
  st1 (hcpI w b2 (0 : Int32).toNatClampNeg b4 (0 : Int32).toNatClampNeg (hvi w v0 19).toNatClampNeg) fun w9 =>
  mC_X0_booths_131 k54 v0 v6 v7 v5 v6 w9
def mC_X0_booths_54 (k37 : Nat → Int32 → Int32 → Int32 → AH → Option (Int32 × AH)) (k54 : Nat → Int32 → Int32 → Int32 → Int32 → AH → Option (Int32 × AH)) (v0 : Nat) (v3 : Int32) (v4 : Int32) (v5 : Int32) (v6 : Int32) (w : AH) : Option (Int32 × AH) :=
  ck (kIn (hkd w v0).1 [0]) <|
  if ((1 : Int32) <<< ((hvi w v0 19) &&& 31)) ≤ v6 then
  (k37 v0 v3 v4 (v5 + (1 : Int32)) w)
  else
  (bd1 (mC_J16_bitCount v6) fun r4 =>
  if r4 = v5 then
  (bd2 (mC_X0_sumOf v0 v6 w) fun r7 w8 =>
  if r7 = (-1 : Int32) then
  (mC_X0_booths_131 k54 v0 v3 v4 v5 v6 w8)
  else
  (if v3 = (-1 : Int32) then
  (mC_X0_booths_107 k54 v0 v5 v6 r7 w8)
  else
  (if r7 < v4 then
  (mC_X0_booths_107 k54 v0 v5 v6 r7 w8)
  else
  (mC_X0_booths_131 k54 v0 v3 v4 v5 v6 w8))))
  else
  (mC_X0_booths_131 k54 v0 v3 v4 v5 v6 w))
def mC_X0_booths_37 (k37 : Nat → Int32 → Int32 → Int32 → AH → Option (Int32 × AH)) (v0 : Nat) (v3 : Int32) (v4 : Int32) (v5 : Int32) (w : AH) : Option (Int32 × AH) :=
  ck (kIn (hkd w v0).1 [0]) <|
  if (hvi w v0 19) < v5 then
  (mC_X0_booths_143 v0 v3 v4 w)
  else
  (if v3 = (-1 : Int32) then
  (lq6 (mC_X0_booths_54 k37) LF v0 v3 v4 v5 (0 : Int32) w)
  else
  (mC_X0_booths_143 v0 v3 v4 w))
def mC_X0_booths (a : Nat) (p0 : Int32) (p1 : Int32) (w : AH) : Option (Int32 × AH) :=
  bd1 (mC_X0_isDay p0) fun r2 =>
  if r2 = (0 : Int32) then
  (some ((-1 : Int32), w))
  else
  (bd1 (mC_X0_isDay p1) fun r5 =>
  if r5 = (0 : Int32) then
  (some ((-1 : Int32), w))
  else
  (ck (kIn (hkd w a).1 [0]) <|
  bd1 (mC_X0_areThere a w) fun r9 =>
  if r9 = (0 : Int32) then
  (some ((-1 : Int32), w))
  else
  (bd1 (mC_X0_lays a p0 p1 w) fun w12 =>
  lq5 (mC_X0_booths_37) LF a (-1 : Int32) (0 : Int32) (0 : Int32) w12)))
def mC_X0_led (a : Nat) (p0 : Int32) (w : AH) : Option (Int32) :=
  ck (kIn (hkd w a).1 [0]) <|
  if (hvi w a 20) = (-1 : Int32) then
  (some (-1 : Int32))
  else
  (bd1 (mC_X0_in p0 (-1 : Int32) ((hvi w a 20) - (1 : Int32))) fun r4 =>
  if r4 = (0 : Int32) then
  (some (-1 : Int32))
  else
  (if p0 = (-1 : Int32) then
  (some (hvi w a 21))
  else
  (bd1 (hvr w a 18) fun b7 =>
  ck (arB w b7 1 p0) <|
  some (hvi w b7 (p0.toNatClampNeg)))))
def mC_X0_judge (a : Nat) (p0 : Int32) (p1 : Int32) (p2 : Int32) (w : AH) : Option (Int32 × AH) :=
  bd1 (mC_X0_isDay p1) fun r2 =>
  if r2 = (0 : Int32) then
  (some ((-1 : Int32), w))
  else
  (bd1 (mC_X0_isDay p2) fun r5 =>
  if r5 = (0 : Int32) then
  (some ((-1 : Int32), w))
  else
  (if p0 < (0 : Int32) then
  (some ((-1 : Int32), w))
  else
  (ck (kIn (hkd w a).1 [0]) <|
  if (p0 >>> ((hvi w a 19) &&& 31)) = (0 : Int32) then
  (bd1 (mC_X0_areThere a w) fun r11 =>
  if r11 = (0 : Int32) then
  (some ((-1 : Int32), w))
  else
  (bd1 (mC_X0_lays a p1 p2 w) fun w14 =>
  ck (kIn (hkd w14 a).1 [0]) <|
  bd2 (mC_X0_sumOf a p0 w14) fun r17 w18 =>
  some (r17, w18)))
  else
  (some ((-1 : Int32), w)))))
def mC_X0_booth (a : Nat) (p0 : Int32) (w : AH) : Option (Int32 × AH) :=
  ck (kIn (hkd w a).1 [0]) <|
  bd1 (mC_X0_isPlace a p0 w) fun r3 =>
  if r3 = (0 : Int32) then
  (bd2 (mC_X0_refuse a (-2 : Int32) w) fun r40 w41 =>
  some (r40, w41))
  else
  (bd1 (hvr w a 2) fun b5 =>
  ck (kIn (hkd w b5).1 [1]) <|
  if (hvi w b5 23) = (20 : Int32) then
  (bd2 (mC_X0_refuse a (-5 : Int32) w) fun r37 w38 =>
  some (r37, w38))
  else
  (bd1 (hvr w b5 14) fun b9 =>
  ck (arB w b9 1 (hvi w b5 23)) <|
  st1 (siI w b9 ((hvi w b5 23).toNatClampNeg) p0) fun w12 =>
  ck (kIn (hkd w12 a).1 [0]) <|
  bd1 (hvr w12 a 2) fun b15 =>
  ck (kIn (hkd w12 b15).1 [1]) <|
  bd1 (hvr w12 b15 18) fun b18 =>
  ck (arB w12 b18 1 (hvi w12 b15 23)) <|
  st1 (siI w12 b18 ((hvi w12 b15 23).toNatClampNeg) (-1 : Int32)) fun w21 =>
  ck (kIn (hkd w21 a).1 [0]) <|
  bd1 (hvr w21 a 2) fun b24 =>
  ck (kIn (hkd w21 b24).1 [1]) <|
  st1 (siI w21 b24 23 ((hvi w21 b24 23) + (1 : Int32))) fun w27 =>
  ck (kIn (hkd w27 a).1 [0]) <|
  bd1 (hvr w27 a 2) fun b30 =>
  ck (kIn (hkd w27 b30).1 [1]) <|
  bd2 (mC_X0_told a ((hvi w27 b30 23) - (1 : Int32)) w27) fun r34 w35 =>
  some (r34, w35)))
def mC_X0_isBooth (a : Nat) (p0 : Int32) (w : AH) : Option (Int32) :=
  ck (kIn (hkd w a).1 [0]) <|
  bd1 (hvr w a 2) fun b2 =>
  ck (kIn (hkd w b2).1 [1]) <|
  bd1 (mC_X0_in p0 (0 : Int32) ((hvi w b2 23) - (1 : Int32))) fun r6 =>
  ck (isZ r6) <|
  some r6
def mC_X0_box (a : Nat) (p0 : Int32) (p1 : Int32) (w : AH) : Option (Int32 × AH) :=
  bd1 (mC_X0_in p1 (0 : Int32) (99999 : Int32)) fun r2 =>
  if r2 = (0 : Int32) then
  (ck (kIn (hkd w a).1 [0]) <|
  bd2 (mC_X0_refuse a (-1 : Int32) w) fun r47 w48 =>
  some (r47, w48))
  else
  (ck (kIn (hkd w a).1 [0]) <|
  bd1 (mC_X0_isBooth a p0 w) fun r6 =>
  if r6 = (0 : Int32) then
  (bd2 (mC_X0_refuse a (-2 : Int32) w) fun r43 w44 =>
  some (r43, w44))
  else
  (bd1 (hvr w a 2) fun b8 =>
  ck (kIn (hkd w b8).1 [1]) <|
  if (hvi w b8 24) = (40 : Int32) then
  (bd2 (mC_X0_refuse a (-5 : Int32) w) fun r40 w41 =>
  some (r40, w41))
  else
  (bd1 (hvr w b8 15) fun b12 =>
  ck (arB w b12 1 (hvi w b8 24)) <|
  st1 (siI w b12 ((hvi w b8 24).toNatClampNeg) p0) fun w15 =>
  ck (kIn (hkd w15 a).1 [0]) <|
  bd1 (hvr w15 a 2) fun b18 =>
  ck (kIn (hkd w15 b18).1 [1]) <|
  bd1 (hvr w15 b18 16) fun b21 =>
  ck (arB w15 b21 1 (hvi w15 b18 24)) <|
  st1 (siI w15 b21 ((hvi w15 b18 24).toNatClampNeg) p1) fun w24 =>
  ck (kIn (hkd w24 a).1 [0]) <|
  bd1 (hvr w24 a 2) fun b27 =>
  ck (kIn (hkd w24 b27).1 [1]) <|
  st1 (siI w24 b27 24 ((hvi w24 b27 24) + (1 : Int32))) fun w30 =>
  ck (kIn (hkd w30 a).1 [0]) <|
  bd1 (hvr w30 a 2) fun b33 =>
  ck (kIn (hkd w30 b33).1 [1]) <|
  bd2 (mC_X0_told a ((hvi w30 b33 24) - (1 : Int32)) w30) fun r37 w38 =>
  some (r37, w38))))
def mC_X0_isBox (a : Nat) (p0 : Int32) (w : AH) : Option (Int32) :=
  ck (kIn (hkd w a).1 [0]) <|
  bd1 (hvr w a 2) fun b2 =>
  ck (kIn (hkd w b2).1 [1]) <|
  bd1 (mC_X0_in p0 (0 : Int32) ((hvi w b2 24) - (1 : Int32))) fun r6 =>
  ck (isZ r6) <|
  some r6
def mC_X0_hand_37 (v0 : Nat) (w : AH) : Option (Int32 × AH) :=
  ck (kIn (hkd w v0).1 [0]) <|
  bd2 (mC_X0_refuse v0 (-1 : Int32) w) fun r3 w4 =>
  some (r3, w4)
def mC_X0_hand (a : Nat) (p0 : Int32) (p1 : Int32) (p2 : Int32) (p3 : Int32) (p4 : Int32) (w : AH) : Option (Int32 × AH) :=
  bd1 (mC_X0_in p1 (0 : Int32) (19 : Int32)) fun r2 =>
  if r2 = (0 : Int32) then
  (mC_X0_hand_37 a w)
  else
  (bd1 (mC_X0_isDay p2) fun r5 =>
  if r5 = (0 : Int32) then
  (mC_X0_hand_37 a w)
  else
  (bd1 (mC_X0_in p3 (0 : Int32) (99999 : Int32)) fun r8 =>
  if r8 = (0 : Int32) then
  (mC_X0_hand_37 a w)
  else
  (bd1 (mC_X0_isDay p4) fun r11 =>
  if r11 = (0 : Int32) then
  (mC_X0_hand_37 a w)
  else
  (ck (kIn (hkd w a).1 [0]) <|
  bd1 (mC_X0_isBox a p0 w) fun r15 =>
  if r15 = (0 : Int32) then
  (bd2 (mC_X0_refuse a (-2 : Int32) w) fun r53 w54 =>
  some (r53, w54))
  else
  (bd1 (hvr w a 2) fun b17 =>
  ck (kIn (hkd w b17).1 [1]) <|
  bd1 (hvr w b17 3) fun b20 =>
  ck (kIn (hkd w b20).1 [2]) <|
  bd1 (mC_J2_size b20 w) fun r24 =>
  if r24 = (200 : Int32) then
  (bd2 (mC_X0_refuse a (-5 : Int32) w) fun r50 w51 =>
  some (r50, w51))
  else
  (ck (rmB w 5) <|
  st1 (hsz w) fun b27 =>
  st1 (hnew w 24 5) fun w29 =>
  bd1 (mC_X12_init b27 p0 p1 p2 p3 p4 w29) fun w32 =>
  ck (kIn (hkd w32 b20).1 [2]) <|
  bd2 (mC_J2_add b20 b27 w32) fun r35 w36 =>
  ck (kIn (hkd w36 a).1 [0]) <|
  bd1 (hvr w36 a 2) fun b38 =>
  ck (kIn (hkd w36 b38).1 [1]) <|
  bd1 (hvr w36 b38 3) fun b41 =>
  ck (kIn (hkd w36 b41).1 [2]) <|
  bd1 (mC_J2_size b41 w36) fun r45 =>
  bd2 (mC_X0_told a r45 w36) fun r47 w48 =>
  some (r47, w48)))))))
def mC_X0_handed_149 (w : AH) (k38 : Nat → Int32 → Int32 → Int32 → Int32 → Option Nat → Int32 → Int32 → Option (Option Nat)) (v0 : Nat) (v1 : Int32) (v2 : Int32) (v3 : Int32) (v4 : Int32) (v5 : Option Nat) (v6 : Int32) (v7 : Int32) : Option (Option Nat) :=
  k38 v0 v1 v2 v3 v4 v5 v6 (v7 + (1 : Int32))
def mC_X0_handed_145 (w : AH) (k38 : Nat → Int32 → Int32 → Int32 → Int32 → Option Nat → Int32 → Int32 → Option (Option Nat)) (v0 : Nat) (v1 : Int32) (v2 : Int32) (v3 : Int32) (v4 : Int32) (v6 : Int32) (v7 : Int32) (v8 : Nat) : Option (Option Nat) :=
  mC_X0_handed_149 w k38 v0 v1 v2 v3 v4 (some v8) v6 v7
def mC_X0_handed_127 (w : AH) (k38 : Nat → Int32 → Int32 → Int32 → Int32 → Option Nat → Int32 → Int32 → Option (Option Nat)) (v0 : Nat) (v1 : Int32) (v2 : Int32) (v3 : Int32) (v4 : Int32) (v5 : Option Nat) (v6 : Int32) (v7 : Int32) (v8 : Nat) : Option (Option Nat) :=
  if v5 = none then
  (mC_X0_handed_145 w k38 v0 v1 v2 v3 v4 v6 v7 v8)
  else
  (ck (kIn (hkd w v8).1 [14]) <|
  bd1 v5 fun b3 =>
  ck (kIn (hkd w b3).1 [14]) <|
  if (hvi w v8 2) < (hvi w b3 2) then
  (mC_X0_handed_149 w k38 v0 v1 v2 v3 v4 (some b3) v6 v7)
  else
  (mC_X0_handed_145 w k38 v0 v1 v2 v3 v4 v6 v7 v8))
def mC_X0_handed_38 (w : AH) (k38 : Nat → Int32 → Int32 → Int32 → Int32 → Option Nat → Int32 → Int32 → Option (Option Nat)) (v0 : Nat) (v1 : Int32) (v2 : Int32) (v3 : Int32) (v4 : Int32) (v5 : Option Nat) (v6 : Int32) (v7 : Int32) : Option (Option Nat) :=
  ck (kIn (hkd w v0).1 [0]) <|
  bd1 (hvr w v0 2) fun b2 =>
  ck (kIn (hkd w b2).1 [1]) <|
  bd1 (hvr w b2 3) fun b5 =>
  ck (kIn (hkd w b5).1 [2]) <|
  bd1 (mC_J2_size b5 w) fun r9 =>
  if r9 ≤ v7 then
  (some v5)
  else
  (bd1 (mC_J2_get b5 v7 w) fun r12 =>
  ck (kIn (hkd w r12).1 [14]) <|
  if (hvi w r12 0) = v1 then
  (if v3 < (hvi w r12 4) then
  (mC_X0_handed_149 w k38 v0 v1 v2 v3 v4 v5 v6 v7)
  else
  (if v2 < (hvi w r12 2) then
  (mC_X0_handed_149 w k38 v0 v1 v2 v3 v4 v5 v6 v7)
  else
  (if v6 < (hvi w r12 2) then
  (mC_X0_handed_149 w k38 v0 v1 v2 v3 v4 v5 v6 v7)
  else
  (if (hvi w r12 2) = v6 then
  (if v7 < v4 then
  (mC_X0_handed_127 w k38 v0 v1 v2 v3 v4 v5 v6 v7 r12)
  else
  (mC_X0_handed_149 w k38 v0 v1 v2 v3 v4 v5 v6 v7))
  else
  (mC_X0_handed_127 w k38 v0 v1 v2 v3 v4 v5 v6 v7 r12)))))
  else
  (mC_X0_handed_149 w k38 v0 v1 v2 v3 v4 v5 v6 v7))
def mC_X0_handed_33 (w : AH) (v0 : Nat) (v1 : Int32) (v2 : Int32) (v3 : Int32) (v4 : Int32) (v5 : Option Nat) (t0 : Int32) : Option (Option Nat) :=
  lq8 (mC_X0_handed_38 w) LF v0 v1 v2 v3 v4 v5 t0 (0 : Int32)
def mC_X0_handed (a : Nat) (p0 : Int32) (p1 : Int32) (p2 : Int32) (p3 : Int32) (w : AH) : Option (Option Nat) :=
  if p3 = (-1 : Int32) then
  (mC_X0_handed_33 w a p0 p1 p2 p3 none (400 : Int32))
  else
  (ck (kIn (hkd w a).1 [0]) <|
  bd1 (hvr w a 2) fun b3 =>
  ck (kIn (hkd w b3).1 [1]) <|
  bd1 (hvr w b3 3) fun b6 =>
  ck (kIn (hkd w b6).1 [2]) <|
  bd1 (mC_J2_get b6 p3 w) fun r10 =>
  ck (kIn (hkd w r10).1 [14]) <|
  mC_X0_handed_33 w a p0 p1 p2 p3 none (hvi w r10 2))
def mC_X0_held (a : Nat) (p0 : Int32) (p1 : Int32) (p2 : Int32) (w : AH) : Option (Int32) :=
  ck (kIn (hkd w a).1 [0]) <|
  bd1 (mC_X0_isBox a p0 w) fun r3 =>
  if r3 = (0 : Int32) then
  (some (-1 : Int32))
  else
  (bd1 (mC_X0_isDay p1) fun r6 =>
  if r6 = (0 : Int32) then
  (some (-1 : Int32))
  else
  (bd1 (mC_X0_isDay p2) fun r9 =>
  if r9 = (0 : Int32) then
  (some (-1 : Int32))
  else
  (bd1 (mC_X0_handed a p0 p1 p2 (-1 : Int32) w) fun r12 =>
  if r12 = none then
  (some (-1 : Int32))
  else
  (bd1 r12 fun b14 =>
  ck (kIn (hkd w b14).1 [14]) <|
  some (hvi w b14 1)))))
def mC_X0_breaks_105 (w : AH) (k5 : Nat → Int32 → Int32 → Int32 → Int32 → Option (Int32)) (v0 : Nat) (v1 : Int32) (v2 : Int32) (v3 : Int32) (v4 : Int32) : Option (Int32) :=
  k5 v0 v1 v2 v3 (v4 + (1 : Int32))
def mC_X0_breaks_102 (w : AH) (k5 : Nat → Int32 → Int32 → Int32 → Int32 → Option (Int32)) (v0 : Nat) (v1 : Int32) (v2 : Int32) (v4 : Int32) : Option (Int32) :=
  mC_X0_breaks_105 w k5 v0 v1 v2 v4 v4
def mC_X0_breaks_5 (w : AH) (k5 : Nat → Int32 → Int32 → Int32 → Int32 → Option (Int32)) (v0 : Nat) (v1 : Int32) (v2 : Int32) (v3 : Int32) (v4 : Int32) : Option (Int32) :=
  ck (kIn (hkd w v0).1 [0]) <|
  bd1 (hvr w v0 2) fun b2 =>
  ck (kIn (hkd w b2).1 [1]) <|
  bd1 (hvr w b2 3) fun b5 =>
  ck (kIn (hkd w b5).1 [2]) <|
  bd1 (mC_J2_size b5 w) fun r9 =>
  if r9 ≤ v4 then
  (some v3)
  else
  (bd1 (mC_J2_get b5 v4 w) fun r12 =>
  ck (kIn (hkd w r12).1 [14]) <|
  if (hvi w r12 0) = v1 then
  (if v2 < (hvi w r12 4) then
  (mC_X0_breaks_105 w k5 v0 v1 v2 v3 v4)
  else
  (bd1 (hvr w b2 16) fun b16 =>
  ck (arB w b16 1 v1) <|
  if (hvi w r12 3) = (hvi w b16 (v1.toNatClampNeg)) then
  (mC_X0_breaks_105 w k5 v0 v1 v2 v3 v4)
  else
  (if v3 = (-1 : Int32) then
  (mC_X0_breaks_102 w k5 v0 v1 v2 v4)
  else
  (bd1 (mC_J2_get b5 v3 w) fun r22 =>
  ck (kIn (hkd w r22).1 [14]) <|
  if (hvi w r22 2) ≤ (hvi w r12 2) then
  (mC_X0_breaks_105 w k5 v0 v1 v2 v3 v4)
  else
  (mC_X0_breaks_102 w k5 v0 v1 v2 v4)))))
  else
  (mC_X0_breaks_105 w k5 v0 v1 v2 v3 v4))
def mC_X0_breaks (a : Nat) (p0 : Int32) (p1 : Int32) (w : AH) : Option (Int32) :=
  lq5 (mC_X0_breaks_5 w) LF a p0 p1 (-1 : Int32) (0 : Int32)
def mC_X0_broken (a : Nat) (p0 : Int32) (p1 : Int32) (p2 : Int32) (w : AH) : Option (Int32) :=
  ck (kIn (hkd w a).1 [0]) <|
  bd1 (mC_X0_isBox a p0 w) fun r3 =>
  if r3 = (0 : Int32) then
  (some (-1 : Int32))
  else
  (bd1 (mC_X0_isDay p1) fun r6 =>
  if r6 = (0 : Int32) then
  (some (-1 : Int32))
  else
  (bd1 (mC_X0_in p2 (0 : Int32) (2 : Int32)) fun r9 =>
  if r9 = (0 : Int32) then
  (some (-1 : Int32))
  else
  (bd1 (mC_X0_breaks a p0 p1 w) fun r12 =>
  if r12 = (-1 : Int32) then
  (some (-1 : Int32))
  else
  (if p2 = (1 : Int32) then
  (bd1 (mC_X0_handed a p0 (400 : Int32) p1 r12 w) fun r16 =>
  if r16 = none then
  (some (-1 : Int32))
  else
  (bd1 r16 fun b18 =>
  ck (kIn (hkd w b18).1 [14]) <|
  some (hvi w b18 1)))
  else
  (if p2 = (0 : Int32) then
  (bd1 (hvr w a 2) fun b30 =>
  ck (kIn (hkd w b30).1 [1]) <|
  bd1 (hvr w b30 3) fun b33 =>
  ck (kIn (hkd w b33).1 [2]) <|
  bd1 (mC_J2_get b33 r12 w) fun r37 =>
  ck (kIn (hkd w r37).1 [14]) <|
  some (hvi w r37 1))
  else
  (bd1 (hvr w a 2) fun b21 =>
  ck (kIn (hkd w b21).1 [1]) <|
  bd1 (hvr w b21 3) fun b24 =>
  ck (kIn (hkd w b24).1 [2]) <|
  bd1 (mC_J2_get b24 r12 w) fun r28 =>
  ck (kIn (hkd w r28).1 [14]) <|
  some (hvi w r28 2)))))))
def mC_X0_paper_28 (v0 : Nat) (w : AH) : Option (Int32 × AH) :=
  ck (kIn (hkd w v0).1 [0]) <|
  bd2 (mC_X0_refuse v0 (-1 : Int32) w) fun r3 w4 =>
  some (r3, w4)
def mC_X0_paper (a : Nat) (p0 : Int32) (p1 : Int32) (p2 : Int32) (p3 : Int32) (w : AH) : Option (Int32 × AH) :=
  bd1 (mC_X0_in p1 (0 : Int32) (3 : Int32)) fun r2 =>
  if r2 = (0 : Int32) then
  (mC_X0_paper_28 a w)
  else
  (bd1 (mC_X0_in p2 (0 : Int32) (100000 : Int32)) fun r5 =>
  if r5 = (0 : Int32) then
  (mC_X0_paper_28 a w)
  else
  (bd1 (mC_X0_isDay p3) fun r8 =>
  if r8 = (0 : Int32) then
  (mC_X0_paper_28 a w)
  else
  (ck (kIn (hkd w a).1 [0]) <|
  bd1 (mC_X0_isBooth a p0 w) fun r12 =>
  if r12 = (0 : Int32) then
  (bd2 (mC_X0_refuse a (-2 : Int32) w) fun r50 w51 =>
  some (r50, w51))
  else
  (bd1 (hvr w a 2) fun b14 =>
  ck (kIn (hkd w b14).1 [1]) <|
  bd1 (hvr w b14 4) fun b17 =>
  ck (kIn (hkd w b17).1 [2]) <|
  bd1 (mC_J2_size b17 w) fun r21 =>
  if r21 = (120 : Int32) then
  (bd2 (mC_X0_refuse a (-5 : Int32) w) fun r47 w48 =>
  some (r47, w48))
  else
  (ck (rmB w 5) <|
  st1 (hsz w) fun b24 =>
  st1 (hnew w 24 5) fun w26 =>
  bd1 (mC_X12_init b24 p0 p1 p2 p3 (0 : Int32) w26) fun w29 =>
  ck (kIn (hkd w29 b17).1 [2]) <|
  bd2 (mC_J2_add b17 b24 w29) fun r32 w33 =>
  ck (kIn (hkd w33 a).1 [0]) <|
  bd1 (hvr w33 a 2) fun b35 =>
  ck (kIn (hkd w33 b35).1 [1]) <|
  bd1 (hvr w33 b35 4) fun b38 =>
  ck (kIn (hkd w33 b38).1 [2]) <|
  bd1 (mC_J2_size b38 w33) fun r42 =>
  bd2 (mC_X0_told a r42 w33) fun r44 w45 =>
  some (r44, w45))))))
def mC_X0_count_40 (v0 : Nat) (w : AH) : Option (Int32 × AH) :=
  ck (kIn (hkd w v0).1 [0]) <|
  bd2 (mC_X0_refuse v0 (-1 : Int32) w) fun r3 w4 =>
  some (r3, w4)
def mC_X0_count (a : Nat) (p0 : Int32) (p1 : Int32) (p2 : Int32) (p3 : Int32) (p4 : Int32) (w : AH) : Option (Int32 × AH) :=
  bd1 (mC_X0_in p1 (0 : Int32) (7 : Int32)) fun r2 =>
  if r2 = (0 : Int32) then
  (mC_X0_count_40 a w)
  else
  (bd1 (mC_X0_in p2 (0 : Int32) (9 : Int32)) fun r5 =>
  if r5 = (0 : Int32) then
  (mC_X0_count_40 a w)
  else
  (bd1 (mC_X0_in p3 (0 : Int32) (10000 : Int32)) fun r8 =>
  if r8 = (0 : Int32) then
  (mC_X0_count_40 a w)
  else
  (bd1 (mC_X0_isDay p4) fun r11 =>
  if r11 = (0 : Int32) then
  (mC_X0_count_40 a w)
  else
  (ck (kIn (hkd w a).1 [0]) <|
  bd1 (mC_X0_isBox a p0 w) fun r15 =>
  if r15 = (0 : Int32) then
  (bd2 (mC_X0_refuse a (-2 : Int32) w) fun r54 w55 =>
  some (r54, w55))
  else
  (bd1 (hvr w a 2) fun b17 =>
  ck (kIn (hkd w b17).1 [1]) <|
  bd1 (hvr w b17 5) fun b20 =>
  ck (kIn (hkd w b20).1 [2]) <|
  bd1 (mC_J2_size b20 w) fun r24 =>
  if r24 = (200 : Int32) then
  (bd2 (mC_X0_refuse a (-5 : Int32) w) fun r51 w52 =>
  some (r51, w52))
  else
  (ck (rmB w 5) <|
  st1 (hsz w) fun b27 =>
  st1 (hnew w 24 5) fun w29 =>
  bd1 (mC_X12_init b27 p0 p1 p2 p4 (0 : Int32) w29) fun w32 =>
  ck (kIn (hkd w32 b20).1 [2]) <|
  bd2 (mC_J2_add b20 b27 w32) fun r35 w36 =>
  ck (kIn (hkd w36 a).1 [0]) <|
  bd1 (hvr w36 a 2) fun b38 =>
  ck (kIn (hkd w36 b38).1 [1]) <|
  bd1 (hvr w36 b38 17) fun b41 =>
  ck (arB w36 b41 1 r24) <|
  st1 (siI w36 b41 (r24.toNatClampNeg) p3) fun w44 =>
  ck (kIn (hkd w44 a).1 [0]) <|
  bd2 (mC_X0_told a r24 w44) fun r48 w49 =>
  some (r48, w49)))))))
def mC_X6_empties_26 (k26 : Nat → Int32 → Int32 → AH → Option (AH)) (v0 : Nat) (v1 : Int32) (v2 : Int32) (w : AH) : Option (AH) :=
  if (8 : Int32) ≤ v2 then
  (ck (kIn (hkd w v0).1 [7]) <|
  bd1 (hvr w v0 1) fun b3 =>
  ck (arB w b3 1 v1) <|
  st1 (siI w b3 (v1.toNatClampNeg) (0 : Int32)) fun w6 =>
  ck (kIn (hkd w6 v0).1 [7]) <|
  bd1 (hvr w6 v0 4) fun b9 =>
  ck (arB w6 b9 3 v1) <|
  st1 (siI w6 b9 (v1.toNatClampNeg) (0 : Int32)) fun w12 =>
  some w12)
  else
  (ck (kIn (hkd w v0).1 [7]) <|
  bd1 (hvr w v0 2) fun b15 =>
  ck (arB w b15 1 (((8 : Int32) * v1) + v2)) <|
  st1 (siI w b15 ((((8 : Int32) * v1) + v2).toNatClampNeg) (0 : Int32)) fun w18 =>
  k26 v0 v1 (v2 + (1 : Int32)) w18)
def mC_X6_empties_2 (k2 : Nat → Int32 → Int32 → AH → Option (AH)) (v0 : Nat) (v1 : Int32) (v2 : Int32) (w : AH) : Option (AH) :=
  if (4 : Int32) ≤ v2 then
  (lq4 (mC_X6_empties_26) LF v0 v1 (0 : Int32) w)
  else
  (ck (kIn (hkd w v0).1 [7]) <|
  bd1 (hvr w v0 0) fun b3 =>
  ck (arB w b3 1 (((4 : Int32) * v1) + v2)) <|
  st1 (siI w b3 ((((4 : Int32) * v1) + v2).toNatClampNeg) (0 : Int32)) fun w6 =>
  k2 v0 v1 (v2 + (1 : Int32)) w6)
def mC_X6_empties (a : Nat) (p0 : Int32) (w : AH) : Option (AH) :=
  lq4 (mC_X6_empties_2) LF a p0 (0 : Int32) w
def mC_X6_isLast_118 (w : AH) (k33 : Nat → Int32 → Nat → Int32 → Option (Int32)) (v0 : Nat) (v2 : Int32) (v3 : Nat) (v4 : Int32) : Option (Int32) :=
  k33 v0 v2 v3 (v4 + (1 : Int32))
def mC_X6_isLast_33 (w : AH) (k33 : Nat → Int32 → Nat → Int32 → Option (Int32)) (v0 : Nat) (v2 : Int32) (v3 : Nat) (v4 : Int32) : Option (Int32) :=
  ck (kIn (hkd w v0).1 [7]) <|
  bd1 (hvr w v0 9) fun b2 =>
  ck (kIn (hkd w b2).1 [0]) <|
  bd1 (hvr w b2 2) fun b5 =>
  ck (kIn (hkd w b5).1 [1]) <|
  bd1 (hvr w b5 5) fun b8 =>
  ck (kIn (hkd w b8).1 [2]) <|
  bd1 (mC_J2_size b8 w) fun r12 =>
  if r12 ≤ v4 then
  (some (1 : Int32))
  else
  (bd1 (mC_J2_get b8 v4 w) fun r15 =>
  ck (kIn (hkd w r15).1 [14]) <|
  if v2 < (hvi w r15 3) then
  (mC_X6_isLast_118 w k33 v0 v2 v3 v4)
  else
  (ck (kIn (hkd w v3).1 [14]) <|
  if (hvi w r15 0) = (hvi w v3 0) then
  (if (hvi w r15 1) = (hvi w v3 1) then
  (if (hvi w r15 2) = (hvi w v3 2) then
  (some (0 : Int32))
  else
  (mC_X6_isLast_118 w k33 v0 v2 v3 v4))
  else
  (mC_X6_isLast_118 w k33 v0 v2 v3 v4))
  else
  (mC_X6_isLast_118 w k33 v0 v2 v3 v4)))
def mC_X6_isLast (a : Nat) (p0 : Int32) (p1 : Int32) (w : AH) : Option (Int32) :=
  ck (kIn (hkd w a).1 [7]) <|
  bd1 (hvr w a 9) fun b2 =>
  ck (kIn (hkd w b2).1 [0]) <|
  bd1 (hvr w b2 2) fun b5 =>
  ck (kIn (hkd w b5).1 [1]) <|
  bd1 (hvr w b5 5) fun b8 =>
  ck (kIn (hkd w b8).1 [2]) <|
  bd1 (mC_J2_get b8 p0 w) fun r12 =>
  ck (kIn (hkd w r12).1 [14]) <|
  if (hvi w r12 3) ≤ p1 then
  (lq4 (mC_X6_isLast_33 w) LF a p1 r12 (p0 + (1 : Int32)))
  else
  (some (0 : Int32))
def mC_X6_lost (a : Nat) (p0 : Int32) (w : AH) : Option (Int32) :=
  ck (kIn (hkd w a).1 [7]) <|
  bd1 (hvr w a 0) fun b2 =>
  ck (arB w b2 1 (((4 : Int32) * p0) + (1 : Int32))) <|
  bd1 (hvr w a 1) fun b5 =>
  ck (arB w b5 1 p0) <|
  ck (arB w b2 1 (((4 : Int32) * p0) + (2 : Int32))) <|
  some (((hvi w b2 ((((4 : Int32) * p0) + (1 : Int32)).toNatClampNeg)) - (hvi w b5 (p0.toNatClampNeg))) - (hvi w b2 ((((4 : Int32) * p0) + (2 : Int32)).toNatClampNeg)))
def mC_X6_asksAll_193 (k152 : Nat → Int32 → Int32 → AH → Option (AH)) (v0 : Nat) (v1 : Int32) (v2 : Int32) (t0 : Int32) (t1 : Int32) (t2 : Nat) (w : AH) : Option (AH) :=
  ck (arB w t2 3 t1) <|
  ck (isZ t0) <|
  st1 (siI w t2 (t1.toNatClampNeg) t0) fun w3 =>
  k152 v0 v1 (v2 + (1 : Int32)) w3
def mC_X6_asksAll_152 (k152 : Nat → Int32 → Int32 → AH → Option (AH)) (v0 : Nat) (v1 : Int32) (v2 : Int32) (w : AH) : Option (AH) :=
  if (10 : Int32) ≤ v2 then
  (ck (kIn (hkd w v0).1 [7]) <|
  bd1 (hvr w v0 3) fun b3 =>
  bd1 (hvr w v0 9) fun b5 =>
  ck (kIn (hkd w b5).1 [0]) <|
  bd2 (mC_X0_last b5 (4 : Int32) (0 : Int32) (hvi w v0 6) w) fun r9 w10 =>
  if r9 = (-4000000000 : Int64) then
  (ck (arB w10 b3 3 v1) <|
  st1 (siI w10 b3 (v1.toNatClampNeg) (0 : Int32)) fun w13 =>
  some w13)
  else
  (ck (arB w10 b3 3 v1) <|
  st1 (siI w10 b3 (v1.toNatClampNeg) (1 : Int32)) fun w16 =>
  some w16))
  else
  (ck (kIn (hkd w v0).1 [7]) <|
  bd1 (hvr w v0 5) fun b19 =>
  bd1 (hvr w v0 9) fun b21 =>
  ck (kIn (hkd w b21).1 [0]) <|
  bd2 (mC_X0_last b21 (3 : Int32) v2 (hvi w v0 6) w) fun r25 w26 =>
  if r25 = (-4000000000 : Int64) then
  (mC_X6_asksAll_193 k152 v0 v1 v2 (0 : Int32) (((10 : Int32) * v1) + v2) b19 w26)
  else
  (mC_X6_asksAll_193 k152 v0 v1 v2 (1 : Int32) (((10 : Int32) * v1) + v2) b19 w26))
def mC_X6_asksAll (a : Nat) (p0 : Int32) (w : AH) : Option (AH) :=
  ck (kIn (hkd w a).1 [7]) <|
  bd1 (hvr w a 9) fun b2 =>
  ck (kIn (hkd w b2).1 [0]) <|
  bd1 (hvr w b2 2) fun b5 =>
  ck (kIn (hkd w b5).1 [1]) <|
  bd1 (hvr w b5 14) fun b8 =>
  ck (arB w b8 1 p0) <|
  bd1 (mC_X0_asksPlace b2 (hvi w b8 (p0.toNatClampNeg)) (hvi w a 6) w) fun w12 =>
  ck (kIn (hkd w12 a).1 [7]) <|
  bd1 (hvr w12 a 9) fun b14 =>
  ck (kIn (hkd w12 b14).1 [0]) <|
  bd1 (hvr w12 b14 8) fun b17 =>
  ck (kIn (hkd w12 b17).1 [4]) <|
  bd1 (hvr w12 b17 1) fun b20 =>
  bd1 (hvr w12 a 0) fun b22 =>
  ck (arB w12 b22 1 ((4 : Int32) * p0)) <|
  ck (arB w12 b20 2 (6 : Int32)) <|
  st1 (siL w12 b20 6 ((hvi w12 b22 (((4 : Int32) * p0).toNatClampNeg)).toInt64)) fun w26 =>
  ck (kIn (hkd w26 a).1 [7]) <|
  bd1 (hvr w26 a 9) fun b29 =>
  ck (kIn (hkd w26 b29).1 [0]) <|
  bd1 (hvr w26 b29 8) fun b32 =>
  ck (kIn (hkd w26 b32).1 [4]) <|
  bd1 (hvr w26 b32 1) fun b35 =>
  bd1 (hvr w26 a 0) fun b37 =>
  ck (arB w26 b37 1 (((4 : Int32) * p0) + (1 : Int32))) <|
  ck (arB w26 b35 2 (7 : Int32)) <|
  st1 (siL w26 b35 7 ((hvi w26 b37 ((((4 : Int32) * p0) + (1 : Int32)).toNatClampNeg)).toInt64)) fun w41 =>
  ck (kIn (hkd w41 a).1 [7]) <|
  bd1 (hvr w41 a 9) fun b44 =>
  ck (kIn (hkd w41 b44).1 [0]) <|
  bd1 (hvr w41 b44 8) fun b47 =>
  ck (kIn (hkd w41 b47).1 [4]) <|
  bd1 (hvr w41 b47 1) fun b50 =>
  bd1 (hvr w41 a 1) fun b52 =>
  ck (arB w41 b52 1 p0) <|
  ck (arB w41 b50 2 (8 : Int32)) <|
  st1 (siL w41 b50 8 ((hvi w41 b52 (p0.toNatClampNeg)).toInt64)) fun w56 =>
  ck (kIn (hkd w56 a).1 [7]) <|
  bd1 (hvr w56 a 9) fun b59 =>
  ck (kIn (hkd w56 b59).1 [0]) <|
  bd1 (hvr w56 b59 8) fun b62 =>
  ck (kIn (hkd w56 b62).1 [4]) <|
  bd1 (hvr w56 b62 1) fun b65 =>
  bd1 (hvr w56 a 0) fun b67 =>
  ck (arB w56 b67 1 (((4 : Int32) * p0) + (2 : Int32))) <|
  ck (arB w56 b65 2 (9 : Int32)) <|
  st1 (siL w56 b65 9 ((hvi w56 b67 ((((4 : Int32) * p0) + (2 : Int32)).toNatClampNeg)).toInt64)) fun w71 =>
  ck (kIn (hkd w71 a).1 [7]) <|
  bd1 (hvr w71 a 9) fun b74 =>
  ck (kIn (hkd w71 b74).1 [0]) <|
  bd1 (hvr w71 b74 8) fun b77 =>
  ck (kIn (hkd w71 b77).1 [4]) <|
  bd1 (hvr w71 b77 1) fun b80 =>
  bd1 (mC_X6_lost a p0 w71) fun r83 =>
  ck (arB w71 b80 2 (10 : Int32)) <|
  st1 (siL w71 b80 10 (r83.toInt64)) fun w85 =>
  ck (kIn (hkd w85 a).1 [7]) <|
  bd1 (hvr w85 a 9) fun b88 =>
  ck (kIn (hkd w85 b88).1 [0]) <|
  bd1 (hvr w85 b88 8) fun b91 =>
  ck (kIn (hkd w85 b91).1 [4]) <|
  bd1 (hvr w85 b91 2) fun b94 =>
  bd1 (hvr w85 a 4) fun b96 =>
  ck (arB w85 b96 3 p0) <|
  ck (arB w85 b94 3 (4 : Int32)) <|
  ck (isZ (hvi w85 b96 (p0.toNatClampNeg))) <|
  st1 (siI w85 b94 4 (hvi w85 b96 (p0.toNatClampNeg))) fun w101 =>
  lq4 (mC_X6_asksAll_152) LF a p0 (0 : Int32) w101
def mC_X6_looks_447 (k334 : Nat → Int32 → Int32 → AH → Option (AH)) (v0 : Nat) (v2 : Int32) (v3 : Int32) (w : AH) : Option (AH) :=
  k334 v0 v2 (v3 + (1 : Int32)) w
def mC_X6_looks_334 (k334 : Nat → Int32 → Int32 → AH → Option (AH)) (v0 : Nat) (v2 : Int32) (v3 : Int32) (w : AH) : Option (AH) :=
  ck (kIn (hkd w v0).1 [7]) <|
  bd1 (hvr w v0 9) fun b2 =>
  ck (kIn (hkd w b2).1 [0]) <|
  bd1 (hvr w b2 2) fun b5 =>
  ck (kIn (hkd w b5).1 [1]) <|
  bd1 (hvr w b5 5) fun b8 =>
  ck (kIn (hkd w b8).1 [2]) <|
  bd1 (mC_J2_size b8 w) fun r12 =>
  if r12 ≤ v3 then
  (some w)
  else
  (bd1 (mC_J2_get b8 v3 w) fun r15 =>
  ck (kIn (hkd w r15).1 [14]) <|
  bd1 (hvr w b5 15) fun b17 =>
  ck (arB w b17 1 (hvi w r15 0)) <|
  bd1 (mC_X6_isLast v0 v3 v2 w) fun r21 =>
  if r21 = (0 : Int32) then
  (mC_X6_looks_447 k334 v0 v2 v3 w)
  else
  (bd1 (hvr w v0 5) fun b23 =>
  ck (arB w b23 3 (((10 : Int32) * (hvi w b17 ((hvi w r15 0).toNatClampNeg))) + (hvi w r15 2))) <|
  if (hvi w b23 ((((10 : Int32) * (hvi w b17 ((hvi w r15 0).toNatClampNeg))) + (hvi w r15 2)).toNatClampNeg)) = (0 : Int32) then
  (bd1 (hvr w v0 2) fun b27 =>
  ck (arB w b27 1 (((8 : Int32) * (hvi w b17 ((hvi w r15 0).toNatClampNeg))) + (hvi w r15 1))) <|
  bd1 (hvr w b5 17) fun b30 =>
  ck (arB w b30 1 v3) <|
  st1 (siI w b27 ((((8 : Int32) * (hvi w b17 ((hvi w r15 0).toNatClampNeg))) + (hvi w r15 1)).toNatClampNeg) ((hvi w b27 ((((8 : Int32) * (hvi w b17 ((hvi w r15 0).toNatClampNeg))) + (hvi w r15 1)).toNatClampNeg)) + (hvi w b30 (v3.toNatClampNeg)))) fun w33 =>
  mC_X6_looks_447 k334 v0 v2 v3 w33)
  else
  (mC_X6_looks_447 k334 v0 v2 v3 w)))
def mC_X6_looks_307 (k307 : Nat → Int32 → Int32 → AH → Option (AH)) (v0 : Nat) (v2 : Int32) (v3 : Int32) (w : AH) : Option (AH) :=
  ck (kIn (hkd w v0).1 [7]) <|
  bd1 (hvr w v0 9) fun b2 =>
  ck (kIn (hkd w b2).1 [0]) <|
  bd1 (hvr w b2 2) fun b5 =>
  ck (kIn (hkd w b5).1 [1]) <|
  if (hvi w b5 23) ≤ v3 then
  (lq4 (mC_X6_looks_334) LF v0 v2 (0 : Int32) w)
  else
  (bd1 (mC_X6_asksAll v0 v3 w) fun w10 =>
  k307 v0 v2 (v3 + (1 : Int32)) w10)
def mC_X6_looks_299 (k222 : Nat → Int32 → Int32 → AH → Option (AH)) (v0 : Nat) (v2 : Int32) (v3 : Int32) (w : AH) : Option (AH) :=
  k222 v0 v2 (v3 + (1 : Int32)) w
def mC_X6_looks_222 (k222 : Nat → Int32 → Int32 → AH → Option (AH)) (v0 : Nat) (v2 : Int32) (v3 : Int32) (w : AH) : Option (AH) :=
  ck (kIn (hkd w v0).1 [7]) <|
  bd1 (hvr w v0 9) fun b2 =>
  ck (kIn (hkd w b2).1 [0]) <|
  bd1 (hvr w b2 2) fun b5 =>
  ck (kIn (hkd w b5).1 [1]) <|
  bd1 (hvr w b5 5) fun b8 =>
  ck (kIn (hkd w b8).1 [2]) <|
  bd1 (mC_J2_size b8 w) fun r12 =>
  if r12 ≤ v3 then
  (lq4 (mC_X6_looks_307) LF v0 v2 (0 : Int32) w)
  else
  (bd1 (mC_X6_isLast v0 v3 v2 w) fun r15 =>
  if r15 = (0 : Int32) then
  (mC_X6_looks_299 k222 v0 v2 v3 w)
  else
  (bd1 (hvr w v0 1) fun b17 =>
  bd1 (hvr w b5 15) fun b19 =>
  bd1 (mC_J2_get b8 v3 w) fun r22 =>
  ck (kIn (hkd w r22).1 [14]) <|
  ck (arB w b19 1 (hvi w r22 0)) <|
  ck (arB w b17 1 (hvi w b19 ((hvi w r22 0).toNatClampNeg))) <|
  bd1 (hvr w b5 17) fun b26 =>
  ck (arB w b26 1 v3) <|
  st1 (siI w b17 ((hvi w b19 ((hvi w r22 0).toNatClampNeg)).toNatClampNeg) ((hvi w b17 ((hvi w b19 ((hvi w r22 0).toNatClampNeg)).toNatClampNeg)) + (hvi w b26 (v3.toNatClampNeg)))) fun w29 =>
  mC_X6_looks_299 k222 v0 v2 v3 w29))
def mC_X6_looks_214 (k169 : Nat → Int32 → Int32 → AH → Option (AH)) (v0 : Nat) (v2 : Int32) (v3 : Int32) (w : AH) : Option (AH) :=
  k169 v0 v2 (v3 + (1 : Int32)) w
def mC_X6_looks_169 (k169 : Nat → Int32 → Int32 → AH → Option (AH)) (v0 : Nat) (v2 : Int32) (v3 : Int32) (w : AH) : Option (AH) :=
  ck (kIn (hkd w v0).1 [7]) <|
  bd1 (hvr w v0 9) fun b2 =>
  ck (kIn (hkd w b2).1 [0]) <|
  bd1 (hvr w b2 2) fun b5 =>
  ck (kIn (hkd w b5).1 [1]) <|
  if (hvi w b5 24) ≤ v3 then
  (lq4 (mC_X6_looks_222) LF v0 v2 (0 : Int32) w)
  else
  (bd1 (mC_X0_breaks b2 v3 v2 w) fun r10 =>
  if r10 = (-1 : Int32) then
  (mC_X6_looks_214 k169 v0 v2 v3 w)
  else
  (bd1 (hvr w v0 4) fun b12 =>
  bd1 (hvr w b5 15) fun b14 =>
  ck (arB w b14 1 v3) <|
  ck (arB w b12 3 (hvi w b14 (v3.toNatClampNeg))) <|
  st1 (siI w b12 ((hvi w b14 (v3.toNatClampNeg)).toNatClampNeg) (1 : Int32)) fun w18 =>
  mC_X6_looks_214 k169 v0 v2 v3 w18))
def mC_X6_looks_161 (k93 : Nat → Int32 → Int32 → AH → Option (AH)) (v0 : Nat) (v2 : Int32) (v3 : Int32) (w : AH) : Option (AH) :=
  k93 v0 v2 (v3 + (1 : Int32)) w
def mC_X6_looks_93 (k93 : Nat → Int32 → Int32 → AH → Option (AH)) (v0 : Nat) (v2 : Int32) (v3 : Int32) (w : AH) : Option (AH) :=
  ck (kIn (hkd w v0).1 [7]) <|
  bd1 (hvr w v0 9) fun b2 =>
  ck (kIn (hkd w b2).1 [0]) <|
  bd1 (hvr w b2 2) fun b5 =>
  ck (kIn (hkd w b5).1 [1]) <|
  bd1 (hvr w b5 4) fun b8 =>
  ck (kIn (hkd w b8).1 [2]) <|
  bd1 (mC_J2_size b8 w) fun r12 =>
  if r12 ≤ v3 then
  (lq4 (mC_X6_looks_169) LF v0 v2 (0 : Int32) w)
  else
  (bd1 (mC_J2_get b8 v3 w) fun r15 =>
  ck (kIn (hkd w r15).1 [14]) <|
  if v2 < (hvi w r15 3) then
  (mC_X6_looks_161 k93 v0 v2 v3 w)
  else
  (bd1 (hvr w v0 0) fun b18 =>
  ck (arB w b18 1 (((4 : Int32) * (hvi w r15 0)) + (hvi w r15 1))) <|
  st1 (siI w b18 ((((4 : Int32) * (hvi w r15 0)) + (hvi w r15 1)).toNatClampNeg) (hvi w r15 2)) fun w21 =>
  mC_X6_looks_161 k93 v0 v2 v3 w21))
def mC_X6_looks_66 (k66 : Nat → Int32 → Int32 → AH → Option (AH)) (v0 : Nat) (v2 : Int32) (v3 : Int32) (w : AH) : Option (AH) :=
  ck (kIn (hkd w v0).1 [7]) <|
  bd1 (hvr w v0 9) fun b2 =>
  ck (kIn (hkd w b2).1 [0]) <|
  bd1 (hvr w b2 2) fun b5 =>
  ck (kIn (hkd w b5).1 [1]) <|
  if (hvi w b5 23) ≤ v3 then
  (lq4 (mC_X6_looks_93) LF v0 v2 (0 : Int32) w)
  else
  (bd1 (mC_X6_empties v0 v3 w) fun w10 =>
  k66 v0 v2 (v3 + (1 : Int32)) w10)
def mC_X6_looks_43 (v0 : Nat) (v1 : Int32) (v2 : Int32) (w : AH) : Option (AH) :=
  ck (kIn (hkd w v0).1 [7]) <|
  st1 (siI w v0 6 v1) fun w2 =>
  ck (kIn (hkd w2 v0).1 [7]) <|
  st1 (siI w2 v0 7 v2) fun w5 =>
  ck (kIn (hkd w5 v0).1 [7]) <|
  bd1 (hvr w5 v0 9) fun b8 =>
  ck (kIn (hkd w5 b8).1 [0]) <|
  st1 (siI w5 v0 8 (hvi w5 b8 1)) fun w11 =>
  lq4 (mC_X6_looks_66) LF v0 v2 (0 : Int32) w11
def mC_X6_looks (a : Nat) (p0 : Int32) (p1 : Int32) (w : AH) : Option (AH) :=
  ck (kIn (hkd w a).1 [7]) <|
  bd1 (hvr w a 9) fun b2 =>
  ck (kIn (hkd w b2).1 [0]) <|
  bd1 (hvr w b2 9) fun b5 =>
  ck (kIn (hkd w b5).1 [6]) <|
  bd1 (mC_X5_looks b5 p0 p1 w) fun w9 =>
  ck (kIn (hkd w9 a).1 [7]) <|
  if (hvi w9 a 6) = p0 then
  (if (hvi w9 a 7) = p1 then
  (bd1 (hvr w9 a 9) fun b13 =>
  ck (kIn (hkd w9 b13).1 [0]) <|
  if (hvi w9 a 8) = (hvi w9 b13 1) then
  (some w9)
  else
  (mC_X6_looks_43 a p0 p1 w9))
  else
  (mC_X6_looks_43 a p0 p1 w9))
  else
  (mC_X6_looks_43 a p0 p1 w9)
def mC_X6_validOf_4 (w : AH) (k4 : Nat → Int32 → Int32 → Int32 → Option (Int32)) (v0 : Nat) (v1 : Int32) (v2 : Int32) (v3 : Int32) : Option (Int32) :=
  if (8 : Int32) ≤ v3 then
  (some v2)
  else
  (ck (kIn (hkd w v0).1 [7]) <|
  bd1 (hvr w v0 2) fun b3 =>
  ck (arB w b3 1 (((8 : Int32) * v1) + v3)) <|
  k4 v0 v1 (v2 + (hvi w b3 ((((8 : Int32) * v1) + v3).toNatClampNeg))) (v3 + (1 : Int32)))
def mC_X6_validOf (a : Nat) (p0 : Int32) (w : AH) : Option (Int32) :=
  lq4 (mC_X6_validOf_4 w) LF a p0 (0 : Int32) (0 : Int32)
def mC_X0_tells (a : Nat) (p0 : Int32) (p1 : Int32) (p2 : Int32) (p3 : Int32) (w : AH) : Option (Int32 × AH) :=
  ck (kIn (hkd w a).1 [0]) <|
  bd1 (mC_X0_isBooth a p0 w) fun r3 =>
  if r3 = (0 : Int32) then
  (some ((-2000000000 : Int32), w))
  else
  (bd1 (mC_X0_isDay p1) fun r6 =>
  if r6 = (0 : Int32) then
  (some ((-2000000000 : Int32), w))
  else
  (bd1 (mC_X0_isDay p2) fun r9 =>
  if r9 = (0 : Int32) then
  (some ((-2000000000 : Int32), w))
  else
  (bd1 (mC_X0_in p3 (0 : Int32) (8 : Int32)) fun r12 =>
  if r12 = (0 : Int32) then
  (some ((-2000000000 : Int32), w))
  else
  (bd1 (hvr w a 23) fun b14 =>
  ck (kIn (hkd w b14).1 [7]) <|
  bd1 (mC_X6_looks b14 p1 p2 w) fun w18 =>
  ck (kIn (hkd w18 a).1 [0]) <|
  bd1 (hvr w18 a 23) fun b20 =>
  ck (kIn (hkd w18 b20).1 [7]) <|
  bd1 (hvr w18 b20 0) fun b23 =>
  if (4 : Int32) ≤ p3 then
  ((if p3 = (4 : Int32) then
  (bd1 (hvr w18 b20 1) fun b26 =>
  ck (arB w18 b26 1 p0) <|
  some ((hvi w18 b26 (p0.toNatClampNeg)), w18))
  else if p3 = (5 : Int32) then
  (bd1 (mC_X6_lost b20 p0 w18) fun r30 =>
  some (r30, w18))
  else if p3 = (6 : Int32) then
  (ck (arB w18 b23 1 ((4 : Int32) * p0)) <|
  ck (arB w18 b23 1 (((4 : Int32) * p0) + (1 : Int32))) <|
  ck (arB w18 b23 1 (((4 : Int32) * p0) + (3 : Int32))) <|
  if (hvi w18 b23 (((4 : Int32) * p0).toNatClampNeg)) = ((hvi w18 b23 ((((4 : Int32) * p0) + (1 : Int32)).toNatClampNeg)) + (hvi w18 b23 ((((4 : Int32) * p0) + (3 : Int32)).toNatClampNeg))) then
  (bd1 (mC_X6_lost b20 p0 w18) fun r36 =>
  if r36 = (0 : Int32) then
  (some ((1 : Int32), w18))
  else
  (some ((0 : Int32), w18)))
  else
  (some ((0 : Int32), w18)))
  else if p3 = (7 : Int32) then
  (bd1 (hvr w18 b20 3) fun b38 =>
  ck (arB w18 b38 3 p0) <|
  if (hvi w18 b38 (p0.toNatClampNeg)) = (0 : Int32) then
  (some ((0 : Int32), w18))
  else
  (some ((1 : Int32), w18)))
  else (bd1 (mC_X6_validOf b20 p0 w18) fun r43 =>
  some (r43, w18))))
  else
  (ck (arB w18 b23 1 (((4 : Int32) * p0) + p3)) <|
  some ((hvi w18 b23 ((((4 : Int32) * p0) + p3).toNatClampNeg)), w18))))))
def mC_X0_keep_19 (v0 : Nat) (w : AH) : Option (Int32 × AH) :=
  ck (kIn (hkd w v0).1 [0]) <|
  bd2 (mC_X0_refuse v0 (-1 : Int32) w) fun r3 w4 =>
  some (r3, w4)
def mC_X0_keep (a : Nat) (p0 : Int32) (p1 : Int32) (w : AH) : Option (Int32 × AH) :=
  bd1 (mC_X0_in p0 (0 : Int32) (5 : Int32)) fun r2 =>
  if r2 = (0 : Int32) then
  (mC_X0_keep_19 a w)
  else
  (bd1 (mC_X0_in p1 (0 : Int32) (7 : Int32)) fun r5 =>
  if r5 = (0 : Int32) then
  (mC_X0_keep_19 a w)
  else
  (ck (kIn (hkd w a).1 [0]) <|
  bd1 (hvr w a 2) fun b8 =>
  ck (kIn (hkd w b8).1 [1]) <|
  bd1 (hvr w b8 21) fun b11 =>
  ck (arB w b11 3 (((8 : Int32) * p0) + p1)) <|
  if (hvi w b11 ((((8 : Int32) * p0) + p1).toNatClampNeg)) = (0 : Int32) then
  (st1 (siI w b11 ((((8 : Int32) * p0) + p1).toNatClampNeg) (1 : Int32)) fun w15 =>
  ck (kIn (hkd w15 a).1 [0]) <|
  bd2 (mC_X0_told a (0 : Int32) w15) fun r19 w20 =>
  some (r19, w20))
  else
  (bd2 (mC_X0_refuse a (-4 : Int32) w) fun r22 w23 =>
  some (r22, w23))))
def mC_X0_seatOf (a : Nat) (p0 : Int32) (w : AH) : Option (Int32) :=
  ck (kIn (hkd w a).1 [0]) <|
  bd1 (hvr w a 2) fun b2 =>
  ck (kIn (hkd w b2).1 [1]) <|
  bd1 (hvr w b2 6) fun b5 =>
  bd1 (hvr w b2 14) fun b7 =>
  ck (arB w b7 1 p0) <|
  ck (arB w b5 1 (hvi w b7 (p0.toNatClampNeg))) <|
  some (hvi w b5 ((hvi w b7 (p0.toNatClampNeg)).toNatClampNeg))
def mC_X0_reckons_236 (v0 : Nat) (v3 : Int32) (v4 : Int32) (w : AH) : Option (AH) :=
  ck (kIn (hkd w v0).1 [0]) <|
  if (hvi w v0 25) = (-1 : Int32) then
  (st1 (siI w v0 26 (0 : Int32)) fun w5 =>
  some w5)
  else
  (st1 (siI w v0 26 (v3 - v4)) fun w3 =>
  some w3)
def mC_X0_reckons_219 (k142 : Nat → Int32 → Int32 → Int32 → Int32 → Int32 → AH → Option (AH)) (v0 : Nat) (v1 : Int32) (v2 : Int32) (v3 : Int32) (v4 : Int32) (v5 : Int32) (w : AH) : Option (AH) :=
  k142 v0 v1 v2 v3 v4 (v5 + (1 : Int32)) w
def mC_X0_reckons_174 (k142 : Nat → Int32 → Int32 → Int32 → Int32 → Int32 → AH → Option (AH)) (v0 : Nat) (v1 : Int32) (v2 : Int32) (v3 : Int32) (v4 : Int32) (v5 : Int32) (w : AH) : Option (AH) :=
  ck (kIn (hkd w v0).1 [0]) <|
  bd1 (hvr w v0 24) fun b2 =>
  ck (arB w b2 1 v5) <|
  if (hvi w b2 (v5.toNatClampNeg)) ≤ v3 then
  (st1 (if v4 < (hvi w b2 (v5.toNatClampNeg)) then (hvi w b2 (v5.toNatClampNeg)) else v4) fun r6 =>
  mC_X0_reckons_219 k142 v0 v1 v2 v3 r6 v5 w)
  else
  (st1 (siI w v0 25 v5) fun w8 =>
  mC_X0_reckons_219 k142 v0 v1 v2 (hvi w b2 (v5.toNatClampNeg)) v3 v5 w8)
def mC_X0_reckons_142 (k142 : Nat → Int32 → Int32 → Int32 → Int32 → Int32 → AH → Option (AH)) (v0 : Nat) (v1 : Int32) (v2 : Int32) (v3 : Int32) (v4 : Int32) (v5 : Int32) (w : AH) : Option (AH) :=
  if (8 : Int32) ≤ v5 then
  (if v4 = v3 then
  (ck (kIn (hkd w v0).1 [0]) <|
  st1 (siI w v0 25 (-1 : Int32)) fun w4 =>
  mC_X0_reckons_236 v0 v3 v4 w4)
  else
  (mC_X0_reckons_236 v0 v3 v4 w))
  else
  (if v2 = (0 : Int32) then
  (mC_X0_reckons_174 k142 v0 v1 v2 v3 v4 v5 w)
  else
  (ck (kIn (hkd w v0).1 [0]) <|
  bd1 (hvr w v0 2) fun b8 =>
  ck (kIn (hkd w b8).1 [1]) <|
  bd1 (hvr w b8 21) fun b11 =>
  ck (arB w b11 3 (((8 : Int32) * v1) + v5)) <|
  if (hvi w b11 ((((8 : Int32) * v1) + v5).toNatClampNeg)) = (0 : Int32) then
  (mC_X0_reckons_219 k142 v0 v1 v2 v3 v4 v5 w)
  else
  (mC_X0_reckons_174 k142 v0 v1 v2 v3 v4 v5 w)))
def mC_X0_reckons_122 (k90 : Nat → Int32 → Int32 → Int32 → AH → Option (AH)) (v0 : Nat) (v1 : Int32) (v3 : Int32) (t0 : Int32) (w : AH) : Option (AH) :=
  k90 v0 v1 t0 (v3 + (1 : Int32)) w
def mC_X0_reckons_117 (k90 : Nat → Int32 → Int32 → Int32 → AH → Option (AH)) (v0 : Nat) (v1 : Int32) (v3 : Int32) (w : AH) : Option (AH) :=
  mC_X0_reckons_122 k90 v0 v1 v3 (1 : Int32) w
def mC_X0_reckons_90 (k90 : Nat → Int32 → Int32 → Int32 → AH → Option (AH)) (v0 : Nat) (v1 : Int32) (v2 : Int32) (v3 : Int32) (w : AH) : Option (AH) :=
  if (8 : Int32) ≤ v3 then
  (ck (kIn (hkd w v0).1 [0]) <|
  st1 (siI w v0 25 (-1 : Int32)) fun w3 =>
  lq7 (mC_X0_reckons_142) LF v0 v1 v2 (0 : Int32) (0 : Int32) (0 : Int32) w3)
  else
  (if v2 = (0 : Int32) then
  (ck (kIn (hkd w v0).1 [0]) <|
  bd1 (hvr w v0 2) fun b7 =>
  ck (kIn (hkd w b7).1 [1]) <|
  bd1 (hvr w b7 21) fun b10 =>
  ck (arB w b10 3 (((8 : Int32) * v1) + v3)) <|
  if (hvi w b10 ((((8 : Int32) * v1) + v3).toNatClampNeg)) = (0 : Int32) then
  (mC_X0_reckons_122 k90 v0 v1 v3 (0 : Int32) w)
  else
  (mC_X0_reckons_117 k90 v0 v1 v3 w))
  else
  (mC_X0_reckons_117 k90 v0 v1 v3 w))
def mC_X0_reckons_80 (k23 : Nat → Int32 → Int32 → AH → Option (AH)) (v0 : Nat) (v1 : Int32) (v2 : Int32) (w : AH) : Option (AH) :=
  k23 v0 v1 (v2 + (1 : Int32)) w
def mC_X0_reckons_45 (k23 : Nat → Int32 → Int32 → AH → Option (AH)) (k45 : Nat → Int32 → Int32 → Int32 → AH → Option (AH)) (v0 : Nat) (v1 : Int32) (v2 : Int32) (v3 : Int32) (w : AH) : Option (AH) :=
  if (8 : Int32) ≤ v3 then
  (mC_X0_reckons_80 k23 v0 v1 v2 w)
  else
  (ck (kIn (hkd w v0).1 [0]) <|
  bd1 (hvr w v0 24) fun b3 =>
  ck (arB w b3 1 v3) <|
  bd1 (hvr w v0 23) fun b6 =>
  ck (kIn (hkd w b6).1 [7]) <|
  bd1 (hvr w b6 2) fun b9 =>
  ck (arB w b9 1 (((8 : Int32) * v2) + v3)) <|
  st1 (siI w b3 (v3.toNatClampNeg) ((hvi w b3 (v3.toNatClampNeg)) + (hvi w b9 ((((8 : Int32) * v2) + v3).toNatClampNeg)))) fun w12 =>
  k45 v0 v1 v2 (v3 + (1 : Int32)) w12)
def mC_X0_reckons_23 (k23 : Nat → Int32 → Int32 → AH → Option (AH)) (v0 : Nat) (v1 : Int32) (v2 : Int32) (w : AH) : Option (AH) :=
  ck (kIn (hkd w v0).1 [0]) <|
  bd1 (hvr w v0 2) fun b2 =>
  ck (kIn (hkd w b2).1 [1]) <|
  if (hvi w b2 23) ≤ v2 then
  (lq5 (mC_X0_reckons_90) LF v0 v1 (0 : Int32) (0 : Int32) w)
  else
  (bd1 (mC_X0_seatOf v0 v2 w) fun r7 =>
  if r7 = v1 then
  (lq5 (mC_X0_reckons_45 k23) LF v0 v1 v2 (0 : Int32) w)
  else
  (mC_X0_reckons_80 k23 v0 v1 v2 w))
def mC_X0_reckons_2 (k2 : Nat → Int32 → Int32 → AH → Option (AH)) (v0 : Nat) (v1 : Int32) (v2 : Int32) (w : AH) : Option (AH) :=
  if (8 : Int32) ≤ v2 then
  (lq4 (mC_X0_reckons_23) LF v0 v1 (0 : Int32) w)
  else
  (ck (kIn (hkd w v0).1 [0]) <|
  bd1 (hvr w v0 24) fun b3 =>
  ck (arB w b3 1 v2) <|
  st1 (siI w b3 (v2.toNatClampNeg) (0 : Int32)) fun w6 =>
  k2 v0 v1 (v2 + (1 : Int32)) w6)
def mC_X0_reckons (a : Nat) (p0 : Int32) (w : AH) : Option (AH) :=
  lq4 (mC_X0_reckons_2) LF a p0 (0 : Int32) w
def mC_X0_doesHang_120 (w : AH) (k7 : Nat → Int32 → Int32 → Int32 → Int32 → Option (Int32)) (v0 : Nat) (v1 : Int32) (v2 : Int32) (v3 : Int32) (v4 : Int32) : Option (Int32) :=
  k7 v0 v1 v2 v3 (v4 + (1 : Int32))
def mC_X0_doesHang_75 (w : AH) (k25 : Nat → Int32 → Int32 → Int32 → Int32 → Int32 → Int32 → Option (Int32)) (v0 : Nat) (v1 : Int32) (v2 : Int32) (v3 : Int32) (v4 : Int32) (v6 : Int32) (t0 : Int32) : Option (Int32) :=
  k25 v0 v1 v2 v3 v4 t0 (v6 + (1 : Int32))
def mC_X0_doesHang_70 (w : AH) (k25 : Nat → Int32 → Int32 → Int32 → Int32 → Int32 → Int32 → Option (Int32)) (v0 : Nat) (v1 : Int32) (v2 : Int32) (v3 : Int32) (v4 : Int32) (v6 : Int32) : Option (Int32) :=
  mC_X0_doesHang_75 w k25 v0 v1 v2 v3 v4 v6 (1 : Int32)
def mC_X0_doesHang_74 (w : AH) (k25 : Nat → Int32 → Int32 → Int32 → Int32 → Int32 → Int32 → Option (Int32)) (v0 : Nat) (v1 : Int32) (v2 : Int32) (v3 : Int32) (v4 : Int32) (v6 : Int32) : Option (Int32) :=
  mC_X0_doesHang_75 w k25 v0 v1 v2 v3 v4 v6 (0 : Int32)
def mC_X0_doesHang_25 (w : AH) (k7 : Nat → Int32 → Int32 → Int32 → Int32 → Option (Int32)) (k25 : Nat → Int32 → Int32 → Int32 → Int32 → Int32 → Int32 → Option (Int32)) (v0 : Nat) (v1 : Int32) (v2 : Int32) (v3 : Int32) (v4 : Int32) (v5 : Int32) (v6 : Int32) : Option (Int32) :=
  ck (kIn (hkd w v0).1 [0]) <|
  bd1 (hvr w v0 2) fun b2 =>
  ck (kIn (hkd w b2).1 [1]) <|
  if (hvi w b2 23) ≤ v6 then
  (if v5 = (0 : Int32) then
  (mC_X0_doesHang_120 w k7 v0 v1 v2 v3 v4)
  else
  (bd1 (hvr w b2 6) fun b7 =>
  ck (arB w b7 1 v4) <|
  if (hvi w b7 (v4.toNatClampNeg)) = v1 then
  (bd1 (hvr w v0 9) fun b11 =>
  ck (kIn (hkd w b11).1 [6]) <|
  bd1 (hvr w b11 2) fun b14 =>
  ck (arB w b14 1 v4) <|
  mC_X0_doesHang_120 w k7 v0 v1 (v2 + (hvi w b14 (v4.toNatClampNeg))) (1 : Int32) v4)
  else
  (mC_X0_doesHang_120 w k7 v0 v1 v2 v3 v4)))
  else
  (if v5 = (0 : Int32) then
  (bd1 (hvr w b2 14) fun b18 =>
  ck (arB w b18 1 v6) <|
  if (hvi w b18 (v6.toNatClampNeg)) = v4 then
  (bd1 (hvr w v0 23) fun b22 =>
  ck (kIn (hkd w b22).1 [7]) <|
  bd1 (hvr w b22 3) fun b25 =>
  ck (arB w b25 3 v6) <|
  if (hvi w b25 (v6.toNatClampNeg)) = (0 : Int32) then
  (mC_X0_doesHang_74 w k25 v0 v1 v2 v3 v4 v6)
  else
  (mC_X0_doesHang_70 w k25 v0 v1 v2 v3 v4 v6))
  else
  (mC_X0_doesHang_74 w k25 v0 v1 v2 v3 v4 v6))
  else
  (mC_X0_doesHang_70 w k25 v0 v1 v2 v3 v4 v6))
def mC_X0_doesHang_7 (w : AH) (k7 : Nat → Int32 → Int32 → Int32 → Int32 → Option (Int32)) (v0 : Nat) (v1 : Int32) (v2 : Int32) (v3 : Int32) (v4 : Int32) : Option (Int32) :=
  ck (kIn (hkd w v0).1 [0]) <|
  bd1 (hvr w v0 2) fun b2 =>
  ck (kIn (hkd w b2).1 [1]) <|
  if (hvi w b2 22) ≤ v4 then
  (if v3 = (0 : Int32) then
  (some (0 : Int32))
  else
  (if v2 < (hvi w v0 26) then
  (some (0 : Int32))
  else
  (some (1 : Int32))))
  else
  (lq7 (mC_X0_doesHang_25 w k7) LF v0 v1 v2 v3 v4 (0 : Int32) (0 : Int32))
def mC_X0_doesHang (a : Nat) (p0 : Int32) (w : AH) : Option (Int32) :=
  lq5 (mC_X0_doesHang_7 w) LF a p0 (0 : Int32) (0 : Int32) (0 : Int32)
def mC_X0_seat (a : Nat) (p0 : Int32) (p1 : Int32) (p2 : Int32) (p3 : Int32) (w : AH) : Option (Int32 × AH) :=
  bd1 (mC_X0_in p0 (0 : Int32) (5 : Int32)) fun r2 =>
  if r2 = (0 : Int32) then
  (some ((-2000000000 : Int32), w))
  else
  (bd1 (mC_X0_isDay p1) fun r5 =>
  if r5 = (0 : Int32) then
  (some ((-2000000000 : Int32), w))
  else
  (bd1 (mC_X0_isDay p2) fun r8 =>
  if r8 = (0 : Int32) then
  (some ((-2000000000 : Int32), w))
  else
  (bd1 (mC_X0_in p3 (0 : Int32) (10 : Int32)) fun r11 =>
  if r11 = (0 : Int32) then
  (some ((-2000000000 : Int32), w))
  else
  (ck (kIn (hkd w a).1 [0]) <|
  bd1 (hvr w a 23) fun b14 =>
  ck (kIn (hkd w b14).1 [7]) <|
  bd1 (mC_X6_looks b14 p1 p2 w) fun w18 =>
  ck (kIn (hkd w18 a).1 [0]) <|
  bd1 (mC_X0_reckons a p0 w18) fun w21 =>
  if (8 : Int32) ≤ p3 then
  (if p3 = (8 : Int32) then
  (ck (kIn (hkd w21 a).1 [0]) <|
  some ((hvi w21 a 25), w21))
  else
  (if p3 = (9 : Int32) then
  (ck (kIn (hkd w21 a).1 [0]) <|
  some ((hvi w21 a 26), w21))
  else
  (ck (kIn (hkd w21 a).1 [0]) <|
  bd1 (mC_X0_doesHang a p0 w21) fun r27 =>
  if r27 = (0 : Int32) then
  (some ((0 : Int32), w21))
  else
  (some ((1 : Int32), w21)))))
  else
  (ck (kIn (hkd w21 a).1 [0]) <|
  bd1 (hvr w21 a 24) fun b32 =>
  ck (arB w21 b32 1 p3) <|
  some ((hvi w21 b32 (p3.toNatClampNeg)), w21))))))
def mC_X0_mayTell_28 (w : AH) (k5 : Nat → Int32 → Int32 → Int32 → Int32 → Option (Int32)) (v0 : Nat) (v1 : Int32) (v2 : Int32) (v4 : Int32) (t0 : Int32) (t1 : Int32) : Option (Int32) :=
  k5 v0 v1 v2 (t1 + t0) (v4 + (1 : Int32))
def mC_X0_mayTell_5 (w : AH) (k5 : Nat → Int32 → Int32 → Int32 → Int32 → Option (Int32)) (v0 : Nat) (v1 : Int32) (v2 : Int32) (v3 : Int32) (v4 : Int32) : Option (Int32) :=
  if (8 : Int32) ≤ v4 then
  (if v1 < v2 then
  (some (0 : Int32))
  else
  (if v3 < (2 : Int32) then
  (some (0 : Int32))
  else
  (some (1 : Int32))))
  else
  (ck (kIn (hkd w v0).1 [0]) <|
  bd1 (hvr w v0 28) fun b5 =>
  ck (arB w b5 1 v4) <|
  if (hvi w b5 (v4.toNatClampNeg)) ≤ (0 : Int32) then
  (mC_X0_mayTell_28 w k5 v0 v1 v2 v4 (0 : Int32) v3)
  else
  (mC_X0_mayTell_28 w k5 v0 v1 v2 v4 (1 : Int32) v3))
def mC_X0_mayTell (a : Nat) (p0 : Int32) (p1 : Int32) (w : AH) : Option (Int32) :=
  lq5 (mC_X0_mayTell_5 w) LF a p0 p1 (0 : Int32) (0 : Int32)
def mC_X0_hides_215 (k183 : Nat → Int32 → Int32 → Int32 → AH → Option (AH)) (v0 : Nat) (v3 : Int32) (v4 : Int32) (v6 : Int32) (w : AH) : Option (AH) :=
  k183 v0 v3 v4 (v6 + (1 : Int32)) w
def mC_X0_hides_183 (k183 : Nat → Int32 → Int32 → Int32 → AH → Option (AH)) (v0 : Nat) (v3 : Int32) (v4 : Int32) (v6 : Int32) (w : AH) : Option (AH) :=
  ck (kIn (hkd w v0).1 [0]) <|
  bd1 (hvr w v0 2) fun b2 =>
  ck (kIn (hkd w b2).1 [1]) <|
  if (hvi w b2 23) ≤ v6 then
  (some w)
  else
  (bd1 (hvr w v0 27) fun b6 =>
  ck (arB w b6 1 v6) <|
  if (hvi w b6 (v6.toNatClampNeg)) = v3 then
  (st1 (siI w b6 (v6.toNatClampNeg) v4) fun w10 =>
  mC_X0_hides_215 k183 v0 v3 v4 v6 w10)
  else
  (mC_X0_hides_215 k183 v0 v3 v4 v6 w))
def mC_X0_hides_162 (k11 : Nat → Int32 → Int32 → Int32 → Int32 → Int32 → Int32 → AH → Option (AH)) (v0 : Nat) (v1 : Int32) (v2 : Int32) (v3 : Int32) (v4 : Int32) (v5 : Int32) (v6 : Int32) (w : AH) : Option (AH) :=
  k11 v0 v1 v2 v3 v4 v5 (v6 + (1 : Int32)) w
def mC_X0_hides_105 (k11 : Nat → Int32 → Int32 → Int32 → Int32 → Int32 → Int32 → AH → Option (AH)) (k105 : Nat → Int32 → Int32 → Int32 → Int32 → Int32 → Int32 → Int32 → AH → Option (AH)) (v0 : Nat) (v1 : Int32) (v2 : Int32) (v3 : Int32) (v4 : Int32) (v5 : Int32) (v6 : Int32) (v7 : Int32) (w : AH) : Option (AH) :=
  if (8 : Int32) ≤ v7 then
  (ck (kIn (hkd w v0).1 [0]) <|
  bd1 (mC_X0_mayTell v0 v5 v2 w) fun r4 =>
  if r4 = (0 : Int32) then
  (mC_X0_hides_162 k11 v0 v1 v2 v3 v4 v5 v6 w)
  else
  (mC_X0_hides_162 k11 v0 v1 v2 (-1 : Int32) v3 v5 v6 w))
  else
  (ck (kIn (hkd w v0).1 [0]) <|
  bd1 (hvr w v0 28) fun b7 =>
  ck (arB w b7 1 v7) <|
  bd1 (hvr w v0 23) fun b10 =>
  ck (kIn (hkd w b10).1 [7]) <|
  bd1 (hvr w b10 2) fun b13 =>
  ck (arB w b13 1 (((8 : Int32) * v6) + v7)) <|
  st1 (siI w b7 (v7.toNatClampNeg) ((hvi w b7 (v7.toNatClampNeg)) + (hvi w b13 ((((8 : Int32) * v6) + v7).toNatClampNeg)))) fun w16 =>
  k105 v0 v1 v2 v3 v4 v5 v6 (v7 + (1 : Int32)) w16)
def mC_X0_hides_79 (k11 : Nat → Int32 → Int32 → Int32 → Int32 → Int32 → Int32 → AH → Option (AH)) (v0 : Nat) (v1 : Int32) (v2 : Int32) (v3 : Int32) (v4 : Int32) (v5 : Int32) (v6 : Int32) (w : AH) : Option (AH) :=
  ck (kIn (hkd w v0).1 [0]) <|
  bd1 (hvr w v0 27) fun b2 =>
  ck (arB w b2 1 v6) <|
  st1 (siI w b2 (v6.toNatClampNeg) v3) fun w5 =>
  ck (kIn (hkd w5 v0).1 [0]) <|
  bd1 (hvr w5 v0 23) fun b8 =>
  ck (kIn (hkd w5 b8).1 [7]) <|
  bd1 (hvr w5 b8 1) fun b11 =>
  ck (arB w5 b11 1 v6) <|
  lq9 (mC_X0_hides_105 k11) LF v0 v1 v2 v3 v4 (v5 + (hvi w5 b11 (v6.toNatClampNeg))) v6 (0 : Int32) w5
def mC_X0_hides_58 (k11 : Nat → Int32 → Int32 → Int32 → Int32 → Int32 → Int32 → AH → Option (AH)) (k58 : Nat → Int32 → Int32 → Int32 → Int32 → Int32 → Int32 → Int32 → AH → Option (AH)) (v0 : Nat) (v1 : Int32) (v2 : Int32) (v3 : Int32) (v4 : Int32) (v5 : Int32) (v6 : Int32) (v7 : Int32) (w : AH) : Option (AH) :=
  if (8 : Int32) ≤ v7 then
  (mC_X0_hides_79 k11 v0 v1 v2 v3 v4 v5 v6 w)
  else
  (ck (kIn (hkd w v0).1 [0]) <|
  bd1 (hvr w v0 28) fun b3 =>
  ck (arB w b3 1 v7) <|
  st1 (siI w b3 (v7.toNatClampNeg) (0 : Int32)) fun w6 =>
  k58 v0 v1 v2 v3 v4 v5 v6 (v7 + (1 : Int32)) w6)
def mC_X0_hides_11 (k11 : Nat → Int32 → Int32 → Int32 → Int32 → Int32 → Int32 → AH → Option (AH)) (v0 : Nat) (v1 : Int32) (v2 : Int32) (v3 : Int32) (v4 : Int32) (v5 : Int32) (v6 : Int32) (w : AH) : Option (AH) :=
  ck (kIn (hkd w v0).1 [0]) <|
  bd1 (hvr w v0 2) fun b2 =>
  ck (kIn (hkd w b2).1 [1]) <|
  if (hvi w b2 23) ≤ v6 then
  (if v3 = (-1 : Int32) then
  (some w)
  else
  (if v4 = (-1 : Int32) then
  (some w)
  else
  (lq5 (mC_X0_hides_183) LF v0 v3 v4 (0 : Int32) w)))
  else
  (bd1 (hvr w v0 27) fun b8 =>
  ck (arB w b8 1 v6) <|
  st1 (siI w b8 (v6.toNatClampNeg) (-1 : Int32)) fun w11 =>
  ck (kIn (hkd w11 v0).1 [0]) <|
  bd1 (mC_X0_seatOf v0 v6 w11) fun r15 =>
  if r15 = v1 then
  (if v3 = (-1 : Int32) then
  (lq9 (mC_X0_hides_58 k11) LF v0 v1 v2 v6 v4 (0 : Int32) v6 (0 : Int32) w11)
  else
  (mC_X0_hides_79 k11 v0 v1 v2 v3 v4 v5 v6 w11))
  else
  (mC_X0_hides_162 k11 v0 v1 v2 v3 v4 v5 v6 w11))
def mC_X0_hides (a : Nat) (p0 : Int32) (p1 : Int32) (w : AH) : Option (AH) :=
  lq8 (mC_X0_hides_11) LF a p0 p1 (-1 : Int32) (-1 : Int32) (0 : Int32) (0 : Int32) w
def mC_X0_hidden_143 (k75 : Nat → Int32 → Int32 → Int32 → Int32 → Int32 → AH → Option (Int32 × AH)) (v0 : Nat) (v1 : Int32) (v2 : Int32) (v5 : Int32) (v6 : Int32) (v7 : Int32) (w : AH) : Option (Int32 × AH) :=
  k75 v0 v1 v2 v5 v6 (v7 + (1 : Int32)) w
def mC_X0_hidden_140 (k75 : Nat → Int32 → Int32 → Int32 → Int32 → Int32 → AH → Option (Int32 × AH)) (v0 : Nat) (v1 : Int32) (v2 : Int32) (v5 : Int32) (v7 : Int32) (t0 : Int32) (t1 : Int32) (w : AH) : Option (Int32 × AH) :=
  mC_X0_hidden_143 k75 v0 v1 v2 v5 (t1 + t0) v7 w
def mC_X0_hidden_75 (k75 : Nat → Int32 → Int32 → Int32 → Int32 → Int32 → AH → Option (Int32 × AH)) (v0 : Nat) (v1 : Int32) (v2 : Int32) (v5 : Int32) (v6 : Int32) (v7 : Int32) (w : AH) : Option (Int32 × AH) :=
  ck (kIn (hkd w v0).1 [0]) <|
  bd1 (hvr w v0 2) fun b2 =>
  ck (kIn (hkd w b2).1 [1]) <|
  if (hvi w b2 23) ≤ v7 then
  (some (v6, w))
  else
  (bd1 (hvr w v0 27) fun b6 =>
  ck (arB w b6 1 v7) <|
  if (hvi w b6 (v7.toNatClampNeg)) = (-1 : Int32) then
  (mC_X0_hidden_143 k75 v0 v1 v2 v5 v6 v7 w)
  else
  (ck (arB w b6 1 v1) <|
  if (hvi w b6 (v7.toNatClampNeg)) = (hvi w b6 (v1.toNatClampNeg)) then
  (if v5 = (0 : Int32) then
  (bd1 (hvr w v0 23) fun b13 =>
  ck (kIn (hkd w b13).1 [7]) <|
  bd1 (hvr w b13 2) fun b16 =>
  ck (arB w b16 1 (((8 : Int32) * v7) + v2)) <|
  mC_X0_hidden_140 k75 v0 v1 v2 v5 v7 (hvi w b16 ((((8 : Int32) * v7) + v2).toNatClampNeg)) v6 w)
  else
  (mC_X0_hidden_140 k75 v0 v1 v2 v5 v7 (1 : Int32) v6 w))
  else
  (mC_X0_hidden_143 k75 v0 v1 v2 v5 v6 v7 w)))
def mC_X0_hidden (a : Nat) (p0 : Int32) (p1 : Int32) (p2 : Int32) (p3 : Int32) (p4 : Int32) (w : AH) : Option (Int32 × AH) :=
  ck (kIn (hkd w a).1 [0]) <|
  bd1 (mC_X0_isBooth a p0 w) fun r3 =>
  if r3 = (0 : Int32) then
  (some ((-1 : Int32), w))
  else
  (bd1 (mC_X0_in p1 (0 : Int32) (7 : Int32)) fun r6 =>
  if r6 = (0 : Int32) then
  (some ((-1 : Int32), w))
  else
  (bd1 (mC_X0_isDay p2) fun r9 =>
  if r9 = (0 : Int32) then
  (some ((-1 : Int32), w))
  else
  (bd1 (mC_X0_isDay p3) fun r12 =>
  if r12 = (0 : Int32) then
  (some ((-1 : Int32), w))
  else
  (bd1 (mC_X0_in p4 (0 : Int32) (1 : Int32)) fun r15 =>
  if r15 = (0 : Int32) then
  (some ((-1 : Int32), w))
  else
  (bd1 (hvr w a 23) fun b17 =>
  ck (kIn (hkd w b17).1 [7]) <|
  bd1 (mC_X6_looks b17 p2 p3 w) fun w21 =>
  ck (kIn (hkd w21 a).1 [0]) <|
  bd1 (mC_X0_seatOf a p0 w21) fun r24 =>
  bd2 (mC_X0_fewOn a p2 w21) fun r26 w27 =>
  ck (kIn (hkd w27 a).1 [0]) <|
  bd1 (mC_X0_hides a r24 r26 w27) fun w30 =>
  lq7 (mC_X0_hidden_75) LF a p0 p1 p4 (0 : Int32) (0 : Int32) w30)))))
def mC_X0_shares_296 (k227 : Nat → Int32 → Int32 → Int32 → AH → Option (Int32 × AH)) (v0 : Nat) (v2 : Int32) (v7 : Int32) (t0 : Int32) (t1 : Int32) (w : AH) : Option (Int32 × AH) :=
  k227 v0 v2 (v7 + (-1 : Int32)) (t1 + t0) w
def mC_X0_shares_267 (k238 : Nat → Int32 → Int32 → Int32 → Int32 → Int32 → AH → Option (Int32 × AH)) (v0 : Nat) (v2 : Int32) (v7 : Int32) (v8 : Int32) (v9 : Int32) (v10 : Int32) (w : AH) : Option (Int32 × AH) :=
  k238 v0 v2 v7 v8 v9 (v10 + (1 : Int32)) w
def mC_X0_shares_238 (k227 : Nat → Int32 → Int32 → Int32 → AH → Option (Int32 × AH)) (k238 : Nat → Int32 → Int32 → Int32 → Int32 → Int32 → AH → Option (Int32 × AH)) (v0 : Nat) (v2 : Int32) (v7 : Int32) (v8 : Int32) (v9 : Int32) (v10 : Int32) (w : AH) : Option (Int32 × AH) :=
  if (8 : Int32) ≤ v10 then
  (ck (kIn (hkd w v0).1 [0]) <|
  bd1 (hvr w v0 29) fun b3 =>
  ck (arB w b3 2 v9) <|
  st1 (siL w b3 (v9.toNatClampNeg) (-1 : Int64)) fun w6 =>
  if v9 = v2 then
  (mC_X0_shares_296 k227 v0 v2 v7 (1 : Int32) v8 w6)
  else
  (mC_X0_shares_296 k227 v0 v2 v7 (0 : Int32) v8 w6))
  else
  (ck (kIn (hkd w v0).1 [0]) <|
  bd1 (hvr w v0 29) fun b10 =>
  ck (arB w b10 2 v10) <|
  ck (arB w b10 2 v9) <|
  if (hvl w b10 (v10.toNatClampNeg)) ≤ (hvl w b10 (v9.toNatClampNeg)) then
  (mC_X0_shares_267 k238 v0 v2 v7 v8 v9 v10 w)
  else
  (mC_X0_shares_267 k238 v0 v2 v7 v8 v10 v10 w))
def mC_X0_shares_227 (k227 : Nat → Int32 → Int32 → Int32 → AH → Option (Int32 × AH)) (v0 : Nat) (v2 : Int32) (v7 : Int32) (v8 : Int32) (w : AH) : Option (Int32 × AH) :=
  if v7 ≤ (0 : Int32) then
  (some (v8, w))
  else
  (lq7 (mC_X0_shares_238 k227) LF v0 v2 v7 v8 (0 : Int32) (1 : Int32) w)
def mC_X0_shares_218 (k152 : Nat → Int32 → Int32 → Int64 → Int32 → Int32 → Int32 → AH → Option (Int32 × AH)) (v0 : Nat) (v1 : Int32) (v2 : Int32) (v5 : Int64) (v7 : Int32) (v9 : Int32) (t0 : Int32) (t1 : Int32) (w : AH) : Option (Int32 × AH) :=
  k152 v0 v1 v2 v5 v7 (t1 + t0) (v9 + (1 : Int32)) w
def mC_X0_shares_152 (k152 : Nat → Int32 → Int32 → Int64 → Int32 → Int32 → Int32 → AH → Option (Int32 × AH)) (v0 : Nat) (v1 : Int32) (v2 : Int32) (v5 : Int64) (v7 : Int32) (v8 : Int32) (v9 : Int32) (w : AH) : Option (Int32 × AH) :=
  if (8 : Int32) ≤ v9 then
  (lq5 (mC_X0_shares_227) LF v0 v2 v7 v8 w)
  else
  (ck (kIn (hkd w v0).1 [0]) <|
  bd1 (hvr w v0 24) fun b3 =>
  ck (arB w b3 1 v9) <|
  nzL v5 <|
  bd1 (hvr w v0 29) fun b7 =>
  nzL v5 <|
  ck (arB w b7 2 v9) <|
  st1 (siL w b7 (v9.toNatClampNeg) ((v1.toInt64 * (hvi w b3 (v9.toNatClampNeg)).toInt64) - (v1.toInt64 * (hvi w b3 (v9.toNatClampNeg)).toInt64) / v5 * v5)) fun w11 =>
  if v9 = v2 then
  (mC_X0_shares_218 k152 v0 v1 v2 v5 (v7 - ((v1.toInt64 * (hvi w b3 (v9.toNatClampNeg)).toInt64) / v5).toInt32) v9 (((v1.toInt64 * (hvi w b3 (v9.toNatClampNeg)).toInt64) / v5).toInt32) v8 w11)
  else
  (mC_X0_shares_218 k152 v0 v1 v2 v5 (v7 - ((v1.toInt64 * (hvi w b3 (v9.toNatClampNeg)).toInt64) / v5).toInt32) v9 (0 : Int32) v8 w11))
def mC_X0_shares_71 (k53 : Nat → Int32 → Int32 → Int64 → Int32 → AH → Option (Int32 × AH)) (k71 : Nat → Int32 → Int32 → Int64 → Int32 → Int32 → AH → Option (Int32 × AH)) (v0 : Nat) (v1 : Int32) (v2 : Int32) (v5 : Int64) (v7 : Int32) (v8 : Int32) (w : AH) : Option (Int32 × AH) :=
  ck (kIn (hkd w v0).1 [0]) <|
  bd1 (hvr w v0 2) fun b2 =>
  ck (kIn (hkd w b2).1 [1]) <|
  if (hvi w b2 23) ≤ v8 then
  (bd1 (hvr w v0 24) fun b6 =>
  ck (arB w b6 1 v7) <|
  k53 v0 v1 v2 (v5 + (hvi w b6 (v7.toNatClampNeg)).toInt64) (v7 + (1 : Int32)) w)
  else
  (bd1 (hvr w v0 24) fun b9 =>
  ck (arB w b9 1 v7) <|
  bd1 (hvr w v0 23) fun b12 =>
  ck (kIn (hkd w b12).1 [7]) <|
  bd1 (hvr w b12 2) fun b15 =>
  ck (arB w b15 1 (((8 : Int32) * v8) + v7)) <|
  st1 (siI w b9 (v7.toNatClampNeg) ((hvi w b9 (v7.toNatClampNeg)) + (hvi w b15 ((((8 : Int32) * v8) + v7).toNatClampNeg)))) fun w18 =>
  k71 v0 v1 v2 v5 v7 (v8 + (1 : Int32)) w18)
def mC_X0_shares_53 (k53 : Nat → Int32 → Int32 → Int64 → Int32 → AH → Option (Int32 × AH)) (v0 : Nat) (v1 : Int32) (v2 : Int32) (v5 : Int64) (v7 : Int32) (w : AH) : Option (Int32 × AH) :=
  if (8 : Int32) ≤ v7 then
  (if v5 = (0 : Int64) then
  (some ((-1 : Int32), w))
  else
  (lq8 (mC_X0_shares_152) LF v0 v1 v2 v5 v1 (0 : Int32) (0 : Int32) w))
  else
  (ck (kIn (hkd w v0).1 [0]) <|
  bd1 (hvr w v0 24) fun b4 =>
  ck (arB w b4 1 v7) <|
  st1 (siI w b4 (v7.toNatClampNeg) (0 : Int32)) fun w7 =>
  lq7 (mC_X0_shares_71 k53) LF v0 v1 v2 v5 v7 (0 : Int32) w7)
def mC_X0_shares (a : Nat) (p0 : Int32) (p1 : Int32) (p2 : Int32) (p3 : Int32) (w : AH) : Option (Int32 × AH) :=
  bd1 (mC_X0_in p0 (1 : Int32) (20 : Int32)) fun r2 =>
  if r2 = (0 : Int32) then
  (some ((-1 : Int32), w))
  else
  (bd1 (mC_X0_in p1 (0 : Int32) (7 : Int32)) fun r5 =>
  if r5 = (0 : Int32) then
  (some ((-1 : Int32), w))
  else
  (bd1 (mC_X0_isDay p2) fun r8 =>
  if r8 = (0 : Int32) then
  (some ((-1 : Int32), w))
  else
  (bd1 (mC_X0_isDay p3) fun r11 =>
  if r11 = (0 : Int32) then
  (some ((-1 : Int32), w))
  else
  (ck (kIn (hkd w a).1 [0]) <|
  bd1 (hvr w a 23) fun b14 =>
  ck (kIn (hkd w b14).1 [7]) <|
  bd1 (mC_X6_looks b14 p2 p3 w) fun w18 =>
  lq6 (mC_X0_shares_53) LF a p0 p1 (0 : Int64) (0 : Int32) w18))))
def mC_X0_terms_20 (v0 : Nat) (w : AH) : Option (Int32 × AH) :=
  ck (kIn (hkd w v0).1 [0]) <|
  bd2 (mC_X0_refuse v0 (-1 : Int32) w) fun r3 w4 =>
  some (r3, w4)
def mC_X0_terms (a : Nat) (p0 : Int32) (p1 : Int32) (w : AH) : Option (Int32 × AH) :=
  bd1 (mC_X0_in p0 (1 : Int32) (50 : Int32)) fun r2 =>
  if r2 = (0 : Int32) then
  (mC_X0_terms_20 a w)
  else
  (bd1 (mC_X0_in p1 (0 : Int32) (9 : Int32)) fun r5 =>
  if r5 = (0 : Int32) then
  (mC_X0_terms_20 a w)
  else
  (ck (kIn (hkd w a).1 [0]) <|
  bd1 (hvr w a 2) fun b8 =>
  ck (kIn (hkd w b8).1 [1]) <|
  st1 (siI w b8 25 p0) fun w11 =>
  ck (kIn (hkd w11 a).1 [0]) <|
  bd1 (hvr w11 a 2) fun b14 =>
  ck (kIn (hkd w11 b14).1 [1]) <|
  st1 (siI w11 b14 26 p1) fun w17 =>
  ck (kIn (hkd w17 a).1 [0]) <|
  bd2 (mC_X0_done a (0 : Int32) w17) fun r21 w22 =>
  some (r21, w22)))
def mC_X0_span_18 (v0 : Nat) (w : AH) : Option (Int32 × AH) :=
  ck (kIn (hkd w v0).1 [0]) <|
  bd2 (mC_X0_refuse v0 (-1 : Int32) w) fun r3 w4 =>
  some (r3, w4)
def mC_X0_span (a : Nat) (p0 : Int32) (p1 : Int32) (p2 : Int32) (w : AH) : Option (Int32 × AH) :=
  bd1 (mC_X0_isDay p1) fun r2 =>
  if r2 = (0 : Int32) then
  (mC_X0_span_18 a w)
  else
  (bd1 (mC_X0_in p2 p1 (399 : Int32)) fun r5 =>
  if r5 = (0 : Int32) then
  (mC_X0_span_18 a w)
  else
  (ck (kIn (hkd w a).1 [0]) <|
  bd1 (mC_X0_in p0 (0 : Int32) ((hvi w a 19) - (1 : Int32))) fun r9 =>
  if r9 = (0 : Int32) then
  (bd2 (mC_X0_refuse a (-2 : Int32) w) fun r27 w28 =>
  some (r27, w28))
  else
  (bd1 (hvr w a 11) fun b11 =>
  ck (arB w b11 1 p0) <|
  st1 (siI w b11 (p0.toNatClampNeg) p1) fun w14 =>
  ck (kIn (hkd w14 a).1 [0]) <|
  bd1 (hvr w14 a 12) fun b17 =>
  ck (arB w14 b17 1 p0) <|
  st1 (siI w14 b17 (p0.toNatClampNeg) p2) fun w20 =>
  ck (kIn (hkd w20 a).1 [0]) <|
  bd2 (mC_X0_done a (0 : Int32) w20) fun r24 w25 =>
  some (r24, w25))))
def mC_X0_daysOf (a : Nat) (p0 : Int32) (p1 : Int32) (w : AH) : Option (Int32) :=
  ck (kIn (hkd w a).1 [0]) <|
  bd1 (hvr w a 2) fun b2 =>
  ck (kIn (hkd w b2).1 [1]) <|
  bd1 (mC_X1_far b2 p0 p1 w) fun r6 =>
  nzI (hvi w b2 25) <|
  bd1 (hvr w b2 6) fun b8 =>
  ck (arB w b8 1 p0) <|
  ck (arB w b8 1 p1) <|
  if (hvi w b8 (p0.toNatClampNeg)) = (hvi w b8 (p1.toNatClampNeg)) then
  (some ((((r6 + (hvi w b2 25)) - (1 : Int32)) / (hvi w b2 25)) + (0 : Int32)))
  else
  (some ((((r6 + (hvi w b2 25)) - (1 : Int32)) / (hvi w b2 25)) + (hvi w b2 26)))
def mB_X0_goes_187 (r_X0_goes : Nat → Int32 → Int32 → Int32 → Int32 → AH → Option (AH)) (k75 : Nat → Int32 → Int32 → Int32 → Int32 → Int32 → AH → Option (AH)) (v0 : Nat) (v1 : Int32) (v2 : Int32) (v3 : Int32) (v4 : Int32) (v5 : Int32) (w : AH) : Option (AH) :=
  k75 v0 v1 v2 v3 v4 (v5 + (1 : Int32)) w
def mB_X0_goes_75 (r_X0_goes : Nat → Int32 → Int32 → Int32 → Int32 → AH → Option (AH)) (k75 : Nat → Int32 → Int32 → Int32 → Int32 → Int32 → AH → Option (AH)) (v0 : Nat) (v1 : Int32) (v2 : Int32) (v3 : Int32) (v4 : Int32) (v5 : Int32) (w : AH) : Option (AH) :=
  ck (kIn (hkd w v0).1 [0]) <|
  if (hvi w v0 19) ≤ v5 then
  (some w)
  else
  (if ((v2 >>> (v5 &&& 31)) &&& (1 : Int32)) = (1 : Int32) then
  (mB_X0_goes_187 r_X0_goes k75 v0 v1 v2 v3 v4 v5 w)
  else
  (bd1 (hvr w v0 10) fun b4 =>
  ck (arB w b4 1 v5) <|
  bd1 (mC_X0_daysOf v0 v3 (hvi w b4 (v5.toNatClampNeg)) w) fun r8 =>
  bd1 (hvr w v0 11) fun b9 =>
  ck (arB w b9 1 v5) <|
  st1 (if (v4 + r8) < (hvi w b9 (v5.toNatClampNeg)) then (hvi w b9 (v5.toNatClampNeg)) else (v4 + r8)) fun r12 =>
  bd1 (hvr w v0 12) fun b14 =>
  ck (arB w b14 1 v5) <|
  if (hvi w b14 (v5.toNatClampNeg)) < r12 then
  (mB_X0_goes_187 r_X0_goes k75 v0 v1 v2 v3 v4 v5 w)
  else
  (if r12 < (400 : Int32) then
  (bd1 (hvr w v0 30) fun b19 =>
  ck (arB w b19 1 v1) <|
  st1 (siI w b19 (v1.toNatClampNeg) v5) fun w22 =>
  ck (kIn (hkd w22 v0).1 [0]) <|
  bd1 (hvr w22 v0 31) fun b25 =>
  ck (arB w22 b25 1 v1) <|
  st1 (siI w22 b25 (v1.toNatClampNeg) r12) fun w28 =>
  ck (kIn (hkd w28 v0).1 [0]) <|
  bd1 (hvr w28 v0 10) fun b31 =>
  ck (arB w28 b31 1 v5) <|
  bd1 (r_X0_goes v0 (v1 + (1 : Int32)) (v2 ||| ((1 : Int32) <<< (v5 &&& 31))) (hvi w28 b31 (v5.toNatClampNeg)) (r12 + (1 : Int32)) w28) fun w35 =>
  mB_X0_goes_187 r_X0_goes k75 v0 v1 v2 v3 v4 v5 w35)
  else
  (mB_X0_goes_187 r_X0_goes k75 v0 v1 v2 v3 v4 v5 w))))
def mB_X0_goes_72 (r_X0_goes : Nat → Int32 → Int32 → Int32 → Int32 → AH → Option (AH)) (v0 : Nat) (v1 : Int32) (v2 : Int32) (v3 : Int32) (v4 : Int32) (w : AH) : Option (AH) :=
  lq7 (mB_X0_goes_75 r_X0_goes) LF v0 v1 v2 v3 v4 (0 : Int32) w
def mB_X0_goes_39 (r_X0_goes : Nat → Int32 → Int32 → Int32 → Int32 → AH → Option (AH)) (v0 : Nat) (v1 : Int32) (v2 : Int32) (v3 : Int32) (v4 : Int32) (w : AH) : Option (AH) :=
  ck (kIn (hkd w v0).1 [0]) <|
  st1 (siI w v0 35 v1) fun w2 =>
  ck (kIn (hkd w2 v0).1 [0]) <|
  bd1 (hvr w2 v0 30) fun b5 =>
  bd1 (hvr w2 v0 32) fun b7 =>
  ck ((hkd w2 b5).1 == 1) <|
  ck ((hkd w2 b7).1 == 1) <|
  ck (cpOk (0 : Int32) v1 (hkd w2 b5).2 (0 : Int32) (hkd w2 b7).2) <|
  st1 (hcpI w2 b5 (0 : Int32).toNatClampNeg b7 (0 : Int32).toNatClampNeg v1.toNatClampNeg) fun w12 =>
  ck (kIn (hkd w12 v0).1 [0]) <|
  bd1 (hvr w12 v0 31) fun b15 =>
  bd1 (hvr w12 v0 33) fun b17 =>
  ck ((hkd w12 b15).1 == 1) <|
  ck ((hkd w12 b17).1 == 1) <|
  ck (cpOk (0 : Int32) v1 (hkd w12 b15).2 (0 : Int32) (hkd w12 b17).2) <|
  st1 (hcpI w12 b15 (0 : Int32).toNatClampNeg b17 (0 : Int32).toNatClampNeg v1.toNatClampNeg) fun w22 =>
  mB_X0_goes_72 r_X0_goes v0 v1 v2 v3 v4 w22
def mB_X0_goes (r_X0_goes : Nat → Int32 → Int32 → Int32 → Int32 → AH → Option (AH)) (a : Nat) (p0 : Int32) (p1 : Int32) (p2 : Int32) (p3 : Int32) (w : AH) : Option (AH) :=
  ck (kIn (hkd w a).1 [0]) <|
  if (hvi w a 35) < p0 then
  (mB_X0_goes_39 r_X0_goes a p0 p1 p2 p3 w)
  else
  (if p0 = (hvi w a 35) then
  (if p0 ≤ (0 : Int32) then
  (mB_X0_goes_72 r_X0_goes a p0 p1 p2 p3 w)
  else
  (bd1 (hvr w a 31) fun b5 =>
  ck (arB w b5 1 (p0 - (1 : Int32))) <|
  bd1 (hvr w a 33) fun b8 =>
  ck (arB w b8 1 (p0 - (1 : Int32))) <|
  if (hvi w b8 ((p0 - (1 : Int32)).toNatClampNeg)) ≤ (hvi w b5 ((p0 - (1 : Int32)).toNatClampNeg)) then
  (mB_X0_goes_72 r_X0_goes a p0 p1 p2 p3 w)
  else
  (mB_X0_goes_39 r_X0_goes a p0 p1 p2 p3 w)))
  else
  (mB_X0_goes_72 r_X0_goes a p0 p1 p2 p3 w))
def mC_X0_goes : Nat → Nat → Int32 → Int32 → Int32 → Int32 → AH → Option (AH)
  | 0 => fun _ _ _ _ _ _ => none
  | n + 1 => mB_X0_goes (mC_X0_goes n)
def mC_X0_way (a : Nat) (p0 : Int32) (p1 : Int32) (w : AH) : Option (Int32 × AH) :=
  ck (kIn (hkd w a).1 [0]) <|
  bd1 (mC_X0_isPlace a p0 w) fun r3 =>
  if r3 = (0 : Int32) then
  (some ((-1 : Int32), w))
  else
  (bd1 (mC_X0_isDay p1) fun r6 =>
  if r6 = (0 : Int32) then
  (some ((-1 : Int32), w))
  else
  (bd1 (mC_X0_areThere a w) fun r9 =>
  if r9 = (0 : Int32) then
  (some ((-1 : Int32), w))
  else
  (st1 (siI w a 35 (0 : Int32)) fun w11 =>
  ck (kIn (hkd w11 a).1 [0]) <|
  bd1 (mC_X0_goes 200 a (0 : Int32) (0 : Int32) p0 p1 w11) fun w15 =>
  ck (kIn (hkd w15 a).1 [0]) <|
  st1 (siI w15 a 34 (hvi w15 a 35)) fun w17 =>
  ck (kIn (hkd w17 a).1 [0]) <|
  some ((hvi w17 a 35), w17))))
def mC_X0_leg (a : Nat) (p0 : Int32) (p1 : Int32) (w : AH) : Option (Int32) :=
  ck (kIn (hkd w a).1 [0]) <|
  if (hvi w a 34) = (-1 : Int32) then
  (some (-1 : Int32))
  else
  (bd1 (mC_X0_in p0 (0 : Int32) ((hvi w a 34) - (1 : Int32))) fun r4 =>
  if r4 = (0 : Int32) then
  (some (-1 : Int32))
  else
  (bd1 (mC_X0_in p1 (0 : Int32) (1 : Int32)) fun r7 =>
  if r7 = (0 : Int32) then
  (some (-1 : Int32))
  else
  (if p1 = (0 : Int32) then
  (bd1 (hvr w a 32) fun b13 =>
  ck (arB w b13 1 p0) <|
  some (hvi w b13 (p0.toNatClampNeg)))
  else
  (bd1 (hvr w a 33) fun b10 =>
  ck (arB w b10 1 p0) <|
  some (hvi w b10 (p0.toNatClampNeg))))))
def mC_X0_chosen_16 (k16 : Int32 → Int32 → Int64 → Int32 → Option (Int64)) (v0 : Int32) (v1 : Int32) (v2 : Int64) (v4 : Int32) : Option (Int64) :=
  if v1 < v4 then
  (some v2)
  else
  (nzL (v4.toInt64) <|
  k16 v0 v1 ((v2 * ((v0 - v1) + v4).toInt64) / v4.toInt64) (v4 + (1 : Int32)))
def mC_X0_chosen (p0 : Int32) (p1 : Int32) : Option (Int64) :=
  if p1 < (0 : Int32) then
  (some (0 : Int64))
  else
  (if p1 ≤ p0 then
  (lq4 (mC_X0_chosen_16) LF p0 p1 (1 : Int64) (1 : Int32))
  else
  (some (0 : Int64)))
def mC_X0_mayBe_65 (k9 : Int32 → Int32 → Int32 → Int32 → Int64 → Int64 → Int32 → Option (Int32)) (v0 : Int32) (v1 : Int32) (v2 : Int32) (v3 : Int32) (v4 : Int64) (v8 : Int32) (t0 : Int64) (t1 : Int64) : Option (Int32) :=
  k9 v0 v1 v2 v3 v4 (t1 + t0) (v8 + (1 : Int32))
def mC_X0_mayBe_48 (k9 : Int32 → Int32 → Int32 → Int32 → Int64 → Int64 → Int32 → Option (Int32)) (v0 : Int32) (v1 : Int32) (v2 : Int32) (v3 : Int32) (v6 : Int64) (v8 : Int32) (v9 : Int64) (t0 : Int64) (t1 : Int64) : Option (Int32) :=
  if v8 < v2 then
  (mC_X0_mayBe_65 k9 v0 v1 v2 v3 (t1 + t0) v8 (0 : Int64) v6)
  else
  (mC_X0_mayBe_65 k9 v0 v1 v2 v3 (t1 + t0) v8 v9 v6)
def mC_X0_mayBe_9 (k9 : Int32 → Int32 → Int32 → Int32 → Int64 → Int64 → Int32 → Option (Int32)) (v0 : Int32) (v1 : Int32) (v2 : Int32) (v3 : Int32) (v4 : Int64) (v6 : Int64) (v8 : Int32) : Option (Int32) :=
  if v1 < v8 then
  (bd1 (mC_X0_chosen v0 v1) fun r3 =>
  if ((20 : Int64) * v4) < r3 then
  (some (0 : Int32))
  else
  (if ((20 : Int64) * v6) < r3 then
  (some (0 : Int32))
  else
  (some (1 : Int32))))
  else
  (bd1 (mC_X0_chosen v3 v8) fun r7 =>
  bd1 (mC_X0_chosen (v0 - v3) (v1 - v8)) fun r9 =>
  if v2 < v8 then
  (mC_X0_mayBe_48 k9 v0 v1 v2 v3 v6 v8 (r7 * r9) (0 : Int64) v4)
  else
  (mC_X0_mayBe_48 k9 v0 v1 v2 v3 v6 v8 (r7 * r9) (r7 * r9) v4))
def mC_X0_mayBe (p0 : Int32) (p1 : Int32) (p2 : Int32) (p3 : Int32) : Option (Int32) :=
  lq7 (mC_X0_mayBe_9) LF p0 p1 p2 p3 (0 : Int64) (0 : Int64) (0 : Int32)
def mC_X0_doors_83 (w : AH) (k51 : Int32 → Int32 → Int32 → Int32 → Int32 → Int32 → Option (Int32)) (v1 : Int32) (v2 : Int32) (v3 : Int32) (v4 : Int32) (v5 : Int32) (v6 : Int32) : Option (Int32) :=
  k51 v1 v2 v3 v4 v5 (v6 + (1 : Int32))
def mC_X0_doors_51 (w : AH) (k51 : Int32 → Int32 → Int32 → Int32 → Int32 → Int32 → Option (Int32)) (v1 : Int32) (v2 : Int32) (v3 : Int32) (v4 : Int32) (v5 : Int32) (v6 : Int32) : Option (Int32) :=
  if v1 < v6 then
  (some v5)
  else
  (bd1 (mC_X0_mayBe v1 v2 v3 v6) fun r3 =>
  if r3 = (0 : Int32) then
  (mC_X0_doors_83 w k51 v1 v2 v3 v4 v5 v6)
  else
  (if v4 = (0 : Int32) then
  (some v6)
  else
  (mC_X0_doors_83 w k51 v1 v2 v3 v4 v6 v6)))
def mC_X0_doors (a : Nat) (p0 : Int32) (p1 : Int32) (p2 : Int32) (p3 : Int32) (w : AH) : Option (Int32) :=
  bd1 (mC_X0_in p0 (1 : Int32) (60 : Int32)) fun r2 =>
  if r2 = (0 : Int32) then
  (some (-1 : Int32))
  else
  (st1 (if p0 < (12 : Int32) then p0 else (12 : Int32)) fun r4 =>
  bd1 (mC_X0_in p1 (1 : Int32) r4) fun r7 =>
  if r7 = (0 : Int32) then
  (some (-1 : Int32))
  else
  (bd1 (mC_X0_in p2 (0 : Int32) p1) fun r10 =>
  if r10 = (0 : Int32) then
  (some (-1 : Int32))
  else
  (bd1 (mC_X0_in p3 (0 : Int32) (1 : Int32)) fun r13 =>
  if r13 = (0 : Int32) then
  (some (-1 : Int32))
  else
  (lq6 (mC_X0_doors_51 w) LF p0 p1 p2 p3 (-1 : Int32) (0 : Int32)))))
def mC_X0_isOf (a : Nat) (p0 : Int32) (p1 : Int32) (w : AH) : Option (Int32) :=
  ck (kIn (hkd w a).1 [0]) <|
  bd1 (hvr w a 2) fun b2 =>
  ck (kIn (hkd w b2).1 [1]) <|
  bd1 (hvr w b2 15) fun b5 =>
  bd1 (hvr w b2 5) fun b7 =>
  ck (kIn (hkd w b7).1 [2]) <|
  bd1 (mC_J2_get b7 p0 w) fun r11 =>
  ck (kIn (hkd w r11).1 [14]) <|
  ck (arB w b5 1 (hvi w r11 0)) <|
  if (hvi w b5 ((hvi w r11 0).toNatClampNeg)) = p1 then
  (some (1 : Int32))
  else
  (some (0 : Int32))
def mC_X0_adds_2_97 (k17 : Nat → Int32 → Int32 → AH → Option (AH)) (v0 : Nat) (v1 : Int32) (v2 : Int32) (w : AH) : Option (AH) :=
  k17 v0 v1 (v2 + (1 : Int32)) w
def mC_X0_adds_2_17 (k17 : Nat → Int32 → Int32 → AH → Option (AH)) (v0 : Nat) (v1 : Int32) (v2 : Int32) (w : AH) : Option (AH) :=
  ck (kIn (hkd w v0).1 [0]) <|
  bd1 (hvr w v0 2) fun b2 =>
  ck (kIn (hkd w b2).1 [1]) <|
  bd1 (hvr w b2 5) fun b5 =>
  ck (kIn (hkd w b5).1 [2]) <|
  bd1 (mC_J2_size b5 w) fun r9 =>
  if r9 ≤ v2 then
  (some w)
  else
  (bd1 (mC_X0_isOf v0 v2 v1 w) fun r12 =>
  if r12 = (0 : Int32) then
  (mC_X0_adds_2_97 k17 v0 v1 v2 w)
  else
  (st1 (siI w v0 38 ((hvi w v0 38) + (1 : Int32))) fun w14 =>
  ck (kIn (hkd w14 v0).1 [0]) <|
  bd1 (hvr w14 v0 2) fun b17 =>
  ck (kIn (hkd w14 b17).1 [1]) <|
  bd1 (hvr w14 b17 17) fun b20 =>
  ck (arB w14 b20 1 v2) <|
  st1 (siL w14 v0 36 ((hvl w14 v0 36) + (hvi w14 b20 (v2.toNatClampNeg)).toInt64)) fun w23 =>
  ck (kIn (hkd w23 v0).1 [0]) <|
  bd1 (hvr w23 v0 2) fun b26 =>
  ck (kIn (hkd w23 b26).1 [1]) <|
  bd1 (hvr w23 b26 17) fun b29 =>
  ck (arB w23 b29 1 v2) <|
  st1 (siL w23 v0 37 ((hvl w23 v0 37) + ((hvi w23 v0 38).toInt64 * (hvi w23 b29 (v2.toNatClampNeg)).toInt64))) fun w32 =>
  mC_X0_adds_2_97 k17 v0 v1 v2 w32))
def mC_X0_adds_2 (a : Nat) (p0 : Int32) (w : AH) : Option (AH) :=
  ck (kIn (hkd w a).1 [0]) <|
  st1 (siL w a 36 (0 : Int64)) fun w2 =>
  ck (kIn (hkd w2 a).1 [0]) <|
  st1 (siL w2 a 37 (0 : Int64)) fun w5 =>
  ck (kIn (hkd w5 a).1 [0]) <|
  st1 (siI w5 a 38 (0 : Int32)) fun w8 =>
  lq4 (mC_X0_adds_2_17) LF a p0 (0 : Int32) w8
def mC_X0_seal (a : Nat) (p0 : Int32) (w : AH) : Option (Int32 × AH) :=
  ck (kIn (hkd w a).1 [0]) <|
  bd1 (mC_X0_isBooth a p0 w) fun r3 =>
  if r3 = (0 : Int32) then
  (bd2 (mC_X0_refuse a (-2 : Int32) w) fun r39 w40 =>
  some (r39, w40))
  else
  (bd1 (mC_X0_adds_2 a p0 w) fun w6 =>
  ck (kIn (hkd w6 a).1 [0]) <|
  bd1 (hvr w6 a 2) fun b8 =>
  ck (kIn (hkd w6 b8).1 [1]) <|
  bd1 (hvr w6 b8 18) fun b11 =>
  ck (arB w6 b11 1 p0) <|
  st1 (siI w6 b11 (p0.toNatClampNeg) (hvi w6 a 38)) fun w14 =>
  ck (kIn (hkd w14 a).1 [0]) <|
  bd1 (hvr w14 a 2) fun b17 =>
  ck (kIn (hkd w14 b17).1 [1]) <|
  bd1 (hvr w14 b17 19) fun b20 =>
  ck (arB w14 b20 2 p0) <|
  st1 (siL w14 b20 (p0.toNatClampNeg) (hvl w14 a 36)) fun w23 =>
  ck (kIn (hkd w23 a).1 [0]) <|
  bd1 (hvr w23 a 2) fun b26 =>
  ck (kIn (hkd w23 b26).1 [1]) <|
  bd1 (hvr w23 b26 20) fun b29 =>
  ck (arB w23 b29 2 p0) <|
  st1 (siL w23 b29 (p0.toNatClampNeg) (hvl w23 a 37)) fun w32 =>
  ck (kIn (hkd w32 a).1 [0]) <|
  bd2 (mC_X0_done a (hvi w32 a 38) w32) fun r36 w37 =>
  some (r36, w37))
def mC_X0_alter_35 (v0 : Nat) (w : AH) : Option (Int32 × AH) :=
  ck (kIn (hkd w v0).1 [0]) <|
  bd2 (mC_X0_refuse v0 (-2 : Int32) w) fun r3 w4 =>
  some (r3, w4)
def mC_X0_alter (a : Nat) (p0 : Int32) (p1 : Int32) (w : AH) : Option (Int32 × AH) :=
  bd1 (mC_X0_in p1 (1 : Int32) (255 : Int32)) fun r2 =>
  if r2 = (0 : Int32) then
  (ck (kIn (hkd w a).1 [0]) <|
  bd2 (mC_X0_refuse a (-1 : Int32) w) fun r32 w33 =>
  some (r32, w33))
  else
  (if p0 < (0 : Int32) then
  (mC_X0_alter_35 a w)
  else
  (ck (kIn (hkd w a).1 [0]) <|
  bd1 (hvr w a 2) fun b6 =>
  ck (kIn (hkd w b6).1 [1]) <|
  bd1 (hvr w b6 5) fun b9 =>
  ck (kIn (hkd w b9).1 [2]) <|
  bd1 (mC_J2_size b9 w) fun r13 =>
  if p0 < r13 then
  (bd1 (hvr w b6 17) fun b15 =>
  ck (arB w b15 1 p0) <|
  st1 (siI w b15 (p0.toNatClampNeg) ((hvi w b15 (p0.toNatClampNeg)) ^^^ p1)) fun w18 =>
  ck (kIn (hkd w18 a).1 [0]) <|
  bd1 (hvr w18 a 2) fun b21 =>
  ck (kIn (hkd w18 b21).1 [1]) <|
  bd1 (hvr w18 b21 17) fun b24 =>
  ck (arB w18 b24 1 p0) <|
  bd2 (mC_X0_told a (hvi w18 b24 (p0.toNatClampNeg)) w18) fun r28 w29 =>
  some (r28, w29))
  else
  (mC_X0_alter_35 a w)))
def mC_X0_found_151 (k100 : Nat → Int32 → Int64 → Int64 → Int32 → Int32 → AH → Option (Int32 × AH)) (v0 : Nat) (v1 : Int32) (v2 : Int64) (v4 : Int64) (v6 : Int32) (v7 : Int32) (w : AH) : Option (Int32 × AH) :=
  k100 v0 v1 v2 v4 v6 (v7 + (1 : Int32)) w
def mC_X0_found_100 (k100 : Nat → Int32 → Int64 → Int64 → Int32 → Int32 → AH → Option (Int32 × AH)) (v0 : Nat) (v1 : Int32) (v2 : Int64) (v4 : Int64) (v6 : Int32) (v7 : Int32) (w : AH) : Option (Int32 × AH) :=
  ck (kIn (hkd w v0).1 [0]) <|
  bd1 (hvr w v0 2) fun b2 =>
  ck (kIn (hkd w b2).1 [1]) <|
  bd1 (hvr w b2 5) fun b5 =>
  ck (kIn (hkd w b5).1 [2]) <|
  bd1 (mC_J2_size b5 w) fun r9 =>
  if r9 ≤ v7 then
  (some ((-2 : Int32), w))
  else
  (if v2 = (0 : Int64) then
  (some ((-2 : Int32), w))
  else
  (bd1 (mC_X0_isOf v0 v7 v1 w) fun r13 =>
  if r13 = (0 : Int32) then
  (mC_X0_found_151 k100 v0 v1 v2 v4 v6 v7 w)
  else
  (if ((v6 + (1 : Int32)).toInt64 * v2) = v4 then
  (some (v7, w))
  else
  (mC_X0_found_151 k100 v0 v1 v2 v4 (v6 + (1 : Int32)) v7 w))))
def mC_X0_found_94 (v0 : Nat) (v1 : Int32) (v2 : Int64) (v4 : Int64) (w : AH) : Option (Int32 × AH) :=
  lq7 (mC_X0_found_100) LF v0 v1 v2 v4 (0 : Int32) (0 : Int32) w
def mC_X0_found (a : Nat) (p0 : Int32) (w : AH) : Option (Int32 × AH) :=
  ck (kIn (hkd w a).1 [0]) <|
  bd1 (mC_X0_isBooth a p0 w) fun r3 =>
  if r3 = (0 : Int32) then
  (some ((-3 : Int32), w))
  else
  (bd1 (hvr w a 2) fun b5 =>
  ck (kIn (hkd w b5).1 [1]) <|
  bd1 (hvr w b5 18) fun b8 =>
  ck (arB w b8 1 p0) <|
  if (hvi w b8 (p0.toNatClampNeg)) = (-1 : Int32) then
  (some ((-3 : Int32), w))
  else
  (bd1 (mC_X0_adds_2 a p0 w) fun w13 =>
  ck (kIn (hkd w13 a).1 [0]) <|
  bd1 (hvr w13 a 2) fun b15 =>
  ck (kIn (hkd w13 b15).1 [1]) <|
  bd1 (hvr w13 b15 18) fun b18 =>
  ck (arB w13 b18 1 p0) <|
  if (hvi w13 a 38) = (hvi w13 b18 (p0.toNatClampNeg)) then
  (bd1 (hvr w13 b15 19) fun b22 =>
  ck (arB w13 b22 2 p0) <|
  bd1 (hvr w13 b15 20) fun b25 =>
  ck (arB w13 b25 2 p0) <|
  if ((hvl w13 a 36) - (hvl w13 b22 (p0.toNatClampNeg))) = (0 : Int64) then
  (if ((hvl w13 a 37) - (hvl w13 b25 (p0.toNatClampNeg))) = (0 : Int64) then
  (some ((-1 : Int32), w13))
  else
  (mC_X0_found_94 a p0 ((hvl w13 a 36) - (hvl w13 b22 (p0.toNatClampNeg))) ((hvl w13 a 37) - (hvl w13 b25 (p0.toNatClampNeg))) w13))
  else
  (mC_X0_found_94 a p0 ((hvl w13 a 36) - (hvl w13 b22 (p0.toNatClampNeg))) ((hvl w13 a 37) - (hvl w13 b25 (p0.toNatClampNeg))) w13))
  else
  (some ((-2 : Int32), w13))))
def mC_X0_all (a : Nat) (p0 : Int32) (w : AH) : Option (Int32) :=
  (if p0 = (0 : Int32) then
  (ck (kIn (hkd w a).1 [0]) <|
  bd1 (hvr w a 2) fun b2 =>
  ck (kIn (hkd w b2).1 [1]) <|
  some (hvi w b2 22))
  else if p0 = (1 : Int32) then
  (ck (kIn (hkd w a).1 [0]) <|
  bd1 (hvr w a 2) fun b6 =>
  ck (kIn (hkd w b6).1 [1]) <|
  bd1 (hvr w b6 1) fun b9 =>
  ck (kIn (hkd w b9).1 [2]) <|
  bd1 (mC_J2_size b9 w) fun r13 =>
  some r13)
  else if p0 = (2 : Int32) then
  (ck (kIn (hkd w a).1 [0]) <|
  bd1 (hvr w a 2) fun b15 =>
  ck (kIn (hkd w b15).1 [1]) <|
  bd1 (hvr w b15 0) fun b18 =>
  ck (kIn (hkd w b18).1 [2]) <|
  bd1 (mC_J2_size b18 w) fun r22 =>
  some r22)
  else if p0 = (3 : Int32) then
  (ck (kIn (hkd w a).1 [0]) <|
  bd1 (hvr w a 2) fun b24 =>
  ck (kIn (hkd w b24).1 [1]) <|
  some (hvi w b24 23))
  else if p0 = (4 : Int32) then
  (ck (kIn (hkd w a).1 [0]) <|
  bd1 (hvr w a 2) fun b28 =>
  ck (kIn (hkd w b28).1 [1]) <|
  some (hvi w b28 24))
  else if p0 = (5 : Int32) then
  (ck (kIn (hkd w a).1 [0]) <|
  bd1 (hvr w a 2) fun b32 =>
  ck (kIn (hkd w b32).1 [1]) <|
  bd1 (hvr w b32 3) fun b35 =>
  ck (kIn (hkd w b35).1 [2]) <|
  bd1 (mC_J2_size b35 w) fun r39 =>
  some r39)
  else if p0 = (6 : Int32) then
  (ck (kIn (hkd w a).1 [0]) <|
  bd1 (hvr w a 2) fun b41 =>
  ck (kIn (hkd w b41).1 [1]) <|
  bd1 (hvr w b41 5) fun b44 =>
  ck (kIn (hkd w b44).1 [2]) <|
  bd1 (mC_J2_size b44 w) fun r48 =>
  some r48)
  else if p0 = (7 : Int32) then
  (ck (kIn (hkd w a).1 [0]) <|
  some (hvi w a 19))
  else if p0 = (8 : Int32) then
  (ck (kIn (hkd w a).1 [0]) <|
  some (hvi w a 5))
  else (some (-1 : Int32)))
def mC_X0_status (a : Nat) (w : AH) : Option (Int32) :=
  ck (kIn (hkd w a).1 [0]) <|
  some (hvi w a 0)
def mC_X7_init (a : Nat) (w : AH) : Option (AH) :=
  ck (naB w (23016 : Int32) 4) <|
  st1 (hsz w) fun b2 =>
  st1 (hnew w 1 23016) fun w4 =>
  ck (kIn (hkd w4 a).1 [8]) <|
  st1 (siR w4 a 2 (some b2)) fun w7 =>
  ck (naB w7 (46032 : Int32) 4) <|
  st1 (hsz w7) fun b10 =>
  st1 (hnew w7 1 46032) fun w12 =>
  ck (kIn (hkd w12 a).1 [8]) <|
  st1 (siR w12 a 3 (some b10)) fun w15 =>
  ck (naB w15 (2 : Int32) 1) <|
  st1 (hsz w15) fun b18 =>
  st1 (hnew w15 3 2) fun w20 =>
  ck (kIn (hkd w20 a).1 [8]) <|
  st1 (siR w20 a 4 (some b18)) fun w23 =>
  ck (naB w23 (200 : Int32) 1) <|
  st1 (hsz w23) fun b26 =>
  st1 (hnew w23 3 200) fun w28 =>
  ck (kIn (hkd w28 a).1 [8]) <|
  st1 (siR w28 a 7 (some b26)) fun w31 =>
  ck (naB w31 (16 : Int32) 4) <|
  st1 (hsz w31) fun b34 =>
  st1 (hnew w31 1 16) fun w36 =>
  ck (kIn (hkd w36 a).1 [8]) <|
  st1 (siR w36 a 8 (some b34)) fun w39 =>
  ck (naB w39 (400 : Int32) 4) <|
  st1 (hsz w39) fun b42 =>
  st1 (hnew w39 1 400) fun w44 =>
  ck (kIn (hkd w44 a).1 [8]) <|
  st1 (siR w44 a 9 (some b42)) fun w47 =>
  ck (kIn (hkd w47 a).1 [8]) <|
  st1 (siI w47 a 15 (-1 : Int32)) fun w50 =>
  ck (naB w50 (96 : Int32) 4) <|
  st1 (hsz w50) fun b53 =>
  st1 (hnew w50 1 96) fun w55 =>
  ck (kIn (hkd w55 a).1 [8]) <|
  st1 (siR w55 a 18 (some b53)) fun w58 =>
  ck (naB w58 (400 : Int32) 4) <|
  st1 (hsz w58) fun b61 =>
  st1 (hnew w58 1 400) fun w63 =>
  ck (kIn (hkd w63 a).1 [8]) <|
  st1 (siR w63 a 20 (some b61)) fun w66 =>
  ck (naB w66 (400 : Int32) 4) <|
  st1 (hsz w66) fun b69 =>
  st1 (hnew w66 1 400) fun w71 =>
  ck (kIn (hkd w71 a).1 [8]) <|
  st1 (siR w71 a 21 (some b69)) fun w74 =>
  ck (naB w74 (400 : Int32) 4) <|
  st1 (hsz w74) fun b77 =>
  st1 (hnew w74 1 400) fun w79 =>
  ck (kIn (hkd w79 a).1 [8]) <|
  st1 (siR w79 a 23 (some b77)) fun w82 =>
  ck (naB w82 (400 : Int32) 4) <|
  st1 (hsz w82) fun b85 =>
  st1 (hnew w82 1 400) fun w87 =>
  ck (kIn (hkd w87 a).1 [8]) <|
  st1 (siR w87 a 24 (some b85)) fun w90 =>
  ck (naB w90 (20 : Int32) 1) <|
  st1 (hsz w90) fun b93 =>
  st1 (hnew w90 3 20) fun w95 =>
  ck (kIn (hkd w95 a).1 [8]) <|
  st1 (siR w95 a 27 (some b93)) fun w98 =>
  ck (naB w98 (240 : Int32) 1) <|
  st1 (hsz w98) fun b101 =>
  st1 (hnew w98 3 240) fun w103 =>
  ck (kIn (hkd w103 a).1 [8]) <|
  st1 (siR w103 a 28 (some b101)) fun w106 =>
  ck (naB w106 (17 : Int32) 8) <|
  st1 (hsz w106) fun b109 =>
  st1 (hnew w106 2 17) fun w111 =>
  ck (kIn (hkd w111 a).1 [8]) <|
  st1 (siR w111 a 29 (some b109)) fun w114 =>
  ck (naB w114 (400 : Int32) 8) <|
  st1 (hsz w114) fun b117 =>
  st1 (hnew w114 2 400) fun w119 =>
  ck (kIn (hkd w119 a).1 [8]) <|
  st1 (siR w119 a 30 (some b117)) fun w122 =>
  ck (naB w122 (7 : Int32) 4) <|
  st1 (hsz w122) fun b125 =>
  st1 (hnew w122 1 7) fun w127 =>
  ck (kIn (hkd w127 a).1 [8]) <|
  st1 (siR w127 a 35 (some b125)) fun w130 =>
  ck (naB w130 (7 : Int32) 4) <|
  st1 (hsz w130) fun b133 =>
  st1 (hnew w130 1 7) fun w135 =>
  ck (kIn (hkd w135 a).1 [8]) <|
  st1 (siR w135 a 36 (some b133)) fun w138 =>
  ck (naB w138 (7 : Int32) 4) <|
  st1 (hsz w138) fun b141 =>
  st1 (hnew w138 1 7) fun w143 =>
  ck (kIn (hkd w143 a).1 [8]) <|
  st1 (siR w143 a 37 (some b141)) fun w146 =>
  ck (naB w146 (7 : Int32) 4) <|
  st1 (hsz w146) fun b149 =>
  st1 (hnew w146 1 7) fun w151 =>
  ck (kIn (hkd w151 a).1 [8]) <|
  st1 (siR w151 a 38 (some b149)) fun w154 =>
  ck (naB w154 (7 : Int32) 4) <|
  st1 (hsz w154) fun b157 =>
  st1 (hnew w154 1 7) fun w159 =>
  ck (kIn (hkd w159 a).1 [8]) <|
  st1 (siR w159 a 39 (some b157)) fun w162 =>
  ck (naB w162 (7 : Int32) 4) <|
  st1 (hsz w162) fun b165 =>
  st1 (hnew w162 1 7) fun w167 =>
  ck (kIn (hkd w167 a).1 [8]) <|
  st1 (siR w167 a 40 (some b165)) fun w170 =>
  ck (naB w170 (7 : Int32) 4) <|
  st1 (hsz w170) fun b173 =>
  st1 (hnew w170 1 7) fun w175 =>
  ck (kIn (hkd w175 a).1 [8]) <|
  st1 (siR w175 a 41 (some b173)) fun w178 =>
  ck (naB w178 (7 : Int32) 4) <|
  st1 (hsz w178) fun b181 =>
  st1 (hnew w178 1 7) fun w183 =>
  ck (kIn (hkd w183 a).1 [8]) <|
  st1 (siR w183 a 42 (some b181)) fun w186 =>
  ck (naB w186 (7 : Int32) 4) <|
  st1 (hsz w186) fun b189 =>
  st1 (hnew w186 1 7) fun w191 =>
  ck (kIn (hkd w191 a).1 [8]) <|
  st1 (siR w191 a 46 (some b189)) fun w194 =>
  ck (naB w194 (10 : Int32) 1) <|
  st1 (hsz w194) fun b197 =>
  st1 (hnew w194 3 10) fun w199 =>
  ck (kIn (hkd w199 a).1 [8]) <|
  st1 (siR w199 a 47 (some b197)) fun w202 =>
  ck (naB w202 (8 : Int32) 4) <|
  st1 (hsz w202) fun b205 =>
  st1 (hnew w202 1 8) fun w207 =>
  ck (kIn (hkd w207 a).1 [8]) <|
  st1 (siR w207 a 48 (some b205)) fun w210 =>
  ck (naB w210 (8 : Int32) 4) <|
  st1 (hsz w210) fun b213 =>
  st1 (hnew w210 1 8) fun w215 =>
  ck (kIn (hkd w215 a).1 [8]) <|
  st1 (siR w215 a 49 (some b213)) fun w218 =>
  ck (naB w218 (20 : Int32) 4) <|
  st1 (hsz w218) fun b221 =>
  st1 (hnew w218 1 20) fun w223 =>
  ck (kIn (hkd w223 a).1 [8]) <|
  st1 (siR w223 a 52 (some b221)) fun w226 =>
  ck (naB w226 (7 : Int32) 4) <|
  st1 (hsz w226) fun b229 =>
  st1 (hnew w226 1 7) fun w231 =>
  ck (kIn (hkd w231 a).1 [8]) <|
  st1 (siR w231 a 55 (some b229)) fun w234 =>
  ck (naB w234 (7 : Int32) 4) <|
  st1 (hsz w234) fun b237 =>
  st1 (hnew w234 1 7) fun w239 =>
  ck (kIn (hkd w239 a).1 [8]) <|
  st1 (siR w239 a 56 (some b237)) fun w242 =>
  ck (naB w242 (7 : Int32) 4) <|
  st1 (hsz w242) fun b245 =>
  st1 (hnew w242 1 7) fun w247 =>
  ck (kIn (hkd w247 a).1 [8]) <|
  st1 (siR w247 a 57 (some b245)) fun w250 =>
  ck (naB w250 (7 : Int32) 4) <|
  st1 (hsz w250) fun b253 =>
  st1 (hnew w250 1 7) fun w255 =>
  ck (kIn (hkd w255 a).1 [8]) <|
  st1 (siR w255 a 58 (some b253)) fun w258 =>
  ck (kIn (hkd w258 a).1 [8]) <|
  bd1 (hvr w258 a 2) fun b261 =>
  ck (arB w258 b261 1 (9 : Int32)) <|
  st1 (siI w258 b261 9 (20 : Int32)) fun w264 =>
  some w264
