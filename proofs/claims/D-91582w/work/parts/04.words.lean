set_option maxRecDepth 100000
theorem q132 : (Jvm.Cond.initialized "FirstPolls") ∈ lw_all := lw_g (lw_at lw_m1 1 rfl) rfl
theorem q177 : (Jvm.Cond.instantiable "FirstPolls" (39 : Nat)) ∈ lw_all := lw_g (lw_at lw_m1 46 rfl) rfl
theorem q179 : (Jvm.Cond.instanceMethod ({ cls := "FirstPolls", name := "<init>", desc := "()V" } : Jvm.MethodName)) ∈ lw_all := lw_g (lw_at lw_m1 48 rfl) rfl
theorem q180 : (Jvm.Cond.code ({ cls := "FirstPolls", name := "<init>", desc := "()V" } : Jvm.MethodName) prog_1_method_1_code (1 : Nat) (Option.none : Option Jvm.ClassFile.FieldType)) ∈ lw_all := lw_g (lw_at lw_m1 49 rfl) rfl
theorem q181 : (Jvm.Cond.methodLink "FirstPolls" (1 : Nat) ({ cls := "java/lang/Object", name := "<init>", desc := "()V" } : Jvm.MethodName)) ∈ lw_all := lw_g (lw_at lw_m1 50 rfl) rfl
theorem q184 : (Jvm.Cond.classLink "FirstPolls" (7 : Nat) "FirstPolls$Told") ∈ lw_all := lw_g (lw_at lw_m1 53 rfl) rfl
theorem q186 : (Jvm.Cond.methodLinkNest "FirstPolls" (9 : Nat) ({ cls := "FirstPolls$Told", name := "<init>", desc := "()V" } : Jvm.MethodName) "FirstPolls") ∈ lw_tbl := lw_at lw_m1 55 rfl
theorem q220 : (Jvm.Cond.fieldLinkNest "FirstPolls" (292 : Nat) "FirstPolls$Told" "orders" "Ljava/util/ArrayList;" "FirstPolls") ∈ lw_tbl := lw_at lw_m1 89 rfl
theorem q223 : (Jvm.Cond.fieldLinkNest "FirstPolls" (144 : Nat) "FirstPolls$Told" "names" "Ljava/util/ArrayList;" "FirstPolls") ∈ lw_tbl := lw_at lw_m1 92 rfl
theorem q225 : (Jvm.Cond.fieldLinkNest "FirstPolls" (276 : Nat) "FirstPolls$Told" "bars" "Ljava/util/ArrayList;" "FirstPolls") ∈ lw_tbl := lw_at lw_m1 94 rfl
theorem q227 : (Jvm.Cond.fieldLinkNest "FirstPolls" (428 : Nat) "FirstPolls$Told" "hands" "Ljava/util/ArrayList;" "FirstPolls") ∈ lw_tbl := lw_at lw_m1 96 rfl
theorem q230 : (Jvm.Cond.fieldLinkNest "FirstPolls" (448 : Nat) "FirstPolls$Told" "papers" "Ljava/util/ArrayList;" "FirstPolls") ∈ lw_tbl := lw_at lw_m1 99 rfl
theorem q233 : (Jvm.Cond.fieldLinkNest "FirstPolls" (451 : Nat) "FirstPolls$Told" "counts" "Ljava/util/ArrayList;" "FirstPolls") ∈ lw_tbl := lw_at lw_m1 102 rfl
theorem q236 : (Jvm.Cond.fieldLinkNest "FirstPolls" (160 : Nat) "FirstPolls$Told" "seat" "[I" "FirstPolls") ∈ lw_tbl := lw_at lw_m1 105 rfl
theorem q238 : (Jvm.Cond.fieldLinkNest "FirstPolls" (163 : Nat) "FirstPolls$Told" "x" "[I" "FirstPolls") ∈ lw_tbl := lw_at lw_m1 107 rfl
theorem q240 : (Jvm.Cond.fieldLinkNest "FirstPolls" (166 : Nat) "FirstPolls$Told" "y" "[I" "FirstPolls") ∈ lw_tbl := lw_at lw_m1 109 rfl
theorem q243 : (Jvm.Cond.fieldLinkNest "FirstPolls" (191 : Nat) "FirstPolls$Told" "struckDay" "[I" "FirstPolls") ∈ lw_tbl := lw_at lw_m1 112 rfl
theorem q246 : (Jvm.Cond.fieldLinkNest "FirstPolls" (229 : Nat) "FirstPolls$Told" "struckKnown" "[I" "FirstPolls") ∈ lw_tbl := lw_at lw_m1 115 rfl
theorem q248 : (Jvm.Cond.fieldLinkNest "FirstPolls" (194 : Nat) "FirstPolls$Told" "movedTo" "[I" "FirstPolls") ∈ lw_tbl := lw_at lw_m1 117 rfl
theorem q250 : (Jvm.Cond.fieldLinkNest "FirstPolls" (239 : Nat) "FirstPolls$Told" "movedDay" "[I" "FirstPolls") ∈ lw_tbl := lw_at lw_m1 119 rfl
theorem q252 : (Jvm.Cond.fieldLinkNest "FirstPolls" (242 : Nat) "FirstPolls$Told" "movedKnown" "[I" "FirstPolls") ∈ lw_tbl := lw_at lw_m1 121 rfl
theorem q255 : (Jvm.Cond.fieldLinkNest "FirstPolls" (409 : Nat) "FirstPolls$Told" "boothPlace" "[I" "FirstPolls") ∈ lw_tbl := lw_at lw_m1 124 rfl
theorem q258 : (Jvm.Cond.fieldLinkNest "FirstPolls" (419 : Nat) "FirstPolls$Told" "boxBooth" "[I" "FirstPolls") ∈ lw_tbl := lw_at lw_m1 127 rfl
theorem q260 : (Jvm.Cond.fieldLinkNest "FirstPolls" (422 : Nat) "FirstPolls$Told" "boxSeal" "[I" "FirstPolls") ∈ lw_tbl := lw_at lw_m1 129 rfl
theorem q263 : (Jvm.Cond.fieldLinkNest "FirstPolls" (454 : Nat) "FirstPolls$Told" "numbers" "[I" "FirstPolls") ∈ lw_tbl := lw_at lw_m1 132 rfl
theorem q265 : (Jvm.Cond.fieldLinkNest "FirstPolls" (412 : Nat) "FirstPolls$Told" "sealed" "[I" "FirstPolls") ∈ lw_tbl := lw_at lw_m1 134 rfl
theorem q267 : (Jvm.Cond.fieldLinkNest "FirstPolls" (547 : Nat) "FirstPolls$Told" "sums" "[J" "FirstPolls") ∈ lw_tbl := lw_at lw_m1 136 rfl
theorem q269 : (Jvm.Cond.fieldLinkNest "FirstPolls" (549 : Nat) "FirstPolls$Told" "weights" "[J" "FirstPolls") ∈ lw_tbl := lw_at lw_m1 138 rfl
theorem q271 : (Jvm.Cond.fieldLinkNest "FirstPolls" (473 : Nat) "FirstPolls$Told" "kept" "[Z" "FirstPolls") ∈ lw_tbl := lw_at lw_m1 140 rfl
theorem q273 : (Jvm.Cond.fieldLinkNest "FirstPolls" (141 : Nat) "FirstPolls$Told" "places" "I" "FirstPolls") ∈ lw_tbl := lw_at lw_m1 142 rfl
theorem q276 : (Jvm.Cond.fieldLinkNest "FirstPolls" (154 : Nat) "FirstPolls$Told" "booths" "I" "FirstPolls") ∈ lw_tbl := lw_at lw_m1 145 rfl
theorem q279 : (Jvm.Cond.fieldLinkNest "FirstPolls" (157 : Nat) "FirstPolls$Told" "boxes" "I" "FirstPolls") ∈ lw_tbl := lw_at lw_m1 148 rfl
theorem q281 : (Jvm.Cond.fieldLinkNest "FirstPolls" (504 : Nat) "FirstPolls$Told" "pace" "I" "FirstPolls") ∈ lw_tbl := lw_at lw_m1 150 rfl
theorem q283 : (Jvm.Cond.fieldLinkNest "FirstPolls" (507 : Nat) "FirstPolls$Told" "rivers" "I" "FirstPolls") ∈ lw_tbl := lw_at lw_m1 152 rfl
theorem q343 : (Jvm.Cond.classLink "FirstPolls" (28 : Nat) "FirstPolls$Force") ∈ lw_all := lw_g (lw_at lw_m1 212 rfl) rfl
theorem q345 : (Jvm.Cond.methodLinkNest "FirstPolls" (30 : Nat) ({ cls := "FirstPolls$Force", name := "<init>", desc := "(LFirstPolls;)V" } : Jvm.MethodName) "FirstPolls") ∈ lw_tbl := lw_at lw_m1 214 rfl
theorem q350 : (Jvm.Cond.fieldLinkNest "FirstPolls" (320 : Nat) "FirstPolls$Force" "is" "[Z" "FirstPolls") ∈ lw_tbl := lw_at lw_m1 219 rfl
theorem q367 : (Jvm.Cond.classLink "FirstPolls" (37 : Nat) "FirstPolls$Setting") ∈ lw_all := lw_g (lw_at lw_m1 236 rfl) rfl
theorem q369 : (Jvm.Cond.methodLinkNest "FirstPolls" (39 : Nat) ({ cls := "FirstPolls$Setting", name := "<init>", desc := "()V" } : Jvm.MethodName) "FirstPolls") ∈ lw_tbl := lw_at lw_m1 238 rfl
theorem q440 : (Jvm.Cond.fieldLinkNest "FirstPolls" (338 : Nat) "FirstPolls$Setting" "values" "[J" "FirstPolls") ∈ lw_tbl := lw_at lw_m2 69 rfl
theorem q452 : (Jvm.Cond.classLink "FirstPolls" (44 : Nat) "FirstPolls$Rolls") ∈ lw_all := lw_g (lw_at lw_m2 81 rfl) rfl
theorem q454 : (Jvm.Cond.methodLinkNest "FirstPolls" (46 : Nat) ({ cls := "FirstPolls$Rolls", name := "<init>", desc := "(LFirstPolls;)V" } : Jvm.MethodName) "FirstPolls") ∈ lw_tbl := lw_at lw_m2 83 rfl
theorem q459 : (Jvm.Cond.fieldLinkNest "FirstPolls" (350 : Nat) "FirstPolls$Rolls" "is" "[Z" "FirstPolls") ∈ lw_tbl := lw_at lw_m2 88 rfl
theorem q461 : (Jvm.Cond.fieldLinkNest "FirstPolls" (351 : Nat) "FirstPolls$Rolls" "place" "[I" "FirstPolls") ∈ lw_tbl := lw_at lw_m2 90 rfl
theorem q463 : (Jvm.Cond.fieldLinkNest "FirstPolls" (344 : Nat) "FirstPolls$Rolls" "many" "[I" "FirstPolls") ∈ lw_tbl := lw_at lw_m2 92 rfl
theorem q483 : (Jvm.Cond.classLink "FirstPolls" (82 : Nat) "FirstPolls$Desk") ∈ lw_all := lw_g (lw_at lw_m2 112 rfl) rfl
theorem q485 : (Jvm.Cond.methodLinkNest "FirstPolls" (84 : Nat) ({ cls := "FirstPolls$Desk", name := "<init>", desc := "(LFirstPolls;)V" } : Jvm.MethodName) "FirstPolls") ∈ lw_tbl := lw_at lw_m2 114 rfl
theorem q490 : (Jvm.Cond.fieldLinkNest "FirstPolls" (459 : Nat) "FirstPolls$Desk" "papers" "[I" "FirstPolls") ∈ lw_tbl := lw_at lw_m2 119 rfl
theorem q492 : (Jvm.Cond.fieldLinkNest "FirstPolls" (461 : Nat) "FirstPolls$Desk" "put" "[I" "FirstPolls") ∈ lw_tbl := lw_at lw_m2 121 rfl
theorem q494 : (Jvm.Cond.fieldLinkNest "FirstPolls" (479 : Nat) "FirstPolls$Desk" "valid" "[I" "FirstPolls") ∈ lw_tbl := lw_at lw_m2 123 rfl
theorem q496 : (Jvm.Cond.fieldLinkNest "FirstPolls" (467 : Nat) "FirstPolls$Desk" "again" "[Z" "FirstPolls") ∈ lw_tbl := lw_at lw_m2 125 rfl
theorem q524 : (Jvm.Cond.fieldLink "FirstPolls" (117 : Nat) "FirstPolls" "status" "I") ∈ lw_all := lw_g (lw_at lw_m2 153 rfl) rfl
theorem q528 : (Jvm.Cond.fieldLink "FirstPolls" (120 : Nat) "FirstPolls" "version" "I") ∈ lw_all := lw_g (lw_at lw_m2 157 rfl) rfl
theorem q529 : (Jvm.Cond.fieldLink "FirstPolls" (10 : Nat) "FirstPolls" "now" "LFirstPolls$Told;") ∈ lw_all := lw_g (lw_at lw_m2 158 rfl) rfl
theorem q533 : (Jvm.Cond.fieldLink "FirstPolls" (16 : Nat) "FirstPolls" "images" "[LFirstPolls$Told;") ∈ lw_all := lw_g (lw_at lw_m2 162 rfl) rfl
theorem q534 : (Jvm.Cond.fieldLink "FirstPolls" (20 : Nat) "FirstPolls" "tape" "[B") ∈ lw_all := lw_g (lw_at lw_m2 163 rfl) rfl
theorem q535 : (Jvm.Cond.fieldLink "FirstPolls" (213 : Nat) "FirstPolls" "taped" "I") ∈ lw_all := lw_g (lw_at lw_m2 164 rfl) rfl
theorem q536 : (Jvm.Cond.fieldLink "FirstPolls" (24 : Nat) "FirstPolls" "fault" "I") ∈ lw_all := lw_g (lw_at lw_m2 165 rfl) rfl
theorem q537 : (Jvm.Cond.fieldLink "FirstPolls" (33 : Nat) "FirstPolls" "force" "LFirstPolls$Force;") ∈ lw_all := lw_g (lw_at lw_m2 166 rfl) rfl
theorem q538 : (Jvm.Cond.fieldLink "FirstPolls" (40 : Nat) "FirstPolls" "setting" "LFirstPolls$Setting;") ∈ lw_all := lw_g (lw_at lw_m2 167 rfl) rfl
theorem q541 : (Jvm.Cond.fieldLink "FirstPolls" (47 : Nat) "FirstPolls" "rolls" "LFirstPolls$Rolls;") ∈ lw_all := lw_g (lw_at lw_m2 170 rfl) rfl
theorem q543 : (Jvm.Cond.fieldLink "FirstPolls" (51 : Nat) "FirstPolls" "wishes" "[I") ∈ lw_all := lw_g (lw_at lw_m2 172 rfl) rfl
theorem q544 : (Jvm.Cond.fieldLink "FirstPolls" (55 : Nat) "FirstPolls" "spanFirst" "[I") ∈ lw_all := lw_g (lw_at lw_m2 173 rfl) rfl
theorem q545 : (Jvm.Cond.fieldLink "FirstPolls" (58 : Nat) "FirstPolls" "spanLast" "[I") ∈ lw_all := lw_g (lw_at lw_m2 174 rfl) rfl
theorem q546 : (Jvm.Cond.fieldLink "FirstPolls" (61 : Nat) "FirstPolls" "most" "[I") ∈ lw_all := lw_g (lw_at lw_m2 175 rfl) rfl
theorem q547 : (Jvm.Cond.fieldLink "FirstPolls" (64 : Nat) "FirstPolls" "far" "[I") ∈ lw_all := lw_g (lw_at lw_m2 176 rfl) rfl
theorem q548 : (Jvm.Cond.fieldLink "FirstPolls" (67 : Nat) "FirstPolls" "full" "[I") ∈ lw_all := lw_g (lw_at lw_m2 177 rfl) rfl
theorem q549 : (Jvm.Cond.fieldLink "FirstPolls" (70 : Nat) "FirstPolls" "row" "[I") ∈ lw_all := lw_g (lw_at lw_m2 178 rfl) rfl
theorem q550 : (Jvm.Cond.fieldLink "FirstPolls" (73 : Nat) "FirstPolls" "bestRow" "[I") ∈ lw_all := lw_g (lw_at lw_m2 179 rfl) rfl
theorem q551 : (Jvm.Cond.fieldLink "FirstPolls" (76 : Nat) "FirstPolls" "led" "[I") ∈ lw_all := lw_g (lw_at lw_m2 180 rfl) rfl
theorem q552 : (Jvm.Cond.fieldLink "FirstPolls" (379 : Nat) "FirstPolls" "wished" "I") ∈ lw_all := lw_g (lw_at lw_m2 181 rfl) rfl
theorem q553 : (Jvm.Cond.fieldLink "FirstPolls" (79 : Nat) "FirstPolls" "ledMany" "I") ∈ lw_all := lw_g (lw_at lw_m2 182 rfl) rfl
theorem q554 : (Jvm.Cond.fieldLink "FirstPolls" (406 : Nat) "FirstPolls" "ledSum" "I") ∈ lw_all := lw_g (lw_at lw_m2 183 rfl) rfl
theorem q555 : (Jvm.Cond.fieldLink "FirstPolls" (382 : Nat) "FirstPolls" "bestSum" "I") ∈ lw_all := lw_g (lw_at lw_m2 184 rfl) rfl
theorem q556 : (Jvm.Cond.fieldLink "FirstPolls" (85 : Nat) "FirstPolls" "desk" "LFirstPolls$Desk;") ∈ lw_all := lw_g (lw_at lw_m2 185 rfl) rfl
theorem q557 : (Jvm.Cond.fieldLink "FirstPolls" (89 : Nat) "FirstPolls" "sums" "[I") ∈ lw_all := lw_g (lw_at lw_m2 186 rfl) rfl
theorem q558 : (Jvm.Cond.fieldLink "FirstPolls" (482 : Nat) "FirstPolls" "has" "I") ∈ lw_all := lw_g (lw_at lw_m2 187 rfl) rfl
theorem q559 : (Jvm.Cond.fieldLink "FirstPolls" (487 : Nat) "FirstPolls" "margin" "I") ∈ lw_all := lw_g (lw_at lw_m2 188 rfl) rfl
theorem q560 : (Jvm.Cond.fieldLink "FirstPolls" (92 : Nat) "FirstPolls" "firstOf" "[I") ∈ lw_all := lw_g (lw_at lw_m2 189 rfl) rfl
theorem q561 : (Jvm.Cond.fieldLink "FirstPolls" (95 : Nat) "FirstPolls" "together" "[I") ∈ lw_all := lw_g (lw_at lw_m2 190 rfl) rfl
theorem q562 : (Jvm.Cond.fieldLink "FirstPolls" (98 : Nat) "FirstPolls" "rests" "[J") ∈ lw_all := lw_g (lw_at lw_m2 191 rfl) rfl
theorem q563 : (Jvm.Cond.fieldLink "FirstPolls" (102 : Nat) "FirstPolls" "wayRow" "[I") ∈ lw_all := lw_g (lw_at lw_m2 192 rfl) rfl
theorem q564 : (Jvm.Cond.fieldLink "FirstPolls" (105 : Nat) "FirstPolls" "wayDay" "[I") ∈ lw_all := lw_g (lw_at lw_m2 193 rfl) rfl
theorem q565 : (Jvm.Cond.fieldLink "FirstPolls" (108 : Nat) "FirstPolls" "bestWay" "[I") ∈ lw_all := lw_g (lw_at lw_m2 194 rfl) rfl
theorem q566 : (Jvm.Cond.fieldLink "FirstPolls" (111 : Nat) "FirstPolls" "bestDay" "[I") ∈ lw_all := lw_g (lw_at lw_m2 195 rfl) rfl
theorem q567 : (Jvm.Cond.fieldLink "FirstPolls" (114 : Nat) "FirstPolls" "wayMany" "I") ∈ lw_all := lw_g (lw_at lw_m2 196 rfl) rfl
theorem q568 : (Jvm.Cond.fieldLink "FirstPolls" (510 : Nat) "FirstPolls" "bestMany" "I") ∈ lw_all := lw_g (lw_at lw_m2 197 rfl) rfl
theorem q569 : (Jvm.Cond.fieldLink "FirstPolls" (532 : Nat) "FirstPolls" "sumNow" "J") ∈ lw_all := lw_g (lw_at lw_m2 198 rfl) rfl
theorem q570 : (Jvm.Cond.fieldLink "FirstPolls" (536 : Nat) "FirstPolls" "weightNow" "J") ∈ lw_all := lw_g (lw_at lw_m2 199 rfl) rfl
theorem q571 : (Jvm.Cond.fieldLink "FirstPolls" (539 : Nat) "FirstPolls" "manyNow" "I") ∈ lw_all := lw_g (lw_at lw_m2 200 rfl) rfl
theorem q572 : (Jvm.Cond.lays "FirstPolls" "FirstPolls" "status" "I") ∈ lw_all := lw_g (lw_at lw_m2 201 rfl) rfl
theorem q573 : (Jvm.Cond.soleField "FirstPolls" "status") ∈ lw_all := lw_g (lw_at lw_m2 202 rfl) rfl
theorem q574 : (Jvm.Cond.lays "FirstPolls" "FirstPolls" "version" "I") ∈ lw_all := lw_g (lw_at lw_m2 203 rfl) rfl
theorem q575 : (Jvm.Cond.soleField "FirstPolls" "version") ∈ lw_all := lw_g (lw_at lw_m2 204 rfl) rfl
theorem q576 : (Jvm.Cond.laysFinal "FirstPolls" "FirstPolls" "now" "LFirstPolls$Told;") ∈ lw_all := lw_g (lw_at lw_m2 205 rfl) rfl
theorem q577 : (Jvm.Cond.soleField "FirstPolls" "now") ∈ lw_all := lw_g (lw_at lw_m2 206 rfl) rfl
theorem q578 : (Jvm.Cond.laysFinal "FirstPolls" "FirstPolls" "images" "[LFirstPolls$Told;") ∈ lw_all := lw_g (lw_at lw_m2 207 rfl) rfl
theorem q579 : (Jvm.Cond.soleField "FirstPolls" "images") ∈ lw_all := lw_g (lw_at lw_m2 208 rfl) rfl
theorem q580 : (Jvm.Cond.laysFinal "FirstPolls" "FirstPolls" "tape" "[B") ∈ lw_all := lw_g (lw_at lw_m2 209 rfl) rfl
theorem q581 : (Jvm.Cond.soleField "FirstPolls" "tape") ∈ lw_all := lw_g (lw_at lw_m2 210 rfl) rfl
theorem q582 : (Jvm.Cond.lays "FirstPolls" "FirstPolls" "taped" "I") ∈ lw_all := lw_g (lw_at lw_m2 211 rfl) rfl
theorem q583 : (Jvm.Cond.soleField "FirstPolls" "taped") ∈ lw_all := lw_g (lw_at lw_m2 212 rfl) rfl
theorem q584 : (Jvm.Cond.lays "FirstPolls" "FirstPolls" "fault" "I") ∈ lw_all := lw_g (lw_at lw_m2 213 rfl) rfl
theorem q585 : (Jvm.Cond.soleField "FirstPolls" "fault") ∈ lw_all := lw_g (lw_at lw_m2 214 rfl) rfl
theorem q586 : (Jvm.Cond.laysFinal "FirstPolls" "FirstPolls" "force" "LFirstPolls$Force;") ∈ lw_all := lw_g (lw_at lw_m2 215 rfl) rfl
theorem q587 : (Jvm.Cond.soleField "FirstPolls" "force") ∈ lw_all := lw_g (lw_at lw_m2 216 rfl) rfl
theorem q588 : (Jvm.Cond.laysFinal "FirstPolls" "FirstPolls" "setting" "LFirstPolls$Setting;") ∈ lw_all := lw_g (lw_at lw_m2 217 rfl) rfl
theorem q589 : (Jvm.Cond.soleField "FirstPolls" "setting") ∈ lw_all := lw_g (lw_at lw_m2 218 rfl) rfl
theorem q590 : (Jvm.Cond.laysFinal "FirstPolls" "FirstPolls" "rolls" "LFirstPolls$Rolls;") ∈ lw_all := lw_g (lw_at lw_m2 219 rfl) rfl
theorem q591 : (Jvm.Cond.soleField "FirstPolls" "rolls") ∈ lw_all := lw_g (lw_at lw_m2 220 rfl) rfl
theorem q592 : (Jvm.Cond.laysFinal "FirstPolls" "FirstPolls" "wishes" "[I") ∈ lw_all := lw_g (lw_at lw_m2 221 rfl) rfl
theorem q593 : (Jvm.Cond.soleField "FirstPolls" "wishes") ∈ lw_all := lw_g (lw_at lw_m2 222 rfl) rfl
theorem q594 : (Jvm.Cond.laysFinal "FirstPolls" "FirstPolls" "spanFirst" "[I") ∈ lw_all := lw_g (lw_at lw_m2 223 rfl) rfl
theorem q595 : (Jvm.Cond.soleField "FirstPolls" "spanFirst") ∈ lw_all := lw_g (lw_at lw_m2 224 rfl) rfl
theorem q596 : (Jvm.Cond.laysFinal "FirstPolls" "FirstPolls" "spanLast" "[I") ∈ lw_all := lw_g (lw_at lw_m2 225 rfl) rfl
theorem q597 : (Jvm.Cond.soleField "FirstPolls" "spanLast") ∈ lw_all := lw_g (lw_at lw_m2 226 rfl) rfl
theorem q598 : (Jvm.Cond.laysFinal "FirstPolls" "FirstPolls" "most" "[I") ∈ lw_all := lw_g (lw_at lw_m2 227 rfl) rfl
theorem q599 : (Jvm.Cond.soleField "FirstPolls" "most") ∈ lw_all := lw_g (lw_at lw_m2 228 rfl) rfl
theorem q600 : (Jvm.Cond.laysFinal "FirstPolls" "FirstPolls" "far" "[I") ∈ lw_all := lw_g (lw_at lw_m2 229 rfl) rfl
theorem q601 : (Jvm.Cond.soleField "FirstPolls" "far") ∈ lw_all := lw_g (lw_at lw_m2 230 rfl) rfl
theorem q602 : (Jvm.Cond.laysFinal "FirstPolls" "FirstPolls" "full" "[I") ∈ lw_all := lw_g (lw_at lw_m2 231 rfl) rfl
theorem q603 : (Jvm.Cond.soleField "FirstPolls" "full") ∈ lw_all := lw_g (lw_at lw_m2 232 rfl) rfl
theorem q604 : (Jvm.Cond.laysFinal "FirstPolls" "FirstPolls" "row" "[I") ∈ lw_all := lw_g (lw_at lw_m2 233 rfl) rfl
theorem q605 : (Jvm.Cond.soleField "FirstPolls" "row") ∈ lw_all := lw_g (lw_at lw_m2 234 rfl) rfl
theorem q606 : (Jvm.Cond.laysFinal "FirstPolls" "FirstPolls" "bestRow" "[I") ∈ lw_all := lw_g (lw_at lw_m2 235 rfl) rfl
theorem q607 : (Jvm.Cond.soleField "FirstPolls" "bestRow") ∈ lw_all := lw_g (lw_at lw_m2 236 rfl) rfl
theorem q608 : (Jvm.Cond.laysFinal "FirstPolls" "FirstPolls" "led" "[I") ∈ lw_all := lw_g (lw_at lw_m2 237 rfl) rfl
theorem q609 : (Jvm.Cond.soleField "FirstPolls" "led") ∈ lw_all := lw_g (lw_at lw_m2 238 rfl) rfl
theorem q610 : (Jvm.Cond.lays "FirstPolls" "FirstPolls" "wished" "I") ∈ lw_all := lw_g (lw_at lw_m2 239 rfl) rfl
theorem q611 : (Jvm.Cond.soleField "FirstPolls" "wished") ∈ lw_all := lw_g (lw_at lw_m3 0 rfl) rfl
theorem q612 : (Jvm.Cond.lays "FirstPolls" "FirstPolls" "ledMany" "I") ∈ lw_all := lw_g (lw_at lw_m3 1 rfl) rfl
theorem q613 : (Jvm.Cond.soleField "FirstPolls" "ledMany") ∈ lw_all := lw_g (lw_at lw_m3 2 rfl) rfl
theorem q614 : (Jvm.Cond.lays "FirstPolls" "FirstPolls" "ledSum" "I") ∈ lw_all := lw_g (lw_at lw_m3 3 rfl) rfl
theorem q615 : (Jvm.Cond.soleField "FirstPolls" "ledSum") ∈ lw_all := lw_g (lw_at lw_m3 4 rfl) rfl
theorem q616 : (Jvm.Cond.lays "FirstPolls" "FirstPolls" "bestSum" "I") ∈ lw_all := lw_g (lw_at lw_m3 5 rfl) rfl
theorem q617 : (Jvm.Cond.soleField "FirstPolls" "bestSum") ∈ lw_all := lw_g (lw_at lw_m3 6 rfl) rfl
theorem q618 : (Jvm.Cond.laysFinal "FirstPolls" "FirstPolls" "desk" "LFirstPolls$Desk;") ∈ lw_all := lw_g (lw_at lw_m3 7 rfl) rfl
theorem q619 : (Jvm.Cond.soleField "FirstPolls" "desk") ∈ lw_all := lw_g (lw_at lw_m3 8 rfl) rfl
theorem q620 : (Jvm.Cond.laysFinal "FirstPolls" "FirstPolls" "sums" "[I") ∈ lw_all := lw_g (lw_at lw_m3 9 rfl) rfl
theorem q621 : (Jvm.Cond.soleField "FirstPolls" "sums") ∈ lw_all := lw_g (lw_at lw_m3 10 rfl) rfl
theorem q622 : (Jvm.Cond.lays "FirstPolls" "FirstPolls" "has" "I") ∈ lw_all := lw_g (lw_at lw_m3 11 rfl) rfl
theorem q623 : (Jvm.Cond.soleField "FirstPolls" "has") ∈ lw_all := lw_g (lw_at lw_m3 12 rfl) rfl
theorem q624 : (Jvm.Cond.lays "FirstPolls" "FirstPolls" "margin" "I") ∈ lw_all := lw_g (lw_at lw_m3 13 rfl) rfl
theorem q625 : (Jvm.Cond.soleField "FirstPolls" "margin") ∈ lw_all := lw_g (lw_at lw_m3 14 rfl) rfl
theorem q626 : (Jvm.Cond.laysFinal "FirstPolls" "FirstPolls" "firstOf" "[I") ∈ lw_all := lw_g (lw_at lw_m3 15 rfl) rfl
theorem q627 : (Jvm.Cond.soleField "FirstPolls" "firstOf") ∈ lw_all := lw_g (lw_at lw_m3 16 rfl) rfl
theorem q628 : (Jvm.Cond.laysFinal "FirstPolls" "FirstPolls" "together" "[I") ∈ lw_all := lw_g (lw_at lw_m3 17 rfl) rfl
theorem q629 : (Jvm.Cond.soleField "FirstPolls" "together") ∈ lw_all := lw_g (lw_at lw_m3 18 rfl) rfl
theorem q630 : (Jvm.Cond.laysFinal "FirstPolls" "FirstPolls" "rests" "[J") ∈ lw_all := lw_g (lw_at lw_m3 19 rfl) rfl
theorem q631 : (Jvm.Cond.soleField "FirstPolls" "rests") ∈ lw_all := lw_g (lw_at lw_m3 20 rfl) rfl
theorem q632 : (Jvm.Cond.laysFinal "FirstPolls" "FirstPolls" "wayRow" "[I") ∈ lw_all := lw_g (lw_at lw_m3 21 rfl) rfl
theorem q633 : (Jvm.Cond.soleField "FirstPolls" "wayRow") ∈ lw_all := lw_g (lw_at lw_m3 22 rfl) rfl
theorem q634 : (Jvm.Cond.laysFinal "FirstPolls" "FirstPolls" "wayDay" "[I") ∈ lw_all := lw_g (lw_at lw_m3 23 rfl) rfl
theorem q635 : (Jvm.Cond.soleField "FirstPolls" "wayDay") ∈ lw_all := lw_g (lw_at lw_m3 24 rfl) rfl
theorem q636 : (Jvm.Cond.laysFinal "FirstPolls" "FirstPolls" "bestWay" "[I") ∈ lw_all := lw_g (lw_at lw_m3 25 rfl) rfl
theorem q637 : (Jvm.Cond.soleField "FirstPolls" "bestWay") ∈ lw_all := lw_g (lw_at lw_m3 26 rfl) rfl
theorem q638 : (Jvm.Cond.laysFinal "FirstPolls" "FirstPolls" "bestDay" "[I") ∈ lw_all := lw_g (lw_at lw_m3 27 rfl) rfl
theorem q639 : (Jvm.Cond.soleField "FirstPolls" "bestDay") ∈ lw_all := lw_g (lw_at lw_m3 28 rfl) rfl
theorem q640 : (Jvm.Cond.lays "FirstPolls" "FirstPolls" "wayMany" "I") ∈ lw_all := lw_g (lw_at lw_m3 29 rfl) rfl
theorem q641 : (Jvm.Cond.soleField "FirstPolls" "wayMany") ∈ lw_all := lw_g (lw_at lw_m3 30 rfl) rfl
theorem q642 : (Jvm.Cond.lays "FirstPolls" "FirstPolls" "bestMany" "I") ∈ lw_all := lw_g (lw_at lw_m3 31 rfl) rfl
theorem q643 : (Jvm.Cond.soleField "FirstPolls" "bestMany") ∈ lw_all := lw_g (lw_at lw_m3 32 rfl) rfl
theorem q644 : (Jvm.Cond.lays "FirstPolls" "FirstPolls" "sumNow" "J") ∈ lw_all := lw_g (lw_at lw_m3 33 rfl) rfl
theorem q645 : (Jvm.Cond.soleField "FirstPolls" "sumNow") ∈ lw_all := lw_g (lw_at lw_m3 34 rfl) rfl
theorem q646 : (Jvm.Cond.lays "FirstPolls" "FirstPolls" "weightNow" "J") ∈ lw_all := lw_g (lw_at lw_m3 35 rfl) rfl
theorem q647 : (Jvm.Cond.soleField "FirstPolls" "weightNow") ∈ lw_all := lw_g (lw_at lw_m3 36 rfl) rfl
theorem q648 : (Jvm.Cond.lays "FirstPolls" "FirstPolls" "manyNow" "I") ∈ lw_all := lw_g (lw_at lw_m3 37 rfl) rfl
theorem q649 : (Jvm.Cond.soleField "FirstPolls" "manyNow") ∈ lw_all := lw_g (lw_at lw_m3 38 rfl) rfl
theorem q650 : (Jvm.Cond.superclass "FirstPolls" "java/lang/Object") ∈ lw_all := lw_g (lw_at lw_m3 39 rfl) rfl
theorem q652 : (Jvm.Cond.instanceMethod ({ cls := "FirstPolls", name := "image", desc := "(I)I" } : Jvm.MethodName)) ∈ lw_all := lw_g (lw_at lw_m3 41 rfl) rfl
theorem q653 : (Jvm.Cond.selects "FirstPolls" ({ cls := "FirstPolls", name := "image", desc := "(I)I" } : Jvm.MethodName) ({ cls := "FirstPolls", name := "image", desc := "(I)I" } : Jvm.MethodName)) ∈ lw_all := lw_g (lw_at lw_m3 42 rfl) rfl
theorem q654 : (Jvm.Cond.code ({ cls := "FirstPolls", name := "image", desc := "(I)I" } : Jvm.MethodName) prog_1_method_7_code (2 : Nat) (Option.some Jvm.ClassFile.FieldType.int)) ∈ lw_all := lw_g (lw_at lw_m3 43 rfl) rfl
theorem q655 : (Jvm.Cond.methodLink "FirstPolls" (127 : Nat) ({ cls := "FirstPolls", name := "in", desc := "(III)Z" } : Jvm.MethodName)) ∈ lw_all := lw_g (lw_at lw_m3 44 rfl) rfl
theorem q656 : (Jvm.Cond.static ({ cls := "FirstPolls", name := "in", desc := "(III)Z" } : Jvm.MethodName)) ∈ lw_all := lw_g (lw_at lw_m3 45 rfl) rfl
theorem q657 : (Jvm.Cond.code ({ cls := "FirstPolls", name := "in", desc := "(III)Z" } : Jvm.MethodName) prog_1_method_5_code (3 : Nat) (Option.some Jvm.ClassFile.FieldType.boolean)) ∈ lw_all := lw_g (lw_at lw_m3 46 rfl) rfl
theorem q658 : (Jvm.Cond.methodLink "FirstPolls" (131 : Nat) ({ cls := "FirstPolls", name := "refuse", desc := "(I)I" } : Jvm.MethodName)) ∈ lw_all := lw_g (lw_at lw_m3 47 rfl) rfl
theorem q659 : (Jvm.Cond.privateMethod ({ cls := "FirstPolls", name := "refuse", desc := "(I)I" } : Jvm.MethodName)) ∈ lw_tbl := lw_at lw_m3 48 rfl
theorem q660 : (Jvm.Cond.instanceMethod ({ cls := "FirstPolls", name := "refuse", desc := "(I)I" } : Jvm.MethodName)) ∈ lw_all := lw_g (lw_at lw_m3 49 rfl) rfl
theorem q661 : (Jvm.Cond.code ({ cls := "FirstPolls", name := "refuse", desc := "(I)I" } : Jvm.MethodName) prog_1_method_2_code (2 : Nat) (Option.some Jvm.ClassFile.FieldType.int)) ∈ lw_all := lw_g (lw_at lw_m3 50 rfl) rfl
theorem q662 : (Jvm.Cond.methodLink "FirstPolls" (134 : Nat) ({ cls := "FirstPolls$Told", name := "takes", desc := "(LFirstPolls$Told;)V" } : Jvm.MethodName)) ∈ lw_all := lw_g (lw_at lw_m3 51 rfl) rfl
theorem q693 : (Jvm.Cond.selects "FirstPolls" ({ cls := "java/lang/Object", name := "getClass", desc := "()Ljava/lang/Class;" } : Jvm.MethodName) ({ cls := "java/lang/Object", name := "getClass", desc := "()Ljava/lang/Class;" } : Jvm.MethodName)) ∈ lw_all := lw_g (lw_at lw_m3 82 rfl) rfl
theorem q753 : (Jvm.Cond.methodLink "FirstPolls" (123 : Nat) ({ cls := "FirstPolls", name := "done", desc := "(I)I" } : Jvm.MethodName)) ∈ lw_all := lw_g (lw_at lw_m3 142 rfl) rfl
theorem q754 : (Jvm.Cond.privateMethod ({ cls := "FirstPolls", name := "done", desc := "(I)I" } : Jvm.MethodName)) ∈ lw_tbl := lw_at lw_m3 143 rfl
theorem q755 : (Jvm.Cond.instanceMethod ({ cls := "FirstPolls", name := "done", desc := "(I)I" } : Jvm.MethodName)) ∈ lw_all := lw_g (lw_at lw_m3 144 rfl) rfl
theorem q756 : (Jvm.Cond.code ({ cls := "FirstPolls", name := "done", desc := "(I)I" } : Jvm.MethodName) prog_1_method_3_code (2 : Nat) (Option.some Jvm.ClassFile.FieldType.int)) ∈ lw_all := lw_g (lw_at lw_m3 145 rfl) rfl
theorem q758 : (Jvm.Cond.instanceMethod ({ cls := "FirstPolls", name := "back", desc := "(I)I" } : Jvm.MethodName)) ∈ lw_all := lw_g (lw_at lw_m3 147 rfl) rfl
theorem q759 : (Jvm.Cond.selects "FirstPolls" ({ cls := "FirstPolls", name := "back", desc := "(I)I" } : Jvm.MethodName) ({ cls := "FirstPolls", name := "back", desc := "(I)I" } : Jvm.MethodName)) ∈ lw_all := lw_g (lw_at lw_m3 148 rfl) rfl
theorem q760 : (Jvm.Cond.code ({ cls := "FirstPolls", name := "back", desc := "(I)I" } : Jvm.MethodName) prog_1_method_8_code (2 : Nat) (Option.some Jvm.ClassFile.FieldType.int)) ∈ lw_all := lw_g (lw_at lw_m3 149 rfl) rfl
theorem q761 : (Jvm.Cond.methodLink "FirstPolls" (138 : Nat) ({ cls := "FirstPolls", name := "told", desc := "(I)I" } : Jvm.MethodName)) ∈ lw_all := lw_g (lw_at lw_m3 150 rfl) rfl
theorem q762 : (Jvm.Cond.privateMethod ({ cls := "FirstPolls", name := "told", desc := "(I)I" } : Jvm.MethodName)) ∈ lw_tbl := lw_at lw_m3 151 rfl
theorem q763 : (Jvm.Cond.instanceMethod ({ cls := "FirstPolls", name := "told", desc := "(I)I" } : Jvm.MethodName)) ∈ lw_all := lw_g (lw_at lw_m3 152 rfl) rfl
theorem q764 : (Jvm.Cond.code ({ cls := "FirstPolls", name := "told", desc := "(I)I" } : Jvm.MethodName) prog_1_method_4_code (2 : Nat) (Option.some Jvm.ClassFile.FieldType.int)) ∈ lw_all := lw_g (lw_at lw_m3 153 rfl) rfl
theorem q766 : (Jvm.Cond.instanceMethod ({ cls := "FirstPolls", name := "place", desc := "(III)I" } : Jvm.MethodName)) ∈ lw_all := lw_g (lw_at lw_m3 155 rfl) rfl
theorem q767 : (Jvm.Cond.selects "FirstPolls" ({ cls := "FirstPolls", name := "place", desc := "(III)I" } : Jvm.MethodName) ({ cls := "FirstPolls", name := "place", desc := "(III)I" } : Jvm.MethodName)) ∈ lw_all := lw_g (lw_at lw_m3 156 rfl) rfl
theorem q768 : (Jvm.Cond.code ({ cls := "FirstPolls", name := "place", desc := "(III)I" } : Jvm.MethodName) prog_1_method_13_code (4 : Nat) (Option.some Jvm.ClassFile.FieldType.int)) ∈ lw_all := lw_g (lw_at lw_m3 157 rfl) rfl
theorem q770 : (Jvm.Cond.instanceMethod ({ cls := "FirstPolls", name := "name", desc := "(IIIIII)I" } : Jvm.MethodName)) ∈ lw_all := lw_g (lw_at lw_m3 159 rfl) rfl
theorem q771 : (Jvm.Cond.selects "FirstPolls" ({ cls := "FirstPolls", name := "name", desc := "(IIIIII)I" } : Jvm.MethodName) ({ cls := "FirstPolls", name := "name", desc := "(IIIIII)I" } : Jvm.MethodName)) ∈ lw_all := lw_g (lw_at lw_m3 160 rfl) rfl
theorem q772 : (Jvm.Cond.code ({ cls := "FirstPolls", name := "name", desc := "(IIIIII)I" } : Jvm.MethodName) prog_1_method_17_code (7 : Nat) (Option.some Jvm.ClassFile.FieldType.int)) ∈ lw_all := lw_g (lw_at lw_m3 161 rfl) rfl
theorem q773 : (Jvm.Cond.methodLink "FirstPolls" (197 : Nat) ({ cls := "FirstPolls", name := "isOne", desc := "(IIII)Z" } : Jvm.MethodName)) ∈ lw_all := lw_g (lw_at lw_m3 162 rfl) rfl
theorem q774 : (Jvm.Cond.static ({ cls := "FirstPolls", name := "isOne", desc := "(IIII)Z" } : Jvm.MethodName)) ∈ lw_all := lw_g (lw_at lw_m3 163 rfl) rfl
theorem q775 : (Jvm.Cond.code ({ cls := "FirstPolls", name := "isOne", desc := "(IIII)Z" } : Jvm.MethodName) prog_1_method_15_code (4 : Nat) (Option.some Jvm.ClassFile.FieldType.boolean)) ∈ lw_all := lw_g (lw_at lw_m3 164 rfl) rfl
theorem q776 : (Jvm.Cond.methodLink "FirstPolls" (169 : Nat) ({ cls := "FirstPolls", name := "areLetters", desc := "(I)Z" } : Jvm.MethodName)) ∈ lw_all := lw_g (lw_at lw_m3 165 rfl) rfl
theorem q777 : (Jvm.Cond.static ({ cls := "FirstPolls", name := "areLetters", desc := "(I)Z" } : Jvm.MethodName)) ∈ lw_all := lw_g (lw_at lw_m3 166 rfl) rfl
theorem q778 : (Jvm.Cond.code ({ cls := "FirstPolls", name := "areLetters", desc := "(I)Z" } : Jvm.MethodName) prog_1_method_14_code (2 : Nat) (Option.some Jvm.ClassFile.FieldType.boolean)) ∈ lw_all := lw_g (lw_at lw_m3 167 rfl) rfl
theorem q779 : (Jvm.Cond.methodLink "FirstPolls" (201 : Nat) ({ cls := "FirstPolls", name := "isDay", desc := "(I)Z" } : Jvm.MethodName)) ∈ lw_all := lw_g (lw_at lw_m3 168 rfl) rfl
theorem q780 : (Jvm.Cond.static ({ cls := "FirstPolls", name := "isDay", desc := "(I)Z" } : Jvm.MethodName)) ∈ lw_all := lw_g (lw_at lw_m3 169 rfl) rfl
theorem q781 : (Jvm.Cond.code ({ cls := "FirstPolls", name := "isDay", desc := "(I)Z" } : Jvm.MethodName) prog_1_method_6_code (1 : Nat) (Option.some Jvm.ClassFile.FieldType.boolean)) ∈ lw_all := lw_g (lw_at lw_m3 170 rfl) rfl
theorem q782 : (Jvm.Cond.methodLink "FirstPolls" (204 : Nat) ({ cls := "FirstPolls", name := "isPlace", desc := "(I)Z" } : Jvm.MethodName)) ∈ lw_all := lw_g (lw_at lw_m3 171 rfl) rfl
theorem q783 : (Jvm.Cond.privateMethod ({ cls := "FirstPolls", name := "isPlace", desc := "(I)Z" } : Jvm.MethodName)) ∈ lw_tbl := lw_at lw_m3 172 rfl
theorem q784 : (Jvm.Cond.instanceMethod ({ cls := "FirstPolls", name := "isPlace", desc := "(I)Z" } : Jvm.MethodName)) ∈ lw_all := lw_g (lw_at lw_m3 173 rfl) rfl
theorem q785 : (Jvm.Cond.code ({ cls := "FirstPolls", name := "isPlace", desc := "(I)Z" } : Jvm.MethodName) prog_1_method_9_code (2 : Nat) (Option.some Jvm.ClassFile.FieldType.boolean)) ∈ lw_all := lw_g (lw_at lw_m3 174 rfl) rfl
theorem q786 : (Jvm.Cond.methodLink "FirstPolls" (148 : Nat) ({ cls := "java/util/ArrayList", name := "size", desc := "()I" } : Jvm.MethodName)) ∈ lw_all := lw_g (lw_at lw_m3 175 rfl) rfl
theorem q790 : (Jvm.Cond.methodLink "FirstPolls" (207 : Nat) ({ cls := "FirstPolls", name := "adds", desc := "(IIIIII)I" } : Jvm.MethodName)) ∈ lw_all := lw_g (lw_at lw_m3 179 rfl) rfl
theorem q791 : (Jvm.Cond.privateMethod ({ cls := "FirstPolls", name := "adds", desc := "(IIIIII)I" } : Jvm.MethodName)) ∈ lw_tbl := lw_at lw_m3 180 rfl
theorem q792 : (Jvm.Cond.instanceMethod ({ cls := "FirstPolls", name := "adds", desc := "(IIIIII)I" } : Jvm.MethodName)) ∈ lw_all := lw_g (lw_at lw_m3 181 rfl) rfl
theorem q793 : (Jvm.Cond.code ({ cls := "FirstPolls", name := "adds", desc := "(IIIIII)I" } : Jvm.MethodName) prog_1_method_16_code (8 : Nat) (Option.some Jvm.ClassFile.FieldType.int)) ∈ lw_all := lw_g (lw_at lw_m3 182 rfl) rfl
theorem q794 : (Jvm.Cond.classLink "FirstPolls" (173 : Nat) "FirstPolls$Name") ∈ lw_all := lw_g (lw_at lw_m3 183 rfl) rfl
theorem q796 : (Jvm.Cond.methodLink "FirstPolls" (175 : Nat) ({ cls := "FirstPolls$Name", name := "<init>", desc := "(IIIII)V" } : Jvm.MethodName)) ∈ lw_all := lw_g (lw_at lw_m3 185 rfl) rfl
theorem q801 : (Jvm.Cond.fieldLink "FirstPolls" (236 : Nat) "FirstPolls$Name" "place" "I") ∈ lw_all := lw_g (lw_at lw_m3 190 rfl) rfl
theorem q804 : (Jvm.Cond.fieldLink "FirstPolls" (245 : Nat) "FirstPolls$Name" "house" "I") ∈ lw_all := lw_g (lw_at lw_m3 193 rfl) rfl
theorem q807 : (Jvm.Cond.fieldLink "FirstPolls" (248 : Nat) "FirstPolls$Name" "age" "I") ∈ lw_all := lw_g (lw_at lw_m3 196 rfl) rfl
theorem q809 : (Jvm.Cond.fieldLink "FirstPolls" (254 : Nat) "FirstPolls$Name" "letters" "I") ∈ lw_all := lw_g (lw_at lw_m3 198 rfl) rfl
theorem q812 : (Jvm.Cond.fieldLink "FirstPolls" (260 : Nat) "FirstPolls$Name" "known" "I") ∈ lw_all := lw_g (lw_at lw_m3 201 rfl) rfl
theorem q824 : (Jvm.Cond.methodLink "FirstPolls" (178 : Nat) ({ cls := "java/util/ArrayList", name := "add", desc := "(Ljava/lang/Object;)Z" } : Jvm.MethodName)) ∈ lw_all := lw_g (lw_at lw_m3 213 rfl) rfl
theorem q836 : (Jvm.Cond.classLink "FirstPolls" (182 : Nat) "FirstPolls$Wife") ∈ lw_all := lw_g (lw_at lw_m3 225 rfl) rfl
theorem q838 : (Jvm.Cond.methodLink "FirstPolls" (184 : Nat) ({ cls := "FirstPolls$Wife", name := "<init>", desc := "(IIIII)V" } : Jvm.MethodName)) ∈ lw_all := lw_g (lw_at lw_m3 227 rfl) rfl
theorem q848 : (Jvm.Cond.classLink "FirstPolls" (185 : Nat) "FirstPolls$Late") ∈ lw_all := lw_g (lw_at lw_m3 237 rfl) rfl
theorem q850 : (Jvm.Cond.methodLink "FirstPolls" (187 : Nat) ({ cls := "FirstPolls$Late", name := "<init>", desc := "(IIIII)V" } : Jvm.MethodName)) ∈ lw_all := lw_g (lw_at lw_m3 239 rfl) rfl
theorem q860 : (Jvm.Cond.classLink "FirstPolls" (188 : Nat) "FirstPolls$Walker") ∈ lw_all := lw_g (lw_at lw_m4 9 rfl) rfl
theorem q862 : (Jvm.Cond.methodLink "FirstPolls" (190 : Nat) ({ cls := "FirstPolls$Walker", name := "<init>", desc := "(IIIII)V" } : Jvm.MethodName)) ∈ lw_all := lw_g (lw_at lw_m4 11 rfl) rfl
theorem q873 : (Jvm.Cond.instanceMethod ({ cls := "FirstPolls", name := "row", desc := "(II)I" } : Jvm.MethodName)) ∈ lw_all := lw_g (lw_at lw_m4 22 rfl) rfl
theorem q874 : (Jvm.Cond.selects "FirstPolls" ({ cls := "FirstPolls", name := "row", desc := "(II)I" } : Jvm.MethodName) ({ cls := "FirstPolls", name := "row", desc := "(II)I" } : Jvm.MethodName)) ∈ lw_all := lw_g (lw_at lw_m4 23 rfl) rfl
theorem q875 : (Jvm.Cond.code ({ cls := "FirstPolls", name := "row", desc := "(II)I" } : Jvm.MethodName) prog_1_method_19_code (5 : Nat) (Option.some Jvm.ClassFile.FieldType.int)) ∈ lw_all := lw_g (lw_at lw_m4 24 rfl) rfl
theorem q876 : (Jvm.Cond.methodLink "FirstPolls" (216 : Nat) ({ cls := "java/lang/System", name := "arraycopy", desc := "(Ljava/lang/Object;ILjava/lang/Object;II)V" } : Jvm.MethodName)) ∈ lw_all := lw_g (lw_at lw_m4 25 rfl) rfl
theorem q877 : (Jvm.Cond.methodLink "FirstPolls" (222 : Nat) ({ cls := "FirstPolls", name := "reads", desc := "([BII)I" } : Jvm.MethodName)) ∈ lw_all := lw_g (lw_at lw_m4 26 rfl) rfl
theorem q878 : (Jvm.Cond.privateMethod ({ cls := "FirstPolls", name := "reads", desc := "([BII)I" } : Jvm.MethodName)) ∈ lw_tbl := lw_at lw_m4 27 rfl
theorem q879 : (Jvm.Cond.instanceMethod ({ cls := "FirstPolls", name := "reads", desc := "([BII)I" } : Jvm.MethodName)) ∈ lw_all := lw_g (lw_at lw_m4 28 rfl) rfl
theorem q880 : (Jvm.Cond.codeWith ({ cls := "FirstPolls", name := "reads", desc := "([BII)I" } : Jvm.MethodName) prog_1_method_18_code (7 : Nat) (Option.some Jvm.ClassFile.FieldType.int) [((3 : Nat), (125 : Nat), (128 : Nat), (211 : Nat))]) ∈ lw_all := lw_g (lw_at lw_m4 29 rfl) rfl
theorem q881 : (Jvm.Cond.classLink "FirstPolls" (211 : Nat) "java/lang/ArrayIndexOutOfBoundsException") ∈ lw_all := lw_g (lw_at lw_m4 30 rfl) rfl
theorem q916 : (Jvm.Cond.instanceMethod ({ cls := "FirstPolls", name := "off", desc := "(III)I" } : Jvm.MethodName)) ∈ lw_all := lw_g (lw_at lw_m4 65 rfl) rfl
theorem q917 : (Jvm.Cond.selects "FirstPolls" ({ cls := "FirstPolls", name := "off", desc := "(III)I" } : Jvm.MethodName) ({ cls := "FirstPolls", name := "off", desc := "(III)I" } : Jvm.MethodName)) ∈ lw_all := lw_g (lw_at lw_m4 66 rfl) rfl
theorem q918 : (Jvm.Cond.code ({ cls := "FirstPolls", name := "off", desc := "(III)I" } : Jvm.MethodName) prog_1_method_20_code (4 : Nat) (Option.some Jvm.ClassFile.FieldType.int)) ∈ lw_all := lw_g (lw_at lw_m4 67 rfl) rfl
theorem q919 : (Jvm.Cond.methodLink "FirstPolls" (226 : Nat) ({ cls := "FirstPolls", name := "isName", desc := "(I)Z" } : Jvm.MethodName)) ∈ lw_all := lw_g (lw_at lw_m4 68 rfl) rfl
theorem q920 : (Jvm.Cond.privateMethod ({ cls := "FirstPolls", name := "isName", desc := "(I)Z" } : Jvm.MethodName)) ∈ lw_tbl := lw_at lw_m4 69 rfl
theorem q921 : (Jvm.Cond.instanceMethod ({ cls := "FirstPolls", name := "isName", desc := "(I)Z" } : Jvm.MethodName)) ∈ lw_all := lw_g (lw_at lw_m4 70 rfl) rfl
theorem q922 : (Jvm.Cond.code ({ cls := "FirstPolls", name := "isName", desc := "(I)Z" } : Jvm.MethodName) prog_1_method_10_code (2 : Nat) (Option.some Jvm.ClassFile.FieldType.boolean)) ∈ lw_all := lw_g (lw_at lw_m4 71 rfl) rfl
theorem q924 : (Jvm.Cond.instanceMethod ({ cls := "FirstPolls", name := "moved", desc := "(IIII)I" } : Jvm.MethodName)) ∈ lw_all := lw_g (lw_at lw_m4 73 rfl) rfl
theorem q925 : (Jvm.Cond.selects "FirstPolls" ({ cls := "FirstPolls", name := "moved", desc := "(IIII)I" } : Jvm.MethodName) ({ cls := "FirstPolls", name := "moved", desc := "(IIII)I" } : Jvm.MethodName)) ∈ lw_all := lw_g (lw_at lw_m4 74 rfl) rfl
theorem q926 : (Jvm.Cond.code ({ cls := "FirstPolls", name := "moved", desc := "(IIII)I" } : Jvm.MethodName) prog_1_method_21_code (5 : Nat) (Option.some Jvm.ClassFile.FieldType.int)) ∈ lw_all := lw_g (lw_at lw_m4 75 rfl) rfl
theorem q927 : (Jvm.Cond.methodLink "FirstPolls" (232 : Nat) ({ cls := "java/util/ArrayList", name := "get", desc := "(I)Ljava/lang/Object;" } : Jvm.MethodName)) ∈ lw_all := lw_g (lw_at lw_m4 76 rfl) rfl
theorem q942 : (Jvm.Cond.instanceMethod ({ cls := "FirstPolls", name := "of", desc := "(II)I" } : Jvm.MethodName)) ∈ lw_all := lw_g (lw_at lw_m4 91 rfl) rfl
theorem q943 : (Jvm.Cond.selects "FirstPolls" ({ cls := "FirstPolls", name := "of", desc := "(II)I" } : Jvm.MethodName) ({ cls := "FirstPolls", name := "of", desc := "(II)I" } : Jvm.MethodName)) ∈ lw_all := lw_g (lw_at lw_m4 92 rfl) rfl
theorem q944 : (Jvm.Cond.code ({ cls := "FirstPolls", name := "of", desc := "(II)I" } : Jvm.MethodName) prog_1_method_22_code (4 : Nat) (Option.some Jvm.ClassFile.FieldType.int)) ∈ lw_all := lw_g (lw_at lw_m4 93 rfl) rfl
theorem q945 : (Jvm.Cond.methodLink "FirstPolls" (251 : Nat) ({ cls := "FirstPolls$Name", name := "kind", desc := "()I" } : Jvm.MethodName)) ∈ lw_all := lw_g (lw_at lw_m4 94 rfl) rfl
theorem q962 : (Jvm.Cond.instanceMethod ({ cls := "FirstPolls", name := "where", desc := "(III)I" } : Jvm.MethodName)) ∈ lw_all := lw_g (lw_at lw_m4 111 rfl) rfl
theorem q963 : (Jvm.Cond.selects "FirstPolls" ({ cls := "FirstPolls", name := "where", desc := "(III)I" } : Jvm.MethodName) ({ cls := "FirstPolls", name := "where", desc := "(III)I" } : Jvm.MethodName)) ∈ lw_all := lw_g (lw_at lw_m4 112 rfl) rfl
theorem q964 : (Jvm.Cond.code ({ cls := "FirstPolls", name := "where", desc := "(III)I" } : Jvm.MethodName) prog_1_method_25_code (4 : Nat) (Option.some Jvm.ClassFile.FieldType.int)) ∈ lw_all := lw_g (lw_at lw_m4 113 rfl) rfl
theorem q965 : (Jvm.Cond.methodLink "FirstPolls" (263 : Nat) ({ cls := "FirstPolls", name := "placeOf", desc := "(III)I" } : Jvm.MethodName)) ∈ lw_all := lw_g (lw_at lw_m4 114 rfl) rfl
theorem q966 : (Jvm.Cond.privateMethod ({ cls := "FirstPolls", name := "placeOf", desc := "(III)I" } : Jvm.MethodName)) ∈ lw_tbl := lw_at lw_m4 115 rfl
theorem q967 : (Jvm.Cond.instanceMethod ({ cls := "FirstPolls", name := "placeOf", desc := "(III)I" } : Jvm.MethodName)) ∈ lw_all := lw_g (lw_at lw_m4 116 rfl) rfl
theorem q968 : (Jvm.Cond.code ({ cls := "FirstPolls", name := "placeOf", desc := "(III)I" } : Jvm.MethodName) prog_1_method_24_code (4 : Nat) (Option.some Jvm.ClassFile.FieldType.int)) ∈ lw_all := lw_g (lw_at lw_m4 117 rfl) rfl
theorem q969 : (Jvm.Cond.methodLink "FirstPolls" (257 : Nat) ({ cls := "FirstPolls", name := "hasMoved", desc := "(III)Z" } : Jvm.MethodName)) ∈ lw_all := lw_g (lw_at lw_m4 118 rfl) rfl
theorem q970 : (Jvm.Cond.privateMethod ({ cls := "FirstPolls", name := "hasMoved", desc := "(III)Z" } : Jvm.MethodName)) ∈ lw_tbl := lw_at lw_m4 119 rfl
theorem q971 : (Jvm.Cond.instanceMethod ({ cls := "FirstPolls", name := "hasMoved", desc := "(III)Z" } : Jvm.MethodName)) ∈ lw_all := lw_g (lw_at lw_m4 120 rfl) rfl
theorem q972 : (Jvm.Cond.code ({ cls := "FirstPolls", name := "hasMoved", desc := "(III)Z" } : Jvm.MethodName) prog_1_method_23_code (4 : Nat) (Option.some Jvm.ClassFile.FieldType.boolean)) ∈ lw_all := lw_g (lw_at lw_m4 121 rfl) rfl
theorem q974 : (Jvm.Cond.instanceMethod ({ cls := "FirstPolls", name := "like", desc := "(II)I" } : Jvm.MethodName)) ∈ lw_all := lw_g (lw_at lw_m4 123 rfl) rfl
theorem q975 : (Jvm.Cond.selects "FirstPolls" ({ cls := "FirstPolls", name := "like", desc := "(II)I" } : Jvm.MethodName) ({ cls := "FirstPolls", name := "like", desc := "(II)I" } : Jvm.MethodName)) ∈ lw_all := lw_g (lw_at lw_m4 124 rfl) rfl
theorem q976 : (Jvm.Cond.code ({ cls := "FirstPolls", name := "like", desc := "(II)I" } : Jvm.MethodName) prog_1_method_26_code (3 : Nat) (Option.some Jvm.ClassFile.FieldType.int)) ∈ lw_all := lw_g (lw_at lw_m4 125 rfl) rfl
theorem q977 : (Jvm.Cond.methodLink "FirstPolls" (267 : Nat) ({ cls := "FirstPolls", name := "likeOf", desc := "(II)I" } : Jvm.MethodName)) ∈ lw_all := lw_g (lw_at lw_m4 126 rfl) rfl
theorem q978 : (Jvm.Cond.privateMethod ({ cls := "FirstPolls", name := "likeOf", desc := "(II)I" } : Jvm.MethodName)) ∈ lw_tbl := lw_at lw_m4 127 rfl
theorem q979 : (Jvm.Cond.instanceMethod ({ cls := "FirstPolls", name := "likeOf", desc := "(II)I" } : Jvm.MethodName)) ∈ lw_all := lw_g (lw_at lw_m4 128 rfl) rfl
theorem q980 : (Jvm.Cond.code ({ cls := "FirstPolls", name := "likeOf", desc := "(II)I" } : Jvm.MethodName) prog_1_method_27_code (7 : Nat) (Option.some Jvm.ClassFile.FieldType.int)) ∈ lw_all := lw_g (lw_at lw_m4 129 rfl) rfl
theorem q981 : (Jvm.Cond.methodLink "FirstPolls" (271 : Nat) ({ cls := "java/lang/Math", name := "abs", desc := "(I)I" } : Jvm.MethodName)) ∈ lw_all := lw_g (lw_at lw_m4 130 rfl) rfl
theorem q985 : (Jvm.Cond.instanceMethod ({ cls := "FirstPolls", name := "apart", desc := "(II)I" } : Jvm.MethodName)) ∈ lw_all := lw_g (lw_at lw_m4 134 rfl) rfl
theorem q986 : (Jvm.Cond.selects "FirstPolls" ({ cls := "FirstPolls", name := "apart", desc := "(II)I" } : Jvm.MethodName) ({ cls := "FirstPolls", name := "apart", desc := "(II)I" } : Jvm.MethodName)) ∈ lw_all := lw_g (lw_at lw_m4 135 rfl) rfl
theorem q987 : (Jvm.Cond.code ({ cls := "FirstPolls", name := "apart", desc := "(II)I" } : Jvm.MethodName) prog_1_method_28_code (3 : Nat) (Option.some Jvm.ClassFile.FieldType.int)) ∈ lw_all := lw_g (lw_at lw_m4 136 rfl) rfl
theorem q988 : (Jvm.Cond.classLink "FirstPolls" (279 : Nat) "FirstPolls$Note") ∈ lw_all := lw_g (lw_at lw_m4 137 rfl) rfl
theorem q990 : (Jvm.Cond.methodLink "FirstPolls" (281 : Nat) ({ cls := "FirstPolls$Note", name := "<init>", desc := "(IIIII)V" } : Jvm.MethodName)) ∈ lw_all := lw_g (lw_at lw_m4 139 rfl) rfl
theorem q996 : (Jvm.Cond.fieldLinkNest "FirstPolls" (282 : Nat) "FirstPolls$Note" "a" "I" "FirstPolls") ∈ lw_tbl := lw_at lw_m4 145 rfl
theorem q999 : (Jvm.Cond.fieldLinkNest "FirstPolls" (285 : Nat) "FirstPolls$Note" "b" "I" "FirstPolls") ∈ lw_tbl := lw_at lw_m4 148 rfl
theorem q1002 : (Jvm.Cond.fieldLinkNest "FirstPolls" (431 : Nat) "FirstPolls$Note" "c" "I" "FirstPolls") ∈ lw_tbl := lw_at lw_m4 151 rfl
theorem q1005 : (Jvm.Cond.fieldLinkNest "FirstPolls" (441 : Nat) "FirstPolls$Note" "d" "I" "FirstPolls") ∈ lw_tbl := lw_at lw_m4 154 rfl
theorem q1007 : (Jvm.Cond.fieldLinkNest "FirstPolls" (434 : Nat) "FirstPolls$Note" "e" "I" "FirstPolls") ∈ lw_tbl := lw_at lw_m4 156 rfl
theorem q1020 : (Jvm.Cond.instanceMethod ({ cls := "FirstPolls", name := "feed", desc := "(IIIII)I" } : Jvm.MethodName)) ∈ lw_all := lw_g (lw_at lw_m4 169 rfl) rfl
theorem q1021 : (Jvm.Cond.selects "FirstPolls" ({ cls := "FirstPolls", name := "feed", desc := "(IIIII)I" } : Jvm.MethodName) ({ cls := "FirstPolls", name := "feed", desc := "(IIIII)I" } : Jvm.MethodName)) ∈ lw_all := lw_g (lw_at lw_m4 170 rfl) rfl
theorem q1022 : (Jvm.Cond.code ({ cls := "FirstPolls", name := "feed", desc := "(IIIII)I" } : Jvm.MethodName) prog_1_method_30_code (6 : Nat) (Option.some Jvm.ClassFile.FieldType.int)) ∈ lw_all := lw_g (lw_at lw_m4 171 rfl) rfl
theorem q1023 : (Jvm.Cond.methodLink "FirstPolls" (288 : Nat) ({ cls := "FirstPolls", name := "four", desc := "(I)V" } : Jvm.MethodName)) ∈ lw_all := lw_g (lw_at lw_m4 172 rfl) rfl
theorem q1024 : (Jvm.Cond.privateMethod ({ cls := "FirstPolls", name := "four", desc := "(I)V" } : Jvm.MethodName)) ∈ lw_tbl := lw_at lw_m4 173 rfl
theorem q1025 : (Jvm.Cond.instanceMethod ({ cls := "FirstPolls", name := "four", desc := "(I)V" } : Jvm.MethodName)) ∈ lw_all := lw_g (lw_at lw_m4 174 rfl) rfl
theorem q1026 : (Jvm.Cond.code ({ cls := "FirstPolls", name := "four", desc := "(I)V" } : Jvm.MethodName) prog_1_method_31_code (3 : Nat) (Option.none : Option Jvm.ClassFile.FieldType)) ∈ lw_all := lw_g (lw_at lw_m4 175 rfl) rfl
theorem q1028 : (Jvm.Cond.instanceMethod ({ cls := "FirstPolls", name := "end", desc := "(I)I" } : Jvm.MethodName)) ∈ lw_all := lw_g (lw_at lw_m4 177 rfl) rfl
theorem q1029 : (Jvm.Cond.selects "FirstPolls" ({ cls := "FirstPolls", name := "end", desc := "(I)I" } : Jvm.MethodName) ({ cls := "FirstPolls", name := "end", desc := "(I)I" } : Jvm.MethodName)) ∈ lw_all := lw_g (lw_at lw_m4 178 rfl) rfl
theorem q1030 : (Jvm.Cond.code ({ cls := "FirstPolls", name := "end", desc := "(I)I" } : Jvm.MethodName) prog_1_method_32_code (2 : Nat) (Option.some Jvm.ClassFile.FieldType.int)) ∈ lw_all := lw_g (lw_at lw_m4 179 rfl) rfl
theorem q1032 : (Jvm.Cond.instanceMethod ({ cls := "FirstPolls", name := "order", desc := "(I)I" } : Jvm.MethodName)) ∈ lw_all := lw_g (lw_at lw_m4 181 rfl) rfl
theorem q1033 : (Jvm.Cond.selects "FirstPolls" ({ cls := "FirstPolls", name := "order", desc := "(I)I" } : Jvm.MethodName) ({ cls := "FirstPolls", name := "order", desc := "(I)I" } : Jvm.MethodName)) ∈ lw_all := lw_g (lw_at lw_m4 182 rfl) rfl
theorem q1034 : (Jvm.Cond.codeWith ({ cls := "FirstPolls", name := "order", desc := "(I)I" } : Jvm.MethodName) prog_1_method_33_code (5 : Nat) (Option.some Jvm.ClassFile.FieldType.int) [((58 : Nat), (62 : Nat), (65 : Nat), (303 : Nat))]) ∈ lw_all := lw_g (lw_at lw_m4 183 rfl) rfl
theorem q1035 : (Jvm.Cond.classLink "FirstPolls" (303 : Nat) "FirstPolls$Fault") ∈ lw_all := lw_g (lw_at lw_m4 184 rfl) rfl
theorem q1036 : (Jvm.Cond.classLink "FirstPolls" (295 : Nat) "FirstPolls$Reader") ∈ lw_all := lw_g (lw_at lw_m4 185 rfl) rfl
theorem q1038 : (Jvm.Cond.methodLink "FirstPolls" (297 : Nat) ({ cls := "FirstPolls$Reader", name := "<init>", desc := "([BI)V" } : Jvm.MethodName)) ∈ lw_all := lw_g (lw_at lw_m4 187 rfl) rfl
theorem q1047 : (Jvm.Cond.fieldLinkNest "FirstPolls" (308 : Nat) "FirstPolls$Reader" "made" "Ljava/util/ArrayList;" "FirstPolls") ∈ lw_tbl := lw_at lw_m4 196 rfl
theorem q1067 : (Jvm.Cond.methodLink "FirstPolls" (300 : Nat) ({ cls := "FirstPolls$Reader", name := "read", desc := "()V" } : Jvm.MethodName)) ∈ lw_all := lw_g (lw_at lw_m4 216 rfl) rfl
theorem q1098 : (Jvm.Cond.fieldLinkNest "FirstPolls" (305 : Nat) "FirstPolls$Fault" "place" "I" "FirstPolls") ∈ lw_tbl := lw_at lw_m5 7 rfl
theorem q1175 : (Jvm.Cond.fieldLinkNest "FirstPolls" (328 : Nat) "FirstPolls$Clause" "kind" "I" "FirstPolls") ∈ lw_tbl := lw_at lw_m5 84 rfl
theorem q1178 : (Jvm.Cond.fieldLinkNest "FirstPolls" (330 : Nat) "FirstPolls$Clause" "a" "I" "FirstPolls") ∈ lw_tbl := lw_at lw_m5 87 rfl
theorem q1379 : (Jvm.Cond.classLink "FirstPolls" (306 : Nat) "FirstPolls$Order") ∈ lw_all := lw_g (lw_at lw_m6 48 rfl) rfl
theorem q1381 : (Jvm.Cond.methodLink "FirstPolls" (311 : Nat) ({ cls := "FirstPolls$Order", name := "<init>", desc := "(IILjava/util/ArrayList;)V" } : Jvm.MethodName)) ∈ lw_all := lw_g (lw_at lw_m6 50 rfl) rfl
theorem q1391 : (Jvm.Cond.fieldLinkNest "FirstPolls" (314 : Nat) "FirstPolls$Order" "clauses" "Ljava/util/ArrayList;" "FirstPolls") ∈ lw_tbl := lw_at lw_m6 60 rfl
theorem q1400 : (Jvm.Cond.instanceMethod ({ cls := "FirstPolls", name := "fault", desc := "()I" } : Jvm.MethodName)) ∈ lw_all := lw_g (lw_at lw_m6 69 rfl) rfl
theorem q1401 : (Jvm.Cond.selects "FirstPolls" ({ cls := "FirstPolls", name := "fault", desc := "()I" } : Jvm.MethodName) ({ cls := "FirstPolls", name := "fault", desc := "()I" } : Jvm.MethodName)) ∈ lw_all := lw_g (lw_at lw_m6 70 rfl) rfl
theorem q1402 : (Jvm.Cond.code ({ cls := "FirstPolls", name := "fault", desc := "()I" } : Jvm.MethodName) prog_1_method_34_code (1 : Nat) (Option.some Jvm.ClassFile.FieldType.int)) ∈ lw_all := lw_g (lw_at lw_m6 71 rfl) rfl
theorem q1404 : (Jvm.Cond.instanceMethod ({ cls := "FirstPolls", name := "force", desc := "(III)I" } : Jvm.MethodName)) ∈ lw_all := lw_g (lw_at lw_m6 73 rfl) rfl
theorem q1405 : (Jvm.Cond.selects "FirstPolls" ({ cls := "FirstPolls", name := "force", desc := "(III)I" } : Jvm.MethodName) ({ cls := "FirstPolls", name := "force", desc := "(III)I" } : Jvm.MethodName)) ∈ lw_all := lw_g (lw_at lw_m6 74 rfl) rfl
theorem q1406 : (Jvm.Cond.code ({ cls := "FirstPolls", name := "force", desc := "(III)I" } : Jvm.MethodName) prog_1_method_35_code (4 : Nat) (Option.some Jvm.ClassFile.FieldType.int)) ∈ lw_all := lw_g (lw_at lw_m6 75 rfl) rfl
theorem q1407 : (Jvm.Cond.methodLink "FirstPolls" (317 : Nat) ({ cls := "FirstPolls$Force", name := "looks", desc := "(I)V" } : Jvm.MethodName)) ∈ lw_all := lw_g (lw_at lw_m6 76 rfl) rfl
theorem q1420 : (Jvm.Cond.instanceMethod ({ cls := "FirstPolls", name := "on", desc := "(III)I" } : Jvm.MethodName)) ∈ lw_all := lw_g (lw_at lw_m6 89 rfl) rfl
theorem q1421 : (Jvm.Cond.selects "FirstPolls" ({ cls := "FirstPolls", name := "on", desc := "(III)I" } : Jvm.MethodName) ({ cls := "FirstPolls", name := "on", desc := "(III)I" } : Jvm.MethodName)) ∈ lw_all := lw_g (lw_at lw_m6 90 rfl) rfl
theorem q1422 : (Jvm.Cond.code ({ cls := "FirstPolls", name := "on", desc := "(III)I" } : Jvm.MethodName) prog_1_method_39_code (4 : Nat) (Option.some Jvm.ClassFile.FieldType.int)) ∈ lw_all := lw_g (lw_at lw_m6 91 rfl) rfl
theorem q1423 : (Jvm.Cond.methodLink "FirstPolls" (347 : Nat) ({ cls := "FirstPolls$Rolls", name := "looks", desc := "(II)V" } : Jvm.MethodName)) ∈ lw_all := lw_g (lw_at lw_m6 92 rfl) rfl
theorem q1436 : (Jvm.Cond.privateMethod ({ cls := "FirstPolls", name := "asks", desc := "(I)V" } : Jvm.MethodName)) ∈ lw_tbl := lw_at lw_m6 105 rfl
theorem q1437 : (Jvm.Cond.instanceMethod ({ cls := "FirstPolls", name := "asks", desc := "(I)V" } : Jvm.MethodName)) ∈ lw_all := lw_g (lw_at lw_m6 106 rfl) rfl
theorem q1438 : (Jvm.Cond.code ({ cls := "FirstPolls", name := "asks", desc := "(I)V" } : Jvm.MethodName) prog_1_method_37_code (2 : Nat) (Option.none : Option Jvm.ClassFile.FieldType)) ∈ lw_all := lw_g (lw_at lw_m6 107 rfl) rfl
theorem q1439 : (Jvm.Cond.methodLink "FirstPolls" (335 : Nat) ({ cls := "FirstPolls$Setting", name := "empties", desc := "()V" } : Jvm.MethodName)) ∈ lw_all := lw_g (lw_at lw_m6 108 rfl) rfl
theorem q1446 : (Jvm.Cond.privateMethod ({ cls := "FirstPolls", name := "last", desc := "(III)J" } : Jvm.MethodName)) ∈ lw_tbl := lw_at lw_m6 115 rfl
theorem q1447 : (Jvm.Cond.instanceMethod ({ cls := "FirstPolls", name := "last", desc := "(III)J" } : Jvm.MethodName)) ∈ lw_all := lw_g (lw_at lw_m6 116 rfl) rfl
theorem q1448 : (Jvm.Cond.code ({ cls := "FirstPolls", name := "last", desc := "(III)J" } : Jvm.MethodName) prog_1_method_36_code (11 : Nat) (Option.some Jvm.ClassFile.FieldType.long)) ∈ lw_all := lw_g (lw_at lw_m6 117 rfl) rfl
theorem q1449 : (Jvm.Cond.constantLong "FirstPolls" (324 : Nat) (-4000000000 : Int64)) ∈ lw_all := lw_g (lw_at lw_m6 118 rfl) rfl
theorem q1450 : (Jvm.Cond.classLink "FirstPolls" (326 : Nat) "FirstPolls$Clause") ∈ lw_all := lw_g (lw_at lw_m6 119 rfl) rfl
theorem q1451 : (Jvm.Cond.methodLink "FirstPolls" (331 : Nat) ({ cls := "FirstPolls$Clause", name := "tells", desc := "(LFirstPolls$Setting;)J" } : Jvm.MethodName)) ∈ lw_all := lw_g (lw_at lw_m6 120 rfl) rfl
theorem q1495 : (Jvm.Cond.instanceMethod ({ cls := "FirstPolls", name := "roll", desc := "(III)I" } : Jvm.MethodName)) ∈ lw_all := lw_g (lw_at lw_m6 164 rfl) rfl
theorem q1496 : (Jvm.Cond.selects "FirstPolls" ({ cls := "FirstPolls", name := "roll", desc := "(III)I" } : Jvm.MethodName) ({ cls := "FirstPolls", name := "roll", desc := "(III)I" } : Jvm.MethodName)) ∈ lw_all := lw_g (lw_at lw_m6 165 rfl) rfl
theorem q1497 : (Jvm.Cond.code ({ cls := "FirstPolls", name := "roll", desc := "(III)I" } : Jvm.MethodName) prog_1_method_40_code (4 : Nat) (Option.some Jvm.ClassFile.FieldType.int)) ∈ lw_all := lw_g (lw_at lw_m6 166 rfl) rfl
theorem q1499 : (Jvm.Cond.instanceMethod ({ cls := "FirstPolls", name := "twice", desc := "(III)I" } : Jvm.MethodName)) ∈ lw_all := lw_g (lw_at lw_m6 168 rfl) rfl
theorem q1500 : (Jvm.Cond.selects "FirstPolls" ({ cls := "FirstPolls", name := "twice", desc := "(III)I" } : Jvm.MethodName) ({ cls := "FirstPolls", name := "twice", desc := "(III)I" } : Jvm.MethodName)) ∈ lw_all := lw_g (lw_at lw_m6 169 rfl) rfl
theorem q1501 : (Jvm.Cond.code ({ cls := "FirstPolls", name := "twice", desc := "(III)I" } : Jvm.MethodName) prog_1_method_41_code (7 : Nat) (Option.some Jvm.ClassFile.FieldType.int)) ∈ lw_all := lw_g (lw_at lw_m6 170 rfl) rfl
theorem q1502 : (Jvm.Cond.methodLink "FirstPolls" (353 : Nat) ({ cls := "FirstPolls", name := "areBarred", desc := "(II)Z" } : Jvm.MethodName)) ∈ lw_all := lw_g (lw_at lw_m6 171 rfl) rfl
theorem q1503 : (Jvm.Cond.privateMethod ({ cls := "FirstPolls", name := "areBarred", desc := "(II)Z" } : Jvm.MethodName)) ∈ lw_tbl := lw_at lw_m6 172 rfl
theorem q1504 : (Jvm.Cond.instanceMethod ({ cls := "FirstPolls", name := "areBarred", desc := "(II)Z" } : Jvm.MethodName)) ∈ lw_all := lw_g (lw_at lw_m6 173 rfl) rfl
theorem q1505 : (Jvm.Cond.code ({ cls := "FirstPolls", name := "areBarred", desc := "(II)Z" } : Jvm.MethodName) prog_1_method_29_code (4 : Nat) (Option.some Jvm.ClassFile.FieldType.boolean)) ∈ lw_all := lw_g (lw_at lw_m6 174 rfl) rfl
theorem q1507 : (Jvm.Cond.instanceMethod ({ cls := "FirstPolls", name := "rule", desc := "(IIII)I" } : Jvm.MethodName)) ∈ lw_all := lw_g (lw_at lw_m6 176 rfl) rfl
theorem q1508 : (Jvm.Cond.selects "FirstPolls" ({ cls := "FirstPolls", name := "rule", desc := "(IIII)I" } : Jvm.MethodName) ({ cls := "FirstPolls", name := "rule", desc := "(IIII)I" } : Jvm.MethodName)) ∈ lw_all := lw_g (lw_at lw_m6 177 rfl) rfl
theorem q1509 : (Jvm.Cond.code ({ cls := "FirstPolls", name := "rule", desc := "(IIII)I" } : Jvm.MethodName) prog_1_method_45_code (5 : Nat) (Option.some Jvm.ClassFile.FieldType.int)) ∈ lw_all := lw_g (lw_at lw_m6 178 rfl) rfl
theorem q1510 : (Jvm.Cond.methodLink "FirstPolls" (372 : Nat) ({ cls := "FirstPolls", name := "fewOn", desc := "(I)I" } : Jvm.MethodName)) ∈ lw_all := lw_g (lw_at lw_m6 179 rfl) rfl
theorem q1511 : (Jvm.Cond.privateMethod ({ cls := "FirstPolls", name := "fewOn", desc := "(I)I" } : Jvm.MethodName)) ∈ lw_tbl := lw_at lw_m6 180 rfl
theorem q1512 : (Jvm.Cond.instanceMethod ({ cls := "FirstPolls", name := "fewOn", desc := "(I)I" } : Jvm.MethodName)) ∈ lw_all := lw_g (lw_at lw_m6 181 rfl) rfl
theorem q1513 : (Jvm.Cond.code ({ cls := "FirstPolls", name := "fewOn", desc := "(I)I" } : Jvm.MethodName) prog_1_method_44_code (2 : Nat) (Option.some Jvm.ClassFile.FieldType.int)) ∈ lw_all := lw_g (lw_at lw_m6 182 rfl) rfl
theorem q1514 : (Jvm.Cond.methodLink "FirstPolls" (341 : Nat) ({ cls := "FirstPolls", name := "asks", desc := "(I)V" } : Jvm.MethodName)) ∈ lw_all := lw_g (lw_at lw_m6 183 rfl) rfl
theorem q1515 : (Jvm.Cond.methodLink "FirstPolls" (364 : Nat) ({ cls := "FirstPolls", name := "last", desc := "(III)J" } : Jvm.MethodName)) ∈ lw_all := lw_g (lw_at lw_m6 184 rfl) rfl
theorem q1516 : (Jvm.Cond.methodLink "FirstPolls" (368 : Nat) ({ cls := "FirstPolls", name := "atLeast", desc := "(JI)I" } : Jvm.MethodName)) ∈ lw_all := lw_g (lw_at lw_m6 185 rfl) rfl
theorem q1517 : (Jvm.Cond.static ({ cls := "FirstPolls", name := "atLeast", desc := "(JI)I" } : Jvm.MethodName)) ∈ lw_all := lw_g (lw_at lw_m6 186 rfl) rfl
theorem q1518 : (Jvm.Cond.code ({ cls := "FirstPolls", name := "atLeast", desc := "(JI)I" } : Jvm.MethodName) prog_1_method_42_code (3 : Nat) (Option.some Jvm.ClassFile.FieldType.int)) ∈ lw_all := lw_g (lw_at lw_m6 187 rfl) rfl
theorem q1519 : (Jvm.Cond.methodLink "FirstPolls" (357 : Nat) ({ cls := "java/lang/Math", name := "max", desc := "(JJ)J" } : Jvm.MethodName)) ∈ lw_all := lw_g (lw_at lw_m6 188 rfl) rfl
theorem q1522 : (Jvm.Cond.methodLink "FirstPolls" (375 : Nat) ({ cls := "FirstPolls", name := "ruleOf", desc := "(IIII)I" } : Jvm.MethodName)) ∈ lw_all := lw_g (lw_at lw_m6 191 rfl) rfl
theorem q1523 : (Jvm.Cond.privateMethod ({ cls := "FirstPolls", name := "ruleOf", desc := "(IIII)I" } : Jvm.MethodName)) ∈ lw_tbl := lw_at lw_m6 192 rfl
theorem q1524 : (Jvm.Cond.instanceMethod ({ cls := "FirstPolls", name := "ruleOf", desc := "(IIII)I" } : Jvm.MethodName)) ∈ lw_all := lw_g (lw_at lw_m6 193 rfl) rfl
theorem q1525 : (Jvm.Cond.code ({ cls := "FirstPolls", name := "ruleOf", desc := "(IIII)I" } : Jvm.MethodName) prog_1_method_43_code (5 : Nat) (Option.some Jvm.ClassFile.FieldType.int)) ∈ lw_all := lw_g (lw_at lw_m6 194 rfl) rfl
theorem q1526 : (Jvm.Cond.methodLink "FirstPolls" (361 : Nat) ({ cls := "FirstPolls", name := "asksPlace", desc := "(II)V" } : Jvm.MethodName)) ∈ lw_all := lw_g (lw_at lw_m6 195 rfl) rfl
theorem q1527 : (Jvm.Cond.privateMethod ({ cls := "FirstPolls", name := "asksPlace", desc := "(II)V" } : Jvm.MethodName)) ∈ lw_tbl := lw_at lw_m6 196 rfl
theorem q1528 : (Jvm.Cond.instanceMethod ({ cls := "FirstPolls", name := "asksPlace", desc := "(II)V" } : Jvm.MethodName)) ∈ lw_all := lw_g (lw_at lw_m6 197 rfl) rfl
theorem q1529 : (Jvm.Cond.code ({ cls := "FirstPolls", name := "asksPlace", desc := "(II)V" } : Jvm.MethodName) prog_1_method_38_code (3 : Nat) (Option.none : Option Jvm.ClassFile.FieldType)) ∈ lw_all := lw_g (lw_at lw_m6 198 rfl) rfl
theorem q1531 : (Jvm.Cond.instanceMethod ({ cls := "FirstPolls", name := "wish", desc := "(I)I" } : Jvm.MethodName)) ∈ lw_all := lw_g (lw_at lw_m6 200 rfl) rfl
theorem q1532 : (Jvm.Cond.selects "FirstPolls" ({ cls := "FirstPolls", name := "wish", desc := "(I)I" } : Jvm.MethodName) ({ cls := "FirstPolls", name := "wish", desc := "(I)I" } : Jvm.MethodName)) ∈ lw_all := lw_g (lw_at lw_m6 201 rfl) rfl
theorem q1533 : (Jvm.Cond.code ({ cls := "FirstPolls", name := "wish", desc := "(I)I" } : Jvm.MethodName) prog_1_method_46_code (3 : Nat) (Option.some Jvm.ClassFile.FieldType.int)) ∈ lw_all := lw_g (lw_at lw_m6 202 rfl) rfl
theorem q1535 : (Jvm.Cond.instanceMethod ({ cls := "FirstPolls", name := "clear", desc := "()I" } : Jvm.MethodName)) ∈ lw_all := lw_g (lw_at lw_m6 204 rfl) rfl
theorem q1536 : (Jvm.Cond.selects "FirstPolls" ({ cls := "FirstPolls", name := "clear", desc := "()I" } : Jvm.MethodName) ({ cls := "FirstPolls", name := "clear", desc := "()I" } : Jvm.MethodName)) ∈ lw_all := lw_g (lw_at lw_m6 205 rfl) rfl
theorem q1537 : (Jvm.Cond.code ({ cls := "FirstPolls", name := "clear", desc := "()I" } : Jvm.MethodName) prog_1_method_47_code (2 : Nat) (Option.some Jvm.ClassFile.FieldType.int)) ∈ lw_all := lw_g (lw_at lw_m6 206 rfl) rfl
theorem q1539 : (Jvm.Cond.instanceMethod ({ cls := "FirstPolls", name := "booths", desc := "(II)I" } : Jvm.MethodName)) ∈ lw_all := lw_g (lw_at lw_m6 208 rfl) rfl
theorem q1540 : (Jvm.Cond.selects "FirstPolls" ({ cls := "FirstPolls", name := "booths", desc := "(II)I" } : Jvm.MethodName) ({ cls := "FirstPolls", name := "booths", desc := "(II)I" } : Jvm.MethodName)) ∈ lw_all := lw_g (lw_at lw_m6 209 rfl) rfl
theorem q1541 : (Jvm.Cond.code ({ cls := "FirstPolls", name := "booths", desc := "(II)I" } : Jvm.MethodName) prog_1_method_52_code (8 : Nat) (Option.some Jvm.ClassFile.FieldType.int)) ∈ lw_all := lw_g (lw_at lw_m6 210 rfl) rfl
theorem q1542 : (Jvm.Cond.methodLink "FirstPolls" (391 : Nat) ({ cls := "FirstPolls", name := "areThere", desc := "()Z" } : Jvm.MethodName)) ∈ lw_all := lw_g (lw_at lw_m6 211 rfl) rfl
theorem q1543 : (Jvm.Cond.privateMethod ({ cls := "FirstPolls", name := "areThere", desc := "()Z" } : Jvm.MethodName)) ∈ lw_tbl := lw_at lw_m6 212 rfl
theorem q1544 : (Jvm.Cond.instanceMethod ({ cls := "FirstPolls", name := "areThere", desc := "()Z" } : Jvm.MethodName)) ∈ lw_all := lw_g (lw_at lw_m6 213 rfl) rfl
theorem q1545 : (Jvm.Cond.code ({ cls := "FirstPolls", name := "areThere", desc := "()Z" } : Jvm.MethodName) prog_1_method_48_code (2 : Nat) (Option.some Jvm.ClassFile.FieldType.boolean)) ∈ lw_all := lw_g (lw_at lw_m6 214 rfl) rfl
theorem q1546 : (Jvm.Cond.methodLink "FirstPolls" (395 : Nat) ({ cls := "FirstPolls", name := "lays", desc := "(II)V" } : Jvm.MethodName)) ∈ lw_all := lw_g (lw_at lw_m6 215 rfl) rfl
theorem q1547 : (Jvm.Cond.privateMethod ({ cls := "FirstPolls", name := "lays", desc := "(II)V" } : Jvm.MethodName)) ∈ lw_tbl := lw_at lw_m6 216 rfl
theorem q1548 : (Jvm.Cond.instanceMethod ({ cls := "FirstPolls", name := "lays", desc := "(II)V" } : Jvm.MethodName)) ∈ lw_all := lw_g (lw_at lw_m6 217 rfl) rfl
theorem q1549 : (Jvm.Cond.code ({ cls := "FirstPolls", name := "lays", desc := "(II)V" } : Jvm.MethodName) prog_1_method_49_code (4 : Nat) (Option.none : Option Jvm.ClassFile.FieldType)) ∈ lw_all := lw_g (lw_at lw_m6 218 rfl) rfl
theorem q1550 : (Jvm.Cond.methodLink "FirstPolls" (398 : Nat) ({ cls := "java/lang/Integer", name := "bitCount", desc := "(I)I" } : Jvm.MethodName)) ∈ lw_all := lw_g (lw_at lw_m6 219 rfl) rfl
theorem q1556 : (Jvm.Cond.methodLink "FirstPolls" (403 : Nat) ({ cls := "FirstPolls", name := "sumOf", desc := "(I)I" } : Jvm.MethodName)) ∈ lw_all := lw_g (lw_at lw_m6 225 rfl) rfl
theorem q1557 : (Jvm.Cond.privateMethod ({ cls := "FirstPolls", name := "sumOf", desc := "(I)I" } : Jvm.MethodName)) ∈ lw_tbl := lw_at lw_m6 226 rfl
theorem q1558 : (Jvm.Cond.instanceMethod ({ cls := "FirstPolls", name := "sumOf", desc := "(I)I" } : Jvm.MethodName)) ∈ lw_all := lw_g (lw_at lw_m6 227 rfl) rfl
theorem q1559 : (Jvm.Cond.code ({ cls := "FirstPolls", name := "sumOf", desc := "(I)I" } : Jvm.MethodName) prog_1_method_51_code (3 : Nat) (Option.some Jvm.ClassFile.FieldType.int)) ∈ lw_all := lw_g (lw_at lw_m6 228 rfl) rfl
theorem q1560 : (Jvm.Cond.methodLink "FirstPolls" (387 : Nat) ({ cls := "FirstPolls", name := "leads", desc := "(III)V" } : Jvm.MethodName)) ∈ lw_all := lw_g (lw_at lw_m6 229 rfl) rfl
theorem q1561 : (Jvm.Cond.privateMethod ({ cls := "FirstPolls", name := "leads", desc := "(III)V" } : Jvm.MethodName)) ∈ lw_tbl := lw_at lw_m6 230 rfl
theorem q1562 : (Jvm.Cond.instanceMethod ({ cls := "FirstPolls", name := "leads", desc := "(III)V" } : Jvm.MethodName)) ∈ lw_all := lw_g (lw_at lw_m6 231 rfl) rfl
theorem q1563 : (Jvm.Cond.code ({ cls := "FirstPolls", name := "leads", desc := "(III)V" } : Jvm.MethodName) prog_1_method_50_code (7 : Nat) (Option.none : Option Jvm.ClassFile.FieldType)) ∈ lw_all := lw_g (lw_at lw_m6 232 rfl) rfl
theorem q1564 : (Jvm.Cond.methodLink "FirstPolls" (385 : Nat) ({ cls := "FirstPolls$Told", name := "far", desc := "(II)I" } : Jvm.MethodName)) ∈ lw_all := lw_g (lw_at lw_m6 233 rfl) rfl
theorem q1570 : (Jvm.Cond.instanceMethod ({ cls := "FirstPolls", name := "led", desc := "(I)I" } : Jvm.MethodName)) ∈ lw_all := lw_g (lw_at lw_m6 239 rfl) rfl
theorem q1571 : (Jvm.Cond.selects "FirstPolls" ({ cls := "FirstPolls", name := "led", desc := "(I)I" } : Jvm.MethodName) ({ cls := "FirstPolls", name := "led", desc := "(I)I" } : Jvm.MethodName)) ∈ lw_all := lw_g (lw_at lw_m7 0 rfl) rfl
theorem q1572 : (Jvm.Cond.code ({ cls := "FirstPolls", name := "led", desc := "(I)I" } : Jvm.MethodName) prog_1_method_53_code (2 : Nat) (Option.some Jvm.ClassFile.FieldType.int)) ∈ lw_all := lw_g (lw_at lw_m7 1 rfl) rfl
theorem q1574 : (Jvm.Cond.instanceMethod ({ cls := "FirstPolls", name := "judge", desc := "(III)I" } : Jvm.MethodName)) ∈ lw_all := lw_g (lw_at lw_m7 3 rfl) rfl
theorem q1575 : (Jvm.Cond.selects "FirstPolls" ({ cls := "FirstPolls", name := "judge", desc := "(III)I" } : Jvm.MethodName) ({ cls := "FirstPolls", name := "judge", desc := "(III)I" } : Jvm.MethodName)) ∈ lw_all := lw_g (lw_at lw_m7 4 rfl) rfl
theorem q1576 : (Jvm.Cond.code ({ cls := "FirstPolls", name := "judge", desc := "(III)I" } : Jvm.MethodName) prog_1_method_54_code (4 : Nat) (Option.some Jvm.ClassFile.FieldType.int)) ∈ lw_all := lw_g (lw_at lw_m7 5 rfl) rfl
theorem q1578 : (Jvm.Cond.instanceMethod ({ cls := "FirstPolls", name := "booth", desc := "(I)I" } : Jvm.MethodName)) ∈ lw_all := lw_g (lw_at lw_m7 7 rfl) rfl
theorem q1579 : (Jvm.Cond.selects "FirstPolls" ({ cls := "FirstPolls", name := "booth", desc := "(I)I" } : Jvm.MethodName) ({ cls := "FirstPolls", name := "booth", desc := "(I)I" } : Jvm.MethodName)) ∈ lw_all := lw_g (lw_at lw_m7 8 rfl) rfl
theorem q1580 : (Jvm.Cond.code ({ cls := "FirstPolls", name := "booth", desc := "(I)I" } : Jvm.MethodName) prog_1_method_55_code (2 : Nat) (Option.some Jvm.ClassFile.FieldType.int)) ∈ lw_all := lw_g (lw_at lw_m7 9 rfl) rfl
theorem q1582 : (Jvm.Cond.instanceMethod ({ cls := "FirstPolls", name := "box", desc := "(II)I" } : Jvm.MethodName)) ∈ lw_all := lw_g (lw_at lw_m7 11 rfl) rfl
theorem q1583 : (Jvm.Cond.selects "FirstPolls" ({ cls := "FirstPolls", name := "box", desc := "(II)I" } : Jvm.MethodName) ({ cls := "FirstPolls", name := "box", desc := "(II)I" } : Jvm.MethodName)) ∈ lw_all := lw_g (lw_at lw_m7 12 rfl) rfl
theorem q1584 : (Jvm.Cond.code ({ cls := "FirstPolls", name := "box", desc := "(II)I" } : Jvm.MethodName) prog_1_method_56_code (3 : Nat) (Option.some Jvm.ClassFile.FieldType.int)) ∈ lw_all := lw_g (lw_at lw_m7 13 rfl) rfl
theorem q1585 : (Jvm.Cond.constant "FirstPolls" (415 : Nat) (99999 : Int32)) ∈ lw_all := lw_g (lw_at lw_m7 14 rfl) rfl
theorem q1586 : (Jvm.Cond.methodLink "FirstPolls" (416 : Nat) ({ cls := "FirstPolls", name := "isBooth", desc := "(I)Z" } : Jvm.MethodName)) ∈ lw_all := lw_g (lw_at lw_m7 15 rfl) rfl
theorem q1587 : (Jvm.Cond.privateMethod ({ cls := "FirstPolls", name := "isBooth", desc := "(I)Z" } : Jvm.MethodName)) ∈ lw_tbl := lw_at lw_m7 16 rfl
theorem q1588 : (Jvm.Cond.instanceMethod ({ cls := "FirstPolls", name := "isBooth", desc := "(I)Z" } : Jvm.MethodName)) ∈ lw_all := lw_g (lw_at lw_m7 17 rfl) rfl
theorem q1589 : (Jvm.Cond.code ({ cls := "FirstPolls", name := "isBooth", desc := "(I)Z" } : Jvm.MethodName) prog_1_method_11_code (2 : Nat) (Option.some Jvm.ClassFile.FieldType.boolean)) ∈ lw_all := lw_g (lw_at lw_m7 18 rfl) rfl
theorem q1591 : (Jvm.Cond.instanceMethod ({ cls := "FirstPolls", name := "hand", desc := "(IIIII)I" } : Jvm.MethodName)) ∈ lw_all := lw_g (lw_at lw_m7 20 rfl) rfl
theorem q1592 : (Jvm.Cond.selects "FirstPolls" ({ cls := "FirstPolls", name := "hand", desc := "(IIIII)I" } : Jvm.MethodName) ({ cls := "FirstPolls", name := "hand", desc := "(IIIII)I" } : Jvm.MethodName)) ∈ lw_all := lw_g (lw_at lw_m7 21 rfl) rfl
theorem q1593 : (Jvm.Cond.code ({ cls := "FirstPolls", name := "hand", desc := "(IIIII)I" } : Jvm.MethodName) prog_1_method_57_code (6 : Nat) (Option.some Jvm.ClassFile.FieldType.int)) ∈ lw_all := lw_g (lw_at lw_m7 22 rfl) rfl
theorem q1594 : (Jvm.Cond.methodLink "FirstPolls" (425 : Nat) ({ cls := "FirstPolls", name := "isBox", desc := "(I)Z" } : Jvm.MethodName)) ∈ lw_all := lw_g (lw_at lw_m7 23 rfl) rfl
theorem q1595 : (Jvm.Cond.privateMethod ({ cls := "FirstPolls", name := "isBox", desc := "(I)Z" } : Jvm.MethodName)) ∈ lw_tbl := lw_at lw_m7 24 rfl
theorem q1596 : (Jvm.Cond.instanceMethod ({ cls := "FirstPolls", name := "isBox", desc := "(I)Z" } : Jvm.MethodName)) ∈ lw_all := lw_g (lw_at lw_m7 25 rfl) rfl
theorem q1597 : (Jvm.Cond.code ({ cls := "FirstPolls", name := "isBox", desc := "(I)Z" } : Jvm.MethodName) prog_1_method_12_code (2 : Nat) (Option.some Jvm.ClassFile.FieldType.boolean)) ∈ lw_all := lw_g (lw_at lw_m7 26 rfl) rfl
theorem q1599 : (Jvm.Cond.instanceMethod ({ cls := "FirstPolls", name := "held", desc := "(III)I" } : Jvm.MethodName)) ∈ lw_all := lw_g (lw_at lw_m7 28 rfl) rfl
theorem q1600 : (Jvm.Cond.selects "FirstPolls" ({ cls := "FirstPolls", name := "held", desc := "(III)I" } : Jvm.MethodName) ({ cls := "FirstPolls", name := "held", desc := "(III)I" } : Jvm.MethodName)) ∈ lw_all := lw_g (lw_at lw_m7 29 rfl) rfl
theorem q1601 : (Jvm.Cond.code ({ cls := "FirstPolls", name := "held", desc := "(III)I" } : Jvm.MethodName) prog_1_method_59_code (5 : Nat) (Option.some Jvm.ClassFile.FieldType.int)) ∈ lw_all := lw_g (lw_at lw_m7 30 rfl) rfl
theorem q1602 : (Jvm.Cond.methodLink "FirstPolls" (437 : Nat) ({ cls := "FirstPolls", name := "handed", desc := "(IIII)LFirstPolls$Note;" } : Jvm.MethodName)) ∈ lw_all := lw_g (lw_at lw_m7 31 rfl) rfl
theorem q1603 : (Jvm.Cond.privateMethod ({ cls := "FirstPolls", name := "handed", desc := "(IIII)LFirstPolls$Note;" } : Jvm.MethodName)) ∈ lw_tbl := lw_at lw_m7 32 rfl
theorem q1604 : (Jvm.Cond.instanceMethod ({ cls := "FirstPolls", name := "handed", desc := "(IIII)LFirstPolls$Note;" } : Jvm.MethodName)) ∈ lw_all := lw_g (lw_at lw_m7 33 rfl) rfl
theorem q1605 : (Jvm.Cond.code ({ cls := "FirstPolls", name := "handed", desc := "(IIII)LFirstPolls$Note;" } : Jvm.MethodName) prog_1_method_58_code (9 : Nat) (Option.some (Jvm.ClassFile.FieldType.object "FirstPolls$Note"))) ∈ lw_all := lw_g (lw_at lw_m7 34 rfl) rfl
theorem q1607 : (Jvm.Cond.instanceMethod ({ cls := "FirstPolls", name := "broken", desc := "(III)I" } : Jvm.MethodName)) ∈ lw_all := lw_g (lw_at lw_m7 36 rfl) rfl
theorem q1608 : (Jvm.Cond.selects "FirstPolls" ({ cls := "FirstPolls", name := "broken", desc := "(III)I" } : Jvm.MethodName) ({ cls := "FirstPolls", name := "broken", desc := "(III)I" } : Jvm.MethodName)) ∈ lw_all := lw_g (lw_at lw_m7 37 rfl) rfl
theorem q1609 : (Jvm.Cond.code ({ cls := "FirstPolls", name := "broken", desc := "(III)I" } : Jvm.MethodName) prog_1_method_61_code (6 : Nat) (Option.some Jvm.ClassFile.FieldType.int)) ∈ lw_all := lw_g (lw_at lw_m7 38 rfl) rfl
theorem q1610 : (Jvm.Cond.methodLink "FirstPolls" (444 : Nat) ({ cls := "FirstPolls", name := "breaks", desc := "(II)I" } : Jvm.MethodName)) ∈ lw_all := lw_g (lw_at lw_m7 39 rfl) rfl
theorem q1611 : (Jvm.Cond.privateMethod ({ cls := "FirstPolls", name := "breaks", desc := "(II)I" } : Jvm.MethodName)) ∈ lw_tbl := lw_at lw_m7 40 rfl
theorem q1612 : (Jvm.Cond.instanceMethod ({ cls := "FirstPolls", name := "breaks", desc := "(II)I" } : Jvm.MethodName)) ∈ lw_all := lw_g (lw_at lw_m7 41 rfl) rfl
theorem q1613 : (Jvm.Cond.code ({ cls := "FirstPolls", name := "breaks", desc := "(II)I" } : Jvm.MethodName) prog_1_method_60_code (6 : Nat) (Option.some Jvm.ClassFile.FieldType.int)) ∈ lw_all := lw_g (lw_at lw_m7 42 rfl) rfl
theorem q1615 : (Jvm.Cond.instanceMethod ({ cls := "FirstPolls", name := "paper", desc := "(IIII)I" } : Jvm.MethodName)) ∈ lw_all := lw_g (lw_at lw_m7 44 rfl) rfl
theorem q1616 : (Jvm.Cond.selects "FirstPolls" ({ cls := "FirstPolls", name := "paper", desc := "(IIII)I" } : Jvm.MethodName) ({ cls := "FirstPolls", name := "paper", desc := "(IIII)I" } : Jvm.MethodName)) ∈ lw_all := lw_g (lw_at lw_m7 45 rfl) rfl
theorem q1617 : (Jvm.Cond.code ({ cls := "FirstPolls", name := "paper", desc := "(IIII)I" } : Jvm.MethodName) prog_1_method_62_code (5 : Nat) (Option.some Jvm.ClassFile.FieldType.int)) ∈ lw_all := lw_g (lw_at lw_m7 46 rfl) rfl
theorem q1618 : (Jvm.Cond.constant "FirstPolls" (447 : Nat) (100000 : Int32)) ∈ lw_all := lw_g (lw_at lw_m7 47 rfl) rfl
theorem q1620 : (Jvm.Cond.instanceMethod ({ cls := "FirstPolls", name := "count", desc := "(IIIII)I" } : Jvm.MethodName)) ∈ lw_all := lw_g (lw_at lw_m7 49 rfl) rfl
theorem q1621 : (Jvm.Cond.selects "FirstPolls" ({ cls := "FirstPolls", name := "count", desc := "(IIIII)I" } : Jvm.MethodName) ({ cls := "FirstPolls", name := "count", desc := "(IIIII)I" } : Jvm.MethodName)) ∈ lw_all := lw_g (lw_at lw_m7 50 rfl) rfl
theorem q1622 : (Jvm.Cond.code ({ cls := "FirstPolls", name := "count", desc := "(IIIII)I" } : Jvm.MethodName) prog_1_method_63_code (7 : Nat) (Option.some Jvm.ClassFile.FieldType.int)) ∈ lw_all := lw_g (lw_at lw_m7 51 rfl) rfl
theorem q1624 : (Jvm.Cond.instanceMethod ({ cls := "FirstPolls", name := "tells", desc := "(IIII)I" } : Jvm.MethodName)) ∈ lw_all := lw_g (lw_at lw_m7 53 rfl) rfl
theorem q1625 : (Jvm.Cond.selects "FirstPolls" ({ cls := "FirstPolls", name := "tells", desc := "(IIII)I" } : Jvm.MethodName) ({ cls := "FirstPolls", name := "tells", desc := "(IIII)I" } : Jvm.MethodName)) ∈ lw_all := lw_g (lw_at lw_m7 54 rfl) rfl
theorem q1626 : (Jvm.Cond.code ({ cls := "FirstPolls", name := "tells", desc := "(IIII)I" } : Jvm.MethodName) prog_1_method_64_code (7 : Nat) (Option.some Jvm.ClassFile.FieldType.int)) ∈ lw_all := lw_g (lw_at lw_m7 55 rfl) rfl
theorem q1627 : (Jvm.Cond.constant "FirstPolls" (457 : Nat) (-2000000000 : Int32)) ∈ lw_all := lw_g (lw_at lw_m7 56 rfl) rfl
theorem q1628 : (Jvm.Cond.methodLink "FirstPolls" (458 : Nat) ({ cls := "FirstPolls$Desk", name := "looks", desc := "(II)V" } : Jvm.MethodName)) ∈ lw_all := lw_g (lw_at lw_m7 57 rfl) rfl
theorem q1656 : (Jvm.Cond.methodLink "FirstPolls" (464 : Nat) ({ cls := "FirstPolls$Desk", name := "lost", desc := "(I)I" } : Jvm.MethodName)) ∈ lw_all := lw_g (lw_at lw_m7 85 rfl) rfl
theorem q1657 : (Jvm.Cond.methodLink "FirstPolls" (470 : Nat) ({ cls := "FirstPolls$Desk", name := "validOf", desc := "(I)I" } : Jvm.MethodName)) ∈ lw_all := lw_g (lw_at lw_m7 86 rfl) rfl
theorem q1662 : (Jvm.Cond.instanceMethod ({ cls := "FirstPolls", name := "keep", desc := "(II)I" } : Jvm.MethodName)) ∈ lw_all := lw_g (lw_at lw_m7 91 rfl) rfl
theorem q1663 : (Jvm.Cond.selects "FirstPolls" ({ cls := "FirstPolls", name := "keep", desc := "(II)I" } : Jvm.MethodName) ({ cls := "FirstPolls", name := "keep", desc := "(II)I" } : Jvm.MethodName)) ∈ lw_all := lw_g (lw_at lw_m7 92 rfl) rfl
theorem q1664 : (Jvm.Cond.code ({ cls := "FirstPolls", name := "keep", desc := "(II)I" } : Jvm.MethodName) prog_1_method_65_code (3 : Nat) (Option.some Jvm.ClassFile.FieldType.int)) ∈ lw_all := lw_g (lw_at lw_m7 93 rfl) rfl
theorem q1666 : (Jvm.Cond.instanceMethod ({ cls := "FirstPolls", name := "seat", desc := "(IIII)I" } : Jvm.MethodName)) ∈ lw_all := lw_g (lw_at lw_m7 95 rfl) rfl
theorem q1667 : (Jvm.Cond.selects "FirstPolls" ({ cls := "FirstPolls", name := "seat", desc := "(IIII)I" } : Jvm.MethodName) ({ cls := "FirstPolls", name := "seat", desc := "(IIII)I" } : Jvm.MethodName)) ∈ lw_all := lw_g (lw_at lw_m7 96 rfl) rfl
theorem q1668 : (Jvm.Cond.code ({ cls := "FirstPolls", name := "seat", desc := "(IIII)I" } : Jvm.MethodName) prog_1_method_69_code (5 : Nat) (Option.some Jvm.ClassFile.FieldType.int)) ∈ lw_all := lw_g (lw_at lw_m7 97 rfl) rfl
theorem q1669 : (Jvm.Cond.methodLink "FirstPolls" (490 : Nat) ({ cls := "FirstPolls", name := "reckons", desc := "(I)V" } : Jvm.MethodName)) ∈ lw_all := lw_g (lw_at lw_m7 98 rfl) rfl
theorem q1670 : (Jvm.Cond.privateMethod ({ cls := "FirstPolls", name := "reckons", desc := "(I)V" } : Jvm.MethodName)) ∈ lw_tbl := lw_at lw_m7 99 rfl
theorem q1671 : (Jvm.Cond.instanceMethod ({ cls := "FirstPolls", name := "reckons", desc := "(I)V" } : Jvm.MethodName)) ∈ lw_all := lw_g (lw_at lw_m7 100 rfl) rfl
theorem q1672 : (Jvm.Cond.code ({ cls := "FirstPolls", name := "reckons", desc := "(I)V" } : Jvm.MethodName) prog_1_method_67_code (6 : Nat) (Option.none : Option Jvm.ClassFile.FieldType)) ∈ lw_all := lw_g (lw_at lw_m7 101 rfl) rfl
theorem q1673 : (Jvm.Cond.methodLink "FirstPolls" (476 : Nat) ({ cls := "FirstPolls", name := "seatOf", desc := "(I)I" } : Jvm.MethodName)) ∈ lw_all := lw_g (lw_at lw_m7 102 rfl) rfl
theorem q1674 : (Jvm.Cond.privateMethod ({ cls := "FirstPolls", name := "seatOf", desc := "(I)I" } : Jvm.MethodName)) ∈ lw_tbl := lw_at lw_m7 103 rfl
theorem q1675 : (Jvm.Cond.instanceMethod ({ cls := "FirstPolls", name := "seatOf", desc := "(I)I" } : Jvm.MethodName)) ∈ lw_all := lw_g (lw_at lw_m7 104 rfl) rfl
theorem q1676 : (Jvm.Cond.code ({ cls := "FirstPolls", name := "seatOf", desc := "(I)I" } : Jvm.MethodName) prog_1_method_66_code (2 : Nat) (Option.some Jvm.ClassFile.FieldType.int)) ∈ lw_all := lw_g (lw_at lw_m7 105 rfl) rfl
theorem q1677 : (Jvm.Cond.methodLink "FirstPolls" (485 : Nat) ({ cls := "java/lang/Math", name := "max", desc := "(II)I" } : Jvm.MethodName)) ∈ lw_all := lw_g (lw_at lw_m7 106 rfl) rfl
theorem q1678 : (Jvm.Cond.methodLink "FirstPolls" (493 : Nat) ({ cls := "FirstPolls", name := "doesHang", desc := "(I)Z" } : Jvm.MethodName)) ∈ lw_all := lw_g (lw_at lw_m7 107 rfl) rfl
theorem q1679 : (Jvm.Cond.privateMethod ({ cls := "FirstPolls", name := "doesHang", desc := "(I)Z" } : Jvm.MethodName)) ∈ lw_tbl := lw_at lw_m7 108 rfl
theorem q1680 : (Jvm.Cond.instanceMethod ({ cls := "FirstPolls", name := "doesHang", desc := "(I)Z" } : Jvm.MethodName)) ∈ lw_all := lw_g (lw_at lw_m7 109 rfl) rfl
theorem q1681 : (Jvm.Cond.code ({ cls := "FirstPolls", name := "doesHang", desc := "(I)Z" } : Jvm.MethodName) prog_1_method_68_code (7 : Nat) (Option.some Jvm.ClassFile.FieldType.boolean)) ∈ lw_all := lw_g (lw_at lw_m7 110 rfl) rfl
theorem q1683 : (Jvm.Cond.instanceMethod ({ cls := "FirstPolls", name := "hidden", desc := "(IIIII)I" } : Jvm.MethodName)) ∈ lw_all := lw_g (lw_at lw_m7 112 rfl) rfl
theorem q1684 : (Jvm.Cond.selects "FirstPolls" ({ cls := "FirstPolls", name := "hidden", desc := "(IIIII)I" } : Jvm.MethodName) ({ cls := "FirstPolls", name := "hidden", desc := "(IIIII)I" } : Jvm.MethodName)) ∈ lw_all := lw_g (lw_at lw_m7 113 rfl) rfl
theorem q1685 : (Jvm.Cond.code ({ cls := "FirstPolls", name := "hidden", desc := "(IIIII)I" } : Jvm.MethodName) prog_1_method_72_code (8 : Nat) (Option.some Jvm.ClassFile.FieldType.int)) ∈ lw_all := lw_g (lw_at lw_m7 114 rfl) rfl
theorem q1686 : (Jvm.Cond.methodLink "FirstPolls" (499 : Nat) ({ cls := "FirstPolls", name := "hides", desc := "(II)V" } : Jvm.MethodName)) ∈ lw_all := lw_g (lw_at lw_m7 115 rfl) rfl
theorem q1687 : (Jvm.Cond.privateMethod ({ cls := "FirstPolls", name := "hides", desc := "(II)V" } : Jvm.MethodName)) ∈ lw_tbl := lw_at lw_m7 116 rfl
theorem q1688 : (Jvm.Cond.instanceMethod ({ cls := "FirstPolls", name := "hides", desc := "(II)V" } : Jvm.MethodName)) ∈ lw_all := lw_g (lw_at lw_m7 117 rfl) rfl
theorem q1689 : (Jvm.Cond.code ({ cls := "FirstPolls", name := "hides", desc := "(II)V" } : Jvm.MethodName) prog_1_method_71_code (8 : Nat) (Option.none : Option Jvm.ClassFile.FieldType)) ∈ lw_all := lw_g (lw_at lw_m7 118 rfl) rfl
theorem q1690 : (Jvm.Cond.methodLink "FirstPolls" (496 : Nat) ({ cls := "FirstPolls", name := "mayTell", desc := "(II)Z" } : Jvm.MethodName)) ∈ lw_all := lw_g (lw_at lw_m7 119 rfl) rfl
theorem q1691 : (Jvm.Cond.privateMethod ({ cls := "FirstPolls", name := "mayTell", desc := "(II)Z" } : Jvm.MethodName)) ∈ lw_tbl := lw_at lw_m7 120 rfl
theorem q1692 : (Jvm.Cond.instanceMethod ({ cls := "FirstPolls", name := "mayTell", desc := "(II)Z" } : Jvm.MethodName)) ∈ lw_all := lw_g (lw_at lw_m7 121 rfl) rfl
theorem q1693 : (Jvm.Cond.code ({ cls := "FirstPolls", name := "mayTell", desc := "(II)Z" } : Jvm.MethodName) prog_1_method_70_code (5 : Nat) (Option.some Jvm.ClassFile.FieldType.boolean)) ∈ lw_all := lw_g (lw_at lw_m7 122 rfl) rfl
theorem q1695 : (Jvm.Cond.instanceMethod ({ cls := "FirstPolls", name := "shares", desc := "(IIII)I" } : Jvm.MethodName)) ∈ lw_all := lw_g (lw_at lw_m7 124 rfl) rfl
theorem q1696 : (Jvm.Cond.selects "FirstPolls" ({ cls := "FirstPolls", name := "shares", desc := "(IIII)I" } : Jvm.MethodName) ({ cls := "FirstPolls", name := "shares", desc := "(IIII)I" } : Jvm.MethodName)) ∈ lw_all := lw_g (lw_at lw_m7 125 rfl) rfl
theorem q1697 : (Jvm.Cond.code ({ cls := "FirstPolls", name := "shares", desc := "(IIII)I" } : Jvm.MethodName) prog_1_method_73_code (11 : Nat) (Option.some Jvm.ClassFile.FieldType.int)) ∈ lw_all := lw_g (lw_at lw_m7 126 rfl) rfl
theorem q1698 : (Jvm.Cond.constantLong "FirstPolls" (502 : Nat) (-1 : Int64)) ∈ lw_all := lw_g (lw_at lw_m7 127 rfl) rfl
theorem q1700 : (Jvm.Cond.instanceMethod ({ cls := "FirstPolls", name := "terms", desc := "(II)I" } : Jvm.MethodName)) ∈ lw_all := lw_g (lw_at lw_m7 129 rfl) rfl
theorem q1701 : (Jvm.Cond.selects "FirstPolls" ({ cls := "FirstPolls", name := "terms", desc := "(II)I" } : Jvm.MethodName) ({ cls := "FirstPolls", name := "terms", desc := "(II)I" } : Jvm.MethodName)) ∈ lw_all := lw_g (lw_at lw_m7 130 rfl) rfl
theorem q1702 : (Jvm.Cond.code ({ cls := "FirstPolls", name := "terms", desc := "(II)I" } : Jvm.MethodName) prog_1_method_74_code (3 : Nat) (Option.some Jvm.ClassFile.FieldType.int)) ∈ lw_all := lw_g (lw_at lw_m7 131 rfl) rfl
theorem q1704 : (Jvm.Cond.instanceMethod ({ cls := "FirstPolls", name := "span", desc := "(III)I" } : Jvm.MethodName)) ∈ lw_all := lw_g (lw_at lw_m7 133 rfl) rfl
theorem q1705 : (Jvm.Cond.selects "FirstPolls" ({ cls := "FirstPolls", name := "span", desc := "(III)I" } : Jvm.MethodName) ({ cls := "FirstPolls", name := "span", desc := "(III)I" } : Jvm.MethodName)) ∈ lw_all := lw_g (lw_at lw_m7 134 rfl) rfl
theorem q1706 : (Jvm.Cond.code ({ cls := "FirstPolls", name := "span", desc := "(III)I" } : Jvm.MethodName) prog_1_method_75_code (4 : Nat) (Option.some Jvm.ClassFile.FieldType.int)) ∈ lw_all := lw_g (lw_at lw_m7 135 rfl) rfl
theorem q1708 : (Jvm.Cond.instanceMethod ({ cls := "FirstPolls", name := "way", desc := "(II)I" } : Jvm.MethodName)) ∈ lw_all := lw_g (lw_at lw_m7 137 rfl) rfl
theorem q1709 : (Jvm.Cond.selects "FirstPolls" ({ cls := "FirstPolls", name := "way", desc := "(II)I" } : Jvm.MethodName) ({ cls := "FirstPolls", name := "way", desc := "(II)I" } : Jvm.MethodName)) ∈ lw_all := lw_g (lw_at lw_m7 138 rfl) rfl
theorem q1710 : (Jvm.Cond.code ({ cls := "FirstPolls", name := "way", desc := "(II)I" } : Jvm.MethodName) prog_1_method_78_code (3 : Nat) (Option.some Jvm.ClassFile.FieldType.int)) ∈ lw_all := lw_g (lw_at lw_m7 139 rfl) rfl
theorem q1711 : (Jvm.Cond.methodLink "FirstPolls" (516 : Nat) ({ cls := "FirstPolls", name := "goes", desc := "(IIII)V" } : Jvm.MethodName)) ∈ lw_all := lw_g (lw_at lw_m7 140 rfl) rfl
theorem q1712 : (Jvm.Cond.privateMethod ({ cls := "FirstPolls", name := "goes", desc := "(IIII)V" } : Jvm.MethodName)) ∈ lw_tbl := lw_at lw_m7 141 rfl
theorem q1713 : (Jvm.Cond.instanceMethod ({ cls := "FirstPolls", name := "goes", desc := "(IIII)V" } : Jvm.MethodName)) ∈ lw_all := lw_g (lw_at lw_m7 142 rfl) rfl
theorem q1714 : (Jvm.Cond.code ({ cls := "FirstPolls", name := "goes", desc := "(IIII)V" } : Jvm.MethodName) prog_1_method_77_code (7 : Nat) (Option.none : Option Jvm.ClassFile.FieldType)) ∈ lw_all := lw_g (lw_at lw_m7 143 rfl) rfl
theorem q1715 : (Jvm.Cond.methodLink "FirstPolls" (513 : Nat) ({ cls := "FirstPolls", name := "daysOf", desc := "(II)I" } : Jvm.MethodName)) ∈ lw_all := lw_g (lw_at lw_m7 144 rfl) rfl
theorem q1716 : (Jvm.Cond.privateMethod ({ cls := "FirstPolls", name := "daysOf", desc := "(II)I" } : Jvm.MethodName)) ∈ lw_tbl := lw_at lw_m7 145 rfl
theorem q1717 : (Jvm.Cond.instanceMethod ({ cls := "FirstPolls", name := "daysOf", desc := "(II)I" } : Jvm.MethodName)) ∈ lw_all := lw_g (lw_at lw_m7 146 rfl) rfl
theorem q1718 : (Jvm.Cond.code ({ cls := "FirstPolls", name := "daysOf", desc := "(II)I" } : Jvm.MethodName) prog_1_method_76_code (3 : Nat) (Option.some Jvm.ClassFile.FieldType.int)) ∈ lw_all := lw_g (lw_at lw_m7 147 rfl) rfl
theorem q1720 : (Jvm.Cond.instanceMethod ({ cls := "FirstPolls", name := "leg", desc := "(II)I" } : Jvm.MethodName)) ∈ lw_all := lw_g (lw_at lw_m7 149 rfl) rfl
theorem q1721 : (Jvm.Cond.selects "FirstPolls" ({ cls := "FirstPolls", name := "leg", desc := "(II)I" } : Jvm.MethodName) ({ cls := "FirstPolls", name := "leg", desc := "(II)I" } : Jvm.MethodName)) ∈ lw_all := lw_g (lw_at lw_m7 150 rfl) rfl
theorem q1722 : (Jvm.Cond.code ({ cls := "FirstPolls", name := "leg", desc := "(II)I" } : Jvm.MethodName) prog_1_method_79_code (3 : Nat) (Option.some Jvm.ClassFile.FieldType.int)) ∈ lw_all := lw_g (lw_at lw_m7 151 rfl) rfl
theorem q1724 : (Jvm.Cond.instanceMethod ({ cls := "FirstPolls", name := "doors", desc := "(IIII)I" } : Jvm.MethodName)) ∈ lw_all := lw_g (lw_at lw_m7 153 rfl) rfl
theorem q1725 : (Jvm.Cond.selects "FirstPolls" ({ cls := "FirstPolls", name := "doors", desc := "(IIII)I" } : Jvm.MethodName) ({ cls := "FirstPolls", name := "doors", desc := "(IIII)I" } : Jvm.MethodName)) ∈ lw_all := lw_g (lw_at lw_m7 154 rfl) rfl
theorem q1726 : (Jvm.Cond.code ({ cls := "FirstPolls", name := "doors", desc := "(IIII)I" } : Jvm.MethodName) prog_1_method_82_code (7 : Nat) (Option.some Jvm.ClassFile.FieldType.int)) ∈ lw_all := lw_g (lw_at lw_m7 155 rfl) rfl
theorem q1727 : (Jvm.Cond.methodLink "FirstPolls" (526 : Nat) ({ cls := "java/lang/Math", name := "min", desc := "(II)I" } : Jvm.MethodName)) ∈ lw_all := lw_g (lw_at lw_m7 156 rfl) rfl
theorem q1728 : (Jvm.Cond.methodLink "FirstPolls" (529 : Nat) ({ cls := "FirstPolls", name := "mayBe", desc := "(IIII)Z" } : Jvm.MethodName)) ∈ lw_all := lw_g (lw_at lw_m7 157 rfl) rfl
theorem q1729 : (Jvm.Cond.static ({ cls := "FirstPolls", name := "mayBe", desc := "(IIII)Z" } : Jvm.MethodName)) ∈ lw_all := lw_g (lw_at lw_m7 158 rfl) rfl
theorem q1730 : (Jvm.Cond.code ({ cls := "FirstPolls", name := "mayBe", desc := "(IIII)Z" } : Jvm.MethodName) prog_1_method_81_code (11 : Nat) (Option.some Jvm.ClassFile.FieldType.boolean)) ∈ lw_all := lw_g (lw_at lw_m7 159 rfl) rfl
theorem q1731 : (Jvm.Cond.methodLink "FirstPolls" (520 : Nat) ({ cls := "FirstPolls", name := "chosen", desc := "(II)J" } : Jvm.MethodName)) ∈ lw_all := lw_g (lw_at lw_m7 160 rfl) rfl
theorem q1732 : (Jvm.Cond.static ({ cls := "FirstPolls", name := "chosen", desc := "(II)J" } : Jvm.MethodName)) ∈ lw_all := lw_g (lw_at lw_m7 161 rfl) rfl
theorem q1733 : (Jvm.Cond.code ({ cls := "FirstPolls", name := "chosen", desc := "(II)J" } : Jvm.MethodName) prog_1_method_80_code (5 : Nat) (Option.some Jvm.ClassFile.FieldType.long)) ∈ lw_all := lw_g (lw_at lw_m7 162 rfl) rfl
theorem q1734 : (Jvm.Cond.constantLong "FirstPolls" (524 : Nat) (20 : Int64)) ∈ lw_all := lw_g (lw_at lw_m7 163 rfl) rfl
theorem q1736 : (Jvm.Cond.instanceMethod ({ cls := "FirstPolls", name := "seal", desc := "(I)I" } : Jvm.MethodName)) ∈ lw_all := lw_g (lw_at lw_m7 165 rfl) rfl
theorem q1737 : (Jvm.Cond.selects "FirstPolls" ({ cls := "FirstPolls", name := "seal", desc := "(I)I" } : Jvm.MethodName) ({ cls := "FirstPolls", name := "seal", desc := "(I)I" } : Jvm.MethodName)) ∈ lw_all := lw_g (lw_at lw_m7 166 rfl) rfl
theorem q1738 : (Jvm.Cond.code ({ cls := "FirstPolls", name := "seal", desc := "(I)I" } : Jvm.MethodName) prog_1_method_85_code (2 : Nat) (Option.some Jvm.ClassFile.FieldType.int)) ∈ lw_all := lw_g (lw_at lw_m7 167 rfl) rfl
theorem q1739 : (Jvm.Cond.methodLink "FirstPolls" (545 : Nat) ({ cls := "FirstPolls", name := "adds", desc := "(I)V" } : Jvm.MethodName)) ∈ lw_all := lw_g (lw_at lw_m7 168 rfl) rfl
theorem q1740 : (Jvm.Cond.privateMethod ({ cls := "FirstPolls", name := "adds", desc := "(I)V" } : Jvm.MethodName)) ∈ lw_tbl := lw_at lw_m7 169 rfl
theorem q1741 : (Jvm.Cond.instanceMethod ({ cls := "FirstPolls", name := "adds", desc := "(I)V" } : Jvm.MethodName)) ∈ lw_all := lw_g (lw_at lw_m7 170 rfl) rfl
theorem q1742 : (Jvm.Cond.code ({ cls := "FirstPolls", name := "adds", desc := "(I)V" } : Jvm.MethodName) prog_1_method_84_code (3 : Nat) (Option.none : Option Jvm.ClassFile.FieldType)) ∈ lw_all := lw_g (lw_at lw_m7 171 rfl) rfl
theorem q1743 : (Jvm.Cond.methodLink "FirstPolls" (542 : Nat) ({ cls := "FirstPolls", name := "isOf", desc := "(II)Z" } : Jvm.MethodName)) ∈ lw_all := lw_g (lw_at lw_m7 172 rfl) rfl
theorem q1744 : (Jvm.Cond.privateMethod ({ cls := "FirstPolls", name := "isOf", desc := "(II)Z" } : Jvm.MethodName)) ∈ lw_tbl := lw_at lw_m7 173 rfl
theorem q1745 : (Jvm.Cond.instanceMethod ({ cls := "FirstPolls", name := "isOf", desc := "(II)Z" } : Jvm.MethodName)) ∈ lw_all := lw_g (lw_at lw_m7 174 rfl) rfl
theorem q1746 : (Jvm.Cond.code ({ cls := "FirstPolls", name := "isOf", desc := "(II)Z" } : Jvm.MethodName) prog_1_method_83_code (3 : Nat) (Option.some Jvm.ClassFile.FieldType.boolean)) ∈ lw_all := lw_g (lw_at lw_m7 175 rfl) rfl
theorem q1748 : (Jvm.Cond.instanceMethod ({ cls := "FirstPolls", name := "alter", desc := "(II)I" } : Jvm.MethodName)) ∈ lw_all := lw_g (lw_at lw_m7 177 rfl) rfl
theorem q1749 : (Jvm.Cond.selects "FirstPolls" ({ cls := "FirstPolls", name := "alter", desc := "(II)I" } : Jvm.MethodName) ({ cls := "FirstPolls", name := "alter", desc := "(II)I" } : Jvm.MethodName)) ∈ lw_all := lw_g (lw_at lw_m7 178 rfl) rfl
theorem q1750 : (Jvm.Cond.code ({ cls := "FirstPolls", name := "alter", desc := "(II)I" } : Jvm.MethodName) prog_1_method_86_code (3 : Nat) (Option.some Jvm.ClassFile.FieldType.int)) ∈ lw_all := lw_g (lw_at lw_m7 179 rfl) rfl
theorem q1752 : (Jvm.Cond.instanceMethod ({ cls := "FirstPolls", name := "found", desc := "(I)I" } : Jvm.MethodName)) ∈ lw_all := lw_g (lw_at lw_m7 181 rfl) rfl
theorem q1753 : (Jvm.Cond.selects "FirstPolls" ({ cls := "FirstPolls", name := "found", desc := "(I)I" } : Jvm.MethodName) ({ cls := "FirstPolls", name := "found", desc := "(I)I" } : Jvm.MethodName)) ∈ lw_all := lw_g (lw_at lw_m7 182 rfl) rfl
theorem q1754 : (Jvm.Cond.code ({ cls := "FirstPolls", name := "found", desc := "(I)I" } : Jvm.MethodName) prog_1_method_87_code (8 : Nat) (Option.some Jvm.ClassFile.FieldType.int)) ∈ lw_all := lw_g (lw_at lw_m7 183 rfl) rfl
theorem q1756 : (Jvm.Cond.instanceMethod ({ cls := "FirstPolls", name := "all", desc := "(I)I" } : Jvm.MethodName)) ∈ lw_all := lw_g (lw_at lw_m7 185 rfl) rfl
theorem q1757 : (Jvm.Cond.selects "FirstPolls" ({ cls := "FirstPolls", name := "all", desc := "(I)I" } : Jvm.MethodName) ({ cls := "FirstPolls", name := "all", desc := "(I)I" } : Jvm.MethodName)) ∈ lw_all := lw_g (lw_at lw_m7 186 rfl) rfl
theorem q1758 : (Jvm.Cond.code ({ cls := "FirstPolls", name := "all", desc := "(I)I" } : Jvm.MethodName) prog_1_method_88_code (2 : Nat) (Option.some Jvm.ClassFile.FieldType.int)) ∈ lw_all := lw_g (lw_at lw_m7 187 rfl) rfl
theorem q1760 : (Jvm.Cond.instanceMethod ({ cls := "FirstPolls", name := "status", desc := "()I" } : Jvm.MethodName)) ∈ lw_all := lw_g (lw_at lw_m7 189 rfl) rfl
theorem q1761 : (Jvm.Cond.selects "FirstPolls" ({ cls := "FirstPolls", name := "status", desc := "()I" } : Jvm.MethodName) ({ cls := "FirstPolls", name := "status", desc := "()I" } : Jvm.MethodName)) ∈ lw_all := lw_g (lw_at lw_m7 190 rfl) rfl
theorem q1762 : (Jvm.Cond.code ({ cls := "FirstPolls", name := "status", desc := "()I" } : Jvm.MethodName) prog_1_method_89_code (1 : Nat) (Option.some Jvm.ClassFile.FieldType.int)) ∈ lw_all := lw_g (lw_at lw_m7 191 rfl) rfl
theorem q2537 : (Jvm.Cond.castable "FirstPolls" "java/lang/Object") ∈ lw_tbl := lw_at lw_m11 6 rfl
theorem in_X0 : ∀ w ∈ wsX00, w ∈ lw_all := lw_in wsX00 [572, 574, 576, 578, 580, 582, 584, 586, 588, 590, 592, 594, 596, 598, 600, 602, 604, 606, 608, 610, 612, 614, 616, 618, 620, 622, 624, 626, 628, 630, 632, 634, 636, 638, 640, 642, 644, 646, 648] (by decide +kernel) (by decide +kernel)
theorem q133 : (Jvm.Cond.initialized "FirstPolls$Told") ∈ lw_all := lw_g (lw_at lw_m1 2 rfl) rfl
theorem q185 : (Jvm.Cond.instantiable "FirstPolls$Told" (27 : Nat)) ∈ lw_all := lw_g (lw_at lw_m1 54 rfl) rfl
theorem q187 : (Jvm.Cond.instanceMethod ({ cls := "FirstPolls$Told", name := "<init>", desc := "()V" } : Jvm.MethodName)) ∈ lw_all := lw_g (lw_at lw_m1 56 rfl) rfl
theorem q188 : (Jvm.Cond.code ({ cls := "FirstPolls$Told", name := "<init>", desc := "()V" } : Jvm.MethodName) prog_21_method_1_code (1 : Nat) (Option.none : Option Jvm.ClassFile.FieldType)) ∈ lw_all := lw_g (lw_at lw_m1 57 rfl) rfl
theorem q189 : (Jvm.Cond.methodLink "FirstPolls$Told" (3 : Nat) ({ cls := "java/lang/Object", name := "<init>", desc := "()V" } : Jvm.MethodName)) ∈ lw_all := lw_g (lw_at lw_m1 58 rfl) rfl
theorem q190 : (Jvm.Cond.classLink "FirstPolls$Told" (9 : Nat) "java/util/ArrayList") ∈ lw_all := lw_g (lw_at lw_m1 59 rfl) rfl
theorem q192 : (Jvm.Cond.methodLink "FirstPolls$Told" (11 : Nat) ({ cls := "java/util/ArrayList", name := "<init>", desc := "(I)V" } : Jvm.MethodName)) ∈ lw_all := lw_g (lw_at lw_m1 61 rfl) rfl
theorem q218 : (Jvm.Cond.fieldLink "FirstPolls$Told" (14 : Nat) "FirstPolls$Told" "orders" "Ljava/util/ArrayList;") ∈ lw_all := lw_g (lw_at lw_m1 87 rfl) rfl
theorem q221 : (Jvm.Cond.fieldLink "FirstPolls$Told" (20 : Nat) "FirstPolls$Told" "names" "Ljava/util/ArrayList;") ∈ lw_all := lw_g (lw_at lw_m1 90 rfl) rfl
theorem q224 : (Jvm.Cond.fieldLink "FirstPolls$Told" (23 : Nat) "FirstPolls$Told" "bars" "Ljava/util/ArrayList;") ∈ lw_all := lw_g (lw_at lw_m1 93 rfl) rfl
theorem q226 : (Jvm.Cond.fieldLink "FirstPolls$Told" (26 : Nat) "FirstPolls$Told" "hands" "Ljava/util/ArrayList;") ∈ lw_all := lw_g (lw_at lw_m1 95 rfl) rfl
theorem q228 : (Jvm.Cond.fieldLink "FirstPolls$Told" (29 : Nat) "FirstPolls$Told" "papers" "Ljava/util/ArrayList;") ∈ lw_all := lw_g (lw_at lw_m1 97 rfl) rfl
theorem q231 : (Jvm.Cond.fieldLink "FirstPolls$Told" (32 : Nat) "FirstPolls$Told" "counts" "Ljava/util/ArrayList;") ∈ lw_all := lw_g (lw_at lw_m1 100 rfl) rfl
theorem q234 : (Jvm.Cond.fieldLink "FirstPolls$Told" (35 : Nat) "FirstPolls$Told" "seat" "[I") ∈ lw_all := lw_g (lw_at lw_m1 103 rfl) rfl
theorem q237 : (Jvm.Cond.fieldLink "FirstPolls$Told" (39 : Nat) "FirstPolls$Told" "x" "[I") ∈ lw_all := lw_g (lw_at lw_m1 106 rfl) rfl
theorem q239 : (Jvm.Cond.fieldLink "FirstPolls$Told" (42 : Nat) "FirstPolls$Told" "y" "[I") ∈ lw_all := lw_g (lw_at lw_m1 108 rfl) rfl
theorem q241 : (Jvm.Cond.fieldLink "FirstPolls$Told" (45 : Nat) "FirstPolls$Told" "struckDay" "[I") ∈ lw_all := lw_g (lw_at lw_m1 110 rfl) rfl
theorem q244 : (Jvm.Cond.fieldLink "FirstPolls$Told" (48 : Nat) "FirstPolls$Told" "struckKnown" "[I") ∈ lw_all := lw_g (lw_at lw_m1 113 rfl) rfl
theorem q247 : (Jvm.Cond.fieldLink "FirstPolls$Told" (51 : Nat) "FirstPolls$Told" "movedTo" "[I") ∈ lw_all := lw_g (lw_at lw_m1 116 rfl) rfl
theorem q249 : (Jvm.Cond.fieldLink "FirstPolls$Told" (54 : Nat) "FirstPolls$Told" "movedDay" "[I") ∈ lw_all := lw_g (lw_at lw_m1 118 rfl) rfl
theorem q251 : (Jvm.Cond.fieldLink "FirstPolls$Told" (57 : Nat) "FirstPolls$Told" "movedKnown" "[I") ∈ lw_all := lw_g (lw_at lw_m1 120 rfl) rfl
theorem q253 : (Jvm.Cond.fieldLink "FirstPolls$Told" (60 : Nat) "FirstPolls$Told" "boothPlace" "[I") ∈ lw_all := lw_g (lw_at lw_m1 122 rfl) rfl
theorem q256 : (Jvm.Cond.fieldLink "FirstPolls$Told" (63 : Nat) "FirstPolls$Told" "boxBooth" "[I") ∈ lw_all := lw_g (lw_at lw_m1 125 rfl) rfl
theorem q259 : (Jvm.Cond.fieldLink "FirstPolls$Told" (66 : Nat) "FirstPolls$Told" "boxSeal" "[I") ∈ lw_all := lw_g (lw_at lw_m1 128 rfl) rfl
theorem q261 : (Jvm.Cond.fieldLink "FirstPolls$Told" (69 : Nat) "FirstPolls$Told" "numbers" "[I") ∈ lw_all := lw_g (lw_at lw_m1 130 rfl) rfl
theorem q264 : (Jvm.Cond.fieldLink "FirstPolls$Told" (72 : Nat) "FirstPolls$Told" "sealed" "[I") ∈ lw_all := lw_g (lw_at lw_m1 133 rfl) rfl
theorem q266 : (Jvm.Cond.fieldLink "FirstPolls$Told" (75 : Nat) "FirstPolls$Told" "sums" "[J") ∈ lw_all := lw_g (lw_at lw_m1 135 rfl) rfl
theorem q268 : (Jvm.Cond.fieldLink "FirstPolls$Told" (79 : Nat) "FirstPolls$Told" "weights" "[J") ∈ lw_all := lw_g (lw_at lw_m1 137 rfl) rfl
theorem q270 : (Jvm.Cond.fieldLink "FirstPolls$Told" (82 : Nat) "FirstPolls$Told" "kept" "[Z") ∈ lw_all := lw_g (lw_at lw_m1 139 rfl) rfl
theorem q272 : (Jvm.Cond.fieldLink "FirstPolls$Told" (111 : Nat) "FirstPolls$Told" "places" "I") ∈ lw_all := lw_g (lw_at lw_m1 141 rfl) rfl
theorem q275 : (Jvm.Cond.fieldLink "FirstPolls$Told" (114 : Nat) "FirstPolls$Told" "booths" "I") ∈ lw_all := lw_g (lw_at lw_m1 144 rfl) rfl
theorem q278 : (Jvm.Cond.fieldLink "FirstPolls$Told" (117 : Nat) "FirstPolls$Told" "boxes" "I") ∈ lw_all := lw_g (lw_at lw_m1 147 rfl) rfl
theorem q280 : (Jvm.Cond.fieldLink "FirstPolls$Told" (86 : Nat) "FirstPolls$Told" "pace" "I") ∈ lw_all := lw_g (lw_at lw_m1 149 rfl) rfl
theorem q282 : (Jvm.Cond.fieldLink "FirstPolls$Told" (120 : Nat) "FirstPolls$Told" "rivers" "I") ∈ lw_all := lw_g (lw_at lw_m1 151 rfl) rfl
theorem q284 : (Jvm.Cond.laysFinal "FirstPolls$Told" "FirstPolls$Told" "orders" "Ljava/util/ArrayList;") ∈ lw_all := lw_g (lw_at lw_m1 153 rfl) rfl
theorem q285 : (Jvm.Cond.soleField "FirstPolls$Told" "orders") ∈ lw_all := lw_g (lw_at lw_m1 154 rfl) rfl
theorem q286 : (Jvm.Cond.laysFinal "FirstPolls$Told" "FirstPolls$Told" "names" "Ljava/util/ArrayList;") ∈ lw_all := lw_g (lw_at lw_m1 155 rfl) rfl
theorem q287 : (Jvm.Cond.soleField "FirstPolls$Told" "names") ∈ lw_all := lw_g (lw_at lw_m1 156 rfl) rfl
theorem q288 : (Jvm.Cond.laysFinal "FirstPolls$Told" "FirstPolls$Told" "bars" "Ljava/util/ArrayList;") ∈ lw_all := lw_g (lw_at lw_m1 157 rfl) rfl
theorem q289 : (Jvm.Cond.soleField "FirstPolls$Told" "bars") ∈ lw_all := lw_g (lw_at lw_m1 158 rfl) rfl
theorem q290 : (Jvm.Cond.laysFinal "FirstPolls$Told" "FirstPolls$Told" "hands" "Ljava/util/ArrayList;") ∈ lw_all := lw_g (lw_at lw_m1 159 rfl) rfl
theorem q291 : (Jvm.Cond.soleField "FirstPolls$Told" "hands") ∈ lw_all := lw_g (lw_at lw_m1 160 rfl) rfl
theorem q292 : (Jvm.Cond.laysFinal "FirstPolls$Told" "FirstPolls$Told" "papers" "Ljava/util/ArrayList;") ∈ lw_all := lw_g (lw_at lw_m1 161 rfl) rfl
theorem q293 : (Jvm.Cond.soleField "FirstPolls$Told" "papers") ∈ lw_all := lw_g (lw_at lw_m1 162 rfl) rfl
theorem q294 : (Jvm.Cond.laysFinal "FirstPolls$Told" "FirstPolls$Told" "counts" "Ljava/util/ArrayList;") ∈ lw_all := lw_g (lw_at lw_m1 163 rfl) rfl
theorem q295 : (Jvm.Cond.soleField "FirstPolls$Told" "counts") ∈ lw_all := lw_g (lw_at lw_m1 164 rfl) rfl
theorem q296 : (Jvm.Cond.laysFinal "FirstPolls$Told" "FirstPolls$Told" "seat" "[I") ∈ lw_all := lw_g (lw_at lw_m1 165 rfl) rfl
theorem q297 : (Jvm.Cond.soleField "FirstPolls$Told" "seat") ∈ lw_all := lw_g (lw_at lw_m1 166 rfl) rfl
theorem q298 : (Jvm.Cond.laysFinal "FirstPolls$Told" "FirstPolls$Told" "x" "[I") ∈ lw_all := lw_g (lw_at lw_m1 167 rfl) rfl
theorem q299 : (Jvm.Cond.soleField "FirstPolls$Told" "x") ∈ lw_all := lw_g (lw_at lw_m1 168 rfl) rfl
theorem q300 : (Jvm.Cond.laysFinal "FirstPolls$Told" "FirstPolls$Told" "y" "[I") ∈ lw_all := lw_g (lw_at lw_m1 169 rfl) rfl
theorem q301 : (Jvm.Cond.soleField "FirstPolls$Told" "y") ∈ lw_all := lw_g (lw_at lw_m1 170 rfl) rfl
theorem q302 : (Jvm.Cond.laysFinal "FirstPolls$Told" "FirstPolls$Told" "struckDay" "[I") ∈ lw_all := lw_g (lw_at lw_m1 171 rfl) rfl
theorem q303 : (Jvm.Cond.soleField "FirstPolls$Told" "struckDay") ∈ lw_all := lw_g (lw_at lw_m1 172 rfl) rfl
theorem q304 : (Jvm.Cond.laysFinal "FirstPolls$Told" "FirstPolls$Told" "struckKnown" "[I") ∈ lw_all := lw_g (lw_at lw_m1 173 rfl) rfl
theorem q305 : (Jvm.Cond.soleField "FirstPolls$Told" "struckKnown") ∈ lw_all := lw_g (lw_at lw_m1 174 rfl) rfl
theorem q306 : (Jvm.Cond.laysFinal "FirstPolls$Told" "FirstPolls$Told" "movedTo" "[I") ∈ lw_all := lw_g (lw_at lw_m1 175 rfl) rfl
theorem q307 : (Jvm.Cond.soleField "FirstPolls$Told" "movedTo") ∈ lw_all := lw_g (lw_at lw_m1 176 rfl) rfl
theorem q308 : (Jvm.Cond.laysFinal "FirstPolls$Told" "FirstPolls$Told" "movedDay" "[I") ∈ lw_all := lw_g (lw_at lw_m1 177 rfl) rfl
theorem q309 : (Jvm.Cond.soleField "FirstPolls$Told" "movedDay") ∈ lw_all := lw_g (lw_at lw_m1 178 rfl) rfl
theorem q310 : (Jvm.Cond.laysFinal "FirstPolls$Told" "FirstPolls$Told" "movedKnown" "[I") ∈ lw_all := lw_g (lw_at lw_m1 179 rfl) rfl
theorem q311 : (Jvm.Cond.soleField "FirstPolls$Told" "movedKnown") ∈ lw_all := lw_g (lw_at lw_m1 180 rfl) rfl
theorem q312 : (Jvm.Cond.laysFinal "FirstPolls$Told" "FirstPolls$Told" "boothPlace" "[I") ∈ lw_all := lw_g (lw_at lw_m1 181 rfl) rfl
theorem q313 : (Jvm.Cond.soleField "FirstPolls$Told" "boothPlace") ∈ lw_all := lw_g (lw_at lw_m1 182 rfl) rfl
theorem q314 : (Jvm.Cond.laysFinal "FirstPolls$Told" "FirstPolls$Told" "boxBooth" "[I") ∈ lw_all := lw_g (lw_at lw_m1 183 rfl) rfl
theorem q315 : (Jvm.Cond.soleField "FirstPolls$Told" "boxBooth") ∈ lw_all := lw_g (lw_at lw_m1 184 rfl) rfl
theorem q316 : (Jvm.Cond.laysFinal "FirstPolls$Told" "FirstPolls$Told" "boxSeal" "[I") ∈ lw_all := lw_g (lw_at lw_m1 185 rfl) rfl
theorem q317 : (Jvm.Cond.soleField "FirstPolls$Told" "boxSeal") ∈ lw_all := lw_g (lw_at lw_m1 186 rfl) rfl
theorem q318 : (Jvm.Cond.laysFinal "FirstPolls$Told" "FirstPolls$Told" "numbers" "[I") ∈ lw_all := lw_g (lw_at lw_m1 187 rfl) rfl
theorem q319 : (Jvm.Cond.soleField "FirstPolls$Told" "numbers") ∈ lw_all := lw_g (lw_at lw_m1 188 rfl) rfl
theorem q320 : (Jvm.Cond.laysFinal "FirstPolls$Told" "FirstPolls$Told" "sealed" "[I") ∈ lw_all := lw_g (lw_at lw_m1 189 rfl) rfl
theorem q321 : (Jvm.Cond.soleField "FirstPolls$Told" "sealed") ∈ lw_all := lw_g (lw_at lw_m1 190 rfl) rfl
theorem q322 : (Jvm.Cond.laysFinal "FirstPolls$Told" "FirstPolls$Told" "sums" "[J") ∈ lw_all := lw_g (lw_at lw_m1 191 rfl) rfl
theorem q323 : (Jvm.Cond.soleField "FirstPolls$Told" "sums") ∈ lw_all := lw_g (lw_at lw_m1 192 rfl) rfl
theorem q324 : (Jvm.Cond.laysFinal "FirstPolls$Told" "FirstPolls$Told" "weights" "[J") ∈ lw_all := lw_g (lw_at lw_m1 193 rfl) rfl
theorem q325 : (Jvm.Cond.soleField "FirstPolls$Told" "weights") ∈ lw_all := lw_g (lw_at lw_m1 194 rfl) rfl
theorem q326 : (Jvm.Cond.laysFinal "FirstPolls$Told" "FirstPolls$Told" "kept" "[Z") ∈ lw_all := lw_g (lw_at lw_m1 195 rfl) rfl
theorem q327 : (Jvm.Cond.soleField "FirstPolls$Told" "kept") ∈ lw_all := lw_g (lw_at lw_m1 196 rfl) rfl
theorem q328 : (Jvm.Cond.lays "FirstPolls$Told" "FirstPolls$Told" "places" "I") ∈ lw_all := lw_g (lw_at lw_m1 197 rfl) rfl
theorem q329 : (Jvm.Cond.soleField "FirstPolls$Told" "places") ∈ lw_all := lw_g (lw_at lw_m1 198 rfl) rfl
theorem q330 : (Jvm.Cond.lays "FirstPolls$Told" "FirstPolls$Told" "booths" "I") ∈ lw_all := lw_g (lw_at lw_m1 199 rfl) rfl
theorem q331 : (Jvm.Cond.soleField "FirstPolls$Told" "booths") ∈ lw_all := lw_g (lw_at lw_m1 200 rfl) rfl
theorem q332 : (Jvm.Cond.lays "FirstPolls$Told" "FirstPolls$Told" "boxes" "I") ∈ lw_all := lw_g (lw_at lw_m1 201 rfl) rfl
theorem q333 : (Jvm.Cond.soleField "FirstPolls$Told" "boxes") ∈ lw_all := lw_g (lw_at lw_m1 202 rfl) rfl
theorem q334 : (Jvm.Cond.lays "FirstPolls$Told" "FirstPolls$Told" "pace" "I") ∈ lw_all := lw_g (lw_at lw_m1 203 rfl) rfl
theorem q335 : (Jvm.Cond.soleField "FirstPolls$Told" "pace") ∈ lw_all := lw_g (lw_at lw_m1 204 rfl) rfl
theorem q336 : (Jvm.Cond.lays "FirstPolls$Told" "FirstPolls$Told" "rivers" "I") ∈ lw_all := lw_g (lw_at lw_m1 205 rfl) rfl
theorem q337 : (Jvm.Cond.soleField "FirstPolls$Told" "rivers") ∈ lw_all := lw_g (lw_at lw_m1 206 rfl) rfl
theorem q338 : (Jvm.Cond.superclass "FirstPolls$Told" "java/lang/Object") ∈ lw_all := lw_g (lw_at lw_m1 207 rfl) rfl
theorem q663 : (Jvm.Cond.instanceMethod ({ cls := "FirstPolls$Told", name := "takes", desc := "(LFirstPolls$Told;)V" } : Jvm.MethodName)) ∈ lw_all := lw_g (lw_at lw_m3 52 rfl) rfl
theorem q664 : (Jvm.Cond.selects "FirstPolls$Told" ({ cls := "FirstPolls$Told", name := "takes", desc := "(LFirstPolls$Told;)V" } : Jvm.MethodName) ({ cls := "FirstPolls$Told", name := "takes", desc := "(LFirstPolls$Told;)V" } : Jvm.MethodName)) ∈ lw_all := lw_g (lw_at lw_m3 53 rfl) rfl
theorem q665 : (Jvm.Cond.code ({ cls := "FirstPolls$Told", name := "takes", desc := "(LFirstPolls$Told;)V" } : Jvm.MethodName) prog_21_method_4_code (2 : Nat) (Option.none : Option Jvm.ClassFile.FieldType)) ∈ lw_all := lw_g (lw_at lw_m3 54 rfl) rfl
theorem q666 : (Jvm.Cond.methodLink "FirstPolls$Told" (103 : Nat) ({ cls := "FirstPolls$Told", name := "over", desc := "(Ljava/util/ArrayList;Ljava/util/ArrayList;)V" } : Jvm.MethodName)) ∈ lw_all := lw_g (lw_at lw_m3 55 rfl) rfl
theorem q667 : (Jvm.Cond.static ({ cls := "FirstPolls$Told", name := "over", desc := "(Ljava/util/ArrayList;Ljava/util/ArrayList;)V" } : Jvm.MethodName)) ∈ lw_all := lw_g (lw_at lw_m3 56 rfl) rfl
theorem q668 : (Jvm.Cond.code ({ cls := "FirstPolls$Told", name := "over", desc := "(Ljava/util/ArrayList;Ljava/util/ArrayList;)V" } : Jvm.MethodName) prog_21_method_2_code (2 : Nat) (Option.none : Option Jvm.ClassFile.FieldType)) ∈ lw_all := lw_g (lw_at lw_m3 57 rfl) rfl
theorem q669 : (Jvm.Cond.methodLink "FirstPolls$Told" (90 : Nat) ({ cls := "java/util/ArrayList", name := "clear", desc := "()V" } : Jvm.MethodName)) ∈ lw_all := lw_g (lw_at lw_m3 58 rfl) rfl
theorem q673 : (Jvm.Cond.methodLink "FirstPolls$Told" (93 : Nat) ({ cls := "java/util/ArrayList", name := "addAll", desc := "(Ljava/util/Collection;)Z" } : Jvm.MethodName)) ∈ lw_all := lw_g (lw_at lw_m3 62 rfl) rfl
theorem q711 : (Jvm.Cond.selects "FirstPolls$Told" ({ cls := "java/lang/Object", name := "getClass", desc := "()Ljava/lang/Class;" } : Jvm.MethodName) ({ cls := "java/lang/Object", name := "getClass", desc := "()Ljava/lang/Class;" } : Jvm.MethodName)) ∈ lw_all := lw_g (lw_at lw_m3 100 rfl) rfl
theorem q749 : (Jvm.Cond.methodLink "FirstPolls$Told" (107 : Nat) ({ cls := "FirstPolls$Told", name := "rows", desc := "([I[I)V" } : Jvm.MethodName)) ∈ lw_all := lw_g (lw_at lw_m3 138 rfl) rfl
theorem q750 : (Jvm.Cond.static ({ cls := "FirstPolls$Told", name := "rows", desc := "([I[I)V" } : Jvm.MethodName)) ∈ lw_all := lw_g (lw_at lw_m3 139 rfl) rfl
theorem q751 : (Jvm.Cond.code ({ cls := "FirstPolls$Told", name := "rows", desc := "([I[I)V" } : Jvm.MethodName) prog_21_method_3_code (2 : Nat) (Option.none : Option Jvm.ClassFile.FieldType)) ∈ lw_all := lw_g (lw_at lw_m3 140 rfl) rfl
theorem q752 : (Jvm.Cond.methodLink "FirstPolls$Told" (97 : Nat) ({ cls := "java/lang/System", name := "arraycopy", desc := "(Ljava/lang/Object;ILjava/lang/Object;II)V" } : Jvm.MethodName)) ∈ lw_all := lw_g (lw_at lw_m3 141 rfl) rfl
theorem q1565 : (Jvm.Cond.instanceMethod ({ cls := "FirstPolls$Told", name := "far", desc := "(II)I" } : Jvm.MethodName)) ∈ lw_all := lw_g (lw_at lw_m6 234 rfl) rfl
theorem q1566 : (Jvm.Cond.selects "FirstPolls$Told" ({ cls := "FirstPolls$Told", name := "far", desc := "(II)I" } : Jvm.MethodName) ({ cls := "FirstPolls$Told", name := "far", desc := "(II)I" } : Jvm.MethodName)) ∈ lw_all := lw_g (lw_at lw_m6 235 rfl) rfl
theorem q1567 : (Jvm.Cond.code ({ cls := "FirstPolls$Told", name := "far", desc := "(II)I" } : Jvm.MethodName) prog_21_method_5_code (3 : Nat) (Option.some Jvm.ClassFile.FieldType.int)) ∈ lw_all := lw_g (lw_at lw_m6 236 rfl) rfl
theorem q1568 : (Jvm.Cond.methodLink "FirstPolls$Told" (123 : Nat) ({ cls := "java/lang/Math", name := "abs", desc := "(I)I" } : Jvm.MethodName)) ∈ lw_all := lw_g (lw_at lw_m6 237 rfl) rfl
theorem q2536 : (Jvm.Cond.castable "FirstPolls$Told" "java/lang/Object") ∈ lw_tbl := lw_at lw_m11 5 rfl
theorem in_X1 : ∀ w ∈ wsX10, w ∈ lw_all := lw_in wsX10 [284, 286, 288, 290, 292, 294, 296, 298, 300, 302, 304, 306, 308, 310, 312, 314, 316, 318, 320, 322, 324, 326, 328, 330, 332, 334, 336] (by decide +kernel) (by decide +kernel)
theorem q134 : (Jvm.Cond.initialized "java/util/AbstractCollection") ∈ lw_all := lw_g (lw_at lw_m1 3 rfl) rfl
theorem q199 : (Jvm.Cond.instanceMethod ({ cls := "java/util/AbstractCollection", name := "<init>", desc := "()V" } : Jvm.MethodName)) ∈ lw_all := lw_g (lw_at lw_m1 68 rfl) rfl
theorem q200 : (Jvm.Cond.code ({ cls := "java/util/AbstractCollection", name := "<init>", desc := "()V" } : Jvm.MethodName) prog_46_method_1_code (1 : Nat) (Option.none : Option Jvm.ClassFile.FieldType)) ∈ lw_all := lw_g (lw_at lw_m1 69 rfl) rfl
theorem q201 : (Jvm.Cond.methodLink "java/util/AbstractCollection" (1 : Nat) ({ cls := "java/lang/Object", name := "<init>", desc := "()V" } : Jvm.MethodName)) ∈ lw_all := lw_g (lw_at lw_m1 70 rfl) rfl
theorem q135 : (Jvm.Cond.initialized "java/util/AbstractList") ∈ lw_all := lw_g (lw_at lw_m1 4 rfl) rfl
theorem q196 : (Jvm.Cond.instanceMethod ({ cls := "java/util/AbstractList", name := "<init>", desc := "()V" } : Jvm.MethodName)) ∈ lw_all := lw_g (lw_at lw_m1 65 rfl) rfl
theorem q197 : (Jvm.Cond.code ({ cls := "java/util/AbstractList", name := "<init>", desc := "()V" } : Jvm.MethodName) prog_47_method_1_code (1 : Nat) (Option.none : Option Jvm.ClassFile.FieldType)) ∈ lw_all := lw_g (lw_at lw_m1 66 rfl) rfl
theorem q198 : (Jvm.Cond.methodLink "java/util/AbstractList" (1 : Nat) ({ cls := "java/util/AbstractCollection", name := "<init>", desc := "()V" } : Jvm.MethodName)) ∈ lw_all := lw_g (lw_at lw_m1 67 rfl) rfl
theorem q208 : (Jvm.Cond.fieldLink "java/util/AbstractList" (7 : Nat) "java/util/AbstractList" "modCount" "I") ∈ lw_all := lw_g (lw_at lw_m1 77 rfl) rfl
theorem q216 : (Jvm.Cond.soleField "java/util/AbstractList" "modCount") ∈ lw_all := lw_g (lw_at lw_m1 85 rfl) rfl
theorem q136 : (Jvm.Cond.initialized "java/util/ArrayList") ∈ lw_all := lw_g (lw_at lw_m1 5 rfl) rfl
theorem q191 : (Jvm.Cond.instantiable "java/util/ArrayList" (3 : Nat)) ∈ lw_all := lw_g (lw_at lw_m1 60 rfl) rfl
theorem q193 : (Jvm.Cond.instanceMethod ({ cls := "java/util/ArrayList", name := "<init>", desc := "(I)V" } : Jvm.MethodName)) ∈ lw_all := lw_g (lw_at lw_m1 62 rfl) rfl
theorem q194 : (Jvm.Cond.code ({ cls := "java/util/ArrayList", name := "<init>", desc := "(I)V" } : Jvm.MethodName) prog_48_method_1_code (2 : Nat) (Option.none : Option Jvm.ClassFile.FieldType)) ∈ lw_all := lw_g (lw_at lw_m1 63 rfl) rfl
theorem q195 : (Jvm.Cond.methodLink "java/util/ArrayList" (1 : Nat) ({ cls := "java/util/AbstractList", name := "<init>", desc := "()V" } : Jvm.MethodName)) ∈ lw_all := lw_g (lw_at lw_m1 64 rfl) rfl
theorem q202 : (Jvm.Cond.classLink "java/util/ArrayList" (7 : Nat) "java/lang/Object") ∈ lw_all := lw_g (lw_at lw_m1 71 rfl) rfl
theorem q204 : (Jvm.Cond.fieldLink "java/util/ArrayList" (15 : Nat) "java/util/ArrayList" "EMPTY_ELEMENTDATA" "[Ljava/lang/Object;") ∈ lw_all := lw_g (lw_at lw_m1 73 rfl) rfl
theorem q205 : (Jvm.Cond.laysStatic "java/util/ArrayList" "EMPTY_ELEMENTDATA" "[Ljava/lang/Object;") ∈ lw_tbl := lw_at lw_m1 74 rfl
theorem q206 : (Jvm.Cond.fieldLink "java/util/ArrayList" (9 : Nat) "java/util/ArrayList" "elementData" "[Ljava/lang/Object;") ∈ lw_all := lw_g (lw_at lw_m1 75 rfl) rfl
theorem q207 : (Jvm.Cond.fieldLink "java/util/ArrayList" (48 : Nat) "java/util/ArrayList" "size" "I") ∈ lw_all := lw_g (lw_at lw_m1 76 rfl) rfl
theorem q209 : (Jvm.Cond.fieldLink "java/util/ArrayList" (63 : Nat) "java/util/ArrayList" "modCount" "I") ∈ lw_all := lw_g (lw_at lw_m1 78 rfl) rfl
theorem q210 : (Jvm.Cond.sameField "java/util/ArrayList" "java/util/AbstractList" "modCount" "I") ∈ lw_all := lw_g (lw_at lw_m1 79 rfl) rfl
theorem q211 : (Jvm.Cond.lays "java/util/ArrayList" "java/util/ArrayList" "elementData" "[Ljava/lang/Object;") ∈ lw_all := lw_g (lw_at lw_m1 80 rfl) rfl
theorem q212 : (Jvm.Cond.soleField "java/util/ArrayList" "elementData") ∈ lw_all := lw_g (lw_at lw_m1 81 rfl) rfl
theorem q213 : (Jvm.Cond.lays "java/util/ArrayList" "java/util/ArrayList" "size" "I") ∈ lw_all := lw_g (lw_at lw_m1 82 rfl) rfl
theorem q214 : (Jvm.Cond.soleField "java/util/ArrayList" "size") ∈ lw_all := lw_g (lw_at lw_m1 83 rfl) rfl
theorem q215 : (Jvm.Cond.lays "java/util/ArrayList" "java/util/AbstractList" "modCount" "I") ∈ lw_all := lw_g (lw_at lw_m1 84 rfl) rfl
theorem q217 : (Jvm.Cond.superclass "java/util/ArrayList" "java/util/AbstractList") ∈ lw_all := lw_g (lw_at lw_m1 86 rfl) rfl
theorem q670 : (Jvm.Cond.instanceMethod ({ cls := "java/util/ArrayList", name := "clear", desc := "()V" } : Jvm.MethodName)) ∈ lw_all := lw_g (lw_at lw_m3 59 rfl) rfl
theorem q671 : (Jvm.Cond.selects "java/util/ArrayList" ({ cls := "java/util/ArrayList", name := "clear", desc := "()V" } : Jvm.MethodName) ({ cls := "java/util/ArrayList", name := "clear", desc := "()V" } : Jvm.MethodName)) ∈ lw_all := lw_g (lw_at lw_m3 60 rfl) rfl
theorem q672 : (Jvm.Cond.code ({ cls := "java/util/ArrayList", name := "clear", desc := "()V" } : Jvm.MethodName) prog_48_method_40_code (4 : Nat) (Option.none : Option Jvm.ClassFile.FieldType)) ∈ lw_all := lw_g (lw_at lw_m3 61 rfl) rfl
theorem q674 : (Jvm.Cond.instanceMethod ({ cls := "java/util/ArrayList", name := "addAll", desc := "(Ljava/util/Collection;)Z" } : Jvm.MethodName)) ∈ lw_all := lw_g (lw_at lw_m3 63 rfl) rfl
theorem q675 : (Jvm.Cond.selects "java/util/ArrayList" ({ cls := "java/util/ArrayList", name := "addAll", desc := "(Ljava/util/Collection;)Z" } : Jvm.MethodName) ({ cls := "java/util/ArrayList", name := "addAll", desc := "(Ljava/util/Collection;)Z" } : Jvm.MethodName)) ∈ lw_all := lw_g (lw_at lw_m3 64 rfl) rfl
theorem q676 : (Jvm.Cond.code ({ cls := "java/util/ArrayList", name := "addAll", desc := "(Ljava/util/Collection;)Z" } : Jvm.MethodName) prog_48_method_41_code (6 : Nat) (Option.some Jvm.ClassFile.FieldType.boolean)) ∈ lw_all := lw_g (lw_at lw_m3 65 rfl) rfl
theorem q677 : (Jvm.Cond.interfaceEntry "java/util/ArrayList" (42 : Nat)) ∈ lw_tbl := lw_at lw_m3 66 rfl
theorem q678 : (Jvm.Cond.methodLink "java/util/ArrayList" (42 : Nat) ({ cls := "java/util/Collection", name := "toArray", desc := "()[Ljava/lang/Object;" } : Jvm.MethodName)) ∈ lw_all := lw_g (lw_at lw_m3 67 rfl) rfl
theorem q681 : (Jvm.Cond.castable "java/util/ArrayList" "java/util/Collection") ∈ lw_tbl := lw_at lw_m3 70 rfl
theorem q682 : (Jvm.Cond.selects "java/util/ArrayList" ({ cls := "java/util/Collection", name := "toArray", desc := "()[Ljava/lang/Object;" } : Jvm.MethodName) ({ cls := "java/util/ArrayList", name := "toArray", desc := "()[Ljava/lang/Object;" } : Jvm.MethodName)) ∈ lw_all := lw_g (lw_at lw_m3 71 rfl) rfl
theorem q683 : (Jvm.Cond.unhidden "java/util/ArrayList" "toArray" "()[Ljava/lang/Object;") ∈ lw_tbl := lw_at lw_m3 72 rfl
theorem q684 : (Jvm.Cond.instanceMethod ({ cls := "java/util/ArrayList", name := "toArray", desc := "()[Ljava/lang/Object;" } : Jvm.MethodName)) ∈ lw_all := lw_g (lw_at lw_m3 73 rfl) rfl
theorem q685 : (Jvm.Cond.publicMethod ({ cls := "java/util/ArrayList", name := "toArray", desc := "()[Ljava/lang/Object;" } : Jvm.MethodName)) ∈ lw_tbl := lw_at lw_m3 74 rfl
theorem q686 : (Jvm.Cond.code ({ cls := "java/util/ArrayList", name := "toArray", desc := "()[Ljava/lang/Object;" } : Jvm.MethodName) prog_48_method_16_code (1 : Nat) (Option.some (Jvm.ClassFile.FieldType.array (Jvm.ClassFile.FieldType.object "java/lang/Object")))) ∈ lw_all := lw_g (lw_at lw_m3 75 rfl) rfl
theorem q687 : (Jvm.Cond.methodLink "java/util/ArrayList" (66 : Nat) ({ cls := "java/util/Arrays", name := "copyOf", desc := "([Ljava/lang/Object;I)[Ljava/lang/Object;" } : Jvm.MethodName)) ∈ lw_all := lw_g (lw_at lw_m3 76 rfl) rfl
theorem q718 : (Jvm.Cond.selects "java/util/ArrayList" ({ cls := "java/lang/Object", name := "getClass", desc := "()Ljava/lang/Class;" } : Jvm.MethodName) ({ cls := "java/lang/Object", name := "getClass", desc := "()Ljava/lang/Class;" } : Jvm.MethodName)) ∈ lw_all := lw_g (lw_at lw_m3 107 rfl) rfl
theorem q731 : (Jvm.Cond.methodLink "java/util/ArrayList" (69 : Nat) ({ cls := "java/util/ArrayList", name := "grow", desc := "(I)[Ljava/lang/Object;" } : Jvm.MethodName)) ∈ lw_all := lw_g (lw_at lw_m3 120 rfl) rfl
theorem q732 : (Jvm.Cond.privateMethod ({ cls := "java/util/ArrayList", name := "grow", desc := "(I)[Ljava/lang/Object;" } : Jvm.MethodName)) ∈ lw_tbl := lw_at lw_m3 121 rfl
theorem q733 : (Jvm.Cond.instanceMethod ({ cls := "java/util/ArrayList", name := "grow", desc := "(I)[Ljava/lang/Object;" } : Jvm.MethodName)) ∈ lw_all := lw_g (lw_at lw_m3 122 rfl) rfl
theorem q734 : (Jvm.Cond.code ({ cls := "java/util/ArrayList", name := "grow", desc := "(I)[Ljava/lang/Object;" } : Jvm.MethodName) prog_48_method_6_code (4 : Nat) (Option.some (Jvm.ClassFile.FieldType.array (Jvm.ClassFile.FieldType.object "java/lang/Object")))) ∈ lw_all := lw_g (lw_at lw_m3 123 rfl) rfl
theorem q735 : (Jvm.Cond.fieldLink "java/util/ArrayList" (39 : Nat) "java/util/ArrayList" "DEFAULTCAPACITY_EMPTY_ELEMENTDATA" "[Ljava/lang/Object;") ∈ lw_all := lw_g (lw_at lw_m3 124 rfl) rfl
theorem q736 : (Jvm.Cond.laysStatic "java/util/ArrayList" "DEFAULTCAPACITY_EMPTY_ELEMENTDATA" "[Ljava/lang/Object;") ∈ lw_tbl := lw_at lw_m3 125 rfl
theorem q737 : (Jvm.Cond.methodLink "java/util/ArrayList" (73 : Nat) ({ cls := "jdk/internal/util/ArraysSupport", name := "newLength", desc := "(III)I" } : Jvm.MethodName)) ∈ lw_all := lw_g (lw_at lw_m3 126 rfl) rfl
theorem q747 : (Jvm.Cond.methodLink "java/util/ArrayList" (79 : Nat) ({ cls := "java/lang/Math", name := "max", desc := "(II)I" } : Jvm.MethodName)) ∈ lw_all := lw_g (lw_at lw_m3 136 rfl) rfl
theorem q748 : (Jvm.Cond.methodLink "java/util/ArrayList" (112 : Nat) ({ cls := "java/lang/System", name := "arraycopy", desc := "(Ljava/lang/Object;ILjava/lang/Object;II)V" } : Jvm.MethodName)) ∈ lw_all := lw_g (lw_at lw_m3 137 rfl) rfl
theorem q787 : (Jvm.Cond.instanceMethod ({ cls := "java/util/ArrayList", name := "size", desc := "()I" } : Jvm.MethodName)) ∈ lw_all := lw_g (lw_at lw_m3 176 rfl) rfl
theorem q788 : (Jvm.Cond.selects "java/util/ArrayList" ({ cls := "java/util/ArrayList", name := "size", desc := "()I" } : Jvm.MethodName) ({ cls := "java/util/ArrayList", name := "size", desc := "()I" } : Jvm.MethodName)) ∈ lw_all := lw_g (lw_at lw_m3 177 rfl) rfl
theorem q789 : (Jvm.Cond.code ({ cls := "java/util/ArrayList", name := "size", desc := "()I" } : Jvm.MethodName) prog_48_method_8_code (1 : Nat) (Option.some Jvm.ClassFile.FieldType.int)) ∈ lw_all := lw_g (lw_at lw_m3 178 rfl) rfl
theorem q825 : (Jvm.Cond.instanceMethod ({ cls := "java/util/ArrayList", name := "add", desc := "(Ljava/lang/Object;)Z" } : Jvm.MethodName)) ∈ lw_all := lw_g (lw_at lw_m3 214 rfl) rfl
theorem q826 : (Jvm.Cond.selects "java/util/ArrayList" ({ cls := "java/util/ArrayList", name := "add", desc := "(Ljava/lang/Object;)Z" } : Jvm.MethodName) ({ cls := "java/util/ArrayList", name := "add", desc := "(Ljava/lang/Object;)Z" } : Jvm.MethodName)) ∈ lw_all := lw_g (lw_at lw_m3 215 rfl) rfl
theorem q827 : (Jvm.Cond.code ({ cls := "java/util/ArrayList", name := "add", desc := "(Ljava/lang/Object;)Z" } : Jvm.MethodName) prog_48_method_25_code (2 : Nat) (Option.some Jvm.ClassFile.FieldType.boolean)) ∈ lw_all := lw_g (lw_at lw_m3 216 rfl) rfl
theorem q828 : (Jvm.Cond.methodLink "java/util/ArrayList" (131 : Nat) ({ cls := "java/util/ArrayList", name := "add", desc := "(Ljava/lang/Object;[Ljava/lang/Object;I)V" } : Jvm.MethodName)) ∈ lw_all := lw_g (lw_at lw_m3 217 rfl) rfl
theorem q829 : (Jvm.Cond.privateMethod ({ cls := "java/util/ArrayList", name := "add", desc := "(Ljava/lang/Object;[Ljava/lang/Object;I)V" } : Jvm.MethodName)) ∈ lw_tbl := lw_at lw_m3 218 rfl
theorem q830 : (Jvm.Cond.instanceMethod ({ cls := "java/util/ArrayList", name := "add", desc := "(Ljava/lang/Object;[Ljava/lang/Object;I)V" } : Jvm.MethodName)) ∈ lw_all := lw_g (lw_at lw_m3 219 rfl) rfl
theorem q831 : (Jvm.Cond.code ({ cls := "java/util/ArrayList", name := "add", desc := "(Ljava/lang/Object;[Ljava/lang/Object;I)V" } : Jvm.MethodName) prog_48_method_24_code (4 : Nat) (Option.none : Option Jvm.ClassFile.FieldType)) ∈ lw_all := lw_g (lw_at lw_m3 220 rfl) rfl
theorem q832 : (Jvm.Cond.methodLink "java/util/ArrayList" (129 : Nat) ({ cls := "java/util/ArrayList", name := "grow", desc := "()[Ljava/lang/Object;" } : Jvm.MethodName)) ∈ lw_all := lw_g (lw_at lw_m3 221 rfl) rfl
theorem q833 : (Jvm.Cond.privateMethod ({ cls := "java/util/ArrayList", name := "grow", desc := "()[Ljava/lang/Object;" } : Jvm.MethodName)) ∈ lw_tbl := lw_at lw_m3 222 rfl
theorem q834 : (Jvm.Cond.instanceMethod ({ cls := "java/util/ArrayList", name := "grow", desc := "()[Ljava/lang/Object;" } : Jvm.MethodName)) ∈ lw_all := lw_g (lw_at lw_m3 223 rfl) rfl
theorem q835 : (Jvm.Cond.code ({ cls := "java/util/ArrayList", name := "grow", desc := "()[Ljava/lang/Object;" } : Jvm.MethodName) prog_48_method_7_code (1 : Nat) (Option.some (Jvm.ClassFile.FieldType.array (Jvm.ClassFile.FieldType.object "java/lang/Object")))) ∈ lw_all := lw_g (lw_at lw_m3 224 rfl) rfl
theorem q928 : (Jvm.Cond.instanceMethod ({ cls := "java/util/ArrayList", name := "get", desc := "(I)Ljava/lang/Object;" } : Jvm.MethodName)) ∈ lw_all := lw_g (lw_at lw_m4 77 rfl) rfl
theorem q929 : (Jvm.Cond.selects "java/util/ArrayList" ({ cls := "java/util/ArrayList", name := "get", desc := "(I)Ljava/lang/Object;" } : Jvm.MethodName) ({ cls := "java/util/ArrayList", name := "get", desc := "(I)Ljava/lang/Object;" } : Jvm.MethodName)) ∈ lw_all := lw_g (lw_at lw_m4 78 rfl) rfl
theorem q930 : (Jvm.Cond.code ({ cls := "java/util/ArrayList", name := "get", desc := "(I)Ljava/lang/Object;" } : Jvm.MethodName) prog_48_method_20_code (2 : Nat) (Option.some (Jvm.ClassFile.FieldType.object "java/lang/Object"))) ∈ lw_all := lw_g (lw_at lw_m4 79 rfl) rfl
theorem q931 : (Jvm.Cond.methodLink "java/util/ArrayList" (118 : Nat) ({ cls := "java/util/Objects", name := "checkIndex", desc := "(II)I" } : Jvm.MethodName)) ∈ lw_all := lw_g (lw_at lw_m4 80 rfl) rfl
theorem q937 : (Jvm.Cond.methodLink "java/util/ArrayList" (123 : Nat) ({ cls := "java/util/ArrayList", name := "elementData", desc := "(I)Ljava/lang/Object;" } : Jvm.MethodName)) ∈ lw_all := lw_g (lw_at lw_m4 86 rfl) rfl
theorem q938 : (Jvm.Cond.instanceMethod ({ cls := "java/util/ArrayList", name := "elementData", desc := "(I)Ljava/lang/Object;" } : Jvm.MethodName)) ∈ lw_all := lw_g (lw_at lw_m4 87 rfl) rfl
theorem q939 : (Jvm.Cond.selects "java/util/ArrayList" ({ cls := "java/util/ArrayList", name := "elementData", desc := "(I)Ljava/lang/Object;" } : Jvm.MethodName) ({ cls := "java/util/ArrayList", name := "elementData", desc := "(I)Ljava/lang/Object;" } : Jvm.MethodName)) ∈ lw_all := lw_g (lw_at lw_m4 88 rfl) rfl
theorem q940 : (Jvm.Cond.code ({ cls := "java/util/ArrayList", name := "elementData", desc := "(I)Ljava/lang/Object;" } : Jvm.MethodName) prog_48_method_18_code (2 : Nat) (Option.some (Jvm.ClassFile.FieldType.object "java/lang/Object"))) ∈ lw_all := lw_g (lw_at lw_m4 89 rfl) rfl
theorem q2538 : (Jvm.Cond.castable "java/util/ArrayList" "java/lang/Object") ∈ lw_tbl := lw_at lw_m11 7 rfl
theorem in_J2 : ∀ w ∈ wsJ20, w ∈ lw_all := lw_in wsJ20 [215, 211, 213] (by decide +kernel) (by decide +kernel)
theorem q137 : (Jvm.Cond.initialized "FirstPolls$Force") ∈ lw_all := lw_g (lw_at lw_m1 6 rfl) rfl
theorem q219 : (Jvm.Cond.fieldLinkNest "FirstPolls$Force" (34 : Nat) "FirstPolls$Told" "orders" "Ljava/util/ArrayList;" "FirstPolls") ∈ lw_tbl := lw_at lw_m1 88 rfl
theorem q344 : (Jvm.Cond.instantiable "FirstPolls$Force" (5 : Nat)) ∈ lw_all := lw_g (lw_at lw_m1 213 rfl) rfl
theorem q346 : (Jvm.Cond.instanceMethod ({ cls := "FirstPolls$Force", name := "<init>", desc := "(LFirstPolls;)V" } : Jvm.MethodName)) ∈ lw_all := lw_g (lw_at lw_m1 215 rfl) rfl
theorem q347 : (Jvm.Cond.code ({ cls := "FirstPolls$Force", name := "<init>", desc := "(LFirstPolls;)V" } : Jvm.MethodName) prog_8_method_1_code (2 : Nat) (Option.none : Option Jvm.ClassFile.FieldType)) ∈ lw_all := lw_g (lw_at lw_m1 216 rfl) rfl
theorem q348 : (Jvm.Cond.methodLink "FirstPolls$Force" (9 : Nat) ({ cls := "java/lang/Object", name := "<init>", desc := "()V" } : Jvm.MethodName)) ∈ lw_all := lw_g (lw_at lw_m1 217 rfl) rfl
theorem q349 : (Jvm.Cond.fieldLink "FirstPolls$Force" (15 : Nat) "FirstPolls$Force" "is" "[Z") ∈ lw_all := lw_g (lw_at lw_m1 218 rfl) rfl
theorem q351 : (Jvm.Cond.fieldLink "FirstPolls$Force" (19 : Nat) "FirstPolls$Force" "struck" "[Z") ∈ lw_all := lw_g (lw_at lw_m1 220 rfl) rfl
theorem q352 : (Jvm.Cond.fieldLink "FirstPolls$Force" (22 : Nat) "FirstPolls$Force" "day" "I") ∈ lw_all := lw_g (lw_at lw_m1 221 rfl) rfl
theorem q353 : (Jvm.Cond.fieldLink "FirstPolls$Force" (26 : Nat) "FirstPolls$Force" "version" "I") ∈ lw_all := lw_g (lw_at lw_m1 222 rfl) rfl
theorem q354 : (Jvm.Cond.fieldLink "FirstPolls$Force" (3 : Nat) "FirstPolls$Force" "this$0" "LFirstPolls;") ∈ lw_all := lw_g (lw_at lw_m1 223 rfl) rfl
theorem q355 : (Jvm.Cond.laysFinal "FirstPolls$Force" "FirstPolls$Force" "is" "[Z") ∈ lw_all := lw_g (lw_at lw_m1 224 rfl) rfl
theorem q356 : (Jvm.Cond.soleField "FirstPolls$Force" "is") ∈ lw_all := lw_g (lw_at lw_m1 225 rfl) rfl
theorem q357 : (Jvm.Cond.laysFinal "FirstPolls$Force" "FirstPolls$Force" "struck" "[Z") ∈ lw_all := lw_g (lw_at lw_m1 226 rfl) rfl
theorem q358 : (Jvm.Cond.soleField "FirstPolls$Force" "struck") ∈ lw_all := lw_g (lw_at lw_m1 227 rfl) rfl
theorem q359 : (Jvm.Cond.lays "FirstPolls$Force" "FirstPolls$Force" "day" "I") ∈ lw_all := lw_g (lw_at lw_m1 228 rfl) rfl
theorem q360 : (Jvm.Cond.soleField "FirstPolls$Force" "day") ∈ lw_all := lw_g (lw_at lw_m1 229 rfl) rfl
theorem q361 : (Jvm.Cond.lays "FirstPolls$Force" "FirstPolls$Force" "version" "I") ∈ lw_all := lw_g (lw_at lw_m1 230 rfl) rfl
theorem q362 : (Jvm.Cond.soleField "FirstPolls$Force" "version") ∈ lw_all := lw_g (lw_at lw_m1 231 rfl) rfl
theorem q363 : (Jvm.Cond.laysFinal "FirstPolls$Force" "FirstPolls$Force" "this$0" "LFirstPolls;") ∈ lw_all := lw_g (lw_at lw_m1 232 rfl) rfl
theorem q364 : (Jvm.Cond.soleField "FirstPolls$Force" "this$0") ∈ lw_all := lw_g (lw_at lw_m1 233 rfl) rfl
theorem q365 : (Jvm.Cond.superclass "FirstPolls$Force" "java/lang/Object") ∈ lw_all := lw_g (lw_at lw_m1 234 rfl) rfl
theorem q525 : (Jvm.Cond.fieldLinkNest "FirstPolls$Force" (29 : Nat) "FirstPolls" "version" "I" "FirstPolls") ∈ lw_tbl := lw_at lw_m2 154 rfl
theorem q531 : (Jvm.Cond.fieldLinkNest "FirstPolls$Force" (30 : Nat) "FirstPolls" "now" "LFirstPolls$Told;" "FirstPolls") ∈ lw_tbl := lw_at lw_m2 160 rfl
theorem q700 : (Jvm.Cond.selects "FirstPolls$Force" ({ cls := "java/lang/Object", name := "getClass", desc := "()Ljava/lang/Class;" } : Jvm.MethodName) ({ cls := "java/lang/Object", name := "getClass", desc := "()Ljava/lang/Class;" } : Jvm.MethodName)) ∈ lw_all := lw_g (lw_at lw_m3 89 rfl) rfl
theorem q1174 : (Jvm.Cond.fieldLinkNest "FirstPolls$Force" (67 : Nat) "FirstPolls$Clause" "kind" "I" "FirstPolls") ∈ lw_tbl := lw_at lw_m5 83 rfl
theorem q1177 : (Jvm.Cond.fieldLinkNest "FirstPolls$Force" (70 : Nat) "FirstPolls$Clause" "a" "I" "FirstPolls") ∈ lw_tbl := lw_at lw_m5 86 rfl
theorem q1180 : (Jvm.Cond.fieldLinkNest "FirstPolls$Force" (73 : Nat) "FirstPolls$Clause" "b" "I" "FirstPolls") ∈ lw_tbl := lw_at lw_m5 89 rfl
theorem q1386 : (Jvm.Cond.fieldLinkNest "FirstPolls$Force" (62 : Nat) "FirstPolls$Order" "place" "I" "FirstPolls") ∈ lw_tbl := lw_at lw_m6 55 rfl
theorem q1388 : (Jvm.Cond.fieldLinkNest "FirstPolls$Force" (52 : Nat) "FirstPolls$Order" "from" "I" "FirstPolls") ∈ lw_tbl := lw_at lw_m6 57 rfl
theorem q1390 : (Jvm.Cond.fieldLinkNest "FirstPolls$Force" (59 : Nat) "FirstPolls$Order" "clauses" "Ljava/util/ArrayList;" "FirstPolls") ∈ lw_tbl := lw_at lw_m6 59 rfl
theorem q1408 : (Jvm.Cond.instanceMethod ({ cls := "FirstPolls$Force", name := "looks", desc := "(I)V" } : Jvm.MethodName)) ∈ lw_all := lw_g (lw_at lw_m6 77 rfl) rfl
theorem q1409 : (Jvm.Cond.selects "FirstPolls$Force" ({ cls := "FirstPolls$Force", name := "looks", desc := "(I)V" } : Jvm.MethodName) ({ cls := "FirstPolls$Force", name := "looks", desc := "(I)V" } : Jvm.MethodName)) ∈ lw_all := lw_g (lw_at lw_m6 78 rfl) rfl
theorem q1410 : (Jvm.Cond.code ({ cls := "FirstPolls$Force", name := "looks", desc := "(I)V" } : Jvm.MethodName) prog_8_method_2_code (3 : Nat) (Option.none : Option Jvm.ClassFile.FieldType)) ∈ lw_all := lw_g (lw_at lw_m6 79 rfl) rfl
theorem q1411 : (Jvm.Cond.methodLink "FirstPolls$Force" (40 : Nat) ({ cls := "java/util/ArrayList", name := "size", desc := "()I" } : Jvm.MethodName)) ∈ lw_all := lw_g (lw_at lw_m6 80 rfl) rfl
theorem q1412 : (Jvm.Cond.methodLink "FirstPolls$Force" (46 : Nat) ({ cls := "java/util/ArrayList", name := "get", desc := "(I)Ljava/lang/Object;" } : Jvm.MethodName)) ∈ lw_all := lw_g (lw_at lw_m6 81 rfl) rfl
theorem q1413 : (Jvm.Cond.classLink "FirstPolls$Force" (50 : Nat) "FirstPolls$Order") ∈ lw_all := lw_g (lw_at lw_m6 82 rfl) rfl
theorem q1414 : (Jvm.Cond.methodLink "FirstPolls$Force" (55 : Nat) ({ cls := "FirstPolls$Force", name := "goes", desc := "(LFirstPolls$Order;)V" } : Jvm.MethodName)) ∈ lw_all := lw_g (lw_at lw_m6 83 rfl) rfl
theorem q1415 : (Jvm.Cond.privateMethod ({ cls := "FirstPolls$Force", name := "goes", desc := "(LFirstPolls$Order;)V" } : Jvm.MethodName)) ∈ lw_tbl := lw_at lw_m6 84 rfl
theorem q1416 : (Jvm.Cond.instanceMethod ({ cls := "FirstPolls$Force", name := "goes", desc := "(LFirstPolls$Order;)V" } : Jvm.MethodName)) ∈ lw_all := lw_g (lw_at lw_m6 85 rfl) rfl
theorem q1417 : (Jvm.Cond.code ({ cls := "FirstPolls$Force", name := "goes", desc := "(LFirstPolls$Order;)V" } : Jvm.MethodName) prog_8_method_3_code (5 : Nat) (Option.none : Option Jvm.ClassFile.FieldType)) ∈ lw_all := lw_g (lw_at lw_m6 86 rfl) rfl
theorem q1418 : (Jvm.Cond.classLink "FirstPolls$Force" (65 : Nat) "FirstPolls$Clause") ∈ lw_all := lw_g (lw_at lw_m6 87 rfl) rfl
theorem q2539 : (Jvm.Cond.castable "FirstPolls$Force" "java/lang/Object") ∈ lw_tbl := lw_at lw_m11 8 rfl
theorem in_X2 : ∀ w ∈ wsX20, w ∈ lw_all := lw_in wsX20 [355, 357, 359, 361, 363] (by decide +kernel) (by decide +kernel)
theorem q138 : (Jvm.Cond.initialized "FirstPolls$Setting") ∈ lw_all := lw_g (lw_at lw_m1 7 rfl) rfl
theorem q368 : (Jvm.Cond.instantiable "FirstPolls$Setting" (3 : Nat)) ∈ lw_all := lw_g (lw_at lw_m1 237 rfl) rfl
theorem q370 : (Jvm.Cond.instanceMethod ({ cls := "FirstPolls$Setting", name := "<init>", desc := "()V" } : Jvm.MethodName)) ∈ lw_all := lw_g (lw_at lw_m1 239 rfl) rfl
theorem q371 : (Jvm.Cond.code ({ cls := "FirstPolls$Setting", name := "<init>", desc := "()V" } : Jvm.MethodName) prog_17_method_1_code (1 : Nat) (Option.none : Option Jvm.ClassFile.FieldType)) ∈ lw_all := lw_g (lw_at lw_m2 0 rfl) rfl
theorem q372 : (Jvm.Cond.methodLink "FirstPolls$Setting" (1 : Nat) ({ cls := "java/lang/Object", name := "<init>", desc := "()V" } : Jvm.MethodName)) ∈ lw_all := lw_g (lw_at lw_m2 1 rfl) rfl
theorem q373 : (Jvm.Cond.classLink "FirstPolls$Setting" (7 : Nat) "FirstPolls$Broken") ∈ lw_all := lw_g (lw_at lw_m2 2 rfl) rfl
theorem q412 : (Jvm.Cond.methodLink "FirstPolls$Setting" (9 : Nat) ({ cls := "FirstPolls$Broken", name := "<init>", desc := "()V" } : Jvm.MethodName)) ∈ lw_all := lw_g (lw_at lw_m2 41 rfl) rfl
theorem q434 : (Jvm.Cond.fieldLink "FirstPolls$Setting" (10 : Nat) "FirstPolls$Setting" "broken" "LFirstPolls$Broken;") ∈ lw_all := lw_g (lw_at lw_m2 63 rfl) rfl
theorem q436 : (Jvm.Cond.fieldLink "FirstPolls$Setting" (16 : Nat) "FirstPolls$Setting" "values" "[J") ∈ lw_all := lw_g (lw_at lw_m2 65 rfl) rfl
theorem q441 : (Jvm.Cond.fieldLink "FirstPolls$Setting" (20 : Nat) "FirstPolls$Setting" "flags" "[Z") ∈ lw_all := lw_g (lw_at lw_m2 70 rfl) rfl
theorem q445 : (Jvm.Cond.laysFinal "FirstPolls$Setting" "FirstPolls$Setting" "broken" "LFirstPolls$Broken;") ∈ lw_all := lw_g (lw_at lw_m2 74 rfl) rfl
theorem q446 : (Jvm.Cond.soleField "FirstPolls$Setting" "broken") ∈ lw_all := lw_g (lw_at lw_m2 75 rfl) rfl
theorem q447 : (Jvm.Cond.laysFinal "FirstPolls$Setting" "FirstPolls$Setting" "values" "[J") ∈ lw_all := lw_g (lw_at lw_m2 76 rfl) rfl
theorem q448 : (Jvm.Cond.soleField "FirstPolls$Setting" "values") ∈ lw_all := lw_g (lw_at lw_m2 77 rfl) rfl
theorem q449 : (Jvm.Cond.laysFinal "FirstPolls$Setting" "FirstPolls$Setting" "flags" "[Z") ∈ lw_all := lw_g (lw_at lw_m2 78 rfl) rfl
theorem q450 : (Jvm.Cond.soleField "FirstPolls$Setting" "flags") ∈ lw_all := lw_g (lw_at lw_m2 79 rfl) rfl
theorem q451 : (Jvm.Cond.superclass "FirstPolls$Setting" "java/lang/Object") ∈ lw_all := lw_g (lw_at lw_m2 80 rfl) rfl
theorem q709 : (Jvm.Cond.selects "FirstPolls$Setting" ({ cls := "java/lang/Object", name := "getClass", desc := "()Ljava/lang/Class;" } : Jvm.MethodName) ({ cls := "java/lang/Object", name := "getClass", desc := "()Ljava/lang/Class;" } : Jvm.MethodName)) ∈ lw_all := lw_g (lw_at lw_m3 98 rfl) rfl
theorem q1440 : (Jvm.Cond.instanceMethod ({ cls := "FirstPolls$Setting", name := "empties", desc := "()V" } : Jvm.MethodName)) ∈ lw_all := lw_g (lw_at lw_m6 109 rfl) rfl
theorem q1441 : (Jvm.Cond.selects "FirstPolls$Setting" ({ cls := "FirstPolls$Setting", name := "empties", desc := "()V" } : Jvm.MethodName) ({ cls := "FirstPolls$Setting", name := "empties", desc := "()V" } : Jvm.MethodName)) ∈ lw_all := lw_g (lw_at lw_m6 110 rfl) rfl
theorem q1442 : (Jvm.Cond.code ({ cls := "FirstPolls$Setting", name := "empties", desc := "()V" } : Jvm.MethodName) prog_17_method_2_code (2 : Nat) (Option.none : Option Jvm.ClassFile.FieldType)) ∈ lw_all := lw_g (lw_at lw_m6 111 rfl) rfl
theorem q2540 : (Jvm.Cond.castable "FirstPolls$Setting" "java/lang/Object") ∈ lw_tbl := lw_at lw_m11 9 rfl
theorem in_X3 : ∀ w ∈ wsX30, w ∈ lw_all := lw_in wsX30 [445, 447, 449] (by decide +kernel) (by decide +kernel)
theorem q139 : (Jvm.Cond.initialized "java/lang/Throwable") ∈ lw_all := lw_g (lw_at lw_m1 8 rfl) rfl
theorem q378 : (Jvm.Cond.declares ({ cls := "java/lang/Throwable", name := "<init>", desc := "()V" } : Jvm.MethodName)) ∈ lw_tbl := lw_at lw_m2 7 rfl
theorem q379 : (Jvm.Cond.declares ({ cls := "java/lang/Throwable", name := "<init>", desc := "(Ljava/lang/String;)V" } : Jvm.MethodName)) ∈ lw_tbl := lw_at lw_m2 8 rfl
theorem q383 : (Jvm.Cond.lays "java/lang/Throwable" "java/lang/Throwable" "cause" "Ljava/lang/Throwable;") ∈ lw_all := lw_g (lw_at lw_m2 12 rfl) rfl
theorem q385 : (Jvm.Cond.lays "java/lang/Throwable" "java/lang/Throwable" "stackTrace" "[Ljava/lang/StackTraceElement;") ∈ lw_all := lw_g (lw_at lw_m2 14 rfl) rfl
theorem q387 : (Jvm.Cond.lays "java/lang/Throwable" "java/lang/Throwable" "suppressedExceptions" "Ljava/util/List;") ∈ lw_all := lw_g (lw_at lw_m2 16 rfl) rfl
theorem q389 : (Jvm.Cond.lays "java/lang/Throwable" "java/lang/Throwable" "detailMessage" "Ljava/lang/String;") ∈ lw_all := lw_g (lw_at lw_m2 18 rfl) rfl
theorem q391 : (Jvm.Cond.lays "java/lang/Throwable" "java/lang/Throwable" "backtrace" "Ljava/lang/Object;") ∈ lw_all := lw_g (lw_at lw_m2 20 rfl) rfl
theorem q392 : (Jvm.Cond.fieldLink "java/lang/Throwable" (198 : Nat) "java/lang/Throwable" "backtrace" "Ljava/lang/Object;") ∈ lw_all := lw_g (lw_at lw_m2 21 rfl) rfl
theorem q393 : (Jvm.Cond.superclass "java/lang/Throwable" "java/lang/Object") ∈ lw_all := lw_g (lw_at lw_m2 22 rfl) rfl
theorem q394 : (Jvm.Cond.instanceMethod ({ cls := "java/lang/Throwable", name := "<init>", desc := "()V" } : Jvm.MethodName)) ∈ lw_all := lw_g (lw_at lw_m2 23 rfl) rfl
theorem q395 : (Jvm.Cond.code ({ cls := "java/lang/Throwable", name := "<init>", desc := "()V" } : Jvm.MethodName) prog_43_method_1_code (1 : Nat) (Option.none : Option Jvm.ClassFile.FieldType)) ∈ lw_all := lw_g (lw_at lw_m2 24 rfl) rfl
theorem q396 : (Jvm.Cond.methodLink "java/lang/Throwable" (1 : Nat) ({ cls := "java/lang/Object", name := "<init>", desc := "()V" } : Jvm.MethodName)) ∈ lw_all := lw_g (lw_at lw_m2 25 rfl) rfl
theorem q397 : (Jvm.Cond.fieldLink "java/lang/Throwable" (13 : Nat) "java/lang/Throwable" "UNASSIGNED_STACK" "[Ljava/lang/StackTraceElement;") ∈ lw_all := lw_g (lw_at lw_m2 26 rfl) rfl
theorem q398 : (Jvm.Cond.laysStatic "java/lang/Throwable" "UNASSIGNED_STACK" "[Ljava/lang/StackTraceElement;") ∈ lw_tbl := lw_at lw_m2 27 rfl
theorem q399 : (Jvm.Cond.fieldLink "java/lang/Throwable" (20 : Nat) "java/lang/Throwable" "SUPPRESSED_SENTINEL" "Ljava/util/List;") ∈ lw_all := lw_g (lw_at lw_m2 28 rfl) rfl
theorem q400 : (Jvm.Cond.laysStatic "java/lang/Throwable" "SUPPRESSED_SENTINEL" "Ljava/util/List;") ∈ lw_tbl := lw_at lw_m2 29 rfl
theorem q401 : (Jvm.Cond.methodLink "java/lang/Throwable" (27 : Nat) ({ cls := "java/lang/Throwable", name := "fillInStackTrace", desc := "()Ljava/lang/Throwable;" } : Jvm.MethodName)) ∈ lw_all := lw_g (lw_at lw_m2 30 rfl) rfl
theorem q402 : (Jvm.Cond.instanceMethod ({ cls := "java/lang/Throwable", name := "fillInStackTrace", desc := "()Ljava/lang/Throwable;" } : Jvm.MethodName)) ∈ lw_all := lw_g (lw_at lw_m2 31 rfl) rfl
theorem q403 : (Jvm.Cond.sameMethod "java/lang/Throwable" "java/lang/Throwable" "fillInStackTrace" "()Ljava/lang/Throwable;") ∈ lw_all := lw_g (lw_at lw_m2 32 rfl) rfl
theorem q406 : (Jvm.Cond.codeSync ({ cls := "java/lang/Throwable", name := "fillInStackTrace", desc := "()Ljava/lang/Throwable;" } : Jvm.MethodName) prog_43_method_18_code (1 : Nat) (Option.some (Jvm.ClassFile.FieldType.object "java/lang/Throwable"))) ∈ lw_all := lw_g (lw_at lw_m2 35 rfl) rfl
theorem q407 : (Jvm.Cond.methodLink "java/lang/Throwable" (202 : Nat) ({ cls := "java/lang/Throwable", name := "fillInStackTrace", desc := "(I)Ljava/lang/Throwable;" } : Jvm.MethodName)) ∈ lw_all := lw_g (lw_at lw_m2 36 rfl) rfl
theorem q408 : (Jvm.Cond.privateMethod ({ cls := "java/lang/Throwable", name := "fillInStackTrace", desc := "(I)Ljava/lang/Throwable;" } : Jvm.MethodName)) ∈ lw_tbl := lw_at lw_m2 37 rfl
theorem q409 : (Jvm.Cond.instanceMethod ({ cls := "java/lang/Throwable", name := "fillInStackTrace", desc := "(I)Ljava/lang/Throwable;" } : Jvm.MethodName)) ∈ lw_all := lw_g (lw_at lw_m2 38 rfl) rfl
theorem q410 : (Jvm.Cond.instantiable "java/lang/Throwable" (6 : Nat)) ∈ lw_all := lw_g (lw_at lw_m2 39 rfl) rfl
theorem q411 : (Jvm.Cond.native ({ cls := "java/lang/Throwable", name := "fillInStackTrace", desc := "(I)Ljava/lang/Throwable;" } : Jvm.MethodName)) ∈ lw_all := lw_g (lw_at lw_m2 40 rfl) rfl
theorem q419 : (Jvm.Cond.instanceMethod ({ cls := "java/lang/Throwable", name := "<init>", desc := "(Ljava/lang/String;Ljava/lang/Throwable;ZZ)V" } : Jvm.MethodName)) ∈ lw_all := lw_g (lw_at lw_m2 48 rfl) rfl
theorem q420 : (Jvm.Cond.code ({ cls := "java/lang/Throwable", name := "<init>", desc := "(Ljava/lang/String;Ljava/lang/Throwable;ZZ)V" } : Jvm.MethodName) prog_43_method_5_code (5 : Nat) (Option.none : Option Jvm.ClassFile.FieldType)) ∈ lw_all := lw_g (lw_at lw_m2 49 rfl) rfl
theorem q421 : (Jvm.Cond.fieldLink "java/lang/Throwable" (198 : Nat) "java/lang/Throwable" "backtrace" "Ljava/lang/Object;") ∈ lw_all := lw_g (lw_at lw_m2 50 rfl) rfl
theorem q422 : (Jvm.Cond.fieldLink "java/lang/Throwable" (31 : Nat) "java/lang/Throwable" "detailMessage" "Ljava/lang/String;") ∈ lw_all := lw_g (lw_at lw_m2 51 rfl) rfl
theorem q423 : (Jvm.Cond.fieldLink "java/lang/Throwable" (7 : Nat) "java/lang/Throwable" "cause" "Ljava/lang/Throwable;") ∈ lw_all := lw_g (lw_at lw_m2 52 rfl) rfl
theorem q424 : (Jvm.Cond.fieldLink "java/lang/Throwable" (17 : Nat) "java/lang/Throwable" "stackTrace" "[Ljava/lang/StackTraceElement;") ∈ lw_all := lw_g (lw_at lw_m2 53 rfl) rfl
theorem q425 : (Jvm.Cond.fieldLink "java/lang/Throwable" (24 : Nat) "java/lang/Throwable" "suppressedExceptions" "Ljava/util/List;") ∈ lw_all := lw_g (lw_at lw_m2 54 rfl) rfl
theorem q426 : (Jvm.Cond.soleField "java/lang/Throwable" "backtrace") ∈ lw_all := lw_g (lw_at lw_m2 55 rfl) rfl
theorem q427 : (Jvm.Cond.soleField "java/lang/Throwable" "detailMessage") ∈ lw_all := lw_g (lw_at lw_m2 56 rfl) rfl
theorem q428 : (Jvm.Cond.soleField "java/lang/Throwable" "cause") ∈ lw_all := lw_g (lw_at lw_m2 57 rfl) rfl
theorem q429 : (Jvm.Cond.soleField "java/lang/Throwable" "stackTrace") ∈ lw_all := lw_g (lw_at lw_m2 58 rfl) rfl
theorem q431 : (Jvm.Cond.soleField "java/lang/Throwable" "depth") ∈ lw_all := lw_g (lw_at lw_m2 60 rfl) rfl
theorem q432 : (Jvm.Cond.soleField "java/lang/Throwable" "suppressedExceptions") ∈ lw_all := lw_g (lw_at lw_m2 61 rfl) rfl
theorem q895 : (Jvm.Cond.instanceMethod ({ cls := "java/lang/Throwable", name := "<init>", desc := "(Ljava/lang/String;)V" } : Jvm.MethodName)) ∈ lw_all := lw_g (lw_at lw_m4 44 rfl) rfl
theorem q896 : (Jvm.Cond.code ({ cls := "java/lang/Throwable", name := "<init>", desc := "(Ljava/lang/String;)V" } : Jvm.MethodName) prog_43_method_2_code (2 : Nat) (Option.none : Option Jvm.ClassFile.FieldType)) ∈ lw_all := lw_g (lw_at lw_m4 45 rfl) rfl
theorem q2527 : (Jvm.Cond.sameMethod "java/lang/Throwable" "java/lang/Throwable" "fillInStackTrace" "(I)Ljava/lang/Throwable;") ∈ lw_all := lw_g (lw_at lw_m10 236 rfl) rfl
theorem q2562 : (Jvm.Cond.castable "java/lang/Throwable" "java/lang/Object") ∈ lw_tbl := lw_at lw_m11 31 rfl
theorem in_J3 : ∀ w ∈ wsJ30, w ∈ lw_all := lw_in wsJ30 [383, 385, 387, 389, 391] (by decide +kernel) (by decide +kernel)
theorem q140 : (Jvm.Cond.initialized "java/lang/Exception") ∈ lw_all := lw_g (lw_at lw_m1 9 rfl) rfl
theorem q376 : (Jvm.Cond.declares ({ cls := "java/lang/Exception", name := "<init>", desc := "()V" } : Jvm.MethodName)) ∈ lw_tbl := lw_at lw_m2 5 rfl
theorem q377 : (Jvm.Cond.declares ({ cls := "java/lang/Exception", name := "<init>", desc := "(Ljava/lang/String;)V" } : Jvm.MethodName)) ∈ lw_tbl := lw_at lw_m2 6 rfl
theorem q416 : (Jvm.Cond.instanceMethod ({ cls := "java/lang/Exception", name := "<init>", desc := "(Ljava/lang/String;Ljava/lang/Throwable;ZZ)V" } : Jvm.MethodName)) ∈ lw_all := lw_g (lw_at lw_m2 45 rfl) rfl
theorem q417 : (Jvm.Cond.code ({ cls := "java/lang/Exception", name := "<init>", desc := "(Ljava/lang/String;Ljava/lang/Throwable;ZZ)V" } : Jvm.MethodName) prog_33_method_5_code (5 : Nat) (Option.none : Option Jvm.ClassFile.FieldType)) ∈ lw_all := lw_g (lw_at lw_m2 46 rfl) rfl
theorem q418 : (Jvm.Cond.methodLink "java/lang/Exception" (16 : Nat) ({ cls := "java/lang/Throwable", name := "<init>", desc := "(Ljava/lang/String;Ljava/lang/Throwable;ZZ)V" } : Jvm.MethodName)) ∈ lw_all := lw_g (lw_at lw_m2 47 rfl) rfl
theorem q892 : (Jvm.Cond.instanceMethod ({ cls := "java/lang/Exception", name := "<init>", desc := "(Ljava/lang/String;)V" } : Jvm.MethodName)) ∈ lw_all := lw_g (lw_at lw_m4 41 rfl) rfl
theorem q893 : (Jvm.Cond.code ({ cls := "java/lang/Exception", name := "<init>", desc := "(Ljava/lang/String;)V" } : Jvm.MethodName) prog_33_method_2_code (2 : Nat) (Option.none : Option Jvm.ClassFile.FieldType)) ∈ lw_all := lw_g (lw_at lw_m4 42 rfl) rfl
theorem q894 : (Jvm.Cond.methodLink "java/lang/Exception" (7 : Nat) ({ cls := "java/lang/Throwable", name := "<init>", desc := "(Ljava/lang/String;)V" } : Jvm.MethodName)) ∈ lw_all := lw_g (lw_at lw_m4 43 rfl) rfl
theorem q141 : (Jvm.Cond.initialized "FirstPolls$Broken") ∈ lw_all := lw_g (lw_at lw_m1 10 rfl) rfl
theorem q374 : (Jvm.Cond.instantiable "FirstPolls$Broken" (6 : Nat)) ∈ lw_all := lw_g (lw_at lw_m2 3 rfl) rfl
theorem q375 : (Jvm.Cond.castable "FirstPolls$Broken" "FirstPolls$Broken") ∈ lw_tbl := lw_at lw_m2 4 rfl
theorem q380 : (Jvm.Cond.selects "FirstPolls$Broken" ({ cls := "java/lang/Throwable", name := "fillInStackTrace", desc := "(I)Ljava/lang/Throwable;" } : Jvm.MethodName) ({ cls := "java/lang/Throwable", name := "fillInStackTrace", desc := "(I)Ljava/lang/Throwable;" } : Jvm.MethodName)) ∈ lw_all := lw_g (lw_at lw_m2 9 rfl) rfl
theorem q381 : (Jvm.Cond.selects "FirstPolls$Broken" ({ cls := "java/lang/Throwable", name := "fillInStackTrace", desc := "()Ljava/lang/Throwable;" } : Jvm.MethodName) ({ cls := "java/lang/Throwable", name := "fillInStackTrace", desc := "()Ljava/lang/Throwable;" } : Jvm.MethodName)) ∈ lw_all := lw_g (lw_at lw_m2 10 rfl) rfl
theorem q382 : (Jvm.Cond.lays "FirstPolls$Broken" "java/lang/Throwable" "cause" "Ljava/lang/Throwable;") ∈ lw_all := lw_g (lw_at lw_m2 11 rfl) rfl
theorem q384 : (Jvm.Cond.lays "FirstPolls$Broken" "java/lang/Throwable" "stackTrace" "[Ljava/lang/StackTraceElement;") ∈ lw_all := lw_g (lw_at lw_m2 13 rfl) rfl
theorem q386 : (Jvm.Cond.lays "FirstPolls$Broken" "java/lang/Throwable" "suppressedExceptions" "Ljava/util/List;") ∈ lw_all := lw_g (lw_at lw_m2 15 rfl) rfl
theorem q388 : (Jvm.Cond.lays "FirstPolls$Broken" "java/lang/Throwable" "detailMessage" "Ljava/lang/String;") ∈ lw_all := lw_g (lw_at lw_m2 17 rfl) rfl
theorem q390 : (Jvm.Cond.lays "FirstPolls$Broken" "java/lang/Throwable" "backtrace" "Ljava/lang/Object;") ∈ lw_all := lw_g (lw_at lw_m2 19 rfl) rfl
theorem q413 : (Jvm.Cond.instanceMethod ({ cls := "FirstPolls$Broken", name := "<init>", desc := "()V" } : Jvm.MethodName)) ∈ lw_all := lw_g (lw_at lw_m2 42 rfl) rfl
theorem q414 : (Jvm.Cond.code ({ cls := "FirstPolls$Broken", name := "<init>", desc := "()V" } : Jvm.MethodName) prog_2_method_1_code (1 : Nat) (Option.none : Option Jvm.ClassFile.FieldType)) ∈ lw_all := lw_g (lw_at lw_m2 43 rfl) rfl
theorem q415 : (Jvm.Cond.methodLink "FirstPolls$Broken" (1 : Nat) ({ cls := "java/lang/Exception", name := "<init>", desc := "(Ljava/lang/String;Ljava/lang/Throwable;ZZ)V" } : Jvm.MethodName)) ∈ lw_all := lw_g (lw_at lw_m2 44 rfl) rfl
theorem q430 : (Jvm.Cond.lays "FirstPolls$Broken" "java/lang/Throwable" "depth" "I") ∈ lw_all := lw_g (lw_at lw_m2 59 rfl) rfl
theorem q433 : (Jvm.Cond.superclass "FirstPolls$Broken" "java/lang/Exception") ∈ lw_all := lw_g (lw_at lw_m2 62 rfl) rfl
theorem q694 : (Jvm.Cond.selects "FirstPolls$Broken" ({ cls := "java/lang/Object", name := "getClass", desc := "()Ljava/lang/Class;" } : Jvm.MethodName) ({ cls := "java/lang/Object", name := "getClass", desc := "()Ljava/lang/Class;" } : Jvm.MethodName)) ∈ lw_all := lw_g (lw_at lw_m3 83 rfl) rfl
theorem q2541 : (Jvm.Cond.castable "FirstPolls$Broken" "java/lang/Object") ∈ lw_tbl := lw_at lw_m11 10 rfl
theorem in_X4 : ∀ w ∈ wsX40, w ∈ lw_all := lw_in wsX40 [382, 384, 386, 388, 390, 430] (by decide +kernel) (by decide +kernel)
theorem q142 : (Jvm.Cond.initialized "FirstPolls$Rolls") ∈ lw_all := lw_g (lw_at lw_m1 11 rfl) rfl
theorem q222 : (Jvm.Cond.fieldLinkNest "FirstPolls$Rolls" (41 : Nat) "FirstPolls$Told" "names" "Ljava/util/ArrayList;" "FirstPolls") ∈ lw_tbl := lw_at lw_m1 91 rfl
theorem q235 : (Jvm.Cond.fieldLinkNest "FirstPolls$Rolls" (94 : Nat) "FirstPolls$Told" "seat" "[I" "FirstPolls") ∈ lw_tbl := lw_at lw_m1 104 rfl
theorem q242 : (Jvm.Cond.fieldLinkNest "FirstPolls$Rolls" (68 : Nat) "FirstPolls$Told" "struckDay" "[I" "FirstPolls") ∈ lw_tbl := lw_at lw_m1 111 rfl
theorem q245 : (Jvm.Cond.fieldLinkNest "FirstPolls$Rolls" (71 : Nat) "FirstPolls$Told" "struckKnown" "[I" "FirstPolls") ∈ lw_tbl := lw_at lw_m1 114 rfl
theorem q438 : (Jvm.Cond.fieldLinkNest "FirstPolls$Rolls" (82 : Nat) "FirstPolls$Setting" "values" "[J" "FirstPolls") ∈ lw_tbl := lw_at lw_m2 67 rfl
theorem q443 : (Jvm.Cond.fieldLinkNest "FirstPolls$Rolls" (97 : Nat) "FirstPolls$Setting" "flags" "[Z" "FirstPolls") ∈ lw_tbl := lw_at lw_m2 72 rfl
theorem q453 : (Jvm.Cond.instantiable "FirstPolls$Rolls" (7 : Nat)) ∈ lw_all := lw_g (lw_at lw_m2 82 rfl) rfl
theorem q455 : (Jvm.Cond.instanceMethod ({ cls := "FirstPolls$Rolls", name := "<init>", desc := "(LFirstPolls;)V" } : Jvm.MethodName)) ∈ lw_all := lw_g (lw_at lw_m2 84 rfl) rfl
theorem q456 : (Jvm.Cond.code ({ cls := "FirstPolls$Rolls", name := "<init>", desc := "(LFirstPolls;)V" } : Jvm.MethodName) prog_16_method_1_code (2 : Nat) (Option.none : Option Jvm.ClassFile.FieldType)) ∈ lw_all := lw_g (lw_at lw_m2 85 rfl) rfl
theorem q457 : (Jvm.Cond.methodLink "FirstPolls$Rolls" (9 : Nat) ({ cls := "java/lang/Object", name := "<init>", desc := "()V" } : Jvm.MethodName)) ∈ lw_all := lw_g (lw_at lw_m2 86 rfl) rfl
theorem q458 : (Jvm.Cond.fieldLink "FirstPolls$Rolls" (15 : Nat) "FirstPolls$Rolls" "is" "[Z") ∈ lw_all := lw_g (lw_at lw_m2 87 rfl) rfl
theorem q460 : (Jvm.Cond.fieldLink "FirstPolls$Rolls" (19 : Nat) "FirstPolls$Rolls" "place" "[I") ∈ lw_all := lw_g (lw_at lw_m2 89 rfl) rfl
theorem q462 : (Jvm.Cond.fieldLink "FirstPolls$Rolls" (23 : Nat) "FirstPolls$Rolls" "many" "[I") ∈ lw_all := lw_g (lw_at lw_m2 91 rfl) rfl
theorem q464 : (Jvm.Cond.fieldLink "FirstPolls$Rolls" (26 : Nat) "FirstPolls$Rolls" "day" "I") ∈ lw_all := lw_g (lw_at lw_m2 93 rfl) rfl
theorem q465 : (Jvm.Cond.fieldLink "FirstPolls$Rolls" (30 : Nat) "FirstPolls$Rolls" "known" "I") ∈ lw_all := lw_g (lw_at lw_m2 94 rfl) rfl
theorem q466 : (Jvm.Cond.fieldLink "FirstPolls$Rolls" (33 : Nat) "FirstPolls$Rolls" "version" "I") ∈ lw_all := lw_g (lw_at lw_m2 95 rfl) rfl
theorem q467 : (Jvm.Cond.fieldLink "FirstPolls$Rolls" (3 : Nat) "FirstPolls$Rolls" "this$0" "LFirstPolls;") ∈ lw_all := lw_g (lw_at lw_m2 96 rfl) rfl
theorem q468 : (Jvm.Cond.laysFinal "FirstPolls$Rolls" "FirstPolls$Rolls" "is" "[Z") ∈ lw_all := lw_g (lw_at lw_m2 97 rfl) rfl
theorem q469 : (Jvm.Cond.soleField "FirstPolls$Rolls" "is") ∈ lw_all := lw_g (lw_at lw_m2 98 rfl) rfl
theorem q470 : (Jvm.Cond.laysFinal "FirstPolls$Rolls" "FirstPolls$Rolls" "place" "[I") ∈ lw_all := lw_g (lw_at lw_m2 99 rfl) rfl
theorem q471 : (Jvm.Cond.soleField "FirstPolls$Rolls" "place") ∈ lw_all := lw_g (lw_at lw_m2 100 rfl) rfl
theorem q472 : (Jvm.Cond.laysFinal "FirstPolls$Rolls" "FirstPolls$Rolls" "many" "[I") ∈ lw_all := lw_g (lw_at lw_m2 101 rfl) rfl
theorem q473 : (Jvm.Cond.soleField "FirstPolls$Rolls" "many") ∈ lw_all := lw_g (lw_at lw_m2 102 rfl) rfl
theorem q474 : (Jvm.Cond.lays "FirstPolls$Rolls" "FirstPolls$Rolls" "day" "I") ∈ lw_all := lw_g (lw_at lw_m2 103 rfl) rfl
theorem q475 : (Jvm.Cond.soleField "FirstPolls$Rolls" "day") ∈ lw_all := lw_g (lw_at lw_m2 104 rfl) rfl
theorem q476 : (Jvm.Cond.lays "FirstPolls$Rolls" "FirstPolls$Rolls" "known" "I") ∈ lw_all := lw_g (lw_at lw_m2 105 rfl) rfl
theorem q477 : (Jvm.Cond.soleField "FirstPolls$Rolls" "known") ∈ lw_all := lw_g (lw_at lw_m2 106 rfl) rfl
theorem q478 : (Jvm.Cond.lays "FirstPolls$Rolls" "FirstPolls$Rolls" "version" "I") ∈ lw_all := lw_g (lw_at lw_m2 107 rfl) rfl
theorem q479 : (Jvm.Cond.soleField "FirstPolls$Rolls" "version") ∈ lw_all := lw_g (lw_at lw_m2 108 rfl) rfl
theorem q480 : (Jvm.Cond.laysFinal "FirstPolls$Rolls" "FirstPolls$Rolls" "this$0" "LFirstPolls;") ∈ lw_all := lw_g (lw_at lw_m2 109 rfl) rfl
theorem q481 : (Jvm.Cond.soleField "FirstPolls$Rolls" "this$0") ∈ lw_all := lw_g (lw_at lw_m2 110 rfl) rfl
theorem q482 : (Jvm.Cond.superclass "FirstPolls$Rolls" "java/lang/Object") ∈ lw_all := lw_g (lw_at lw_m2 111 rfl) rfl
theorem q526 : (Jvm.Cond.fieldLinkNest "FirstPolls$Rolls" (36 : Nat) "FirstPolls" "version" "I" "FirstPolls") ∈ lw_tbl := lw_at lw_m2 155 rfl
theorem q532 : (Jvm.Cond.fieldLinkNest "FirstPolls$Rolls" (37 : Nat) "FirstPolls" "now" "LFirstPolls$Told;" "FirstPolls") ∈ lw_tbl := lw_at lw_m2 161 rfl
theorem q539 : (Jvm.Cond.fieldLinkNest "FirstPolls$Rolls" (78 : Nat) "FirstPolls" "setting" "LFirstPolls$Setting;" "FirstPolls") ∈ lw_tbl := lw_at lw_m2 168 rfl
theorem q708 : (Jvm.Cond.selects "FirstPolls$Rolls" ({ cls := "java/lang/Object", name := "getClass", desc := "()Ljava/lang/Class;" } : Jvm.MethodName) ({ cls := "java/lang/Object", name := "getClass", desc := "()Ljava/lang/Class;" } : Jvm.MethodName)) ∈ lw_all := lw_g (lw_at lw_m3 97 rfl) rfl
theorem q803 : (Jvm.Cond.fieldLink "FirstPolls$Rolls" (91 : Nat) "FirstPolls$Name" "house" "I") ∈ lw_all := lw_g (lw_at lw_m3 192 rfl) rfl
theorem q806 : (Jvm.Cond.fieldLink "FirstPolls$Rolls" (88 : Nat) "FirstPolls$Name" "age" "I") ∈ lw_all := lw_g (lw_at lw_m3 195 rfl) rfl
theorem q811 : (Jvm.Cond.fieldLink "FirstPolls$Rolls" (67 : Nat) "FirstPolls$Name" "known" "I") ∈ lw_all := lw_g (lw_at lw_m3 200 rfl) rfl
theorem q1424 : (Jvm.Cond.instanceMethod ({ cls := "FirstPolls$Rolls", name := "looks", desc := "(II)V" } : Jvm.MethodName)) ∈ lw_all := lw_g (lw_at lw_m6 93 rfl) rfl
theorem q1425 : (Jvm.Cond.selects "FirstPolls$Rolls" ({ cls := "FirstPolls$Rolls", name := "looks", desc := "(II)V" } : Jvm.MethodName) ({ cls := "FirstPolls$Rolls", name := "looks", desc := "(II)V" } : Jvm.MethodName)) ∈ lw_all := lw_g (lw_at lw_m6 94 rfl) rfl
theorem q1426 : (Jvm.Cond.code ({ cls := "FirstPolls$Rolls", name := "looks", desc := "(II)V" } : Jvm.MethodName) prog_16_method_2_code (4 : Nat) (Option.none : Option Jvm.ClassFile.FieldType)) ∈ lw_all := lw_g (lw_at lw_m6 95 rfl) rfl
theorem q1427 : (Jvm.Cond.methodLink "FirstPolls$Rolls" (47 : Nat) ({ cls := "java/util/ArrayList", name := "size", desc := "()I" } : Jvm.MethodName)) ∈ lw_all := lw_g (lw_at lw_m6 96 rfl) rfl
theorem q1428 : (Jvm.Cond.methodLinkNest "FirstPolls$Rolls" (53 : Nat) ({ cls := "FirstPolls", name := "placeOf", desc := "(III)I" } : Jvm.MethodName) "FirstPolls") ∈ lw_tbl := lw_at lw_m6 97 rfl
theorem q1429 : (Jvm.Cond.methodLink "FirstPolls$Rolls" (57 : Nat) ({ cls := "FirstPolls$Rolls", name := "isOn", desc := "(III)Z" } : Jvm.MethodName)) ∈ lw_all := lw_g (lw_at lw_m6 98 rfl) rfl
theorem q1430 : (Jvm.Cond.privateMethod ({ cls := "FirstPolls$Rolls", name := "isOn", desc := "(III)Z" } : Jvm.MethodName)) ∈ lw_tbl := lw_at lw_m6 99 rfl
theorem q1431 : (Jvm.Cond.instanceMethod ({ cls := "FirstPolls$Rolls", name := "isOn", desc := "(III)Z" } : Jvm.MethodName)) ∈ lw_all := lw_g (lw_at lw_m6 100 rfl) rfl
theorem q1432 : (Jvm.Cond.code ({ cls := "FirstPolls$Rolls", name := "isOn", desc := "(III)Z" } : Jvm.MethodName) prog_16_method_3_code (5 : Nat) (Option.some Jvm.ClassFile.FieldType.boolean)) ∈ lw_all := lw_g (lw_at lw_m6 101 rfl) rfl
theorem q1433 : (Jvm.Cond.methodLink "FirstPolls$Rolls" (61 : Nat) ({ cls := "java/util/ArrayList", name := "get", desc := "(I)Ljava/lang/Object;" } : Jvm.MethodName)) ∈ lw_all := lw_g (lw_at lw_m6 102 rfl) rfl
theorem q1434 : (Jvm.Cond.classLink "FirstPolls$Rolls" (65 : Nat) "FirstPolls$Name") ∈ lw_all := lw_g (lw_at lw_m6 103 rfl) rfl
theorem q1435 : (Jvm.Cond.methodLinkNest "FirstPolls$Rolls" (74 : Nat) ({ cls := "FirstPolls", name := "asks", desc := "(I)V" } : Jvm.MethodName) "FirstPolls") ∈ lw_tbl := lw_at lw_m6 104 rfl
theorem q1443 : (Jvm.Cond.methodLink "FirstPolls$Rolls" (100 : Nat) ({ cls := "FirstPolls$Name", name := "kind", desc := "()I" } : Jvm.MethodName)) ∈ lw_all := lw_g (lw_at lw_m6 112 rfl) rfl
theorem q1444 : (Jvm.Cond.methodLinkNest "FirstPolls$Rolls" (103 : Nat) ({ cls := "FirstPolls", name := "hasMoved", desc := "(III)Z" } : Jvm.MethodName) "FirstPolls") ∈ lw_tbl := lw_at lw_m6 113 rfl
theorem q1445 : (Jvm.Cond.methodLinkNest "FirstPolls$Rolls" (106 : Nat) ({ cls := "FirstPolls", name := "last", desc := "(III)J" } : Jvm.MethodName) "FirstPolls") ∈ lw_tbl := lw_at lw_m6 114 rfl
theorem q1493 : (Jvm.Cond.constantLong "FirstPolls$Rolls" (110 : Nat) (-4000000000 : Int64)) ∈ lw_all := lw_g (lw_at lw_m6 162 rfl) rfl
theorem q2542 : (Jvm.Cond.castable "FirstPolls$Rolls" "java/lang/Object") ∈ lw_tbl := lw_at lw_m11 11 rfl
theorem in_X5 : ∀ w ∈ wsX50, w ∈ lw_all := lw_in wsX50 [468, 470, 472, 474, 476, 478, 480] (by decide +kernel) (by decide +kernel)
theorem q143 : (Jvm.Cond.initialized "FirstPolls$Desk") ∈ lw_all := lw_g (lw_at lw_m1 12 rfl) rfl
theorem q229 : (Jvm.Cond.fieldLinkNest "FirstPolls$Desk" (69 : Nat) "FirstPolls$Told" "papers" "Ljava/util/ArrayList;" "FirstPolls") ∈ lw_tbl := lw_at lw_m1 98 rfl
theorem q232 : (Jvm.Cond.fieldLinkNest "FirstPolls$Desk" (106 : Nat) "FirstPolls$Told" "counts" "Ljava/util/ArrayList;" "FirstPolls") ∈ lw_tbl := lw_at lw_m1 101 rfl
theorem q254 : (Jvm.Cond.fieldLinkNest "FirstPolls$Desk" (119 : Nat) "FirstPolls$Told" "boothPlace" "[I" "FirstPolls") ∈ lw_tbl := lw_at lw_m1 123 rfl
theorem q257 : (Jvm.Cond.fieldLinkNest "FirstPolls$Desk" (103 : Nat) "FirstPolls$Told" "boxBooth" "[I" "FirstPolls") ∈ lw_tbl := lw_at lw_m1 126 rfl
theorem q262 : (Jvm.Cond.fieldLinkNest "FirstPolls$Desk" (113 : Nat) "FirstPolls$Told" "numbers" "[I" "FirstPolls") ∈ lw_tbl := lw_at lw_m1 131 rfl
theorem q274 : (Jvm.Cond.fieldLinkNest "FirstPolls$Desk" (60 : Nat) "FirstPolls$Told" "booths" "I" "FirstPolls") ∈ lw_tbl := lw_at lw_m1 143 rfl
theorem q277 : (Jvm.Cond.fieldLinkNest "FirstPolls$Desk" (96 : Nat) "FirstPolls$Told" "boxes" "I" "FirstPolls") ∈ lw_tbl := lw_at lw_m1 146 rfl
theorem q439 : (Jvm.Cond.fieldLinkNest "FirstPolls$Desk" (129 : Nat) "FirstPolls$Setting" "values" "[J" "FirstPolls") ∈ lw_tbl := lw_at lw_m2 68 rfl
theorem q444 : (Jvm.Cond.fieldLinkNest "FirstPolls$Desk" (139 : Nat) "FirstPolls$Setting" "flags" "[Z" "FirstPolls") ∈ lw_tbl := lw_at lw_m2 73 rfl
theorem q484 : (Jvm.Cond.instantiable "FirstPolls$Desk" (10 : Nat)) ∈ lw_all := lw_g (lw_at lw_m2 113 rfl) rfl
theorem q486 : (Jvm.Cond.instanceMethod ({ cls := "FirstPolls$Desk", name := "<init>", desc := "(LFirstPolls;)V" } : Jvm.MethodName)) ∈ lw_all := lw_g (lw_at lw_m2 115 rfl) rfl
theorem q487 : (Jvm.Cond.code ({ cls := "FirstPolls$Desk", name := "<init>", desc := "(LFirstPolls;)V" } : Jvm.MethodName) prog_5_method_1_code (2 : Nat) (Option.none : Option Jvm.ClassFile.FieldType)) ∈ lw_all := lw_g (lw_at lw_m2 116 rfl) rfl
theorem q488 : (Jvm.Cond.methodLink "FirstPolls$Desk" (9 : Nat) ({ cls := "java/lang/Object", name := "<init>", desc := "()V" } : Jvm.MethodName)) ∈ lw_all := lw_g (lw_at lw_m2 117 rfl) rfl
theorem q489 : (Jvm.Cond.fieldLink "FirstPolls$Desk" (15 : Nat) "FirstPolls$Desk" "papers" "[I") ∈ lw_all := lw_g (lw_at lw_m2 118 rfl) rfl
theorem q491 : (Jvm.Cond.fieldLink "FirstPolls$Desk" (19 : Nat) "FirstPolls$Desk" "put" "[I") ∈ lw_all := lw_g (lw_at lw_m2 120 rfl) rfl
theorem q493 : (Jvm.Cond.fieldLink "FirstPolls$Desk" (22 : Nat) "FirstPolls$Desk" "valid" "[I") ∈ lw_all := lw_g (lw_at lw_m2 122 rfl) rfl
theorem q495 : (Jvm.Cond.fieldLink "FirstPolls$Desk" (25 : Nat) "FirstPolls$Desk" "again" "[Z") ∈ lw_all := lw_g (lw_at lw_m2 124 rfl) rfl
theorem q497 : (Jvm.Cond.fieldLink "FirstPolls$Desk" (29 : Nat) "FirstPolls$Desk" "isBroken" "[Z") ∈ lw_all := lw_g (lw_at lw_m2 126 rfl) rfl
theorem q498 : (Jvm.Cond.fieldLink "FirstPolls$Desk" (32 : Nat) "FirstPolls$Desk" "voids" "[Z") ∈ lw_all := lw_g (lw_at lw_m2 127 rfl) rfl
theorem q499 : (Jvm.Cond.fieldLink "FirstPolls$Desk" (35 : Nat) "FirstPolls$Desk" "day" "I") ∈ lw_all := lw_g (lw_at lw_m2 128 rfl) rfl
theorem q500 : (Jvm.Cond.fieldLink "FirstPolls$Desk" (39 : Nat) "FirstPolls$Desk" "known" "I") ∈ lw_all := lw_g (lw_at lw_m2 129 rfl) rfl
theorem q501 : (Jvm.Cond.fieldLink "FirstPolls$Desk" (42 : Nat) "FirstPolls$Desk" "version" "I") ∈ lw_all := lw_g (lw_at lw_m2 130 rfl) rfl
theorem q502 : (Jvm.Cond.fieldLink "FirstPolls$Desk" (3 : Nat) "FirstPolls$Desk" "this$0" "LFirstPolls;") ∈ lw_all := lw_g (lw_at lw_m2 131 rfl) rfl
theorem q503 : (Jvm.Cond.laysFinal "FirstPolls$Desk" "FirstPolls$Desk" "papers" "[I") ∈ lw_all := lw_g (lw_at lw_m2 132 rfl) rfl
theorem q504 : (Jvm.Cond.soleField "FirstPolls$Desk" "papers") ∈ lw_all := lw_g (lw_at lw_m2 133 rfl) rfl
theorem q505 : (Jvm.Cond.laysFinal "FirstPolls$Desk" "FirstPolls$Desk" "put" "[I") ∈ lw_all := lw_g (lw_at lw_m2 134 rfl) rfl
theorem q506 : (Jvm.Cond.soleField "FirstPolls$Desk" "put") ∈ lw_all := lw_g (lw_at lw_m2 135 rfl) rfl
theorem q507 : (Jvm.Cond.laysFinal "FirstPolls$Desk" "FirstPolls$Desk" "valid" "[I") ∈ lw_all := lw_g (lw_at lw_m2 136 rfl) rfl
theorem q508 : (Jvm.Cond.soleField "FirstPolls$Desk" "valid") ∈ lw_all := lw_g (lw_at lw_m2 137 rfl) rfl
theorem q509 : (Jvm.Cond.laysFinal "FirstPolls$Desk" "FirstPolls$Desk" "again" "[Z") ∈ lw_all := lw_g (lw_at lw_m2 138 rfl) rfl
theorem q510 : (Jvm.Cond.soleField "FirstPolls$Desk" "again") ∈ lw_all := lw_g (lw_at lw_m2 139 rfl) rfl
theorem q511 : (Jvm.Cond.laysFinal "FirstPolls$Desk" "FirstPolls$Desk" "isBroken" "[Z") ∈ lw_all := lw_g (lw_at lw_m2 140 rfl) rfl
theorem q512 : (Jvm.Cond.soleField "FirstPolls$Desk" "isBroken") ∈ lw_all := lw_g (lw_at lw_m2 141 rfl) rfl
theorem q513 : (Jvm.Cond.laysFinal "FirstPolls$Desk" "FirstPolls$Desk" "voids" "[Z") ∈ lw_all := lw_g (lw_at lw_m2 142 rfl) rfl
theorem q514 : (Jvm.Cond.soleField "FirstPolls$Desk" "voids") ∈ lw_all := lw_g (lw_at lw_m2 143 rfl) rfl
theorem q515 : (Jvm.Cond.lays "FirstPolls$Desk" "FirstPolls$Desk" "day" "I") ∈ lw_all := lw_g (lw_at lw_m2 144 rfl) rfl
theorem q516 : (Jvm.Cond.soleField "FirstPolls$Desk" "day") ∈ lw_all := lw_g (lw_at lw_m2 145 rfl) rfl
theorem q517 : (Jvm.Cond.lays "FirstPolls$Desk" "FirstPolls$Desk" "known" "I") ∈ lw_all := lw_g (lw_at lw_m2 146 rfl) rfl
theorem q518 : (Jvm.Cond.soleField "FirstPolls$Desk" "known") ∈ lw_all := lw_g (lw_at lw_m2 147 rfl) rfl
theorem q519 : (Jvm.Cond.lays "FirstPolls$Desk" "FirstPolls$Desk" "version" "I") ∈ lw_all := lw_g (lw_at lw_m2 148 rfl) rfl
theorem q520 : (Jvm.Cond.soleField "FirstPolls$Desk" "version") ∈ lw_all := lw_g (lw_at lw_m2 149 rfl) rfl
theorem q521 : (Jvm.Cond.laysFinal "FirstPolls$Desk" "FirstPolls$Desk" "this$0" "LFirstPolls;") ∈ lw_all := lw_g (lw_at lw_m2 150 rfl) rfl
theorem q522 : (Jvm.Cond.soleField "FirstPolls$Desk" "this$0") ∈ lw_all := lw_g (lw_at lw_m2 151 rfl) rfl
theorem q523 : (Jvm.Cond.superclass "FirstPolls$Desk" "java/lang/Object") ∈ lw_all := lw_g (lw_at lw_m2 152 rfl) rfl
theorem q527 : (Jvm.Cond.fieldLinkNest "FirstPolls$Desk" (55 : Nat) "FirstPolls" "version" "I" "FirstPolls") ∈ lw_tbl := lw_at lw_m2 156 rfl
theorem q530 : (Jvm.Cond.fieldLinkNest "FirstPolls$Desk" (56 : Nat) "FirstPolls" "now" "LFirstPolls$Told;" "FirstPolls") ∈ lw_tbl := lw_at lw_m2 159 rfl
theorem q540 : (Jvm.Cond.fieldLinkNest "FirstPolls$Desk" (125 : Nat) "FirstPolls" "setting" "LFirstPolls$Setting;" "FirstPolls") ∈ lw_tbl := lw_at lw_m2 169 rfl
theorem q542 : (Jvm.Cond.fieldLinkNest "FirstPolls$Desk" (45 : Nat) "FirstPolls" "rolls" "LFirstPolls$Rolls;" "FirstPolls") ∈ lw_tbl := lw_at lw_m2 171 rfl
theorem q697 : (Jvm.Cond.selects "FirstPolls$Desk" ({ cls := "java/lang/Object", name := "getClass", desc := "()Ljava/lang/Class;" } : Jvm.MethodName) ({ cls := "java/lang/Object", name := "getClass", desc := "()Ljava/lang/Class;" } : Jvm.MethodName)) ∈ lw_all := lw_g (lw_at lw_m3 86 rfl) rfl
theorem q995 : (Jvm.Cond.fieldLinkNest "FirstPolls$Desk" (87 : Nat) "FirstPolls$Note" "a" "I" "FirstPolls") ∈ lw_tbl := lw_at lw_m4 144 rfl
theorem q998 : (Jvm.Cond.fieldLinkNest "FirstPolls$Desk" (90 : Nat) "FirstPolls$Note" "b" "I" "FirstPolls") ∈ lw_tbl := lw_at lw_m4 147 rfl
theorem q1001 : (Jvm.Cond.fieldLinkNest "FirstPolls$Desk" (93 : Nat) "FirstPolls$Note" "c" "I" "FirstPolls") ∈ lw_tbl := lw_at lw_m4 150 rfl
theorem q1004 : (Jvm.Cond.fieldLinkNest "FirstPolls$Desk" (84 : Nat) "FirstPolls$Note" "d" "I" "FirstPolls") ∈ lw_tbl := lw_at lw_m4 153 rfl
theorem q1629 : (Jvm.Cond.instanceMethod ({ cls := "FirstPolls$Desk", name := "looks", desc := "(II)V" } : Jvm.MethodName)) ∈ lw_all := lw_g (lw_at lw_m7 58 rfl) rfl
theorem q1630 : (Jvm.Cond.selects "FirstPolls$Desk" ({ cls := "FirstPolls$Desk", name := "looks", desc := "(II)V" } : Jvm.MethodName) ({ cls := "FirstPolls$Desk", name := "looks", desc := "(II)V" } : Jvm.MethodName)) ∈ lw_all := lw_g (lw_at lw_m7 59 rfl) rfl
theorem q1631 : (Jvm.Cond.code ({ cls := "FirstPolls$Desk", name := "looks", desc := "(II)V" } : Jvm.MethodName) prog_5_method_2_code (6 : Nat) (Option.none : Option Jvm.ClassFile.FieldType)) ∈ lw_all := lw_g (lw_at lw_m7 60 rfl) rfl
theorem q1632 : (Jvm.Cond.methodLink "FirstPolls$Desk" (49 : Nat) ({ cls := "FirstPolls$Rolls", name := "looks", desc := "(II)V" } : Jvm.MethodName)) ∈ lw_all := lw_g (lw_at lw_m7 61 rfl) rfl
theorem q1633 : (Jvm.Cond.methodLink "FirstPolls$Desk" (65 : Nat) ({ cls := "FirstPolls$Desk", name := "empties", desc := "(I)V" } : Jvm.MethodName)) ∈ lw_all := lw_g (lw_at lw_m7 62 rfl) rfl
theorem q1634 : (Jvm.Cond.privateMethod ({ cls := "FirstPolls$Desk", name := "empties", desc := "(I)V" } : Jvm.MethodName)) ∈ lw_tbl := lw_at lw_m7 63 rfl
theorem q1635 : (Jvm.Cond.instanceMethod ({ cls := "FirstPolls$Desk", name := "empties", desc := "(I)V" } : Jvm.MethodName)) ∈ lw_all := lw_g (lw_at lw_m7 64 rfl) rfl
theorem q1636 : (Jvm.Cond.code ({ cls := "FirstPolls$Desk", name := "empties", desc := "(I)V" } : Jvm.MethodName) prog_5_method_3_code (3 : Nat) (Option.none : Option Jvm.ClassFile.FieldType)) ∈ lw_all := lw_g (lw_at lw_m7 65 rfl) rfl
theorem q1637 : (Jvm.Cond.methodLink "FirstPolls$Desk" (72 : Nat) ({ cls := "java/util/ArrayList", name := "size", desc := "()I" } : Jvm.MethodName)) ∈ lw_all := lw_g (lw_at lw_m7 66 rfl) rfl
theorem q1638 : (Jvm.Cond.methodLink "FirstPolls$Desk" (78 : Nat) ({ cls := "java/util/ArrayList", name := "get", desc := "(I)Ljava/lang/Object;" } : Jvm.MethodName)) ∈ lw_all := lw_g (lw_at lw_m7 67 rfl) rfl
theorem q1639 : (Jvm.Cond.classLink "FirstPolls$Desk" (82 : Nat) "FirstPolls$Note") ∈ lw_all := lw_g (lw_at lw_m7 68 rfl) rfl
theorem q1640 : (Jvm.Cond.methodLinkNest "FirstPolls$Desk" (99 : Nat) ({ cls := "FirstPolls", name := "breaks", desc := "(II)I" } : Jvm.MethodName) "FirstPolls") ∈ lw_tbl := lw_at lw_m7 69 rfl
theorem q1641 : (Jvm.Cond.methodLink "FirstPolls$Desk" (109 : Nat) ({ cls := "FirstPolls$Desk", name := "isLast", desc := "(II)Z" } : Jvm.MethodName)) ∈ lw_all := lw_g (lw_at lw_m7 70 rfl) rfl
theorem q1642 : (Jvm.Cond.privateMethod ({ cls := "FirstPolls$Desk", name := "isLast", desc := "(II)Z" } : Jvm.MethodName)) ∈ lw_tbl := lw_at lw_m7 71 rfl
theorem q1643 : (Jvm.Cond.instanceMethod ({ cls := "FirstPolls$Desk", name := "isLast", desc := "(II)Z" } : Jvm.MethodName)) ∈ lw_all := lw_g (lw_at lw_m7 72 rfl) rfl
theorem q1644 : (Jvm.Cond.code ({ cls := "FirstPolls$Desk", name := "isLast", desc := "(II)Z" } : Jvm.MethodName) prog_5_method_4_code (6 : Nat) (Option.some Jvm.ClassFile.FieldType.boolean)) ∈ lw_all := lw_g (lw_at lw_m7 73 rfl) rfl
theorem q1645 : (Jvm.Cond.methodLink "FirstPolls$Desk" (116 : Nat) ({ cls := "FirstPolls$Desk", name := "asksAll", desc := "(I)V" } : Jvm.MethodName)) ∈ lw_all := lw_g (lw_at lw_m7 74 rfl) rfl
theorem q1646 : (Jvm.Cond.privateMethod ({ cls := "FirstPolls$Desk", name := "asksAll", desc := "(I)V" } : Jvm.MethodName)) ∈ lw_tbl := lw_at lw_m7 75 rfl
theorem q1647 : (Jvm.Cond.instanceMethod ({ cls := "FirstPolls$Desk", name := "asksAll", desc := "(I)V" } : Jvm.MethodName)) ∈ lw_all := lw_g (lw_at lw_m7 76 rfl) rfl
theorem q1648 : (Jvm.Cond.code ({ cls := "FirstPolls$Desk", name := "asksAll", desc := "(I)V" } : Jvm.MethodName) prog_5_method_6_code (3 : Nat) (Option.none : Option Jvm.ClassFile.FieldType)) ∈ lw_all := lw_g (lw_at lw_m7 77 rfl) rfl
theorem q1649 : (Jvm.Cond.methodLinkNest "FirstPolls$Desk" (122 : Nat) ({ cls := "FirstPolls", name := "asksPlace", desc := "(II)V" } : Jvm.MethodName) "FirstPolls") ∈ lw_tbl := lw_at lw_m7 78 rfl
theorem q1650 : (Jvm.Cond.methodLink "FirstPolls$Desk" (135 : Nat) ({ cls := "FirstPolls$Desk", name := "lost", desc := "(I)I" } : Jvm.MethodName)) ∈ lw_all := lw_g (lw_at lw_m7 79 rfl) rfl
theorem q1651 : (Jvm.Cond.instanceMethod ({ cls := "FirstPolls$Desk", name := "lost", desc := "(I)I" } : Jvm.MethodName)) ∈ lw_all := lw_g (lw_at lw_m7 80 rfl) rfl
theorem q1652 : (Jvm.Cond.selects "FirstPolls$Desk" ({ cls := "FirstPolls$Desk", name := "lost", desc := "(I)I" } : Jvm.MethodName) ({ cls := "FirstPolls$Desk", name := "lost", desc := "(I)I" } : Jvm.MethodName)) ∈ lw_all := lw_g (lw_at lw_m7 81 rfl) rfl
theorem q1653 : (Jvm.Cond.code ({ cls := "FirstPolls$Desk", name := "lost", desc := "(I)I" } : Jvm.MethodName) prog_5_method_5_code (2 : Nat) (Option.some Jvm.ClassFile.FieldType.int)) ∈ lw_all := lw_g (lw_at lw_m7 82 rfl) rfl
theorem q1654 : (Jvm.Cond.methodLinkNest "FirstPolls$Desk" (142 : Nat) ({ cls := "FirstPolls", name := "last", desc := "(III)J" } : Jvm.MethodName) "FirstPolls") ∈ lw_tbl := lw_at lw_m7 83 rfl
theorem q1655 : (Jvm.Cond.constantLong "FirstPolls$Desk" (146 : Nat) (-4000000000 : Int64)) ∈ lw_all := lw_g (lw_at lw_m7 84 rfl) rfl
theorem q1658 : (Jvm.Cond.instanceMethod ({ cls := "FirstPolls$Desk", name := "validOf", desc := "(I)I" } : Jvm.MethodName)) ∈ lw_all := lw_g (lw_at lw_m7 87 rfl) rfl
theorem q1659 : (Jvm.Cond.selects "FirstPolls$Desk" ({ cls := "FirstPolls$Desk", name := "validOf", desc := "(I)I" } : Jvm.MethodName) ({ cls := "FirstPolls$Desk", name := "validOf", desc := "(I)I" } : Jvm.MethodName)) ∈ lw_all := lw_g (lw_at lw_m7 88 rfl) rfl
theorem q1660 : (Jvm.Cond.code ({ cls := "FirstPolls$Desk", name := "validOf", desc := "(I)I" } : Jvm.MethodName) prog_5_method_7_code (4 : Nat) (Option.some Jvm.ClassFile.FieldType.int)) ∈ lw_all := lw_g (lw_at lw_m7 89 rfl) rfl
theorem q2543 : (Jvm.Cond.castable "FirstPolls$Desk" "java/lang/Object") ∈ lw_tbl := lw_at lw_m11 12 rfl
theorem in_X6 : ∀ w ∈ wsX60, w ∈ lw_all := lw_in wsX60 [503, 505, 507, 509, 511, 513, 515, 517, 519, 521] (by decide +kernel) (by decide +kernel)
theorem q144 : (Jvm.Cond.initialized "FirstPollsModel") ∈ lw_all := lw_g (lw_at lw_m1 13 rfl) rfl
theorem q716 : (Jvm.Cond.selects "FirstPollsModel" ({ cls := "java/lang/Object", name := "getClass", desc := "()Ljava/lang/Class;" } : Jvm.MethodName) ({ cls := "java/lang/Object", name := "getClass", desc := "()Ljava/lang/Class;" } : Jvm.MethodName)) ∈ lw_all := lw_g (lw_at lw_m3 105 rfl) rfl
theorem q1764 : (Jvm.Cond.instantiable "FirstPollsModel" (62 : Nat)) ∈ lw_all := lw_g (lw_at lw_m7 193 rfl) rfl
theorem q1766 : (Jvm.Cond.instanceMethod ({ cls := "FirstPollsModel", name := "<init>", desc := "()V" } : Jvm.MethodName)) ∈ lw_all := lw_g (lw_at lw_m7 195 rfl) rfl
theorem q1767 : (Jvm.Cond.code ({ cls := "FirstPollsModel", name := "<init>", desc := "()V" } : Jvm.MethodName) prog_27_method_1_code (1 : Nat) (Option.none : Option Jvm.ClassFile.FieldType)) ∈ lw_all := lw_g (lw_at lw_m7 196 rfl) rfl
theorem q1768 : (Jvm.Cond.methodLink "FirstPollsModel" (1 : Nat) ({ cls := "java/lang/Object", name := "<init>", desc := "()V" } : Jvm.MethodName)) ∈ lw_all := lw_g (lw_at lw_m7 197 rfl) rfl
theorem q1769 : (Jvm.Cond.constant "FirstPollsModel" (13 : Nat) (46032 : Int32)) ∈ lw_all := lw_g (lw_at lw_m7 198 rfl) rfl
theorem q1770 : (Jvm.Cond.fieldLink "FirstPollsModel" (113 : Nat) "FirstPollsModel" "thrown" "I") ∈ lw_all := lw_g (lw_at lw_m7 199 rfl) rfl
theorem q1771 : (Jvm.Cond.fieldLink "FirstPollsModel" (116 : Nat) "FirstPollsModel" "status" "I") ∈ lw_all := lw_g (lw_at lw_m7 200 rfl) rfl
theorem q1772 : (Jvm.Cond.fieldLink "FirstPollsModel" (7 : Nat) "FirstPollsModel" "row" "[I") ∈ lw_all := lw_g (lw_at lw_m7 201 rfl) rfl
theorem q1773 : (Jvm.Cond.fieldLink "FirstPollsModel" (14 : Nat) "FirstPollsModel" "images" "[I") ∈ lw_all := lw_g (lw_at lw_m7 202 rfl) rfl
theorem q1774 : (Jvm.Cond.fieldLink "FirstPollsModel" (17 : Nat) "FirstPollsModel" "isKept" "[Z") ∈ lw_all := lw_g (lw_at lw_m7 203 rfl) rfl
theorem q1775 : (Jvm.Cond.fieldLink "FirstPollsModel" (188 : Nat) "FirstPollsModel" "theDay" "I") ∈ lw_all := lw_g (lw_at lw_m7 204 rfl) rfl
theorem q1776 : (Jvm.Cond.fieldLink "FirstPollsModel" (185 : Nat) "FirstPollsModel" "theKnown" "I") ∈ lw_all := lw_g (lw_at lw_m7 205 rfl) rfl
theorem q1777 : (Jvm.Cond.fieldLink "FirstPollsModel" (21 : Nat) "FirstPollsModel" "isOnName" "[Z") ∈ lw_all := lw_g (lw_at lw_m7 206 rfl) rfl
theorem q1778 : (Jvm.Cond.fieldLink "FirstPollsModel" (24 : Nat) "FirstPollsModel" "rollOf" "[I") ∈ lw_all := lw_g (lw_at lw_m7 207 rfl) rfl
theorem q1779 : (Jvm.Cond.fieldLink "FirstPollsModel" (27 : Nat) "FirstPollsModel" "tape" "[I") ∈ lw_all := lw_g (lw_at lw_m7 208 rfl) rfl
theorem q1780 : (Jvm.Cond.fieldLink "FirstPollsModel" (169 : Nat) "FirstPollsModel" "taped" "I") ∈ lw_all := lw_g (lw_at lw_m7 209 rfl) rfl
theorem q1781 : (Jvm.Cond.fieldLink "FirstPollsModel" (233 : Nat) "FirstPollsModel" "from" "I") ∈ lw_all := lw_g (lw_at lw_m7 210 rfl) rfl
theorem q1782 : (Jvm.Cond.fieldLink "FirstPollsModel" (223 : Nat) "FirstPollsModel" "to" "I") ∈ lw_all := lw_g (lw_at lw_m7 211 rfl) rfl
theorem q1783 : (Jvm.Cond.fieldLink "FirstPollsModel" (246 : Nat) "FirstPollsModel" "sort" "I") ∈ lw_all := lw_g (lw_at lw_m7 212 rfl) rfl
theorem q1784 : (Jvm.Cond.fieldLink "FirstPollsModel" (236 : Nat) "FirstPollsModel" "worth" "J") ∈ lw_all := lw_g (lw_at lw_m7 213 rfl) rfl
theorem q1785 : (Jvm.Cond.fieldLink "FirstPollsModel" (30 : Nat) "FirstPollsModel" "fault" "I") ∈ lw_all := lw_g (lw_at lw_m7 214 rfl) rfl
theorem q1786 : (Jvm.Cond.fieldLink "FirstPollsModel" (226 : Nat) "FirstPollsModel" "bad" "Z") ∈ lw_all := lw_g (lw_at lw_m7 215 rfl) rfl
theorem q1787 : (Jvm.Cond.fieldLink "FirstPollsModel" (397 : Nat) "FirstPollsModel" "nClauses" "I") ∈ lw_all := lw_g (lw_at lw_m7 216 rfl) rfl
theorem q1788 : (Jvm.Cond.fieldLink "FirstPollsModel" (34 : Nat) "FirstPollsModel" "nClause" "[I") ∈ lw_all := lw_g (lw_at lw_m7 217 rfl) rfl
theorem q1789 : (Jvm.Cond.fieldLink "FirstPollsModel" (265 : Nat) "FirstPollsModel" "nCode" "I") ∈ lw_all := lw_g (lw_at lw_m7 218 rfl) rfl
theorem q1790 : (Jvm.Cond.fieldLink "FirstPollsModel" (37 : Nat) "FirstPollsModel" "nOp" "[I") ∈ lw_all := lw_g (lw_at lw_m7 219 rfl) rfl
theorem q1791 : (Jvm.Cond.fieldLink "FirstPollsModel" (40 : Nat) "FirstPollsModel" "nArg" "[I") ∈ lw_all := lw_g (lw_at lw_m7 220 rfl) rfl
theorem q1792 : (Jvm.Cond.fieldLink "FirstPollsModel" (327 : Nat) "FirstPollsModel" "nLeaves" "I") ∈ lw_all := lw_g (lw_at lw_m7 221 rfl) rfl
theorem q1793 : (Jvm.Cond.fieldLink "FirstPollsModel" (43 : Nat) "FirstPollsModel" "pile" "[I") ∈ lw_all := lw_g (lw_at lw_m7 222 rfl) rfl
theorem q1794 : (Jvm.Cond.fieldLink "FirstPollsModel" (46 : Nat) "FirstPollsModel" "pileAt" "[I") ∈ lw_all := lw_g (lw_at lw_m7 223 rfl) rfl
theorem q1795 : (Jvm.Cond.fieldLink "FirstPollsModel" (268 : Nat) "FirstPollsModel" "piled" "I") ∈ lw_all := lw_g (lw_at lw_m7 224 rfl) rfl
theorem q1796 : (Jvm.Cond.fieldLink "FirstPollsModel" (321 : Nat) "FirstPollsModel" "opened" "I") ∈ lw_all := lw_g (lw_at lw_m7 225 rfl) rfl
theorem q1797 : (Jvm.Cond.fieldLink "FirstPollsModel" (49 : Nat) "FirstPollsModel" "isOnText" "[Z") ∈ lw_all := lw_g (lw_at lw_m7 226 rfl) rfl
theorem q1798 : (Jvm.Cond.fieldLink "FirstPollsModel" (52 : Nat) "FirstPollsModel" "isStruck" "[Z") ∈ lw_all := lw_g (lw_at lw_m7 227 rfl) rfl
theorem q1799 : (Jvm.Cond.fieldLink "FirstPollsModel" (55 : Nat) "FirstPollsModel" "set" "[J") ∈ lw_all := lw_g (lw_at lw_m7 228 rfl) rfl
theorem q1800 : (Jvm.Cond.fieldLink "FirstPollsModel" (59 : Nat) "FirstPollsModel" "rest" "[J") ∈ lw_all := lw_g (lw_at lw_m7 229 rfl) rfl
theorem q1801 : (Jvm.Cond.fieldLink "FirstPollsModel" (444 : Nat) "FirstPollsModel" "broken" "Z") ∈ lw_all := lw_g (lw_at lw_m7 230 rfl) rfl
theorem q1802 : (Jvm.Cond.fieldLink "FirstPollsModel" (455 : Nat) "FirstPollsModel" "value" "J") ∈ lw_all := lw_g (lw_at lw_m7 231 rfl) rfl
theorem q1803 : (Jvm.Cond.fieldLink "FirstPollsModel" (462 : Nat) "FirstPollsModel" "sum" "J") ∈ lw_all := lw_g (lw_at lw_m7 232 rfl) rfl
theorem q1804 : (Jvm.Cond.fieldLink "FirstPollsModel" (471 : Nat) "FirstPollsModel" "wishes" "I") ∈ lw_all := lw_g (lw_at lw_m7 233 rfl) rfl
theorem q1805 : (Jvm.Cond.fieldLink "FirstPollsModel" (62 : Nat) "FirstPollsModel" "wish" "[I") ∈ lw_all := lw_g (lw_at lw_m7 234 rfl) rfl
theorem q1806 : (Jvm.Cond.fieldLink "FirstPollsModel" (65 : Nat) "FirstPollsModel" "first" "[I") ∈ lw_all := lw_g (lw_at lw_m7 235 rfl) rfl
theorem q1807 : (Jvm.Cond.fieldLink "FirstPollsModel" (68 : Nat) "FirstPollsModel" "last" "[I") ∈ lw_all := lw_g (lw_at lw_m7 236 rfl) rfl
theorem q1808 : (Jvm.Cond.fieldLink "FirstPollsModel" (71 : Nat) "FirstPollsModel" "mostOf" "[I") ∈ lw_all := lw_g (lw_at lw_m7 237 rfl) rfl
theorem q1809 : (Jvm.Cond.fieldLink "FirstPollsModel" (74 : Nat) "FirstPollsModel" "farOf" "[I") ∈ lw_all := lw_g (lw_at lw_m7 238 rfl) rfl
theorem q1810 : (Jvm.Cond.fieldLink "FirstPollsModel" (77 : Nat) "FirstPollsModel" "filled" "[I") ∈ lw_all := lw_g (lw_at lw_m7 239 rfl) rfl
theorem q1811 : (Jvm.Cond.fieldLink "FirstPollsModel" (80 : Nat) "FirstPollsModel" "leads" "[I") ∈ lw_all := lw_g (lw_at lw_m8 0 rfl) rfl
theorem q1812 : (Jvm.Cond.fieldLink "FirstPollsModel" (83 : Nat) "FirstPollsModel" "bestLeads" "[I") ∈ lw_all := lw_g (lw_at lw_m8 1 rfl) rfl
theorem q1813 : (Jvm.Cond.fieldLink "FirstPollsModel" (493 : Nat) "FirstPollsModel" "hasBest" "Z") ∈ lw_all := lw_g (lw_at lw_m8 2 rfl) rfl
theorem q1814 : (Jvm.Cond.fieldLink "FirstPollsModel" (496 : Nat) "FirstPollsModel" "bestMany" "I") ∈ lw_all := lw_g (lw_at lw_m8 3 rfl) rfl
theorem q1815 : (Jvm.Cond.fieldLink "FirstPollsModel" (499 : Nat) "FirstPollsModel" "bestSum" "I") ∈ lw_all := lw_g (lw_at lw_m8 4 rfl) rfl
theorem q1816 : (Jvm.Cond.fieldLink "FirstPollsModel" (86 : Nat) "FirstPollsModel" "bestLed" "[I") ∈ lw_all := lw_g (lw_at lw_m8 5 rfl) rfl
theorem q1817 : (Jvm.Cond.fieldLink "FirstPollsModel" (89 : Nat) "FirstPollsModel" "isVoid" "[Z") ∈ lw_all := lw_g (lw_at lw_m8 6 rfl) rfl
theorem q1818 : (Jvm.Cond.fieldLink "FirstPollsModel" (92 : Nat) "FirstPollsModel" "valid" "[I") ∈ lw_all := lw_g (lw_at lw_m8 7 rfl) rfl
theorem q1819 : (Jvm.Cond.fieldLink "FirstPollsModel" (95 : Nat) "FirstPollsModel" "sums" "[I") ∈ lw_all := lw_g (lw_at lw_m8 8 rfl) rfl
theorem q1820 : (Jvm.Cond.fieldLink "FirstPollsModel" (538 : Nat) "FirstPollsModel" "winner" "I") ∈ lw_all := lw_g (lw_at lw_m8 9 rfl) rfl
theorem q1821 : (Jvm.Cond.fieldLink "FirstPollsModel" (541 : Nat) "FirstPollsModel" "margin" "I") ∈ lw_all := lw_g (lw_at lw_m8 10 rfl) rfl
theorem q1822 : (Jvm.Cond.fieldLink "FirstPollsModel" (98 : Nat) "FirstPollsModel" "joinOf" "[I") ∈ lw_all := lw_g (lw_at lw_m8 11 rfl) rfl
theorem q1823 : (Jvm.Cond.fieldLink "FirstPollsModel" (564 : Nat) "FirstPollsModel" "hasWay" "Z") ∈ lw_all := lw_g (lw_at lw_m8 12 rfl) rfl
theorem q1824 : (Jvm.Cond.fieldLink "FirstPollsModel" (561 : Nat) "FirstPollsModel" "wayMany" "I") ∈ lw_all := lw_g (lw_at lw_m8 13 rfl) rfl
theorem q1825 : (Jvm.Cond.fieldLink "FirstPollsModel" (101 : Nat) "FirstPollsModel" "wayWish" "[I") ∈ lw_all := lw_g (lw_at lw_m8 14 rfl) rfl
theorem q1826 : (Jvm.Cond.fieldLink "FirstPollsModel" (104 : Nat) "FirstPollsModel" "wayDay" "[I") ∈ lw_all := lw_g (lw_at lw_m8 15 rfl) rfl
theorem q1827 : (Jvm.Cond.fieldLink "FirstPollsModel" (107 : Nat) "FirstPollsModel" "goes" "[I") ∈ lw_all := lw_g (lw_at lw_m8 16 rfl) rfl
theorem q1828 : (Jvm.Cond.fieldLink "FirstPollsModel" (110 : Nat) "FirstPollsModel" "polls" "[I") ∈ lw_all := lw_g (lw_at lw_m8 17 rfl) rfl
theorem q1829 : (Jvm.Cond.fieldLink "FirstPollsModel" (587 : Nat) "FirstPollsModel" "sealMany" "I") ∈ lw_all := lw_g (lw_at lw_m8 18 rfl) rfl
theorem q1830 : (Jvm.Cond.fieldLink "FirstPollsModel" (590 : Nat) "FirstPollsModel" "sealSum" "J") ∈ lw_all := lw_g (lw_at lw_m8 19 rfl) rfl
theorem q1831 : (Jvm.Cond.fieldLink "FirstPollsModel" (593 : Nat) "FirstPollsModel" "sealPlaces" "J") ∈ lw_all := lw_g (lw_at lw_m8 20 rfl) rfl
theorem q1832 : (Jvm.Cond.lays "FirstPollsModel" "FirstPollsModel" "thrown" "I") ∈ lw_all := lw_g (lw_at lw_m8 21 rfl) rfl
theorem q1833 : (Jvm.Cond.soleField "FirstPollsModel" "thrown") ∈ lw_all := lw_g (lw_at lw_m8 22 rfl) rfl
theorem q1834 : (Jvm.Cond.lays "FirstPollsModel" "FirstPollsModel" "status" "I") ∈ lw_all := lw_g (lw_at lw_m8 23 rfl) rfl
theorem q1835 : (Jvm.Cond.soleField "FirstPollsModel" "status") ∈ lw_all := lw_g (lw_at lw_m8 24 rfl) rfl
theorem q1836 : (Jvm.Cond.laysFinal "FirstPollsModel" "FirstPollsModel" "row" "[I") ∈ lw_all := lw_g (lw_at lw_m8 25 rfl) rfl
theorem q1837 : (Jvm.Cond.soleField "FirstPollsModel" "row") ∈ lw_all := lw_g (lw_at lw_m8 26 rfl) rfl
theorem q1838 : (Jvm.Cond.laysFinal "FirstPollsModel" "FirstPollsModel" "images" "[I") ∈ lw_all := lw_g (lw_at lw_m8 27 rfl) rfl
theorem q1839 : (Jvm.Cond.soleField "FirstPollsModel" "images") ∈ lw_all := lw_g (lw_at lw_m8 28 rfl) rfl
theorem q1840 : (Jvm.Cond.laysFinal "FirstPollsModel" "FirstPollsModel" "isKept" "[Z") ∈ lw_all := lw_g (lw_at lw_m8 29 rfl) rfl
theorem q1841 : (Jvm.Cond.soleField "FirstPollsModel" "isKept") ∈ lw_all := lw_g (lw_at lw_m8 30 rfl) rfl
theorem q1842 : (Jvm.Cond.lays "FirstPollsModel" "FirstPollsModel" "theDay" "I") ∈ lw_all := lw_g (lw_at lw_m8 31 rfl) rfl
theorem q1843 : (Jvm.Cond.soleField "FirstPollsModel" "theDay") ∈ lw_all := lw_g (lw_at lw_m8 32 rfl) rfl
theorem q1844 : (Jvm.Cond.lays "FirstPollsModel" "FirstPollsModel" "theKnown" "I") ∈ lw_all := lw_g (lw_at lw_m8 33 rfl) rfl
theorem q1845 : (Jvm.Cond.soleField "FirstPollsModel" "theKnown") ∈ lw_all := lw_g (lw_at lw_m8 34 rfl) rfl
theorem q1846 : (Jvm.Cond.laysFinal "FirstPollsModel" "FirstPollsModel" "isOnName" "[Z") ∈ lw_all := lw_g (lw_at lw_m8 35 rfl) rfl
theorem q1847 : (Jvm.Cond.soleField "FirstPollsModel" "isOnName") ∈ lw_all := lw_g (lw_at lw_m8 36 rfl) rfl
theorem q1848 : (Jvm.Cond.laysFinal "FirstPollsModel" "FirstPollsModel" "rollOf" "[I") ∈ lw_all := lw_g (lw_at lw_m8 37 rfl) rfl
theorem q1849 : (Jvm.Cond.soleField "FirstPollsModel" "rollOf") ∈ lw_all := lw_g (lw_at lw_m8 38 rfl) rfl
theorem q1850 : (Jvm.Cond.laysFinal "FirstPollsModel" "FirstPollsModel" "tape" "[I") ∈ lw_all := lw_g (lw_at lw_m8 39 rfl) rfl
theorem q1851 : (Jvm.Cond.soleField "FirstPollsModel" "tape") ∈ lw_all := lw_g (lw_at lw_m8 40 rfl) rfl
theorem q1852 : (Jvm.Cond.lays "FirstPollsModel" "FirstPollsModel" "taped" "I") ∈ lw_all := lw_g (lw_at lw_m8 41 rfl) rfl
theorem q1853 : (Jvm.Cond.soleField "FirstPollsModel" "taped") ∈ lw_all := lw_g (lw_at lw_m8 42 rfl) rfl
theorem q1854 : (Jvm.Cond.lays "FirstPollsModel" "FirstPollsModel" "from" "I") ∈ lw_all := lw_g (lw_at lw_m8 43 rfl) rfl
theorem q1855 : (Jvm.Cond.soleField "FirstPollsModel" "from") ∈ lw_all := lw_g (lw_at lw_m8 44 rfl) rfl
theorem q1856 : (Jvm.Cond.lays "FirstPollsModel" "FirstPollsModel" "to" "I") ∈ lw_all := lw_g (lw_at lw_m8 45 rfl) rfl
theorem q1857 : (Jvm.Cond.soleField "FirstPollsModel" "to") ∈ lw_all := lw_g (lw_at lw_m8 46 rfl) rfl
theorem q1858 : (Jvm.Cond.lays "FirstPollsModel" "FirstPollsModel" "sort" "I") ∈ lw_all := lw_g (lw_at lw_m8 47 rfl) rfl
theorem q1859 : (Jvm.Cond.soleField "FirstPollsModel" "sort") ∈ lw_all := lw_g (lw_at lw_m8 48 rfl) rfl
theorem q1860 : (Jvm.Cond.lays "FirstPollsModel" "FirstPollsModel" "worth" "J") ∈ lw_all := lw_g (lw_at lw_m8 49 rfl) rfl
theorem q1861 : (Jvm.Cond.soleField "FirstPollsModel" "worth") ∈ lw_all := lw_g (lw_at lw_m8 50 rfl) rfl
theorem q1862 : (Jvm.Cond.lays "FirstPollsModel" "FirstPollsModel" "fault" "I") ∈ lw_all := lw_g (lw_at lw_m8 51 rfl) rfl
theorem q1863 : (Jvm.Cond.soleField "FirstPollsModel" "fault") ∈ lw_all := lw_g (lw_at lw_m8 52 rfl) rfl
theorem q1864 : (Jvm.Cond.lays "FirstPollsModel" "FirstPollsModel" "bad" "Z") ∈ lw_all := lw_g (lw_at lw_m8 53 rfl) rfl
theorem q1865 : (Jvm.Cond.soleField "FirstPollsModel" "bad") ∈ lw_all := lw_g (lw_at lw_m8 54 rfl) rfl
theorem q1866 : (Jvm.Cond.lays "FirstPollsModel" "FirstPollsModel" "nClauses" "I") ∈ lw_all := lw_g (lw_at lw_m8 55 rfl) rfl
theorem q1867 : (Jvm.Cond.soleField "FirstPollsModel" "nClauses") ∈ lw_all := lw_g (lw_at lw_m8 56 rfl) rfl
theorem q1868 : (Jvm.Cond.laysFinal "FirstPollsModel" "FirstPollsModel" "nClause" "[I") ∈ lw_all := lw_g (lw_at lw_m8 57 rfl) rfl
theorem q1869 : (Jvm.Cond.soleField "FirstPollsModel" "nClause") ∈ lw_all := lw_g (lw_at lw_m8 58 rfl) rfl
theorem q1870 : (Jvm.Cond.lays "FirstPollsModel" "FirstPollsModel" "nCode" "I") ∈ lw_all := lw_g (lw_at lw_m8 59 rfl) rfl
theorem q1871 : (Jvm.Cond.soleField "FirstPollsModel" "nCode") ∈ lw_all := lw_g (lw_at lw_m8 60 rfl) rfl
theorem q1872 : (Jvm.Cond.laysFinal "FirstPollsModel" "FirstPollsModel" "nOp" "[I") ∈ lw_all := lw_g (lw_at lw_m8 61 rfl) rfl
theorem q1873 : (Jvm.Cond.soleField "FirstPollsModel" "nOp") ∈ lw_all := lw_g (lw_at lw_m8 62 rfl) rfl
theorem q1874 : (Jvm.Cond.laysFinal "FirstPollsModel" "FirstPollsModel" "nArg" "[I") ∈ lw_all := lw_g (lw_at lw_m8 63 rfl) rfl
theorem q1875 : (Jvm.Cond.soleField "FirstPollsModel" "nArg") ∈ lw_all := lw_g (lw_at lw_m8 64 rfl) rfl
theorem q1876 : (Jvm.Cond.lays "FirstPollsModel" "FirstPollsModel" "nLeaves" "I") ∈ lw_all := lw_g (lw_at lw_m8 65 rfl) rfl
theorem q1877 : (Jvm.Cond.soleField "FirstPollsModel" "nLeaves") ∈ lw_all := lw_g (lw_at lw_m8 66 rfl) rfl
theorem q1878 : (Jvm.Cond.laysFinal "FirstPollsModel" "FirstPollsModel" "pile" "[I") ∈ lw_all := lw_g (lw_at lw_m8 67 rfl) rfl
theorem q1879 : (Jvm.Cond.soleField "FirstPollsModel" "pile") ∈ lw_all := lw_g (lw_at lw_m8 68 rfl) rfl
theorem q1880 : (Jvm.Cond.laysFinal "FirstPollsModel" "FirstPollsModel" "pileAt" "[I") ∈ lw_all := lw_g (lw_at lw_m8 69 rfl) rfl
theorem q1881 : (Jvm.Cond.soleField "FirstPollsModel" "pileAt") ∈ lw_all := lw_g (lw_at lw_m8 70 rfl) rfl
theorem q1882 : (Jvm.Cond.lays "FirstPollsModel" "FirstPollsModel" "piled" "I") ∈ lw_all := lw_g (lw_at lw_m8 71 rfl) rfl
theorem q1883 : (Jvm.Cond.soleField "FirstPollsModel" "piled") ∈ lw_all := lw_g (lw_at lw_m8 72 rfl) rfl
theorem q1884 : (Jvm.Cond.lays "FirstPollsModel" "FirstPollsModel" "opened" "I") ∈ lw_all := lw_g (lw_at lw_m8 73 rfl) rfl
theorem q1885 : (Jvm.Cond.soleField "FirstPollsModel" "opened") ∈ lw_all := lw_g (lw_at lw_m8 74 rfl) rfl
theorem q1886 : (Jvm.Cond.laysFinal "FirstPollsModel" "FirstPollsModel" "isOnText" "[Z") ∈ lw_all := lw_g (lw_at lw_m8 75 rfl) rfl
theorem q1887 : (Jvm.Cond.soleField "FirstPollsModel" "isOnText") ∈ lw_all := lw_g (lw_at lw_m8 76 rfl) rfl
theorem q1888 : (Jvm.Cond.laysFinal "FirstPollsModel" "FirstPollsModel" "isStruck" "[Z") ∈ lw_all := lw_g (lw_at lw_m8 77 rfl) rfl
theorem q1889 : (Jvm.Cond.soleField "FirstPollsModel" "isStruck") ∈ lw_all := lw_g (lw_at lw_m8 78 rfl) rfl
theorem q1890 : (Jvm.Cond.laysFinal "FirstPollsModel" "FirstPollsModel" "set" "[J") ∈ lw_all := lw_g (lw_at lw_m8 79 rfl) rfl
theorem q1891 : (Jvm.Cond.soleField "FirstPollsModel" "set") ∈ lw_all := lw_g (lw_at lw_m8 80 rfl) rfl
theorem q1892 : (Jvm.Cond.laysFinal "FirstPollsModel" "FirstPollsModel" "rest" "[J") ∈ lw_all := lw_g (lw_at lw_m8 81 rfl) rfl
theorem q1893 : (Jvm.Cond.soleField "FirstPollsModel" "rest") ∈ lw_all := lw_g (lw_at lw_m8 82 rfl) rfl
theorem q1894 : (Jvm.Cond.lays "FirstPollsModel" "FirstPollsModel" "broken" "Z") ∈ lw_all := lw_g (lw_at lw_m8 83 rfl) rfl
theorem q1895 : (Jvm.Cond.soleField "FirstPollsModel" "broken") ∈ lw_all := lw_g (lw_at lw_m8 84 rfl) rfl
theorem q1896 : (Jvm.Cond.lays "FirstPollsModel" "FirstPollsModel" "value" "J") ∈ lw_all := lw_g (lw_at lw_m8 85 rfl) rfl
theorem q1897 : (Jvm.Cond.soleField "FirstPollsModel" "value") ∈ lw_all := lw_g (lw_at lw_m8 86 rfl) rfl
theorem q1898 : (Jvm.Cond.lays "FirstPollsModel" "FirstPollsModel" "sum" "J") ∈ lw_all := lw_g (lw_at lw_m8 87 rfl) rfl
theorem q1899 : (Jvm.Cond.soleField "FirstPollsModel" "sum") ∈ lw_all := lw_g (lw_at lw_m8 88 rfl) rfl
theorem q1900 : (Jvm.Cond.lays "FirstPollsModel" "FirstPollsModel" "wishes" "I") ∈ lw_all := lw_g (lw_at lw_m8 89 rfl) rfl
theorem q1901 : (Jvm.Cond.soleField "FirstPollsModel" "wishes") ∈ lw_all := lw_g (lw_at lw_m8 90 rfl) rfl
theorem q1902 : (Jvm.Cond.laysFinal "FirstPollsModel" "FirstPollsModel" "wish" "[I") ∈ lw_all := lw_g (lw_at lw_m8 91 rfl) rfl
theorem q1903 : (Jvm.Cond.soleField "FirstPollsModel" "wish") ∈ lw_all := lw_g (lw_at lw_m8 92 rfl) rfl
theorem q1904 : (Jvm.Cond.laysFinal "FirstPollsModel" "FirstPollsModel" "first" "[I") ∈ lw_all := lw_g (lw_at lw_m8 93 rfl) rfl
theorem q1905 : (Jvm.Cond.soleField "FirstPollsModel" "first") ∈ lw_all := lw_g (lw_at lw_m8 94 rfl) rfl
theorem q1906 : (Jvm.Cond.laysFinal "FirstPollsModel" "FirstPollsModel" "last" "[I") ∈ lw_all := lw_g (lw_at lw_m8 95 rfl) rfl
theorem q1907 : (Jvm.Cond.soleField "FirstPollsModel" "last") ∈ lw_all := lw_g (lw_at lw_m8 96 rfl) rfl
theorem q1908 : (Jvm.Cond.laysFinal "FirstPollsModel" "FirstPollsModel" "mostOf" "[I") ∈ lw_all := lw_g (lw_at lw_m8 97 rfl) rfl
theorem q1909 : (Jvm.Cond.soleField "FirstPollsModel" "mostOf") ∈ lw_all := lw_g (lw_at lw_m8 98 rfl) rfl
theorem q1910 : (Jvm.Cond.laysFinal "FirstPollsModel" "FirstPollsModel" "farOf" "[I") ∈ lw_all := lw_g (lw_at lw_m8 99 rfl) rfl
theorem q1911 : (Jvm.Cond.soleField "FirstPollsModel" "farOf") ∈ lw_all := lw_g (lw_at lw_m8 100 rfl) rfl
theorem q1912 : (Jvm.Cond.laysFinal "FirstPollsModel" "FirstPollsModel" "filled" "[I") ∈ lw_all := lw_g (lw_at lw_m8 101 rfl) rfl
theorem q1913 : (Jvm.Cond.soleField "FirstPollsModel" "filled") ∈ lw_all := lw_g (lw_at lw_m8 102 rfl) rfl
theorem q1914 : (Jvm.Cond.laysFinal "FirstPollsModel" "FirstPollsModel" "leads" "[I") ∈ lw_all := lw_g (lw_at lw_m8 103 rfl) rfl
theorem q1915 : (Jvm.Cond.soleField "FirstPollsModel" "leads") ∈ lw_all := lw_g (lw_at lw_m8 104 rfl) rfl
theorem q1916 : (Jvm.Cond.laysFinal "FirstPollsModel" "FirstPollsModel" "bestLeads" "[I") ∈ lw_all := lw_g (lw_at lw_m8 105 rfl) rfl
theorem q1917 : (Jvm.Cond.soleField "FirstPollsModel" "bestLeads") ∈ lw_all := lw_g (lw_at lw_m8 106 rfl) rfl
theorem q1918 : (Jvm.Cond.lays "FirstPollsModel" "FirstPollsModel" "hasBest" "Z") ∈ lw_all := lw_g (lw_at lw_m8 107 rfl) rfl
theorem q1919 : (Jvm.Cond.soleField "FirstPollsModel" "hasBest") ∈ lw_all := lw_g (lw_at lw_m8 108 rfl) rfl
theorem q1920 : (Jvm.Cond.lays "FirstPollsModel" "FirstPollsModel" "bestMany" "I") ∈ lw_all := lw_g (lw_at lw_m8 109 rfl) rfl
theorem q1921 : (Jvm.Cond.soleField "FirstPollsModel" "bestMany") ∈ lw_all := lw_g (lw_at lw_m8 110 rfl) rfl
theorem q1922 : (Jvm.Cond.lays "FirstPollsModel" "FirstPollsModel" "bestSum" "I") ∈ lw_all := lw_g (lw_at lw_m8 111 rfl) rfl
theorem q1923 : (Jvm.Cond.soleField "FirstPollsModel" "bestSum") ∈ lw_all := lw_g (lw_at lw_m8 112 rfl) rfl
theorem q1924 : (Jvm.Cond.laysFinal "FirstPollsModel" "FirstPollsModel" "bestLed" "[I") ∈ lw_all := lw_g (lw_at lw_m8 113 rfl) rfl
theorem q1925 : (Jvm.Cond.soleField "FirstPollsModel" "bestLed") ∈ lw_all := lw_g (lw_at lw_m8 114 rfl) rfl
theorem q1926 : (Jvm.Cond.laysFinal "FirstPollsModel" "FirstPollsModel" "isVoid" "[Z") ∈ lw_all := lw_g (lw_at lw_m8 115 rfl) rfl
theorem q1927 : (Jvm.Cond.soleField "FirstPollsModel" "isVoid") ∈ lw_all := lw_g (lw_at lw_m8 116 rfl) rfl
theorem q1928 : (Jvm.Cond.laysFinal "FirstPollsModel" "FirstPollsModel" "valid" "[I") ∈ lw_all := lw_g (lw_at lw_m8 117 rfl) rfl
theorem q1929 : (Jvm.Cond.soleField "FirstPollsModel" "valid") ∈ lw_all := lw_g (lw_at lw_m8 118 rfl) rfl
theorem q1930 : (Jvm.Cond.laysFinal "FirstPollsModel" "FirstPollsModel" "sums" "[I") ∈ lw_all := lw_g (lw_at lw_m8 119 rfl) rfl
theorem q1931 : (Jvm.Cond.soleField "FirstPollsModel" "sums") ∈ lw_all := lw_g (lw_at lw_m8 120 rfl) rfl
theorem q1932 : (Jvm.Cond.lays "FirstPollsModel" "FirstPollsModel" "winner" "I") ∈ lw_all := lw_g (lw_at lw_m8 121 rfl) rfl
theorem q1933 : (Jvm.Cond.soleField "FirstPollsModel" "winner") ∈ lw_all := lw_g (lw_at lw_m8 122 rfl) rfl
theorem q1934 : (Jvm.Cond.lays "FirstPollsModel" "FirstPollsModel" "margin" "I") ∈ lw_all := lw_g (lw_at lw_m8 123 rfl) rfl
theorem q1935 : (Jvm.Cond.soleField "FirstPollsModel" "margin") ∈ lw_all := lw_g (lw_at lw_m8 124 rfl) rfl
theorem q1936 : (Jvm.Cond.laysFinal "FirstPollsModel" "FirstPollsModel" "joinOf" "[I") ∈ lw_all := lw_g (lw_at lw_m8 125 rfl) rfl
theorem q1937 : (Jvm.Cond.soleField "FirstPollsModel" "joinOf") ∈ lw_all := lw_g (lw_at lw_m8 126 rfl) rfl
theorem q1938 : (Jvm.Cond.lays "FirstPollsModel" "FirstPollsModel" "hasWay" "Z") ∈ lw_all := lw_g (lw_at lw_m8 127 rfl) rfl
theorem q1939 : (Jvm.Cond.soleField "FirstPollsModel" "hasWay") ∈ lw_all := lw_g (lw_at lw_m8 128 rfl) rfl
theorem q1940 : (Jvm.Cond.lays "FirstPollsModel" "FirstPollsModel" "wayMany" "I") ∈ lw_all := lw_g (lw_at lw_m8 129 rfl) rfl
theorem q1941 : (Jvm.Cond.soleField "FirstPollsModel" "wayMany") ∈ lw_all := lw_g (lw_at lw_m8 130 rfl) rfl
theorem q1942 : (Jvm.Cond.laysFinal "FirstPollsModel" "FirstPollsModel" "wayWish" "[I") ∈ lw_all := lw_g (lw_at lw_m8 131 rfl) rfl
theorem q1943 : (Jvm.Cond.soleField "FirstPollsModel" "wayWish") ∈ lw_all := lw_g (lw_at lw_m8 132 rfl) rfl
theorem q1944 : (Jvm.Cond.laysFinal "FirstPollsModel" "FirstPollsModel" "wayDay" "[I") ∈ lw_all := lw_g (lw_at lw_m8 133 rfl) rfl
theorem q1945 : (Jvm.Cond.soleField "FirstPollsModel" "wayDay") ∈ lw_all := lw_g (lw_at lw_m8 134 rfl) rfl
theorem q1946 : (Jvm.Cond.laysFinal "FirstPollsModel" "FirstPollsModel" "goes" "[I") ∈ lw_all := lw_g (lw_at lw_m8 135 rfl) rfl
theorem q1947 : (Jvm.Cond.soleField "FirstPollsModel" "goes") ∈ lw_all := lw_g (lw_at lw_m8 136 rfl) rfl
theorem q1948 : (Jvm.Cond.laysFinal "FirstPollsModel" "FirstPollsModel" "polls" "[I") ∈ lw_all := lw_g (lw_at lw_m8 137 rfl) rfl
theorem q1949 : (Jvm.Cond.soleField "FirstPollsModel" "polls") ∈ lw_all := lw_g (lw_at lw_m8 138 rfl) rfl
theorem q1950 : (Jvm.Cond.lays "FirstPollsModel" "FirstPollsModel" "sealMany" "I") ∈ lw_all := lw_g (lw_at lw_m8 139 rfl) rfl
theorem q1951 : (Jvm.Cond.soleField "FirstPollsModel" "sealMany") ∈ lw_all := lw_g (lw_at lw_m8 140 rfl) rfl
theorem q1952 : (Jvm.Cond.lays "FirstPollsModel" "FirstPollsModel" "sealSum" "J") ∈ lw_all := lw_g (lw_at lw_m8 141 rfl) rfl
theorem q1953 : (Jvm.Cond.soleField "FirstPollsModel" "sealSum") ∈ lw_all := lw_g (lw_at lw_m8 142 rfl) rfl
theorem q1954 : (Jvm.Cond.lays "FirstPollsModel" "FirstPollsModel" "sealPlaces" "J") ∈ lw_all := lw_g (lw_at lw_m8 143 rfl) rfl
theorem q1955 : (Jvm.Cond.soleField "FirstPollsModel" "sealPlaces") ∈ lw_all := lw_g (lw_at lw_m8 144 rfl) rfl
theorem q1956 : (Jvm.Cond.superclass "FirstPollsModel" "java/lang/Object") ∈ lw_all := lw_g (lw_at lw_m8 145 rfl) rfl
theorem q1958 : (Jvm.Cond.instanceMethod ({ cls := "FirstPollsModel", name := "image", desc := "(I)I" } : Jvm.MethodName)) ∈ lw_all := lw_g (lw_at lw_m8 147 rfl) rfl
theorem q1959 : (Jvm.Cond.selects "FirstPollsModel" ({ cls := "FirstPollsModel", name := "image", desc := "(I)I" } : Jvm.MethodName) ({ cls := "FirstPollsModel", name := "image", desc := "(I)I" } : Jvm.MethodName)) ∈ lw_all := lw_g (lw_at lw_m8 148 rfl) rfl
theorem q1960 : (Jvm.Cond.code ({ cls := "FirstPollsModel", name := "image", desc := "(I)I" } : Jvm.MethodName) prog_27_method_6_code (3 : Nat) (Option.some Jvm.ClassFile.FieldType.int)) ∈ lw_all := lw_g (lw_at lw_m8 149 rfl) rfl
theorem q1961 : (Jvm.Cond.methodLink "FirstPollsModel" (121 : Nat) ({ cls := "FirstPollsModel", name := "in", desc := "(JJJ)Z" } : Jvm.MethodName)) ∈ lw_all := lw_g (lw_at lw_m8 150 rfl) rfl
theorem q1962 : (Jvm.Cond.static ({ cls := "FirstPollsModel", name := "in", desc := "(JJJ)Z" } : Jvm.MethodName)) ∈ lw_all := lw_g (lw_at lw_m8 151 rfl) rfl
theorem q1963 : (Jvm.Cond.code ({ cls := "FirstPollsModel", name := "in", desc := "(JJJ)Z" } : Jvm.MethodName) prog_27_method_3_code (6 : Nat) (Option.some Jvm.ClassFile.FieldType.boolean)) ∈ lw_all := lw_g (lw_at lw_m8 152 rfl) rfl
theorem q1964 : (Jvm.Cond.methodLink "FirstPollsModel" (125 : Nat) ({ cls := "FirstPollsModel", name := "told", desc := "(I)I" } : Jvm.MethodName)) ∈ lw_all := lw_g (lw_at lw_m8 153 rfl) rfl
theorem q1965 : (Jvm.Cond.privateMethod ({ cls := "FirstPollsModel", name := "told", desc := "(I)I" } : Jvm.MethodName)) ∈ lw_tbl := lw_at lw_m8 154 rfl
theorem q1966 : (Jvm.Cond.instanceMethod ({ cls := "FirstPollsModel", name := "told", desc := "(I)I" } : Jvm.MethodName)) ∈ lw_all := lw_g (lw_at lw_m8 155 rfl) rfl
theorem q1967 : (Jvm.Cond.code ({ cls := "FirstPollsModel", name := "told", desc := "(I)I" } : Jvm.MethodName) prog_27_method_4_code (2 : Nat) (Option.some Jvm.ClassFile.FieldType.int)) ∈ lw_all := lw_g (lw_at lw_m8 156 rfl) rfl
theorem q1969 : (Jvm.Cond.instanceMethod ({ cls := "FirstPollsModel", name := "back", desc := "(I)I" } : Jvm.MethodName)) ∈ lw_all := lw_g (lw_at lw_m8 158 rfl) rfl
theorem q1970 : (Jvm.Cond.selects "FirstPollsModel" ({ cls := "FirstPollsModel", name := "back", desc := "(I)I" } : Jvm.MethodName) ({ cls := "FirstPollsModel", name := "back", desc := "(I)I" } : Jvm.MethodName)) ∈ lw_all := lw_g (lw_at lw_m8 159 rfl) rfl
theorem q1971 : (Jvm.Cond.code ({ cls := "FirstPollsModel", name := "back", desc := "(I)I" } : Jvm.MethodName) prog_27_method_7_code (3 : Nat) (Option.some Jvm.ClassFile.FieldType.int)) ∈ lw_all := lw_g (lw_at lw_m8 160 rfl) rfl
theorem q1973 : (Jvm.Cond.instanceMethod ({ cls := "FirstPollsModel", name := "place", desc := "(III)I" } : Jvm.MethodName)) ∈ lw_all := lw_g (lw_at lw_m8 162 rfl) rfl
theorem q1974 : (Jvm.Cond.selects "FirstPollsModel" ({ cls := "FirstPollsModel", name := "place", desc := "(III)I" } : Jvm.MethodName) ({ cls := "FirstPollsModel", name := "place", desc := "(III)I" } : Jvm.MethodName)) ∈ lw_all := lw_g (lw_at lw_m8 163 rfl) rfl
theorem q1975 : (Jvm.Cond.code ({ cls := "FirstPollsModel", name := "place", desc := "(III)I" } : Jvm.MethodName) prog_27_method_15_code (5 : Nat) (Option.some Jvm.ClassFile.FieldType.int)) ∈ lw_all := lw_g (lw_at lw_m8 164 rfl) rfl
theorem q1976 : (Jvm.Cond.constantLong "FirstPollsModel" (129 : Nat) (5 : Int64)) ∈ lw_all := lw_g (lw_at lw_m8 165 rfl) rfl
theorem q1977 : (Jvm.Cond.constantLong "FirstPollsModel" (131 : Nat) (99 : Int64)) ∈ lw_all := lw_g (lw_at lw_m8 166 rfl) rfl
theorem q1978 : (Jvm.Cond.methodLink "FirstPollsModel" (133 : Nat) ({ cls := "FirstPollsModel", name := "placeAt", desc := "(I)I" } : Jvm.MethodName)) ∈ lw_all := lw_g (lw_at lw_m8 167 rfl) rfl
theorem q1979 : (Jvm.Cond.static ({ cls := "FirstPollsModel", name := "placeAt", desc := "(I)I" } : Jvm.MethodName)) ∈ lw_all := lw_g (lw_at lw_m8 168 rfl) rfl
theorem q1980 : (Jvm.Cond.code ({ cls := "FirstPollsModel", name := "placeAt", desc := "(I)I" } : Jvm.MethodName) prog_27_method_13_code (1 : Nat) (Option.some Jvm.ClassFile.FieldType.int)) ∈ lw_all := lw_g (lw_at lw_m8 169 rfl) rfl
theorem q1982 : (Jvm.Cond.instanceMethod ({ cls := "FirstPollsModel", name := "name", desc := "(IIIIII)I" } : Jvm.MethodName)) ∈ lw_all := lw_g (lw_at lw_m8 171 rfl) rfl
theorem q1983 : (Jvm.Cond.selects "FirstPollsModel" ({ cls := "FirstPollsModel", name := "name", desc := "(IIIIII)I" } : Jvm.MethodName) ({ cls := "FirstPollsModel", name := "name", desc := "(IIIIII)I" } : Jvm.MethodName)) ∈ lw_all := lw_g (lw_at lw_m8 172 rfl) rfl
theorem q1984 : (Jvm.Cond.code ({ cls := "FirstPollsModel", name := "name", desc := "(IIIIII)I" } : Jvm.MethodName) prog_27_method_19_code (7 : Nat) (Option.some Jvm.ClassFile.FieldType.int)) ∈ lw_all := lw_g (lw_at lw_m8 173 rfl) rfl
theorem q1985 : (Jvm.Cond.methodLink "FirstPollsModel" (155 : Nat) ({ cls := "FirstPollsModel", name := "isPerson", desc := "(IIII)Z" } : Jvm.MethodName)) ∈ lw_all := lw_g (lw_at lw_m8 174 rfl) rfl
theorem q1986 : (Jvm.Cond.static ({ cls := "FirstPollsModel", name := "isPerson", desc := "(IIII)Z" } : Jvm.MethodName)) ∈ lw_all := lw_g (lw_at lw_m8 175 rfl) rfl
theorem q1987 : (Jvm.Cond.code ({ cls := "FirstPollsModel", name := "isPerson", desc := "(IIII)Z" } : Jvm.MethodName) prog_27_method_17_code (4 : Nat) (Option.some Jvm.ClassFile.FieldType.boolean)) ∈ lw_all := lw_g (lw_at lw_m8 176 rfl) rfl
theorem q1988 : (Jvm.Cond.constantLong "FirstPollsModel" (140 : Nat) (120 : Int64)) ∈ lw_all := lw_g (lw_at lw_m8 177 rfl) rfl
theorem q1989 : (Jvm.Cond.constantLong "FirstPollsModel" (142 : Nat) (3 : Int64)) ∈ lw_all := lw_g (lw_at lw_m8 178 rfl) rfl
theorem q1990 : (Jvm.Cond.methodLink "FirstPollsModel" (144 : Nat) ({ cls := "FirstPollsModel", name := "areLetters", desc := "(I)Z" } : Jvm.MethodName)) ∈ lw_all := lw_g (lw_at lw_m8 179 rfl) rfl
theorem q1991 : (Jvm.Cond.static ({ cls := "FirstPollsModel", name := "areLetters", desc := "(I)Z" } : Jvm.MethodName)) ∈ lw_all := lw_g (lw_at lw_m8 180 rfl) rfl
theorem q1992 : (Jvm.Cond.code ({ cls := "FirstPollsModel", name := "areLetters", desc := "(I)Z" } : Jvm.MethodName) prog_27_method_16_code (3 : Nat) (Option.some Jvm.ClassFile.FieldType.boolean)) ∈ lw_all := lw_g (lw_at lw_m8 181 rfl) rfl
theorem q1993 : (Jvm.Cond.constantLong "FirstPollsModel" (136 : Nat) (97 : Int64)) ∈ lw_all := lw_g (lw_at lw_m8 182 rfl) rfl
theorem q1994 : (Jvm.Cond.constantLong "FirstPollsModel" (138 : Nat) (122 : Int64)) ∈ lw_all := lw_g (lw_at lw_m8 183 rfl) rfl
theorem q1995 : (Jvm.Cond.methodLink "FirstPollsModel" (159 : Nat) ({ cls := "FirstPollsModel", name := "isDay", desc := "(I)Z" } : Jvm.MethodName)) ∈ lw_all := lw_g (lw_at lw_m8 184 rfl) rfl
theorem q1996 : (Jvm.Cond.static ({ cls := "FirstPollsModel", name := "isDay", desc := "(I)Z" } : Jvm.MethodName)) ∈ lw_all := lw_g (lw_at lw_m8 185 rfl) rfl
theorem q1997 : (Jvm.Cond.code ({ cls := "FirstPollsModel", name := "isDay", desc := "(I)Z" } : Jvm.MethodName) prog_27_method_5_code (1 : Nat) (Option.some Jvm.ClassFile.FieldType.boolean)) ∈ lw_all := lw_g (lw_at lw_m8 186 rfl) rfl
theorem q1998 : (Jvm.Cond.constantLong "FirstPollsModel" (119 : Nat) (399 : Int64)) ∈ lw_all := lw_g (lw_at lw_m8 187 rfl) rfl
theorem q1999 : (Jvm.Cond.methodLink "FirstPollsModel" (162 : Nat) ({ cls := "FirstPollsModel", name := "isPlace", desc := "(I)Z" } : Jvm.MethodName)) ∈ lw_all := lw_g (lw_at lw_m8 188 rfl) rfl
theorem q2000 : (Jvm.Cond.privateMethod ({ cls := "FirstPollsModel", name := "isPlace", desc := "(I)Z" } : Jvm.MethodName)) ∈ lw_tbl := lw_at lw_m8 189 rfl
theorem q2001 : (Jvm.Cond.instanceMethod ({ cls := "FirstPollsModel", name := "isPlace", desc := "(I)Z" } : Jvm.MethodName)) ∈ lw_all := lw_g (lw_at lw_m8 190 rfl) rfl
theorem q2002 : (Jvm.Cond.code ({ cls := "FirstPollsModel", name := "isPlace", desc := "(I)Z" } : Jvm.MethodName) prog_27_method_9_code (2 : Nat) (Option.some Jvm.ClassFile.FieldType.boolean)) ∈ lw_all := lw_g (lw_at lw_m8 191 rfl) rfl
theorem q2003 : (Jvm.Cond.methodLink "FirstPollsModel" (165 : Nat) ({ cls := "FirstPollsModel", name := "addName", desc := "(IIIIII)V" } : Jvm.MethodName)) ∈ lw_all := lw_g (lw_at lw_m8 192 rfl) rfl
theorem q2004 : (Jvm.Cond.privateMethod ({ cls := "FirstPollsModel", name := "addName", desc := "(IIIIII)V" } : Jvm.MethodName)) ∈ lw_tbl := lw_at lw_m8 193 rfl
theorem q2005 : (Jvm.Cond.instanceMethod ({ cls := "FirstPollsModel", name := "addName", desc := "(IIIIII)V" } : Jvm.MethodName)) ∈ lw_all := lw_g (lw_at lw_m8 194 rfl) rfl
theorem q2006 : (Jvm.Cond.code ({ cls := "FirstPollsModel", name := "addName", desc := "(IIIIII)V" } : Jvm.MethodName) prog_27_method_18_code (8 : Nat) (Option.none : Option Jvm.ClassFile.FieldType)) ∈ lw_all := lw_g (lw_at lw_m8 195 rfl) rfl
theorem q2007 : (Jvm.Cond.methodLink "FirstPollsModel" (148 : Nat) ({ cls := "FirstPollsModel", name := "nameAt", desc := "(I)I" } : Jvm.MethodName)) ∈ lw_all := lw_g (lw_at lw_m8 196 rfl) rfl
theorem q2008 : (Jvm.Cond.static ({ cls := "FirstPollsModel", name := "nameAt", desc := "(I)I" } : Jvm.MethodName)) ∈ lw_all := lw_g (lw_at lw_m8 197 rfl) rfl
theorem q2009 : (Jvm.Cond.code ({ cls := "FirstPollsModel", name := "nameAt", desc := "(I)I" } : Jvm.MethodName) prog_27_method_14_code (1 : Nat) (Option.some Jvm.ClassFile.FieldType.int)) ∈ lw_all := lw_g (lw_at lw_m8 198 rfl) rfl
theorem q2010 : (Jvm.Cond.methodLink "FirstPollsModel" (151 : Nat) ({ cls := "FirstPollsModel", name := "addFour", desc := "(IIIII)V" } : Jvm.MethodName)) ∈ lw_all := lw_g (lw_at lw_m8 199 rfl) rfl
theorem q2011 : (Jvm.Cond.privateMethod ({ cls := "FirstPollsModel", name := "addFour", desc := "(IIIII)V" } : Jvm.MethodName)) ∈ lw_tbl := lw_at lw_m8 200 rfl
theorem q2012 : (Jvm.Cond.instanceMethod ({ cls := "FirstPollsModel", name := "addFour", desc := "(IIIII)V" } : Jvm.MethodName)) ∈ lw_all := lw_g (lw_at lw_m8 201 rfl) rfl
theorem q2013 : (Jvm.Cond.code ({ cls := "FirstPollsModel", name := "addFour", desc := "(IIIII)V" } : Jvm.MethodName) prog_27_method_8_code (6 : Nat) (Option.none : Option Jvm.ClassFile.FieldType)) ∈ lw_all := lw_g (lw_at lw_m8 202 rfl) rfl
theorem q2015 : (Jvm.Cond.instanceMethod ({ cls := "FirstPollsModel", name := "row", desc := "(II)I" } : Jvm.MethodName)) ∈ lw_all := lw_g (lw_at lw_m8 204 rfl) rfl
theorem q2016 : (Jvm.Cond.selects "FirstPollsModel" ({ cls := "FirstPollsModel", name := "row", desc := "(II)I" } : Jvm.MethodName) ({ cls := "FirstPollsModel", name := "row", desc := "(II)I" } : Jvm.MethodName)) ∈ lw_all := lw_g (lw_at lw_m8 205 rfl) rfl
theorem q2017 : (Jvm.Cond.code ({ cls := "FirstPollsModel", name := "row", desc := "(II)I" } : Jvm.MethodName) prog_27_method_20_code (7 : Nat) (Option.some Jvm.ClassFile.FieldType.int)) ∈ lw_all := lw_g (lw_at lw_m8 206 rfl) rfl
theorem q2019 : (Jvm.Cond.instanceMethod ({ cls := "FirstPollsModel", name := "off", desc := "(III)I" } : Jvm.MethodName)) ∈ lw_all := lw_g (lw_at lw_m8 208 rfl) rfl
theorem q2020 : (Jvm.Cond.selects "FirstPollsModel" ({ cls := "FirstPollsModel", name := "off", desc := "(III)I" } : Jvm.MethodName) ({ cls := "FirstPollsModel", name := "off", desc := "(III)I" } : Jvm.MethodName)) ∈ lw_all := lw_g (lw_at lw_m8 209 rfl) rfl
theorem q2021 : (Jvm.Cond.code ({ cls := "FirstPollsModel", name := "off", desc := "(III)I" } : Jvm.MethodName) prog_27_method_21_code (5 : Nat) (Option.some Jvm.ClassFile.FieldType.int)) ∈ lw_all := lw_g (lw_at lw_m8 210 rfl) rfl
theorem q2022 : (Jvm.Cond.methodLink "FirstPollsModel" (172 : Nat) ({ cls := "FirstPollsModel", name := "isName", desc := "(I)Z" } : Jvm.MethodName)) ∈ lw_all := lw_g (lw_at lw_m8 211 rfl) rfl
theorem q2023 : (Jvm.Cond.privateMethod ({ cls := "FirstPollsModel", name := "isName", desc := "(I)Z" } : Jvm.MethodName)) ∈ lw_tbl := lw_at lw_m8 212 rfl
theorem q2024 : (Jvm.Cond.instanceMethod ({ cls := "FirstPollsModel", name := "isName", desc := "(I)Z" } : Jvm.MethodName)) ∈ lw_all := lw_g (lw_at lw_m8 213 rfl) rfl
theorem q2025 : (Jvm.Cond.code ({ cls := "FirstPollsModel", name := "isName", desc := "(I)Z" } : Jvm.MethodName) prog_27_method_10_code (2 : Nat) (Option.some Jvm.ClassFile.FieldType.boolean)) ∈ lw_all := lw_g (lw_at lw_m8 214 rfl) rfl
theorem q2027 : (Jvm.Cond.instanceMethod ({ cls := "FirstPollsModel", name := "moved", desc := "(IIII)I" } : Jvm.MethodName)) ∈ lw_all := lw_g (lw_at lw_m8 216 rfl) rfl
theorem q2028 : (Jvm.Cond.selects "FirstPollsModel" ({ cls := "FirstPollsModel", name := "moved", desc := "(IIII)I" } : Jvm.MethodName) ({ cls := "FirstPollsModel", name := "moved", desc := "(IIII)I" } : Jvm.MethodName)) ∈ lw_all := lw_g (lw_at lw_m8 217 rfl) rfl
theorem q2029 : (Jvm.Cond.code ({ cls := "FirstPollsModel", name := "moved", desc := "(IIII)I" } : Jvm.MethodName) prog_27_method_22_code (6 : Nat) (Option.some Jvm.ClassFile.FieldType.int)) ∈ lw_all := lw_g (lw_at lw_m8 218 rfl) rfl
theorem q2031 : (Jvm.Cond.instanceMethod ({ cls := "FirstPollsModel", name := "of", desc := "(II)I" } : Jvm.MethodName)) ∈ lw_all := lw_g (lw_at lw_m8 220 rfl) rfl
theorem q2032 : (Jvm.Cond.selects "FirstPollsModel" ({ cls := "FirstPollsModel", name := "of", desc := "(II)I" } : Jvm.MethodName) ({ cls := "FirstPollsModel", name := "of", desc := "(II)I" } : Jvm.MethodName)) ∈ lw_all := lw_g (lw_at lw_m8 221 rfl) rfl
theorem q2033 : (Jvm.Cond.code ({ cls := "FirstPollsModel", name := "of", desc := "(II)I" } : Jvm.MethodName) prog_27_method_23_code (3 : Nat) (Option.some Jvm.ClassFile.FieldType.int)) ∈ lw_all := lw_g (lw_at lw_m8 222 rfl) rfl
theorem q2034 : (Jvm.Cond.constantLong "FirstPollsModel" (175 : Nat) (4 : Int64)) ∈ lw_all := lw_g (lw_at lw_m8 223 rfl) rfl
theorem q2036 : (Jvm.Cond.instanceMethod ({ cls := "FirstPollsModel", name := "where", desc := "(III)I" } : Jvm.MethodName)) ∈ lw_all := lw_g (lw_at lw_m8 225 rfl) rfl
theorem q2037 : (Jvm.Cond.selects "FirstPollsModel" ({ cls := "FirstPollsModel", name := "where", desc := "(III)I" } : Jvm.MethodName) ({ cls := "FirstPollsModel", name := "where", desc := "(III)I" } : Jvm.MethodName)) ∈ lw_all := lw_g (lw_at lw_m8 226 rfl) rfl
theorem q2038 : (Jvm.Cond.code ({ cls := "FirstPollsModel", name := "where", desc := "(III)I" } : Jvm.MethodName) prog_27_method_26_code (4 : Nat) (Option.some Jvm.ClassFile.FieldType.int)) ∈ lw_all := lw_g (lw_at lw_m8 227 rfl) rfl
theorem q2039 : (Jvm.Cond.methodLink "FirstPollsModel" (181 : Nat) ({ cls := "FirstPollsModel", name := "whereOf", desc := "(III)I" } : Jvm.MethodName)) ∈ lw_all := lw_g (lw_at lw_m8 228 rfl) rfl
theorem q2040 : (Jvm.Cond.privateMethod ({ cls := "FirstPollsModel", name := "whereOf", desc := "(III)I" } : Jvm.MethodName)) ∈ lw_tbl := lw_at lw_m8 229 rfl
theorem q2041 : (Jvm.Cond.instanceMethod ({ cls := "FirstPollsModel", name := "whereOf", desc := "(III)I" } : Jvm.MethodName)) ∈ lw_all := lw_g (lw_at lw_m8 230 rfl) rfl
theorem q2042 : (Jvm.Cond.code ({ cls := "FirstPollsModel", name := "whereOf", desc := "(III)I" } : Jvm.MethodName) prog_27_method_25_code (4 : Nat) (Option.some Jvm.ClassFile.FieldType.int)) ∈ lw_all := lw_g (lw_at lw_m8 231 rfl) rfl
theorem q2043 : (Jvm.Cond.methodLink "FirstPollsModel" (177 : Nat) ({ cls := "FirstPollsModel", name := "hasMoved", desc := "(III)Z" } : Jvm.MethodName)) ∈ lw_all := lw_g (lw_at lw_m8 232 rfl) rfl
theorem q2044 : (Jvm.Cond.privateMethod ({ cls := "FirstPollsModel", name := "hasMoved", desc := "(III)Z" } : Jvm.MethodName)) ∈ lw_tbl := lw_at lw_m8 233 rfl
theorem q2045 : (Jvm.Cond.instanceMethod ({ cls := "FirstPollsModel", name := "hasMoved", desc := "(III)Z" } : Jvm.MethodName)) ∈ lw_all := lw_g (lw_at lw_m8 234 rfl) rfl
theorem q2046 : (Jvm.Cond.code ({ cls := "FirstPollsModel", name := "hasMoved", desc := "(III)Z" } : Jvm.MethodName) prog_27_method_24_code (5 : Nat) (Option.some Jvm.ClassFile.FieldType.boolean)) ∈ lw_all := lw_g (lw_at lw_m8 235 rfl) rfl
theorem q2048 : (Jvm.Cond.instanceMethod ({ cls := "FirstPollsModel", name := "on", desc := "(III)I" } : Jvm.MethodName)) ∈ lw_all := lw_g (lw_at lw_m8 237 rfl) rfl
theorem q2049 : (Jvm.Cond.selects "FirstPollsModel" ({ cls := "FirstPollsModel", name := "on", desc := "(III)I" } : Jvm.MethodName) ({ cls := "FirstPollsModel", name := "on", desc := "(III)I" } : Jvm.MethodName)) ∈ lw_all := lw_g (lw_at lw_m8 238 rfl) rfl
theorem q2050 : (Jvm.Cond.code ({ cls := "FirstPollsModel", name := "on", desc := "(III)I" } : Jvm.MethodName) prog_27_method_29_code (4 : Nat) (Option.some Jvm.ClassFile.FieldType.int)) ∈ lw_all := lw_g (lw_at lw_m8 239 rfl) rfl
theorem q2051 : (Jvm.Cond.methodLink "FirstPollsModel" (199 : Nat) ({ cls := "FirstPollsModel", name := "findForce", desc := "(I)V" } : Jvm.MethodName)) ∈ lw_all := lw_g (lw_at lw_m9 0 rfl) rfl
theorem q2052 : (Jvm.Cond.privateMethod ({ cls := "FirstPollsModel", name := "findForce", desc := "(I)V" } : Jvm.MethodName)) ∈ lw_tbl := lw_at lw_m9 1 rfl
theorem q2053 : (Jvm.Cond.instanceMethod ({ cls := "FirstPollsModel", name := "findForce", desc := "(I)V" } : Jvm.MethodName)) ∈ lw_all := lw_g (lw_at lw_m9 2 rfl) rfl
theorem q2054 : (Jvm.Cond.code ({ cls := "FirstPollsModel", name := "findForce", desc := "(I)V" } : Jvm.MethodName) prog_27_method_68_code (5 : Nat) (Option.none : Option Jvm.ClassFile.FieldType)) ∈ lw_all := lw_g (lw_at lw_m9 3 rfl) rfl
theorem q2055 : (Jvm.Cond.methodLink "FirstPollsModel" (423 : Nat) ({ cls := "FirstPollsModel", name := "textAt", desc := "(I)I" } : Jvm.MethodName)) ∈ lw_all := lw_g (lw_at lw_m9 4 rfl) rfl
theorem q2056 : (Jvm.Cond.static ({ cls := "FirstPollsModel", name := "textAt", desc := "(I)I" } : Jvm.MethodName)) ∈ lw_all := lw_g (lw_at lw_m9 5 rfl) rfl
theorem q2057 : (Jvm.Cond.code ({ cls := "FirstPollsModel", name := "textAt", desc := "(I)I" } : Jvm.MethodName) prog_27_method_66_code (1 : Nat) (Option.some Jvm.ClassFile.FieldType.int)) ∈ lw_all := lw_g (lw_at lw_m9 6 rfl) rfl
theorem q2058 : (Jvm.Cond.methodLink "FirstPollsModel" (426 : Nat) ({ cls := "FirstPollsModel", name := "clauseAt", desc := "(II)I" } : Jvm.MethodName)) ∈ lw_all := lw_g (lw_at lw_m9 7 rfl) rfl
theorem q2059 : (Jvm.Cond.static ({ cls := "FirstPollsModel", name := "clauseAt", desc := "(II)I" } : Jvm.MethodName)) ∈ lw_all := lw_g (lw_at lw_m9 8 rfl) rfl
theorem q2060 : (Jvm.Cond.code ({ cls := "FirstPollsModel", name := "clauseAt", desc := "(II)I" } : Jvm.MethodName) prog_27_method_67_code (2 : Nat) (Option.some Jvm.ClassFile.FieldType.int)) ∈ lw_all := lw_g (lw_at lw_m9 9 rfl) rfl
theorem q2061 : (Jvm.Cond.methodLink "FirstPollsModel" (202 : Nat) ({ cls := "FirstPollsModel", name := "isOnNow", desc := "(I)Z" } : Jvm.MethodName)) ∈ lw_all := lw_g (lw_at lw_m9 10 rfl) rfl
theorem q2062 : (Jvm.Cond.privateMethod ({ cls := "FirstPollsModel", name := "isOnNow", desc := "(I)Z" } : Jvm.MethodName)) ∈ lw_tbl := lw_at lw_m9 11 rfl
theorem q2063 : (Jvm.Cond.instanceMethod ({ cls := "FirstPollsModel", name := "isOnNow", desc := "(I)Z" } : Jvm.MethodName)) ∈ lw_all := lw_g (lw_at lw_m9 12 rfl) rfl
theorem q2064 : (Jvm.Cond.code ({ cls := "FirstPollsModel", name := "isOnNow", desc := "(I)Z" } : Jvm.MethodName) prog_27_method_27_code (3 : Nat) (Option.some Jvm.ClassFile.FieldType.boolean)) ∈ lw_all := lw_g (lw_at lw_m9 13 rfl) rfl
theorem q2065 : (Jvm.Cond.methodLink "FirstPollsModel" (191 : Nat) ({ cls := "FirstPollsModel", name := "setName", desc := "(I)V" } : Jvm.MethodName)) ∈ lw_all := lw_g (lw_at lw_m9 14 rfl) rfl
theorem q2066 : (Jvm.Cond.privateMethod ({ cls := "FirstPollsModel", name := "setName", desc := "(I)V" } : Jvm.MethodName)) ∈ lw_tbl := lw_at lw_m9 15 rfl
theorem q2067 : (Jvm.Cond.instanceMethod ({ cls := "FirstPollsModel", name := "setName", desc := "(I)V" } : Jvm.MethodName)) ∈ lw_all := lw_g (lw_at lw_m9 16 rfl) rfl
theorem q2068 : (Jvm.Cond.code ({ cls := "FirstPollsModel", name := "setName", desc := "(I)V" } : Jvm.MethodName) prog_27_method_71_code (3 : Nat) (Option.none : Option Jvm.ClassFile.FieldType)) ∈ lw_all := lw_g (lw_at lw_m9 17 rfl) rfl
theorem q2069 : (Jvm.Cond.methodLink "FirstPollsModel" (429 : Nat) ({ cls := "FirstPollsModel", name := "setNothing", desc := "()V" } : Jvm.MethodName)) ∈ lw_all := lw_g (lw_at lw_m9 18 rfl) rfl
theorem q2070 : (Jvm.Cond.privateMethod ({ cls := "FirstPollsModel", name := "setNothing", desc := "()V" } : Jvm.MethodName)) ∈ lw_tbl := lw_at lw_m9 19 rfl
theorem q2071 : (Jvm.Cond.instanceMethod ({ cls := "FirstPollsModel", name := "setNothing", desc := "()V" } : Jvm.MethodName)) ∈ lw_all := lw_g (lw_at lw_m9 20 rfl) rfl
theorem q2072 : (Jvm.Cond.code ({ cls := "FirstPollsModel", name := "setNothing", desc := "()V" } : Jvm.MethodName) prog_27_method_70_code (2 : Nat) (Option.none : Option Jvm.ClassFile.FieldType)) ∈ lw_all := lw_g (lw_at lw_m9 21 rfl) rfl
theorem q2073 : (Jvm.Cond.methodLink "FirstPollsModel" (195 : Nat) ({ cls := "FirstPollsModel", name := "find", desc := "(II)Z" } : Jvm.MethodName)) ∈ lw_all := lw_g (lw_at lw_m9 22 rfl) rfl
theorem q2074 : (Jvm.Cond.privateMethod ({ cls := "FirstPollsModel", name := "find", desc := "(II)Z" } : Jvm.MethodName)) ∈ lw_tbl := lw_at lw_m9 23 rfl
theorem q2075 : (Jvm.Cond.instanceMethod ({ cls := "FirstPollsModel", name := "find", desc := "(II)Z" } : Jvm.MethodName)) ∈ lw_all := lw_g (lw_at lw_m9 24 rfl) rfl
theorem q2076 : (Jvm.Cond.code ({ cls := "FirstPollsModel", name := "find", desc := "(II)Z" } : Jvm.MethodName) prog_27_method_77_code (10 : Nat) (Option.some Jvm.ClassFile.FieldType.boolean)) ∈ lw_all := lw_g (lw_at lw_m9 25 rfl) rfl
theorem q2077 : (Jvm.Cond.methodLink "FirstPollsModel" (465 : Nat) ({ cls := "FirstPollsModel", name := "isSo", desc := "(II)Z" } : Jvm.MethodName)) ∈ lw_all := lw_g (lw_at lw_m9 26 rfl) rfl
theorem q2078 : (Jvm.Cond.privateMethod ({ cls := "FirstPollsModel", name := "isSo", desc := "(II)Z" } : Jvm.MethodName)) ∈ lw_tbl := lw_at lw_m9 27 rfl
theorem q2079 : (Jvm.Cond.instanceMethod ({ cls := "FirstPollsModel", name := "isSo", desc := "(II)Z" } : Jvm.MethodName)) ∈ lw_all := lw_g (lw_at lw_m9 28 rfl) rfl
theorem q2080 : (Jvm.Cond.code ({ cls := "FirstPollsModel", name := "isSo", desc := "(II)Z" } : Jvm.MethodName) prog_27_method_76_code (3 : Nat) (Option.some Jvm.ClassFile.FieldType.boolean)) ∈ lw_all := lw_g (lw_at lw_m9 29 rfl) rfl
theorem q2081 : (Jvm.Cond.methodLink "FirstPollsModel" (458 : Nat) ({ cls := "FirstPollsModel", name := "run", desc := "(III)V" } : Jvm.MethodName)) ∈ lw_all := lw_g (lw_at lw_m9 30 rfl) rfl
theorem q2082 : (Jvm.Cond.privateMethod ({ cls := "FirstPollsModel", name := "run", desc := "(III)V" } : Jvm.MethodName)) ∈ lw_tbl := lw_at lw_m9 31 rfl
theorem q2083 : (Jvm.Cond.instanceMethod ({ cls := "FirstPollsModel", name := "run", desc := "(III)V" } : Jvm.MethodName)) ∈ lw_all := lw_g (lw_at lw_m9 32 rfl) rfl
theorem q2084 : (Jvm.Cond.code ({ cls := "FirstPollsModel", name := "run", desc := "(III)V" } : Jvm.MethodName) prog_27_method_75_code (8 : Nat) (Option.none : Option Jvm.ClassFile.FieldType)) ∈ lw_all := lw_g (lw_at lw_m9 33 rfl) rfl
theorem q2085 : (Jvm.Cond.methodLink "FirstPollsModel" (447 : Nat) ({ cls := "FirstPollsModel", name := "reckon", desc := "(IJJ)J" } : Jvm.MethodName)) ∈ lw_all := lw_g (lw_at lw_m9 34 rfl) rfl
theorem q2086 : (Jvm.Cond.privateMethod ({ cls := "FirstPollsModel", name := "reckon", desc := "(IJJ)J" } : Jvm.MethodName)) ∈ lw_tbl := lw_at lw_m9 35 rfl
theorem q2087 : (Jvm.Cond.instanceMethod ({ cls := "FirstPollsModel", name := "reckon", desc := "(IJJ)J" } : Jvm.MethodName)) ∈ lw_all := lw_g (lw_at lw_m9 36 rfl) rfl
theorem q2088 : (Jvm.Cond.code ({ cls := "FirstPollsModel", name := "reckon", desc := "(IJJ)J" } : Jvm.MethodName) prog_27_method_74_code (6 : Nat) (Option.some Jvm.ClassFile.FieldType.long)) ∈ lw_all := lw_g (lw_at lw_m9 37 rfl) rfl
theorem q2089 : (Jvm.Cond.constantLong "FirstPollsModel" (451 : Nat) (-1000000000 : Int64)) ∈ lw_all := lw_g (lw_at lw_m9 38 rfl) rfl
theorem q2090 : (Jvm.Cond.constantLong "FirstPollsModel" (453 : Nat) (1000000000 : Int64)) ∈ lw_all := lw_g (lw_at lw_m9 39 rfl) rfl
theorem q2092 : (Jvm.Cond.instanceMethod ({ cls := "FirstPollsModel", name := "roll", desc := "(III)I" } : Jvm.MethodName)) ∈ lw_all := lw_g (lw_at lw_m9 41 rfl) rfl
theorem q2093 : (Jvm.Cond.selects "FirstPollsModel" ({ cls := "FirstPollsModel", name := "roll", desc := "(III)I" } : Jvm.MethodName) ({ cls := "FirstPollsModel", name := "roll", desc := "(III)I" } : Jvm.MethodName)) ∈ lw_all := lw_g (lw_at lw_m9 42 rfl) rfl
theorem q2094 : (Jvm.Cond.code ({ cls := "FirstPollsModel", name := "roll", desc := "(III)I" } : Jvm.MethodName) prog_27_method_30_code (4 : Nat) (Option.some Jvm.ClassFile.FieldType.int)) ∈ lw_all := lw_g (lw_at lw_m9 43 rfl) rfl
theorem q2095 : (Jvm.Cond.methodLink "FirstPollsModel" (205 : Nat) ({ cls := "FirstPollsModel", name := "knowBy", desc := "(II)V" } : Jvm.MethodName)) ∈ lw_all := lw_g (lw_at lw_m9 44 rfl) rfl
theorem q2096 : (Jvm.Cond.privateMethod ({ cls := "FirstPollsModel", name := "knowBy", desc := "(II)V" } : Jvm.MethodName)) ∈ lw_tbl := lw_at lw_m9 45 rfl
theorem q2097 : (Jvm.Cond.instanceMethod ({ cls := "FirstPollsModel", name := "knowBy", desc := "(II)V" } : Jvm.MethodName)) ∈ lw_all := lw_g (lw_at lw_m9 46 rfl) rfl
theorem q2098 : (Jvm.Cond.code ({ cls := "FirstPollsModel", name := "knowBy", desc := "(II)V" } : Jvm.MethodName) prog_27_method_28_code (4 : Nat) (Option.none : Option Jvm.ClassFile.FieldType)) ∈ lw_all := lw_g (lw_at lw_m9 47 rfl) rfl
theorem q2100 : (Jvm.Cond.instanceMethod ({ cls := "FirstPollsModel", name := "like", desc := "(II)I" } : Jvm.MethodName)) ∈ lw_all := lw_g (lw_at lw_m9 49 rfl) rfl
theorem q2101 : (Jvm.Cond.selects "FirstPollsModel" ({ cls := "FirstPollsModel", name := "like", desc := "(II)I" } : Jvm.MethodName) ({ cls := "FirstPollsModel", name := "like", desc := "(II)I" } : Jvm.MethodName)) ∈ lw_all := lw_g (lw_at lw_m9 50 rfl) rfl
theorem q2102 : (Jvm.Cond.code ({ cls := "FirstPollsModel", name := "like", desc := "(II)I" } : Jvm.MethodName) prog_27_method_32_code (3 : Nat) (Option.some Jvm.ClassFile.FieldType.int)) ∈ lw_all := lw_g (lw_at lw_m9 51 rfl) rfl
theorem q2103 : (Jvm.Cond.methodLink "FirstPollsModel" (213 : Nat) ({ cls := "FirstPollsModel", name := "likeOf", desc := "(II)I" } : Jvm.MethodName)) ∈ lw_all := lw_g (lw_at lw_m9 52 rfl) rfl
theorem q2104 : (Jvm.Cond.privateMethod ({ cls := "FirstPollsModel", name := "likeOf", desc := "(II)I" } : Jvm.MethodName)) ∈ lw_tbl := lw_at lw_m9 53 rfl
theorem q2105 : (Jvm.Cond.instanceMethod ({ cls := "FirstPollsModel", name := "likeOf", desc := "(II)I" } : Jvm.MethodName)) ∈ lw_all := lw_g (lw_at lw_m9 54 rfl) rfl
theorem q2106 : (Jvm.Cond.code ({ cls := "FirstPollsModel", name := "likeOf", desc := "(II)I" } : Jvm.MethodName) prog_27_method_31_code (8 : Nat) (Option.some Jvm.ClassFile.FieldType.int)) ∈ lw_all := lw_g (lw_at lw_m9 55 rfl) rfl
theorem q2107 : (Jvm.Cond.constantLong "FirstPollsModel" (209 : Nat) (-2 : Int64)) ∈ lw_all := lw_g (lw_at lw_m9 56 rfl) rfl
theorem q2108 : (Jvm.Cond.constantLong "FirstPollsModel" (211 : Nat) (2 : Int64)) ∈ lw_all := lw_g (lw_at lw_m9 57 rfl) rfl
theorem q2110 : (Jvm.Cond.instanceMethod ({ cls := "FirstPollsModel", name := "apart", desc := "(II)I" } : Jvm.MethodName)) ∈ lw_all := lw_g (lw_at lw_m9 59 rfl) rfl
theorem q2111 : (Jvm.Cond.selects "FirstPollsModel" ({ cls := "FirstPollsModel", name := "apart", desc := "(II)I" } : Jvm.MethodName) ({ cls := "FirstPollsModel", name := "apart", desc := "(II)I" } : Jvm.MethodName)) ∈ lw_all := lw_g (lw_at lw_m9 60 rfl) rfl
theorem q2112 : (Jvm.Cond.code ({ cls := "FirstPollsModel", name := "apart", desc := "(II)I" } : Jvm.MethodName) prog_27_method_33_code (3 : Nat) (Option.some Jvm.ClassFile.FieldType.int)) ∈ lw_all := lw_g (lw_at lw_m9 61 rfl) rfl
theorem q2114 : (Jvm.Cond.instanceMethod ({ cls := "FirstPollsModel", name := "twice", desc := "(III)I" } : Jvm.MethodName)) ∈ lw_all := lw_g (lw_at lw_m9 63 rfl) rfl
theorem q2115 : (Jvm.Cond.selects "FirstPollsModel" ({ cls := "FirstPollsModel", name := "twice", desc := "(III)I" } : Jvm.MethodName) ({ cls := "FirstPollsModel", name := "twice", desc := "(III)I" } : Jvm.MethodName)) ∈ lw_all := lw_g (lw_at lw_m9 64 rfl) rfl
theorem q2116 : (Jvm.Cond.code ({ cls := "FirstPollsModel", name := "twice", desc := "(III)I" } : Jvm.MethodName) prog_27_method_35_code (8 : Nat) (Option.some Jvm.ClassFile.FieldType.int)) ∈ lw_all := lw_g (lw_at lw_m9 65 rfl) rfl
theorem q2117 : (Jvm.Cond.methodLink "FirstPollsModel" (217 : Nat) ({ cls := "FirstPollsModel", name := "isBarred", desc := "(II)Z" } : Jvm.MethodName)) ∈ lw_all := lw_g (lw_at lw_m9 66 rfl) rfl
theorem q2118 : (Jvm.Cond.privateMethod ({ cls := "FirstPollsModel", name := "isBarred", desc := "(II)Z" } : Jvm.MethodName)) ∈ lw_tbl := lw_at lw_m9 67 rfl
theorem q2119 : (Jvm.Cond.instanceMethod ({ cls := "FirstPollsModel", name := "isBarred", desc := "(II)Z" } : Jvm.MethodName)) ∈ lw_all := lw_g (lw_at lw_m9 68 rfl) rfl
theorem q2120 : (Jvm.Cond.code ({ cls := "FirstPollsModel", name := "isBarred", desc := "(II)Z" } : Jvm.MethodName) prog_27_method_34_code (5 : Nat) (Option.some Jvm.ClassFile.FieldType.boolean)) ∈ lw_all := lw_g (lw_at lw_m9 69 rfl) rfl
theorem q2122 : (Jvm.Cond.instanceMethod ({ cls := "FirstPollsModel", name := "feed", desc := "(IIIII)I" } : Jvm.MethodName)) ∈ lw_all := lw_g (lw_at lw_m9 71 rfl) rfl
theorem q2123 : (Jvm.Cond.selects "FirstPollsModel" ({ cls := "FirstPollsModel", name := "feed", desc := "(IIIII)I" } : Jvm.MethodName) ({ cls := "FirstPollsModel", name := "feed", desc := "(IIIII)I" } : Jvm.MethodName)) ∈ lw_all := lw_g (lw_at lw_m9 72 rfl) rfl
theorem q2124 : (Jvm.Cond.code ({ cls := "FirstPollsModel", name := "feed", desc := "(IIIII)I" } : Jvm.MethodName) prog_27_method_37_code (6 : Nat) (Option.some Jvm.ClassFile.FieldType.int)) ∈ lw_all := lw_g (lw_at lw_m9 73 rfl) rfl
theorem q2125 : (Jvm.Cond.methodLink "FirstPollsModel" (220 : Nat) ({ cls := "FirstPollsModel", name := "four", desc := "(I)V" } : Jvm.MethodName)) ∈ lw_all := lw_g (lw_at lw_m9 74 rfl) rfl
theorem q2126 : (Jvm.Cond.privateMethod ({ cls := "FirstPollsModel", name := "four", desc := "(I)V" } : Jvm.MethodName)) ∈ lw_tbl := lw_at lw_m9 75 rfl
theorem q2127 : (Jvm.Cond.instanceMethod ({ cls := "FirstPollsModel", name := "four", desc := "(I)V" } : Jvm.MethodName)) ∈ lw_all := lw_g (lw_at lw_m9 76 rfl) rfl
theorem q2128 : (Jvm.Cond.code ({ cls := "FirstPollsModel", name := "four", desc := "(I)V" } : Jvm.MethodName) prog_27_method_36_code (3 : Nat) (Option.none : Option Jvm.ClassFile.FieldType)) ∈ lw_all := lw_g (lw_at lw_m9 77 rfl) rfl
theorem q2130 : (Jvm.Cond.instanceMethod ({ cls := "FirstPollsModel", name := "end", desc := "(I)I" } : Jvm.MethodName)) ∈ lw_all := lw_g (lw_at lw_m9 79 rfl) rfl
theorem q2131 : (Jvm.Cond.selects "FirstPollsModel" ({ cls := "FirstPollsModel", name := "end", desc := "(I)I" } : Jvm.MethodName) ({ cls := "FirstPollsModel", name := "end", desc := "(I)I" } : Jvm.MethodName)) ∈ lw_all := lw_g (lw_at lw_m9 80 rfl) rfl
theorem q2132 : (Jvm.Cond.code ({ cls := "FirstPollsModel", name := "end", desc := "(I)I" } : Jvm.MethodName) prog_27_method_38_code (2 : Nat) (Option.some Jvm.ClassFile.FieldType.int)) ∈ lw_all := lw_g (lw_at lw_m9 81 rfl) rfl
theorem q2134 : (Jvm.Cond.instanceMethod ({ cls := "FirstPollsModel", name := "fault", desc := "()I" } : Jvm.MethodName)) ∈ lw_all := lw_g (lw_at lw_m9 83 rfl) rfl
theorem q2135 : (Jvm.Cond.selects "FirstPollsModel" ({ cls := "FirstPollsModel", name := "fault", desc := "()I" } : Jvm.MethodName) ({ cls := "FirstPollsModel", name := "fault", desc := "()I" } : Jvm.MethodName)) ∈ lw_all := lw_g (lw_at lw_m9 84 rfl) rfl
theorem q2136 : (Jvm.Cond.code ({ cls := "FirstPollsModel", name := "fault", desc := "()I" } : Jvm.MethodName) prog_27_method_47_code (1 : Nat) (Option.some Jvm.ClassFile.FieldType.int)) ∈ lw_all := lw_g (lw_at lw_m9 85 rfl) rfl
theorem q2138 : (Jvm.Cond.instanceMethod ({ cls := "FirstPollsModel", name := "order", desc := "(I)I" } : Jvm.MethodName)) ∈ lw_all := lw_g (lw_at lw_m9 87 rfl) rfl
theorem q2139 : (Jvm.Cond.selects "FirstPollsModel" ({ cls := "FirstPollsModel", name := "order", desc := "(I)I" } : Jvm.MethodName) ({ cls := "FirstPollsModel", name := "order", desc := "(I)I" } : Jvm.MethodName)) ∈ lw_all := lw_g (lw_at lw_m9 88 rfl) rfl
theorem q2140 : (Jvm.Cond.code ({ cls := "FirstPollsModel", name := "order", desc := "(I)I" } : Jvm.MethodName) prog_27_method_65_code (4 : Nat) (Option.some Jvm.ClassFile.FieldType.int)) ∈ lw_all := lw_g (lw_at lw_m9 89 rfl) rfl
theorem q2141 : (Jvm.Cond.methodLink "FirstPollsModel" (417 : Nat) ({ cls := "FirstPollsModel", name := "begin", desc := "()V" } : Jvm.MethodName)) ∈ lw_all := lw_g (lw_at lw_m9 90 rfl) rfl
theorem q2142 : (Jvm.Cond.privateMethod ({ cls := "FirstPollsModel", name := "begin", desc := "()V" } : Jvm.MethodName)) ∈ lw_tbl := lw_at lw_m9 91 rfl
theorem q2143 : (Jvm.Cond.instanceMethod ({ cls := "FirstPollsModel", name := "begin", desc := "()V" } : Jvm.MethodName)) ∈ lw_all := lw_g (lw_at lw_m9 92 rfl) rfl
theorem q2144 : (Jvm.Cond.code ({ cls := "FirstPollsModel", name := "begin", desc := "()V" } : Jvm.MethodName) prog_27_method_41_code (1 : Nat) (Option.none : Option Jvm.ClassFile.FieldType)) ∈ lw_all := lw_g (lw_at lw_m9 93 rfl) rfl
theorem q2145 : (Jvm.Cond.methodLink "FirstPollsModel" (230 : Nat) ({ cls := "FirstPollsModel", name := "next", desc := "()V" } : Jvm.MethodName)) ∈ lw_all := lw_g (lw_at lw_m9 94 rfl) rfl
theorem q2146 : (Jvm.Cond.privateMethod ({ cls := "FirstPollsModel", name := "next", desc := "()V" } : Jvm.MethodName)) ∈ lw_tbl := lw_at lw_m9 95 rfl
theorem q2147 : (Jvm.Cond.instanceMethod ({ cls := "FirstPollsModel", name := "next", desc := "()V" } : Jvm.MethodName)) ∈ lw_all := lw_g (lw_at lw_m9 96 rfl) rfl
theorem q2148 : (Jvm.Cond.code ({ cls := "FirstPollsModel", name := "next", desc := "()V" } : Jvm.MethodName) prog_27_method_42_code (1 : Nat) (Option.none : Option Jvm.ClassFile.FieldType)) ∈ lw_all := lw_g (lw_at lw_m9 97 rfl) rfl
theorem q2149 : (Jvm.Cond.methodLink "FirstPollsModel" (240 : Nat) ({ cls := "FirstPollsModel", name := "isSmall", desc := "(I)Z" } : Jvm.MethodName)) ∈ lw_all := lw_g (lw_at lw_m9 98 rfl) rfl
theorem q2150 : (Jvm.Cond.static ({ cls := "FirstPollsModel", name := "isSmall", desc := "(I)Z" } : Jvm.MethodName)) ∈ lw_all := lw_g (lw_at lw_m9 99 rfl) rfl
theorem q2151 : (Jvm.Cond.code ({ cls := "FirstPollsModel", name := "isSmall", desc := "(I)Z" } : Jvm.MethodName) prog_27_method_39_code (1 : Nat) (Option.some Jvm.ClassFile.FieldType.boolean)) ∈ lw_all := lw_g (lw_at lw_m9 100 rfl) rfl
theorem q2152 : (Jvm.Cond.methodLink "FirstPollsModel" (243 : Nat) ({ cls := "FirstPollsModel", name := "isDigit", desc := "(I)Z" } : Jvm.MethodName)) ∈ lw_all := lw_g (lw_at lw_m9 101 rfl) rfl
theorem q2153 : (Jvm.Cond.static ({ cls := "FirstPollsModel", name := "isDigit", desc := "(I)Z" } : Jvm.MethodName)) ∈ lw_all := lw_g (lw_at lw_m9 102 rfl) rfl
theorem q2154 : (Jvm.Cond.code ({ cls := "FirstPollsModel", name := "isDigit", desc := "(I)Z" } : Jvm.MethodName) prog_27_method_40_code (1 : Nat) (Option.some Jvm.ClassFile.FieldType.boolean)) ∈ lw_all := lw_g (lw_at lw_m9 103 rfl) rfl
theorem q2155 : (Jvm.Cond.constantLong "FirstPollsModel" (249 : Nat) (32 : Int64)) ∈ lw_all := lw_g (lw_at lw_m9 104 rfl) rfl
theorem q2156 : (Jvm.Cond.constantLong "FirstPollsModel" (251 : Nat) (96 : Int64)) ∈ lw_all := lw_g (lw_at lw_m9 105 rfl) rfl
theorem q2157 : (Jvm.Cond.constantLong "FirstPollsModel" (253 : Nat) (-1 : Int64)) ∈ lw_all := lw_g (lw_at lw_m9 106 rfl) rfl
theorem q2158 : (Jvm.Cond.constantLong "FirstPollsModel" (255 : Nat) (1000000 : Int64)) ∈ lw_all := lw_g (lw_at lw_m9 107 rfl) rfl
theorem q2159 : (Jvm.Cond.constantLong "FirstPollsModel" (257 : Nat) (10 : Int64)) ∈ lw_all := lw_g (lw_at lw_m9 108 rfl) rfl
theorem q2160 : (Jvm.Cond.constantLong "FirstPollsModel" (259 : Nat) (48 : Int64)) ∈ lw_all := lw_g (lw_at lw_m9 109 rfl) rfl
theorem q2161 : (Jvm.Cond.methodLink "FirstPollsModel" (420 : Nat) ({ cls := "FirstPollsModel", name := "readClause", desc := "()V" } : Jvm.MethodName)) ∈ lw_all := lw_g (lw_at lw_m9 110 rfl) rfl
theorem q2162 : (Jvm.Cond.privateMethod ({ cls := "FirstPollsModel", name := "readClause", desc := "()V" } : Jvm.MethodName)) ∈ lw_tbl := lw_at lw_m9 111 rfl
theorem q2163 : (Jvm.Cond.instanceMethod ({ cls := "FirstPollsModel", name := "readClause", desc := "()V" } : Jvm.MethodName)) ∈ lw_all := lw_g (lw_at lw_m9 112 rfl) rfl
theorem q2164 : (Jvm.Cond.code ({ cls := "FirstPollsModel", name := "readClause", desc := "()V" } : Jvm.MethodName) prog_27_method_64_code (4 : Nat) (Option.none : Option Jvm.ClassFile.FieldType)) ∈ lw_all := lw_g (lw_at lw_m9 113 rfl) rfl
theorem q2165 : (Jvm.Cond.methodLink "FirstPollsModel" (394 : Nat) ({ cls := "FirstPollsModel", name := "headAt", desc := "()I" } : Jvm.MethodName)) ∈ lw_all := lw_g (lw_at lw_m9 114 rfl) rfl
theorem q2166 : (Jvm.Cond.privateMethod ({ cls := "FirstPollsModel", name := "headAt", desc := "()I" } : Jvm.MethodName)) ∈ lw_tbl := lw_at lw_m9 115 rfl
theorem q2167 : (Jvm.Cond.instanceMethod ({ cls := "FirstPollsModel", name := "headAt", desc := "()I" } : Jvm.MethodName)) ∈ lw_all := lw_g (lw_at lw_m9 116 rfl) rfl
theorem q2168 : (Jvm.Cond.code ({ cls := "FirstPollsModel", name := "headAt", desc := "()I" } : Jvm.MethodName) prog_27_method_63_code (1 : Nat) (Option.some Jvm.ClassFile.FieldType.int)) ∈ lw_all := lw_g (lw_at lw_m9 117 rfl) rfl
theorem q2169 : (Jvm.Cond.constantLong "FirstPollsModel" (378 : Nat) (659105125 : Int64)) ∈ lw_all := lw_g (lw_at lw_m9 118 rfl) rfl
theorem q2170 : (Jvm.Cond.methodLink "FirstPollsModel" (287 : Nat) ({ cls := "FirstPollsModel", name := "isWord", desc := "(J)Z" } : Jvm.MethodName)) ∈ lw_all := lw_g (lw_at lw_m9 119 rfl) rfl
theorem q2171 : (Jvm.Cond.privateMethod ({ cls := "FirstPollsModel", name := "isWord", desc := "(J)Z" } : Jvm.MethodName)) ∈ lw_tbl := lw_at lw_m9 120 rfl
theorem q2172 : (Jvm.Cond.instanceMethod ({ cls := "FirstPollsModel", name := "isWord", desc := "(J)Z" } : Jvm.MethodName)) ∈ lw_all := lw_g (lw_at lw_m9 121 rfl) rfl
theorem q2173 : (Jvm.Cond.code ({ cls := "FirstPollsModel", name := "isWord", desc := "(J)Z" } : Jvm.MethodName) prog_27_method_43_code (3 : Nat) (Option.some Jvm.ClassFile.FieldType.boolean)) ∈ lw_all := lw_g (lw_at lw_m9 122 rfl) rfl
theorem q2174 : (Jvm.Cond.constantLong "FirstPollsModel" (380 : Nat) (494 : Int64)) ∈ lw_all := lw_g (lw_at lw_m9 123 rfl) rfl
theorem q2175 : (Jvm.Cond.constantLong "FirstPollsModel" (382 : Nat) (15558 : Int64)) ∈ lw_all := lw_g (lw_at lw_m9 124 rfl) rfl
theorem q2176 : (Jvm.Cond.constantLong "FirstPollsModel" (384 : Nat) (736548 : Int64)) ∈ lw_all := lw_g (lw_at lw_m9 125 rfl) rfl
theorem q2177 : (Jvm.Cond.constantLong "FirstPollsModel" (386 : Nat) (1279278 : Int64)) ∈ lw_all := lw_g (lw_at lw_m9 126 rfl) rfl
theorem q2178 : (Jvm.Cond.constantLong "FirstPollsModel" (388 : Nat) (441972 : Int64)) ∈ lw_all := lw_g (lw_at lw_m9 127 rfl) rfl
theorem q2179 : (Jvm.Cond.constantLong "FirstPollsModel" (390 : Nat) (6194 : Int64)) ∈ lw_all := lw_g (lw_at lw_m9 128 rfl) rfl
theorem q2180 : (Jvm.Cond.constantLong "FirstPollsModel" (392 : Nat) (6327 : Int64)) ∈ lw_all := lw_g (lw_at lw_m9 129 rfl) rfl
theorem q2181 : (Jvm.Cond.methodLink "FirstPollsModel" (261 : Nat) ({ cls := "FirstPollsModel", name := "must", desc := "(Z)V" } : Jvm.MethodName)) ∈ lw_all := lw_g (lw_at lw_m9 130 rfl) rfl
theorem q2182 : (Jvm.Cond.privateMethod ({ cls := "FirstPollsModel", name := "must", desc := "(Z)V" } : Jvm.MethodName)) ∈ lw_tbl := lw_at lw_m9 131 rfl
theorem q2183 : (Jvm.Cond.instanceMethod ({ cls := "FirstPollsModel", name := "must", desc := "(Z)V" } : Jvm.MethodName)) ∈ lw_all := lw_g (lw_at lw_m9 132 rfl) rfl
theorem q2184 : (Jvm.Cond.code ({ cls := "FirstPollsModel", name := "must", desc := "(Z)V" } : Jvm.MethodName) prog_27_method_45_code (2 : Nat) (Option.none : Option Jvm.ClassFile.FieldType)) ∈ lw_all := lw_g (lw_at lw_m9 133 rfl) rfl
theorem q2185 : (Jvm.Cond.constantLong "FirstPollsModel" (400 : Nat) (19 : Int64)) ∈ lw_all := lw_g (lw_at lw_m9 134 rfl) rfl
theorem q2186 : (Jvm.Cond.methodLink "FirstPollsModel" (402 : Nat) ({ cls := "FirstPollsModel", name := "number", desc := "(JJ)I" } : Jvm.MethodName)) ∈ lw_all := lw_g (lw_at lw_m9 135 rfl) rfl
theorem q2187 : (Jvm.Cond.privateMethod ({ cls := "FirstPollsModel", name := "number", desc := "(JJ)I" } : Jvm.MethodName)) ∈ lw_tbl := lw_at lw_m9 136 rfl
theorem q2188 : (Jvm.Cond.instanceMethod ({ cls := "FirstPollsModel", name := "number", desc := "(JJ)I" } : Jvm.MethodName)) ∈ lw_all := lw_g (lw_at lw_m9 137 rfl) rfl
theorem q2189 : (Jvm.Cond.code ({ cls := "FirstPollsModel", name := "number", desc := "(JJ)I" } : Jvm.MethodName) prog_27_method_46_code (6 : Nat) (Option.some Jvm.ClassFile.FieldType.int)) ∈ lw_all := lw_g (lw_at lw_m9 138 rfl) rfl
theorem q2190 : (Jvm.Cond.constantLong "FirstPollsModel" (406 : Nat) (113301093 : Int64)) ∈ lw_all := lw_g (lw_at lw_m9 139 rfl) rfl
theorem q2191 : (Jvm.Cond.constantLong "FirstPollsModel" (408 : Nat) (11 : Int64)) ∈ lw_all := lw_g (lw_at lw_m9 140 rfl) rfl
theorem q2192 : (Jvm.Cond.constantLong "FirstPollsModel" (410 : Nat) (9 : Int64)) ∈ lw_all := lw_g (lw_at lw_m9 141 rfl) rfl
theorem q2193 : (Jvm.Cond.methodLink "FirstPollsModel" (412 : Nat) ({ cls := "FirstPollsModel", name := "readExpression", desc := "(Z)V" } : Jvm.MethodName)) ∈ lw_all := lw_g (lw_at lw_m9 142 rfl) rfl
theorem q2194 : (Jvm.Cond.privateMethod ({ cls := "FirstPollsModel", name := "readExpression", desc := "(Z)V" } : Jvm.MethodName)) ∈ lw_tbl := lw_at lw_m9 143 rfl
theorem q2195 : (Jvm.Cond.instanceMethod ({ cls := "FirstPollsModel", name := "readExpression", desc := "(Z)V" } : Jvm.MethodName)) ∈ lw_all := lw_g (lw_at lw_m9 144 rfl) rfl
theorem q2196 : (Jvm.Cond.code ({ cls := "FirstPollsModel", name := "readExpression", desc := "(Z)V" } : Jvm.MethodName) prog_27_method_62_code (3 : Nat) (Option.none : Option Jvm.ClassFile.FieldType)) ∈ lw_all := lw_g (lw_at lw_m9 145 rfl) rfl
theorem q2197 : (Jvm.Cond.methodLink "FirstPollsModel" (368 : Nat) ({ cls := "FirstPollsModel", name := "readPlain", desc := "()I" } : Jvm.MethodName)) ∈ lw_all := lw_g (lw_at lw_m9 146 rfl) rfl
theorem q2198 : (Jvm.Cond.privateMethod ({ cls := "FirstPollsModel", name := "readPlain", desc := "()I" } : Jvm.MethodName)) ∈ lw_tbl := lw_at lw_m9 147 rfl
theorem q2199 : (Jvm.Cond.instanceMethod ({ cls := "FirstPollsModel", name := "readPlain", desc := "()I" } : Jvm.MethodName)) ∈ lw_all := lw_g (lw_at lw_m9 148 rfl) rfl
theorem q2200 : (Jvm.Cond.code ({ cls := "FirstPollsModel", name := "readPlain", desc := "()I" } : Jvm.MethodName) prog_27_method_59_code (2 : Nat) (Option.some Jvm.ClassFile.FieldType.int)) ∈ lw_all := lw_g (lw_at lw_m9 149 rfl) rfl
theorem q2201 : (Jvm.Cond.constantLong "FirstPollsModel" (346 : Nat) (14836 : Int64)) ∈ lw_all := lw_g (lw_at lw_m9 150 rfl) rfl
theorem q2202 : (Jvm.Cond.methodLink "FirstPollsModel" (324 : Nat) ({ cls := "FirstPollsModel", name := "push", desc := "(II)V" } : Jvm.MethodName)) ∈ lw_all := lw_g (lw_at lw_m9 151 rfl) rfl
theorem q2203 : (Jvm.Cond.privateMethod ({ cls := "FirstPollsModel", name := "push", desc := "(II)V" } : Jvm.MethodName)) ∈ lw_tbl := lw_at lw_m9 152 rfl
theorem q2204 : (Jvm.Cond.instanceMethod ({ cls := "FirstPollsModel", name := "push", desc := "(II)V" } : Jvm.MethodName)) ∈ lw_all := lw_g (lw_at lw_m9 153 rfl) rfl
theorem q2205 : (Jvm.Cond.code ({ cls := "FirstPollsModel", name := "push", desc := "(II)V" } : Jvm.MethodName) prog_27_method_49_code (3 : Nat) (Option.none : Option Jvm.ClassFile.FieldType)) ∈ lw_all := lw_g (lw_at lw_m9 154 rfl) rfl
theorem q2206 : (Jvm.Cond.methodLink "FirstPollsModel" (330 : Nat) ({ cls := "FirstPollsModel", name := "isSign", desc := "(I)Z" } : Jvm.MethodName)) ∈ lw_all := lw_g (lw_at lw_m9 155 rfl) rfl
theorem q2207 : (Jvm.Cond.privateMethod ({ cls := "FirstPollsModel", name := "isSign", desc := "(I)Z" } : Jvm.MethodName)) ∈ lw_tbl := lw_at lw_m9 156 rfl
theorem q2208 : (Jvm.Cond.instanceMethod ({ cls := "FirstPollsModel", name := "isSign", desc := "(I)Z" } : Jvm.MethodName)) ∈ lw_all := lw_g (lw_at lw_m9 157 rfl) rfl
theorem q2209 : (Jvm.Cond.code ({ cls := "FirstPollsModel", name := "isSign", desc := "(I)Z" } : Jvm.MethodName) prog_27_method_44_code (2 : Nat) (Option.some Jvm.ClassFile.FieldType.boolean)) ∈ lw_all := lw_g (lw_at lw_m9 158 rfl) rfl
theorem q2210 : (Jvm.Cond.methodLink "FirstPollsModel" (333 : Nat) ({ cls := "FirstPollsModel", name := "open", desc := "(I)V" } : Jvm.MethodName)) ∈ lw_all := lw_g (lw_at lw_m9 159 rfl) rfl
theorem q2211 : (Jvm.Cond.privateMethod ({ cls := "FirstPollsModel", name := "open", desc := "(I)V" } : Jvm.MethodName)) ∈ lw_tbl := lw_at lw_m9 160 rfl
theorem q2212 : (Jvm.Cond.instanceMethod ({ cls := "FirstPollsModel", name := "open", desc := "(I)V" } : Jvm.MethodName)) ∈ lw_all := lw_g (lw_at lw_m9 161 rfl) rfl
theorem q2213 : (Jvm.Cond.code ({ cls := "FirstPollsModel", name := "open", desc := "(I)V" } : Jvm.MethodName) prog_27_method_56_code (2 : Nat) (Option.none : Option Jvm.ClassFile.FieldType)) ∈ lw_all := lw_g (lw_at lw_m9 162 rfl) rfl
theorem q2214 : (Jvm.Cond.methodLink "FirstPollsModel" (348 : Nat) ({ cls := "FirstPollsModel", name := "plainAt", desc := "()I" } : Jvm.MethodName)) ∈ lw_all := lw_g (lw_at lw_m9 163 rfl) rfl
theorem q2215 : (Jvm.Cond.privateMethod ({ cls := "FirstPollsModel", name := "plainAt", desc := "()I" } : Jvm.MethodName)) ∈ lw_tbl := lw_at lw_m9 164 rfl
theorem q2216 : (Jvm.Cond.instanceMethod ({ cls := "FirstPollsModel", name := "plainAt", desc := "()I" } : Jvm.MethodName)) ∈ lw_all := lw_g (lw_at lw_m9 165 rfl) rfl
theorem q2217 : (Jvm.Cond.code ({ cls := "FirstPollsModel", name := "plainAt", desc := "()I" } : Jvm.MethodName) prog_27_method_55_code (1 : Nat) (Option.some Jvm.ClassFile.FieldType.int)) ∈ lw_all := lw_g (lw_at lw_m9 166 rfl) rfl
theorem q2218 : (Jvm.Cond.constantLong "FirstPollsModel" (311 : Nat) (763077 : Int64)) ∈ lw_all := lw_g (lw_at lw_m9 167 rfl) rfl
theorem q2219 : (Jvm.Cond.constantLong "FirstPollsModel" (313 : Nat) (394885 : Int64)) ∈ lw_all := lw_g (lw_at lw_m9 168 rfl) rfl
theorem q2220 : (Jvm.Cond.constantLong "FirstPollsModel" (315 : Nat) (773205170 : Int64)) ∈ lw_all := lw_g (lw_at lw_m9 169 rfl) rfl
theorem q2221 : (Jvm.Cond.constantLong "FirstPollsModel" (317 : Nat) (14145700 : Int64)) ∈ lw_all := lw_g (lw_at lw_m9 170 rfl) rfl
theorem q2222 : (Jvm.Cond.constantLong "FirstPollsModel" (319 : Nat) (86486190 : Int64)) ∈ lw_all := lw_g (lw_at lw_m9 171 rfl) rfl
theorem q2223 : (Jvm.Cond.methodLink "FirstPollsModel" (342 : Nat) ({ cls := "FirstPollsModel", name := "leaf", desc := "(ZII)V" } : Jvm.MethodName)) ∈ lw_all := lw_g (lw_at lw_m9 172 rfl) rfl
theorem q2224 : (Jvm.Cond.privateMethod ({ cls := "FirstPollsModel", name := "leaf", desc := "(ZII)V" } : Jvm.MethodName)) ∈ lw_tbl := lw_at lw_m9 173 rfl
theorem q2225 : (Jvm.Cond.instanceMethod ({ cls := "FirstPollsModel", name := "leaf", desc := "(ZII)V" } : Jvm.MethodName)) ∈ lw_all := lw_g (lw_at lw_m9 174 rfl) rfl
theorem q2226 : (Jvm.Cond.code ({ cls := "FirstPollsModel", name := "leaf", desc := "(ZII)V" } : Jvm.MethodName) prog_27_method_57_code (4 : Nat) (Option.none : Option Jvm.ClassFile.FieldType)) ∈ lw_all := lw_g (lw_at lw_m9 175 rfl) rfl
theorem q2227 : (Jvm.Cond.methodLink "FirstPollsModel" (274 : Nat) ({ cls := "FirstPollsModel", name := "emit", desc := "(II)V" } : Jvm.MethodName)) ∈ lw_all := lw_g (lw_at lw_m9 176 rfl) rfl
theorem q2228 : (Jvm.Cond.privateMethod ({ cls := "FirstPollsModel", name := "emit", desc := "(II)V" } : Jvm.MethodName)) ∈ lw_tbl := lw_at lw_m9 177 rfl
theorem q2229 : (Jvm.Cond.instanceMethod ({ cls := "FirstPollsModel", name := "emit", desc := "(II)V" } : Jvm.MethodName)) ∈ lw_all := lw_g (lw_at lw_m9 178 rfl) rfl
theorem q2230 : (Jvm.Cond.code ({ cls := "FirstPollsModel", name := "emit", desc := "(II)V" } : Jvm.MethodName) prog_27_method_48_code (3 : Nat) (Option.none : Option Jvm.ClassFile.FieldType)) ∈ lw_all := lw_g (lw_at lw_m9 179 rfl) rfl
theorem q2231 : (Jvm.Cond.methodLink "FirstPollsModel" (351 : Nat) ({ cls := "FirstPollsModel", name := "readPart", desc := "()I" } : Jvm.MethodName)) ∈ lw_all := lw_g (lw_at lw_m9 180 rfl) rfl
theorem q2232 : (Jvm.Cond.privateMethod ({ cls := "FirstPollsModel", name := "readPart", desc := "()I" } : Jvm.MethodName)) ∈ lw_tbl := lw_at lw_m9 181 rfl
theorem q2233 : (Jvm.Cond.instanceMethod ({ cls := "FirstPollsModel", name := "readPart", desc := "()I" } : Jvm.MethodName)) ∈ lw_all := lw_g (lw_at lw_m9 182 rfl) rfl
theorem q2234 : (Jvm.Cond.code ({ cls := "FirstPollsModel", name := "readPart", desc := "()I" } : Jvm.MethodName) prog_27_method_58_code (3 : Nat) (Option.some Jvm.ClassFile.FieldType.int)) ∈ lw_all := lw_g (lw_at lw_m9 183 rfl) rfl
theorem q2235 : (Jvm.Cond.methodLink "FirstPollsModel" (336 : Nat) ({ cls := "FirstPollsModel", name := "partAt", desc := "()I" } : Jvm.MethodName)) ∈ lw_all := lw_g (lw_at lw_m9 184 rfl) rfl
theorem q2236 : (Jvm.Cond.privateMethod ({ cls := "FirstPollsModel", name := "partAt", desc := "()I" } : Jvm.MethodName)) ∈ lw_tbl := lw_at lw_m9 185 rfl
theorem q2237 : (Jvm.Cond.instanceMethod ({ cls := "FirstPollsModel", name := "partAt", desc := "()I" } : Jvm.MethodName)) ∈ lw_all := lw_g (lw_at lw_m9 186 rfl) rfl
theorem q2238 : (Jvm.Cond.code ({ cls := "FirstPollsModel", name := "partAt", desc := "()I" } : Jvm.MethodName) prog_27_method_54_code (1 : Nat) (Option.some Jvm.ClassFile.FieldType.int)) ∈ lw_all := lw_g (lw_at lw_m9 187 rfl) rfl
theorem q2239 : (Jvm.Cond.constantLong "FirstPollsModel" (285 : Nat) (1253 : Int64)) ∈ lw_all := lw_g (lw_at lw_m9 188 rfl) rfl
theorem q2240 : (Jvm.Cond.constantLong "FirstPollsModel" (291 : Nat) (8902245 : Int64)) ∈ lw_all := lw_g (lw_at lw_m9 189 rfl) rfl
theorem q2241 : (Jvm.Cond.constantLong "FirstPollsModel" (293 : Nat) (17171557 : Int64)) ∈ lw_all := lw_g (lw_at lw_m9 190 rfl) rfl
theorem q2242 : (Jvm.Cond.constantLong "FirstPollsModel" (295 : Nat) (627764 : Int64)) ∈ lw_all := lw_g (lw_at lw_m9 191 rfl) rfl
theorem q2243 : (Jvm.Cond.constantLong "FirstPollsModel" (297 : Nat) (4153 : Int64)) ∈ lw_all := lw_g (lw_at lw_m9 192 rfl) rfl
theorem q2244 : (Jvm.Cond.constantLong "FirstPollsModel" (299 : Nat) (14726323 : Int64)) ∈ lw_all := lw_g (lw_at lw_m9 193 rfl) rfl
theorem q2245 : (Jvm.Cond.constantLong "FirstPollsModel" (301 : Nat) (538449491 : Int64)) ∈ lw_all := lw_g (lw_at lw_m9 194 rfl) rfl
theorem q2246 : (Jvm.Cond.constantLong "FirstPollsModel" (303 : Nat) (7657646 : Int64)) ∈ lw_all := lw_g (lw_at lw_m9 195 rfl) rfl
theorem q2247 : (Jvm.Cond.constantLong "FirstPollsModel" (305 : Nat) (17076 : Int64)) ∈ lw_all := lw_g (lw_at lw_m9 196 rfl) rfl
theorem q2248 : (Jvm.Cond.constantLong "FirstPollsModel" (307 : Nat) (654812564 : Int64)) ∈ lw_all := lw_g (lw_at lw_m9 197 rfl) rfl
theorem q2249 : (Jvm.Cond.constantLong "FirstPollsModel" (309 : Nat) (409204 : Int64)) ∈ lw_all := lw_g (lw_at lw_m9 198 rfl) rfl
theorem q2250 : (Jvm.Cond.constantLong "FirstPollsModel" (340 : Nat) (100000 : Int64)) ∈ lw_all := lw_g (lw_at lw_m9 199 rfl) rfl
theorem q2251 : (Jvm.Cond.methodLink "FirstPollsModel" (371 : Nat) ({ cls := "FirstPollsModel", name := "behindSum", desc := "(Z)I" } : Jvm.MethodName)) ∈ lw_all := lw_g (lw_at lw_m9 200 rfl) rfl
theorem q2252 : (Jvm.Cond.privateMethod ({ cls := "FirstPollsModel", name := "behindSum", desc := "(Z)I" } : Jvm.MethodName)) ∈ lw_tbl := lw_at lw_m9 201 rfl
theorem q2253 : (Jvm.Cond.instanceMethod ({ cls := "FirstPollsModel", name := "behindSum", desc := "(Z)I" } : Jvm.MethodName)) ∈ lw_all := lw_g (lw_at lw_m9 202 rfl) rfl
theorem q2254 : (Jvm.Cond.code ({ cls := "FirstPollsModel", name := "behindSum", desc := "(Z)I" } : Jvm.MethodName) prog_27_method_60_code (4 : Nat) (Option.some Jvm.ClassFile.FieldType.int)) ∈ lw_all := lw_g (lw_at lw_m9 203 rfl) rfl
theorem q2255 : (Jvm.Cond.methodLink "FirstPollsModel" (271 : Nat) ({ cls := "FirstPollsModel", name := "binds", desc := "(I)I" } : Jvm.MethodName)) ∈ lw_all := lw_g (lw_at lw_m9 204 rfl) rfl
theorem q2256 : (Jvm.Cond.static ({ cls := "FirstPollsModel", name := "binds", desc := "(I)I" } : Jvm.MethodName)) ∈ lw_all := lw_g (lw_at lw_m9 205 rfl) rfl
theorem q2257 : (Jvm.Cond.code ({ cls := "FirstPollsModel", name := "binds", desc := "(I)I" } : Jvm.MethodName) prog_27_method_50_code (1 : Nat) (Option.some Jvm.ClassFile.FieldType.int)) ∈ lw_all := lw_g (lw_at lw_m9 206 rfl) rfl
theorem q2258 : (Jvm.Cond.methodLink "FirstPollsModel" (354 : Nat) ({ cls := "FirstPollsModel", name := "settle", desc := "(I)V" } : Jvm.MethodName)) ∈ lw_all := lw_g (lw_at lw_m9 207 rfl) rfl
theorem q2259 : (Jvm.Cond.privateMethod ({ cls := "FirstPollsModel", name := "settle", desc := "(I)V" } : Jvm.MethodName)) ∈ lw_tbl := lw_at lw_m9 208 rfl
theorem q2260 : (Jvm.Cond.instanceMethod ({ cls := "FirstPollsModel", name := "settle", desc := "(I)V" } : Jvm.MethodName)) ∈ lw_all := lw_g (lw_at lw_m9 209 rfl) rfl
theorem q2261 : (Jvm.Cond.code ({ cls := "FirstPollsModel", name := "settle", desc := "(I)V" } : Jvm.MethodName) prog_27_method_51_code (2 : Nat) (Option.none : Option Jvm.ClassFile.FieldType)) ∈ lw_all := lw_g (lw_at lw_m9 210 rfl) rfl
theorem q2262 : (Jvm.Cond.methodLink "FirstPollsModel" (357 : Nat) ({ cls := "FirstPollsModel", name := "inner", desc := "()I" } : Jvm.MethodName)) ∈ lw_all := lw_g (lw_at lw_m9 211 rfl) rfl
theorem q2263 : (Jvm.Cond.privateMethod ({ cls := "FirstPollsModel", name := "inner", desc := "()I" } : Jvm.MethodName)) ∈ lw_tbl := lw_at lw_m9 212 rfl
theorem q2264 : (Jvm.Cond.instanceMethod ({ cls := "FirstPollsModel", name := "inner", desc := "()I" } : Jvm.MethodName)) ∈ lw_all := lw_g (lw_at lw_m9 213 rfl) rfl
theorem q2265 : (Jvm.Cond.code ({ cls := "FirstPollsModel", name := "inner", desc := "()I" } : Jvm.MethodName) prog_27_method_52_code (3 : Nat) (Option.some Jvm.ClassFile.FieldType.int)) ∈ lw_all := lw_g (lw_at lw_m9 214 rfl) rfl
theorem q2266 : (Jvm.Cond.methodLink "FirstPollsModel" (360 : Nat) ({ cls := "FirstPollsModel", name := "isCompared", desc := "()Z" } : Jvm.MethodName)) ∈ lw_all := lw_g (lw_at lw_m9 215 rfl) rfl
theorem q2267 : (Jvm.Cond.privateMethod ({ cls := "FirstPollsModel", name := "isCompared", desc := "()Z" } : Jvm.MethodName)) ∈ lw_tbl := lw_at lw_m9 216 rfl
theorem q2268 : (Jvm.Cond.instanceMethod ({ cls := "FirstPollsModel", name := "isCompared", desc := "()Z" } : Jvm.MethodName)) ∈ lw_all := lw_g (lw_at lw_m9 217 rfl) rfl
theorem q2269 : (Jvm.Cond.code ({ cls := "FirstPollsModel", name := "isCompared", desc := "()Z" } : Jvm.MethodName) prog_27_method_53_code (2 : Nat) (Option.some Jvm.ClassFile.FieldType.boolean)) ∈ lw_all := lw_g (lw_at lw_m9 218 rfl) rfl
theorem q2270 : (Jvm.Cond.constantLong "FirstPollsModel" (277 : Nat) (20 : Int64)) ∈ lw_all := lw_g (lw_at lw_m9 219 rfl) rfl
theorem q2271 : (Jvm.Cond.constantLong "FirstPollsModel" (279 : Nat) (23 : Int64)) ∈ lw_all := lw_g (lw_at lw_m9 220 rfl) rfl
theorem q2272 : (Jvm.Cond.constantLong "FirstPollsModel" (281 : Nat) (24 : Int64)) ∈ lw_all := lw_g (lw_at lw_m9 221 rfl) rfl
theorem q2273 : (Jvm.Cond.constantLong "FirstPollsModel" (283 : Nat) (26 : Int64)) ∈ lw_all := lw_g (lw_at lw_m9 222 rfl) rfl
theorem q2274 : (Jvm.Cond.methodLink "FirstPollsModel" (375 : Nat) ({ cls := "FirstPollsModel", name := "behindTest", desc := "()I" } : Jvm.MethodName)) ∈ lw_all := lw_g (lw_at lw_m9 223 rfl) rfl
theorem q2275 : (Jvm.Cond.privateMethod ({ cls := "FirstPollsModel", name := "behindTest", desc := "()I" } : Jvm.MethodName)) ∈ lw_tbl := lw_at lw_m9 224 rfl
theorem q2276 : (Jvm.Cond.instanceMethod ({ cls := "FirstPollsModel", name := "behindTest", desc := "()I" } : Jvm.MethodName)) ∈ lw_all := lw_g (lw_at lw_m9 225 rfl) rfl
theorem q2277 : (Jvm.Cond.code ({ cls := "FirstPollsModel", name := "behindTest", desc := "()I" } : Jvm.MethodName) prog_27_method_61_code (2 : Nat) (Option.some Jvm.ClassFile.FieldType.int)) ∈ lw_all := lw_g (lw_at lw_m9 226 rfl) rfl
theorem q2278 : (Jvm.Cond.constantLong "FirstPollsModel" (364 : Nat) (1476 : Int64)) ∈ lw_all := lw_g (lw_at lw_m9 227 rfl) rfl
theorem q2279 : (Jvm.Cond.constantLong "FirstPollsModel" (366 : Nat) (498 : Int64)) ∈ lw_all := lw_g (lw_at lw_m9 228 rfl) rfl
theorem q2280 : (Jvm.Cond.constantLong "FirstPollsModel" (415 : Nat) (294 : Int64)) ∈ lw_all := lw_g (lw_at lw_m9 229 rfl) rfl
theorem q2282 : (Jvm.Cond.instanceMethod ({ cls := "FirstPollsModel", name := "force", desc := "(III)I" } : Jvm.MethodName)) ∈ lw_all := lw_g (lw_at lw_m9 231 rfl) rfl
theorem q2283 : (Jvm.Cond.selects "FirstPollsModel" ({ cls := "FirstPollsModel", name := "force", desc := "(III)I" } : Jvm.MethodName) ({ cls := "FirstPollsModel", name := "force", desc := "(III)I" } : Jvm.MethodName)) ∈ lw_all := lw_g (lw_at lw_m9 232 rfl) rfl
theorem q2284 : (Jvm.Cond.code ({ cls := "FirstPollsModel", name := "force", desc := "(III)I" } : Jvm.MethodName) prog_27_method_69_code (4 : Nat) (Option.some Jvm.ClassFile.FieldType.int)) ∈ lw_all := lw_g (lw_at lw_m9 233 rfl) rfl
theorem q2286 : (Jvm.Cond.instanceMethod ({ cls := "FirstPollsModel", name := "rule", desc := "(IIII)I" } : Jvm.MethodName)) ∈ lw_all := lw_g (lw_at lw_m9 235 rfl) rfl
theorem q2287 : (Jvm.Cond.selects "FirstPollsModel" ({ cls := "FirstPollsModel", name := "rule", desc := "(IIII)I" } : Jvm.MethodName) ({ cls := "FirstPollsModel", name := "rule", desc := "(IIII)I" } : Jvm.MethodName)) ∈ lw_all := lw_g (lw_at lw_m9 236 rfl) rfl
theorem q2288 : (Jvm.Cond.code ({ cls := "FirstPollsModel", name := "rule", desc := "(IIII)I" } : Jvm.MethodName) prog_27_method_79_code (5 : Nat) (Option.some Jvm.ClassFile.FieldType.int)) ∈ lw_all := lw_g (lw_at lw_m9 237 rfl) rfl
theorem q2289 : (Jvm.Cond.methodLink "FirstPollsModel" (468 : Nat) ({ cls := "FirstPollsModel", name := "ruleOf", desc := "(II)I" } : Jvm.MethodName)) ∈ lw_all := lw_g (lw_at lw_m9 238 rfl) rfl
theorem q2290 : (Jvm.Cond.privateMethod ({ cls := "FirstPollsModel", name := "ruleOf", desc := "(II)I" } : Jvm.MethodName)) ∈ lw_tbl := lw_at lw_m9 239 rfl
theorem q2291 : (Jvm.Cond.instanceMethod ({ cls := "FirstPollsModel", name := "ruleOf", desc := "(II)I" } : Jvm.MethodName)) ∈ lw_all := lw_g (lw_at lw_m10 0 rfl) rfl
theorem q2292 : (Jvm.Cond.code ({ cls := "FirstPollsModel", name := "ruleOf", desc := "(II)I" } : Jvm.MethodName) prog_27_method_78_code (3 : Nat) (Option.some Jvm.ClassFile.FieldType.int)) ∈ lw_all := lw_g (lw_at lw_m10 1 rfl) rfl
theorem q2293 : (Jvm.Cond.methodLink "FirstPollsModel" (432 : Nat) ({ cls := "FirstPollsModel", name := "setPlace", desc := "(I)V" } : Jvm.MethodName)) ∈ lw_all := lw_g (lw_at lw_m10 2 rfl) rfl
theorem q2294 : (Jvm.Cond.privateMethod ({ cls := "FirstPollsModel", name := "setPlace", desc := "(I)V" } : Jvm.MethodName)) ∈ lw_tbl := lw_at lw_m10 3 rfl
theorem q2295 : (Jvm.Cond.instanceMethod ({ cls := "FirstPollsModel", name := "setPlace", desc := "(I)V" } : Jvm.MethodName)) ∈ lw_all := lw_g (lw_at lw_m10 4 rfl) rfl
theorem q2296 : (Jvm.Cond.code ({ cls := "FirstPollsModel", name := "setPlace", desc := "(I)V" } : Jvm.MethodName) prog_27_method_72_code (2 : Nat) (Option.none : Option Jvm.ClassFile.FieldType)) ∈ lw_all := lw_g (lw_at lw_m10 5 rfl) rfl
theorem q2298 : (Jvm.Cond.instanceMethod ({ cls := "FirstPollsModel", name := "wish", desc := "(I)I" } : Jvm.MethodName)) ∈ lw_all := lw_g (lw_at lw_m10 7 rfl) rfl
theorem q2299 : (Jvm.Cond.selects "FirstPollsModel" ({ cls := "FirstPollsModel", name := "wish", desc := "(I)I" } : Jvm.MethodName) ({ cls := "FirstPollsModel", name := "wish", desc := "(I)I" } : Jvm.MethodName)) ∈ lw_all := lw_g (lw_at lw_m10 8 rfl) rfl
theorem q2300 : (Jvm.Cond.code ({ cls := "FirstPollsModel", name := "wish", desc := "(I)I" } : Jvm.MethodName) prog_27_method_80_code (3 : Nat) (Option.some Jvm.ClassFile.FieldType.int)) ∈ lw_all := lw_g (lw_at lw_m10 9 rfl) rfl
theorem q2302 : (Jvm.Cond.instanceMethod ({ cls := "FirstPollsModel", name := "clear", desc := "()I" } : Jvm.MethodName)) ∈ lw_all := lw_g (lw_at lw_m10 11 rfl) rfl
theorem q2303 : (Jvm.Cond.selects "FirstPollsModel" ({ cls := "FirstPollsModel", name := "clear", desc := "()I" } : Jvm.MethodName) ({ cls := "FirstPollsModel", name := "clear", desc := "()I" } : Jvm.MethodName)) ∈ lw_all := lw_g (lw_at lw_m10 12 rfl) rfl
theorem q2304 : (Jvm.Cond.code ({ cls := "FirstPollsModel", name := "clear", desc := "()I" } : Jvm.MethodName) prog_27_method_81_code (2 : Nat) (Option.some Jvm.ClassFile.FieldType.int)) ∈ lw_all := lw_g (lw_at lw_m10 13 rfl) rfl
theorem q2306 : (Jvm.Cond.instanceMethod ({ cls := "FirstPollsModel", name := "booths", desc := "(II)I" } : Jvm.MethodName)) ∈ lw_all := lw_g (lw_at lw_m10 15 rfl) rfl
theorem q2307 : (Jvm.Cond.selects "FirstPollsModel" ({ cls := "FirstPollsModel", name := "booths", desc := "(II)I" } : Jvm.MethodName) ({ cls := "FirstPollsModel", name := "booths", desc := "(II)I" } : Jvm.MethodName)) ∈ lw_all := lw_g (lw_at lw_m10 16 rfl) rfl
theorem q2308 : (Jvm.Cond.code ({ cls := "FirstPollsModel", name := "booths", desc := "(II)I" } : Jvm.MethodName) prog_27_method_88_code (9 : Nat) (Option.some Jvm.ClassFile.FieldType.int)) ∈ lw_all := lw_g (lw_at lw_m10 17 rfl) rfl
theorem q2309 : (Jvm.Cond.methodLink "FirstPollsModel" (481 : Nat) ({ cls := "FirstPollsModel", name := "areThere", desc := "()Z" } : Jvm.MethodName)) ∈ lw_all := lw_g (lw_at lw_m10 18 rfl) rfl
theorem q2310 : (Jvm.Cond.privateMethod ({ cls := "FirstPollsModel", name := "areThere", desc := "()Z" } : Jvm.MethodName)) ∈ lw_tbl := lw_at lw_m10 19 rfl
theorem q2311 : (Jvm.Cond.instanceMethod ({ cls := "FirstPollsModel", name := "areThere", desc := "()Z" } : Jvm.MethodName)) ∈ lw_all := lw_g (lw_at lw_m10 20 rfl) rfl
theorem q2312 : (Jvm.Cond.code ({ cls := "FirstPollsModel", name := "areThere", desc := "()Z" } : Jvm.MethodName) prog_27_method_82_code (3 : Nat) (Option.some Jvm.ClassFile.FieldType.boolean)) ∈ lw_all := lw_g (lw_at lw_m10 21 rfl) rfl
theorem q2313 : (Jvm.Cond.methodLink "FirstPollsModel" (484 : Nat) ({ cls := "FirstPollsModel", name := "setRules", desc := "(II)V" } : Jvm.MethodName)) ∈ lw_all := lw_g (lw_at lw_m10 22 rfl) rfl
theorem q2314 : (Jvm.Cond.privateMethod ({ cls := "FirstPollsModel", name := "setRules", desc := "(II)V" } : Jvm.MethodName)) ∈ lw_tbl := lw_at lw_m10 23 rfl
theorem q2315 : (Jvm.Cond.instanceMethod ({ cls := "FirstPollsModel", name := "setRules", desc := "(II)V" } : Jvm.MethodName)) ∈ lw_all := lw_g (lw_at lw_m10 24 rfl) rfl
theorem q2316 : (Jvm.Cond.code ({ cls := "FirstPollsModel", name := "setRules", desc := "(II)V" } : Jvm.MethodName) prog_27_method_84_code (4 : Nat) (Option.none : Option Jvm.ClassFile.FieldType)) ∈ lw_all := lw_g (lw_at lw_m10 25 rfl) rfl
theorem q2317 : (Jvm.Cond.methodLink "FirstPollsModel" (487 : Nat) ({ cls := "FirstPollsModel", name := "ones", desc := "(I)I" } : Jvm.MethodName)) ∈ lw_all := lw_g (lw_at lw_m10 26 rfl) rfl
theorem q2318 : (Jvm.Cond.static ({ cls := "FirstPollsModel", name := "ones", desc := "(I)I" } : Jvm.MethodName)) ∈ lw_all := lw_g (lw_at lw_m10 27 rfl) rfl
theorem q2319 : (Jvm.Cond.code ({ cls := "FirstPollsModel", name := "ones", desc := "(I)I" } : Jvm.MethodName) prog_27_method_87_code (3 : Nat) (Option.some Jvm.ClassFile.FieldType.int)) ∈ lw_all := lw_g (lw_at lw_m10 28 rfl) rfl
theorem q2320 : (Jvm.Cond.methodLink "FirstPollsModel" (490 : Nat) ({ cls := "FirstPollsModel", name := "leastBy", desc := "(I)I" } : Jvm.MethodName)) ∈ lw_all := lw_g (lw_at lw_m10 29 rfl) rfl
theorem q2321 : (Jvm.Cond.privateMethod ({ cls := "FirstPollsModel", name := "leastBy", desc := "(I)I" } : Jvm.MethodName)) ∈ lw_tbl := lw_at lw_m10 30 rfl
theorem q2322 : (Jvm.Cond.instanceMethod ({ cls := "FirstPollsModel", name := "leastBy", desc := "(I)I" } : Jvm.MethodName)) ∈ lw_all := lw_g (lw_at lw_m10 31 rfl) rfl
theorem q2323 : (Jvm.Cond.code ({ cls := "FirstPollsModel", name := "leastBy", desc := "(I)I" } : Jvm.MethodName) prog_27_method_85_code (7 : Nat) (Option.some Jvm.ClassFile.FieldType.int)) ∈ lw_all := lw_g (lw_at lw_m10 32 rfl) rfl
theorem q2324 : (Jvm.Cond.methodLink "FirstPollsModel" (474 : Nat) ({ cls := "FirstPollsModel", name := "mayLead", desc := "(IIIII)Z" } : Jvm.MethodName)) ∈ lw_all := lw_g (lw_at lw_m10 33 rfl) rfl
theorem q2325 : (Jvm.Cond.privateMethod ({ cls := "FirstPollsModel", name := "mayLead", desc := "(IIIII)Z" } : Jvm.MethodName)) ∈ lw_tbl := lw_at lw_m10 34 rfl
theorem q2326 : (Jvm.Cond.instanceMethod ({ cls := "FirstPollsModel", name := "mayLead", desc := "(IIIII)Z" } : Jvm.MethodName)) ∈ lw_all := lw_g (lw_at lw_m10 35 rfl) rfl
theorem q2327 : (Jvm.Cond.code ({ cls := "FirstPollsModel", name := "mayLead", desc := "(IIIII)Z" } : Jvm.MethodName) prog_27_method_86_code (7 : Nat) (Option.some Jvm.ClassFile.FieldType.boolean)) ∈ lw_all := lw_g (lw_at lw_m10 36 rfl) rfl
theorem q2328 : (Jvm.Cond.methodLink "FirstPollsModel" (478 : Nat) ({ cls := "FirstPollsModel", name := "away", desc := "(II)I" } : Jvm.MethodName)) ∈ lw_all := lw_g (lw_at lw_m10 37 rfl) rfl
theorem q2329 : (Jvm.Cond.privateMethod ({ cls := "FirstPollsModel", name := "away", desc := "(II)I" } : Jvm.MethodName)) ∈ lw_tbl := lw_at lw_m10 38 rfl
theorem q2330 : (Jvm.Cond.instanceMethod ({ cls := "FirstPollsModel", name := "away", desc := "(II)I" } : Jvm.MethodName)) ∈ lw_all := lw_g (lw_at lw_m10 39 rfl) rfl
theorem q2331 : (Jvm.Cond.code ({ cls := "FirstPollsModel", name := "away", desc := "(II)I" } : Jvm.MethodName) prog_27_method_83_code (5 : Nat) (Option.some Jvm.ClassFile.FieldType.int)) ∈ lw_all := lw_g (lw_at lw_m10 40 rfl) rfl
theorem q2333 : (Jvm.Cond.instanceMethod ({ cls := "FirstPollsModel", name := "led", desc := "(I)I" } : Jvm.MethodName)) ∈ lw_all := lw_g (lw_at lw_m10 42 rfl) rfl
theorem q2334 : (Jvm.Cond.selects "FirstPollsModel" ({ cls := "FirstPollsModel", name := "led", desc := "(I)I" } : Jvm.MethodName) ({ cls := "FirstPollsModel", name := "led", desc := "(I)I" } : Jvm.MethodName)) ∈ lw_all := lw_g (lw_at lw_m10 43 rfl) rfl
theorem q2335 : (Jvm.Cond.code ({ cls := "FirstPollsModel", name := "led", desc := "(I)I" } : Jvm.MethodName) prog_27_method_89_code (2 : Nat) (Option.some Jvm.ClassFile.FieldType.int)) ∈ lw_all := lw_g (lw_at lw_m10 44 rfl) rfl
theorem q2337 : (Jvm.Cond.instanceMethod ({ cls := "FirstPollsModel", name := "judge", desc := "(III)I" } : Jvm.MethodName)) ∈ lw_all := lw_g (lw_at lw_m10 46 rfl) rfl
theorem q2338 : (Jvm.Cond.selects "FirstPollsModel" ({ cls := "FirstPollsModel", name := "judge", desc := "(III)I" } : Jvm.MethodName) ({ cls := "FirstPollsModel", name := "judge", desc := "(III)I" } : Jvm.MethodName)) ∈ lw_all := lw_g (lw_at lw_m10 47 rfl) rfl
theorem q2339 : (Jvm.Cond.code ({ cls := "FirstPollsModel", name := "judge", desc := "(III)I" } : Jvm.MethodName) prog_27_method_90_code (4 : Nat) (Option.some Jvm.ClassFile.FieldType.int)) ∈ lw_all := lw_g (lw_at lw_m10 48 rfl) rfl
theorem q2341 : (Jvm.Cond.instanceMethod ({ cls := "FirstPollsModel", name := "booth", desc := "(I)I" } : Jvm.MethodName)) ∈ lw_all := lw_g (lw_at lw_m10 50 rfl) rfl
theorem q2342 : (Jvm.Cond.selects "FirstPollsModel" ({ cls := "FirstPollsModel", name := "booth", desc := "(I)I" } : Jvm.MethodName) ({ cls := "FirstPollsModel", name := "booth", desc := "(I)I" } : Jvm.MethodName)) ∈ lw_all := lw_g (lw_at lw_m10 51 rfl) rfl
theorem q2343 : (Jvm.Cond.code ({ cls := "FirstPollsModel", name := "booth", desc := "(I)I" } : Jvm.MethodName) prog_27_method_91_code (2 : Nat) (Option.some Jvm.ClassFile.FieldType.int)) ∈ lw_all := lw_g (lw_at lw_m10 52 rfl) rfl
theorem q2345 : (Jvm.Cond.instanceMethod ({ cls := "FirstPollsModel", name := "box", desc := "(II)I" } : Jvm.MethodName)) ∈ lw_all := lw_g (lw_at lw_m10 54 rfl) rfl
theorem q2346 : (Jvm.Cond.selects "FirstPollsModel" ({ cls := "FirstPollsModel", name := "box", desc := "(II)I" } : Jvm.MethodName) ({ cls := "FirstPollsModel", name := "box", desc := "(II)I" } : Jvm.MethodName)) ∈ lw_all := lw_g (lw_at lw_m10 55 rfl) rfl
theorem q2347 : (Jvm.Cond.code ({ cls := "FirstPollsModel", name := "box", desc := "(II)I" } : Jvm.MethodName) prog_27_method_92_code (3 : Nat) (Option.some Jvm.ClassFile.FieldType.int)) ∈ lw_all := lw_g (lw_at lw_m10 56 rfl) rfl
theorem q2348 : (Jvm.Cond.constantLong "FirstPollsModel" (502 : Nat) (99999 : Int64)) ∈ lw_all := lw_g (lw_at lw_m10 57 rfl) rfl
theorem q2349 : (Jvm.Cond.methodLink "FirstPollsModel" (504 : Nat) ({ cls := "FirstPollsModel", name := "isBooth", desc := "(I)Z" } : Jvm.MethodName)) ∈ lw_all := lw_g (lw_at lw_m10 58 rfl) rfl
theorem q2350 : (Jvm.Cond.privateMethod ({ cls := "FirstPollsModel", name := "isBooth", desc := "(I)Z" } : Jvm.MethodName)) ∈ lw_tbl := lw_at lw_m10 59 rfl
theorem q2351 : (Jvm.Cond.instanceMethod ({ cls := "FirstPollsModel", name := "isBooth", desc := "(I)Z" } : Jvm.MethodName)) ∈ lw_all := lw_g (lw_at lw_m10 60 rfl) rfl
theorem q2352 : (Jvm.Cond.code ({ cls := "FirstPollsModel", name := "isBooth", desc := "(I)Z" } : Jvm.MethodName) prog_27_method_11_code (2 : Nat) (Option.some Jvm.ClassFile.FieldType.boolean)) ∈ lw_all := lw_g (lw_at lw_m10 61 rfl) rfl
theorem q2354 : (Jvm.Cond.instanceMethod ({ cls := "FirstPollsModel", name := "hand", desc := "(IIIII)I" } : Jvm.MethodName)) ∈ lw_all := lw_g (lw_at lw_m10 63 rfl) rfl
theorem q2355 : (Jvm.Cond.selects "FirstPollsModel" ({ cls := "FirstPollsModel", name := "hand", desc := "(IIIII)I" } : Jvm.MethodName) ({ cls := "FirstPollsModel", name := "hand", desc := "(IIIII)I" } : Jvm.MethodName)) ∈ lw_all := lw_g (lw_at lw_m10 64 rfl) rfl
theorem q2356 : (Jvm.Cond.code ({ cls := "FirstPollsModel", name := "hand", desc := "(IIIII)I" } : Jvm.MethodName) prog_27_method_93_code (7 : Nat) (Option.some Jvm.ClassFile.FieldType.int)) ∈ lw_all := lw_g (lw_at lw_m10 65 rfl) rfl
theorem q2357 : (Jvm.Cond.methodLink "FirstPollsModel" (507 : Nat) ({ cls := "FirstPollsModel", name := "isBox", desc := "(I)Z" } : Jvm.MethodName)) ∈ lw_all := lw_g (lw_at lw_m10 66 rfl) rfl
theorem q2358 : (Jvm.Cond.privateMethod ({ cls := "FirstPollsModel", name := "isBox", desc := "(I)Z" } : Jvm.MethodName)) ∈ lw_tbl := lw_at lw_m10 67 rfl
theorem q2359 : (Jvm.Cond.instanceMethod ({ cls := "FirstPollsModel", name := "isBox", desc := "(I)Z" } : Jvm.MethodName)) ∈ lw_all := lw_g (lw_at lw_m10 68 rfl) rfl
theorem q2360 : (Jvm.Cond.code ({ cls := "FirstPollsModel", name := "isBox", desc := "(I)Z" } : Jvm.MethodName) prog_27_method_12_code (2 : Nat) (Option.some Jvm.ClassFile.FieldType.boolean)) ∈ lw_all := lw_g (lw_at lw_m10 69 rfl) rfl
theorem q2362 : (Jvm.Cond.instanceMethod ({ cls := "FirstPollsModel", name := "held", desc := "(III)I" } : Jvm.MethodName)) ∈ lw_all := lw_g (lw_at lw_m10 71 rfl) rfl
theorem q2363 : (Jvm.Cond.selects "FirstPollsModel" ({ cls := "FirstPollsModel", name := "held", desc := "(III)I" } : Jvm.MethodName) ({ cls := "FirstPollsModel", name := "held", desc := "(III)I" } : Jvm.MethodName)) ∈ lw_all := lw_g (lw_at lw_m10 72 rfl) rfl
theorem q2364 : (Jvm.Cond.code ({ cls := "FirstPollsModel", name := "held", desc := "(III)I" } : Jvm.MethodName) prog_27_method_94_code (8 : Nat) (Option.some Jvm.ClassFile.FieldType.int)) ∈ lw_all := lw_g (lw_at lw_m10 73 rfl) rfl
theorem q2366 : (Jvm.Cond.instanceMethod ({ cls := "FirstPollsModel", name := "broken", desc := "(III)I" } : Jvm.MethodName)) ∈ lw_all := lw_g (lw_at lw_m10 75 rfl) rfl
theorem q2367 : (Jvm.Cond.selects "FirstPollsModel" ({ cls := "FirstPollsModel", name := "broken", desc := "(III)I" } : Jvm.MethodName) ({ cls := "FirstPollsModel", name := "broken", desc := "(III)I" } : Jvm.MethodName)) ∈ lw_all := lw_g (lw_at lw_m10 76 rfl) rfl
theorem q2368 : (Jvm.Cond.code ({ cls := "FirstPollsModel", name := "broken", desc := "(III)I" } : Jvm.MethodName) prog_27_method_97_code (6 : Nat) (Option.some Jvm.ClassFile.FieldType.int)) ∈ lw_all := lw_g (lw_at lw_m10 77 rfl) rfl
theorem q2369 : (Jvm.Cond.methodLink "FirstPollsModel" (441 : Nat) ({ cls := "FirstPollsModel", name := "brokenOf", desc := "(II)I" } : Jvm.MethodName)) ∈ lw_all := lw_g (lw_at lw_m10 78 rfl) rfl
theorem q2370 : (Jvm.Cond.privateMethod ({ cls := "FirstPollsModel", name := "brokenOf", desc := "(II)I" } : Jvm.MethodName)) ∈ lw_tbl := lw_at lw_m10 79 rfl
theorem q2371 : (Jvm.Cond.instanceMethod ({ cls := "FirstPollsModel", name := "brokenOf", desc := "(II)I" } : Jvm.MethodName)) ∈ lw_all := lw_g (lw_at lw_m10 80 rfl) rfl
theorem q2372 : (Jvm.Cond.code ({ cls := "FirstPollsModel", name := "brokenOf", desc := "(II)I" } : Jvm.MethodName) prog_27_method_95_code (7 : Nat) (Option.some Jvm.ClassFile.FieldType.int)) ∈ lw_all := lw_g (lw_at lw_m10 81 rfl) rfl
theorem q2373 : (Jvm.Cond.methodLink "FirstPollsModel" (510 : Nat) ({ cls := "FirstPollsModel", name := "aheadOf", desc := "(II)I" } : Jvm.MethodName)) ∈ lw_all := lw_g (lw_at lw_m10 82 rfl) rfl
theorem q2374 : (Jvm.Cond.privateMethod ({ cls := "FirstPollsModel", name := "aheadOf", desc := "(II)I" } : Jvm.MethodName)) ∈ lw_tbl := lw_at lw_m10 83 rfl
theorem q2375 : (Jvm.Cond.instanceMethod ({ cls := "FirstPollsModel", name := "aheadOf", desc := "(II)I" } : Jvm.MethodName)) ∈ lw_all := lw_g (lw_at lw_m10 84 rfl) rfl
theorem q2376 : (Jvm.Cond.code ({ cls := "FirstPollsModel", name := "aheadOf", desc := "(II)I" } : Jvm.MethodName) prog_27_method_96_code (8 : Nat) (Option.some Jvm.ClassFile.FieldType.int)) ∈ lw_all := lw_g (lw_at lw_m10 85 rfl) rfl
theorem q2378 : (Jvm.Cond.instanceMethod ({ cls := "FirstPollsModel", name := "paper", desc := "(IIII)I" } : Jvm.MethodName)) ∈ lw_all := lw_g (lw_at lw_m10 87 rfl) rfl
theorem q2379 : (Jvm.Cond.selects "FirstPollsModel" ({ cls := "FirstPollsModel", name := "paper", desc := "(IIII)I" } : Jvm.MethodName) ({ cls := "FirstPollsModel", name := "paper", desc := "(IIII)I" } : Jvm.MethodName)) ∈ lw_all := lw_g (lw_at lw_m10 88 rfl) rfl
theorem q2380 : (Jvm.Cond.code ({ cls := "FirstPollsModel", name := "paper", desc := "(IIII)I" } : Jvm.MethodName) prog_27_method_98_code (5 : Nat) (Option.some Jvm.ClassFile.FieldType.int)) ∈ lw_all := lw_g (lw_at lw_m10 89 rfl) rfl
theorem q2382 : (Jvm.Cond.instanceMethod ({ cls := "FirstPollsModel", name := "count", desc := "(IIIII)I" } : Jvm.MethodName)) ∈ lw_all := lw_g (lw_at lw_m10 91 rfl) rfl
theorem q2383 : (Jvm.Cond.selects "FirstPollsModel" ({ cls := "FirstPollsModel", name := "count", desc := "(IIIII)I" } : Jvm.MethodName) ({ cls := "FirstPollsModel", name := "count", desc := "(IIIII)I" } : Jvm.MethodName)) ∈ lw_all := lw_g (lw_at lw_m10 92 rfl) rfl
theorem q2384 : (Jvm.Cond.code ({ cls := "FirstPollsModel", name := "count", desc := "(IIIII)I" } : Jvm.MethodName) prog_27_method_100_code (7 : Nat) (Option.some Jvm.ClassFile.FieldType.int)) ∈ lw_all := lw_g (lw_at lw_m10 93 rfl) rfl
theorem q2385 : (Jvm.Cond.constantLong "FirstPollsModel" (513 : Nat) (7 : Int64)) ∈ lw_all := lw_g (lw_at lw_m10 94 rfl) rfl
theorem q2386 : (Jvm.Cond.constantLong "FirstPollsModel" (515 : Nat) (10000 : Int64)) ∈ lw_all := lw_g (lw_at lw_m10 95 rfl) rfl
theorem q2388 : (Jvm.Cond.instanceMethod ({ cls := "FirstPollsModel", name := "tells", desc := "(IIII)I" } : Jvm.MethodName)) ∈ lw_all := lw_g (lw_at lw_m10 97 rfl) rfl
theorem q2389 : (Jvm.Cond.selects "FirstPollsModel" ({ cls := "FirstPollsModel", name := "tells", desc := "(IIII)I" } : Jvm.MethodName) ({ cls := "FirstPollsModel", name := "tells", desc := "(IIII)I" } : Jvm.MethodName)) ∈ lw_all := lw_g (lw_at lw_m10 98 rfl) rfl
theorem q2390 : (Jvm.Cond.code ({ cls := "FirstPollsModel", name := "tells", desc := "(IIII)I" } : Jvm.MethodName) prog_27_method_106_code (9 : Nat) (Option.some Jvm.ClassFile.FieldType.int)) ∈ lw_all := lw_g (lw_at lw_m10 99 rfl) rfl
theorem q2391 : (Jvm.Cond.constantLong "FirstPollsModel" (526 : Nat) (8 : Int64)) ∈ lw_all := lw_g (lw_at lw_m10 100 rfl) rfl
theorem q2392 : (Jvm.Cond.constant "FirstPollsModel" (528 : Nat) (-2000000000 : Int32)) ∈ lw_all := lw_g (lw_at lw_m10 101 rfl) rfl
theorem q2393 : (Jvm.Cond.methodLink "FirstPollsModel" (438 : Nat) ({ cls := "FirstPollsModel", name := "putOf", desc := "(I)I" } : Jvm.MethodName)) ∈ lw_all := lw_g (lw_at lw_m10 102 rfl) rfl
theorem q2394 : (Jvm.Cond.privateMethod ({ cls := "FirstPollsModel", name := "putOf", desc := "(I)I" } : Jvm.MethodName)) ∈ lw_tbl := lw_at lw_m10 103 rfl
theorem q2395 : (Jvm.Cond.instanceMethod ({ cls := "FirstPollsModel", name := "putOf", desc := "(I)I" } : Jvm.MethodName)) ∈ lw_all := lw_g (lw_at lw_m10 104 rfl) rfl
theorem q2396 : (Jvm.Cond.code ({ cls := "FirstPollsModel", name := "putOf", desc := "(I)I" } : Jvm.MethodName) prog_27_method_103_code (4 : Nat) (Option.some Jvm.ClassFile.FieldType.int)) ∈ lw_all := lw_g (lw_at lw_m10 105 rfl) rfl
theorem q2397 : (Jvm.Cond.methodLink "FirstPollsModel" (517 : Nat) ({ cls := "FirstPollsModel", name := "boothOf", desc := "(I)I" } : Jvm.MethodName)) ∈ lw_all := lw_g (lw_at lw_m10 106 rfl) rfl
theorem q2398 : (Jvm.Cond.privateMethod ({ cls := "FirstPollsModel", name := "boothOf", desc := "(I)I" } : Jvm.MethodName)) ∈ lw_tbl := lw_at lw_m10 107 rfl
theorem q2399 : (Jvm.Cond.instanceMethod ({ cls := "FirstPollsModel", name := "boothOf", desc := "(I)I" } : Jvm.MethodName)) ∈ lw_all := lw_g (lw_at lw_m10 108 rfl) rfl
theorem q2400 : (Jvm.Cond.code ({ cls := "FirstPollsModel", name := "boothOf", desc := "(I)I" } : Jvm.MethodName) prog_27_method_102_code (2 : Nat) (Option.some Jvm.ClassFile.FieldType.int)) ∈ lw_all := lw_g (lw_at lw_m10 109 rfl) rfl
theorem q2401 : (Jvm.Cond.methodLink "FirstPollsModel" (520 : Nat) ({ cls := "FirstPollsModel", name := "doesCount", desc := "(I)Z" } : Jvm.MethodName)) ∈ lw_all := lw_g (lw_at lw_m10 110 rfl) rfl
theorem q2402 : (Jvm.Cond.privateMethod ({ cls := "FirstPollsModel", name := "doesCount", desc := "(I)Z" } : Jvm.MethodName)) ∈ lw_tbl := lw_at lw_m10 111 rfl
theorem q2403 : (Jvm.Cond.instanceMethod ({ cls := "FirstPollsModel", name := "doesCount", desc := "(I)Z" } : Jvm.MethodName)) ∈ lw_all := lw_g (lw_at lw_m10 112 rfl) rfl
theorem q2404 : (Jvm.Cond.code ({ cls := "FirstPollsModel", name := "doesCount", desc := "(I)Z" } : Jvm.MethodName) prog_27_method_101_code (5 : Nat) (Option.some Jvm.ClassFile.FieldType.boolean)) ∈ lw_all := lw_g (lw_at lw_m10 113 rfl) rfl
theorem q2405 : (Jvm.Cond.methodLink "FirstPollsModel" (435 : Nat) ({ cls := "FirstPollsModel", name := "paperOf", desc := "(II)I" } : Jvm.MethodName)) ∈ lw_all := lw_g (lw_at lw_m10 114 rfl) rfl
theorem q2406 : (Jvm.Cond.privateMethod ({ cls := "FirstPollsModel", name := "paperOf", desc := "(II)I" } : Jvm.MethodName)) ∈ lw_tbl := lw_at lw_m10 115 rfl
theorem q2407 : (Jvm.Cond.instanceMethod ({ cls := "FirstPollsModel", name := "paperOf", desc := "(II)I" } : Jvm.MethodName)) ∈ lw_all := lw_g (lw_at lw_m10 116 rfl) rfl
theorem q2408 : (Jvm.Cond.code ({ cls := "FirstPollsModel", name := "paperOf", desc := "(II)I" } : Jvm.MethodName) prog_27_method_99_code (6 : Nat) (Option.some Jvm.ClassFile.FieldType.int)) ∈ lw_all := lw_g (lw_at lw_m10 117 rfl) rfl
theorem q2409 : (Jvm.Cond.methodLink "FirstPollsModel" (529 : Nat) ({ cls := "FirstPollsModel", name := "isAgain", desc := "(I)Z" } : Jvm.MethodName)) ∈ lw_all := lw_g (lw_at lw_m10 118 rfl) rfl
theorem q2410 : (Jvm.Cond.privateMethod ({ cls := "FirstPollsModel", name := "isAgain", desc := "(I)Z" } : Jvm.MethodName)) ∈ lw_tbl := lw_at lw_m10 119 rfl
theorem q2411 : (Jvm.Cond.instanceMethod ({ cls := "FirstPollsModel", name := "isAgain", desc := "(I)Z" } : Jvm.MethodName)) ∈ lw_all := lw_g (lw_at lw_m10 120 rfl) rfl
theorem q2412 : (Jvm.Cond.code ({ cls := "FirstPollsModel", name := "isAgain", desc := "(I)Z" } : Jvm.MethodName) prog_27_method_105_code (2 : Nat) (Option.some Jvm.ClassFile.FieldType.boolean)) ∈ lw_all := lw_g (lw_at lw_m10 121 rfl) rfl
theorem q2413 : (Jvm.Cond.methodLink "FirstPollsModel" (523 : Nat) ({ cls := "FirstPollsModel", name := "setBooth", desc := "(I)V" } : Jvm.MethodName)) ∈ lw_all := lw_g (lw_at lw_m10 122 rfl) rfl
theorem q2414 : (Jvm.Cond.privateMethod ({ cls := "FirstPollsModel", name := "setBooth", desc := "(I)V" } : Jvm.MethodName)) ∈ lw_tbl := lw_at lw_m10 123 rfl
theorem q2415 : (Jvm.Cond.instanceMethod ({ cls := "FirstPollsModel", name := "setBooth", desc := "(I)V" } : Jvm.MethodName)) ∈ lw_all := lw_g (lw_at lw_m10 124 rfl) rfl
theorem q2416 : (Jvm.Cond.code ({ cls := "FirstPollsModel", name := "setBooth", desc := "(I)V" } : Jvm.MethodName) prog_27_method_73_code (3 : Nat) (Option.none : Option Jvm.ClassFile.FieldType)) ∈ lw_all := lw_g (lw_at lw_m10 125 rfl) rfl
theorem q2417 : (Jvm.Cond.methodLink "FirstPollsModel" (532 : Nat) ({ cls := "FirstPollsModel", name := "findValid", desc := "(I)V" } : Jvm.MethodName)) ∈ lw_all := lw_g (lw_at lw_m10 126 rfl) rfl
theorem q2418 : (Jvm.Cond.privateMethod ({ cls := "FirstPollsModel", name := "findValid", desc := "(I)V" } : Jvm.MethodName)) ∈ lw_tbl := lw_at lw_m10 127 rfl
theorem q2419 : (Jvm.Cond.instanceMethod ({ cls := "FirstPollsModel", name := "findValid", desc := "(I)V" } : Jvm.MethodName)) ∈ lw_all := lw_g (lw_at lw_m10 128 rfl) rfl
theorem q2420 : (Jvm.Cond.code ({ cls := "FirstPollsModel", name := "findValid", desc := "(I)V" } : Jvm.MethodName) prog_27_method_104_code (4 : Nat) (Option.none : Option Jvm.ClassFile.FieldType)) ∈ lw_all := lw_g (lw_at lw_m10 129 rfl) rfl
theorem q2422 : (Jvm.Cond.instanceMethod ({ cls := "FirstPollsModel", name := "keep", desc := "(II)I" } : Jvm.MethodName)) ∈ lw_all := lw_g (lw_at lw_m10 131 rfl) rfl
theorem q2423 : (Jvm.Cond.selects "FirstPollsModel" ({ cls := "FirstPollsModel", name := "keep", desc := "(II)I" } : Jvm.MethodName) ({ cls := "FirstPollsModel", name := "keep", desc := "(II)I" } : Jvm.MethodName)) ∈ lw_all := lw_g (lw_at lw_m10 132 rfl) rfl
theorem q2424 : (Jvm.Cond.code ({ cls := "FirstPollsModel", name := "keep", desc := "(II)I" } : Jvm.MethodName) prog_27_method_107_code (3 : Nat) (Option.some Jvm.ClassFile.FieldType.int)) ∈ lw_all := lw_g (lw_at lw_m10 133 rfl) rfl
theorem q2426 : (Jvm.Cond.instanceMethod ({ cls := "FirstPollsModel", name := "seat", desc := "(IIII)I" } : Jvm.MethodName)) ∈ lw_all := lw_g (lw_at lw_m10 135 rfl) rfl
theorem q2427 : (Jvm.Cond.selects "FirstPollsModel" ({ cls := "FirstPollsModel", name := "seat", desc := "(IIII)I" } : Jvm.MethodName) ({ cls := "FirstPollsModel", name := "seat", desc := "(IIII)I" } : Jvm.MethodName)) ∈ lw_all := lw_g (lw_at lw_m10 136 rfl) rfl
theorem q2428 : (Jvm.Cond.code ({ cls := "FirstPollsModel", name := "seat", desc := "(IIII)I" } : Jvm.MethodName) prog_27_method_112_code (5 : Nat) (Option.some Jvm.ClassFile.FieldType.int)) ∈ lw_all := lw_g (lw_at lw_m10 137 rfl) rfl
theorem q2429 : (Jvm.Cond.methodLink "FirstPollsModel" (544 : Nat) ({ cls := "FirstPollsModel", name := "addSeat", desc := "(I)V" } : Jvm.MethodName)) ∈ lw_all := lw_g (lw_at lw_m10 138 rfl) rfl
theorem q2430 : (Jvm.Cond.privateMethod ({ cls := "FirstPollsModel", name := "addSeat", desc := "(I)V" } : Jvm.MethodName)) ∈ lw_tbl := lw_at lw_m10 139 rfl
theorem q2431 : (Jvm.Cond.instanceMethod ({ cls := "FirstPollsModel", name := "addSeat", desc := "(I)V" } : Jvm.MethodName)) ∈ lw_all := lw_g (lw_at lw_m10 140 rfl) rfl
theorem q2432 : (Jvm.Cond.code ({ cls := "FirstPollsModel", name := "addSeat", desc := "(I)V" } : Jvm.MethodName) prog_27_method_109_code (4 : Nat) (Option.none : Option Jvm.ClassFile.FieldType)) ∈ lw_all := lw_g (lw_at lw_m10 141 rfl) rfl
theorem q2433 : (Jvm.Cond.methodLink "FirstPollsModel" (535 : Nat) ({ cls := "FirstPollsModel", name := "seatOf", desc := "(I)I" } : Jvm.MethodName)) ∈ lw_all := lw_g (lw_at lw_m10 142 rfl) rfl
theorem q2434 : (Jvm.Cond.privateMethod ({ cls := "FirstPollsModel", name := "seatOf", desc := "(I)I" } : Jvm.MethodName)) ∈ lw_tbl := lw_at lw_m10 143 rfl
theorem q2435 : (Jvm.Cond.instanceMethod ({ cls := "FirstPollsModel", name := "seatOf", desc := "(I)I" } : Jvm.MethodName)) ∈ lw_all := lw_g (lw_at lw_m10 144 rfl) rfl
theorem q2436 : (Jvm.Cond.code ({ cls := "FirstPollsModel", name := "seatOf", desc := "(I)I" } : Jvm.MethodName) prog_27_method_108_code (2 : Nat) (Option.some Jvm.ClassFile.FieldType.int)) ∈ lw_all := lw_g (lw_at lw_m10 145 rfl) rfl
theorem q2437 : (Jvm.Cond.methodLink "FirstPollsModel" (547 : Nat) ({ cls := "FirstPollsModel", name := "findWinner", desc := "(I)V" } : Jvm.MethodName)) ∈ lw_all := lw_g (lw_at lw_m10 146 rfl) rfl
theorem q2438 : (Jvm.Cond.privateMethod ({ cls := "FirstPollsModel", name := "findWinner", desc := "(I)V" } : Jvm.MethodName)) ∈ lw_tbl := lw_at lw_m10 147 rfl
theorem q2439 : (Jvm.Cond.instanceMethod ({ cls := "FirstPollsModel", name := "findWinner", desc := "(I)V" } : Jvm.MethodName)) ∈ lw_all := lw_g (lw_at lw_m10 148 rfl) rfl
theorem q2440 : (Jvm.Cond.code ({ cls := "FirstPollsModel", name := "findWinner", desc := "(I)V" } : Jvm.MethodName) prog_27_method_110_code (6 : Nat) (Option.none : Option Jvm.ClassFile.FieldType)) ∈ lw_all := lw_g (lw_at lw_m10 149 rfl) rfl
theorem q2441 : (Jvm.Cond.methodLink "FirstPollsModel" (550 : Nat) ({ cls := "FirstPollsModel", name := "hangs", desc := "(I)Z" } : Jvm.MethodName)) ∈ lw_all := lw_g (lw_at lw_m10 150 rfl) rfl
theorem q2442 : (Jvm.Cond.privateMethod ({ cls := "FirstPollsModel", name := "hangs", desc := "(I)Z" } : Jvm.MethodName)) ∈ lw_tbl := lw_at lw_m10 151 rfl
theorem q2443 : (Jvm.Cond.instanceMethod ({ cls := "FirstPollsModel", name := "hangs", desc := "(I)Z" } : Jvm.MethodName)) ∈ lw_all := lw_g (lw_at lw_m10 152 rfl) rfl
theorem q2444 : (Jvm.Cond.code ({ cls := "FirstPollsModel", name := "hangs", desc := "(I)Z" } : Jvm.MethodName) prog_27_method_111_code (7 : Nat) (Option.some Jvm.ClassFile.FieldType.boolean)) ∈ lw_all := lw_g (lw_at lw_m10 153 rfl) rfl
theorem q2446 : (Jvm.Cond.instanceMethod ({ cls := "FirstPollsModel", name := "hidden", desc := "(IIIII)I" } : Jvm.MethodName)) ∈ lw_all := lw_g (lw_at lw_m10 155 rfl) rfl
theorem q2447 : (Jvm.Cond.selects "FirstPollsModel" ({ cls := "FirstPollsModel", name := "hidden", desc := "(IIIII)I" } : Jvm.MethodName) ({ cls := "FirstPollsModel", name := "hidden", desc := "(IIIII)I" } : Jvm.MethodName)) ∈ lw_all := lw_g (lw_at lw_m10 156 rfl) rfl
theorem q2448 : (Jvm.Cond.code ({ cls := "FirstPollsModel", name := "hidden", desc := "(IIIII)I" } : Jvm.MethodName) prog_27_method_114_code (9 : Nat) (Option.some Jvm.ClassFile.FieldType.int)) ∈ lw_all := lw_g (lw_at lw_m10 157 rfl) rfl
theorem q2449 : (Jvm.Cond.methodLink "FirstPollsModel" (553 : Nat) ({ cls := "FirstPollsModel", name := "joinBooths", desc := "(II)I" } : Jvm.MethodName)) ∈ lw_all := lw_g (lw_at lw_m10 158 rfl) rfl
theorem q2450 : (Jvm.Cond.privateMethod ({ cls := "FirstPollsModel", name := "joinBooths", desc := "(II)I" } : Jvm.MethodName)) ∈ lw_tbl := lw_at lw_m10 159 rfl
theorem q2451 : (Jvm.Cond.instanceMethod ({ cls := "FirstPollsModel", name := "joinBooths", desc := "(II)I" } : Jvm.MethodName)) ∈ lw_all := lw_g (lw_at lw_m10 160 rfl) rfl
theorem q2452 : (Jvm.Cond.code ({ cls := "FirstPollsModel", name := "joinBooths", desc := "(II)I" } : Jvm.MethodName) prog_27_method_113_code (9 : Nat) (Option.some Jvm.ClassFile.FieldType.int)) ∈ lw_all := lw_g (lw_at lw_m10 161 rfl) rfl
theorem q2454 : (Jvm.Cond.instanceMethod ({ cls := "FirstPollsModel", name := "shares", desc := "(IIII)I" } : Jvm.MethodName)) ∈ lw_all := lw_g (lw_at lw_m10 163 rfl) rfl
theorem q2455 : (Jvm.Cond.selects "FirstPollsModel" ({ cls := "FirstPollsModel", name := "shares", desc := "(IIII)I" } : Jvm.MethodName) ({ cls := "FirstPollsModel", name := "shares", desc := "(IIII)I" } : Jvm.MethodName)) ∈ lw_all := lw_g (lw_at lw_m10 164 rfl) rfl
theorem q2456 : (Jvm.Cond.code ({ cls := "FirstPollsModel", name := "shares", desc := "(IIII)I" } : Jvm.MethodName) prog_27_method_115_code (14 : Nat) (Option.some Jvm.ClassFile.FieldType.int)) ∈ lw_all := lw_g (lw_at lw_m10 165 rfl) rfl
theorem q2458 : (Jvm.Cond.instanceMethod ({ cls := "FirstPollsModel", name := "terms", desc := "(II)I" } : Jvm.MethodName)) ∈ lw_all := lw_g (lw_at lw_m10 167 rfl) rfl
theorem q2459 : (Jvm.Cond.selects "FirstPollsModel" ({ cls := "FirstPollsModel", name := "terms", desc := "(II)I" } : Jvm.MethodName) ({ cls := "FirstPollsModel", name := "terms", desc := "(II)I" } : Jvm.MethodName)) ∈ lw_all := lw_g (lw_at lw_m10 168 rfl) rfl
theorem q2460 : (Jvm.Cond.code ({ cls := "FirstPollsModel", name := "terms", desc := "(II)I" } : Jvm.MethodName) prog_27_method_116_code (3 : Nat) (Option.some Jvm.ClassFile.FieldType.int)) ∈ lw_all := lw_g (lw_at lw_m10 169 rfl) rfl
theorem q2461 : (Jvm.Cond.constantLong "FirstPollsModel" (556 : Nat) (50 : Int64)) ∈ lw_all := lw_g (lw_at lw_m10 170 rfl) rfl
theorem q2463 : (Jvm.Cond.instanceMethod ({ cls := "FirstPollsModel", name := "span", desc := "(III)I" } : Jvm.MethodName)) ∈ lw_all := lw_g (lw_at lw_m10 172 rfl) rfl
theorem q2464 : (Jvm.Cond.selects "FirstPollsModel" ({ cls := "FirstPollsModel", name := "span", desc := "(III)I" } : Jvm.MethodName) ({ cls := "FirstPollsModel", name := "span", desc := "(III)I" } : Jvm.MethodName)) ∈ lw_all := lw_g (lw_at lw_m10 173 rfl) rfl
theorem q2465 : (Jvm.Cond.code ({ cls := "FirstPollsModel", name := "span", desc := "(III)I" } : Jvm.MethodName) prog_27_method_117_code (4 : Nat) (Option.some Jvm.ClassFile.FieldType.int)) ∈ lw_all := lw_g (lw_at lw_m10 174 rfl) rfl
theorem q2467 : (Jvm.Cond.instanceMethod ({ cls := "FirstPollsModel", name := "way", desc := "(II)I" } : Jvm.MethodName)) ∈ lw_all := lw_g (lw_at lw_m10 176 rfl) rfl
theorem q2468 : (Jvm.Cond.selects "FirstPollsModel" ({ cls := "FirstPollsModel", name := "way", desc := "(II)I" } : Jvm.MethodName) ({ cls := "FirstPollsModel", name := "way", desc := "(II)I" } : Jvm.MethodName)) ∈ lw_all := lw_g (lw_at lw_m10 177 rfl) rfl
theorem q2469 : (Jvm.Cond.code ({ cls := "FirstPollsModel", name := "way", desc := "(II)I" } : Jvm.MethodName) prog_27_method_122_code (7 : Nat) (Option.some Jvm.ClassFile.FieldType.int)) ∈ lw_all := lw_g (lw_at lw_m10 178 rfl) rfl
theorem q2470 : (Jvm.Cond.methodLink "FirstPollsModel" (567 : Nat) ({ cls := "FirstPollsModel", name := "isGone", desc := "(II)Z" } : Jvm.MethodName)) ∈ lw_all := lw_g (lw_at lw_m10 179 rfl) rfl
theorem q2471 : (Jvm.Cond.privateMethod ({ cls := "FirstPollsModel", name := "isGone", desc := "(II)Z" } : Jvm.MethodName)) ∈ lw_tbl := lw_at lw_m10 180 rfl
theorem q2472 : (Jvm.Cond.instanceMethod ({ cls := "FirstPollsModel", name := "isGone", desc := "(II)Z" } : Jvm.MethodName)) ∈ lw_all := lw_g (lw_at lw_m10 181 rfl) rfl
theorem q2473 : (Jvm.Cond.code ({ cls := "FirstPollsModel", name := "isGone", desc := "(II)Z" } : Jvm.MethodName) prog_27_method_119_code (5 : Nat) (Option.some Jvm.ClassFile.FieldType.boolean)) ∈ lw_all := lw_g (lw_at lw_m10 182 rfl) rfl
theorem q2474 : (Jvm.Cond.methodLink "FirstPollsModel" (570 : Nat) ({ cls := "FirstPollsModel", name := "pollOf", desc := "(III)I" } : Jvm.MethodName)) ∈ lw_all := lw_g (lw_at lw_m10 183 rfl) rfl
theorem q2475 : (Jvm.Cond.privateMethod ({ cls := "FirstPollsModel", name := "pollOf", desc := "(III)I" } : Jvm.MethodName)) ∈ lw_tbl := lw_at lw_m10 184 rfl
theorem q2476 : (Jvm.Cond.instanceMethod ({ cls := "FirstPollsModel", name := "pollOf", desc := "(III)I" } : Jvm.MethodName)) ∈ lw_all := lw_g (lw_at lw_m10 185 rfl) rfl
theorem q2477 : (Jvm.Cond.code ({ cls := "FirstPollsModel", name := "pollOf", desc := "(III)I" } : Jvm.MethodName) prog_27_method_120_code (5 : Nat) (Option.some Jvm.ClassFile.FieldType.int)) ∈ lw_all := lw_g (lw_at lw_m10 186 rfl) rfl
theorem q2478 : (Jvm.Cond.methodLink "FirstPollsModel" (558 : Nat) ({ cls := "FirstPollsModel", name := "daysOf", desc := "(II)I" } : Jvm.MethodName)) ∈ lw_all := lw_g (lw_at lw_m10 187 rfl) rfl
theorem q2479 : (Jvm.Cond.privateMethod ({ cls := "FirstPollsModel", name := "daysOf", desc := "(II)I" } : Jvm.MethodName)) ∈ lw_tbl := lw_at lw_m10 188 rfl
theorem q2480 : (Jvm.Cond.instanceMethod ({ cls := "FirstPollsModel", name := "daysOf", desc := "(II)I" } : Jvm.MethodName)) ∈ lw_all := lw_g (lw_at lw_m10 189 rfl) rfl
theorem q2481 : (Jvm.Cond.code ({ cls := "FirstPollsModel", name := "daysOf", desc := "(II)I" } : Jvm.MethodName) prog_27_method_118_code (4 : Nat) (Option.some Jvm.ClassFile.FieldType.int)) ∈ lw_all := lw_g (lw_at lw_m10 190 rfl) rfl
theorem q2482 : (Jvm.Cond.methodLink "FirstPollsModel" (573 : Nat) ({ cls := "FirstPollsModel", name := "keepWay", desc := "(I)V" } : Jvm.MethodName)) ∈ lw_all := lw_g (lw_at lw_m10 191 rfl) rfl
theorem q2483 : (Jvm.Cond.privateMethod ({ cls := "FirstPollsModel", name := "keepWay", desc := "(I)V" } : Jvm.MethodName)) ∈ lw_tbl := lw_at lw_m10 192 rfl
theorem q2484 : (Jvm.Cond.instanceMethod ({ cls := "FirstPollsModel", name := "keepWay", desc := "(I)V" } : Jvm.MethodName)) ∈ lw_all := lw_g (lw_at lw_m10 193 rfl) rfl
theorem q2485 : (Jvm.Cond.code ({ cls := "FirstPollsModel", name := "keepWay", desc := "(I)V" } : Jvm.MethodName) prog_27_method_121_code (4 : Nat) (Option.none : Option Jvm.ClassFile.FieldType)) ∈ lw_all := lw_g (lw_at lw_m10 194 rfl) rfl
theorem q2487 : (Jvm.Cond.instanceMethod ({ cls := "FirstPollsModel", name := "leg", desc := "(II)I" } : Jvm.MethodName)) ∈ lw_all := lw_g (lw_at lw_m10 196 rfl) rfl
theorem q2488 : (Jvm.Cond.selects "FirstPollsModel" ({ cls := "FirstPollsModel", name := "leg", desc := "(II)I" } : Jvm.MethodName) ({ cls := "FirstPollsModel", name := "leg", desc := "(II)I" } : Jvm.MethodName)) ∈ lw_all := lw_g (lw_at lw_m10 197 rfl) rfl
theorem q2489 : (Jvm.Cond.code ({ cls := "FirstPollsModel", name := "leg", desc := "(II)I" } : Jvm.MethodName) prog_27_method_123_code (3 : Nat) (Option.some Jvm.ClassFile.FieldType.int)) ∈ lw_all := lw_g (lw_at lw_m10 198 rfl) rfl
theorem q2491 : (Jvm.Cond.instanceMethod ({ cls := "FirstPollsModel", name := "doors", desc := "(IIII)I" } : Jvm.MethodName)) ∈ lw_all := lw_g (lw_at lw_m10 200 rfl) rfl
theorem q2492 : (Jvm.Cond.selects "FirstPollsModel" ({ cls := "FirstPollsModel", name := "doors", desc := "(IIII)I" } : Jvm.MethodName) ({ cls := "FirstPollsModel", name := "doors", desc := "(IIII)I" } : Jvm.MethodName)) ∈ lw_all := lw_g (lw_at lw_m10 201 rfl) rfl
theorem q2493 : (Jvm.Cond.code ({ cls := "FirstPollsModel", name := "doors", desc := "(IIII)I" } : Jvm.MethodName) prog_27_method_126_code (8 : Nat) (Option.some Jvm.ClassFile.FieldType.int)) ∈ lw_all := lw_g (lw_at lw_m10 202 rfl) rfl
theorem q2494 : (Jvm.Cond.constantLong "FirstPollsModel" (580 : Nat) (60 : Int64)) ∈ lw_all := lw_g (lw_at lw_m10 203 rfl) rfl
theorem q2495 : (Jvm.Cond.constantLong "FirstPollsModel" (582 : Nat) (12 : Int64)) ∈ lw_all := lw_g (lw_at lw_m10 204 rfl) rfl
theorem q2496 : (Jvm.Cond.methodLink "FirstPollsModel" (584 : Nat) ({ cls := "FirstPollsModel", name := "mayBe", desc := "(IIII)Z" } : Jvm.MethodName)) ∈ lw_all := lw_g (lw_at lw_m10 205 rfl) rfl
theorem q2497 : (Jvm.Cond.static ({ cls := "FirstPollsModel", name := "mayBe", desc := "(IIII)Z" } : Jvm.MethodName)) ∈ lw_all := lw_g (lw_at lw_m10 206 rfl) rfl
theorem q2498 : (Jvm.Cond.code ({ cls := "FirstPollsModel", name := "mayBe", desc := "(IIII)Z" } : Jvm.MethodName) prog_27_method_125_code (11 : Nat) (Option.some Jvm.ClassFile.FieldType.boolean)) ∈ lw_all := lw_g (lw_at lw_m10 207 rfl) rfl
theorem q2499 : (Jvm.Cond.methodLink "FirstPollsModel" (576 : Nat) ({ cls := "FirstPollsModel", name := "choose", desc := "(II)J" } : Jvm.MethodName)) ∈ lw_all := lw_g (lw_at lw_m10 208 rfl) rfl
theorem q2500 : (Jvm.Cond.static ({ cls := "FirstPollsModel", name := "choose", desc := "(II)J" } : Jvm.MethodName)) ∈ lw_all := lw_g (lw_at lw_m10 209 rfl) rfl
theorem q2501 : (Jvm.Cond.code ({ cls := "FirstPollsModel", name := "choose", desc := "(II)J" } : Jvm.MethodName) prog_27_method_124_code (5 : Nat) (Option.some Jvm.ClassFile.FieldType.long)) ∈ lw_all := lw_g (lw_at lw_m10 210 rfl) rfl
theorem q2503 : (Jvm.Cond.instanceMethod ({ cls := "FirstPollsModel", name := "seal", desc := "(I)I" } : Jvm.MethodName)) ∈ lw_all := lw_g (lw_at lw_m10 212 rfl) rfl
theorem q2504 : (Jvm.Cond.selects "FirstPollsModel" ({ cls := "FirstPollsModel", name := "seal", desc := "(I)I" } : Jvm.MethodName) ({ cls := "FirstPollsModel", name := "seal", desc := "(I)I" } : Jvm.MethodName)) ∈ lw_all := lw_g (lw_at lw_m10 213 rfl) rfl
theorem q2505 : (Jvm.Cond.code ({ cls := "FirstPollsModel", name := "seal", desc := "(I)I" } : Jvm.MethodName) prog_27_method_128_code (2 : Nat) (Option.some Jvm.ClassFile.FieldType.int)) ∈ lw_all := lw_g (lw_at lw_m10 214 rfl) rfl
theorem q2506 : (Jvm.Cond.methodLink "FirstPollsModel" (596 : Nat) ({ cls := "FirstPollsModel", name := "addBooth", desc := "(I)V" } : Jvm.MethodName)) ∈ lw_all := lw_g (lw_at lw_m10 215 rfl) rfl
theorem q2507 : (Jvm.Cond.privateMethod ({ cls := "FirstPollsModel", name := "addBooth", desc := "(I)V" } : Jvm.MethodName)) ∈ lw_tbl := lw_at lw_m10 216 rfl
theorem q2508 : (Jvm.Cond.instanceMethod ({ cls := "FirstPollsModel", name := "addBooth", desc := "(I)V" } : Jvm.MethodName)) ∈ lw_all := lw_g (lw_at lw_m10 217 rfl) rfl
theorem q2509 : (Jvm.Cond.code ({ cls := "FirstPollsModel", name := "addBooth", desc := "(I)V" } : Jvm.MethodName) prog_27_method_127_code (3 : Nat) (Option.none : Option Jvm.ClassFile.FieldType)) ∈ lw_all := lw_g (lw_at lw_m10 218 rfl) rfl
theorem q2511 : (Jvm.Cond.instanceMethod ({ cls := "FirstPollsModel", name := "alter", desc := "(II)I" } : Jvm.MethodName)) ∈ lw_all := lw_g (lw_at lw_m10 220 rfl) rfl
theorem q2512 : (Jvm.Cond.selects "FirstPollsModel" ({ cls := "FirstPollsModel", name := "alter", desc := "(II)I" } : Jvm.MethodName) ({ cls := "FirstPollsModel", name := "alter", desc := "(II)I" } : Jvm.MethodName)) ∈ lw_all := lw_g (lw_at lw_m10 221 rfl) rfl
theorem q2513 : (Jvm.Cond.code ({ cls := "FirstPollsModel", name := "alter", desc := "(II)I" } : Jvm.MethodName) prog_27_method_129_code (3 : Nat) (Option.some Jvm.ClassFile.FieldType.int)) ∈ lw_all := lw_g (lw_at lw_m10 222 rfl) rfl
theorem q2514 : (Jvm.Cond.constantLong "FirstPollsModel" (599 : Nat) (255 : Int64)) ∈ lw_all := lw_g (lw_at lw_m10 223 rfl) rfl
theorem q2516 : (Jvm.Cond.instanceMethod ({ cls := "FirstPollsModel", name := "found", desc := "(I)I" } : Jvm.MethodName)) ∈ lw_all := lw_g (lw_at lw_m10 225 rfl) rfl
theorem q2517 : (Jvm.Cond.selects "FirstPollsModel" ({ cls := "FirstPollsModel", name := "found", desc := "(I)I" } : Jvm.MethodName) ({ cls := "FirstPollsModel", name := "found", desc := "(I)I" } : Jvm.MethodName)) ∈ lw_all := lw_g (lw_at lw_m10 226 rfl) rfl
theorem q2518 : (Jvm.Cond.code ({ cls := "FirstPollsModel", name := "found", desc := "(I)I" } : Jvm.MethodName) prog_27_method_130_code (9 : Nat) (Option.some Jvm.ClassFile.FieldType.int)) ∈ lw_all := lw_g (lw_at lw_m10 227 rfl) rfl
theorem q2520 : (Jvm.Cond.instanceMethod ({ cls := "FirstPollsModel", name := "all", desc := "(I)I" } : Jvm.MethodName)) ∈ lw_all := lw_g (lw_at lw_m10 229 rfl) rfl
theorem q2521 : (Jvm.Cond.selects "FirstPollsModel" ({ cls := "FirstPollsModel", name := "all", desc := "(I)I" } : Jvm.MethodName) ({ cls := "FirstPollsModel", name := "all", desc := "(I)I" } : Jvm.MethodName)) ∈ lw_all := lw_g (lw_at lw_m10 230 rfl) rfl
theorem q2522 : (Jvm.Cond.code ({ cls := "FirstPollsModel", name := "all", desc := "(I)I" } : Jvm.MethodName) prog_27_method_131_code (2 : Nat) (Option.some Jvm.ClassFile.FieldType.int)) ∈ lw_all := lw_g (lw_at lw_m10 231 rfl) rfl
theorem q2524 : (Jvm.Cond.instanceMethod ({ cls := "FirstPollsModel", name := "status", desc := "()I" } : Jvm.MethodName)) ∈ lw_all := lw_g (lw_at lw_m10 233 rfl) rfl
theorem q2525 : (Jvm.Cond.selects "FirstPollsModel" ({ cls := "FirstPollsModel", name := "status", desc := "()I" } : Jvm.MethodName) ({ cls := "FirstPollsModel", name := "status", desc := "()I" } : Jvm.MethodName)) ∈ lw_all := lw_g (lw_at lw_m10 234 rfl) rfl
theorem q2526 : (Jvm.Cond.code ({ cls := "FirstPollsModel", name := "status", desc := "()I" } : Jvm.MethodName) prog_27_method_132_code (1 : Nat) (Option.some Jvm.ClassFile.FieldType.int)) ∈ lw_all := lw_g (lw_at lw_m10 235 rfl) rfl
theorem q2544 : (Jvm.Cond.castable "FirstPollsModel" "java/lang/Object") ∈ lw_tbl := lw_at lw_m11 13 rfl
theorem in_X7 : ∀ w ∈ wsX70, w ∈ lw_all := lw_in wsX70 [1832, 1834, 1836, 1838, 1840, 1842, 1844, 1846, 1848, 1850, 1852, 1854, 1856, 1858, 1860, 1862, 1864, 1866, 1868, 1870, 1872, 1874, 1876, 1878, 1880, 1882, 1884, 1886, 1888, 1890, 1892, 1894, 1896, 1898, 1900, 1902, 1904, 1906, 1908, 1910, 1912, 1914, 1916, 1918, 1920, 1922, 1924, 1926, 1928, 1930, 1932, 1934, 1936, 1938, 1940, 1942, 1944, 1946, 1948, 1950, 1952, 1954] (by decide +kernel) (by decide +kernel)
theorem q145 : (Jvm.Cond.initialized "FirstPolls$Name") ∈ lw_all := lw_g (lw_at lw_m1 14 rfl) rfl
theorem q702 : (Jvm.Cond.selects "FirstPolls$Name" ({ cls := "java/lang/Object", name := "getClass", desc := "()Ljava/lang/Class;" } : Jvm.MethodName) ({ cls := "java/lang/Object", name := "getClass", desc := "()Ljava/lang/Class;" } : Jvm.MethodName)) ∈ lw_all := lw_g (lw_at lw_m3 91 rfl) rfl
theorem q795 : (Jvm.Cond.instantiable "FirstPolls$Name" (5 : Nat)) ∈ lw_all := lw_g (lw_at lw_m3 184 rfl) rfl
theorem q797 : (Jvm.Cond.instanceMethod ({ cls := "FirstPolls$Name", name := "<init>", desc := "(IIIII)V" } : Jvm.MethodName)) ∈ lw_all := lw_g (lw_at lw_m3 186 rfl) rfl
theorem q798 : (Jvm.Cond.code ({ cls := "FirstPolls$Name", name := "<init>", desc := "(IIIII)V" } : Jvm.MethodName) prog_10_method_1_code (6 : Nat) (Option.none : Option Jvm.ClassFile.FieldType)) ∈ lw_all := lw_g (lw_at lw_m3 187 rfl) rfl
theorem q799 : (Jvm.Cond.methodLink "FirstPolls$Name" (1 : Nat) ({ cls := "java/lang/Object", name := "<init>", desc := "()V" } : Jvm.MethodName)) ∈ lw_all := lw_g (lw_at lw_m3 188 rfl) rfl
theorem q800 : (Jvm.Cond.fieldLink "FirstPolls$Name" (7 : Nat) "FirstPolls$Name" "place" "I") ∈ lw_all := lw_g (lw_at lw_m3 189 rfl) rfl
theorem q802 : (Jvm.Cond.fieldLink "FirstPolls$Name" (13 : Nat) "FirstPolls$Name" "house" "I") ∈ lw_all := lw_g (lw_at lw_m3 191 rfl) rfl
theorem q805 : (Jvm.Cond.fieldLink "FirstPolls$Name" (16 : Nat) "FirstPolls$Name" "age" "I") ∈ lw_all := lw_g (lw_at lw_m3 194 rfl) rfl
theorem q808 : (Jvm.Cond.fieldLink "FirstPolls$Name" (19 : Nat) "FirstPolls$Name" "letters" "I") ∈ lw_all := lw_g (lw_at lw_m3 197 rfl) rfl
theorem q810 : (Jvm.Cond.fieldLink "FirstPolls$Name" (22 : Nat) "FirstPolls$Name" "known" "I") ∈ lw_all := lw_g (lw_at lw_m3 199 rfl) rfl
theorem q813 : (Jvm.Cond.laysFinal "FirstPolls$Name" "FirstPolls$Name" "place" "I") ∈ lw_all := lw_g (lw_at lw_m3 202 rfl) rfl
theorem q814 : (Jvm.Cond.soleField "FirstPolls$Name" "place") ∈ lw_all := lw_g (lw_at lw_m3 203 rfl) rfl
theorem q815 : (Jvm.Cond.laysFinal "FirstPolls$Name" "FirstPolls$Name" "house" "I") ∈ lw_all := lw_g (lw_at lw_m3 204 rfl) rfl
theorem q816 : (Jvm.Cond.soleField "FirstPolls$Name" "house") ∈ lw_all := lw_g (lw_at lw_m3 205 rfl) rfl
theorem q817 : (Jvm.Cond.laysFinal "FirstPolls$Name" "FirstPolls$Name" "age" "I") ∈ lw_all := lw_g (lw_at lw_m3 206 rfl) rfl
theorem q818 : (Jvm.Cond.soleField "FirstPolls$Name" "age") ∈ lw_all := lw_g (lw_at lw_m3 207 rfl) rfl
theorem q819 : (Jvm.Cond.laysFinal "FirstPolls$Name" "FirstPolls$Name" "letters" "I") ∈ lw_all := lw_g (lw_at lw_m3 208 rfl) rfl
theorem q820 : (Jvm.Cond.soleField "FirstPolls$Name" "letters") ∈ lw_all := lw_g (lw_at lw_m3 209 rfl) rfl
theorem q821 : (Jvm.Cond.laysFinal "FirstPolls$Name" "FirstPolls$Name" "known" "I") ∈ lw_all := lw_g (lw_at lw_m3 210 rfl) rfl
theorem q822 : (Jvm.Cond.soleField "FirstPolls$Name" "known") ∈ lw_all := lw_g (lw_at lw_m3 211 rfl) rfl
theorem q823 : (Jvm.Cond.superclass "FirstPolls$Name" "java/lang/Object") ∈ lw_all := lw_g (lw_at lw_m3 212 rfl) rfl
theorem q946 : (Jvm.Cond.instanceMethod ({ cls := "FirstPolls$Name", name := "kind", desc := "()I" } : Jvm.MethodName)) ∈ lw_all := lw_g (lw_at lw_m4 95 rfl) rfl
theorem q947 : (Jvm.Cond.selects "FirstPolls$Name" ({ cls := "FirstPolls$Name", name := "kind", desc := "()I" } : Jvm.MethodName) ({ cls := "FirstPolls$Name", name := "kind", desc := "()I" } : Jvm.MethodName)) ∈ lw_all := lw_g (lw_at lw_m4 96 rfl) rfl
theorem q948 : (Jvm.Cond.sameMethod "FirstPolls$Name" "FirstPolls$Name" "kind" "()I") ∈ lw_all := lw_g (lw_at lw_m4 97 rfl) rfl
theorem q960 : (Jvm.Cond.code ({ cls := "FirstPolls$Name", name := "kind", desc := "()I" } : Jvm.MethodName) prog_10_method_2_code (1 : Nat) (Option.some Jvm.ClassFile.FieldType.int)) ∈ lw_all := lw_g (lw_at lw_m4 109 rfl) rfl
theorem q2545 : (Jvm.Cond.castable "FirstPolls$Name" "java/lang/Object") ∈ lw_tbl := lw_at lw_m11 14 rfl
theorem in_X8 : ∀ w ∈ wsX80, w ∈ lw_all := lw_in wsX80 [813, 815, 817, 819, 821] (by decide +kernel) (by decide +kernel)
theorem q146 : (Jvm.Cond.initialized "jdk/internal/util/ArraysSupport") ∈ lw_all := lw_g (lw_at lw_m1 15 rfl) rfl
theorem q738 : (Jvm.Cond.static ({ cls := "jdk/internal/util/ArraysSupport", name := "newLength", desc := "(III)I" } : Jvm.MethodName)) ∈ lw_all := lw_g (lw_at lw_m3 127 rfl) rfl
theorem q739 : (Jvm.Cond.code ({ cls := "jdk/internal/util/ArraysSupport", name := "newLength", desc := "(III)I" } : Jvm.MethodName) prog_55_method_27_code (4 : Nat) (Option.some Jvm.ClassFile.FieldType.int)) ∈ lw_all := lw_g (lw_at lw_m3 128 rfl) rfl
theorem q740 : (Jvm.Cond.methodLink "jdk/internal/util/ArraysSupport" (194 : Nat) ({ cls := "java/lang/Math", name := "max", desc := "(II)I" } : Jvm.MethodName)) ∈ lw_all := lw_g (lw_at lw_m3 129 rfl) rfl
theorem q743 : (Jvm.Cond.constant "jdk/internal/util/ArraysSupport" (200 : Nat) (2147483639 : Int32)) ∈ lw_all := lw_g (lw_at lw_m3 132 rfl) rfl
theorem q744 : (Jvm.Cond.methodLink "jdk/internal/util/ArraysSupport" (201 : Nat) ({ cls := "jdk/internal/util/ArraysSupport", name := "hugeLength", desc := "(II)I" } : Jvm.MethodName)) ∈ lw_all := lw_g (lw_at lw_m3 133 rfl) rfl
theorem q745 : (Jvm.Cond.static ({ cls := "jdk/internal/util/ArraysSupport", name := "hugeLength", desc := "(II)I" } : Jvm.MethodName)) ∈ lw_all := lw_g (lw_at lw_m3 134 rfl) rfl
theorem q746 : (Jvm.Cond.code ({ cls := "jdk/internal/util/ArraysSupport", name := "hugeLength", desc := "(II)I" } : Jvm.MethodName) prog_55_method_28_code (3 : Nat) (Option.some Jvm.ClassFile.FieldType.int)) ∈ lw_all := lw_g (lw_at lw_m3 135 rfl) rfl
theorem q147 : (Jvm.Cond.initialized "java/lang/Math") ∈ lw_all := lw_g (lw_at lw_m1 16 rfl) rfl
theorem q726 : (Jvm.Cond.static ({ cls := "java/lang/Math", name := "min", desc := "(II)I" } : Jvm.MethodName)) ∈ lw_all := lw_g (lw_at lw_m3 115 rfl) rfl
theorem q727 : (Jvm.Cond.code ({ cls := "java/lang/Math", name := "min", desc := "(II)I" } : Jvm.MethodName) prog_37_method_69_code (2 : Nat) (Option.some Jvm.ClassFile.FieldType.int)) ∈ lw_all := lw_g (lw_at lw_m3 116 rfl) rfl
theorem q741 : (Jvm.Cond.static ({ cls := "java/lang/Math", name := "max", desc := "(II)I" } : Jvm.MethodName)) ∈ lw_all := lw_g (lw_at lw_m3 130 rfl) rfl
theorem q742 : (Jvm.Cond.code ({ cls := "java/lang/Math", name := "max", desc := "(II)I" } : Jvm.MethodName) prog_37_method_65_code (2 : Nat) (Option.some Jvm.ClassFile.FieldType.int)) ∈ lw_all := lw_g (lw_at lw_m3 131 rfl) rfl
theorem q982 : (Jvm.Cond.static ({ cls := "java/lang/Math", name := "abs", desc := "(I)I" } : Jvm.MethodName)) ∈ lw_all := lw_g (lw_at lw_m4 131 rfl) rfl
theorem q983 : (Jvm.Cond.code ({ cls := "java/lang/Math", name := "abs", desc := "(I)I" } : Jvm.MethodName) prog_37_method_59_code (1 : Nat) (Option.some Jvm.ClassFile.FieldType.int)) ∈ lw_all := lw_g (lw_at lw_m4 132 rfl) rfl
theorem q1520 : (Jvm.Cond.static ({ cls := "java/lang/Math", name := "max", desc := "(JJ)J" } : Jvm.MethodName)) ∈ lw_all := lw_g (lw_at lw_m6 189 rfl) rfl
theorem q1521 : (Jvm.Cond.code ({ cls := "java/lang/Math", name := "max", desc := "(JJ)J" } : Jvm.MethodName) prog_37_method_66_code (4 : Nat) (Option.some Jvm.ClassFile.FieldType.long)) ∈ lw_all := lw_g (lw_at lw_m6 190 rfl) rfl
theorem q148 : (Jvm.Cond.initialized "java/util/Arrays") ∈ lw_all := lw_g (lw_at lw_m1 17 rfl) rfl
theorem q688 : (Jvm.Cond.static ({ cls := "java/util/Arrays", name := "copyOf", desc := "([Ljava/lang/Object;I)[Ljava/lang/Object;" } : Jvm.MethodName)) ∈ lw_all := lw_g (lw_at lw_m3 77 rfl) rfl
theorem q689 : (Jvm.Cond.code ({ cls := "java/util/Arrays", name := "copyOf", desc := "([Ljava/lang/Object;I)[Ljava/lang/Object;" } : Jvm.MethodName) prog_49_method_119_code (2 : Nat) (Option.some (Jvm.ClassFile.FieldType.array (Jvm.ClassFile.FieldType.object "java/lang/Object")))) ∈ lw_all := lw_g (lw_at lw_m3 78 rfl) rfl
theorem q690 : (Jvm.Cond.methodLink "java/util/Arrays" (86 : Nat) ({ cls := "java/lang/Object", name := "getClass", desc := "()Ljava/lang/Class;" } : Jvm.MethodName)) ∈ lw_all := lw_g (lw_at lw_m3 79 rfl) rfl
theorem q720 : (Jvm.Cond.methodLink "java/util/Arrays" (300 : Nat) ({ cls := "java/util/Arrays", name := "copyOf", desc := "([Ljava/lang/Object;ILjava/lang/Class;)[Ljava/lang/Object;" } : Jvm.MethodName)) ∈ lw_all := lw_g (lw_at lw_m3 109 rfl) rfl
theorem q721 : (Jvm.Cond.static ({ cls := "java/util/Arrays", name := "copyOf", desc := "([Ljava/lang/Object;ILjava/lang/Class;)[Ljava/lang/Object;" } : Jvm.MethodName)) ∈ lw_all := lw_g (lw_at lw_m3 110 rfl) rfl
theorem q722 : (Jvm.Cond.code ({ cls := "java/util/Arrays", name := "copyOf", desc := "([Ljava/lang/Object;ILjava/lang/Class;)[Ljava/lang/Object;" } : Jvm.MethodName) prog_49_method_120_code (4 : Nat) (Option.some (Jvm.ClassFile.FieldType.array (Jvm.ClassFile.FieldType.object "java/lang/Object")))) ∈ lw_all := lw_g (lw_at lw_m3 111 rfl) rfl
theorem q723 : (Jvm.Cond.classLink "java/util/Arrays" (110 : Nat) "[Ljava/lang/Object;") ∈ lw_all := lw_g (lw_at lw_m3 112 rfl) rfl
theorem q724 : (Jvm.Cond.classLink "java/util/Arrays" (2 : Nat) "java/lang/Object") ∈ lw_all := lw_g (lw_at lw_m3 113 rfl) rfl
theorem q725 : (Jvm.Cond.methodLink "java/util/Arrays" (304 : Nat) ({ cls := "java/lang/Math", name := "min", desc := "(II)I" } : Jvm.MethodName)) ∈ lw_all := lw_g (lw_at lw_m3 114 rfl) rfl
theorem q728 : (Jvm.Cond.methodLink "java/util/Arrays" (150 : Nat) ({ cls := "java/lang/System", name := "arraycopy", desc := "(Ljava/lang/Object;ILjava/lang/Object;II)V" } : Jvm.MethodName)) ∈ lw_all := lw_g (lw_at lw_m3 117 rfl) rfl
theorem q150 : (Jvm.Cond.initialized "FirstPolls$Wife") ∈ lw_all := lw_g (lw_at lw_m1 19 rfl) rfl
theorem q715 : (Jvm.Cond.selects "FirstPolls$Wife" ({ cls := "java/lang/Object", name := "getClass", desc := "()Ljava/lang/Class;" } : Jvm.MethodName) ({ cls := "java/lang/Object", name := "getClass", desc := "()Ljava/lang/Class;" } : Jvm.MethodName)) ∈ lw_all := lw_g (lw_at lw_m3 104 rfl) rfl
theorem q837 : (Jvm.Cond.instantiable "FirstPolls$Wife" (5 : Nat)) ∈ lw_all := lw_g (lw_at lw_m3 226 rfl) rfl
theorem q839 : (Jvm.Cond.instanceMethod ({ cls := "FirstPolls$Wife", name := "<init>", desc := "(IIIII)V" } : Jvm.MethodName)) ∈ lw_all := lw_g (lw_at lw_m3 228 rfl) rfl
theorem q840 : (Jvm.Cond.code ({ cls := "FirstPolls$Wife", name := "<init>", desc := "(IIIII)V" } : Jvm.MethodName) prog_25_method_1_code (6 : Nat) (Option.none : Option Jvm.ClassFile.FieldType)) ∈ lw_all := lw_g (lw_at lw_m3 229 rfl) rfl
theorem q841 : (Jvm.Cond.methodLink "FirstPolls$Wife" (3 : Nat) ({ cls := "FirstPolls$Name", name := "<init>", desc := "(IIIII)V" } : Jvm.MethodName)) ∈ lw_all := lw_g (lw_at lw_m3 230 rfl) rfl
theorem q842 : (Jvm.Cond.laysFinal "FirstPolls$Wife" "FirstPolls$Name" "place" "I") ∈ lw_all := lw_g (lw_at lw_m3 231 rfl) rfl
theorem q843 : (Jvm.Cond.laysFinal "FirstPolls$Wife" "FirstPolls$Name" "house" "I") ∈ lw_all := lw_g (lw_at lw_m3 232 rfl) rfl
theorem q844 : (Jvm.Cond.laysFinal "FirstPolls$Wife" "FirstPolls$Name" "age" "I") ∈ lw_all := lw_g (lw_at lw_m3 233 rfl) rfl
theorem q845 : (Jvm.Cond.laysFinal "FirstPolls$Wife" "FirstPolls$Name" "letters" "I") ∈ lw_all := lw_g (lw_at lw_m3 234 rfl) rfl
theorem q846 : (Jvm.Cond.laysFinal "FirstPolls$Wife" "FirstPolls$Name" "known" "I") ∈ lw_all := lw_g (lw_at lw_m3 235 rfl) rfl
theorem q847 : (Jvm.Cond.superclass "FirstPolls$Wife" "FirstPolls$Name") ∈ lw_all := lw_g (lw_at lw_m3 236 rfl) rfl
theorem q956 : (Jvm.Cond.selects "FirstPolls$Wife" ({ cls := "FirstPolls$Name", name := "kind", desc := "()I" } : Jvm.MethodName) ({ cls := "FirstPolls$Wife", name := "kind", desc := "()I" } : Jvm.MethodName)) ∈ lw_all := lw_g (lw_at lw_m4 105 rfl) rfl
theorem q957 : (Jvm.Cond.instanceMethod ({ cls := "FirstPolls$Wife", name := "kind", desc := "()I" } : Jvm.MethodName)) ∈ lw_all := lw_g (lw_at lw_m4 106 rfl) rfl
theorem q958 : (Jvm.Cond.code ({ cls := "FirstPolls$Wife", name := "kind", desc := "()I" } : Jvm.MethodName) prog_25_method_2_code (1 : Nat) (Option.some Jvm.ClassFile.FieldType.int)) ∈ lw_all := lw_g (lw_at lw_m4 107 rfl) rfl
theorem q959 : (Jvm.Cond.methodLink "FirstPolls$Wife" (9 : Nat) ({ cls := "FirstPolls$Name", name := "kind", desc := "()I" } : Jvm.MethodName)) ∈ lw_all := lw_g (lw_at lw_m4 108 rfl) rfl
theorem q2531 : (Jvm.Cond.castable "FirstPolls$Wife" "FirstPolls$Name") ∈ lw_tbl := lw_at lw_m11 0 rfl
theorem q2546 : (Jvm.Cond.castable "FirstPolls$Wife" "java/lang/Object") ∈ lw_tbl := lw_at lw_m11 15 rfl
theorem in_X9 : ∀ w ∈ wsX90, w ∈ lw_all := lw_in wsX90 [842, 843, 844, 845, 846] (by decide +kernel) (by decide +kernel)
theorem q151 : (Jvm.Cond.initialized "FirstPolls$Late") ∈ lw_all := lw_g (lw_at lw_m1 20 rfl) rfl
theorem q701 : (Jvm.Cond.selects "FirstPolls$Late" ({ cls := "java/lang/Object", name := "getClass", desc := "()Ljava/lang/Class;" } : Jvm.MethodName) ({ cls := "java/lang/Object", name := "getClass", desc := "()Ljava/lang/Class;" } : Jvm.MethodName)) ∈ lw_all := lw_g (lw_at lw_m3 90 rfl) rfl
theorem q849 : (Jvm.Cond.instantiable "FirstPolls$Late" (5 : Nat)) ∈ lw_all := lw_g (lw_at lw_m3 238 rfl) rfl
theorem q851 : (Jvm.Cond.instanceMethod ({ cls := "FirstPolls$Late", name := "<init>", desc := "(IIIII)V" } : Jvm.MethodName)) ∈ lw_all := lw_g (lw_at lw_m4 0 rfl) rfl
theorem q852 : (Jvm.Cond.code ({ cls := "FirstPolls$Late", name := "<init>", desc := "(IIIII)V" } : Jvm.MethodName) prog_9_method_1_code (6 : Nat) (Option.none : Option Jvm.ClassFile.FieldType)) ∈ lw_all := lw_g (lw_at lw_m4 1 rfl) rfl
theorem q853 : (Jvm.Cond.methodLink "FirstPolls$Late" (3 : Nat) ({ cls := "FirstPolls$Name", name := "<init>", desc := "(IIIII)V" } : Jvm.MethodName)) ∈ lw_all := lw_g (lw_at lw_m4 2 rfl) rfl
theorem q854 : (Jvm.Cond.laysFinal "FirstPolls$Late" "FirstPolls$Name" "place" "I") ∈ lw_all := lw_g (lw_at lw_m4 3 rfl) rfl
theorem q855 : (Jvm.Cond.laysFinal "FirstPolls$Late" "FirstPolls$Name" "house" "I") ∈ lw_all := lw_g (lw_at lw_m4 4 rfl) rfl
theorem q856 : (Jvm.Cond.laysFinal "FirstPolls$Late" "FirstPolls$Name" "age" "I") ∈ lw_all := lw_g (lw_at lw_m4 5 rfl) rfl
theorem q857 : (Jvm.Cond.laysFinal "FirstPolls$Late" "FirstPolls$Name" "letters" "I") ∈ lw_all := lw_g (lw_at lw_m4 6 rfl) rfl
theorem q858 : (Jvm.Cond.laysFinal "FirstPolls$Late" "FirstPolls$Name" "known" "I") ∈ lw_all := lw_g (lw_at lw_m4 7 rfl) rfl
theorem q859 : (Jvm.Cond.superclass "FirstPolls$Late" "FirstPolls$Name") ∈ lw_all := lw_g (lw_at lw_m4 8 rfl) rfl
theorem q949 : (Jvm.Cond.selects "FirstPolls$Late" ({ cls := "FirstPolls$Name", name := "kind", desc := "()I" } : Jvm.MethodName) ({ cls := "FirstPolls$Late", name := "kind", desc := "()I" } : Jvm.MethodName)) ∈ lw_all := lw_g (lw_at lw_m4 98 rfl) rfl
theorem q950 : (Jvm.Cond.instanceMethod ({ cls := "FirstPolls$Late", name := "kind", desc := "()I" } : Jvm.MethodName)) ∈ lw_all := lw_g (lw_at lw_m4 99 rfl) rfl
theorem q951 : (Jvm.Cond.code ({ cls := "FirstPolls$Late", name := "kind", desc := "()I" } : Jvm.MethodName) prog_9_method_2_code (1 : Nat) (Option.some Jvm.ClassFile.FieldType.int)) ∈ lw_all := lw_g (lw_at lw_m4 100 rfl) rfl
theorem q2528 : (Jvm.Cond.sameMethod "FirstPolls$Late" "FirstPolls$Late" "kind" "()I") ∈ lw_all := lw_g (lw_at lw_m10 237 rfl) rfl
theorem q2529 : (Jvm.Cond.castable "FirstPolls$Late" "FirstPolls$Name") ∈ lw_tbl := lw_at lw_m10 238 rfl
theorem q2547 : (Jvm.Cond.castable "FirstPolls$Late" "java/lang/Object") ∈ lw_tbl := lw_at lw_m11 16 rfl
theorem in_X10 : ∀ w ∈ wsX100, w ∈ lw_all := lw_in wsX100 [854, 855, 856, 857, 858] (by decide +kernel) (by decide +kernel)
theorem q152 : (Jvm.Cond.initialized "FirstPolls$Walker") ∈ lw_all := lw_g (lw_at lw_m1 21 rfl) rfl
theorem q714 : (Jvm.Cond.selects "FirstPolls$Walker" ({ cls := "java/lang/Object", name := "getClass", desc := "()Ljava/lang/Class;" } : Jvm.MethodName) ({ cls := "java/lang/Object", name := "getClass", desc := "()Ljava/lang/Class;" } : Jvm.MethodName)) ∈ lw_all := lw_g (lw_at lw_m3 103 rfl) rfl
theorem q861 : (Jvm.Cond.instantiable "FirstPolls$Walker" (5 : Nat)) ∈ lw_all := lw_g (lw_at lw_m4 10 rfl) rfl
theorem q863 : (Jvm.Cond.instanceMethod ({ cls := "FirstPolls$Walker", name := "<init>", desc := "(IIIII)V" } : Jvm.MethodName)) ∈ lw_all := lw_g (lw_at lw_m4 12 rfl) rfl
theorem q864 : (Jvm.Cond.code ({ cls := "FirstPolls$Walker", name := "<init>", desc := "(IIIII)V" } : Jvm.MethodName) prog_24_method_1_code (6 : Nat) (Option.none : Option Jvm.ClassFile.FieldType)) ∈ lw_all := lw_g (lw_at lw_m4 13 rfl) rfl
theorem q865 : (Jvm.Cond.methodLink "FirstPolls$Walker" (3 : Nat) ({ cls := "FirstPolls$Late", name := "<init>", desc := "(IIIII)V" } : Jvm.MethodName)) ∈ lw_all := lw_g (lw_at lw_m4 14 rfl) rfl
theorem q866 : (Jvm.Cond.laysFinal "FirstPolls$Walker" "FirstPolls$Name" "place" "I") ∈ lw_all := lw_g (lw_at lw_m4 15 rfl) rfl
theorem q867 : (Jvm.Cond.laysFinal "FirstPolls$Walker" "FirstPolls$Name" "house" "I") ∈ lw_all := lw_g (lw_at lw_m4 16 rfl) rfl
theorem q868 : (Jvm.Cond.laysFinal "FirstPolls$Walker" "FirstPolls$Name" "age" "I") ∈ lw_all := lw_g (lw_at lw_m4 17 rfl) rfl
theorem q869 : (Jvm.Cond.laysFinal "FirstPolls$Walker" "FirstPolls$Name" "letters" "I") ∈ lw_all := lw_g (lw_at lw_m4 18 rfl) rfl
theorem q870 : (Jvm.Cond.laysFinal "FirstPolls$Walker" "FirstPolls$Name" "known" "I") ∈ lw_all := lw_g (lw_at lw_m4 19 rfl) rfl
theorem q871 : (Jvm.Cond.superclass "FirstPolls$Walker" "FirstPolls$Late") ∈ lw_all := lw_g (lw_at lw_m4 20 rfl) rfl
theorem q952 : (Jvm.Cond.selects "FirstPolls$Walker" ({ cls := "FirstPolls$Name", name := "kind", desc := "()I" } : Jvm.MethodName) ({ cls := "FirstPolls$Walker", name := "kind", desc := "()I" } : Jvm.MethodName)) ∈ lw_all := lw_g (lw_at lw_m4 101 rfl) rfl
theorem q953 : (Jvm.Cond.instanceMethod ({ cls := "FirstPolls$Walker", name := "kind", desc := "()I" } : Jvm.MethodName)) ∈ lw_all := lw_g (lw_at lw_m4 102 rfl) rfl
theorem q954 : (Jvm.Cond.code ({ cls := "FirstPolls$Walker", name := "kind", desc := "()I" } : Jvm.MethodName) prog_24_method_2_code (1 : Nat) (Option.some Jvm.ClassFile.FieldType.int)) ∈ lw_all := lw_g (lw_at lw_m4 103 rfl) rfl
theorem q955 : (Jvm.Cond.methodLink "FirstPolls$Walker" (9 : Nat) ({ cls := "FirstPolls$Late", name := "kind", desc := "()I" } : Jvm.MethodName)) ∈ lw_all := lw_g (lw_at lw_m4 104 rfl) rfl
theorem q2530 : (Jvm.Cond.castable "FirstPolls$Walker" "FirstPolls$Name") ∈ lw_tbl := lw_at lw_m10 239 rfl
theorem q2548 : (Jvm.Cond.castable "FirstPolls$Walker" "java/lang/Object") ∈ lw_tbl := lw_at lw_m11 17 rfl
theorem in_X11 : ∀ w ∈ wsX110, w ∈ lw_all := lw_in wsX110 [866, 867, 868, 869, 870] (by decide +kernel) (by decide +kernel)
theorem q153 : (Jvm.Cond.initialized "java/lang/RuntimeException") ∈ lw_all := lw_g (lw_at lw_m1 22 rfl) rfl
theorem q889 : (Jvm.Cond.instanceMethod ({ cls := "java/lang/RuntimeException", name := "<init>", desc := "(Ljava/lang/String;)V" } : Jvm.MethodName)) ∈ lw_all := lw_g (lw_at lw_m4 38 rfl) rfl
theorem q890 : (Jvm.Cond.code ({ cls := "java/lang/RuntimeException", name := "<init>", desc := "(Ljava/lang/String;)V" } : Jvm.MethodName) prog_38_method_2_code (2 : Nat) (Option.none : Option Jvm.ClassFile.FieldType)) ∈ lw_all := lw_g (lw_at lw_m4 39 rfl) rfl
theorem q891 : (Jvm.Cond.methodLink "java/lang/RuntimeException" (7 : Nat) ({ cls := "java/lang/Exception", name := "<init>", desc := "(Ljava/lang/String;)V" } : Jvm.MethodName)) ∈ lw_all := lw_g (lw_at lw_m4 40 rfl) rfl
theorem q907 : (Jvm.Cond.declares ({ cls := "java/lang/RuntimeException", name := "<init>", desc := "()V" } : Jvm.MethodName)) ∈ lw_tbl := lw_at lw_m4 56 rfl
theorem q908 : (Jvm.Cond.declares ({ cls := "java/lang/RuntimeException", name := "<init>", desc := "(Ljava/lang/String;)V" } : Jvm.MethodName)) ∈ lw_tbl := lw_at lw_m4 57 rfl
theorem q154 : (Jvm.Cond.initialized "java/lang/IndexOutOfBoundsException") ∈ lw_all := lw_g (lw_at lw_m1 23 rfl) rfl
theorem q886 : (Jvm.Cond.instanceMethod ({ cls := "java/lang/IndexOutOfBoundsException", name := "<init>", desc := "(Ljava/lang/String;)V" } : Jvm.MethodName)) ∈ lw_all := lw_g (lw_at lw_m4 35 rfl) rfl
theorem q887 : (Jvm.Cond.code ({ cls := "java/lang/IndexOutOfBoundsException", name := "<init>", desc := "(Ljava/lang/String;)V" } : Jvm.MethodName) prog_34_method_2_code (2 : Nat) (Option.none : Option Jvm.ClassFile.FieldType)) ∈ lw_all := lw_g (lw_at lw_m4 36 rfl) rfl
theorem q888 : (Jvm.Cond.methodLink "java/lang/IndexOutOfBoundsException" (7 : Nat) ({ cls := "java/lang/RuntimeException", name := "<init>", desc := "(Ljava/lang/String;)V" } : Jvm.MethodName)) ∈ lw_all := lw_g (lw_at lw_m4 37 rfl) rfl
theorem q905 : (Jvm.Cond.declares ({ cls := "java/lang/IndexOutOfBoundsException", name := "<init>", desc := "()V" } : Jvm.MethodName)) ∈ lw_tbl := lw_at lw_m4 54 rfl
theorem q906 : (Jvm.Cond.declares ({ cls := "java/lang/IndexOutOfBoundsException", name := "<init>", desc := "(Ljava/lang/String;)V" } : Jvm.MethodName)) ∈ lw_tbl := lw_at lw_m4 55 rfl
theorem q155 : (Jvm.Cond.initialized "java/lang/ArrayIndexOutOfBoundsException") ∈ lw_all := lw_g (lw_at lw_m1 24 rfl) rfl
theorem q405 : (Jvm.Cond.selects "java/lang/ArrayIndexOutOfBoundsException" ({ cls := "java/lang/Throwable", name := "fillInStackTrace", desc := "()Ljava/lang/Throwable;" } : Jvm.MethodName) ({ cls := "java/lang/Throwable", name := "fillInStackTrace", desc := "()Ljava/lang/Throwable;" } : Jvm.MethodName)) ∈ lw_all := lw_g (lw_at lw_m2 34 rfl) rfl
theorem q717 : (Jvm.Cond.selects "java/lang/ArrayIndexOutOfBoundsException" ({ cls := "java/lang/Object", name := "getClass", desc := "()Ljava/lang/Class;" } : Jvm.MethodName) ({ cls := "java/lang/Object", name := "getClass", desc := "()Ljava/lang/Class;" } : Jvm.MethodName)) ∈ lw_all := lw_g (lw_at lw_m3 106 rfl) rfl
theorem q882 : (Jvm.Cond.instantiable "java/lang/ArrayIndexOutOfBoundsException" (6 : Nat)) ∈ lw_all := lw_g (lw_at lw_m4 31 rfl) rfl
theorem q883 : (Jvm.Cond.instanceMethod ({ cls := "java/lang/ArrayIndexOutOfBoundsException", name := "<init>", desc := "(Ljava/lang/String;)V" } : Jvm.MethodName)) ∈ lw_all := lw_g (lw_at lw_m4 32 rfl) rfl
theorem q884 : (Jvm.Cond.code ({ cls := "java/lang/ArrayIndexOutOfBoundsException", name := "<init>", desc := "(Ljava/lang/String;)V" } : Jvm.MethodName) prog_29_method_2_code (2 : Nat) (Option.none : Option Jvm.ClassFile.FieldType)) ∈ lw_all := lw_g (lw_at lw_m4 33 rfl) rfl
theorem q885 : (Jvm.Cond.methodLink "java/lang/ArrayIndexOutOfBoundsException" (7 : Nat) ({ cls := "java/lang/IndexOutOfBoundsException", name := "<init>", desc := "(Ljava/lang/String;)V" } : Jvm.MethodName)) ∈ lw_all := lw_g (lw_at lw_m4 34 rfl) rfl
theorem q897 : (Jvm.Cond.lays "java/lang/ArrayIndexOutOfBoundsException" "java/lang/Throwable" "backtrace" "Ljava/lang/Object;") ∈ lw_all := lw_g (lw_at lw_m4 46 rfl) rfl
theorem q898 : (Jvm.Cond.lays "java/lang/ArrayIndexOutOfBoundsException" "java/lang/Throwable" "detailMessage" "Ljava/lang/String;") ∈ lw_all := lw_g (lw_at lw_m4 47 rfl) rfl
theorem q899 : (Jvm.Cond.lays "java/lang/ArrayIndexOutOfBoundsException" "java/lang/Throwable" "cause" "Ljava/lang/Throwable;") ∈ lw_all := lw_g (lw_at lw_m4 48 rfl) rfl
theorem q900 : (Jvm.Cond.lays "java/lang/ArrayIndexOutOfBoundsException" "java/lang/Throwable" "stackTrace" "[Ljava/lang/StackTraceElement;") ∈ lw_all := lw_g (lw_at lw_m4 49 rfl) rfl
theorem q901 : (Jvm.Cond.lays "java/lang/ArrayIndexOutOfBoundsException" "java/lang/Throwable" "depth" "I") ∈ lw_all := lw_g (lw_at lw_m4 50 rfl) rfl
theorem q902 : (Jvm.Cond.lays "java/lang/ArrayIndexOutOfBoundsException" "java/lang/Throwable" "suppressedExceptions" "Ljava/util/List;") ∈ lw_all := lw_g (lw_at lw_m4 51 rfl) rfl
theorem q903 : (Jvm.Cond.superclass "java/lang/ArrayIndexOutOfBoundsException" "java/lang/IndexOutOfBoundsException") ∈ lw_all := lw_g (lw_at lw_m4 52 rfl) rfl
theorem q904 : (Jvm.Cond.castable "java/lang/ArrayIndexOutOfBoundsException" "java/lang/ArrayIndexOutOfBoundsException") ∈ lw_tbl := lw_at lw_m4 53 rfl
theorem q909 : (Jvm.Cond.selects "java/lang/ArrayIndexOutOfBoundsException" ({ cls := "java/lang/Throwable", name := "fillInStackTrace", desc := "(I)Ljava/lang/Throwable;" } : Jvm.MethodName) ({ cls := "java/lang/Throwable", name := "fillInStackTrace", desc := "(I)Ljava/lang/Throwable;" } : Jvm.MethodName)) ∈ lw_all := lw_g (lw_at lw_m4 58 rfl) rfl
theorem q2549 : (Jvm.Cond.castable "java/lang/ArrayIndexOutOfBoundsException" "java/lang/Object") ∈ lw_tbl := lw_at lw_m11 18 rfl
theorem in_J10 : ∀ w ∈ wsJ100, w ∈ lw_all := lw_in wsJ100 [897, 898, 899, 900, 901, 902] (by decide +kernel) (by decide +kernel)
theorem q156 : (Jvm.Cond.initialized "java/lang/String") ∈ lw_all := lw_g (lw_at lw_m1 25 rfl) rfl
theorem q910 : (Jvm.Cond.instantiable "java/lang/String" (4 : Nat)) ∈ lw_all := lw_g (lw_at lw_m4 59 rfl) rfl
theorem q911 : (Jvm.Cond.laysFinal "java/lang/String" "java/lang/String" "value" "[B") ∈ lw_all := lw_g (lw_at lw_m4 60 rfl) rfl
theorem q912 : (Jvm.Cond.soleField "java/lang/String" "value") ∈ lw_all := lw_g (lw_at lw_m4 61 rfl) rfl
theorem q913 : (Jvm.Cond.laysFinal "java/lang/String" "java/lang/String" "coder" "B") ∈ lw_all := lw_g (lw_at lw_m4 62 rfl) rfl
theorem q914 : (Jvm.Cond.soleField "java/lang/String" "coder") ∈ lw_all := lw_g (lw_at lw_m4 63 rfl) rfl
theorem q1113 : (Jvm.Cond.instanceMethod ({ cls := "java/lang/String", name := "length", desc := "()I" } : Jvm.MethodName)) ∈ lw_all := lw_g (lw_at lw_m5 22 rfl) rfl
theorem q1114 : (Jvm.Cond.selects "java/lang/String" ({ cls := "java/lang/String", name := "length", desc := "()I" } : Jvm.MethodName) ({ cls := "java/lang/String", name := "length", desc := "()I" } : Jvm.MethodName)) ∈ lw_all := lw_g (lw_at lw_m5 23 rfl) rfl
theorem q1115 : (Jvm.Cond.code ({ cls := "java/lang/String", name := "length", desc := "()I" } : Jvm.MethodName) prog_39_method_54_code (1 : Nat) (Option.some Jvm.ClassFile.FieldType.int)) ∈ lw_all := lw_g (lw_at lw_m5 24 rfl) rfl
theorem q1116 : (Jvm.Cond.methodLink "java/lang/String" (335 : Nat) ({ cls := "java/lang/String", name := "coder", desc := "()B" } : Jvm.MethodName)) ∈ lw_all := lw_g (lw_at lw_m5 25 rfl) rfl
theorem q1117 : (Jvm.Cond.instanceMethod ({ cls := "java/lang/String", name := "coder", desc := "()B" } : Jvm.MethodName)) ∈ lw_all := lw_g (lw_at lw_m5 26 rfl) rfl
theorem q1118 : (Jvm.Cond.selects "java/lang/String" ({ cls := "java/lang/String", name := "coder", desc := "()B" } : Jvm.MethodName) ({ cls := "java/lang/String", name := "coder", desc := "()B" } : Jvm.MethodName)) ∈ lw_all := lw_g (lw_at lw_m5 27 rfl) rfl
theorem q1119 : (Jvm.Cond.code ({ cls := "java/lang/String", name := "coder", desc := "()B" } : Jvm.MethodName) prog_39_method_152_code (1 : Nat) (Option.some Jvm.ClassFile.FieldType.byte)) ∈ lw_all := lw_g (lw_at lw_m5 28 rfl) rfl
theorem q1120 : (Jvm.Cond.fieldLink "java/lang/String" (38 : Nat) "java/lang/String" "COMPACT_STRINGS" "Z") ∈ lw_all := lw_g (lw_at lw_m5 29 rfl) rfl
theorem q1121 : (Jvm.Cond.laysStatic "java/lang/String" "COMPACT_STRINGS" "Z") ∈ lw_tbl := lw_at lw_m5 30 rfl
theorem q1123 : (Jvm.Cond.instanceMethod ({ cls := "java/lang/String", name := "charAt", desc := "(I)C" } : Jvm.MethodName)) ∈ lw_all := lw_g (lw_at lw_m5 32 rfl) rfl
theorem q1124 : (Jvm.Cond.selects "java/lang/String" ({ cls := "java/lang/String", name := "charAt", desc := "(I)C" } : Jvm.MethodName) ({ cls := "java/lang/String", name := "charAt", desc := "(I)C" } : Jvm.MethodName)) ∈ lw_all := lw_g (lw_at lw_m5 33 rfl) rfl
theorem q1125 : (Jvm.Cond.code ({ cls := "java/lang/String", name := "charAt", desc := "(I)C" } : Jvm.MethodName) prog_39_method_56_code (2 : Nat) (Option.some Jvm.ClassFile.FieldType.char)) ∈ lw_all := lw_g (lw_at lw_m5 34 rfl) rfl
theorem q1126 : (Jvm.Cond.methodLink "java/lang/String" (492 : Nat) ({ cls := "java/lang/String", name := "isLatin1", desc := "()Z" } : Jvm.MethodName)) ∈ lw_all := lw_g (lw_at lw_m5 35 rfl) rfl
theorem q1127 : (Jvm.Cond.instanceMethod ({ cls := "java/lang/String", name := "isLatin1", desc := "()Z" } : Jvm.MethodName)) ∈ lw_all := lw_g (lw_at lw_m5 36 rfl) rfl
theorem q1128 : (Jvm.Cond.selects "java/lang/String" ({ cls := "java/lang/String", name := "isLatin1", desc := "()Z" } : Jvm.MethodName) ({ cls := "java/lang/String", name := "isLatin1", desc := "()Z" } : Jvm.MethodName)) ∈ lw_all := lw_g (lw_at lw_m5 37 rfl) rfl
theorem q1129 : (Jvm.Cond.code ({ cls := "java/lang/String", name := "isLatin1", desc := "()Z" } : Jvm.MethodName) prog_39_method_154_code (1 : Nat) (Option.some Jvm.ClassFile.FieldType.boolean)) ∈ lw_all := lw_g (lw_at lw_m5 38 rfl) rfl
theorem q1130 : (Jvm.Cond.methodLink "java/lang/String" (495 : Nat) ({ cls := "java/lang/StringLatin1", name := "charAt", desc := "([BI)C" } : Jvm.MethodName)) ∈ lw_all := lw_g (lw_at lw_m5 39 rfl) rfl
theorem q1134 : (Jvm.Cond.static ({ cls := "java/lang/String", name := "checkIndex", desc := "(II)V" } : Jvm.MethodName)) ∈ lw_all := lw_g (lw_at lw_m5 43 rfl) rfl
theorem q1135 : (Jvm.Cond.code ({ cls := "java/lang/String", name := "checkIndex", desc := "(II)V" } : Jvm.MethodName) prog_39_method_155_code (2 : Nat) (Option.none : Option Jvm.ClassFile.FieldType)) ∈ lw_all := lw_g (lw_at lw_m5 44 rfl) rfl
theorem q1136 : (Jvm.Cond.fieldLink "java/lang/String" (1053 : Nat) "jdk/internal/util/Preconditions" "SIOOBE_FORMATTER" "Ljava/util/function/BiFunction;") ∈ lw_all := lw_g (lw_at lw_m5 45 rfl) rfl
theorem q1138 : (Jvm.Cond.methodLink "java/lang/String" (1059 : Nat) ({ cls := "jdk/internal/util/Preconditions", name := "checkIndex", desc := "(IILjava/util/function/BiFunction;)I" } : Jvm.MethodName)) ∈ lw_all := lw_g (lw_at lw_m5 47 rfl) rfl
theorem q1139 : (Jvm.Cond.methodLink "java/lang/String" (498 : Nat) ({ cls := "java/lang/StringUTF16", name := "charAt", desc := "([BI)C" } : Jvm.MethodName)) ∈ lw_all := lw_g (lw_at lw_m5 48 rfl) rfl
theorem q2563 : (Jvm.Cond.castable "java/lang/String" "java/lang/Object") ∈ lw_tbl := lw_at lw_m11 32 rfl
theorem q2573 : (Jvm.Cond.fieldLink "java/lang/String" (9 : Nat) "java/lang/String" "value" "[B") ∈ lw_all := lw_g (lw_at lw_m11 42 rfl) rfl
theorem q2574 : (Jvm.Cond.fieldLink "java/lang/String" (15 : Nat) "java/lang/String" "coder" "B") ∈ lw_all := lw_g (lw_at lw_m11 43 rfl) rfl
theorem in_J11 : ∀ w ∈ wsJ110, w ∈ lw_all := lw_in wsJ110 [911, 913] (by decide +kernel) (by decide +kernel)
theorem q157 : (Jvm.Cond.initialized "java/util/Objects") ∈ lw_all := lw_g (lw_at lw_m1 26 rfl) rfl
theorem q932 : (Jvm.Cond.static ({ cls := "java/util/Objects", name := "checkIndex", desc := "(II)I" } : Jvm.MethodName)) ∈ lw_all := lw_g (lw_at lw_m4 81 rfl) rfl
theorem q933 : (Jvm.Cond.code ({ cls := "java/util/Objects", name := "checkIndex", desc := "(II)I" } : Jvm.MethodName) prog_52_method_17_code (2 : Nat) (Option.some Jvm.ClassFile.FieldType.int)) ∈ lw_all := lw_g (lw_at lw_m4 82 rfl) rfl
theorem q934 : (Jvm.Cond.methodLink "java/util/Objects" (105 : Nat) ({ cls := "jdk/internal/util/Preconditions", name := "checkIndex", desc := "(IILjava/util/function/BiFunction;)I" } : Jvm.MethodName)) ∈ lw_all := lw_g (lw_at lw_m4 83 rfl) rfl
theorem q158 : (Jvm.Cond.initialized "jdk/internal/util/Preconditions") ∈ lw_all := lw_g (lw_at lw_m1 27 rfl) rfl
theorem q935 : (Jvm.Cond.static ({ cls := "jdk/internal/util/Preconditions", name := "checkIndex", desc := "(IILjava/util/function/BiFunction;)I" } : Jvm.MethodName)) ∈ lw_all := lw_g (lw_at lw_m4 84 rfl) rfl
theorem q936 : (Jvm.Cond.code ({ cls := "jdk/internal/util/Preconditions", name := "checkIndex", desc := "(IILjava/util/function/BiFunction;)I" } : Jvm.MethodName) prog_56_method_11_code (3 : Nat) (Option.some Jvm.ClassFile.FieldType.int)) ∈ lw_all := lw_g (lw_at lw_m4 85 rfl) rfl
theorem q1137 : (Jvm.Cond.laysStatic "jdk/internal/util/Preconditions" "SIOOBE_FORMATTER" "Ljava/util/function/BiFunction;") ∈ lw_tbl := lw_at lw_m5 46 rfl
theorem q159 : (Jvm.Cond.initialized "FirstPolls$Note") ∈ lw_all := lw_g (lw_at lw_m1 28 rfl) rfl
theorem q704 : (Jvm.Cond.selects "FirstPolls$Note" ({ cls := "java/lang/Object", name := "getClass", desc := "()Ljava/lang/Class;" } : Jvm.MethodName) ({ cls := "java/lang/Object", name := "getClass", desc := "()Ljava/lang/Class;" } : Jvm.MethodName)) ∈ lw_all := lw_g (lw_at lw_m3 93 rfl) rfl
theorem q989 : (Jvm.Cond.instantiable "FirstPolls$Note" (5 : Nat)) ∈ lw_all := lw_g (lw_at lw_m4 138 rfl) rfl
theorem q991 : (Jvm.Cond.instanceMethod ({ cls := "FirstPolls$Note", name := "<init>", desc := "(IIIII)V" } : Jvm.MethodName)) ∈ lw_all := lw_g (lw_at lw_m4 140 rfl) rfl
theorem q992 : (Jvm.Cond.code ({ cls := "FirstPolls$Note", name := "<init>", desc := "(IIIII)V" } : Jvm.MethodName) prog_12_method_1_code (6 : Nat) (Option.none : Option Jvm.ClassFile.FieldType)) ∈ lw_all := lw_g (lw_at lw_m4 141 rfl) rfl
theorem q993 : (Jvm.Cond.methodLink "FirstPolls$Note" (1 : Nat) ({ cls := "java/lang/Object", name := "<init>", desc := "()V" } : Jvm.MethodName)) ∈ lw_all := lw_g (lw_at lw_m4 142 rfl) rfl
theorem q994 : (Jvm.Cond.fieldLink "FirstPolls$Note" (7 : Nat) "FirstPolls$Note" "a" "I") ∈ lw_all := lw_g (lw_at lw_m4 143 rfl) rfl
theorem q997 : (Jvm.Cond.fieldLink "FirstPolls$Note" (13 : Nat) "FirstPolls$Note" "b" "I") ∈ lw_all := lw_g (lw_at lw_m4 146 rfl) rfl
theorem q1000 : (Jvm.Cond.fieldLink "FirstPolls$Note" (16 : Nat) "FirstPolls$Note" "c" "I") ∈ lw_all := lw_g (lw_at lw_m4 149 rfl) rfl
theorem q1003 : (Jvm.Cond.fieldLink "FirstPolls$Note" (19 : Nat) "FirstPolls$Note" "d" "I") ∈ lw_all := lw_g (lw_at lw_m4 152 rfl) rfl
theorem q1006 : (Jvm.Cond.fieldLink "FirstPolls$Note" (22 : Nat) "FirstPolls$Note" "e" "I") ∈ lw_all := lw_g (lw_at lw_m4 155 rfl) rfl
theorem q1008 : (Jvm.Cond.laysFinal "FirstPolls$Note" "FirstPolls$Note" "a" "I") ∈ lw_all := lw_g (lw_at lw_m4 157 rfl) rfl
theorem q1009 : (Jvm.Cond.soleField "FirstPolls$Note" "a") ∈ lw_all := lw_g (lw_at lw_m4 158 rfl) rfl
theorem q1010 : (Jvm.Cond.laysFinal "FirstPolls$Note" "FirstPolls$Note" "b" "I") ∈ lw_all := lw_g (lw_at lw_m4 159 rfl) rfl
theorem q1011 : (Jvm.Cond.soleField "FirstPolls$Note" "b") ∈ lw_all := lw_g (lw_at lw_m4 160 rfl) rfl
theorem q1012 : (Jvm.Cond.laysFinal "FirstPolls$Note" "FirstPolls$Note" "c" "I") ∈ lw_all := lw_g (lw_at lw_m4 161 rfl) rfl
theorem q1013 : (Jvm.Cond.soleField "FirstPolls$Note" "c") ∈ lw_all := lw_g (lw_at lw_m4 162 rfl) rfl
theorem q1014 : (Jvm.Cond.laysFinal "FirstPolls$Note" "FirstPolls$Note" "d" "I") ∈ lw_all := lw_g (lw_at lw_m4 163 rfl) rfl
theorem q1015 : (Jvm.Cond.soleField "FirstPolls$Note" "d") ∈ lw_all := lw_g (lw_at lw_m4 164 rfl) rfl
theorem q1016 : (Jvm.Cond.laysFinal "FirstPolls$Note" "FirstPolls$Note" "e" "I") ∈ lw_all := lw_g (lw_at lw_m4 165 rfl) rfl
theorem q1017 : (Jvm.Cond.soleField "FirstPolls$Note" "e") ∈ lw_all := lw_g (lw_at lw_m4 166 rfl) rfl
theorem q1018 : (Jvm.Cond.superclass "FirstPolls$Note" "java/lang/Object") ∈ lw_all := lw_g (lw_at lw_m4 167 rfl) rfl
theorem q2550 : (Jvm.Cond.castable "FirstPolls$Note" "java/lang/Object") ∈ lw_tbl := lw_at lw_m11 19 rfl
theorem in_X12 : ∀ w ∈ wsX120, w ∈ lw_all := lw_in wsX120 [1008, 1010, 1012, 1014, 1016] (by decide +kernel) (by decide +kernel)
theorem q160 : (Jvm.Cond.initialized "FirstPolls$Reader") ∈ lw_all := lw_g (lw_at lw_m1 29 rfl) rfl
theorem q707 : (Jvm.Cond.selects "FirstPolls$Reader" ({ cls := "java/lang/Object", name := "getClass", desc := "()Ljava/lang/Class;" } : Jvm.MethodName) ({ cls := "java/lang/Object", name := "getClass", desc := "()Ljava/lang/Class;" } : Jvm.MethodName)) ∈ lw_all := lw_g (lw_at lw_m3 96 rfl) rfl
theorem q1037 : (Jvm.Cond.instantiable "FirstPolls$Reader" (7 : Nat)) ∈ lw_all := lw_g (lw_at lw_m4 186 rfl) rfl
theorem q1039 : (Jvm.Cond.instanceMethod ({ cls := "FirstPolls$Reader", name := "<init>", desc := "([BI)V" } : Jvm.MethodName)) ∈ lw_all := lw_g (lw_at lw_m4 188 rfl) rfl
theorem q1040 : (Jvm.Cond.code ({ cls := "FirstPolls$Reader", name := "<init>", desc := "([BI)V" } : Jvm.MethodName) prog_15_method_1_code (3 : Nat) (Option.none : Option Jvm.ClassFile.FieldType)) ∈ lw_all := lw_g (lw_at lw_m4 189 rfl) rfl
theorem q1041 : (Jvm.Cond.methodLink "FirstPolls$Reader" (3 : Nat) ({ cls := "java/lang/Object", name := "<init>", desc := "()V" } : Jvm.MethodName)) ∈ lw_all := lw_g (lw_at lw_m4 190 rfl) rfl
theorem q1042 : (Jvm.Cond.classLink "FirstPolls$Reader" (9 : Nat) "java/util/ArrayList") ∈ lw_all := lw_g (lw_at lw_m4 191 rfl) rfl
theorem q1043 : (Jvm.Cond.methodLink "FirstPolls$Reader" (11 : Nat) ({ cls := "java/util/ArrayList", name := "<init>", desc := "(I)V" } : Jvm.MethodName)) ∈ lw_all := lw_g (lw_at lw_m4 192 rfl) rfl
theorem q1044 : (Jvm.Cond.fieldLink "FirstPolls$Reader" (20 : Nat) "FirstPolls$Reader" "tape" "[B") ∈ lw_all := lw_g (lw_at lw_m4 193 rfl) rfl
theorem q1045 : (Jvm.Cond.fieldLink "FirstPolls$Reader" (24 : Nat) "FirstPolls$Reader" "size" "I") ∈ lw_all := lw_g (lw_at lw_m4 194 rfl) rfl
theorem q1046 : (Jvm.Cond.fieldLink "FirstPolls$Reader" (14 : Nat) "FirstPolls$Reader" "made" "Ljava/util/ArrayList;") ∈ lw_all := lw_g (lw_at lw_m4 195 rfl) rfl
theorem q1048 : (Jvm.Cond.fieldLink "FirstPolls$Reader" (31 : Nat) "FirstPolls$Reader" "from" "I") ∈ lw_all := lw_g (lw_at lw_m4 197 rfl) rfl
theorem q1049 : (Jvm.Cond.fieldLink "FirstPolls$Reader" (28 : Nat) "FirstPolls$Reader" "to" "I") ∈ lw_all := lw_g (lw_at lw_m4 198 rfl) rfl
theorem q1050 : (Jvm.Cond.fieldLink "FirstPolls$Reader" (208 : Nat) "FirstPolls$Reader" "leaves" "I") ∈ lw_all := lw_g (lw_at lw_m4 199 rfl) rfl
theorem q1051 : (Jvm.Cond.fieldLink "FirstPolls$Reader" (141 : Nat) "FirstPolls$Reader" "deep" "I") ∈ lw_all := lw_g (lw_at lw_m4 200 rfl) rfl
theorem q1052 : (Jvm.Cond.laysFinal "FirstPolls$Reader" "FirstPolls$Reader" "tape" "[B") ∈ lw_all := lw_g (lw_at lw_m4 201 rfl) rfl
theorem q1053 : (Jvm.Cond.soleField "FirstPolls$Reader" "tape") ∈ lw_all := lw_g (lw_at lw_m4 202 rfl) rfl
theorem q1054 : (Jvm.Cond.laysFinal "FirstPolls$Reader" "FirstPolls$Reader" "size" "I") ∈ lw_all := lw_g (lw_at lw_m4 203 rfl) rfl
theorem q1055 : (Jvm.Cond.soleField "FirstPolls$Reader" "size") ∈ lw_all := lw_g (lw_at lw_m4 204 rfl) rfl
theorem q1056 : (Jvm.Cond.laysFinal "FirstPolls$Reader" "FirstPolls$Reader" "made" "Ljava/util/ArrayList;") ∈ lw_all := lw_g (lw_at lw_m4 205 rfl) rfl
theorem q1057 : (Jvm.Cond.soleField "FirstPolls$Reader" "made") ∈ lw_all := lw_g (lw_at lw_m4 206 rfl) rfl
theorem q1058 : (Jvm.Cond.lays "FirstPolls$Reader" "FirstPolls$Reader" "from" "I") ∈ lw_all := lw_g (lw_at lw_m4 207 rfl) rfl
theorem q1059 : (Jvm.Cond.soleField "FirstPolls$Reader" "from") ∈ lw_all := lw_g (lw_at lw_m4 208 rfl) rfl
theorem q1060 : (Jvm.Cond.lays "FirstPolls$Reader" "FirstPolls$Reader" "to" "I") ∈ lw_all := lw_g (lw_at lw_m4 209 rfl) rfl
theorem q1061 : (Jvm.Cond.soleField "FirstPolls$Reader" "to") ∈ lw_all := lw_g (lw_at lw_m4 210 rfl) rfl
theorem q1062 : (Jvm.Cond.lays "FirstPolls$Reader" "FirstPolls$Reader" "leaves" "I") ∈ lw_all := lw_g (lw_at lw_m4 211 rfl) rfl
theorem q1063 : (Jvm.Cond.soleField "FirstPolls$Reader" "leaves") ∈ lw_all := lw_g (lw_at lw_m4 212 rfl) rfl
theorem q1064 : (Jvm.Cond.lays "FirstPolls$Reader" "FirstPolls$Reader" "deep" "I") ∈ lw_all := lw_g (lw_at lw_m4 213 rfl) rfl
theorem q1065 : (Jvm.Cond.soleField "FirstPolls$Reader" "deep") ∈ lw_all := lw_g (lw_at lw_m4 214 rfl) rfl
theorem q1066 : (Jvm.Cond.superclass "FirstPolls$Reader" "java/lang/Object") ∈ lw_all := lw_g (lw_at lw_m4 215 rfl) rfl
theorem q1068 : (Jvm.Cond.instanceMethod ({ cls := "FirstPolls$Reader", name := "read", desc := "()V" } : Jvm.MethodName)) ∈ lw_all := lw_g (lw_at lw_m4 217 rfl) rfl
theorem q1069 : (Jvm.Cond.selects "FirstPolls$Reader" ({ cls := "FirstPolls$Reader", name := "read", desc := "()V" } : Jvm.MethodName) ({ cls := "FirstPolls$Reader", name := "read", desc := "()V" } : Jvm.MethodName)) ∈ lw_all := lw_g (lw_at lw_m4 218 rfl) rfl
theorem q1070 : (Jvm.Cond.code ({ cls := "FirstPolls$Reader", name := "read", desc := "()V" } : Jvm.MethodName) prog_15_method_8_code (1 : Nat) (Option.none : Option Jvm.ClassFile.FieldType)) ∈ lw_all := lw_g (lw_at lw_m4 219 rfl) rfl
theorem q1071 : (Jvm.Cond.methodLink "FirstPolls$Reader" (52 : Nat) ({ cls := "FirstPolls$Reader", name := "next", desc := "()V" } : Jvm.MethodName)) ∈ lw_all := lw_g (lw_at lw_m4 220 rfl) rfl
theorem q1072 : (Jvm.Cond.privateMethod ({ cls := "FirstPolls$Reader", name := "next", desc := "()V" } : Jvm.MethodName)) ∈ lw_tbl := lw_at lw_m4 221 rfl
theorem q1073 : (Jvm.Cond.instanceMethod ({ cls := "FirstPolls$Reader", name := "next", desc := "()V" } : Jvm.MethodName)) ∈ lw_all := lw_g (lw_at lw_m4 222 rfl) rfl
theorem q1074 : (Jvm.Cond.code ({ cls := "FirstPolls$Reader", name := "next", desc := "()V" } : Jvm.MethodName) prog_15_method_3_code (1 : Nat) (Option.none : Option Jvm.ClassFile.FieldType)) ∈ lw_all := lw_g (lw_at lw_m4 223 rfl) rfl
theorem q1075 : (Jvm.Cond.methodLink "FirstPolls$Reader" (34 : Nat) ({ cls := "FirstPolls$Reader", name := "isIn", desc := "(III)Z" } : Jvm.MethodName)) ∈ lw_all := lw_g (lw_at lw_m4 224 rfl) rfl
theorem q1076 : (Jvm.Cond.privateMethod ({ cls := "FirstPolls$Reader", name := "isIn", desc := "(III)Z" } : Jvm.MethodName)) ∈ lw_tbl := lw_at lw_m4 225 rfl
theorem q1077 : (Jvm.Cond.instanceMethod ({ cls := "FirstPolls$Reader", name := "isIn", desc := "(III)Z" } : Jvm.MethodName)) ∈ lw_all := lw_g (lw_at lw_m4 226 rfl) rfl
theorem q1078 : (Jvm.Cond.code ({ cls := "FirstPolls$Reader", name := "isIn", desc := "(III)Z" } : Jvm.MethodName) prog_15_method_2_code (4 : Nat) (Option.some Jvm.ClassFile.FieldType.boolean)) ∈ lw_all := lw_g (lw_at lw_m4 227 rfl) rfl
theorem q1079 : (Jvm.Cond.methodLink "FirstPolls$Reader" (61 : Nat) ({ cls := "FirstPolls$Reader", name := "clause", desc := "()V" } : Jvm.MethodName)) ∈ lw_all := lw_g (lw_at lw_m4 228 rfl) rfl
theorem q1080 : (Jvm.Cond.privateMethod ({ cls := "FirstPolls$Reader", name := "clause", desc := "()V" } : Jvm.MethodName)) ∈ lw_tbl := lw_at lw_m4 229 rfl
theorem q1081 : (Jvm.Cond.instanceMethod ({ cls := "FirstPolls$Reader", name := "clause", desc := "()V" } : Jvm.MethodName)) ∈ lw_all := lw_g (lw_at lw_m4 230 rfl) rfl
theorem q1082 : (Jvm.Cond.code ({ cls := "FirstPolls$Reader", name := "clause", desc := "()V" } : Jvm.MethodName) prog_15_method_9_code (2 : Nat) (Option.none : Option Jvm.ClassFile.FieldType)) ∈ lw_all := lw_g (lw_at lw_m4 231 rfl) rfl
theorem q1083 : (Jvm.Cond.methodLink "FirstPolls$Reader" (66 : Nat) ({ cls := "java/util/ArrayList", name := "size", desc := "()I" } : Jvm.MethodName)) ∈ lw_all := lw_g (lw_at lw_m4 232 rfl) rfl
theorem q1084 : (Jvm.Cond.classLink "FirstPolls$Reader" (58 : Nat) "FirstPolls$Fault") ∈ lw_all := lw_g (lw_at lw_m4 233 rfl) rfl
theorem q1093 : (Jvm.Cond.methodLink "FirstPolls$Reader" (60 : Nat) ({ cls := "FirstPolls$Fault", name := "<init>", desc := "(I)V" } : Jvm.MethodName)) ∈ lw_all := lw_g (lw_at lw_m5 2 rfl) rfl
theorem q1103 : (Jvm.Cond.stringRef "FirstPolls$Reader" (68 : Nat) "strike") ∈ lw_tbl := lw_at lw_m5 12 rfl
theorem q1104 : (Jvm.Cond.methodLink "FirstPolls$Reader" (55 : Nat) ({ cls := "FirstPolls$Reader", name := "takes", desc := "(Ljava/lang/String;)Z" } : Jvm.MethodName)) ∈ lw_all := lw_g (lw_at lw_m5 13 rfl) rfl
theorem q1105 : (Jvm.Cond.privateMethod ({ cls := "FirstPolls$Reader", name := "takes", desc := "(Ljava/lang/String;)Z" } : Jvm.MethodName)) ∈ lw_tbl := lw_at lw_m5 14 rfl
theorem q1106 : (Jvm.Cond.instanceMethod ({ cls := "FirstPolls$Reader", name := "takes", desc := "(Ljava/lang/String;)Z" } : Jvm.MethodName)) ∈ lw_all := lw_g (lw_at lw_m5 15 rfl) rfl
theorem q1107 : (Jvm.Cond.code ({ cls := "FirstPolls$Reader", name := "takes", desc := "(Ljava/lang/String;)Z" } : Jvm.MethodName) prog_15_method_5_code (3 : Nat) (Option.some Jvm.ClassFile.FieldType.boolean)) ∈ lw_all := lw_g (lw_at lw_m5 16 rfl) rfl
theorem q1108 : (Jvm.Cond.methodLink "FirstPolls$Reader" (48 : Nat) ({ cls := "FirstPolls$Reader", name := "is", desc := "(Ljava/lang/String;)Z" } : Jvm.MethodName)) ∈ lw_all := lw_g (lw_at lw_m5 17 rfl) rfl
theorem q1109 : (Jvm.Cond.privateMethod ({ cls := "FirstPolls$Reader", name := "is", desc := "(Ljava/lang/String;)Z" } : Jvm.MethodName)) ∈ lw_tbl := lw_at lw_m5 18 rfl
theorem q1110 : (Jvm.Cond.instanceMethod ({ cls := "FirstPolls$Reader", name := "is", desc := "(Ljava/lang/String;)Z" } : Jvm.MethodName)) ∈ lw_all := lw_g (lw_at lw_m5 19 rfl) rfl
theorem q1111 : (Jvm.Cond.code ({ cls := "FirstPolls$Reader", name := "is", desc := "(Ljava/lang/String;)Z" } : Jvm.MethodName) prog_15_method_4_code (3 : Nat) (Option.some Jvm.ClassFile.FieldType.boolean)) ∈ lw_all := lw_g (lw_at lw_m5 20 rfl) rfl
theorem q1112 : (Jvm.Cond.methodLink "FirstPolls$Reader" (38 : Nat) ({ cls := "java/lang/String", name := "length", desc := "()I" } : Jvm.MethodName)) ∈ lw_all := lw_g (lw_at lw_m5 21 rfl) rfl
theorem q1122 : (Jvm.Cond.methodLink "FirstPolls$Reader" (44 : Nat) ({ cls := "java/lang/String", name := "charAt", desc := "(I)C" } : Jvm.MethodName)) ∈ lw_all := lw_g (lw_at lw_m5 31 rfl) rfl
theorem q1158 : (Jvm.Cond.methodLink "FirstPolls$Reader" (70 : Nat) ({ cls := "FirstPolls$Reader", name := "number", desc := "(II)I" } : Jvm.MethodName)) ∈ lw_all := lw_g (lw_at lw_m5 67 rfl) rfl
theorem q1159 : (Jvm.Cond.privateMethod ({ cls := "FirstPolls$Reader", name := "number", desc := "(II)I" } : Jvm.MethodName)) ∈ lw_tbl := lw_at lw_m5 68 rfl
theorem q1160 : (Jvm.Cond.instanceMethod ({ cls := "FirstPolls$Reader", name := "number", desc := "(II)I" } : Jvm.MethodName)) ∈ lw_all := lw_g (lw_at lw_m5 69 rfl) rfl
theorem q1161 : (Jvm.Cond.code ({ cls := "FirstPolls$Reader", name := "number", desc := "(II)I" } : Jvm.MethodName) prog_15_method_7_code (5 : Nat) (Option.some Jvm.ClassFile.FieldType.int)) ∈ lw_all := lw_g (lw_at lw_m5 70 rfl) rfl
theorem q1162 : (Jvm.Cond.stringRef "FirstPolls$Reader" (74 : Nat) "clause") ∈ lw_tbl := lw_at lw_m5 71 rfl
theorem q1163 : (Jvm.Cond.methodLink "FirstPolls$Reader" (75 : Nat) ({ cls := "FirstPolls$Reader", name := "need", desc := "(Ljava/lang/String;)V" } : Jvm.MethodName)) ∈ lw_all := lw_g (lw_at lw_m5 72 rfl) rfl
theorem q1164 : (Jvm.Cond.privateMethod ({ cls := "FirstPolls$Reader", name := "need", desc := "(Ljava/lang/String;)V" } : Jvm.MethodName)) ∈ lw_tbl := lw_at lw_m5 73 rfl
theorem q1165 : (Jvm.Cond.instanceMethod ({ cls := "FirstPolls$Reader", name := "need", desc := "(Ljava/lang/String;)V" } : Jvm.MethodName)) ∈ lw_all := lw_g (lw_at lw_m5 74 rfl) rfl
theorem q1166 : (Jvm.Cond.code ({ cls := "FirstPolls$Reader", name := "need", desc := "(Ljava/lang/String;)V" } : Jvm.MethodName) prog_15_method_6_code (2 : Nat) (Option.none : Option Jvm.ClassFile.FieldType)) ∈ lw_all := lw_g (lw_at lw_m5 75 rfl) rfl
theorem q1167 : (Jvm.Cond.classLink "FirstPolls$Reader" (79 : Nat) "FirstPolls$Clause") ∈ lw_all := lw_g (lw_at lw_m5 76 rfl) rfl
theorem q1169 : (Jvm.Cond.methodLink "FirstPolls$Reader" (81 : Nat) ({ cls := "FirstPolls$Clause", name := "<init>", desc := "(III)V" } : Jvm.MethodName)) ∈ lw_all := lw_g (lw_at lw_m5 78 rfl) rfl
theorem q1182 : (Jvm.Cond.fieldLinkNest "FirstPolls$Reader" (120 : Nat) "FirstPolls$Clause" "sum" "LFirstPolls$Sum;" "FirstPolls") ∈ lw_tbl := lw_at lw_m5 91 rfl
theorem q1184 : (Jvm.Cond.fieldLinkNest "FirstPolls$Reader" (98 : Nat) "FirstPolls$Clause" "when" "LFirstPolls$Test;" "FirstPolls") ∈ lw_tbl := lw_at lw_m5 93 rfl
theorem q1196 : (Jvm.Cond.methodLink "FirstPolls$Reader" (84 : Nat) ({ cls := "java/util/ArrayList", name := "add", desc := "(Ljava/lang/Object;)Z" } : Jvm.MethodName)) ∈ lw_all := lw_g (lw_at lw_m5 105 rfl) rfl
theorem q1197 : (Jvm.Cond.methodLink "FirstPolls$Reader" (88 : Nat) ({ cls := "FirstPolls$Reader", name := "head", desc := "()LFirstPolls$Clause;" } : Jvm.MethodName)) ∈ lw_all := lw_g (lw_at lw_m5 106 rfl) rfl
theorem q1198 : (Jvm.Cond.privateMethod ({ cls := "FirstPolls$Reader", name := "head", desc := "()LFirstPolls$Clause;" } : Jvm.MethodName)) ∈ lw_tbl := lw_at lw_m5 107 rfl
theorem q1199 : (Jvm.Cond.instanceMethod ({ cls := "FirstPolls$Reader", name := "head", desc := "()LFirstPolls$Clause;" } : Jvm.MethodName)) ∈ lw_all := lw_g (lw_at lw_m5 108 rfl) rfl
theorem q1200 : (Jvm.Cond.code ({ cls := "FirstPolls$Reader", name := "head", desc := "()LFirstPolls$Clause;" } : Jvm.MethodName) prog_15_method_10_code (2 : Nat) (Option.some (Jvm.ClassFile.FieldType.object "FirstPolls$Clause"))) ∈ lw_all := lw_g (lw_at lw_m5 109 rfl) rfl
theorem q1201 : (Jvm.Cond.stringRef "FirstPolls$Reader" (102 : Nat) "on") ∈ lw_tbl := lw_at lw_m5 110 rfl
theorem q1202 : (Jvm.Cond.stringRef "FirstPolls$Reader" (104 : Nat) "off") ∈ lw_tbl := lw_at lw_m5 111 rfl
theorem q1203 : (Jvm.Cond.stringRef "FirstPolls$Reader" (106 : Nat) "again") ∈ lw_tbl := lw_at lw_m5 112 rfl
theorem q1204 : (Jvm.Cond.stringRef "FirstPolls$Reader" (108 : Nat) "void") ∈ lw_tbl := lw_at lw_m5 113 rfl
theorem q1205 : (Jvm.Cond.stringRef "FirstPolls$Reader" (110 : Nat) "most") ∈ lw_tbl := lw_at lw_m5 114 rfl
theorem q1206 : (Jvm.Cond.stringRef "FirstPolls$Reader" (112 : Nat) "far") ∈ lw_tbl := lw_at lw_m5 115 rfl
theorem q1207 : (Jvm.Cond.stringRef "FirstPolls$Reader" (114 : Nat) "few") ∈ lw_tbl := lw_at lw_m5 116 rfl
theorem q1208 : (Jvm.Cond.methodLink "FirstPolls$Reader" (116 : Nat) ({ cls := "FirstPolls$Reader", name := "sum", desc := "()LFirstPolls$Sum;" } : Jvm.MethodName)) ∈ lw_all := lw_g (lw_at lw_m5 117 rfl) rfl
theorem q1209 : (Jvm.Cond.privateMethod ({ cls := "FirstPolls$Reader", name := "sum", desc := "()LFirstPolls$Sum;" } : Jvm.MethodName)) ∈ lw_tbl := lw_at lw_m5 118 rfl
theorem q1210 : (Jvm.Cond.instanceMethod ({ cls := "FirstPolls$Reader", name := "sum", desc := "()LFirstPolls$Sum;" } : Jvm.MethodName)) ∈ lw_all := lw_g (lw_at lw_m5 119 rfl) rfl
theorem q1211 : (Jvm.Cond.code ({ cls := "FirstPolls$Reader", name := "sum", desc := "()LFirstPolls$Sum;" } : Jvm.MethodName) prog_15_method_17_code (3 : Nat) (Option.some (Jvm.ClassFile.FieldType.object "FirstPolls$Sum"))) ∈ lw_all := lw_g (lw_at lw_m5 120 rfl) rfl
theorem q1212 : (Jvm.Cond.methodLink "FirstPolls$Reader" (191 : Nat) ({ cls := "FirstPolls$Reader", name := "term", desc := "()LFirstPolls$Sum;" } : Jvm.MethodName)) ∈ lw_all := lw_g (lw_at lw_m5 121 rfl) rfl
theorem q1213 : (Jvm.Cond.privateMethod ({ cls := "FirstPolls$Reader", name := "term", desc := "()LFirstPolls$Sum;" } : Jvm.MethodName)) ∈ lw_tbl := lw_at lw_m5 122 rfl
theorem q1214 : (Jvm.Cond.instanceMethod ({ cls := "FirstPolls$Reader", name := "term", desc := "()LFirstPolls$Sum;" } : Jvm.MethodName)) ∈ lw_all := lw_g (lw_at lw_m5 123 rfl) rfl
theorem q1215 : (Jvm.Cond.code ({ cls := "FirstPolls$Reader", name := "term", desc := "()LFirstPolls$Sum;" } : Jvm.MethodName) prog_15_method_18_code (3 : Nat) (Option.some (Jvm.ClassFile.FieldType.object "FirstPolls$Sum"))) ∈ lw_all := lw_g (lw_at lw_m5 124 rfl) rfl
theorem q1216 : (Jvm.Cond.methodLink "FirstPolls$Reader" (201 : Nat) ({ cls := "FirstPolls$Reader", name := "part", desc := "()LFirstPolls$Sum;" } : Jvm.MethodName)) ∈ lw_all := lw_g (lw_at lw_m5 125 rfl) rfl
theorem q1217 : (Jvm.Cond.privateMethod ({ cls := "FirstPolls$Reader", name := "part", desc := "()LFirstPolls$Sum;" } : Jvm.MethodName)) ∈ lw_tbl := lw_at lw_m5 126 rfl
theorem q1218 : (Jvm.Cond.instanceMethod ({ cls := "FirstPolls$Reader", name := "part", desc := "()LFirstPolls$Sum;" } : Jvm.MethodName)) ∈ lw_all := lw_g (lw_at lw_m5 127 rfl) rfl
theorem q1219 : (Jvm.Cond.code ({ cls := "FirstPolls$Reader", name := "part", desc := "()LFirstPolls$Sum;" } : Jvm.MethodName) prog_15_method_21_code (2 : Nat) (Option.some (Jvm.ClassFile.FieldType.object "FirstPolls$Sum"))) ∈ lw_all := lw_g (lw_at lw_m5 128 rfl) rfl
theorem q1220 : (Jvm.Cond.stringRef "FirstPolls$Reader" (233 : Nat) "[") ∈ lw_tbl := lw_at lw_m5 129 rfl
theorem q1221 : (Jvm.Cond.methodLink "FirstPolls$Reader" (166 : Nat) ({ cls := "FirstPolls$Reader", name := "opens", desc := "()V" } : Jvm.MethodName)) ∈ lw_all := lw_g (lw_at lw_m5 130 rfl) rfl
theorem q1222 : (Jvm.Cond.privateMethod ({ cls := "FirstPolls$Reader", name := "opens", desc := "()V" } : Jvm.MethodName)) ∈ lw_tbl := lw_at lw_m5 131 rfl
theorem q1223 : (Jvm.Cond.instanceMethod ({ cls := "FirstPolls$Reader", name := "opens", desc := "()V" } : Jvm.MethodName)) ∈ lw_all := lw_g (lw_at lw_m5 132 rfl) rfl
theorem q1224 : (Jvm.Cond.code ({ cls := "FirstPolls$Reader", name := "opens", desc := "()V" } : Jvm.MethodName) prog_15_method_13_code (1 : Nat) (Option.none : Option Jvm.ClassFile.FieldType)) ∈ lw_all := lw_g (lw_at lw_m5 133 rfl) rfl
theorem q1225 : (Jvm.Cond.stringRef "FirstPolls$Reader" (235 : Nat) "]") ∈ lw_tbl := lw_at lw_m5 134 rfl
theorem q1226 : (Jvm.Cond.methodLink "FirstPolls$Reader" (174 : Nat) ({ cls := "FirstPolls$Reader", name := "leaf", desc := "()V" } : Jvm.MethodName)) ∈ lw_all := lw_g (lw_at lw_m5 135 rfl) rfl
theorem q1227 : (Jvm.Cond.privateMethod ({ cls := "FirstPolls$Reader", name := "leaf", desc := "()V" } : Jvm.MethodName)) ∈ lw_tbl := lw_at lw_m5 136 rfl
theorem q1228 : (Jvm.Cond.instanceMethod ({ cls := "FirstPolls$Reader", name := "leaf", desc := "()V" } : Jvm.MethodName)) ∈ lw_all := lw_g (lw_at lw_m5 137 rfl) rfl
theorem q1229 : (Jvm.Cond.code ({ cls := "FirstPolls$Reader", name := "leaf", desc := "()V" } : Jvm.MethodName) prog_15_method_19_code (1 : Nat) (Option.none : Option Jvm.ClassFile.FieldType)) ∈ lw_all := lw_g (lw_at lw_m5 138 rfl) rfl
theorem q1230 : (Jvm.Cond.classLink "FirstPolls$Reader" (237 : Nat) "FirstPolls$Number") ∈ lw_all := lw_g (lw_at lw_m5 139 rfl) rfl
theorem q1232 : (Jvm.Cond.constant "FirstPolls$Reader" (239 : Nat) (100000 : Int32)) ∈ lw_all := lw_g (lw_at lw_m5 141 rfl) rfl
theorem q1233 : (Jvm.Cond.methodLink "FirstPolls$Reader" (240 : Nat) ({ cls := "FirstPolls$Number", name := "<init>", desc := "(I)V" } : Jvm.MethodName)) ∈ lw_all := lw_g (lw_at lw_m5 142 rfl) rfl
theorem q1244 : (Jvm.Cond.methodLink "FirstPolls$Reader" (241 : Nat) ({ cls := "FirstPolls$Reader", name := "value", desc := "()I" } : Jvm.MethodName)) ∈ lw_all := lw_g (lw_at lw_m5 153 rfl) rfl
theorem q1245 : (Jvm.Cond.privateMethod ({ cls := "FirstPolls$Reader", name := "value", desc := "()I" } : Jvm.MethodName)) ∈ lw_tbl := lw_at lw_m5 154 rfl
theorem q1246 : (Jvm.Cond.instanceMethod ({ cls := "FirstPolls$Reader", name := "value", desc := "()I" } : Jvm.MethodName)) ∈ lw_all := lw_g (lw_at lw_m5 155 rfl) rfl
theorem q1247 : (Jvm.Cond.code ({ cls := "FirstPolls$Reader", name := "value", desc := "()I" } : Jvm.MethodName) prog_15_method_20_code (1 : Nat) (Option.some Jvm.ClassFile.FieldType.int)) ∈ lw_all := lw_g (lw_at lw_m5 156 rfl) rfl
theorem q1248 : (Jvm.Cond.stringRef "FirstPolls$Reader" (211 : Nat) "age") ∈ lw_tbl := lw_at lw_m5 157 rfl
theorem q1249 : (Jvm.Cond.stringRef "FirstPolls$Reader" (213 : Nat) "house") ∈ lw_tbl := lw_at lw_m5 158 rfl
theorem q1250 : (Jvm.Cond.stringRef "FirstPolls$Reader" (215 : Nat) "place") ∈ lw_tbl := lw_at lw_m5 159 rfl
theorem q1251 : (Jvm.Cond.stringRef "FirstPolls$Reader" (217 : Nat) "seat") ∈ lw_tbl := lw_at lw_m5 160 rfl
theorem q1252 : (Jvm.Cond.stringRef "FirstPolls$Reader" (219 : Nat) "day") ∈ lw_tbl := lw_at lw_m5 161 rfl
theorem q1253 : (Jvm.Cond.stringRef "FirstPolls$Reader" (221 : Nat) "names") ∈ lw_tbl := lw_at lw_m5 162 rfl
theorem q1254 : (Jvm.Cond.stringRef "FirstPolls$Reader" (223 : Nat) "papers") ∈ lw_tbl := lw_at lw_m5 163 rfl
theorem q1255 : (Jvm.Cond.stringRef "FirstPolls$Reader" (225 : Nat) "given") ∈ lw_tbl := lw_at lw_m5 164 rfl
theorem q1256 : (Jvm.Cond.stringRef "FirstPolls$Reader" (227 : Nat) "put") ∈ lw_tbl := lw_at lw_m5 165 rfl
theorem q1257 : (Jvm.Cond.stringRef "FirstPolls$Reader" (229 : Nat) "spoilt") ∈ lw_tbl := lw_at lw_m5 166 rfl
theorem q1258 : (Jvm.Cond.stringRef "FirstPolls$Reader" (231 : Nat) "lost") ∈ lw_tbl := lw_at lw_m5 167 rfl
theorem q1259 : (Jvm.Cond.classLink "FirstPolls$Reader" (244 : Nat) "FirstPolls$Value") ∈ lw_all := lw_g (lw_at lw_m5 168 rfl) rfl
theorem q1261 : (Jvm.Cond.methodLink "FirstPolls$Reader" (246 : Nat) ({ cls := "FirstPolls$Value", name := "<init>", desc := "(I)V" } : Jvm.MethodName)) ∈ lw_all := lw_g (lw_at lw_m5 170 rfl) rfl
theorem q1269 : (Jvm.Cond.stringRef "FirstPolls$Reader" (204 : Nat) "*") ∈ lw_tbl := lw_at lw_m5 178 rfl
theorem q1270 : (Jvm.Cond.stringRef "FirstPolls$Reader" (206 : Nat) "/") ∈ lw_tbl := lw_at lw_m5 179 rfl
theorem q1271 : (Jvm.Cond.classLink "FirstPolls$Reader" (198 : Nat) "FirstPolls$Two") ∈ lw_all := lw_g (lw_at lw_m5 180 rfl) rfl
theorem q1273 : (Jvm.Cond.methodLink "FirstPolls$Reader" (200 : Nat) ({ cls := "FirstPolls$Two", name := "<init>", desc := "(CLFirstPolls$Sum;LFirstPolls$Sum;)V" } : Jvm.MethodName)) ∈ lw_all := lw_g (lw_at lw_m5 182 rfl) rfl
theorem q1287 : (Jvm.Cond.stringRef "FirstPolls$Reader" (194 : Nat) "+") ∈ lw_tbl := lw_at lw_m5 196 rfl
theorem q1288 : (Jvm.Cond.stringRef "FirstPolls$Reader" (196 : Nat) "-") ∈ lw_tbl := lw_at lw_m5 197 rfl
theorem q1289 : (Jvm.Cond.stringRef "FirstPolls$Reader" (92 : Nat) "if") ∈ lw_tbl := lw_at lw_m5 198 rfl
theorem q1290 : (Jvm.Cond.methodLink "FirstPolls$Reader" (94 : Nat) ({ cls := "FirstPolls$Reader", name := "test", desc := "()LFirstPolls$Test;" } : Jvm.MethodName)) ∈ lw_all := lw_g (lw_at lw_m5 199 rfl) rfl
theorem q1291 : (Jvm.Cond.privateMethod ({ cls := "FirstPolls$Reader", name := "test", desc := "()LFirstPolls$Test;" } : Jvm.MethodName)) ∈ lw_tbl := lw_at lw_m5 200 rfl
theorem q1292 : (Jvm.Cond.instanceMethod ({ cls := "FirstPolls$Reader", name := "test", desc := "()LFirstPolls$Test;" } : Jvm.MethodName)) ∈ lw_all := lw_g (lw_at lw_m5 201 rfl) rfl
theorem q1293 : (Jvm.Cond.code ({ cls := "FirstPolls$Reader", name := "test", desc := "()LFirstPolls$Test;" } : Jvm.MethodName) prog_15_method_11_code (3 : Nat) (Option.some (Jvm.ClassFile.FieldType.object "FirstPolls$Test"))) ∈ lw_all := lw_g (lw_at lw_m5 202 rfl) rfl
theorem q1294 : (Jvm.Cond.methodLink "FirstPolls$Reader" (123 : Nat) ({ cls := "FirstPolls$Reader", name := "both", desc := "()LFirstPolls$Test;" } : Jvm.MethodName)) ∈ lw_all := lw_g (lw_at lw_m5 203 rfl) rfl
theorem q1295 : (Jvm.Cond.privateMethod ({ cls := "FirstPolls$Reader", name := "both", desc := "()LFirstPolls$Test;" } : Jvm.MethodName)) ∈ lw_tbl := lw_at lw_m5 204 rfl
theorem q1296 : (Jvm.Cond.instanceMethod ({ cls := "FirstPolls$Reader", name := "both", desc := "()LFirstPolls$Test;" } : Jvm.MethodName)) ∈ lw_all := lw_g (lw_at lw_m5 205 rfl) rfl
theorem q1297 : (Jvm.Cond.code ({ cls := "FirstPolls$Reader", name := "both", desc := "()LFirstPolls$Test;" } : Jvm.MethodName) prog_15_method_12_code (3 : Nat) (Option.some (Jvm.ClassFile.FieldType.object "FirstPolls$Test"))) ∈ lw_all := lw_g (lw_at lw_m5 206 rfl) rfl
theorem q1298 : (Jvm.Cond.methodLink "FirstPolls$Reader" (136 : Nat) ({ cls := "FirstPolls$Reader", name := "plain", desc := "()LFirstPolls$Test;" } : Jvm.MethodName)) ∈ lw_all := lw_g (lw_at lw_m5 207 rfl) rfl
theorem q1299 : (Jvm.Cond.privateMethod ({ cls := "FirstPolls$Reader", name := "plain", desc := "()LFirstPolls$Test;" } : Jvm.MethodName)) ∈ lw_tbl := lw_at lw_m5 208 rfl
theorem q1300 : (Jvm.Cond.instanceMethod ({ cls := "FirstPolls$Reader", name := "plain", desc := "()LFirstPolls$Test;" } : Jvm.MethodName)) ∈ lw_all := lw_g (lw_at lw_m5 209 rfl) rfl
theorem q1301 : (Jvm.Cond.code ({ cls := "FirstPolls$Reader", name := "plain", desc := "()LFirstPolls$Test;" } : Jvm.MethodName) prog_15_method_14_code (3 : Nat) (Option.some (Jvm.ClassFile.FieldType.object "FirstPolls$Test"))) ∈ lw_all := lw_g (lw_at lw_m5 210 rfl) rfl
theorem q1302 : (Jvm.Cond.stringRef "FirstPolls$Reader" (144 : Nat) "not") ∈ lw_tbl := lw_at lw_m5 211 rfl
theorem q1303 : (Jvm.Cond.methodLink "FirstPolls$Reader" (146 : Nat) ({ cls := "FirstPolls$Reader", name := "positive", desc := "()LFirstPolls$Test;" } : Jvm.MethodName)) ∈ lw_all := lw_g (lw_at lw_m5 212 rfl) rfl
theorem q1304 : (Jvm.Cond.privateMethod ({ cls := "FirstPolls$Reader", name := "positive", desc := "()LFirstPolls$Test;" } : Jvm.MethodName)) ∈ lw_tbl := lw_at lw_m5 213 rfl
theorem q1305 : (Jvm.Cond.instanceMethod ({ cls := "FirstPolls$Reader", name := "positive", desc := "()LFirstPolls$Test;" } : Jvm.MethodName)) ∈ lw_all := lw_g (lw_at lw_m5 214 rfl) rfl
theorem q1306 : (Jvm.Cond.code ({ cls := "FirstPolls$Reader", name := "positive", desc := "()LFirstPolls$Test;" } : Jvm.MethodName) prog_15_method_16_code (4 : Nat) (Option.some (Jvm.ClassFile.FieldType.object "FirstPolls$Test"))) ∈ lw_all := lw_g (lw_at lw_m5 215 rfl) rfl
theorem q1307 : (Jvm.Cond.stringRef "FirstPolls$Reader" (164 : Nat) "(") ∈ lw_tbl := lw_at lw_m5 216 rfl
theorem q1308 : (Jvm.Cond.stringRef "FirstPolls$Reader" (169 : Nat) ")") ∈ lw_tbl := lw_at lw_m5 217 rfl
theorem q1309 : (Jvm.Cond.methodLink "FirstPolls$Reader" (171 : Nat) ({ cls := "FirstPolls$Reader", name := "flag", desc := "()I" } : Jvm.MethodName)) ∈ lw_all := lw_g (lw_at lw_m5 218 rfl) rfl
theorem q1310 : (Jvm.Cond.privateMethod ({ cls := "FirstPolls$Reader", name := "flag", desc := "()I" } : Jvm.MethodName)) ∈ lw_tbl := lw_at lw_m5 219 rfl
theorem q1311 : (Jvm.Cond.instanceMethod ({ cls := "FirstPolls$Reader", name := "flag", desc := "()I" } : Jvm.MethodName)) ∈ lw_all := lw_g (lw_at lw_m5 220 rfl) rfl
theorem q1312 : (Jvm.Cond.code ({ cls := "FirstPolls$Reader", name := "flag", desc := "()I" } : Jvm.MethodName) prog_15_method_15_code (1 : Nat) (Option.some Jvm.ClassFile.FieldType.int)) ∈ lw_all := lw_g (lw_at lw_m5 221 rfl) rfl
theorem q1313 : (Jvm.Cond.stringRef "FirstPolls$Reader" (154 : Nat) "wife") ∈ lw_tbl := lw_at lw_m5 222 rfl
theorem q1314 : (Jvm.Cond.stringRef "FirstPolls$Reader" (156 : Nat) "late") ∈ lw_tbl := lw_at lw_m5 223 rfl
theorem q1315 : (Jvm.Cond.stringRef "FirstPolls$Reader" (158 : Nat) "walker") ∈ lw_tbl := lw_at lw_m5 224 rfl
theorem q1316 : (Jvm.Cond.stringRef "FirstPolls$Reader" (160 : Nat) "moved") ∈ lw_tbl := lw_at lw_m5 225 rfl
theorem q1317 : (Jvm.Cond.stringRef "FirstPolls$Reader" (162 : Nat) "broken") ∈ lw_tbl := lw_at lw_m5 226 rfl
theorem q1318 : (Jvm.Cond.classLink "FirstPolls$Reader" (177 : Nat) "FirstPolls$Flag") ∈ lw_all := lw_g (lw_at lw_m5 227 rfl) rfl
theorem q1320 : (Jvm.Cond.methodLink "FirstPolls$Reader" (179 : Nat) ({ cls := "FirstPolls$Flag", name := "<init>", desc := "(I)V" } : Jvm.MethodName)) ∈ lw_all := lw_g (lw_at lw_m5 229 rfl) rfl
theorem q1331 : (Jvm.Cond.stringRef "FirstPolls$Reader" (180 : Nat) "<") ∈ lw_tbl := lw_at lw_m6 0 rfl
theorem q1332 : (Jvm.Cond.stringRef "FirstPolls$Reader" (182 : Nat) ">") ∈ lw_tbl := lw_at lw_m6 1 rfl
theorem q1333 : (Jvm.Cond.stringRef "FirstPolls$Reader" (184 : Nat) "=") ∈ lw_tbl := lw_at lw_m6 2 rfl
theorem q1334 : (Jvm.Cond.classLink "FirstPolls$Reader" (186 : Nat) "FirstPolls$Compare") ∈ lw_all := lw_g (lw_at lw_m6 3 rfl) rfl
theorem q1336 : (Jvm.Cond.methodLink "FirstPolls$Reader" (188 : Nat) ({ cls := "FirstPolls$Compare", name := "<init>", desc := "(CLFirstPolls$Sum;LFirstPolls$Sum;)V" } : Jvm.MethodName)) ∈ lw_all := lw_g (lw_at lw_m6 5 rfl) rfl
theorem q1350 : (Jvm.Cond.classLink "FirstPolls$Reader" (149 : Nat) "FirstPolls$Not") ∈ lw_all := lw_g (lw_at lw_m6 19 rfl) rfl
theorem q1352 : (Jvm.Cond.methodLink "FirstPolls$Reader" (151 : Nat) ({ cls := "FirstPolls$Not", name := "<init>", desc := "(LFirstPolls$Test;)V" } : Jvm.MethodName)) ∈ lw_all := lw_g (lw_at lw_m6 21 rfl) rfl
theorem q1360 : (Jvm.Cond.stringRef "FirstPolls$Reader" (139 : Nat) "and") ∈ lw_tbl := lw_at lw_m6 29 rfl
theorem q1361 : (Jvm.Cond.classLink "FirstPolls$Reader" (128 : Nat) "FirstPolls$Several") ∈ lw_all := lw_g (lw_at lw_m6 30 rfl) rfl
theorem q1363 : (Jvm.Cond.methodLink "FirstPolls$Reader" (130 : Nat) ({ cls := "FirstPolls$Several", name := "<init>", desc := "(Z)V" } : Jvm.MethodName)) ∈ lw_all := lw_g (lw_at lw_m6 32 rfl) rfl
theorem q1371 : (Jvm.Cond.fieldLinkNest "FirstPolls$Reader" (133 : Nat) "FirstPolls$Several" "of" "Ljava/util/ArrayList;" "FirstPolls") ∈ lw_tbl := lw_at lw_m6 40 rfl
theorem q1377 : (Jvm.Cond.stringRef "FirstPolls$Reader" (126 : Nat) "or") ∈ lw_tbl := lw_at lw_m6 46 rfl
theorem q1378 : (Jvm.Cond.stringRef "FirstPolls$Reader" (64 : Nat) ";") ∈ lw_tbl := lw_at lw_m6 47 rfl
theorem q2551 : (Jvm.Cond.castable "FirstPolls$Reader" "java/lang/Object") ∈ lw_tbl := lw_at lw_m11 20 rfl
theorem in_X13 : ∀ w ∈ wsX130, w ∈ lw_all := lw_in wsX130 [1052, 1054, 1056, 1058, 1060, 1062, 1064] (by decide +kernel) (by decide +kernel)
theorem q161 : (Jvm.Cond.initialized "FirstPolls$Fault") ∈ lw_all := lw_g (lw_at lw_m1 30 rfl) rfl
theorem q404 : (Jvm.Cond.selects "FirstPolls$Fault" ({ cls := "java/lang/Throwable", name := "fillInStackTrace", desc := "()Ljava/lang/Throwable;" } : Jvm.MethodName) ({ cls := "java/lang/Throwable", name := "fillInStackTrace", desc := "()Ljava/lang/Throwable;" } : Jvm.MethodName)) ∈ lw_all := lw_g (lw_at lw_m2 33 rfl) rfl
theorem q698 : (Jvm.Cond.selects "FirstPolls$Fault" ({ cls := "java/lang/Object", name := "getClass", desc := "()Ljava/lang/Class;" } : Jvm.MethodName) ({ cls := "java/lang/Object", name := "getClass", desc := "()Ljava/lang/Class;" } : Jvm.MethodName)) ∈ lw_all := lw_g (lw_at lw_m3 87 rfl) rfl
theorem q1085 : (Jvm.Cond.instantiable "FirstPolls$Fault" (7 : Nat)) ∈ lw_all := lw_g (lw_at lw_m4 234 rfl) rfl
theorem q1086 : (Jvm.Cond.castable "FirstPolls$Fault" "FirstPolls$Fault") ∈ lw_tbl := lw_at lw_m4 235 rfl
theorem q1087 : (Jvm.Cond.selects "FirstPolls$Fault" ({ cls := "java/lang/Throwable", name := "fillInStackTrace", desc := "(I)Ljava/lang/Throwable;" } : Jvm.MethodName) ({ cls := "java/lang/Throwable", name := "fillInStackTrace", desc := "(I)Ljava/lang/Throwable;" } : Jvm.MethodName)) ∈ lw_all := lw_g (lw_at lw_m4 236 rfl) rfl
theorem q1088 : (Jvm.Cond.lays "FirstPolls$Fault" "java/lang/Throwable" "cause" "Ljava/lang/Throwable;") ∈ lw_all := lw_g (lw_at lw_m4 237 rfl) rfl
theorem q1089 : (Jvm.Cond.lays "FirstPolls$Fault" "java/lang/Throwable" "stackTrace" "[Ljava/lang/StackTraceElement;") ∈ lw_all := lw_g (lw_at lw_m4 238 rfl) rfl
theorem q1090 : (Jvm.Cond.lays "FirstPolls$Fault" "java/lang/Throwable" "suppressedExceptions" "Ljava/util/List;") ∈ lw_all := lw_g (lw_at lw_m4 239 rfl) rfl
theorem q1091 : (Jvm.Cond.lays "FirstPolls$Fault" "java/lang/Throwable" "detailMessage" "Ljava/lang/String;") ∈ lw_all := lw_g (lw_at lw_m5 0 rfl) rfl
theorem q1092 : (Jvm.Cond.lays "FirstPolls$Fault" "java/lang/Throwable" "backtrace" "Ljava/lang/Object;") ∈ lw_all := lw_g (lw_at lw_m5 1 rfl) rfl
theorem q1094 : (Jvm.Cond.instanceMethod ({ cls := "FirstPolls$Fault", name := "<init>", desc := "(I)V" } : Jvm.MethodName)) ∈ lw_all := lw_g (lw_at lw_m5 3 rfl) rfl
theorem q1095 : (Jvm.Cond.code ({ cls := "FirstPolls$Fault", name := "<init>", desc := "(I)V" } : Jvm.MethodName) prog_6_method_1_code (2 : Nat) (Option.none : Option Jvm.ClassFile.FieldType)) ∈ lw_all := lw_g (lw_at lw_m5 4 rfl) rfl
theorem q1096 : (Jvm.Cond.methodLink "FirstPolls$Fault" (1 : Nat) ({ cls := "java/lang/Exception", name := "<init>", desc := "(Ljava/lang/String;Ljava/lang/Throwable;ZZ)V" } : Jvm.MethodName)) ∈ lw_all := lw_g (lw_at lw_m5 5 rfl) rfl
theorem q1097 : (Jvm.Cond.fieldLink "FirstPolls$Fault" (7 : Nat) "FirstPolls$Fault" "place" "I") ∈ lw_all := lw_g (lw_at lw_m5 6 rfl) rfl
theorem q1099 : (Jvm.Cond.laysFinal "FirstPolls$Fault" "FirstPolls$Fault" "place" "I") ∈ lw_all := lw_g (lw_at lw_m5 8 rfl) rfl
theorem q1100 : (Jvm.Cond.soleField "FirstPolls$Fault" "place") ∈ lw_all := lw_g (lw_at lw_m5 9 rfl) rfl
theorem q1101 : (Jvm.Cond.lays "FirstPolls$Fault" "java/lang/Throwable" "depth" "I") ∈ lw_all := lw_g (lw_at lw_m5 10 rfl) rfl
theorem q1102 : (Jvm.Cond.superclass "FirstPolls$Fault" "java/lang/Exception") ∈ lw_all := lw_g (lw_at lw_m5 11 rfl) rfl
theorem q2552 : (Jvm.Cond.castable "FirstPolls$Fault" "java/lang/Object") ∈ lw_tbl := lw_at lw_m11 21 rfl
theorem in_X14 : ∀ w ∈ wsX140, w ∈ lw_all := lw_in wsX140 [1088, 1089, 1090, 1091, 1092, 1101, 1099] (by decide +kernel) (by decide +kernel)
theorem q162 : (Jvm.Cond.initialized "java/lang/StringLatin1") ∈ lw_all := lw_g (lw_at lw_m1 31 rfl) rfl
theorem q1131 : (Jvm.Cond.static ({ cls := "java/lang/StringLatin1", name := "charAt", desc := "([BI)C" } : Jvm.MethodName)) ∈ lw_all := lw_g (lw_at lw_m5 40 rfl) rfl
theorem q1132 : (Jvm.Cond.code ({ cls := "java/lang/StringLatin1", name := "charAt", desc := "([BI)C" } : Jvm.MethodName) prog_40_method_2_code (2 : Nat) (Option.some Jvm.ClassFile.FieldType.char)) ∈ lw_all := lw_g (lw_at lw_m5 41 rfl) rfl
theorem q1133 : (Jvm.Cond.methodLink "java/lang/StringLatin1" (9 : Nat) ({ cls := "java/lang/String", name := "checkIndex", desc := "(II)V" } : Jvm.MethodName)) ∈ lw_all := lw_g (lw_at lw_m5 42 rfl) rfl
theorem q163 : (Jvm.Cond.initialized "java/lang/StringUTF16") ∈ lw_all := lw_g (lw_at lw_m1 32 rfl) rfl
theorem q1140 : (Jvm.Cond.static ({ cls := "java/lang/StringUTF16", name := "charAt", desc := "([BI)C" } : Jvm.MethodName)) ∈ lw_all := lw_g (lw_at lw_m5 49 rfl) rfl
theorem q1141 : (Jvm.Cond.code ({ cls := "java/lang/StringUTF16", name := "charAt", desc := "([BI)C" } : Jvm.MethodName) prog_41_method_83_code (2 : Nat) (Option.some Jvm.ClassFile.FieldType.char)) ∈ lw_all := lw_g (lw_at lw_m5 50 rfl) rfl
theorem q1142 : (Jvm.Cond.methodLink "java/lang/StringUTF16" (67 : Nat) ({ cls := "java/lang/StringUTF16", name := "checkIndex", desc := "(I[B)V" } : Jvm.MethodName)) ∈ lw_all := lw_g (lw_at lw_m5 51 rfl) rfl
theorem q1143 : (Jvm.Cond.static ({ cls := "java/lang/StringUTF16", name := "checkIndex", desc := "(I[B)V" } : Jvm.MethodName)) ∈ lw_all := lw_g (lw_at lw_m5 52 rfl) rfl
theorem q1144 : (Jvm.Cond.code ({ cls := "java/lang/StringUTF16", name := "checkIndex", desc := "(I[B)V" } : Jvm.MethodName) prog_41_method_91_code (2 : Nat) (Option.none : Option Jvm.ClassFile.FieldType)) ∈ lw_all := lw_g (lw_at lw_m5 53 rfl) rfl
theorem q1145 : (Jvm.Cond.methodLink "java/lang/StringUTF16" (48 : Nat) ({ cls := "java/lang/StringUTF16", name := "length", desc := "([B)I" } : Jvm.MethodName)) ∈ lw_all := lw_g (lw_at lw_m5 54 rfl) rfl
theorem q1146 : (Jvm.Cond.static ({ cls := "java/lang/StringUTF16", name := "length", desc := "([B)I" } : Jvm.MethodName)) ∈ lw_all := lw_g (lw_at lw_m5 55 rfl) rfl
theorem q1147 : (Jvm.Cond.code ({ cls := "java/lang/StringUTF16", name := "length", desc := "([B)I" } : Jvm.MethodName) prog_41_method_6_code (1 : Nat) (Option.some Jvm.ClassFile.FieldType.int)) ∈ lw_all := lw_g (lw_at lw_m5 56 rfl) rfl
theorem q1148 : (Jvm.Cond.methodLink "java/lang/StringUTF16" (414 : Nat) ({ cls := "java/lang/String", name := "checkIndex", desc := "(II)V" } : Jvm.MethodName)) ∈ lw_all := lw_g (lw_at lw_m5 57 rfl) rfl
theorem q1149 : (Jvm.Cond.methodLink "java/lang/StringUTF16" (71 : Nat) ({ cls := "java/lang/StringUTF16", name := "getChar", desc := "([BI)C" } : Jvm.MethodName)) ∈ lw_all := lw_g (lw_at lw_m5 58 rfl) rfl
theorem q1150 : (Jvm.Cond.static ({ cls := "java/lang/StringUTF16", name := "getChar", desc := "([BI)C" } : Jvm.MethodName)) ∈ lw_all := lw_g (lw_at lw_m5 59 rfl) rfl
theorem q1151 : (Jvm.Cond.code ({ cls := "java/lang/StringUTF16", name := "getChar", desc := "([BI)C" } : Jvm.MethodName) prog_41_method_5_code (2 : Nat) (Option.some Jvm.ClassFile.FieldType.char)) ∈ lw_all := lw_g (lw_at lw_m5 60 rfl) rfl
theorem q1152 : (Jvm.Cond.fieldLink "java/lang/StringUTF16" (44 : Nat) "java/lang/StringUTF16" "$assertionsDisabled" "Z") ∈ lw_all := lw_g (lw_at lw_m5 61 rfl) rfl
theorem q1153 : (Jvm.Cond.laysStatic "java/lang/StringUTF16" "$assertionsDisabled" "Z") ∈ lw_tbl := lw_at lw_m5 62 rfl
theorem q1154 : (Jvm.Cond.fieldLink "java/lang/StringUTF16" (59 : Nat) "java/lang/StringUTF16" "HI_BYTE_SHIFT" "I") ∈ lw_all := lw_g (lw_at lw_m5 63 rfl) rfl
theorem q1155 : (Jvm.Cond.laysStatic "java/lang/StringUTF16" "HI_BYTE_SHIFT" "I") ∈ lw_tbl := lw_at lw_m5 64 rfl
theorem q1156 : (Jvm.Cond.fieldLink "java/lang/StringUTF16" (63 : Nat) "java/lang/StringUTF16" "LO_BYTE_SHIFT" "I") ∈ lw_all := lw_g (lw_at lw_m5 65 rfl) rfl
theorem q1157 : (Jvm.Cond.laysStatic "java/lang/StringUTF16" "LO_BYTE_SHIFT" "I") ∈ lw_tbl := lw_at lw_m5 66 rfl
theorem q164 : (Jvm.Cond.initialized "FirstPolls$Clause") ∈ lw_all := lw_g (lw_at lw_m1 33 rfl) rfl
theorem q695 : (Jvm.Cond.selects "FirstPolls$Clause" ({ cls := "java/lang/Object", name := "getClass", desc := "()Ljava/lang/Class;" } : Jvm.MethodName) ({ cls := "java/lang/Object", name := "getClass", desc := "()Ljava/lang/Class;" } : Jvm.MethodName)) ∈ lw_all := lw_g (lw_at lw_m3 84 rfl) rfl
theorem q1168 : (Jvm.Cond.instantiable "FirstPolls$Clause" (5 : Nat)) ∈ lw_all := lw_g (lw_at lw_m5 77 rfl) rfl
theorem q1170 : (Jvm.Cond.instanceMethod ({ cls := "FirstPolls$Clause", name := "<init>", desc := "(III)V" } : Jvm.MethodName)) ∈ lw_all := lw_g (lw_at lw_m5 79 rfl) rfl
theorem q1171 : (Jvm.Cond.code ({ cls := "FirstPolls$Clause", name := "<init>", desc := "(III)V" } : Jvm.MethodName) prog_3_method_1_code (4 : Nat) (Option.none : Option Jvm.ClassFile.FieldType)) ∈ lw_all := lw_g (lw_at lw_m5 80 rfl) rfl
theorem q1172 : (Jvm.Cond.methodLink "FirstPolls$Clause" (3 : Nat) ({ cls := "java/lang/Object", name := "<init>", desc := "()V" } : Jvm.MethodName)) ∈ lw_all := lw_g (lw_at lw_m5 81 rfl) rfl
theorem q1173 : (Jvm.Cond.fieldLink "FirstPolls$Clause" (9 : Nat) "FirstPolls$Clause" "kind" "I") ∈ lw_all := lw_g (lw_at lw_m5 82 rfl) rfl
theorem q1176 : (Jvm.Cond.fieldLink "FirstPolls$Clause" (15 : Nat) "FirstPolls$Clause" "a" "I") ∈ lw_all := lw_g (lw_at lw_m5 85 rfl) rfl
theorem q1179 : (Jvm.Cond.fieldLink "FirstPolls$Clause" (18 : Nat) "FirstPolls$Clause" "b" "I") ∈ lw_all := lw_g (lw_at lw_m5 88 rfl) rfl
theorem q1181 : (Jvm.Cond.fieldLink "FirstPolls$Clause" (33 : Nat) "FirstPolls$Clause" "sum" "LFirstPolls$Sum;") ∈ lw_all := lw_g (lw_at lw_m5 90 rfl) rfl
theorem q1183 : (Jvm.Cond.fieldLink "FirstPolls$Clause" (21 : Nat) "FirstPolls$Clause" "when" "LFirstPolls$Test;") ∈ lw_all := lw_g (lw_at lw_m5 92 rfl) rfl
theorem q1185 : (Jvm.Cond.laysFinal "FirstPolls$Clause" "FirstPolls$Clause" "kind" "I") ∈ lw_all := lw_g (lw_at lw_m5 94 rfl) rfl
theorem q1186 : (Jvm.Cond.soleField "FirstPolls$Clause" "kind") ∈ lw_all := lw_g (lw_at lw_m5 95 rfl) rfl
theorem q1187 : (Jvm.Cond.laysFinal "FirstPolls$Clause" "FirstPolls$Clause" "a" "I") ∈ lw_all := lw_g (lw_at lw_m5 96 rfl) rfl
theorem q1188 : (Jvm.Cond.soleField "FirstPolls$Clause" "a") ∈ lw_all := lw_g (lw_at lw_m5 97 rfl) rfl
theorem q1189 : (Jvm.Cond.laysFinal "FirstPolls$Clause" "FirstPolls$Clause" "b" "I") ∈ lw_all := lw_g (lw_at lw_m5 98 rfl) rfl
theorem q1190 : (Jvm.Cond.soleField "FirstPolls$Clause" "b") ∈ lw_all := lw_g (lw_at lw_m5 99 rfl) rfl
theorem q1191 : (Jvm.Cond.lays "FirstPolls$Clause" "FirstPolls$Clause" "sum" "LFirstPolls$Sum;") ∈ lw_all := lw_g (lw_at lw_m5 100 rfl) rfl
theorem q1192 : (Jvm.Cond.soleField "FirstPolls$Clause" "sum") ∈ lw_all := lw_g (lw_at lw_m5 101 rfl) rfl
theorem q1193 : (Jvm.Cond.lays "FirstPolls$Clause" "FirstPolls$Clause" "when" "LFirstPolls$Test;") ∈ lw_all := lw_g (lw_at lw_m5 102 rfl) rfl
theorem q1194 : (Jvm.Cond.soleField "FirstPolls$Clause" "when") ∈ lw_all := lw_g (lw_at lw_m5 103 rfl) rfl
theorem q1195 : (Jvm.Cond.superclass "FirstPolls$Clause" "java/lang/Object") ∈ lw_all := lw_g (lw_at lw_m5 104 rfl) rfl
theorem q1452 : (Jvm.Cond.instanceMethod ({ cls := "FirstPolls$Clause", name := "tells", desc := "(LFirstPolls$Setting;)J" } : Jvm.MethodName)) ∈ lw_all := lw_g (lw_at lw_m6 121 rfl) rfl
theorem q1453 : (Jvm.Cond.selects "FirstPolls$Clause" ({ cls := "FirstPolls$Clause", name := "tells", desc := "(LFirstPolls$Setting;)J" } : Jvm.MethodName) ({ cls := "FirstPolls$Clause", name := "tells", desc := "(LFirstPolls$Setting;)J" } : Jvm.MethodName)) ∈ lw_all := lw_g (lw_at lw_m6 122 rfl) rfl
theorem q1454 : (Jvm.Cond.codeWith ({ cls := "FirstPolls$Clause", name := "tells", desc := "(LFirstPolls$Setting;)J" } : Jvm.MethodName) prog_3_method_2_code (3 : Nat) (Option.some Jvm.ClassFile.FieldType.long) [((0 : Nat), (21 : Nat), (42 : Nat), (43 : Nat)), ((22 : Nat), (41 : Nat), (42 : Nat), (43 : Nat))]) ∈ lw_all := lw_g (lw_at lw_m6 123 rfl) rfl
theorem q1455 : (Jvm.Cond.classLink "FirstPolls$Clause" (43 : Nat) "FirstPolls$Broken") ∈ lw_all := lw_g (lw_at lw_m6 124 rfl) rfl
theorem q1456 : (Jvm.Cond.methodLink "FirstPolls$Clause" (25 : Nat) ({ cls := "FirstPolls$Test", name := "is", desc := "(LFirstPolls$Setting;)Z" } : Jvm.MethodName)) ∈ lw_all := lw_g (lw_at lw_m6 125 rfl) rfl
theorem q1491 : (Jvm.Cond.constantLong "FirstPolls$Clause" (31 : Nat) (-4000000000 : Int64)) ∈ lw_all := lw_g (lw_at lw_m6 160 rfl) rfl
theorem q1492 : (Jvm.Cond.methodLink "FirstPolls$Clause" (37 : Nat) ({ cls := "FirstPolls$Sum", name := "of", desc := "(LFirstPolls$Setting;)J" } : Jvm.MethodName)) ∈ lw_all := lw_g (lw_at lw_m6 161 rfl) rfl
theorem q2553 : (Jvm.Cond.castable "FirstPolls$Clause" "java/lang/Object") ∈ lw_tbl := lw_at lw_m11 22 rfl
theorem in_X15 : ∀ w ∈ wsX150, w ∈ lw_all := lw_in wsX150 [1185, 1187, 1189, 1191, 1193] (by decide +kernel) (by decide +kernel)
theorem q165 : (Jvm.Cond.initialized "FirstPolls$Sum") ∈ lw_all := lw_g (lw_at lw_m1 34 rfl) rfl
theorem q1237 : (Jvm.Cond.instanceMethod ({ cls := "FirstPolls$Sum", name := "<init>", desc := "()V" } : Jvm.MethodName)) ∈ lw_all := lw_g (lw_at lw_m5 146 rfl) rfl
theorem q1238 : (Jvm.Cond.code ({ cls := "FirstPolls$Sum", name := "<init>", desc := "()V" } : Jvm.MethodName) prog_19_method_1_code (1 : Nat) (Option.none : Option Jvm.ClassFile.FieldType)) ∈ lw_all := lw_g (lw_at lw_m5 147 rfl) rfl
theorem q1239 : (Jvm.Cond.methodLink "FirstPolls$Sum" (1 : Nat) ({ cls := "java/lang/Object", name := "<init>", desc := "()V" } : Jvm.MethodName)) ∈ lw_all := lw_g (lw_at lw_m5 148 rfl) rfl
theorem q1463 : (Jvm.Cond.declares ({ cls := "FirstPolls$Sum", name := "of", desc := "(LFirstPolls$Setting;)J" } : Jvm.MethodName)) ∈ lw_tbl := lw_at lw_m6 132 rfl
theorem q1464 : (Jvm.Cond.sameMethod "FirstPolls$Sum" "FirstPolls$Sum" "of" "(LFirstPolls$Setting;)J") ∈ lw_all := lw_g (lw_at lw_m6 133 rfl) rfl
theorem q166 : (Jvm.Cond.initialized "FirstPolls$Number") ∈ lw_all := lw_g (lw_at lw_m1 35 rfl) rfl
theorem q705 : (Jvm.Cond.selects "FirstPolls$Number" ({ cls := "java/lang/Object", name := "getClass", desc := "()Ljava/lang/Class;" } : Jvm.MethodName) ({ cls := "java/lang/Object", name := "getClass", desc := "()Ljava/lang/Class;" } : Jvm.MethodName)) ∈ lw_all := lw_g (lw_at lw_m3 94 rfl) rfl
theorem q1231 : (Jvm.Cond.instantiable "FirstPolls$Number" (1 : Nat)) ∈ lw_all := lw_g (lw_at lw_m5 140 rfl) rfl
theorem q1234 : (Jvm.Cond.instanceMethod ({ cls := "FirstPolls$Number", name := "<init>", desc := "(I)V" } : Jvm.MethodName)) ∈ lw_all := lw_g (lw_at lw_m5 143 rfl) rfl
theorem q1235 : (Jvm.Cond.code ({ cls := "FirstPolls$Number", name := "<init>", desc := "(I)V" } : Jvm.MethodName) prog_13_method_1_code (2 : Nat) (Option.none : Option Jvm.ClassFile.FieldType)) ∈ lw_all := lw_g (lw_at lw_m5 144 rfl) rfl
theorem q1236 : (Jvm.Cond.methodLinkNest "FirstPolls$Number" (1 : Nat) ({ cls := "FirstPolls$Sum", name := "<init>", desc := "()V" } : Jvm.MethodName) "FirstPolls") ∈ lw_tbl := lw_at lw_m5 145 rfl
theorem q1240 : (Jvm.Cond.fieldLink "FirstPolls$Number" (7 : Nat) "FirstPolls$Number" "number" "I") ∈ lw_all := lw_g (lw_at lw_m5 149 rfl) rfl
theorem q1241 : (Jvm.Cond.laysFinal "FirstPolls$Number" "FirstPolls$Number" "number" "I") ∈ lw_all := lw_g (lw_at lw_m5 150 rfl) rfl
theorem q1242 : (Jvm.Cond.soleField "FirstPolls$Number" "number") ∈ lw_all := lw_g (lw_at lw_m5 151 rfl) rfl
theorem q1243 : (Jvm.Cond.superclass "FirstPolls$Number" "FirstPolls$Sum") ∈ lw_all := lw_g (lw_at lw_m5 152 rfl) rfl
theorem q1465 : (Jvm.Cond.selects "FirstPolls$Number" ({ cls := "FirstPolls$Sum", name := "of", desc := "(LFirstPolls$Setting;)J" } : Jvm.MethodName) ({ cls := "FirstPolls$Number", name := "of", desc := "(LFirstPolls$Setting;)J" } : Jvm.MethodName)) ∈ lw_all := lw_g (lw_at lw_m6 134 rfl) rfl
theorem q1466 : (Jvm.Cond.instanceMethod ({ cls := "FirstPolls$Number", name := "of", desc := "(LFirstPolls$Setting;)J" } : Jvm.MethodName)) ∈ lw_all := lw_g (lw_at lw_m6 135 rfl) rfl
theorem q1467 : (Jvm.Cond.code ({ cls := "FirstPolls$Number", name := "of", desc := "(LFirstPolls$Setting;)J" } : Jvm.MethodName) prog_13_method_2_code (2 : Nat) (Option.some Jvm.ClassFile.FieldType.long)) ∈ lw_all := lw_g (lw_at lw_m6 136 rfl) rfl
theorem q2554 : (Jvm.Cond.castable "FirstPolls$Number" "java/lang/Object") ∈ lw_tbl := lw_at lw_m11 23 rfl
theorem in_X17 : ∀ w ∈ wsX170, w ∈ lw_all := lw_in wsX170 [1241] (by decide +kernel) (by decide +kernel)
theorem q167 : (Jvm.Cond.initialized "FirstPolls$Value") ∈ lw_all := lw_g (lw_at lw_m1 36 rfl) rfl
theorem q437 : (Jvm.Cond.fieldLinkNest "FirstPolls$Value" (13 : Nat) "FirstPolls$Setting" "values" "[J" "FirstPolls") ∈ lw_tbl := lw_at lw_m2 66 rfl
theorem q713 : (Jvm.Cond.selects "FirstPolls$Value" ({ cls := "java/lang/Object", name := "getClass", desc := "()Ljava/lang/Class;" } : Jvm.MethodName) ({ cls := "java/lang/Object", name := "getClass", desc := "()Ljava/lang/Class;" } : Jvm.MethodName)) ∈ lw_all := lw_g (lw_at lw_m3 102 rfl) rfl
theorem q1260 : (Jvm.Cond.instantiable "FirstPolls$Value" (1 : Nat)) ∈ lw_all := lw_g (lw_at lw_m5 169 rfl) rfl
theorem q1262 : (Jvm.Cond.instanceMethod ({ cls := "FirstPolls$Value", name := "<init>", desc := "(I)V" } : Jvm.MethodName)) ∈ lw_all := lw_g (lw_at lw_m5 171 rfl) rfl
theorem q1263 : (Jvm.Cond.code ({ cls := "FirstPolls$Value", name := "<init>", desc := "(I)V" } : Jvm.MethodName) prog_23_method_1_code (2 : Nat) (Option.none : Option Jvm.ClassFile.FieldType)) ∈ lw_all := lw_g (lw_at lw_m5 172 rfl) rfl
theorem q1264 : (Jvm.Cond.methodLinkNest "FirstPolls$Value" (1 : Nat) ({ cls := "FirstPolls$Sum", name := "<init>", desc := "()V" } : Jvm.MethodName) "FirstPolls") ∈ lw_tbl := lw_at lw_m5 173 rfl
theorem q1265 : (Jvm.Cond.fieldLink "FirstPolls$Value" (7 : Nat) "FirstPolls$Value" "which" "I") ∈ lw_all := lw_g (lw_at lw_m5 174 rfl) rfl
theorem q1266 : (Jvm.Cond.laysFinal "FirstPolls$Value" "FirstPolls$Value" "which" "I") ∈ lw_all := lw_g (lw_at lw_m5 175 rfl) rfl
theorem q1267 : (Jvm.Cond.soleField "FirstPolls$Value" "which") ∈ lw_all := lw_g (lw_at lw_m5 176 rfl) rfl
theorem q1268 : (Jvm.Cond.superclass "FirstPolls$Value" "FirstPolls$Sum") ∈ lw_all := lw_g (lw_at lw_m5 177 rfl) rfl
theorem q1472 : (Jvm.Cond.instanceMethod ({ cls := "FirstPolls$Value", name := "of", desc := "(LFirstPolls$Setting;)J" } : Jvm.MethodName)) ∈ lw_all := lw_g (lw_at lw_m6 141 rfl) rfl
theorem q1473 : (Jvm.Cond.code ({ cls := "FirstPolls$Value", name := "of", desc := "(LFirstPolls$Setting;)J" } : Jvm.MethodName) prog_23_method_2_code (2 : Nat) (Option.some Jvm.ClassFile.FieldType.long)) ∈ lw_all := lw_g (lw_at lw_m6 142 rfl) rfl
theorem q1476 : (Jvm.Cond.selects "FirstPolls$Value" ({ cls := "FirstPolls$Sum", name := "of", desc := "(LFirstPolls$Setting;)J" } : Jvm.MethodName) ({ cls := "FirstPolls$Value", name := "of", desc := "(LFirstPolls$Setting;)J" } : Jvm.MethodName)) ∈ lw_all := lw_g (lw_at lw_m6 145 rfl) rfl
theorem q2555 : (Jvm.Cond.castable "FirstPolls$Value" "java/lang/Object") ∈ lw_tbl := lw_at lw_m11 24 rfl
theorem in_X18 : ∀ w ∈ wsX180, w ∈ lw_all := lw_in wsX180 [1266] (by decide +kernel) (by decide +kernel)
theorem q168 : (Jvm.Cond.initialized "FirstPolls$Two") ∈ lw_all := lw_g (lw_at lw_m1 37 rfl) rfl
theorem q435 : (Jvm.Cond.fieldLinkNest "FirstPolls$Two" (26 : Nat) "FirstPolls$Setting" "broken" "LFirstPolls$Broken;" "FirstPolls") ∈ lw_tbl := lw_at lw_m2 64 rfl
theorem q712 : (Jvm.Cond.selects "FirstPolls$Two" ({ cls := "java/lang/Object", name := "getClass", desc := "()Ljava/lang/Class;" } : Jvm.MethodName) ({ cls := "java/lang/Object", name := "getClass", desc := "()Ljava/lang/Class;" } : Jvm.MethodName)) ∈ lw_all := lw_g (lw_at lw_m3 101 rfl) rfl
theorem q1272 : (Jvm.Cond.instantiable "FirstPolls$Two" (3 : Nat)) ∈ lw_all := lw_g (lw_at lw_m5 181 rfl) rfl
theorem q1274 : (Jvm.Cond.instanceMethod ({ cls := "FirstPolls$Two", name := "<init>", desc := "(CLFirstPolls$Sum;LFirstPolls$Sum;)V" } : Jvm.MethodName)) ∈ lw_all := lw_g (lw_at lw_m5 183 rfl) rfl
theorem q1275 : (Jvm.Cond.code ({ cls := "FirstPolls$Two", name := "<init>", desc := "(CLFirstPolls$Sum;LFirstPolls$Sum;)V" } : Jvm.MethodName) prog_22_method_1_code (4 : Nat) (Option.none : Option Jvm.ClassFile.FieldType)) ∈ lw_all := lw_g (lw_at lw_m5 184 rfl) rfl
theorem q1276 : (Jvm.Cond.methodLinkNest "FirstPolls$Two" (3 : Nat) ({ cls := "FirstPolls$Sum", name := "<init>", desc := "()V" } : Jvm.MethodName) "FirstPolls") ∈ lw_tbl := lw_at lw_m5 185 rfl
theorem q1277 : (Jvm.Cond.fieldLink "FirstPolls$Two" (9 : Nat) "FirstPolls$Two" "sign" "C") ∈ lw_all := lw_g (lw_at lw_m5 186 rfl) rfl
theorem q1278 : (Jvm.Cond.fieldLink "FirstPolls$Two" (15 : Nat) "FirstPolls$Two" "left" "LFirstPolls$Sum;") ∈ lw_all := lw_g (lw_at lw_m5 187 rfl) rfl
theorem q1279 : (Jvm.Cond.fieldLink "FirstPolls$Two" (19 : Nat) "FirstPolls$Two" "right" "LFirstPolls$Sum;") ∈ lw_all := lw_g (lw_at lw_m5 188 rfl) rfl
theorem q1280 : (Jvm.Cond.laysFinal "FirstPolls$Two" "FirstPolls$Two" "sign" "C") ∈ lw_all := lw_g (lw_at lw_m5 189 rfl) rfl
theorem q1281 : (Jvm.Cond.soleField "FirstPolls$Two" "sign") ∈ lw_all := lw_g (lw_at lw_m5 190 rfl) rfl
theorem q1282 : (Jvm.Cond.laysFinal "FirstPolls$Two" "FirstPolls$Two" "left" "LFirstPolls$Sum;") ∈ lw_all := lw_g (lw_at lw_m5 191 rfl) rfl
theorem q1283 : (Jvm.Cond.soleField "FirstPolls$Two" "left") ∈ lw_all := lw_g (lw_at lw_m5 192 rfl) rfl
theorem q1284 : (Jvm.Cond.laysFinal "FirstPolls$Two" "FirstPolls$Two" "right" "LFirstPolls$Sum;") ∈ lw_all := lw_g (lw_at lw_m5 193 rfl) rfl
theorem q1285 : (Jvm.Cond.soleField "FirstPolls$Two" "right") ∈ lw_all := lw_g (lw_at lw_m5 194 rfl) rfl
theorem q1286 : (Jvm.Cond.superclass "FirstPolls$Two" "FirstPolls$Sum") ∈ lw_all := lw_g (lw_at lw_m5 195 rfl) rfl
theorem q1468 : (Jvm.Cond.selects "FirstPolls$Two" ({ cls := "FirstPolls$Sum", name := "of", desc := "(LFirstPolls$Setting;)J" } : Jvm.MethodName) ({ cls := "FirstPolls$Two", name := "of", desc := "(LFirstPolls$Setting;)J" } : Jvm.MethodName)) ∈ lw_all := lw_g (lw_at lw_m6 137 rfl) rfl
theorem q1469 : (Jvm.Cond.instanceMethod ({ cls := "FirstPolls$Two", name := "of", desc := "(LFirstPolls$Setting;)J" } : Jvm.MethodName)) ∈ lw_all := lw_g (lw_at lw_m6 138 rfl) rfl
theorem q1470 : (Jvm.Cond.code ({ cls := "FirstPolls$Two", name := "of", desc := "(LFirstPolls$Setting;)J" } : Jvm.MethodName) prog_22_method_2_code (8 : Nat) (Option.some Jvm.ClassFile.FieldType.long)) ∈ lw_all := lw_g (lw_at lw_m6 139 rfl) rfl
theorem q1471 : (Jvm.Cond.methodLink "FirstPolls$Two" (22 : Nat) ({ cls := "FirstPolls$Sum", name := "of", desc := "(LFirstPolls$Setting;)J" } : Jvm.MethodName)) ∈ lw_all := lw_g (lw_at lw_m6 140 rfl) rfl
theorem q1474 : (Jvm.Cond.constantLong "FirstPolls$Two" (32 : Nat) (1000000000 : Int64)) ∈ lw_all := lw_g (lw_at lw_m6 143 rfl) rfl
theorem q1475 : (Jvm.Cond.constantLong "FirstPolls$Two" (34 : Nat) (-1000000000 : Int64)) ∈ lw_all := lw_g (lw_at lw_m6 144 rfl) rfl
theorem q2556 : (Jvm.Cond.castable "FirstPolls$Two" "java/lang/Object") ∈ lw_tbl := lw_at lw_m11 25 rfl
theorem in_X19 : ∀ w ∈ wsX190, w ∈ lw_all := lw_in wsX190 [1280, 1282, 1284] (by decide +kernel) (by decide +kernel)
theorem q169 : (Jvm.Cond.initialized "FirstPolls$Test") ∈ lw_all := lw_g (lw_at lw_m1 38 rfl) rfl
theorem q1324 : (Jvm.Cond.instanceMethod ({ cls := "FirstPolls$Test", name := "<init>", desc := "()V" } : Jvm.MethodName)) ∈ lw_all := lw_g (lw_at lw_m5 233 rfl) rfl
theorem q1325 : (Jvm.Cond.code ({ cls := "FirstPolls$Test", name := "<init>", desc := "()V" } : Jvm.MethodName) prog_20_method_1_code (1 : Nat) (Option.none : Option Jvm.ClassFile.FieldType)) ∈ lw_all := lw_g (lw_at lw_m5 234 rfl) rfl
theorem q1326 : (Jvm.Cond.methodLink "FirstPolls$Test" (1 : Nat) ({ cls := "java/lang/Object", name := "<init>", desc := "()V" } : Jvm.MethodName)) ∈ lw_all := lw_g (lw_at lw_m5 235 rfl) rfl
theorem q1457 : (Jvm.Cond.declares ({ cls := "FirstPolls$Test", name := "is", desc := "(LFirstPolls$Setting;)Z" } : Jvm.MethodName)) ∈ lw_tbl := lw_at lw_m6 126 rfl
theorem q1458 : (Jvm.Cond.sameMethod "FirstPolls$Test" "FirstPolls$Test" "is" "(LFirstPolls$Setting;)Z") ∈ lw_all := lw_g (lw_at lw_m6 127 rfl) rfl
theorem q170 : (Jvm.Cond.initialized "FirstPolls$Flag") ∈ lw_all := lw_g (lw_at lw_m1 39 rfl) rfl
theorem q442 : (Jvm.Cond.fieldLinkNest "FirstPolls$Flag" (13 : Nat) "FirstPolls$Setting" "flags" "[Z" "FirstPolls") ∈ lw_tbl := lw_at lw_m2 71 rfl
theorem q699 : (Jvm.Cond.selects "FirstPolls$Flag" ({ cls := "java/lang/Object", name := "getClass", desc := "()Ljava/lang/Class;" } : Jvm.MethodName) ({ cls := "java/lang/Object", name := "getClass", desc := "()Ljava/lang/Class;" } : Jvm.MethodName)) ∈ lw_all := lw_g (lw_at lw_m3 88 rfl) rfl
theorem q1319 : (Jvm.Cond.instantiable "FirstPolls$Flag" (1 : Nat)) ∈ lw_all := lw_g (lw_at lw_m5 228 rfl) rfl
theorem q1321 : (Jvm.Cond.instanceMethod ({ cls := "FirstPolls$Flag", name := "<init>", desc := "(I)V" } : Jvm.MethodName)) ∈ lw_all := lw_g (lw_at lw_m5 230 rfl) rfl
theorem q1322 : (Jvm.Cond.code ({ cls := "FirstPolls$Flag", name := "<init>", desc := "(I)V" } : Jvm.MethodName) prog_7_method_1_code (2 : Nat) (Option.none : Option Jvm.ClassFile.FieldType)) ∈ lw_all := lw_g (lw_at lw_m5 231 rfl) rfl
theorem q1323 : (Jvm.Cond.methodLinkNest "FirstPolls$Flag" (1 : Nat) ({ cls := "FirstPolls$Test", name := "<init>", desc := "()V" } : Jvm.MethodName) "FirstPolls") ∈ lw_tbl := lw_at lw_m5 232 rfl
theorem q1327 : (Jvm.Cond.fieldLink "FirstPolls$Flag" (7 : Nat) "FirstPolls$Flag" "which" "I") ∈ lw_all := lw_g (lw_at lw_m5 236 rfl) rfl
theorem q1328 : (Jvm.Cond.laysFinal "FirstPolls$Flag" "FirstPolls$Flag" "which" "I") ∈ lw_all := lw_g (lw_at lw_m5 237 rfl) rfl
theorem q1329 : (Jvm.Cond.soleField "FirstPolls$Flag" "which") ∈ lw_all := lw_g (lw_at lw_m5 238 rfl) rfl
theorem q1330 : (Jvm.Cond.superclass "FirstPolls$Flag" "FirstPolls$Test") ∈ lw_all := lw_g (lw_at lw_m5 239 rfl) rfl
theorem q1477 : (Jvm.Cond.selects "FirstPolls$Flag" ({ cls := "FirstPolls$Test", name := "is", desc := "(LFirstPolls$Setting;)Z" } : Jvm.MethodName) ({ cls := "FirstPolls$Flag", name := "is", desc := "(LFirstPolls$Setting;)Z" } : Jvm.MethodName)) ∈ lw_all := lw_g (lw_at lw_m6 146 rfl) rfl
theorem q1478 : (Jvm.Cond.instanceMethod ({ cls := "FirstPolls$Flag", name := "is", desc := "(LFirstPolls$Setting;)Z" } : Jvm.MethodName)) ∈ lw_all := lw_g (lw_at lw_m6 147 rfl) rfl
theorem q1479 : (Jvm.Cond.code ({ cls := "FirstPolls$Flag", name := "is", desc := "(LFirstPolls$Setting;)Z" } : Jvm.MethodName) prog_7_method_2_code (2 : Nat) (Option.some Jvm.ClassFile.FieldType.boolean)) ∈ lw_all := lw_g (lw_at lw_m6 148 rfl) rfl
theorem q2533 : (Jvm.Cond.castable "FirstPolls$Flag" "FirstPolls$Test") ∈ lw_tbl := lw_at lw_m11 2 rfl
theorem q2557 : (Jvm.Cond.castable "FirstPolls$Flag" "java/lang/Object") ∈ lw_tbl := lw_at lw_m11 26 rfl
theorem in_X21 : ∀ w ∈ wsX210, w ∈ lw_all := lw_in wsX210 [1328] (by decide +kernel) (by decide +kernel)
theorem q171 : (Jvm.Cond.initialized "FirstPolls$Compare") ∈ lw_all := lw_g (lw_at lw_m1 40 rfl) rfl
theorem q696 : (Jvm.Cond.selects "FirstPolls$Compare" ({ cls := "java/lang/Object", name := "getClass", desc := "()Ljava/lang/Class;" } : Jvm.MethodName) ({ cls := "java/lang/Object", name := "getClass", desc := "()Ljava/lang/Class;" } : Jvm.MethodName)) ∈ lw_all := lw_g (lw_at lw_m3 85 rfl) rfl
theorem q1335 : (Jvm.Cond.instantiable "FirstPolls$Compare" (3 : Nat)) ∈ lw_all := lw_g (lw_at lw_m6 4 rfl) rfl
theorem q1337 : (Jvm.Cond.instanceMethod ({ cls := "FirstPolls$Compare", name := "<init>", desc := "(CLFirstPolls$Sum;LFirstPolls$Sum;)V" } : Jvm.MethodName)) ∈ lw_all := lw_g (lw_at lw_m6 6 rfl) rfl
theorem q1338 : (Jvm.Cond.code ({ cls := "FirstPolls$Compare", name := "<init>", desc := "(CLFirstPolls$Sum;LFirstPolls$Sum;)V" } : Jvm.MethodName) prog_4_method_1_code (4 : Nat) (Option.none : Option Jvm.ClassFile.FieldType)) ∈ lw_all := lw_g (lw_at lw_m6 7 rfl) rfl
theorem q1339 : (Jvm.Cond.methodLinkNest "FirstPolls$Compare" (1 : Nat) ({ cls := "FirstPolls$Test", name := "<init>", desc := "()V" } : Jvm.MethodName) "FirstPolls") ∈ lw_tbl := lw_at lw_m6 8 rfl
theorem q1340 : (Jvm.Cond.fieldLink "FirstPolls$Compare" (7 : Nat) "FirstPolls$Compare" "sign" "C") ∈ lw_all := lw_g (lw_at lw_m6 9 rfl) rfl
theorem q1341 : (Jvm.Cond.fieldLink "FirstPolls$Compare" (13 : Nat) "FirstPolls$Compare" "left" "LFirstPolls$Sum;") ∈ lw_all := lw_g (lw_at lw_m6 10 rfl) rfl
theorem q1342 : (Jvm.Cond.fieldLink "FirstPolls$Compare" (17 : Nat) "FirstPolls$Compare" "right" "LFirstPolls$Sum;") ∈ lw_all := lw_g (lw_at lw_m6 11 rfl) rfl
theorem q1343 : (Jvm.Cond.laysFinal "FirstPolls$Compare" "FirstPolls$Compare" "sign" "C") ∈ lw_all := lw_g (lw_at lw_m6 12 rfl) rfl
theorem q1344 : (Jvm.Cond.soleField "FirstPolls$Compare" "sign") ∈ lw_all := lw_g (lw_at lw_m6 13 rfl) rfl
theorem q1345 : (Jvm.Cond.laysFinal "FirstPolls$Compare" "FirstPolls$Compare" "left" "LFirstPolls$Sum;") ∈ lw_all := lw_g (lw_at lw_m6 14 rfl) rfl
theorem q1346 : (Jvm.Cond.soleField "FirstPolls$Compare" "left") ∈ lw_all := lw_g (lw_at lw_m6 15 rfl) rfl
theorem q1347 : (Jvm.Cond.laysFinal "FirstPolls$Compare" "FirstPolls$Compare" "right" "LFirstPolls$Sum;") ∈ lw_all := lw_g (lw_at lw_m6 16 rfl) rfl
theorem q1348 : (Jvm.Cond.soleField "FirstPolls$Compare" "right") ∈ lw_all := lw_g (lw_at lw_m6 17 rfl) rfl
theorem q1349 : (Jvm.Cond.superclass "FirstPolls$Compare" "FirstPolls$Test") ∈ lw_all := lw_g (lw_at lw_m6 18 rfl) rfl
theorem q1459 : (Jvm.Cond.selects "FirstPolls$Compare" ({ cls := "FirstPolls$Test", name := "is", desc := "(LFirstPolls$Setting;)Z" } : Jvm.MethodName) ({ cls := "FirstPolls$Compare", name := "is", desc := "(LFirstPolls$Setting;)Z" } : Jvm.MethodName)) ∈ lw_all := lw_g (lw_at lw_m6 128 rfl) rfl
theorem q1460 : (Jvm.Cond.instanceMethod ({ cls := "FirstPolls$Compare", name := "is", desc := "(LFirstPolls$Setting;)Z" } : Jvm.MethodName)) ∈ lw_all := lw_g (lw_at lw_m6 129 rfl) rfl
theorem q1461 : (Jvm.Cond.code ({ cls := "FirstPolls$Compare", name := "is", desc := "(LFirstPolls$Setting;)Z" } : Jvm.MethodName) prog_4_method_2_code (6 : Nat) (Option.some Jvm.ClassFile.FieldType.boolean)) ∈ lw_all := lw_g (lw_at lw_m6 130 rfl) rfl
theorem q1462 : (Jvm.Cond.methodLink "FirstPolls$Compare" (20 : Nat) ({ cls := "FirstPolls$Sum", name := "of", desc := "(LFirstPolls$Setting;)J" } : Jvm.MethodName)) ∈ lw_all := lw_g (lw_at lw_m6 131 rfl) rfl
theorem q2532 : (Jvm.Cond.castable "FirstPolls$Compare" "FirstPolls$Test") ∈ lw_tbl := lw_at lw_m11 1 rfl
theorem q2558 : (Jvm.Cond.castable "FirstPolls$Compare" "java/lang/Object") ∈ lw_tbl := lw_at lw_m11 27 rfl
theorem in_X22 : ∀ w ∈ wsX220, w ∈ lw_all := lw_in wsX220 [1343, 1345, 1347] (by decide +kernel) (by decide +kernel)
theorem q172 : (Jvm.Cond.initialized "FirstPolls$Not") ∈ lw_all := lw_g (lw_at lw_m1 41 rfl) rfl
theorem q703 : (Jvm.Cond.selects "FirstPolls$Not" ({ cls := "java/lang/Object", name := "getClass", desc := "()Ljava/lang/Class;" } : Jvm.MethodName) ({ cls := "java/lang/Object", name := "getClass", desc := "()Ljava/lang/Class;" } : Jvm.MethodName)) ∈ lw_all := lw_g (lw_at lw_m3 92 rfl) rfl
theorem q1351 : (Jvm.Cond.instantiable "FirstPolls$Not" (1 : Nat)) ∈ lw_all := lw_g (lw_at lw_m6 20 rfl) rfl
theorem q1353 : (Jvm.Cond.instanceMethod ({ cls := "FirstPolls$Not", name := "<init>", desc := "(LFirstPolls$Test;)V" } : Jvm.MethodName)) ∈ lw_all := lw_g (lw_at lw_m6 22 rfl) rfl
theorem q1354 : (Jvm.Cond.code ({ cls := "FirstPolls$Not", name := "<init>", desc := "(LFirstPolls$Test;)V" } : Jvm.MethodName) prog_11_method_1_code (2 : Nat) (Option.none : Option Jvm.ClassFile.FieldType)) ∈ lw_all := lw_g (lw_at lw_m6 23 rfl) rfl
theorem q1355 : (Jvm.Cond.methodLinkNest "FirstPolls$Not" (1 : Nat) ({ cls := "FirstPolls$Test", name := "<init>", desc := "()V" } : Jvm.MethodName) "FirstPolls") ∈ lw_tbl := lw_at lw_m6 24 rfl
theorem q1356 : (Jvm.Cond.fieldLink "FirstPolls$Not" (7 : Nat) "FirstPolls$Not" "of" "LFirstPolls$Test;") ∈ lw_all := lw_g (lw_at lw_m6 25 rfl) rfl
theorem q1357 : (Jvm.Cond.laysFinal "FirstPolls$Not" "FirstPolls$Not" "of" "LFirstPolls$Test;") ∈ lw_all := lw_g (lw_at lw_m6 26 rfl) rfl
theorem q1358 : (Jvm.Cond.soleField "FirstPolls$Not" "of") ∈ lw_all := lw_g (lw_at lw_m6 27 rfl) rfl
theorem q1359 : (Jvm.Cond.superclass "FirstPolls$Not" "FirstPolls$Test") ∈ lw_all := lw_g (lw_at lw_m6 28 rfl) rfl
theorem q1480 : (Jvm.Cond.selects "FirstPolls$Not" ({ cls := "FirstPolls$Test", name := "is", desc := "(LFirstPolls$Setting;)Z" } : Jvm.MethodName) ({ cls := "FirstPolls$Not", name := "is", desc := "(LFirstPolls$Setting;)Z" } : Jvm.MethodName)) ∈ lw_all := lw_g (lw_at lw_m6 149 rfl) rfl
theorem q1481 : (Jvm.Cond.instanceMethod ({ cls := "FirstPolls$Not", name := "is", desc := "(LFirstPolls$Setting;)Z" } : Jvm.MethodName)) ∈ lw_all := lw_g (lw_at lw_m6 150 rfl) rfl
theorem q1482 : (Jvm.Cond.code ({ cls := "FirstPolls$Not", name := "is", desc := "(LFirstPolls$Setting;)Z" } : Jvm.MethodName) prog_11_method_2_code (2 : Nat) (Option.some Jvm.ClassFile.FieldType.boolean)) ∈ lw_all := lw_g (lw_at lw_m6 151 rfl) rfl
theorem q1483 : (Jvm.Cond.methodLink "FirstPolls$Not" (13 : Nat) ({ cls := "FirstPolls$Test", name := "is", desc := "(LFirstPolls$Setting;)Z" } : Jvm.MethodName)) ∈ lw_all := lw_g (lw_at lw_m6 152 rfl) rfl
theorem q2534 : (Jvm.Cond.castable "FirstPolls$Not" "FirstPolls$Test") ∈ lw_tbl := lw_at lw_m11 3 rfl
theorem q2559 : (Jvm.Cond.castable "FirstPolls$Not" "java/lang/Object") ∈ lw_tbl := lw_at lw_m11 28 rfl
theorem in_X23 : ∀ w ∈ wsX230, w ∈ lw_all := lw_in wsX230 [1357] (by decide +kernel) (by decide +kernel)
theorem q173 : (Jvm.Cond.initialized "FirstPolls$Several") ∈ lw_all := lw_g (lw_at lw_m1 42 rfl) rfl
theorem q710 : (Jvm.Cond.selects "FirstPolls$Several" ({ cls := "java/lang/Object", name := "getClass", desc := "()Ljava/lang/Class;" } : Jvm.MethodName) ({ cls := "java/lang/Object", name := "getClass", desc := "()Ljava/lang/Class;" } : Jvm.MethodName)) ∈ lw_all := lw_g (lw_at lw_m3 99 rfl) rfl
theorem q1362 : (Jvm.Cond.instantiable "FirstPolls$Several" (2 : Nat)) ∈ lw_all := lw_g (lw_at lw_m6 31 rfl) rfl
theorem q1364 : (Jvm.Cond.instanceMethod ({ cls := "FirstPolls$Several", name := "<init>", desc := "(Z)V" } : Jvm.MethodName)) ∈ lw_all := lw_g (lw_at lw_m6 33 rfl) rfl
theorem q1365 : (Jvm.Cond.code ({ cls := "FirstPolls$Several", name := "<init>", desc := "(Z)V" } : Jvm.MethodName) prog_18_method_1_code (2 : Nat) (Option.none : Option Jvm.ClassFile.FieldType)) ∈ lw_all := lw_g (lw_at lw_m6 34 rfl) rfl
theorem q1366 : (Jvm.Cond.methodLinkNest "FirstPolls$Several" (1 : Nat) ({ cls := "FirstPolls$Test", name := "<init>", desc := "()V" } : Jvm.MethodName) "FirstPolls") ∈ lw_tbl := lw_at lw_m6 35 rfl
theorem q1367 : (Jvm.Cond.classLink "FirstPolls$Several" (7 : Nat) "java/util/ArrayList") ∈ lw_all := lw_g (lw_at lw_m6 36 rfl) rfl
theorem q1368 : (Jvm.Cond.methodLink "FirstPolls$Several" (9 : Nat) ({ cls := "java/util/ArrayList", name := "<init>", desc := "(I)V" } : Jvm.MethodName)) ∈ lw_all := lw_g (lw_at lw_m6 37 rfl) rfl
theorem q1369 : (Jvm.Cond.fieldLink "FirstPolls$Several" (18 : Nat) "FirstPolls$Several" "all" "Z") ∈ lw_all := lw_g (lw_at lw_m6 38 rfl) rfl
theorem q1370 : (Jvm.Cond.fieldLink "FirstPolls$Several" (12 : Nat) "FirstPolls$Several" "of" "Ljava/util/ArrayList;") ∈ lw_all := lw_g (lw_at lw_m6 39 rfl) rfl
theorem q1372 : (Jvm.Cond.laysFinal "FirstPolls$Several" "FirstPolls$Several" "all" "Z") ∈ lw_all := lw_g (lw_at lw_m6 41 rfl) rfl
theorem q1373 : (Jvm.Cond.soleField "FirstPolls$Several" "all") ∈ lw_all := lw_g (lw_at lw_m6 42 rfl) rfl
theorem q1374 : (Jvm.Cond.laysFinal "FirstPolls$Several" "FirstPolls$Several" "of" "Ljava/util/ArrayList;") ∈ lw_all := lw_g (lw_at lw_m6 43 rfl) rfl
theorem q1375 : (Jvm.Cond.soleField "FirstPolls$Several" "of") ∈ lw_all := lw_g (lw_at lw_m6 44 rfl) rfl
theorem q1376 : (Jvm.Cond.superclass "FirstPolls$Several" "FirstPolls$Test") ∈ lw_all := lw_g (lw_at lw_m6 45 rfl) rfl
theorem q1484 : (Jvm.Cond.instanceMethod ({ cls := "FirstPolls$Several", name := "is", desc := "(LFirstPolls$Setting;)Z" } : Jvm.MethodName)) ∈ lw_all := lw_g (lw_at lw_m6 153 rfl) rfl
theorem q1485 : (Jvm.Cond.code ({ cls := "FirstPolls$Several", name := "is", desc := "(LFirstPolls$Setting;)Z" } : Jvm.MethodName) prog_18_method_2_code (3 : Nat) (Option.some Jvm.ClassFile.FieldType.boolean)) ∈ lw_all := lw_g (lw_at lw_m6 154 rfl) rfl
theorem q1486 : (Jvm.Cond.methodLink "FirstPolls$Several" (22 : Nat) ({ cls := "java/util/ArrayList", name := "size", desc := "()I" } : Jvm.MethodName)) ∈ lw_all := lw_g (lw_at lw_m6 155 rfl) rfl
theorem q1487 : (Jvm.Cond.methodLink "FirstPolls$Several" (26 : Nat) ({ cls := "java/util/ArrayList", name := "get", desc := "(I)Ljava/lang/Object;" } : Jvm.MethodName)) ∈ lw_all := lw_g (lw_at lw_m6 156 rfl) rfl
theorem q1488 : (Jvm.Cond.classLink "FirstPolls$Several" (2 : Nat) "FirstPolls$Test") ∈ lw_all := lw_g (lw_at lw_m6 157 rfl) rfl
theorem q1489 : (Jvm.Cond.methodLink "FirstPolls$Several" (30 : Nat) ({ cls := "FirstPolls$Test", name := "is", desc := "(LFirstPolls$Setting;)Z" } : Jvm.MethodName)) ∈ lw_all := lw_g (lw_at lw_m6 158 rfl) rfl
theorem q1490 : (Jvm.Cond.selects "FirstPolls$Several" ({ cls := "FirstPolls$Test", name := "is", desc := "(LFirstPolls$Setting;)Z" } : Jvm.MethodName) ({ cls := "FirstPolls$Several", name := "is", desc := "(LFirstPolls$Setting;)Z" } : Jvm.MethodName)) ∈ lw_all := lw_g (lw_at lw_m6 159 rfl) rfl
theorem q2535 : (Jvm.Cond.castable "FirstPolls$Several" "FirstPolls$Test") ∈ lw_tbl := lw_at lw_m11 4 rfl
theorem q2560 : (Jvm.Cond.castable "FirstPolls$Several" "java/lang/Object") ∈ lw_tbl := lw_at lw_m11 29 rfl
theorem in_X24 : ∀ w ∈ wsX240, w ∈ lw_all := lw_in wsX240 [1372, 1374] (by decide +kernel) (by decide +kernel)
theorem q174 : (Jvm.Cond.initialized "FirstPolls$Order") ∈ lw_all := lw_g (lw_at lw_m1 43 rfl) rfl
theorem q706 : (Jvm.Cond.selects "FirstPolls$Order" ({ cls := "java/lang/Object", name := "getClass", desc := "()Ljava/lang/Class;" } : Jvm.MethodName) ({ cls := "java/lang/Object", name := "getClass", desc := "()Ljava/lang/Class;" } : Jvm.MethodName)) ∈ lw_all := lw_g (lw_at lw_m3 95 rfl) rfl
theorem q1380 : (Jvm.Cond.instantiable "FirstPolls$Order" (3 : Nat)) ∈ lw_all := lw_g (lw_at lw_m6 49 rfl) rfl
theorem q1382 : (Jvm.Cond.instanceMethod ({ cls := "FirstPolls$Order", name := "<init>", desc := "(IILjava/util/ArrayList;)V" } : Jvm.MethodName)) ∈ lw_all := lw_g (lw_at lw_m6 51 rfl) rfl
theorem q1383 : (Jvm.Cond.code ({ cls := "FirstPolls$Order", name := "<init>", desc := "(IILjava/util/ArrayList;)V" } : Jvm.MethodName) prog_14_method_1_code (4 : Nat) (Option.none : Option Jvm.ClassFile.FieldType)) ∈ lw_all := lw_g (lw_at lw_m6 52 rfl) rfl
theorem q1384 : (Jvm.Cond.methodLink "FirstPolls$Order" (1 : Nat) ({ cls := "java/lang/Object", name := "<init>", desc := "()V" } : Jvm.MethodName)) ∈ lw_all := lw_g (lw_at lw_m6 53 rfl) rfl
theorem q1385 : (Jvm.Cond.fieldLink "FirstPolls$Order" (7 : Nat) "FirstPolls$Order" "place" "I") ∈ lw_all := lw_g (lw_at lw_m6 54 rfl) rfl
theorem q1387 : (Jvm.Cond.fieldLink "FirstPolls$Order" (13 : Nat) "FirstPolls$Order" "from" "I") ∈ lw_all := lw_g (lw_at lw_m6 56 rfl) rfl
theorem q1389 : (Jvm.Cond.fieldLink "FirstPolls$Order" (16 : Nat) "FirstPolls$Order" "clauses" "Ljava/util/ArrayList;") ∈ lw_all := lw_g (lw_at lw_m6 58 rfl) rfl
theorem q1392 : (Jvm.Cond.laysFinal "FirstPolls$Order" "FirstPolls$Order" "place" "I") ∈ lw_all := lw_g (lw_at lw_m6 61 rfl) rfl
theorem q1393 : (Jvm.Cond.soleField "FirstPolls$Order" "place") ∈ lw_all := lw_g (lw_at lw_m6 62 rfl) rfl
theorem q1394 : (Jvm.Cond.laysFinal "FirstPolls$Order" "FirstPolls$Order" "from" "I") ∈ lw_all := lw_g (lw_at lw_m6 63 rfl) rfl
theorem q1395 : (Jvm.Cond.soleField "FirstPolls$Order" "from") ∈ lw_all := lw_g (lw_at lw_m6 64 rfl) rfl
theorem q1396 : (Jvm.Cond.laysFinal "FirstPolls$Order" "FirstPolls$Order" "clauses" "Ljava/util/ArrayList;") ∈ lw_all := lw_g (lw_at lw_m6 65 rfl) rfl
theorem q1397 : (Jvm.Cond.soleField "FirstPolls$Order" "clauses") ∈ lw_all := lw_g (lw_at lw_m6 66 rfl) rfl
theorem q1398 : (Jvm.Cond.superclass "FirstPolls$Order" "java/lang/Object") ∈ lw_all := lw_g (lw_at lw_m6 67 rfl) rfl
theorem q2561 : (Jvm.Cond.castable "FirstPolls$Order" "java/lang/Object") ∈ lw_tbl := lw_at lw_m11 30 rfl
theorem in_X25 : ∀ w ∈ wsX250, w ∈ lw_all := lw_in wsX250 [1392, 1394, 1396] (by decide +kernel) (by decide +kernel)
theorem q175 : (Jvm.Cond.initialized "java/lang/Integer") ∈ lw_all := lw_g (lw_at lw_m1 44 rfl) rfl
theorem q1551 : (Jvm.Cond.static ({ cls := "java/lang/Integer", name := "bitCount", desc := "(I)I" } : Jvm.MethodName)) ∈ lw_all := lw_g (lw_at lw_m6 220 rfl) rfl
theorem q1552 : (Jvm.Cond.code ({ cls := "java/lang/Integer", name := "bitCount", desc := "(I)I" } : Jvm.MethodName) prog_35_method_49_code (1 : Nat) (Option.some Jvm.ClassFile.FieldType.int)) ∈ lw_all := lw_g (lw_at lw_m6 221 rfl) rfl
theorem q1553 : (Jvm.Cond.constant "java/lang/Integer" (265 : Nat) (1431655765 : Int32)) ∈ lw_all := lw_g (lw_at lw_m6 222 rfl) rfl
theorem q1554 : (Jvm.Cond.constant "java/lang/Integer" (266 : Nat) (858993459 : Int32)) ∈ lw_all := lw_g (lw_at lw_m6 223 rfl) rfl
theorem q1555 : (Jvm.Cond.constant "java/lang/Integer" (267 : Nat) (252645135 : Int32)) ∈ lw_all := lw_g (lw_at lw_m6 224 rfl) rfl
theorem q182 : (Jvm.Cond.instanceMethod ({ cls := "java/lang/Object", name := "<init>", desc := "()V" } : Jvm.MethodName)) ∈ lw_all := lw_g (lw_at lw_m1 51 rfl) rfl
theorem q183 : (Jvm.Cond.code ({ cls := "java/lang/Object", name := "<init>", desc := "()V" } : Jvm.MethodName) object_method_1_code (1 : Nat) (Option.none : Option Jvm.ClassFile.FieldType)) ∈ lw_all := lw_g (lw_at lw_m1 52 rfl) rfl
theorem q691 : (Jvm.Cond.instanceMethod ({ cls := "java/lang/Object", name := "getClass", desc := "()Ljava/lang/Class;" } : Jvm.MethodName)) ∈ lw_all := lw_g (lw_at lw_m3 80 rfl) rfl
theorem q692 : (Jvm.Cond.sameMethod "java/lang/Object" "java/lang/Object" "getClass" "()Ljava/lang/Class;") ∈ lw_all := lw_g (lw_at lw_m3 81 rfl) rfl
theorem q719 : (Jvm.Cond.native ({ cls := "java/lang/Object", name := "getClass", desc := "()Ljava/lang/Class;" } : Jvm.MethodName)) ∈ lw_all := lw_g (lw_at lw_m3 108 rfl) rfl
theorem q2566 : (Jvm.Cond.declares ({ cls := "java/lang/Object", name := "getClass", desc := "()Ljava/lang/Class;" } : Jvm.MethodName)) ∈ lw_tbl := lw_at lw_m11 35 rfl
theorem q203 : (Jvm.Cond.arrayOver (Jvm.ClassFile.FieldType.object "java/lang/Object")) ∈ lw_tbl := lw_at lw_m1 72 rfl
theorem q339 : (Jvm.Cond.arrayClass Jvm.ClassFile.FieldType.int) ∈ lw_all := lw_g (lw_at lw_m1 208 rfl) rfl
theorem q340 : (Jvm.Cond.arrayClass Jvm.ClassFile.FieldType.long) ∈ lw_all := lw_g (lw_at lw_m1 209 rfl) rfl
theorem q341 : (Jvm.Cond.arrayClass Jvm.ClassFile.FieldType.boolean) ∈ lw_all := lw_g (lw_at lw_m1 210 rfl) rfl
theorem q342 : (Jvm.Cond.arrayOver (Jvm.ClassFile.FieldType.object "FirstPolls$Told")) ∈ lw_tbl := lw_at lw_m1 211 rfl
theorem q366 : (Jvm.Cond.arrayClass Jvm.ClassFile.FieldType.byte) ∈ lw_all := lw_g (lw_at lw_m1 235 rfl) rfl
theorem q131 : (Jvm.Cond.initialized "FirstPollsLaw") ∈ lw_all := lw_g (lw_at lw_m1 0 rfl) rfl
theorem q176 : (Jvm.Cond.classLink "FirstPollsLaw" (7 : Nat) "FirstPolls") ∈ lw_all := lw_g (lw_at lw_m1 45 rfl) rfl
theorem q178 : (Jvm.Cond.methodLink "FirstPollsLaw" (9 : Nat) ({ cls := "FirstPolls", name := "<init>", desc := "()V" } : Jvm.MethodName)) ∈ lw_all := lw_g (lw_at lw_m1 47 rfl) rfl
theorem q651 : (Jvm.Cond.methodLink "FirstPollsLaw" (192 : Nat) ({ cls := "FirstPolls", name := "image", desc := "(I)I" } : Jvm.MethodName)) ∈ lw_all := lw_g (lw_at lw_m3 40 rfl) rfl
theorem q757 : (Jvm.Cond.methodLink "FirstPollsLaw" (196 : Nat) ({ cls := "FirstPolls", name := "back", desc := "(I)I" } : Jvm.MethodName)) ∈ lw_all := lw_g (lw_at lw_m3 146 rfl) rfl
theorem q765 : (Jvm.Cond.methodLink "FirstPollsLaw" (13 : Nat) ({ cls := "FirstPolls", name := "place", desc := "(III)I" } : Jvm.MethodName)) ∈ lw_all := lw_g (lw_at lw_m3 154 rfl) rfl
theorem q769 : (Jvm.Cond.methodLink "FirstPollsLaw" (18 : Nat) ({ cls := "FirstPolls", name := "name", desc := "(IIIIII)I" } : Jvm.MethodName)) ∈ lw_all := lw_g (lw_at lw_m3 158 rfl) rfl
theorem q872 : (Jvm.Cond.methodLink "FirstPollsLaw" (23 : Nat) ({ cls := "FirstPolls", name := "row", desc := "(II)I" } : Jvm.MethodName)) ∈ lw_all := lw_g (lw_at lw_m4 21 rfl) rfl
theorem q915 : (Jvm.Cond.methodLink "FirstPollsLaw" (28 : Nat) ({ cls := "FirstPolls", name := "off", desc := "(III)I" } : Jvm.MethodName)) ∈ lw_all := lw_g (lw_at lw_m4 64 rfl) rfl
theorem q923 : (Jvm.Cond.methodLink "FirstPollsLaw" (32 : Nat) ({ cls := "FirstPolls", name := "moved", desc := "(IIII)I" } : Jvm.MethodName)) ∈ lw_all := lw_g (lw_at lw_m4 72 rfl) rfl
theorem q941 : (Jvm.Cond.methodLink "FirstPollsLaw" (37 : Nat) ({ cls := "FirstPolls", name := "of", desc := "(II)I" } : Jvm.MethodName)) ∈ lw_all := lw_g (lw_at lw_m4 90 rfl) rfl
theorem q961 : (Jvm.Cond.methodLink "FirstPollsLaw" (41 : Nat) ({ cls := "FirstPolls", name := "where", desc := "(III)I" } : Jvm.MethodName)) ∈ lw_all := lw_g (lw_at lw_m4 110 rfl) rfl
theorem q973 : (Jvm.Cond.methodLink "FirstPollsLaw" (53 : Nat) ({ cls := "FirstPolls", name := "like", desc := "(II)I" } : Jvm.MethodName)) ∈ lw_all := lw_g (lw_at lw_m4 122 rfl) rfl
theorem q984 : (Jvm.Cond.methodLink "FirstPollsLaw" (57 : Nat) ({ cls := "FirstPolls", name := "apart", desc := "(II)I" } : Jvm.MethodName)) ∈ lw_all := lw_g (lw_at lw_m4 133 rfl) rfl
theorem q1019 : (Jvm.Cond.methodLink "FirstPollsLaw" (65 : Nat) ({ cls := "FirstPolls", name := "feed", desc := "(IIIII)I" } : Jvm.MethodName)) ∈ lw_all := lw_g (lw_at lw_m4 168 rfl) rfl
theorem q1027 : (Jvm.Cond.methodLink "FirstPollsLaw" (70 : Nat) ({ cls := "FirstPolls", name := "end", desc := "(I)I" } : Jvm.MethodName)) ∈ lw_all := lw_g (lw_at lw_m4 176 rfl) rfl
theorem q1031 : (Jvm.Cond.methodLink "FirstPollsLaw" (75 : Nat) ({ cls := "FirstPolls", name := "order", desc := "(I)I" } : Jvm.MethodName)) ∈ lw_all := lw_g (lw_at lw_m4 180 rfl) rfl
theorem q1399 : (Jvm.Cond.methodLink "FirstPollsLaw" (79 : Nat) ({ cls := "FirstPolls", name := "fault", desc := "()I" } : Jvm.MethodName)) ∈ lw_all := lw_g (lw_at lw_m6 68 rfl) rfl
theorem q1403 : (Jvm.Cond.methodLink "FirstPollsLaw" (84 : Nat) ({ cls := "FirstPolls", name := "force", desc := "(III)I" } : Jvm.MethodName)) ∈ lw_all := lw_g (lw_at lw_m6 72 rfl) rfl
theorem q1419 : (Jvm.Cond.methodLink "FirstPollsLaw" (45 : Nat) ({ cls := "FirstPolls", name := "on", desc := "(III)I" } : Jvm.MethodName)) ∈ lw_all := lw_g (lw_at lw_m6 88 rfl) rfl
theorem q1494 : (Jvm.Cond.methodLink "FirstPollsLaw" (49 : Nat) ({ cls := "FirstPolls", name := "roll", desc := "(III)I" } : Jvm.MethodName)) ∈ lw_all := lw_g (lw_at lw_m6 163 rfl) rfl
theorem q1498 : (Jvm.Cond.methodLink "FirstPollsLaw" (61 : Nat) ({ cls := "FirstPolls", name := "twice", desc := "(III)I" } : Jvm.MethodName)) ∈ lw_all := lw_g (lw_at lw_m6 167 rfl) rfl
theorem q1506 : (Jvm.Cond.methodLink "FirstPollsLaw" (88 : Nat) ({ cls := "FirstPolls", name := "rule", desc := "(IIII)I" } : Jvm.MethodName)) ∈ lw_all := lw_g (lw_at lw_m6 175 rfl) rfl
theorem q1530 : (Jvm.Cond.methodLink "FirstPollsLaw" (92 : Nat) ({ cls := "FirstPolls", name := "wish", desc := "(I)I" } : Jvm.MethodName)) ∈ lw_all := lw_g (lw_at lw_m6 199 rfl) rfl
theorem q1534 : (Jvm.Cond.methodLink "FirstPollsLaw" (96 : Nat) ({ cls := "FirstPolls", name := "clear", desc := "()I" } : Jvm.MethodName)) ∈ lw_all := lw_g (lw_at lw_m6 203 rfl) rfl
theorem q1538 : (Jvm.Cond.methodLink "FirstPollsLaw" (100 : Nat) ({ cls := "FirstPolls", name := "booths", desc := "(II)I" } : Jvm.MethodName)) ∈ lw_all := lw_g (lw_at lw_m6 207 rfl) rfl
theorem q1569 : (Jvm.Cond.methodLink "FirstPollsLaw" (104 : Nat) ({ cls := "FirstPolls", name := "led", desc := "(I)I" } : Jvm.MethodName)) ∈ lw_all := lw_g (lw_at lw_m6 238 rfl) rfl
theorem q1573 : (Jvm.Cond.methodLink "FirstPollsLaw" (108 : Nat) ({ cls := "FirstPolls", name := "judge", desc := "(III)I" } : Jvm.MethodName)) ∈ lw_all := lw_g (lw_at lw_m7 2 rfl) rfl
theorem q1577 : (Jvm.Cond.methodLink "FirstPollsLaw" (112 : Nat) ({ cls := "FirstPolls", name := "booth", desc := "(I)I" } : Jvm.MethodName)) ∈ lw_all := lw_g (lw_at lw_m7 6 rfl) rfl
theorem q1581 : (Jvm.Cond.methodLink "FirstPollsLaw" (116 : Nat) ({ cls := "FirstPolls", name := "box", desc := "(II)I" } : Jvm.MethodName)) ∈ lw_all := lw_g (lw_at lw_m7 10 rfl) rfl
theorem q1590 : (Jvm.Cond.methodLink "FirstPollsLaw" (120 : Nat) ({ cls := "FirstPolls", name := "hand", desc := "(IIIII)I" } : Jvm.MethodName)) ∈ lw_all := lw_g (lw_at lw_m7 19 rfl) rfl
theorem q1598 : (Jvm.Cond.methodLink "FirstPollsLaw" (124 : Nat) ({ cls := "FirstPolls", name := "held", desc := "(III)I" } : Jvm.MethodName)) ∈ lw_all := lw_g (lw_at lw_m7 27 rfl) rfl
theorem q1606 : (Jvm.Cond.methodLink "FirstPollsLaw" (128 : Nat) ({ cls := "FirstPolls", name := "broken", desc := "(III)I" } : Jvm.MethodName)) ∈ lw_all := lw_g (lw_at lw_m7 35 rfl) rfl
theorem q1614 : (Jvm.Cond.methodLink "FirstPollsLaw" (132 : Nat) ({ cls := "FirstPolls", name := "paper", desc := "(IIII)I" } : Jvm.MethodName)) ∈ lw_all := lw_g (lw_at lw_m7 43 rfl) rfl
theorem q1619 : (Jvm.Cond.methodLink "FirstPollsLaw" (136 : Nat) ({ cls := "FirstPolls", name := "count", desc := "(IIIII)I" } : Jvm.MethodName)) ∈ lw_all := lw_g (lw_at lw_m7 48 rfl) rfl
theorem q1623 : (Jvm.Cond.methodLink "FirstPollsLaw" (140 : Nat) ({ cls := "FirstPolls", name := "tells", desc := "(IIII)I" } : Jvm.MethodName)) ∈ lw_all := lw_g (lw_at lw_m7 52 rfl) rfl
theorem q1661 : (Jvm.Cond.methodLink "FirstPollsLaw" (144 : Nat) ({ cls := "FirstPolls", name := "keep", desc := "(II)I" } : Jvm.MethodName)) ∈ lw_all := lw_g (lw_at lw_m7 90 rfl) rfl
theorem q1665 : (Jvm.Cond.methodLink "FirstPollsLaw" (148 : Nat) ({ cls := "FirstPolls", name := "seat", desc := "(IIII)I" } : Jvm.MethodName)) ∈ lw_all := lw_g (lw_at lw_m7 94 rfl) rfl
theorem q1682 : (Jvm.Cond.methodLink "FirstPollsLaw" (152 : Nat) ({ cls := "FirstPolls", name := "hidden", desc := "(IIIII)I" } : Jvm.MethodName)) ∈ lw_all := lw_g (lw_at lw_m7 111 rfl) rfl
theorem q1694 : (Jvm.Cond.methodLink "FirstPollsLaw" (156 : Nat) ({ cls := "FirstPolls", name := "shares", desc := "(IIII)I" } : Jvm.MethodName)) ∈ lw_all := lw_g (lw_at lw_m7 123 rfl) rfl
theorem q1699 : (Jvm.Cond.methodLink "FirstPollsLaw" (160 : Nat) ({ cls := "FirstPolls", name := "terms", desc := "(II)I" } : Jvm.MethodName)) ∈ lw_all := lw_g (lw_at lw_m7 128 rfl) rfl
theorem q1703 : (Jvm.Cond.methodLink "FirstPollsLaw" (164 : Nat) ({ cls := "FirstPolls", name := "span", desc := "(III)I" } : Jvm.MethodName)) ∈ lw_all := lw_g (lw_at lw_m7 132 rfl) rfl
theorem q1707 : (Jvm.Cond.methodLink "FirstPollsLaw" (168 : Nat) ({ cls := "FirstPolls", name := "way", desc := "(II)I" } : Jvm.MethodName)) ∈ lw_all := lw_g (lw_at lw_m7 136 rfl) rfl
theorem q1719 : (Jvm.Cond.methodLink "FirstPollsLaw" (172 : Nat) ({ cls := "FirstPolls", name := "leg", desc := "(II)I" } : Jvm.MethodName)) ∈ lw_all := lw_g (lw_at lw_m7 148 rfl) rfl
theorem q1723 : (Jvm.Cond.methodLink "FirstPollsLaw" (176 : Nat) ({ cls := "FirstPolls", name := "doors", desc := "(IIII)I" } : Jvm.MethodName)) ∈ lw_all := lw_g (lw_at lw_m7 152 rfl) rfl
theorem q1735 : (Jvm.Cond.methodLink "FirstPollsLaw" (180 : Nat) ({ cls := "FirstPolls", name := "seal", desc := "(I)I" } : Jvm.MethodName)) ∈ lw_all := lw_g (lw_at lw_m7 164 rfl) rfl
theorem q1747 : (Jvm.Cond.methodLink "FirstPollsLaw" (184 : Nat) ({ cls := "FirstPolls", name := "alter", desc := "(II)I" } : Jvm.MethodName)) ∈ lw_all := lw_g (lw_at lw_m7 176 rfl) rfl
theorem q1751 : (Jvm.Cond.methodLink "FirstPollsLaw" (188 : Nat) ({ cls := "FirstPolls", name := "found", desc := "(I)I" } : Jvm.MethodName)) ∈ lw_all := lw_g (lw_at lw_m7 180 rfl) rfl
theorem q1755 : (Jvm.Cond.methodLink "FirstPollsLaw" (200 : Nat) ({ cls := "FirstPolls", name := "all", desc := "(I)I" } : Jvm.MethodName)) ∈ lw_all := lw_g (lw_at lw_m7 184 rfl) rfl
theorem q1759 : (Jvm.Cond.methodLink "FirstPollsLaw" (204 : Nat) ({ cls := "FirstPolls", name := "status", desc := "()I" } : Jvm.MethodName)) ∈ lw_all := lw_g (lw_at lw_m7 188 rfl) rfl
theorem q1763 : (Jvm.Cond.classLink "FirstPollsLaw" (10 : Nat) "FirstPollsModel") ∈ lw_all := lw_g (lw_at lw_m7 192 rfl) rfl
theorem q1765 : (Jvm.Cond.methodLink "FirstPollsLaw" (12 : Nat) ({ cls := "FirstPollsModel", name := "<init>", desc := "()V" } : Jvm.MethodName)) ∈ lw_all := lw_g (lw_at lw_m7 194 rfl) rfl
theorem q1957 : (Jvm.Cond.methodLink "FirstPollsLaw" (195 : Nat) ({ cls := "FirstPollsModel", name := "image", desc := "(I)I" } : Jvm.MethodName)) ∈ lw_all := lw_g (lw_at lw_m8 146 rfl) rfl
theorem q1968 : (Jvm.Cond.methodLink "FirstPollsLaw" (199 : Nat) ({ cls := "FirstPollsModel", name := "back", desc := "(I)I" } : Jvm.MethodName)) ∈ lw_all := lw_g (lw_at lw_m8 157 rfl) rfl
theorem q1972 : (Jvm.Cond.methodLink "FirstPollsLaw" (17 : Nat) ({ cls := "FirstPollsModel", name := "place", desc := "(III)I" } : Jvm.MethodName)) ∈ lw_all := lw_g (lw_at lw_m8 161 rfl) rfl
theorem q1981 : (Jvm.Cond.methodLink "FirstPollsLaw" (22 : Nat) ({ cls := "FirstPollsModel", name := "name", desc := "(IIIIII)I" } : Jvm.MethodName)) ∈ lw_all := lw_g (lw_at lw_m8 170 rfl) rfl
theorem q2014 : (Jvm.Cond.methodLink "FirstPollsLaw" (27 : Nat) ({ cls := "FirstPollsModel", name := "row", desc := "(II)I" } : Jvm.MethodName)) ∈ lw_all := lw_g (lw_at lw_m8 203 rfl) rfl
theorem q2018 : (Jvm.Cond.methodLink "FirstPollsLaw" (31 : Nat) ({ cls := "FirstPollsModel", name := "off", desc := "(III)I" } : Jvm.MethodName)) ∈ lw_all := lw_g (lw_at lw_m8 207 rfl) rfl
theorem q2026 : (Jvm.Cond.methodLink "FirstPollsLaw" (36 : Nat) ({ cls := "FirstPollsModel", name := "moved", desc := "(IIII)I" } : Jvm.MethodName)) ∈ lw_all := lw_g (lw_at lw_m8 215 rfl) rfl
theorem q2030 : (Jvm.Cond.methodLink "FirstPollsLaw" (40 : Nat) ({ cls := "FirstPollsModel", name := "of", desc := "(II)I" } : Jvm.MethodName)) ∈ lw_all := lw_g (lw_at lw_m8 219 rfl) rfl
theorem q2035 : (Jvm.Cond.methodLink "FirstPollsLaw" (44 : Nat) ({ cls := "FirstPollsModel", name := "where", desc := "(III)I" } : Jvm.MethodName)) ∈ lw_all := lw_g (lw_at lw_m8 224 rfl) rfl
theorem q2047 : (Jvm.Cond.methodLink "FirstPollsLaw" (48 : Nat) ({ cls := "FirstPollsModel", name := "on", desc := "(III)I" } : Jvm.MethodName)) ∈ lw_all := lw_g (lw_at lw_m8 236 rfl) rfl
theorem q2091 : (Jvm.Cond.methodLink "FirstPollsLaw" (52 : Nat) ({ cls := "FirstPollsModel", name := "roll", desc := "(III)I" } : Jvm.MethodName)) ∈ lw_all := lw_g (lw_at lw_m9 40 rfl) rfl
theorem q2099 : (Jvm.Cond.methodLink "FirstPollsLaw" (56 : Nat) ({ cls := "FirstPollsModel", name := "like", desc := "(II)I" } : Jvm.MethodName)) ∈ lw_all := lw_g (lw_at lw_m9 48 rfl) rfl
theorem q2109 : (Jvm.Cond.methodLink "FirstPollsLaw" (60 : Nat) ({ cls := "FirstPollsModel", name := "apart", desc := "(II)I" } : Jvm.MethodName)) ∈ lw_all := lw_g (lw_at lw_m9 58 rfl) rfl
theorem q2113 : (Jvm.Cond.methodLink "FirstPollsLaw" (64 : Nat) ({ cls := "FirstPollsModel", name := "twice", desc := "(III)I" } : Jvm.MethodName)) ∈ lw_all := lw_g (lw_at lw_m9 62 rfl) rfl
theorem q2121 : (Jvm.Cond.methodLink "FirstPollsLaw" (69 : Nat) ({ cls := "FirstPollsModel", name := "feed", desc := "(IIIII)I" } : Jvm.MethodName)) ∈ lw_all := lw_g (lw_at lw_m9 70 rfl) rfl
theorem q2129 : (Jvm.Cond.methodLink "FirstPollsLaw" (74 : Nat) ({ cls := "FirstPollsModel", name := "end", desc := "(I)I" } : Jvm.MethodName)) ∈ lw_all := lw_g (lw_at lw_m9 78 rfl) rfl
theorem q2133 : (Jvm.Cond.methodLink "FirstPollsLaw" (83 : Nat) ({ cls := "FirstPollsModel", name := "fault", desc := "()I" } : Jvm.MethodName)) ∈ lw_all := lw_g (lw_at lw_m9 82 rfl) rfl
theorem q2137 : (Jvm.Cond.methodLink "FirstPollsLaw" (78 : Nat) ({ cls := "FirstPollsModel", name := "order", desc := "(I)I" } : Jvm.MethodName)) ∈ lw_all := lw_g (lw_at lw_m9 86 rfl) rfl
theorem q2281 : (Jvm.Cond.methodLink "FirstPollsLaw" (87 : Nat) ({ cls := "FirstPollsModel", name := "force", desc := "(III)I" } : Jvm.MethodName)) ∈ lw_all := lw_g (lw_at lw_m9 230 rfl) rfl
theorem q2285 : (Jvm.Cond.methodLink "FirstPollsLaw" (91 : Nat) ({ cls := "FirstPollsModel", name := "rule", desc := "(IIII)I" } : Jvm.MethodName)) ∈ lw_all := lw_g (lw_at lw_m9 234 rfl) rfl
theorem q2297 : (Jvm.Cond.methodLink "FirstPollsLaw" (95 : Nat) ({ cls := "FirstPollsModel", name := "wish", desc := "(I)I" } : Jvm.MethodName)) ∈ lw_all := lw_g (lw_at lw_m10 6 rfl) rfl
theorem q2301 : (Jvm.Cond.methodLink "FirstPollsLaw" (99 : Nat) ({ cls := "FirstPollsModel", name := "clear", desc := "()I" } : Jvm.MethodName)) ∈ lw_all := lw_g (lw_at lw_m10 10 rfl) rfl
theorem q2305 : (Jvm.Cond.methodLink "FirstPollsLaw" (103 : Nat) ({ cls := "FirstPollsModel", name := "booths", desc := "(II)I" } : Jvm.MethodName)) ∈ lw_all := lw_g (lw_at lw_m10 14 rfl) rfl
theorem q2332 : (Jvm.Cond.methodLink "FirstPollsLaw" (107 : Nat) ({ cls := "FirstPollsModel", name := "led", desc := "(I)I" } : Jvm.MethodName)) ∈ lw_all := lw_g (lw_at lw_m10 41 rfl) rfl
theorem q2336 : (Jvm.Cond.methodLink "FirstPollsLaw" (111 : Nat) ({ cls := "FirstPollsModel", name := "judge", desc := "(III)I" } : Jvm.MethodName)) ∈ lw_all := lw_g (lw_at lw_m10 45 rfl) rfl
theorem q2340 : (Jvm.Cond.methodLink "FirstPollsLaw" (115 : Nat) ({ cls := "FirstPollsModel", name := "booth", desc := "(I)I" } : Jvm.MethodName)) ∈ lw_all := lw_g (lw_at lw_m10 49 rfl) rfl
theorem q2344 : (Jvm.Cond.methodLink "FirstPollsLaw" (119 : Nat) ({ cls := "FirstPollsModel", name := "box", desc := "(II)I" } : Jvm.MethodName)) ∈ lw_all := lw_g (lw_at lw_m10 53 rfl) rfl
theorem q2353 : (Jvm.Cond.methodLink "FirstPollsLaw" (123 : Nat) ({ cls := "FirstPollsModel", name := "hand", desc := "(IIIII)I" } : Jvm.MethodName)) ∈ lw_all := lw_g (lw_at lw_m10 62 rfl) rfl
theorem q2361 : (Jvm.Cond.methodLink "FirstPollsLaw" (127 : Nat) ({ cls := "FirstPollsModel", name := "held", desc := "(III)I" } : Jvm.MethodName)) ∈ lw_all := lw_g (lw_at lw_m10 70 rfl) rfl
theorem q2365 : (Jvm.Cond.methodLink "FirstPollsLaw" (131 : Nat) ({ cls := "FirstPollsModel", name := "broken", desc := "(III)I" } : Jvm.MethodName)) ∈ lw_all := lw_g (lw_at lw_m10 74 rfl) rfl
theorem q2377 : (Jvm.Cond.methodLink "FirstPollsLaw" (135 : Nat) ({ cls := "FirstPollsModel", name := "paper", desc := "(IIII)I" } : Jvm.MethodName)) ∈ lw_all := lw_g (lw_at lw_m10 86 rfl) rfl
theorem q2381 : (Jvm.Cond.methodLink "FirstPollsLaw" (139 : Nat) ({ cls := "FirstPollsModel", name := "count", desc := "(IIIII)I" } : Jvm.MethodName)) ∈ lw_all := lw_g (lw_at lw_m10 90 rfl) rfl
theorem q2387 : (Jvm.Cond.methodLink "FirstPollsLaw" (143 : Nat) ({ cls := "FirstPollsModel", name := "tells", desc := "(IIII)I" } : Jvm.MethodName)) ∈ lw_all := lw_g (lw_at lw_m10 96 rfl) rfl
theorem q2421 : (Jvm.Cond.methodLink "FirstPollsLaw" (147 : Nat) ({ cls := "FirstPollsModel", name := "keep", desc := "(II)I" } : Jvm.MethodName)) ∈ lw_all := lw_g (lw_at lw_m10 130 rfl) rfl
theorem q2425 : (Jvm.Cond.methodLink "FirstPollsLaw" (151 : Nat) ({ cls := "FirstPollsModel", name := "seat", desc := "(IIII)I" } : Jvm.MethodName)) ∈ lw_all := lw_g (lw_at lw_m10 134 rfl) rfl
theorem q2445 : (Jvm.Cond.methodLink "FirstPollsLaw" (155 : Nat) ({ cls := "FirstPollsModel", name := "hidden", desc := "(IIIII)I" } : Jvm.MethodName)) ∈ lw_all := lw_g (lw_at lw_m10 154 rfl) rfl
theorem q2453 : (Jvm.Cond.methodLink "FirstPollsLaw" (159 : Nat) ({ cls := "FirstPollsModel", name := "shares", desc := "(IIII)I" } : Jvm.MethodName)) ∈ lw_all := lw_g (lw_at lw_m10 162 rfl) rfl
theorem q2457 : (Jvm.Cond.methodLink "FirstPollsLaw" (163 : Nat) ({ cls := "FirstPollsModel", name := "terms", desc := "(II)I" } : Jvm.MethodName)) ∈ lw_all := lw_g (lw_at lw_m10 166 rfl) rfl
theorem q2462 : (Jvm.Cond.methodLink "FirstPollsLaw" (167 : Nat) ({ cls := "FirstPollsModel", name := "span", desc := "(III)I" } : Jvm.MethodName)) ∈ lw_all := lw_g (lw_at lw_m10 171 rfl) rfl
theorem q2466 : (Jvm.Cond.methodLink "FirstPollsLaw" (171 : Nat) ({ cls := "FirstPollsModel", name := "way", desc := "(II)I" } : Jvm.MethodName)) ∈ lw_all := lw_g (lw_at lw_m10 175 rfl) rfl
theorem q2486 : (Jvm.Cond.methodLink "FirstPollsLaw" (175 : Nat) ({ cls := "FirstPollsModel", name := "leg", desc := "(II)I" } : Jvm.MethodName)) ∈ lw_all := lw_g (lw_at lw_m10 195 rfl) rfl
theorem q2490 : (Jvm.Cond.methodLink "FirstPollsLaw" (179 : Nat) ({ cls := "FirstPollsModel", name := "doors", desc := "(IIII)I" } : Jvm.MethodName)) ∈ lw_all := lw_g (lw_at lw_m10 199 rfl) rfl
theorem q2502 : (Jvm.Cond.methodLink "FirstPollsLaw" (183 : Nat) ({ cls := "FirstPollsModel", name := "seal", desc := "(I)I" } : Jvm.MethodName)) ∈ lw_all := lw_g (lw_at lw_m10 211 rfl) rfl
theorem q2510 : (Jvm.Cond.methodLink "FirstPollsLaw" (187 : Nat) ({ cls := "FirstPollsModel", name := "alter", desc := "(II)I" } : Jvm.MethodName)) ∈ lw_all := lw_g (lw_at lw_m10 219 rfl) rfl
theorem q2515 : (Jvm.Cond.methodLink "FirstPollsLaw" (191 : Nat) ({ cls := "FirstPollsModel", name := "found", desc := "(I)I" } : Jvm.MethodName)) ∈ lw_all := lw_g (lw_at lw_m10 224 rfl) rfl
theorem q2519 : (Jvm.Cond.methodLink "FirstPollsLaw" (203 : Nat) ({ cls := "FirstPollsModel", name := "all", desc := "(I)I" } : Jvm.MethodName)) ∈ lw_all := lw_g (lw_at lw_m10 228 rfl) rfl
theorem q2523 : (Jvm.Cond.methodLink "FirstPollsLaw" (207 : Nat) ({ cls := "FirstPollsModel", name := "status", desc := "()I" } : Jvm.MethodName)) ∈ lw_all := lw_g (lw_at lw_m10 232 rfl) rfl
theorem q149 : (Jvm.Cond.initialized "java/lang/System") ∈ lw_all := lw_g (lw_at lw_m1 18 rfl) rfl
theorem q729 : (Jvm.Cond.static ({ cls := "java/lang/System", name := "arraycopy", desc := "(Ljava/lang/Object;ILjava/lang/Object;II)V" } : Jvm.MethodName)) ∈ lw_all := lw_g (lw_at lw_m3 118 rfl) rfl
theorem q730 : (Jvm.Cond.native ({ cls := "java/lang/System", name := "arraycopy", desc := "(Ljava/lang/Object;ILjava/lang/Object;II)V" } : Jvm.MethodName)) ∈ lw_all := lw_g (lw_at lw_m3 119 rfl) rfl
theorem q679 : (Jvm.Cond.interfaceMethod "java/util/Collection" "java/util/Collection" "toArray" "()[Ljava/lang/Object;") ∈ lw_tbl := lw_at lw_m3 68 rfl
theorem q680 : (Jvm.Cond.declares ({ cls := "java/util/Collection", name := "toArray", desc := "()[Ljava/lang/Object;" } : Jvm.MethodName)) ∈ lw_tbl := lw_at lw_m3 69 rfl
theorem q2564 : (Jvm.Cond.sameMethod "[Ljava/lang/Object;" "java/lang/Object" "getClass" "()Ljava/lang/Class;") ∈ lw_all := lw_g (lw_at lw_m11 33 rfl) rfl
theorem q2565 : (Jvm.Cond.selects "[Ljava/lang/Object;" ({ cls := "java/lang/Object", name := "getClass", desc := "()Ljava/lang/Class;" } : Jvm.MethodName) ({ cls := "java/lang/Object", name := "getClass", desc := "()Ljava/lang/Class;" } : Jvm.MethodName)) ∈ lw_all := lw_g (lw_at lw_m11 34 rfl) rfl
theorem q2567 : (Jvm.Cond.castable "[Ljava/lang/Object;" "java/lang/Object") ∈ lw_tbl := lw_at lw_m11 36 rfl
theorem q2568 : (Jvm.Cond.castable "[I" "java/lang/Object") ∈ lw_tbl := lw_at lw_m11 37 rfl
theorem q2569 : (Jvm.Cond.castable "[J" "java/lang/Object") ∈ lw_tbl := lw_at lw_m11 38 rfl
theorem q2570 : (Jvm.Cond.castable "[Z" "java/lang/Object") ∈ lw_tbl := lw_at lw_m11 39 rfl
theorem q2571 : (Jvm.Cond.castable "[LFirstPolls$Told;" "java/lang/Object") ∈ lw_tbl := lw_at lw_m11 40 rfl
theorem q2572 : (Jvm.Cond.castable "[B" "java/lang/Object") ∈ lw_tbl := lw_at lw_m11 41 rfl
