set_option maxRecDepth 100000
def aiN : String := "java/lang/ArrayIndexOutOfBoundsException"
def upN : List String := ["java/lang/IndexOutOfBoundsException", "java/lang/RuntimeException", "java/lang/Exception"]
theorem fm {p : Cond → Prop} {x : Cond} {l : List Cond} (h : p x) (t : ∀ a ∈ l, p a) : ∀ a ∈ x :: l, p a := fun a ha => by
  rcases List.mem_cons.mp ha with rfl | h2
  · exact h
  · exact t a h2
theorem fmN {p : Cond → Prop} : ∀ a ∈ ([] : List Cond), p a := fun a ha => by cases ha
def stW (c : Cond) : Bool := match c with
  | .laysStatic C n _ => C == "java/lang/Throwable" && (n == "UNASSIGNED_STACK" || n == "SUPPRESSED_SENTINEL")
  | _ => false
def gw (c : Cond) : Prop := c ∈ lw_all ∨ (c ∈ lw_nest ∧ c.onTables = true) ∨ (c = .laysStatic "java/lang/Throwable" "UNASSIGNED_STACK" "[Ljava/lang/StackTraceElement;" ∨ c = .laysStatic "java/lang/Throwable" "SUPPRESSED_SENTINEL" "Ljava/util/List;")
theorem gw_thr : ∀ a ∈ Bundle.throwableAtoms, gw a := fm (Or.inl q139) (fm (Or.inl q393) (fm (Or.inl q402) (fm (Or.inl q406) (fm (Or.inl q409) (fm (Or.inl q411) (fm (Or.inl q394) (fm (Or.inl q395) (fm (Or.inl q182) (fm (Or.inl q183) (fm (Or.inl q396) (fm (Or.inl q401) (fm (Or.inl q407) (fm (Or.inl q423) (fm (Or.inl q383) (fm (Or.inl q424) (fm (Or.inl q385) (fm (Or.inl q425) (fm (Or.inl q387) (fm (Or.inl q397) (fm (Or.inr (Or.inr (Or.inl rfl))) (fm (Or.inl q399) (fm (Or.inr (Or.inr (Or.inr rfl))) (fm (Or.inl q389) (fmN))))))))))))))))))))))))
theorem gw_thrS : ∀ a ∈ Bundle.throwableSAtoms, gw a := fm (Or.inl q895) (fm (Or.inl q896) (fm (Or.inl q422) (fm (Or.inl q389) (fmN))))
theorem gw_ch : ∀ a ∈ Bundle.chainSAtoms aiN upN, gw a := fm (Or.inl q883) (fm (Or.inl q884) (fm (Or.inl q885) (fm (Or.inl q886) (fm (Or.inr (Or.inl ⟨List.mem_filter.mpr ⟨q906, rfl⟩, rfl⟩)) (fm (Or.inl q886) (fm (Or.inl q887) (fm (Or.inl q888) (fm (Or.inl q889) (fm (Or.inr (Or.inl ⟨List.mem_filter.mpr ⟨q908, rfl⟩, rfl⟩)) (fm (Or.inl q889) (fm (Or.inl q890) (fm (Or.inl q891) (fm (Or.inl q892) (fm (Or.inr (Or.inl ⟨List.mem_filter.mpr ⟨q377, rfl⟩, rfl⟩)) (fm (Or.inl q892) (fm (Or.inl q893) (fm (Or.inl q894) (fm (Or.inl q895) (fm (Or.inr (Or.inl ⟨List.mem_filter.mpr ⟨q379, rfl⟩, rfl⟩)) (fmN))))))))))))))))))))
theorem gw_str : ∀ a ∈ Bundle.stringAtoms, gw a := fm (Or.inl q156) (fm (Or.inl q910) (fm (Or.inl q366) (fm (Or.inl q911) (fm (Or.inl q913) (fm (Or.inl q912) (fm (Or.inl q914) (fmN)))))))
theorem gw_ini : (Jvm.Cond.initialized "java/lang/ArrayIndexOutOfBoundsException") ∈ lw_all := q155
theorem gw_ins : (Jvm.Cond.instantiable "java/lang/ArrayIndexOutOfBoundsException" (6 : Nat)) ∈ lw_all := q882
theorem gw_s0 : (Jvm.Cond.selects "java/lang/ArrayIndexOutOfBoundsException" ({ cls := "java/lang/Throwable", name := "fillInStackTrace", desc := "(I)Ljava/lang/Throwable;" } : Jvm.MethodName) ({ cls := "java/lang/Throwable", name := "fillInStackTrace", desc := "(I)Ljava/lang/Throwable;" } : Jvm.MethodName)) ∈ lw_all := q909
theorem gw_sF : (Jvm.Cond.selects "java/lang/ArrayIndexOutOfBoundsException" ({ cls := "java/lang/Throwable", name := "fillInStackTrace", desc := "()Ljava/lang/Throwable;" } : Jvm.MethodName) ({ cls := "java/lang/Throwable", name := "fillInStackTrace", desc := "()Ljava/lang/Throwable;" } : Jvm.MethodName)) ∈ lw_all := q405
theorem gw_lC : (Jvm.Cond.lays "java/lang/ArrayIndexOutOfBoundsException" "java/lang/Throwable" "cause" "Ljava/lang/Throwable;") ∈ lw_all := q899
theorem gw_lS : (Jvm.Cond.lays "java/lang/ArrayIndexOutOfBoundsException" "java/lang/Throwable" "stackTrace" "[Ljava/lang/StackTraceElement;") ∈ lw_all := q900
theorem gw_lP : (Jvm.Cond.lays "java/lang/ArrayIndexOutOfBoundsException" "java/lang/Throwable" "suppressedExceptions" "Ljava/util/List;") ∈ lw_all := q902
theorem gw_lM : (Jvm.Cond.lays "java/lang/ArrayIndexOutOfBoundsException" "java/lang/Throwable" "detailMessage" "Ljava/lang/String;") ∈ lw_all := q898
theorem gw_f198 : (Jvm.Cond.fieldLink "java/lang/Throwable" (198 : Nat) "java/lang/Throwable" "backtrace" "Ljava/lang/Object;") ∈ lw_all := q421
theorem gw_lB : (Jvm.Cond.lays "java/lang/Throwable" "java/lang/Throwable" "backtrace" "Ljava/lang/Object;") ∈ lw_all := q391
theorem gw_lXB : (Jvm.Cond.lays "java/lang/ArrayIndexOutOfBoundsException" "java/lang/Throwable" "backtrace" "Ljava/lang/Object;") ∈ lw_all := q897
theorem stF.word {X : CX} {Cn nm ds : String} {v : Value} {A : Array Value} (hs : stF (xD X) (xs X) Cn nm ds v) (h0 : ∀ a c, (xD X).2.2.2.2 a = some c → (xs X).heap[a]? = some c) : (Cond.laysStatic Cn nm ds).before A (xs X) = true := by
  obtain ⟨cf, kf, fi, f, a, cell, h1, h2, h3, h4, h5, h6, h7, h8, h9, h10, h11⟩ := hs
  have hlt : f.slot < cell.slots.size := (Array.getElem?_eq_some_iff.mp h7).1
  have hcell := h0 a cell h5
  simp [Cond.before, Cond.holds, Cond.value, h8, h1, h2, h4, hcell, h9, h10, hlt, h11]
theorem gw.use {X : CX} {cc : ByteArray} {own : String} {nL d : Nat} {c : Cond} (C : CXok X cc own nL d) (h0 : ∀ a c, (xD X).2.2.2.2 a = some c → (xs X).heap[a]? = some c) (h : gw c) : c.before (xa X) (xs X) = true := by
  rcases h with h | ⟨h, ht⟩ | h | h
  · exact C.2.2.2.2.1 _ h
  · exact va_Nw.use ht (C.2.2.2.2.2.1.2.2.1 _ h)
  · rw [h]; exact stF.word C.2.2.2.2.2.1.2.2.2.2.2.2.1.2.1 h0
  · rw [h]; exact stF.word C.2.2.2.2.2.1.2.2.2.2.2.2.1.2.2.1 h0
theorem va_rf_ref (x : Option Nat) : (va_rf x).isRef = true := by cases x <;> rfl
set_option maxHeartbeats 4000000 in
/-- an exception with a message that the VM throws, with the frame that it is thrown in still there -/
theorem oob_made {X : CX} {cc : ByteArray} {own : String} {nL d : Nat} {w : AH} {H : Heap} {locs : List Loc} {T0 : State} {cells slots : Nat} {text : String} {g : JFrame} (h0 : ∀ a c, (xD X).2.2.2.2 a = some c → (xs X).heap[a]? = some c) (C : CXok X cc own nL d) (hW : VW X w H locs) (hT : T0.heap = H) (Y : Stand (xp X) (xl X) (xe X) (xR X) (xs X) (xm X) (xa X) (xb X) (xme X) (xc X) T0 locs cells slots) (htr : (xl X).stackTraces = false)
    (htext : (text == notModelled) = false) (hlen : (stringBytes (stringToUtf16 text)).size ≤ 1000) (hg : g.method = xm X) (hsize : g.locals.size = (xc X).maxLocals) (hmon : g.monitorRoom = 0) (hcat : (g.stack.map fun v => v.category).sum ≤ 8) (hdd : 165 ≤ d)
    (hRcells : cells + 3 ≤ (xR X).cells) (hRslots : slots + ((stringBytes (stringToUtf16 text)).size + 4 + 6) ≤ (xR X).slots) :
    ∃ (U : State) (L : List Loc) (cX : ClassId) (ce : Cell), Stand (xp X) (xl X) (xe X) (xR X) (xs X) (xm X) (xa X) (xb X) (xme X) (xc X) U (locs ++ L) (cells + 3) (slots + ((stringBytes (stringToUtf16 text)).size + 4 + 6)) ∧ (∀ y ∈ L, y.base = T0.heap.size + 2) ∧
      Steps (xp X).tables (xe X) (xb X) ((T0.setTop g).pushFrame (.throwNew aiN (some text) none)) (U.setFrames (.throwing (T0.heap.size + 2) :: .java g :: (xb X))) ∧
      (∀ a0, a0 < T0.heap.size → U.heap[a0]? = T0.heap[a0]?) ∧ U.heap.size = T0.heap.size + 3 ∧ U.slotsUsed = T0.slotsUsed + ((stringBytes (stringToUtf16 text)).size + 4 + 6) ∧ (xs X).vm.findClass aiN = some cX ∧ U.heap[(T0.heap.size + 2)]? = some ce ∧ ce.cls = cX ∧ ce.vm = .none := by
  have C0 := C
  obtain ⟨hexec, hb, hml, hown, hts, hK, hA, hfr, hlo⟩ := C
  have a : ∀ c, c ∈ lw_all → c.holds (xa X) (xs X) none (xs X) [] = true := fun c hc => hts c hc
  have howns : (xe X).platform.frameOwnsMonitors = true := by rw [Y.admits.platform]
  have hfin : (xe X).platform.finalization = false := by rw [Y.admits.platform]
  have hpl : (xe X).platform.magicAccessors = ({} : Platform).magicAccessors := by rw [Y.admits.platform]
  have htr' : (xe X).platform.stackTraces = false := by rw [Y.admits.platform]; exact htr
  obtain ⟨T, Z0, L, -, B⟩ := ThrowableC.of_atoms (args := xa X) howns hfin hpl (fun x hx => gw.use C0 h0 (gw_thr x hx))
  obtain ⟨Z, M, LZ, LM, hnZ⟩ := Init0T.ofS_atoms (args := xa X) hpl L B (fun x hx => gw.use C0 h0 (gw_thrS x hx))
  obtain ⟨P1, Ps, hlenP, L1, hL, hP1m, hlink1, hlink⟩ := Bundle.chainS (args := xa X) hpl hnZ upN aiN (by decide) (by decide) (fun x hx => gw.use C0 h0 (gw_ch x hx))
  obtain ⟨Zs, LZs, hn4, hfitv, hfitc⟩ := StringT.of_atoms (args := xa X) (fun x hx => gw.use C0 h0 (gw_str x hx))
  have hfound : (xs X).vm.findClass aiN = some P1.m.cls := findClass_of_methodNamed hP1m
  obtain ⟨c1, kX, hc1, hk, hord, -, -, hn6⟩ := Cond.instantiable_spec (a _ gw_ins)
  cases Option.some.inj (hc1.symm.trans hfound)
  have hinit := Cond.initialized_spec hfound hk (a _ gw_ini)
  have hctor : kX.findMethod "<init>" "(Ljava/lang/String;)V" = some P1.m.idx := findMethod_of_methodNamed hP1m hk
  have hsel0 : selectMethod (xe X).platform (xs X).vm P1.m.cls T.fill0 = .method T.fill0 := by
    obtain ⟨c2, r2, m2, q1, q2, q3, q4, -⟩ := Cond.selects_spec (a _ gw_s0)
    cases Option.some.inj (q1.symm.trans hfound)
    cases Option.some.inj (q2.symm.trans (State.methodFound?_of_named B.fill0 (by decide)))
    cases Option.some.inj (q3.symm.trans B.fill0)
    rw [Launch.admits_selectMethod Y.admits]; exact q4
  have hselF : selectMethod (xe X).platform (xs X).vm P1.m.cls T.fill = .method T.fill := by
    obtain ⟨c2, r2, m2, q1, q2, q3, q4, -⟩ := Cond.selects_spec (a _ gw_sF)
    cases Option.some.inj (q1.symm.trans hfound)
    cases Option.some.inj (q2.symm.trans (State.methodFound?_of_named B.fill (by decide)))
    cases Option.some.inj (q3.symm.trans B.fill)
    rw [Launch.admits_selectMethod Y.admits]; exact q4
  obtain ⟨cf, kf, fi, f, qa, cellS, e1, e2, e3, e4, e5, e6, e7⟩ := hK.2.2.2.2.2.2.1.2.1
  cases e1.symm.trans B.unassigned
  cases e4.symm.trans L.statics
  obtain ⟨cf', kf', fi', f', qa', cellS', e1', e2', e3', e4', e5', e6', e7'⟩ := hK.2.2.2.2.2.2.1.2.2.1
  cases e1'.symm.trans B.sentinel
  cases e4'.symm.trans L.statics
  cases e5.symm.trans e5'
  have hcellS : T0.heap[T.aS]? = some cellS := by rw [hT]; exact (hW.1.2.2.2.2.2.2.1 _ _ e5).1
  obtain ⟨ci198, i198, fB, hk198, hg198, ha198, hsB, -, hnB, htB, hffB⟩ := Cond.ownField (t := .object "java/lang/Object") B.found L.cls (by decide +kernel) (a _ gw_f198) (a _ gw_lB) (xe X).platform hpl
  obtain ⟨iM, hffM⟩ := B.msg
  obtain ⟨tyC, dC, hdC, hdnC⟩ := Cond.laysAt hfound hk B.cause (a _ gw_lC)
  obtain ⟨tyS, dS, hdS, hdnS⟩ := Cond.laysAt hfound hk B.stack (a _ gw_lS)
  obtain ⟨tyP, dP, hdP, hdnP⟩ := Cond.laysAt hfound hk B.supp (a _ gw_lP)
  obtain ⟨tyM, dM, hdM, hdnM⟩ := Cond.laysAt hfound hk hffM (a _ gw_lM)
  obtain ⟨tyB, dB, hdB, hdnB⟩ := Cond.laysAt hfound hk hffB (a _ gw_lXB)
  have bC := Cond.laysApart hdB hdC hdnB hdnC (by rw [hnB, B.causeName]; decide)
  have bS := Cond.laysApart hdB hdS hdnB hdnS (by rw [hnB, B.stackName]; decide)
  have bP := Cond.laysApart hdB hdP hdnB hdnP (by rw [hnB, B.suppName]; decide)
  obtain ⟨u0, hu0⟩ : ∃ u : RefV, u.v = va_rf ((xD X).2.2.2.1 1000) := ⟨⟨_, va_rf_ref _⟩, rfl⟩
  obtain ⟨sen, hsen⟩ : ∃ u : RefV, u.v = va_rf ((xD X).2.2.2.1 1001) := ⟨⟨_, va_rf_ref _⟩, rfl⟩
  rw [← hu0] at e7
  rw [← hsen] at e7'
  have hbk : ((preparedCellV T.toThrowableT (freshCell P1.m.cls kX) (T0.heap.size + 2) u0 sen).withEntry T0.cur).slots[fB.slot]? = some .null := by
    have := fresh_default (c := P1.m.cls) tyB
    rw [htB] at this
    simpa [preparedCellV, Cell.setSlot, Cell.withEntry, Array.getElem?_setIfInBounds, bC, bS, bP, bC.symm, bS.symm, bP.symm, defaultValue] using this
  have tkC := Takes.of_laid (v := .ref (T0.heap.size + 2)) hk hord tyC (by rw [B.causeType]; rfl)
  have tkS := Takes.of_laid (v := u0.v) hk hord tyS (by rw [B.stackType]; exact fits_refV_array _ u0)
  have tkP := Takes.of_laid (v := sen.v) hk hord tyP (by rw [B.suppType]; exact fits_refV_object _ sen)
  have tkM := Takes.of_laid (v := .ref (T0.heap.size + 1)) hk hord tyM (by rw [B.msgType]; rfl)
  have hlenP' : Ps.length = 3 := hlenP
  have hal : (xe X).platform.arrayLengthLimit = ({} : Platform).arrayLengthLimit := by rw [Y.admits.platform]
  have hmb : 1000 ≤ (xe X).platform.arrayLengthLimit := by rw [hal]; decide
  have hlimit : ¬ (stringBytes (stringToUtf16 text)).size > (xe X).platform.arrayLengthLimit := by omega
  have hheap : ¬ (stringBytes (stringToUtf16 text)).size * componentBytes .byte > (xe X).platform.maxHeapBytes := by
    have : (xe X).platform.maxHeapBytes = ({} : Platform).maxHeapBytes := by rw [Y.admits.platform]
    rw [this]
    have h2 : 1000 * componentBytes .byte ≤ ({} : Platform).maxHeapBytes := by decide
    have h3 := Nat.mul_le_mul_right (componentBytes .byte) hlen
    omega
  have hRlocals : 2 * g.monitorRoom + (g.stack.map fun v => v.category).sum + 10240 ≤ (xR X).locals := by rw [hmon]; omega
  have hAt : At T0 g.method (xc X) (xb X) := by rw [hg]; exact Y.here
  obtain ⟨hbeyond, hfreeW⟩ := Y.vmMayThrow hsize (.throwNew aiN (some text) none) (fun f hf => by cases hf) rfl hRlocals
  have hfr' : T0.frames.length + Ps.length + 4 < ((xe X).platform.stackLimits T0.me).1 := by have := Y.framesAbove (n := Ps.length + 4) (by omega); omega
  have hwd' : (stackUse (.java g :: T0.frames.tail)).2 + 13 * Ps.length + 55 ≤ ((xe X).platform.stackLimits T0.me).2 := by have := Y.stackAbove hsize (K := 13 * Ps.length + 55) (by omega); omega
  have hslots : T0.slotsUsed + (stringBytes (stringToUtf16 text)).size + Zs.kS.instanceTypes.size + kX.instanceTypes.size ≤ (xe X).platform.maxSlots := by have := Y.slotsAbove hRslots; omega
  obtain ⟨vm', hW', st⟩ := Steps.vmThrowsMessageColdByV (xp X) (s₀ := xs X) (S := T0) (g := g) hAt hexec T L Z LZ M LM Y.warmed (t := T0.cur) rfl Zs LZs P1 L1 Ps hL hlink1 hlink (by decide) (by decide) hfound hk hinit hord hctor
    (Launch.admits_hotImplicitExceptions Y.admits) hbeyond hfreeW htext hlimit hheap (Y.cellsAbove hRcells) hslots (hfitv _) (hfitc _)
    (Nn := fun u => u) heapOnly_id (fun _ _ => rfl) (fun _ => rfl) (fun u x y => setCell_twice _ _ _ _) (fun _ => Nat.le_refl _) (cN := ((preparedCellV T.toThrowableT (freshCell P1.m.cls kX) (T0.heap.size + 2) u0 sen).withEntry T0.cur))
    hsel0 hcellS e6 e7.1 tkS (fun _ hu => hu) (fun _ hu => hu) rfl rfl rfl (by simp [preparedCellV, Cell.setSlot, Cell.withEntry]) ⟨{ ci198 := ci198, i198 := i198, fBack := fB }, ⟨hk198, hg198, ha198, hsB⟩, hbk, fun _ _ => rfl⟩ (fun _ _ hA hW _ hroom _ hrest => L.nativeOff (xp X) htr' hA hW hroom hrest) hselF e7'.1 tkC tkP tkM B.objLocals rfl hfr' hwd'
  rw [plainBareV_eq T.toThrowableT (T0.heap.size + 2) u0 sen (.ref (T0.heap.size + 1)) T0.cur rfl rfl] at st
  obtain ⟨-, -, w3, w4, w5, w6, -⟩ := withThrown_facts (xe X).platform T0 Zs text P1.m.cls kX
  have X3 := ((Y.pushed (bytesOf Zs.cB (stringToUtf16 text))).pushed (stringAt Zs.cS Zs.kS Zs.fv Zs.fc (stringToUtf16 text) T0.heap.size)).pushed (freshCell P1.m.cls kX)
  rw [← withString_eq] at X3
  have X4 := X3.noted hW'
  have ha : (T0.heap.size + 2) < ((withThrown T0 Zs text P1.m.cls kX).setVm vm').heap.size := by show _ < (withThrown T0 Zs text P1.m.cls kX).heap.size; rw [w3]; omega
  have hcell : ((withThrown T0 Zs text P1.m.cls kX).setVm vm').heap[(T0.heap.size + 2)]? = some (freshCell P1.m.cls kX) := w4
  have X5 := ((((X4.stored hcell T.fCause.slot (.ref (T0.heap.size + 2))).storedAgain ha T.fStack.slot u0.v).storedAgain ha T.fSupp.slot sen.v).storedAgain ha T.fStack.slot u0.v).storedAgain ha T.fMsg.slot (.ref (T0.heap.size + 1))
  simp only [List.append_assoc, List.cons_append, List.nil_append] at X5
  rw [Y.tail] at st
  have b1 : (bytesOf Zs.cB (stringToUtf16 text)).slots.size = (stringBytes (stringToUtf16 text)).size := by
    rw [(Cell.writeAll_facts _ _).2.2]; simp [bytes0]
  have b2 : (stringAt Zs.cS Zs.kS Zs.fv Zs.fc (stringToUtf16 text) T0.heap.size).slots.size = 4 := by simp [string0, Cell.setSlot, hn4]
  have b3 : (freshCell P1.m.cls kX).slots.size = 6 := by simp [hn6]
  have esl : slots + (bytesOf Zs.cB (stringToUtf16 text)).slots.size + (stringAt Zs.cS Zs.kS Zs.fv Zs.fc (stringToUtf16 text) T0.heap.size).slots.size + (freshCell P1.m.cls kX).slots.size = slots + ((stringBytes (stringToUtf16 text)).size + 4 + 6) := by rw [b1, b2, b3]; omega
  rw [esl] at X5
  refine ⟨_, _, P1.m.cls, _, X5, fun y hy => ?_, st _ (Steps.refl _), fun a0 h0 => ?_, ?_, ?_, hfound, heapAt_setCell_self _ ha, rfl, rfl⟩
  · simp only [List.mem_cons, List.not_mem_nil, or_false] at hy
    rcases hy with rfl | rfl | rfl | rfl | rfl <;> rfl
  · rw [State.heap_setCell_other (by omega : T0.heap.size + 2 ≠ a0)]
    exact w5 a0 h0
  · show (Array.setIfInBounds _ _ _).size = _
    rw [Array.size_setIfInBounds]
    exact w3
  · show (withThrown T0 Zs text P1.m.cls kX).slotsUsed = _
    rw [w6, hn4, hn6]
    omega
theorem V_oob {X : CX} {cc : ByteArray} {own : String} {nL d : Nat} {w w0 w1 wE : AH} {d0 : Nat} {ret : Option FieldType} {nm : String} {o : Outcome} {pc : Nat} {ls : List (Option Value)} {st : List Value} {i : Int32} {a b lo hi hpc ct : Nat} (hT : (xl X).stackTraces = false) (hE : XE X w0 d0 ret nm o wE) (hH : XH X [(lo, hi, hpc, ct)]) (hk : (hkd w a).1 = 4) (hout : ¬ bnd i (hkd w a).2 = true) (hr : oobR w i (hkd w a).2 = true) (hn : (hkd w a).2 < 2147483648) (hb : hsz w + 2 = b) (hs : hoob w i (hkd w a).2 = w1) (hlo : lo ≤ pc ∧ pc < hi ∧ ct ≠ 0) (hdd : 165 ≤ d)
    (hl : Cond.classLink own ct "java/lang/ArrayIndexOutOfBoundsException" ∈ lw_all) (hcat : (st.map fun v => v.category).sum ≤ 8) (hd : decode cc pc = .ok (.baload, 1)) (kk : V X cc own nL d w1 hpc ls [.ref b]) : V X cc own nL d w pc ls (.int i :: .ref a :: st) := by
  intro C H locs LS cells slots hW h
  refine WX_exact ?_
  intro T0 hT0 Y
  have C0 := C
  obtain ⟨hx, hbc, hml, hown, hts, hK, hA, hfr, hlo'⟩ := C
  have hcell := (hW.1.2.2.2.2.1 a).arr (k := 4) (n := (hkd w a).2) (Prod.ext hk rfl) (by decide) (by decide)
  have ho : i < 0 ∨ (hkd w a).2 ≤ i.toNatClampNeg := Classical.byContradiction fun g => hout (decide_eq_true g)
  have step1 := Y.baloadOut hx (a := a) (ty := .byte) (j := i) (by rw [hT0]; exact hcell) (VW.arrOf (k := 4) C0 (by decide) (by decide) _ _) (by rw [arrV_size]; exact ho) (g := F0 (xm X) pc LS (.int i :: .ref a :: st)) rfl (rest := st) rfl (by rw [hbc]; exact hd)
  rw [arrV_size] at step1
  simp only [oobR, Bool.and_eq_true, decide_eq_true_eq] at hr
  obtain ⟨hr1, hr2⟩ := hr
  have hlen : (stringBytes (stringToUtf16 (toString "Index " ++ toString i ++ toString " out of bounds for length " ++ toString (hkd w a).2))).size ≤ 1000 := Nat.le_trans (index_text_bytes i hn) (by decide)
  obtain ⟨⟨z1, z2, z3, z4, z5, z6, z7, z8⟩, hS, hss, hA0, hr3, hr4⟩ := id hW
  have s1 := hS.1
  obtain ⟨U, L, cX, ce, X5, hL, hst, hkept, hsz5, hus, hfX, hce, hceC, hceV⟩ := oob_made (g := F0 (xm X) pc LS st) hE.cst C0 hW hT0 Y hT (index_text_modelled i (hkd w a).2) hlen rfl (by rw [hml]; exact h.1) rfl hcat hdd (by rw [hr3]; omega) (by rw [hr4]; show _ + (msz i (hkd w a).2 + 4 + 6) ≤ _; omega)
  have hK13 := (hK.1 13 _ rfl).2
  have e2 : cX = (xD X).1.1 13 := Option.some.inj (hfX.symm.trans hK13.1)
  subst e2
  have heq : (U.setTop (F0 (xm X) pc LS st)).pushFrame (.throwing (T0.heap.size + 2)) = U.setFrames (.throwing (T0.heap.size + 2) :: .java (F0 (xm X) pc LS st) :: (xb X)) := by
    obtain ⟨g₁, hfrM⟩ := X5.frames_eq
    rw [State.pushFrame, State.frames_setTop _ hfrM, State.setTop_of_frames _ hfrM, State.setFrames_setFrames]
  have hTs : T0.heap.size = hsz w := by rw [hT0]; exact z1
  have hbx : T0.heap.size + 2 = b := by rw [hTs]; exact hb
  have hsum : slotSum U.heap = slotSum H + (msz i (hkd w a).2 + 10) := by
    have b1 : U.slotsUsed = slotSum U.heap := (State.slotsTrue_iff U).mp X5.book
    have b2 : T0.slotsUsed = slotSum T0.heap := (State.slotsTrue_iff T0).mp Y.book
    rw [← b1, hus, b2, hT0]
    show _ + (msz i (hkd w a).2 + 4 + 6) = _
    omega
  have hW5 : VW X w1 U.heap (locs ++ L) := by
    subst hs
    have hk0 : ∀ q, hsz w ≤ q → (hkd w q).1 = 0 := fun q hq => Classical.byContradiction fun g => by
      have := cOk.lt (z5 q) g
      omega
    refine ⟨⟨by rw [hsz5, hTs]; rfl, by rw [hsum, z2]; rfl, hr1, hr2, fun q => ?_, z6, fun q c hq => ?_, fun q hq => ?_⟩, ⟨by omega, fun q g1 g2 => ?_, fun q hq => ?_⟩, by rw [hsum]; omega, hA0, hr3, hr4⟩
    · by_cases hlt : q < hsz w
      · exact (z5 q).kept rfl (fun t j => by cases t <;> rfl) (by rw [hkept q (by omega), hT0])
      · unfold cellOk
        have e0 : (hkd (hoob w i (hkd w a).2) q).1 = 0 := hk0 q (by omega)
        refine ⟨fun g => absurd e0 g, fun g => absurd g (by omega), fun g => absurd g (by omega), fun g => absurd g (by omega)⟩
    · obtain ⟨g1, g2⟩ := z7 q c hq
      have hlt := (Array.getElem?_eq_some_iff.mp g1).1
      exact ⟨by rw [hkept q (by rw [hT0]; exact hlt), hT0]; exact g1, g2⟩
    · have := z8 q hq
      show q < hsz w + 3
      omega
    · rw [hkept q (by rw [hT0]; omega), hT0]
      exact hS.2.1 q g1 g2
    · rcases List.mem_append.mp hq with g | g
      · exact hS.2.2 q g
      · rw [hL q g]
        exact hA _ (by omega)
  subst hbx
  obtain ⟨t, a1, b1⟩ := catch0 (pre := []) (post := []) (LS := LS) (st := st) (pc := pc) (ci := 13) hH (by rfl) hlo.1 hlo.2.1 hlo.2.2 hl rfl C0 X5 hce hceC hceV (fun vm₁ Y5 => kk C0 _ _ LS _ _ hW5 h (U.setVm vm₁) rfl Y5)
  exact ⟨t, step1 t (hst.trans (by rw [← heq]; exact a1)), b1⟩
