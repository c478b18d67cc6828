set_option maxRecDepth 100000
/-! ===== more rows: pool constants, long compares with their branch, calls with the stack behind them ===== -/
section VX
variable {X : CX} {cc : ByteArray} {own : String} {nL d : Nat} {w w1 : AH} {pc : Nat} {ls ls' : List (Option Value)} {st st' rest : List Value}
theorem V_ldcw {index : Nat} {v : Int32} (hc : Cond.constant own index v ∈ lw_all) (hd : decode cc pc = .ok (.ldc_w index, 3)) (k : V X cc own nL d w (pc + 3) ls (.int v :: st)) : V X cc own nL d w pc ls st := V_step (fun C _ _ _ _ _ _ kk => lv_ldcw C.1 C.2.1 C.2.2.2.1 (C.2.2.2.2.1 _ hc) hd kk) k
theorem V_inc {i : Nat} {n : Int} {x c : Int32} (hd : decode cc pc = .ok (.iinc i n, 3)) (hx : ls[i]? = some (some (.int x))) (hc : Int32.ofInt n = c) (hn : i < nL) (hl : lset1 ls i (.int (x + c)) = ls') (kk : V X cc own nL d w (pc + 3) ls' st) : V X cc own nL d w pc ls st := V_iinc (v := x + c) hd hx (by rw [hc]) hn hl kk
theorem cmpL_lt {x y : Int64} : lg_cmp x y < 0 ↔ x < y := by
  unfold lg_cmp
  by_cases h1 : x > y
  · rw [if_pos h1]
    exact ⟨fun h => absurd h (by decide), fun h => by simp only [gt_iff_lt, Int64.lt_iff_toInt_lt] at *; omega⟩
  · rw [if_neg h1]
    by_cases h2 : x = y
    · rw [if_pos h2]
      exact ⟨fun h => absurd h (by decide), fun h => by subst h2; simp only [Int64.lt_iff_toInt_lt] at *; omega⟩
    · rw [if_neg h2]
      refine ⟨fun _ => ?_, fun _ => by decide⟩
      rw [← Int64.toInt_inj] at h2
      simp only [gt_iff_lt, Int64.lt_iff_toInt_lt] at *
      omega
theorem cmpL_gt {x y : Int64} : 0 < lg_cmp x y ↔ y < x := by
  unfold lg_cmp
  by_cases h1 : x > y
  · rw [if_pos h1]
    exact ⟨fun _ => h1, fun _ => by decide⟩
  · rw [if_neg h1]
    by_cases h2 : x = y
    · rw [if_pos h2]
      exact ⟨fun h => absurd h (by decide), fun h => absurd h h1⟩
    · rw [if_neg h2]
      exact ⟨fun h => absurd h (by decide), fun h => absurd h h1⟩
theorem cmpL_eq {x y : Int64} : lg_cmp x y = 0 ↔ x = y := by
  unfold lg_cmp
  by_cases h1 : x > y
  · rw [if_pos h1]
    exact ⟨fun h => absurd h (by decide), fun h => by subst h; simp only [gt_iff_lt, Int64.lt_iff_toInt_lt] at *; omega⟩
  · rw [if_neg h1]
    by_cases h2 : x = y
    · rw [if_pos h2]
      exact ⟨fun _ => h2, fun _ => rfl⟩
    · rw [if_neg h2]
      exact ⟨fun h => absurd h (by decide), fun h => absurd h h2⟩
theorem cmpL_ge {x y : Int64} : 0 ≤ lg_cmp x y ↔ y ≤ x := lg_cmp_ge x y
theorem cmpL_le {x y : Int64} : lg_cmp x y ≤ 0 ↔ x ≤ y := by
  have h := @cmpL_gt x y
  constructor
  · intro g
    have : ¬ 0 < lg_cmp x y := by simp only [Int32.lt_iff_toInt_lt, Int32.le_iff_toInt_le] at *; omega
    rw [h] at this
    simp only [Int64.lt_iff_toInt_lt, Int64.le_iff_toInt_le] at *; omega
  · intro g
    have : ¬ y < x := by simp only [Int64.lt_iff_toInt_lt, Int64.le_iff_toInt_le] at *; omega
    rw [← h] at this
    simp only [Int32.lt_iff_toInt_lt, Int32.le_iff_toInt_le] at *; omega
theorem V_lif_lt {x y : Int64} {off : Int} {tgt : Nat} (hd : decode cc pc = .ok (.lcmp, 1)) (hd2 : decode cc (pc + 1) = .ok (.ifCond .lt off, 3)) (ht : ((pc + 1 : Nat) : Int) + off = (tgt : Int)) (kt : x < y → V X cc own nL d w tgt ls st) (kf : ¬ x < y → V X cc own nL d w (pc + 4) ls st) : V X cc own nL d w pc ls (.long y :: .long x :: st) :=
  V_lcmp hd (V_if_lt hd2 ht (fun h => kt (cmpL_lt.mp h)) (fun h => kf (fun q => h (cmpL_lt.mpr q))))
theorem V_lif_ge {x y : Int64} {off : Int} {tgt : Nat} (hd : decode cc pc = .ok (.lcmp, 1)) (hd2 : decode cc (pc + 1) = .ok (.ifCond .ge off, 3)) (ht : ((pc + 1 : Nat) : Int) + off = (tgt : Int)) (kt : y ≤ x → V X cc own nL d w tgt ls st) (kf : ¬ y ≤ x → V X cc own nL d w (pc + 4) ls st) : V X cc own nL d w pc ls (.long y :: .long x :: st) :=
  V_lcmp hd (V_if_ge hd2 ht (fun h => kt (cmpL_ge.mp h)) (fun h => kf (fun q => h (cmpL_ge.mpr q))))
theorem V_lif_gt {x y : Int64} {off : Int} {tgt : Nat} (hd : decode cc pc = .ok (.lcmp, 1)) (hd2 : decode cc (pc + 1) = .ok (.ifCond .gt off, 3)) (ht : ((pc + 1 : Nat) : Int) + off = (tgt : Int)) (kt : y < x → V X cc own nL d w tgt ls st) (kf : ¬ y < x → V X cc own nL d w (pc + 4) ls st) : V X cc own nL d w pc ls (.long y :: .long x :: st) :=
  V_lcmp hd (V_if_gt hd2 ht (fun h => kt (cmpL_gt.mp h)) (fun h => kf (fun q => h (cmpL_gt.mpr q))))
theorem V_lif_le {x y : Int64} {off : Int} {tgt : Nat} (hd : decode cc pc = .ok (.lcmp, 1)) (hd2 : decode cc (pc + 1) = .ok (.ifCond .le off, 3)) (ht : ((pc + 1 : Nat) : Int) + off = (tgt : Int)) (kt : x ≤ y → V X cc own nL d w tgt ls st) (kf : ¬ x ≤ y → V X cc own nL d w (pc + 4) ls st) : V X cc own nL d w pc ls (.long y :: .long x :: st) :=
  V_lcmp hd (V_if_le hd2 ht (fun h => kt (cmpL_le.mp h)) (fun h => kf (fun q => h (cmpL_le.mpr q))))
theorem V_lif_eq {x y : Int64} {off : Int} {tgt : Nat} (hd : decode cc pc = .ok (.lcmp, 1)) (hd2 : decode cc (pc + 1) = .ok (.ifCond .eq off, 3)) (ht : ((pc + 1 : Nat) : Int) + off = (tgt : Int)) (kt : x = y → V X cc own nL d w tgt ls st) (kf : ¬ x = y → V X cc own nL d w (pc + 4) ls st) : V X cc own nL d w pc ls (.long y :: .long x :: st) :=
  V_lcmp hd (V_if_eq hd2 ht (fun h => kt (cmpL_eq.mp h)) (fun h => kf (fun q => h (cmpL_eq.mpr q))))
theorem V_lif_ne {x y : Int64} {off : Int} {tgt : Nat} (hd : decode cc pc = .ok (.lcmp, 1)) (hd2 : decode cc (pc + 1) = .ok (.ifCond .ne off, 3)) (ht : ((pc + 1 : Nat) : Int) + off = (tgt : Int)) (kt : ¬ x = y → V X cc own nL d w tgt ls st) (kf : x = y → V X cc own nL d w (pc + 4) ls st) : V X cc own nL d w pc ls (.long y :: .long x :: st) :=
  V_lcmp hd (V_if_ne hd2 ht (fun h => kt (fun q => h (cmpL_eq.mpr q))) (fun h => kf (cmpL_eq.mp h)))
theorem V_cS {index : Nat} {y : MethodName} {code : ByteArray} {maxL n d' : Nat} {ret : Option FieldType} {av : List Value} {v : Option Value} (hM : MA (xl X) (xD X) y code maxL ret d' av w (.returned v) w1) (hc : SC own index y code maxL ret n) (hdd : d' + 1 ≤ d) (hn : av.length = n) (hst : st = av.reverse ++ rest) (hcat : (rest.map fun v => v.category).sum ≤ 8) (hd : decode cc pc = .ok (.invokestatic index, 3)) (hs : v.toList ++ rest = st')
    (kk : V X cc own nL d w1 (pc + 3) ls st') : V X cc own nL d w pc ls st := V_callS hM hc hdd hn hst hcat hd (hs ▸ kk)
theorem V_cV {index ci b : Nat} {y : MethodName} {code : ByteArray} {maxL n d' : Nat} {ret : Option FieldType} {av : List Value} {v : Option Value} (hM : MA (xl X) (xD X) y code maxL ret d' (.ref b :: av) w (.returned v) w1) (hc : VCm own index ci y code maxL ret n) (hk : (hkd w b).1 = 10 + ci) (hdd : d' + 1 ≤ d) (hn : av.length = n) (hst : st = av.reverse ++ .ref b :: rest) (hcat : (rest.map fun v => v.category).sum ≤ 8) (hd : decode cc pc = .ok (.invokevirtual index, 3)) (hs : v.toList ++ rest = st')
    (kk : V X cc own nL d w1 (pc + 3) ls st') : V X cc own nL d w pc ls st := V_callV hM hc hk hdd hn hst hcat hd (hs ▸ kk)
theorem V_cI {index b : Nat} {y : MethodName} {code : ByteArray} {maxL n d' : Nat} {av : List Value} {v : Option Value} (hM : MA (xl X) (xD X) y code maxL none d' (.ref b :: av) w (.returned v) w1) (hc : IC own index y code maxL n) (hdd : d' + 1 ≤ d) (hn : av.length = n) (hst : st = av.reverse ++ .ref b :: rest) (hcat : (rest.map fun v => v.category).sum ≤ 8) (hd : decode cc pc = .ok (.invokespecial index, 3)) (hs : v.toList ++ rest = st')
    (kk : V X cc own nL d w1 (pc + 3) ls st') : V X cc own nL d w pc ls st := V_callI hM hc hdd hn hst hcat hd (hs ▸ kk)
end VX
/-! ===== the mirrors' own words ===== -/
def bnd (i : Int32) (n : Nat) : Bool := decide (¬ (i < 0 ∨ n ≤ i.toNatClampNeg))
theorem bnd_in {i : Int32} {n : Nat} (h : bnd i n = true) : vp_in i n := of_decide_eq_true (p := ¬ (i < 0 ∨ n ≤ i.toNatClampNeg)) h
def isZ (x : Int32) : Bool := x == 0 || x == 1
theorem isZ_nar {x : Int32} (h : isZ x = true) : narrow .boolean (.int x) = .int x := by
  have : x = 0 ∨ x = 1 := by simpa [isZ] using h
  rcases this with rfl | rfl <;> decide
theorem isZ_fit {x : Int32} (h : isZ x = true) : fits .boolean (.int x) = true := h
def ck {α : Type} (b : Bool) (k : Option α) : Option α := if b = true then k else none
theorem ck_ex {α : Type} {b : Bool} {k : Option α} {o : α} (h : ck b k = some o) : b = true ∧ k = some o := by
  unfold ck at h
  split at h
  · rename_i hb; exact ⟨hb, h⟩
  · cases h
theorem ck_t {α : Type} {b : Bool} {k : Option α} (h : b = true) : ck b k = k := if_pos h
def nzI {α : Type} (y : Int32) (k : Option α) : Option α := if y = 0 then none else k
theorem nzI_ex {α : Type} {y : Int32} {k : Option α} {o : α} (h : nzI y k = some o) : ¬ y = 0 ∧ k = some o := by
  unfold nzI at h
  split at h
  · cases h
  · rename_i hb; exact ⟨hb, h⟩
def nzL {α : Type} (y : Int64) (k : Option α) : Option α := if y = 0 then none else k
theorem nzL_ex {α : Type} {y : Int64} {k : Option α} {o : α} (h : nzL y k = some o) : ¬ y = 0 ∧ k = some o := by
  unfold nzL at h
  split at h
  · cases h
  · rename_i hb; exact ⟨hb, h⟩
def st1 {α β : Type} (a : α) (f : α → β) : β := f a
theorem st1_ex {α β : Type} {a : α} {f : α → Option β} {o : β} (h : st1 a f = some o) : ∃ q, a = q ∧ f q = some o := ⟨a, rfl, h⟩
def bd1 {α β : Type} (x : Option α) (f : α → Option β) : Option β := match x with
  | none => none
  | some a => f a
theorem bd1_ex {α β : Type} {x : Option α} {f : α → Option β} {o : β} (h : bd1 x f = some o) : ∃ q, x = some q ∧ f q = some o := by
  cases x with
  | none => cases h
  | some a => exact ⟨a, rfl, h⟩
def bd2 {α β γ : Type} (x : Option (α × β)) (f : α → β → Option γ) : Option γ := match x with
  | none => none
  | some q => f q.1 q.2
theorem bd2_ex {α β γ : Type} {x : Option (α × β)} {f : α → β → Option γ} {o : γ} (h : bd2 x f = some o) : ∃ a b, x = some (a, b) ∧ f a b = some o := by
  cases x with
  | none => cases h
  | some q => exact ⟨q.1, q.2, rfl, h⟩
theorem if_t {c : Prop} {_ : Decidable c} {α : Type} {a b : α} {o : α} (h : (if c then a else b) = o) (hc : c) : a = o := by rw [if_pos hc] at h; exact h
theorem if_f {c : Prop} {_ : Decidable c} {α : Type} {a b : α} {o : α} (h : (if c then a else b) = o) (hc : ¬ c) : b = o := by rw [if_neg hc] at h; exact h
theorem some_ex {α : Type} {a b : α} (h : some a = some b) : a = b := Option.some.inj h
def LF : Nat := 1000000000
/-! ===== calls and throws in general ===== -/
/-- the machine throws x out of the frame (pc, ls, st) -/
def VT (X : CX) (cc : ByteArray) (own : String) (nL d : Nat) (w : AH) (pc : Nat) (ls : List (Option Value)) (st : List Value) (x : Nat) : Prop :=
  CXok X cc own nL d → ∀ (H : Heap) (locs : List Loc) (LS : Array Slot) (cells slots : Nat), VW X w H locs → lv_has LS nL (lpr 0 ls) → ∀ T : State, T.heap = H → Stand (xp X) (xl X) (xe X) (xR X) (xs X) (xm X) (xa X) (xb X) (xme X) (xc X) T locs cells slots →
    ∃ t, Steps (xp X).tables (xe X) (xb X) ((T.setTop (F0 (xm X) pc LS st)).pushFrame (.throwing x)) t ∧ xQ X t
theorem Stand_exact {X : CX} {T : State} {H : Heap} {locs : List Loc} {cells slots : Nat} (hT : T.heap = H) (Y : Stand (xp X) (xl X) (xe X) (xR X) (xs X) (xm X) (xa X) (xb X) (xme X) (xc X) T locs cells slots) : Stand (xp X) (xl X) (xe X) (xR X) (xs X) (xm X) (xa X) (xb X) (xme X) (xc X) T locs (H.size - (xs X).heap.size) (slotSum H - slotSum (xs X).heap) := by
  have b0 : (xs X).slotsUsed = slotSum (xs X).heap := by
    have h := Y.room
    simp only [State.hasRoom, Bool.and_eq_true] at h
    exact (State.slotsTrue_iff _).mp h.2
  have b1 : T.slotsUsed = slotSum T.heap := (State.slotsTrue_iff T).mp Y.book
  refine { Y with same := ?_ }
  obtain ⟨a1, a2, a3, a4, a5, a6⟩ := Y.same
  refine ⟨a1, a2, ?_, a4, ?_, a6⟩
  · have a2' : (xs X).heap.size ≤ T.heap.size := a2
    show T.heap.size ≤ _
    rw [← hT]
    omega
  · have a4' : T.slotsUsed = _ := a4
    rw [← hT]
    omega
section XB
variable {l : Launch} {R : Room} {p : Program} {e : Env} {below : List Frame} {s : State} {sargs : Array Value} {y : MethodName}
theorem backX {ws : List Cond} {rm : Room} {Pc : Array Value → State → Prop} {Qc : Array Value → State → Outcome → State → Prop} {mc ms : Nat} {free : Addr → Prop} {maxL : Nat}
    (hM : MX l y ws rm Pc Qc mc ms free) (hblind : FrameBlind Pc) (hrc : rm.cells = mc) (hrs : rm.slots = ms) (hframes : rm.frames + 1 ≤ R.frames) (hlocals : 8 + (maxL + 11) + rm.locals ≤ R.locals)
    (hws : ∀ w ∈ ws, ∀ a' U, s.WarmedH U.vm → w.before a' U = true)
    (hcode : ∀ (U : State) (mk : MethodId), s.WarmedH U.vm → U.methodNamed? y = some mk → ∃ methY cY, U.vm.method? mk = some methY ∧ methY.code = some cY ∧ cY.maxLocals = maxL)
    (hinit : ∀ a' U, s.WarmedH U.vm → (Cond.initialized y.cls).before a' U = true)
    {m : MethodId} {meth : Method} {c : Code} {U : State} {Ls : List Loc} {c0 s0 : Nat} {g : JFrame} {ig : Instr} {len : Nat} {mk : MethodId} {a : Array Value} (X : Stand p l e R s m sargs below meth c U Ls c0 s0) (hg : g.method = m) (hsize : g.locals.size = c.maxLocals) (hdg : decode c.code g.pc = .ok (ig, len)) (hW : 2 * g.monitorRoom + (g.stack.map fun v => v.category).sum ≤ 8) (hn : U.methodNamed? y = some mk) (hc : c0 + mc ≤ R.cells) (hs : s0 + ms ≤ R.slots) (hP : Pc a U) :
    ∃ (o : Outcome) (t T' : State) (L : List Loc), Qc a (U.calling g mk a) o t ∧ Stand p l e R s m sargs below meth c T' (Ls ++ L) (c0 + mc) (s0 + ms) ∧ T'.heap = t.heap ∧ (∀ q ∈ L, free q.base) ∧
      ((∃ v, o = .returned v ∧ Steps p.tables e below (doInvoke e (U.setTop g) [] mk a).1 (T'.setTop { g with pc := g.pc + len, stack := v.toList ++ g.stack })) ∨ (∃ x, o = .threw x ∧ Steps p.tables e below (doInvoke e (U.setTop g) [] mk a).1 ((T'.setTop g).pushFrame (.throwing x)))) := by
  obtain ⟨methY, cY, hmY, hcY, hlY⟩ := hcode U mk X.warmed hn
  obtain ⟨kY, hkY, -⟩ := className_of_methodNamed hn
  have hinitY : kY.init = .initialized := Cond.initialized_spec (findClass_of_methodNamed hn) hkY (hinit a U X.warmed)
  have h : At U g.method c below := by rw [hg]; exact X.here
  have happ : (headSpec ws rm).appliesLoose y e.platform (U.calling g mk a) = true :=
    Spec.appliesLoose_calling (g := g) h hdg hn hkY hinitY
      (X.room_calling (g := g) (R' := (headSpec ws rm).room) hsize hmY hcY hframes (by rw [hlY]; show _ + _ + rm.locals ≤ _; omega) (by show c0 + rm.cells ≤ _; omega) (by show s0 + rm.slots ≤ _; omega)) (atoms_intro fun w hw => hws w hw _ _ X.warmed)
  obtain ⟨mid, hmid⟩ := h.above
  have hfr : (U.setTop g).frames = (.java g :: mid) ++ below := by rw [State.frames_setTop' g h.top, hmid]; rfl
  obtain ⟨o, s₂, hsteps, -, hend, hq, L, ⟨hw1, hw2⟩, hL⟩ := Steps.callFree hM p X.admits X.cas X.clock (acts := []) hfr happ (hblind _ _ _ _ hP) trivial
  rw [State.frames_setTop' g h.top, X.tail] at hend
  cases o with
  | returned v =>
    obtain ⟨T', X', -, -, ht⟩ := X.outOf hg hdg hend hw1 hw2
    refine ⟨_, s₂, T', L, hq, X', by rw [ht]; rfl, hL, Or.inl ⟨v, rfl, ?_⟩⟩
    rw [← ht]; exact hsteps
  | threw x =>
    obtain ⟨T', X', -, -, ht⟩ := X.outOfThrown hg hend hw1 hw2
    refine ⟨_, s₂, T', L, hq, X', by rw [ht]; rfl, hL, Or.inr ⟨x, rfl, ?_⟩⟩
    rw [← ht]; exact hsteps
end XB
section XV
variable {X : CX} {cc : ByteArray} {own : String} {nL d : Nat} {w w1 : AH} {pc : Nat} {ls ls' : List (Option Value)} {st st' rest : List Value}
/-- what a caller knows of a callee -/
def CD (s : State) (y : MethodName) (ws : List Cond) (maxL : Nat) : Prop :=
  (∀ w ∈ ws, ∀ (a' : Array Value) (U : State), s.WarmedH U.vm → w.before a' U = true) ∧
  (∀ (U : State) (mk : MethodId), s.WarmedH U.vm → U.methodNamed? y = some mk → ∃ methY cY, U.vm.method? mk = some methY ∧ methY.code = some cY ∧ cY.maxLocals = maxL ∧ parseMethodDescriptor y.desc = some methY.sig) ∧
  (∀ (a' : Array Value) (U : State), s.WarmedH U.vm → (Cond.initialized y.cls).before a' U = true) ∧ maxL ≤ 45
theorem CD.plain {s : State} {args : Array Value} {y : MethodName} {code : ByteArray} {maxL : Nat} {ret : Option FieldType} (hts : ∀ w ∈ lw_all, w.before args s = true) (hc : Cond.code y code maxL ret ∈ lw_all) (hi : Cond.initialized y.cls ∈ lw_all) (hm : maxL ≤ 45) : CD s y (ws_ y code maxL ret) maxL := by
  have hp := pay_in hts (lw_meth hc)
  refine ⟨hp, fun U mk hU hn => ?_, fun a' U hU => word_at hU (Or.inl (by first | rfl | simp [Cond.onTables, Cond.keeps, Cond.steady])) (hts _ hi), hm⟩
  obtain ⟨meth, c, h1, h2, h3, h4, h5, h6, h7, h8⟩ := Cond.code_spec hn (hp _ List.mem_cons_self #[] U hU)
  exact ⟨meth, c, h1, h2, h4, h8⟩
theorem CD.with {s : State} {args : Array Value} {y : MethodName} {code : ByteArray} {maxL : Nat} {ret : Option FieldType} {hh : List (Nat × Nat × Nat × Nat)} (hts : ∀ w ∈ lw_all, w.before args s = true) (hc : Cond.codeWith y code maxL ret hh ∈ lw_all) (hi : Cond.initialized y.cls ∈ lw_all) (hm : maxL ≤ 45) : CD s y (wsW_ y code maxL ret hh) maxL := by
  have hp := pay_in hts (lw_methW hc)
  refine ⟨hp, fun U mk hU hn => ?_, fun a' U hU => word_at hU (Or.inl (by first | rfl | simp [Cond.onTables, Cond.keeps, Cond.steady])) (hts _ hi), hm⟩
  obtain ⟨m9, meth, c, hn9, h1, h2, h3, h4, h5, h6, h7, h8⟩ := Cond.codeWith_spec (hp _ List.mem_cons_self #[] U hU)
  cases hn.symm.trans hn9
  exact ⟨meth, c, h1, h2, h4, h8⟩
/-- the machine goes into the callee -/
def Inv (X : CX) (H : Heap) (locs : List Loc) (cells slots : Nat) (y : MethodName) (pc : Nat) (LS : Array Slot) (st rest av : List Value) : Prop :=
  ∀ T : State, T.heap = H → Stand (xp X) (xl X) (xe X) (xR X) (xs X) (xm X) (xa X) (xb X) (xme X) (xc X) T locs cells slots → ∃ (vm₁ : Vm) (mk : MethodId), (T.setVm vm₁).methodNamed? y = some mk ∧ Stand (xp X) (xl X) (xe X) (xR X) (xs X) (xm X) (xa X) (xb X) (xme X) (xc X) (T.setVm vm₁) locs cells slots ∧
    ∀ target, Steps (xp X).tables (xe X) (xb X) (doInvoke (xe X) ((T.setVm vm₁).setTop (F0 (xm X) pc LS rest)) [] mk av.toArray).1 target → Steps (xp X).tables (xe X) (xb X) (T.setTop (F0 (xm X) pc LS st)) target
/-- what goes on behind a call, however it ends -/
def VO (X : CX) (cc : ByteArray) (own : String) (nL d : Nat) (w1 : AH) (pc len : Nat) (ls : List (Option Value)) (rest : List Value) (o : Outcome) : Prop := match o with
  | .returned v => V X cc own nL d w1 (pc + len) ls (v.toList ++ rest)
  | .threw x => VT X cc own nL d w1 pc ls rest x
theorem V_into {H : Heap} {locs : List Loc} {LS : Array Slot} {cells slots d' maxL len : Nat} {y : MethodName} {ws : List Cond} {av : List Value} {o : Outcome} {ig : Instr} (C : CXok X cc own nL d) (hW : VW X w H locs) (h : lv_has LS nL (lpr 0 ls)) (hinv : ∀ cells slots, Inv X H locs cells slots y pc LS st rest av)
    (hM : MX (xl X) y ws (rmA d' w) (va_Pc av (PA (xD X) w)) (QA (xD X) w o w1) (hlc w - hsz w) (hls w - hns w) (fA w)) (hcd : CD (xs X) y ws maxL) (hdd : d' + 1 ≤ d) (hcat : (rest.map fun v => v.category).sum ≤ 8) (hdg : decode cc pc = .ok (ig, len))
    (kk : VO X cc own nL d w1 pc len ls rest o) : WX X H locs cells slots (F0 (xm X) pc LS st) := by
  have C0 := C
  obtain ⟨hx, hb, hml, hown, hts, hK, hA, hfr, hlo⟩ := C
  obtain ⟨hws, hcode, hini, hmx⟩ := hcd
  refine WX_exact ?_
  intro T hT Y
  obtain ⟨vm₁, mk, hnm, Y1, hgo⟩ := hinv _ _ T hT Y
  have hf := V_fits hW
  obtain ⟨o', t, T', L, hq, X', e1, hL, hor⟩ := backX (maxL := maxL) (g := F0 (xm X) pc LS rest) (a := av.toArray) hM PA.blind rfl rfl (by show d' + 1 ≤ _; omega) (by show 8 + (maxL + 11) + 64 * d' ≤ _; omega) hws (fun U mk hU hn => by obtain ⟨a, b, c1, c2, c3, -⟩ := hcode U mk hU hn; exact ⟨a, b, c1, c2, c3⟩) hini Y1 rfl (by rw [hml]; exact h.1) (by rw [hb]; exact hdg) (lv_room hcat) hnm hf.1 hf.2 ⟨rfl, by show Hold _ _ (T.setVm vm₁).heap; rw [show (T.setVm vm₁).heap = T.heap from rfl, hT]; exact hW.1, KN.warm Y1.warmed hK⟩
  obtain ⟨hv, hH, hF, hns, hsup, hc1, hc2⟩ := hq
  subst hv
  obtain ⟨z1, z2, z3, z4, z5⟩ := hW.1
  obtain ⟨-, hS, hss, hA0, hr1, hr2⟩ := hW
  have hsub : ∀ q, fA w q → xA X q := fun q hq => by
    rcases hq with g | g
    · exact hA0 q g
    · exact hA q (Nat.le_trans (by rw [← z1]; exact hS.1) g)
  obtain ⟨f1, f2⟩ := hF
  have h0 : ((T.setVm vm₁).calling (F0 (xm X) pc LS rest) mk av.toArray).heap = H := hT
  rw [h0] at f1 f2
  have hW1 : VW X w1 T'.heap (locs ++ L) := by
    refine ⟨by rw [e1]; exact hH, ⟨by rw [e1]; exact Nat.le_trans hS.1 f1, fun q g1 g2 => ?_, fun q hq => ?_⟩, ?_, fun q hq => hsub q (hsup q hq), by rw [hc1]; exact hr1, by rw [hc2]; exact hr2⟩
    · rw [e1, f2 q (Nat.lt_of_lt_of_le g1 hS.1) (fun z => g2 (hsub q z))]
      exact hS.2.1 q g1 g2
    · rcases List.mem_append.mp hq with g | g
      · exact hS.2.2 q g
      · exact hsub _ (hL q g)
    · rw [e1, hH.2.1]
      omega
  rcases hor with ⟨v, rfl, hst⟩ | ⟨x, rfl, hst⟩
  · obtain ⟨t2, a1, b1⟩ := kk C0 T'.heap (locs ++ L) LS _ _ hW1 h T' rfl X'
    exact ⟨t2, hgo t2 (hst.trans a1), b1⟩
  · obtain ⟨t2, a1, b1⟩ := kk C0 T'.heap (locs ++ L) LS _ _ hW1 h T' rfl X'
    exact ⟨t2, hgo t2 (hst.trans a1), b1⟩
/-- a virtual call of a method of the receiver's own class -/
def VCx (own : String) (index ci : Nat) (y : MethodName) (n : Nat) : Prop :=
  (∃ (T : u_T) (N : Nat), clsL[ci]? = some (y.cls, T, N)) ∧ Cond.methodLink own index y ∈ lw_all ∧ Cond.instanceMethod y ∈ lw_all ∧ Cond.selects y.cls y y ∈ lw_all ∧ y.cls ≠ "java/lang/invoke/MethodHandle" ∧ y.cls ≠ "java/lang/invoke/VarHandle" ∧ (parseMethodDescriptor y.desc).map (fun d => d.parameters.length) = some n
theorem Inv.virt {H : Heap} {locs : List Loc} {LS : Array Slot} {index ci b n maxL : Nat} {y : MethodName} {ws : List Cond} {av : List Value} (C : CXok X cc own nL d) (hW : VW X w H locs) (h : lv_has LS nL (lpr 0 ls)) (hc : VCx own index ci y n) (hcd : CD (xs X) y ws maxL) (hk : (hkd w b).1 = 10 + ci) (hn : av.length = n) (hst : st = av.reverse ++ .ref b :: rest) (hd : decode cc pc = .ok (.invokevirtual index, 3)) (cells slots : Nat) : Inv X H locs cells slots y pc LS st rest (.ref b :: av) := by
  obtain ⟨hx, hb, hml, hown, hts, hK, hA, hfr, hlo⟩ := C
  obtain ⟨⟨Tt, N, hcl⟩, q1, q2, q3, q4, q5, q6⟩ := hc
  obtain ⟨cell, g1, g2, g3, -⟩ := (hW.1.2.2.2.2.1 b).obj hk hcl
  intro T hT Y
  obtain ⟨mk, methM, hnamed, hmethM, hstM, habM⟩ := Cond.instanceMethod_spec (hts _ q2)
  obtain ⟨methY, cY, k1, k2, k3, k4⟩ := hcd.2.1 (xs X) mk (State.WarmedH.refl _) hnamed
  cases hmethM.symm.trans k1
  obtain ⟨c2, r2, m2, p1, p2, p3, p4, kP, hkP, hkPi⟩ := Cond.selects_spec (hts _ q3)
  have hcls : (xs X).vm.findClass y.cls = some cell.cls := by rw [g2]; exact (hK.1 ci _ hcl).2.1
  cases hcls.symm.trans p1
  cases (State.methodFound?_of_named hnamed ⟨q4, q5⟩).symm.trans p2
  cases hnamed.symm.trans p3
  have hselP : selectMethod (xe X).platform (xs X).vm cell.cls mk = .method mk := by rw [Launch.admits_selectMethod Y.admits]; exact p4
  have hlen : av.length = methM.sig.parameters.length := by
    rw [k4] at q6
    exact hn.trans (Option.some.inj q6).symm
  obtain ⟨vm₁, X₁, hstep₁⟩ := Y.invokevirtual hx hown (hts _ q1) hnamed hmethM hstM hkP hkPi ⟨q4, q5⟩ (a := b) (cell := cell) (by rw [hT]; exact g1)
    (fun z h => by rw [g3] at h; cases h) hselP hmethM habM hkP hkPi (g := F0 (xm X) pc LS st) rfl (argsL := av) (rest := rest) hlen hst (by rw [hb]; exact hd)
  exact ⟨vm₁, mk, X₁.named hnamed, X₁, fun target hh => hstep₁ _ fun acts => by rw [doInvoke_state]; exact hh⟩
/-- a virtual call by a name that the receiver's class overrides or inherits -/
def UCx (own : String) (index ci : Nat) (x y : MethodName) (n : Nat) : Prop :=
  (∃ (C : String) (T : u_T) (N : Nat), clsL[ci]? = some (C, T, N) ∧ Cond.selects C x y ∈ lw_all) ∧ Cond.methodLink own index x ∈ lw_all ∧ Cond.sameMethod x.cls x.cls x.name x.desc ∈ lw_all ∧ Cond.instanceMethod y ∈ lw_all ∧ x.cls ≠ "java/lang/invoke/MethodHandle" ∧ x.cls ≠ "java/lang/invoke/VarHandle" ∧ (parseMethodDescriptor x.desc).map (fun d => d.parameters.length) = some n ∧
  (Cond.declares x ∈ lw_nest ∨ (Cond.instanceMethod x ∈ lw_all ∧ ∃ b m r, Cond.code x b m r ∈ lw_all))
theorem Inv.up {H : Heap} {locs : List Loc} {LS : Array Slot} {index ci b n : Nat} {x y : MethodName} {av : List Value} (C : CXok X cc own nL d) (hW : VW X w H locs) (h : lv_has LS nL (lpr 0 ls)) (hc : UCx own index ci x y n) (hk : (hkd w b).1 = 10 + ci) (hn : av.length = n) (hst : st = av.reverse ++ .ref b :: rest) (hd : decode cc pc = .ok (.invokevirtual index, 3)) (cells slots : Nat) : Inv X H locs cells slots y pc LS st rest (.ref b :: av) := by
  obtain ⟨hx, hb, hml, hown, hts, hK, hA, hfr, hlo⟩ := C
  obtain ⟨⟨Cn, Tt, N, hcl, q0⟩, q1, q2, q3, q4, q5, q6, q7⟩ := hc
  obtain ⟨cell, g1, g2, g3, -⟩ := (hW.1.2.2.2.2.1 b).obj hk hcl
  have hdecl : va_Decl (xs X) x := by
    rcases q7 with q7 | ⟨q7, b0, m0, r0, q8⟩
    · exact va_Decl.abs (hK.2.2.1 _ q7)
    · exact va_Decl.of (hts _ q7) (hts _ q8)
  intro T hT Y
  obtain ⟨r0, r, hnx, hrm, hstR, hsigR⟩ := hdecl
  obtain ⟨cn, ck, r1, hcn, hck, hni, hf, hn1⟩ := Cond.sameMethod_found (hts _ q2)
  cases hnx.symm.trans hn1
  obtain ⟨mk, methM, hnamed, hmethM, -, habM⟩ := Cond.instanceMethod_spec (hts _ q3)
  obtain ⟨c2, r2, m2, p1, p2, p3, p4, kP, hkP, hkPi⟩ := Cond.selects_spec (hts _ q0)
  have hcls : (xs X).vm.findClass Cn = some cell.cls := by rw [g2]; exact (hK.1 ci _ hcl).2.1
  cases hcls.symm.trans p1
  cases hf.symm.trans p2
  cases hnamed.symm.trans p3
  have hselP : selectMethod (xe X).platform (xs X).vm cell.cls r0 = .method mk := by rw [Launch.admits_selectMethod Y.admits]; exact p4
  have hlen : av.length = r.sig.parameters.length := by
    rw [hsigR] at q6
    exact hn.trans (Option.some.inj q6).symm
  obtain ⟨vm₁, X₁, hstep₁⟩ := Y.invokevirtualUp hx hown (hts _ q1) (hts _ q2) ⟨q4, q5⟩ hnx hrm hstR (a := b) (cell := cell) (by rw [hT]; exact g1)
    (fun z h => by rw [g3] at h; cases h) hselP hmethM habM hkP hkPi (g := F0 (xm X) pc LS st) rfl (argsL := av) (rest := rest) hlen hst (by rw [hb]; exact hd)
  exact ⟨vm₁, mk, X₁.named hnamed, X₁, fun target hh => hstep₁ _ fun acts => by rw [doInvoke_state]; exact hh⟩
/-- .. the three calls, with either end: own class (plain, with handlers), overridden -/
theorem V_xV {index ci b n maxL d' : Nat} {y : MethodName} {code : ByteArray} {ret : Option FieldType} {av : List Value} {o : Outcome} (hM : MA (xl X) (xD X) y code maxL ret d' (.ref b :: av) w o w1) (hc : VCx own index ci y n) (hcw : Cond.code y code maxL ret ∈ lw_all) (hi : Cond.initialized y.cls ∈ lw_all) (hm : maxL ≤ 45) (hk : (hkd w b).1 = 10 + ci) (hdd : d' + 1 ≤ d) (hn : av.length = n) (hst : st = av.reverse ++ .ref b :: rest) (hcat : (rest.map fun v => v.category).sum ≤ 8) (hd : decode cc pc = .ok (.invokevirtual index, 3))
    (kk : VO X cc own nL d w1 pc 3 ls rest o) : V X cc own nL d w pc ls st := fun C H locs LS cells slots hW h =>
  V_into C hW h (Inv.virt C hW h hc (CD.plain C.2.2.2.2.1 hcw hi hm) hk hn hst hd) hM (CD.plain C.2.2.2.2.1 hcw hi hm) hdd hcat hd kk
theorem V_xW {index ci b n maxL d' : Nat} {y : MethodName} {code : ByteArray} {ret : Option FieldType} {hh : List (Nat × Nat × Nat × Nat)} {av : List Value} {o : Outcome} (hM : MAW (xl X) (xD X) y code maxL ret hh d' (.ref b :: av) w o w1) (hc : VCx own index ci y n) (hcw : Cond.codeWith y code maxL ret hh ∈ lw_all) (hi : Cond.initialized y.cls ∈ lw_all) (hm : maxL ≤ 45) (hk : (hkd w b).1 = 10 + ci) (hdd : d' + 1 ≤ d) (hn : av.length = n) (hst : st = av.reverse ++ .ref b :: rest) (hcat : (rest.map fun v => v.category).sum ≤ 8) (hd : decode cc pc = .ok (.invokevirtual index, 3))
    (kk : VO X cc own nL d w1 pc 3 ls rest o) : V X cc own nL d w pc ls st := fun C H locs LS cells slots hW h =>
  V_into C hW h (Inv.virt C hW h hc (CD.with C.2.2.2.2.1 hcw hi hm) hk hn hst hd) hM (CD.with C.2.2.2.2.1 hcw hi hm) hdd hcat hd kk
theorem V_xU {index ci b n maxL d' : Nat} {x y : MethodName} {code : ByteArray} {ret : Option FieldType} {av : List Value} {o : Outcome} (hM : MA (xl X) (xD X) y code maxL ret d' (.ref b :: av) w o w1) (hc : UCx own index ci x y n) (hcw : Cond.code y code maxL ret ∈ lw_all) (hi : Cond.initialized y.cls ∈ lw_all) (hm : maxL ≤ 45) (hk : (hkd w b).1 = 10 + ci) (hdd : d' + 1 ≤ d) (hn : av.length = n) (hst : st = av.reverse ++ .ref b :: rest) (hcat : (rest.map fun v => v.category).sum ≤ 8) (hd : decode cc pc = .ok (.invokevirtual index, 3))
    (kk : VO X cc own nL d w1 pc 3 ls rest o) : V X cc own nL d w pc ls st := fun C H locs LS cells slots hW h =>
  V_into C hW h (Inv.up C hW h hc hk hn hst hd) hM (CD.plain C.2.2.2.2.1 hcw hi hm) hdd hcat hd kk
/-! throwing -/
theorem V_athrow {x : Nat} (hd : decode cc pc = .ok (.athrow, 1)) (kk : VT X cc own nL d w pc ls st x) : V X cc own nL d w pc ls (.ref x :: st) := by
  intro C H locs LS cells slots hW h T hT Y
  obtain ⟨t, a1, b1⟩ := kk C H locs LS cells slots hW h T hT Y
  refine ⟨t, ?_, b1⟩
  have hx := C.1
  have hb := C.2.1
  jvm_step Y.here [hx, hb, hd, athrow.wp_sem]
  exact a1
theorem VT_out {w0 : AH} {d0 x : Nat} {ret : Option FieldType} {nm : String} {hh : List (Nat × Nat × Nat × Nat)} (hE : XE X w0 d0 ret nm (.threw x) w) (hH : XH X hh) (hcov : hh.all (fun q => !(decide (q.1 ≤ pc) && decide (pc < q.2.1))) = true) : VT X cc own nL d w pc ls st x := by
  intro C H locs LS cells slots hW h T hT Y
  obtain ⟨h1, h2, h3⟩ := V_locs hE hW
  have Y2 := stand_widen (Stand_exact hT Y) h2 h3
  have hout : ∀ q ∈ (xc X).exceptionTable.toList, covers q (F0 (xm X) pc LS st).pc = false := by
    intro q hq
    have hm : (q.startPc, q.endPc, q.handlerPc, q.catchType) ∈ hh := by rw [← hH]; exact List.mem_map.mpr ⟨q, hq, rfl⟩
    have := List.all_eq_true.mp hcov _ hm
    have this' : pc < q.startPc ∨ q.endPc ≤ pc := by simpa using this
    simp [covers]
    omega
  have hlk : (xme X).locks = false := hE.2.2.2.2.2.2.2.2.1
  obtain ⟨s1, s2, s3, s4, s5⟩ := Y2.leaveThrown x (g := F0 (xm X) pc LS st) rfl rfl rfl hout (hlocks := hlk)
  refine ⟨_, s1, ?_⟩
  rw [hE.1]
  exact ⟨_, s2, s3, V_end hE hW hT, locs, ⟨s4, s5⟩, h1⟩
end XV
/-! ===== catching: the catch's class may be resolved by the search itself ===== -/
theorem fh_cold {Q : Handler → Pre} {E : CtlPost} {e : Env} {d : Bool} {acts : List Action} {s : State} {f : JFrame} {a : Addr} {x : ExceptionTableEntry} {t : List ExceptionTableEntry} {c : ClassId} {vm' : Vm} {cell : Cell} (hx : covers x f.pc = true) (h0 : x.catchType ≠ 0)
    (hg : (Jvm.resolveClass f.method.cls x.catchType).Gives e.toSetting s.vm (.ok c) vm') (hsz : vm'.classes.size ≤ s.vm.classes.size) (hcell : s.heap[a]? = some cell) (hobj : ∀ k, cell.vm ≠ .statics k)
    (hk : ∃ k, vm'.classes[cell.cls]? = some k) (hc : ∃ k, vm'.classes[c]? = some k) (hfit : vm'.assignable cell.cls c = true) :
    wp (findHandler.go f a (x :: t)) Q E e d acts s ↔ Q (.found x.handlerPc) ((VmOp.resolveClass f.method.cls x.catchType).dirties d) ((VmOp.resolveClass f.method.cls x.catchType).acts acts) (s.setVm vm') := by
  simp only [covers] at hx
  obtain ⟨ha, ht⟩ := hg.op (op := VmOp.resolveClass f.method.cls x.catchType) rfl
  have hcell' : (s.setVm vm').heap[a]? = some cell := hcell
  simp [findHandler.go, hx, h0, ha, ht, hsz, hcell, hcell', hobj, hk, hc, hfit]
theorem st_cold {e : Env} {s s' : State} {a : Addr} {f : JFrame} {r : List Frame} {pc : Nat} {dd : Bool} (hfind : ∀ (Q : Handler → Pre) (E : CtlPost), wp (findHandler f a) Q E e false [] s ↔ Q (.found pc) dd [] s') :
    (stepThrowing e s a (.java f :: r)).Is (s'.setFrames (.java { f with pc := pc, stack := [.ref a] } :: r)) [] := by
  simp only [stepThrowing, searchFrame, vmDo]
  generalize hr : Sem.go _ e false [] s = res
  obtain ⟨as, rfl, ha⟩ := Sem.eq_ok_of hr (a := Handler.found pc) (s' := s') (acts' := []) (by simp [hfind _ _])
  exact ⟨rfl, ha⟩
theorem VT_catch {X : CX} {cc : ByteArray} {own : String} {nL d : Nat} {w : AH} {pc : Nat} {ls : List (Option Value)} {st : List Value} {x hpc ct ci N lo hi : Nat} {C : String} {T : u_T} {pre post : List (Nat × Nat × Nat × Nat)} (hH : XH X (pre ++ (lo, hi, hpc, ct) :: post)) (hpre : pre.all (fun q => !(decide (q.1 ≤ pc) && decide (pc < q.2.1))) = true) (hlo : lo ≤ pc) (hhi : pc < hi) (h0 : ct ≠ 0) (hl : Cond.classLink own ct C ∈ lw_all) (hcl : clsL[ci]? = some (C, T, N)) (hk : (hkd w x).1 = 10 + ci)
    (kk : V X cc own nL d w hpc ls [.ref x]) : VT X cc own nL d w pc ls st x := by
  intro C0 H locs LS cells slots hW h U hU Y
  have hkk := kk C0 H locs LS cells slots hW h
  obtain ⟨hx, hb, hml, hown, hts, hK, hA, hfr, hlo'⟩ := C0
  obtain ⟨cell, g1, g2, g3, -⟩ := (hW.1.2.2.2.2.1 x).obj hk hcl
  have hpl : (xe X).platform.magicAccessors = ({} : Platform).magicAccessors := by rw [Y.admits.platform]
  obtain ⟨cT, hfc, hlk⟩ := Cond.classLink_spec hown (hts _ hl) (xe X).platform hpl
  obtain ⟨hg₁, hwarm₁, hready₁⟩ := State.classEntry (e := xe X) Y.warmed hlk
  have hsz : (U.vm.noted (xm X).cls ct (.cls cT)).classes.size ≤ U.vm.classes.size := by no_record
  generalize U.vm.noted (xm X).cls ct (.cls cT) = vm₁ at hg₁ hwarm₁ hready₁ hsz
  have hKc := (hK.1 ci _ hcl).2
  have ecl : cT = (xD X).1.1 ci := Option.some.inj (hfc.symm.trans hKc.1)
  subst ecl
  have hal : (xs X).vm.Alike vm₁ := hwarm₁.alike
  obtain ⟨k0, hk0⟩ := Vm.classAt_of_findClass hfc
  obtain ⟨k1, hk1, -⟩ := hal.2.2 _ _ hk0
  have hfit : vm₁.assignable cell.cls ((xD X).1.1 ci) = true := by
    rw [g2, hal.assignable]
    exact va_assign hKc
  obtain ⟨t, a1, b1⟩ := hkk (U.setVm vm₁) hU (Y.noted hwarm₁)
  refine ⟨t, ?_, b1⟩
  -- the table's entries
  obtain ⟨tp, te, htp, htm, hte⟩ : ∃ (tp : List ExceptionTableEntry) (te : List ExceptionTableEntry), (xc X).exceptionTable.toList = tp ++ te ∧ tp.map (fun h => (h.startPc, h.endPc, h.handlerPc, h.catchType)) = pre ∧ te.map (fun h => (h.startPc, h.endPc, h.handlerPc, h.catchType)) = (lo, hi, hpc, ct) :: post := by
    obtain ⟨l1, l2, e1, e2, e3⟩ := List.map_eq_append_iff.mp hH
    exact ⟨l1, l2, e1, e2, e3⟩
  obtain ⟨q, te', rfl, hq, -⟩ := List.map_eq_cons_iff.mp hte
  simp only [Prod.mk.injEq] at hq
  obtain ⟨hq1, hq2, hq3, hq4⟩ := hq
  have hm' : ((U.setTop (F0 (xm X) pc LS st)).pushFrame (.throwing x)).vm.method? (F0 (xm X) pc LS st).method = some (xme X) := by
    rw [Stand.throwing_vm]; exact Y.method'
  have hfind : ∀ (Q : Handler → Pre) (E : CtlPost), wp (findHandler (F0 (xm X) pc LS st) x) Q E (xe X) false [] ((U.setTop (F0 (xm X) pc LS st)).pushFrame (.throwing x)) ↔ Q (.found hpc) ((VmOp.resolveClass (xm X).cls ct).dirties false) [] (((U.setTop (F0 (xm X) pc LS st)).pushFrame (.throwing x)).setVm vm₁) := by
    intro Q E
    rw [W.findHandler_eq hm' Y.code, htp]
    have hskip : ∀ y ∈ tp, covers y (F0 (xm X) pc LS st).pc = false := by
      intro y hy
      have hm : (y.startPc, y.endPc, y.handlerPc, y.catchType) ∈ pre := by rw [← htm]; exact List.mem_map.mpr ⟨y, hy, rfl⟩
      have := List.all_eq_true.mp hpre _ hm
      have this' : pc < y.startPc ∨ y.endPc ≤ pc := by simpa using this
      simp [covers]
      omega
    clear htp htm
    induction tp with
    | nil =>
      have := fh_cold (Q := Q) (E := E) (e := xe X) (d := false) (acts := []) (s := (U.setTop (F0 (xm X) pc LS st)).pushFrame (.throwing x)) (f := F0 (xm X) pc LS st) (a := x) (x := q) (t := te') (c := (xD X).1.1 ci) (vm' := vm₁) (cell := cell) (by simp [covers]; omega) (by rw [hq4]; exact h0) (by rw [Stand.throwing_vm, hq4]; exact hg₁) (by rw [Stand.throwing_vm]; exact hsz) (by rw [Stand.throwing_heap, hU]; exact g1) (fun k => by rw [g3]; intro z; cases z) ⟨k1, by rw [g2]; exact hk1⟩ ⟨k1, hk1⟩ hfit
      rw [hq3, hq4] at this
      simpa [VmOp.acts] using this
    | cons y tp ih =>
      rw [List.cons_append, W.findHandler_go_skip (hskip y List.mem_cons_self)]
      exact ih (fun z hz => hskip z (List.mem_cons_of_mem _ hz))
  have hAt : At U (F0 (xm X) pc LS st).method (xc X) (xb X) := Y.here
  obtain ⟨hgo, hw⟩ := hAt.throwing x
  refine Steps.head hgo hw ?_
  rw [stepThread_throwing (frames_entered hAt.top _), (st_cold (s := (U.setTop (F0 (xm X) pc LS st)).pushFrame (.throwing x)) hfind).1]
  obtain ⟨g₀, hg⟩ := Option.isSome_iff_exists.mp hAt.top
  obtain ⟨r, hr⟩ := State.topJava?_eq_some.mp hg
  have hr' : (U.setVm vm₁).frames = .java g₀ :: r := hr
  rw [State.setTop_of_frames _ hr'] at a1
  have e3 : (((U.setTop (F0 (xm X) pc LS st)).pushFrame (.throwing x)).setVm vm₁).setFrames (.java { (F0 (xm X) pc LS st) with pc := hpc, stack := [.ref x] } :: U.frames.tail) = (U.setVm vm₁).setFrames (.java (F0 (xm X) hpc LS [.ref x]) :: r) := by
    rw [State.pushFrame, State.setTop_of_frames _ hr, State.setFrames_setFrames, hr]
    show ((U.setFrames _).setFrames _).setVm vm₁ = _
    rw [State.setFrames_setFrames]
    rfl
  rw [e3]
  exact a1
theorem catch0 {X : CX} {cc : ByteArray} {own : String} {nL d : Nat} {U : State} {locs : List Loc} {LS : Array Slot} {cells slots : Nat} {cell : Cell} {pc : Nat} {st : List Value} {x hpc ct ci N lo hi : Nat} {C : String} {T : u_T} {pre post : List (Nat × Nat × Nat × Nat)} (hH : XH X (pre ++ (lo, hi, hpc, ct) :: post)) (hpre : pre.all (fun q => !(decide (q.1 ≤ pc) && decide (pc < q.2.1))) = true) (hlo : lo ≤ pc) (hhi : pc < hi) (h0 : ct ≠ 0) (hl : Cond.classLink own ct C ∈ lw_all) (hcl : clsL[ci]? = some (C, T, N))
    (C0 : CXok X cc own nL d) (Y : Stand (xp X) (xl X) (xe X) (xR X) (xs X) (xm X) (xa X) (xb X) (xme X) (xc X) U locs cells slots) (g1 : U.heap[x]? = some cell) (g2 : cell.cls = (xD X).1.1 ci) (g3 : cell.vm = .none)
    (kk : ∀ vm₁, Stand (xp X) (xl X) (xe X) (xR X) (xs X) (xm X) (xa X) (xb X) (xme X) (xc X) (U.setVm vm₁) locs cells slots → ∃ t, Steps (xp X).tables (xe X) (xb X) ((U.setVm vm₁).setTop (F0 (xm X) hpc LS [.ref x])) t ∧ xQ X t) : ∃ t, Steps (xp X).tables (xe X) (xb X) ((U.setTop (F0 (xm X) pc LS st)).pushFrame (.throwing x)) t ∧ xQ X t := by
  obtain ⟨hx, hb, hml, hown, hts, hK, hA, hfr, hlo'⟩ := C0
  have hpl : (xe X).platform.magicAccessors = ({} : Platform).magicAccessors := by rw [Y.admits.platform]
  obtain ⟨cT, hfc, hlk⟩ := Cond.classLink_spec hown (hts _ hl) (xe X).platform hpl
  obtain ⟨hg₁, hwarm₁, hready₁⟩ := State.classEntry (e := xe X) Y.warmed hlk
  have hsz : (U.vm.noted (xm X).cls ct (.cls cT)).classes.size ≤ U.vm.classes.size := by no_record
  generalize U.vm.noted (xm X).cls ct (.cls cT) = vm₁ at hg₁ hwarm₁ hready₁ hsz
  have hKc := (hK.1 ci _ hcl).2
  have ecl : cT = (xD X).1.1 ci := Option.some.inj (hfc.symm.trans hKc.1)
  subst ecl
  have hal : (xs X).vm.Alike vm₁ := hwarm₁.alike
  obtain ⟨k0, hk0⟩ := Vm.classAt_of_findClass hfc
  obtain ⟨k1, hk1, -⟩ := hal.2.2 _ _ hk0
  have hfit : vm₁.assignable cell.cls ((xD X).1.1 ci) = true := by
    rw [g2, hal.assignable]
    exact va_assign hKc
  obtain ⟨t, a1, b1⟩ := kk vm₁ (Y.noted hwarm₁)
  refine ⟨t, ?_, b1⟩
  -- the table's entries
  obtain ⟨tp, te, htp, htm, hte⟩ : ∃ (tp : List ExceptionTableEntry) (te : List ExceptionTableEntry), (xc X).exceptionTable.toList = tp ++ te ∧ tp.map (fun h => (h.startPc, h.endPc, h.handlerPc, h.catchType)) = pre ∧ te.map (fun h => (h.startPc, h.endPc, h.handlerPc, h.catchType)) = (lo, hi, hpc, ct) :: post := by
    obtain ⟨l1, l2, e1, e2, e3⟩ := List.map_eq_append_iff.mp hH
    exact ⟨l1, l2, e1, e2, e3⟩
  obtain ⟨q, te', rfl, hq, -⟩ := List.map_eq_cons_iff.mp hte
  simp only [Prod.mk.injEq] at hq
  obtain ⟨hq1, hq2, hq3, hq4⟩ := hq
  have hm' : ((U.setTop (F0 (xm X) pc LS st)).pushFrame (.throwing x)).vm.method? (F0 (xm X) pc LS st).method = some (xme X) := by
    rw [Stand.throwing_vm]; exact Y.method'
  have hfind : ∀ (Q : Handler → Pre) (E : CtlPost), wp (findHandler (F0 (xm X) pc LS st) x) Q E (xe X) false [] ((U.setTop (F0 (xm X) pc LS st)).pushFrame (.throwing x)) ↔ Q (.found hpc) ((VmOp.resolveClass (xm X).cls ct).dirties false) [] (((U.setTop (F0 (xm X) pc LS st)).pushFrame (.throwing x)).setVm vm₁) := by
    intro Q E
    rw [W.findHandler_eq hm' Y.code, htp]
    have hskip : ∀ y ∈ tp, covers y (F0 (xm X) pc LS st).pc = false := by
      intro y hy
      have hm : (y.startPc, y.endPc, y.handlerPc, y.catchType) ∈ pre := by rw [← htm]; exact List.mem_map.mpr ⟨y, hy, rfl⟩
      have := List.all_eq_true.mp hpre _ hm
      have this' : pc < y.startPc ∨ y.endPc ≤ pc := by simpa using this
      simp [covers]
      omega
    clear htp htm
    induction tp with
    | nil =>
      have := fh_cold (Q := Q) (E := E) (e := xe X) (d := false) (acts := []) (s := (U.setTop (F0 (xm X) pc LS st)).pushFrame (.throwing x)) (f := F0 (xm X) pc LS st) (a := x) (x := q) (t := te') (c := (xD X).1.1 ci) (vm' := vm₁) (cell := cell) (by simp [covers]; omega) (by rw [hq4]; exact h0) (by rw [Stand.throwing_vm, hq4]; exact hg₁) (by rw [Stand.throwing_vm]; exact hsz) (by rw [Stand.throwing_heap]; exact g1) (fun k => by rw [g3]; intro z; cases z) ⟨k1, by rw [g2]; exact hk1⟩ ⟨k1, hk1⟩ hfit
      rw [hq3, hq4] at this
      simpa [VmOp.acts] using this
    | cons y tp ih =>
      rw [List.cons_append, W.findHandler_go_skip (hskip y List.mem_cons_self)]
      exact ih (fun z hz => hskip z (List.mem_cons_of_mem _ hz))
  have hAt : At U (F0 (xm X) pc LS st).method (xc X) (xb X) := Y.here
  obtain ⟨hgo, hw⟩ := hAt.throwing x
  refine Steps.head hgo hw ?_
  rw [stepThread_throwing (frames_entered hAt.top _), (st_cold (s := (U.setTop (F0 (xm X) pc LS st)).pushFrame (.throwing x)) hfind).1]
  obtain ⟨g₀, hg⟩ := Option.isSome_iff_exists.mp hAt.top
  obtain ⟨r, hr⟩ := State.topJava?_eq_some.mp hg
  have hr' : (U.setVm vm₁).frames = .java g₀ :: r := hr
  rw [State.setTop_of_frames _ hr'] at a1
  have e3 : (((U.setTop (F0 (xm X) pc LS st)).pushFrame (.throwing x)).setVm vm₁).setFrames (.java { (F0 (xm X) pc LS st) with pc := hpc, stack := [.ref x] } :: U.frames.tail) = (U.setVm vm₁).setFrames (.java (F0 (xm X) hpc LS [.ref x]) :: r) := by
    rw [State.pushFrame, State.setTop_of_frames _ hr, State.setFrames_setFrames, hr]
    show ((U.setFrames _).setFrames _).setVm vm₁ = _
    rw [State.setFrames_setFrames]
    rfl
  rw [e3]
  exact a1
/-! ===== rows of a richer heap: nest mates, kinds of several classes, arrays of references, copies, constants ===== -/
section VN
variable {X : CX} {cc : ByteArray} {own : String} {nL d : Nat} {w w' w1 : AH} {pc : Nat} {ls ls' : List (Option Value)} {st st' rest : List Value} {index ci k a n : Nat} {ty : FieldType} {v : Value} {i : Int32}
/-- a nest mate's private field -/
def FN (own : String) (index ci k : Nat) (ty : FieldType) : Prop := ∃ (ref C host : String) (T : u_T) (N : Nat), CL ci C T N ∧ k < N ∧ tyL ci k = ty ∧ Cond.fieldLinkNest own index ref (T k).2.1 (T k).2.2.1 host ∈ lw_nest ∧ ref = (T k).1
def FNw (own : String) (index ci k : Nat) (ty : FieldType) : Prop := FN own index ci k ty ∧ ∃ (C : String) (T : u_T) (N : Nat), clsL[ci]? = some (C, T, N) ∧ (T k).2.2.2 = false
theorem FN.mk {own ref C host : String} {index ci k N : Nat} {T : u_T} {ty : FieldType} (hc : CL ci C T N) (hk : k < N) (ht : tyL ci k = ty) (hl : Cond.fieldLinkNest own index ref (T k).2.1 (T k).2.2.1 host ∈ lw_tbl) (he : ref = (T k).1) : FN own index ci k ty := ⟨ref, C, host, T, N, hc, hk, ht, List.mem_filter.mpr ⟨hl, rfl⟩, he⟩
theorem V_getN (hF : FN own index ci k ty) (hk : (hkd w a).1 = 10 + ci) (hv : svl w ty a k = v) (hd : decode cc pc = .ok (.getfield index, 3)) (kk : V X cc own nL d w (pc + 3) ls (v :: st)) : V X cc own nL d w pc ls (.ref a :: st) := by
  intro C H locs LS cells slots hW h
  have hkk := kk C H locs LS cells slots hW h
  obtain ⟨ref, Cn, host, T, N, ⟨hc, hin, hty, hnm⟩, hkN, htk, hlink, hsame⟩ := hF
  obtain ⟨hx, hb, hml, hown, hts, hK, hA, hfr, hlo⟩ := C
  obtain ⟨cell, q1, q2, q3, q4⟩ := (hW.1.2.2.2.2.1 a).obj hk hc
  obtain ⟨hS, hfc, kC, hkC, hkind⟩ := hK.1 ci _ hc
  obtain ⟨cf, kf, fi, f, hi, hsl⟩ := hS k hkN
  have hi' : (xs X).fieldFound? ref (T k).2.1 (T k).2.2.1 = some (cf, kf, fi, f) := by rw [hsame]; exact hi
  refine va_Wgetf hx hb hown (va_Nw.use rfl (hK.2.2.1 _ hlink)) hi' (u_facts hfc hkC (u_lays hts hin hkN) hi).1 q1 (by rw [q3]; exact fun h => by cases h) (v := v) ?_ rfl rfl hd hkk
  rw [hsl, q4 k hkN]
  show some (svl w (tyL ci k) a k) = some v
  rw [htk, hv]
theorem V_putN (hF : FNw own index ci k ty) (hk : (hkd w a).1 = 10 + ci) (hu : Upd w w' a k ty v) (hn : narrow ty v = v) (hfit : fits ty v = true) (hd : decode cc pc = .ok (.putfield index, 3)) (kk : V X cc own nL d w' (pc + 3) ls st) : V X cc own nL d w pc ls (v :: .ref a :: st) := by
  intro C H locs LS cells slots hW h
  have C0 := C
  obtain ⟨⟨ref, Cn, host, T, N, ⟨hc, hin, hty, hnm⟩, hkN, htk, hlink, hsame⟩, Cn', T', N', hc', hfin⟩ := hF
  cases hc.symm.trans hc'
  obtain ⟨hx, hb, hml, hown, hts, hK, hA, hfr, hlo⟩ := C
  obtain ⟨cell, q1, q2, q3, q4⟩ := (hW.1.2.2.2.2.1 a).obj hk hc
  have hKn := hK.1 ci _ hc
  have hap : ∀ x y, x < N → y < N → x ≠ y → ((xD X).1.2 ci) x ≠ ((xD X).1.2 ci) y := by
    intro x y hx hy hne
    obtain ⟨_, _, _, fa, hia, ea⟩ := hKn.1 x hx
    obtain ⟨_, _, _, fb, hib, eb⟩ := hKn.1 y hy
    rw [← ea, ← eb]
    refine u_apart (u_lays hts hin hx) (u_lays hts hin hy) hia hib ?_
    rw [(State.fieldFound?_type hia (hty x hx)).1, (State.fieldFound?_type hib (hty y hy)).1]
    exact hnm x hx y hy hne
  obtain ⟨hS, hfc, kC, hkC, hkind⟩ := hKn
  obtain ⟨cf, kf, fi, f, hi, hsl⟩ := hS k hkN
  have hi' : (xs X).fieldFound? ref (T k).2.1 (T k).2.2.1 = some (cf, kf, fi, f) := by rw [hsame]; exact hi
  have hlay := hts _ (hin _ (u_in_lay hkN))
  unfold u_lay at hlay
  rw [if_neg (by rw [hfin]; decide)] at hlay
  have hst := (u_facts hfc hkC (u_lays hts hin hkN) hi).1
  have h6 := u_store hfc hkC hkind hlay hi (by rw [hty k hkN, htk]) hn hfit
  refine va_WputK hx hb (f := f) hown (va_Nw.use rfl (hK.2.2.1 _ hlink)) hi' hst (by rw [q2]; exact h6) q1 q3 (by rw [hsl]; exact k2_hasslot (q4 k hkN)) rfl rfl hd fun H' e1 e2 e3 => ?_
  rw [hsl] at e1 ⊢
  refine kk C0 H' _ LS cells slots (hW.put hu (by rw [hk]; have hci : ci < 27 := (List.getElem?_eq_some_iff.mp hc).1; exact ⟨by omega, by omega⟩) e2 e3 (fun c hc1 => ⟨_, e1, ?_⟩) ?_) h
  · cases q1.symm.trans hc1
    simp [Cell.setSlot]
  · have ek : hkd w' a = (10 + ci, (hkd w a).2) := by unfold hkd; rw [hu.2.1]; exact Prod.ext hk rfl
    unfold cellOk
    rw [ek]
    refine cOk.of_obj hc ?_
    refine t_OB.to (V := updV (fun j => svl w (tyL ci j) a j) k v) ⟨_, e1, q2, q3, t_set q4 hap hkN v⟩ (fun j _ => ?_)
    unfold updV
    by_cases e : j = k
    · subst e
      rw [if_pos rfl, htk, hu.2.2.2]
    · rw [if_neg e]
      exact (hu.2.2.1 _ a j (fun z => e z.2)).symm
/-- an object's class, as a row asks it -/
theorem VW.cell {H : Heap} {locs : List Loc} {C : String} {T : u_T} {N : Nat} (C0 : CXok X cc own nL d) (hW : VW X w H locs) (hcl : clsL[ci]? = some (C, T, N)) (hk : (hkd w a).1 = 10 + ci) : ∃ cell : Cell, H[a]? = some cell ∧ cell.vm.isStatics = false ∧ (xs X).vm.findClass C = some cell.cls := by
  obtain ⟨cell, g1, g2, g3, -⟩ := (hW.1.2.2.2.2.1 a).obj hk hcl
  exact ⟨cell, g1, by rw [g3]; rfl, by rw [g2]; exact (C0.2.2.2.2.2.1.1 ci _ hcl).2.1⟩
/-- checkcast of an object whose class can be cast -/
def CC (own : String) (index ci : Nat) : Prop := ∃ (nm C : String) (T : u_T) (N : Nat), clsL[ci]? = some (C, T, N) ∧ Cond.classLink own index nm ∈ lw_all ∧ Cond.castable C nm ∈ lw_nest
theorem CC.mk {own nm C : String} {index ci N : Nat} {T : u_T} (h1 : clsL[ci]? = some (C, T, N)) (h2 : Cond.classLink own index nm ∈ lw_all) (h3 : Cond.castable C nm ∈ lw_tbl) : CC own index ci := ⟨nm, C, T, N, h1, h2, List.mem_filter.mpr ⟨h3, rfl⟩⟩
theorem V_cast (hc : CC own index ci) (hk : (hkd w a).1 = 10 + ci) (hd : decode cc pc = .ok (.checkcast index, 3)) (kk : V X cc own nL d w (pc + 3) ls (.ref a :: st)) : V X cc own nL d w pc ls (.ref a :: st) := by
  intro C H locs LS cells slots hW h
  obtain ⟨nm, Cn, T, N, h1, h2, h3⟩ := hc
  exact va_castY C.1 C.2.1 C.2.2.2.1 (C.2.2.2.2.1 _ h2) (C.2.2.2.2.2.1.2.2.1 _ h3) (VW.cell C hW h1 hk) hd (kk C H locs LS cells slots hW h)
theorem vq_cast {s : State} {A : Array Value} {C T : String} {c t : ClassId} (h : (Cond.castable C T).before A s = true) (h1 : s.vm.findClass C = some c) (h2 : s.vm.findClass T = some t) : s.vm.assignable c t = true := by
  simpa [Cond.before, Cond.holds, Cond.value, h1, h2] using h
/-! arrays of references -/
def aCl (k : Nat) : String := if k = 5 then "java/lang/Object" else "FirstPolls$Told"
theorem V_anew {k : Nat} (h0 : k = 5 ∨ k = 6) (hl : Cond.classLink own index (aCl k) ∈ lw_all) (hn : ¬ i < 0) (hN : i.toNatClampNeg = n) (hb : n * 4 ≤ 536870912) (hr : hroom w n) (hd : decode cc pc = .ok (.anewarray index, 3)) (kk : V X cc own nL d (hnew w k n) (pc + 3) ls (.ref (hsz w) :: st)) : V X cc own nL d w pc ls (.int i :: st) := by
  intro C H locs LS cells slots hW h
  have C0 := C
  obtain ⟨hx, hbc, hml, hown, hts, hK, hA, hfr, hlo⟩ := C
  obtain ⟨⟨z1, z2, z3, z4, z5⟩, hS, hss, hA0, hr1, hr2⟩ := id hW
  have s1 := hS.1
  subst hN
  have hao : va_AO (aCl k) (xs X) := by
    rcases h0 with rfl | rfl
    · exact hK.2.2.2.1.1
    · exact hK.2.2.2.1.2
  have haty : aty k = .object (aCl k) := by rcases h0 with rfl | rfl <;> rfl
  refine WX_exact ?_
  refine W.anew hx hbc hown (hts _ hl) hao.use rfl hd rfl hn hb (by rw [hr1]; have := hr.1; omega) (by rw [hr2]; have := hr.2; omega) fun cA kA comp e1 e2 e3 e4 => ?_
  have eA : cA = (xD X).2.1 k := by
    have g := (hK.2.1 k (by omega) (by omega)).2
    rw [haty] at g
    obtain ⟨_, _, _, _, _, g4⟩ := g
    exact Option.some.inj (e1.symm.trans g4)
  subst eA
  have ez : H.size = hsz w := z1
  rw [ez]
  refine kk C0 _ locs LS _ _ (VW.push (k := k) (n := i.toNatClampNeg) hW hA (by omega) hr (by simp) (fun q hq => by rw [Array.getElem?_push, if_neg (Nat.ne_of_lt hq)]) (by simp; rfl) (by simp) ?_) h
  have ek : hkd (hnew w k i.toNatClampNeg) (hsz w) = (k, i.toNatClampNeg) := by simp [hkd, hnew, up1]
  unfold cellOk
  rw [ek]
  refine cOk.of_arr (by omega) ?_
  rw [← ez, arrV_new]
  simp
  congr 1
  funext j
  rw [haty]
  simp [svl, hvr, hnew, up1, va_rf, ez]
theorem V_aast {b : Nat} (hk : hkd w a = (5, n)) (hcl : ∃ (C : String) (T : u_T) (N : Nat), clsL[ci]? = some (C, T, N) ∧ Cond.castable C "java/lang/Object" ∈ lw_nest) (hb : (hkd w b).1 = 10 + ci) (hin : vp_in i n) (hd : decode cc pc = .ok (.aastore, 1)) (kk : V X cc own nL d (siR w a i.toNatClampNeg (some b)) (pc + 1) ls st) : V X cc own nL d w pc ls (.ref b :: .int i :: .ref a :: st) := by
  intro C H locs LS cells slots hW h
  obtain ⟨Cn, T, N, h1, h2⟩ := hcl
  obtain ⟨cv, g1, g2, g3⟩ := VW.cell C hW h1 hb
  have hK := C.2.2.2.2.2.1
  obtain ⟨hA5, hR5⟩ := hK.2.1 5 (by decide) (by decide)
  obtain ⟨kA, comp, r1, r2, r3, r4⟩ := hR5
  have hcast : (xs X).vm.assignable cv.cls comp = true := by
    have q := va_Nw.use (A := #[]) rfl (hK.2.2.1 _ h2)
    exact vq_cast q g3 r3
  have hlt : ¬ i < 0 ∧ i.toNatClampNeg < n := ⟨fun q => hin (Or.inl q), Nat.not_le.mp fun q => hin (Or.inr q)⟩
  obtain ⟨kc, hkc⟩ := Vm.classAt_of_findClass r3
  obtain ⟨kv, hkv⟩ := Vm.classAt_of_findClass g3
  refine W.aast (k := kA) (comp := comp) (t := .object "java/lang/Object") C.1 C.2.1 ((hW.1.2.2.2.2.1 a).arr hk (by decide) (by decide)) (fun q z => by cases z) (fun z => by cases z) r1 r2 rfl hkc (by rw [arrV_size]; exact hlt) g1 (fun q z => by rw [z] at g2; cases g2) hkv hcast rfl rfl hd fun H' e1 e2 e3 => ?_
  exact kk C H' _ LS cells slots (hW.putA hk (by decide) (by decide) (Upd.R rfl rfl) e1 e2 e3) h
theorem V_aastT {b : Nat} (hk : hkd w a = (6, n)) (hb : (hkd w b).1 = 10 + 1) (hin : vp_in i n) (hd : decode cc pc = .ok (.aastore, 1)) (kk : V X cc own nL d (siR w a i.toNatClampNeg (some b)) (pc + 1) ls st) : V X cc own nL d w pc ls (.ref b :: .int i :: .ref a :: st) := by
  intro C H locs LS cells slots hW h
  obtain ⟨cv, g1, g2, g3⟩ := VW.cell (ci := 1) C hW rfl hb
  have hK := C.2.2.2.2.2.1
  obtain ⟨hA5, hR5⟩ := hK.2.1 6 (by decide) (by decide)
  obtain ⟨kA, comp, r1, r2, r3, r4⟩ := hR5
  have ec : cv.cls = comp := Option.some.inj (g3.symm.trans r3)
  have hcast : (xs X).vm.assignable cv.cls comp = true := by
    rw [ec]
    have := (hK.1 1 _ rfl).2
    have e2 : comp = (xD X).1.1 1 := Option.some.inj (r3.symm.trans this.1)
    rw [e2]
    exact va_assign this
  have hlt : ¬ i < 0 ∧ i.toNatClampNeg < n := ⟨fun q => hin (Or.inl q), Nat.not_le.mp fun q => hin (Or.inr q)⟩
  obtain ⟨kc, hkc⟩ := Vm.classAt_of_findClass r3
  obtain ⟨kv, hkv⟩ := Vm.classAt_of_findClass g3
  refine W.aast (k := kA) (comp := comp) (t := .object "FirstPolls$Told") C.1 C.2.1 ((hW.1.2.2.2.2.1 a).arr hk (by decide) (by decide)) (fun q z => by cases z) (fun z => by cases z) r1 r2 rfl hkc (by rw [arrV_size]; exact hlt) g1 (fun q z => by rw [z] at g2; cases g2) hkv hcast rfl rfl hd fun H' e1 e2 e3 => ?_
  exact kk C H' _ LS cells slots (hW.putA hk (by decide) (by decide) (Upd.R rfl rfl) e1 e2 e3) h
theorem V_aastN (hk : hkd w a = (5, n)) (hin : vp_in i n) (hd : decode cc pc = .ok (.aastore, 1)) (kk : V X cc own nL d (siR w a i.toNatClampNeg none) (pc + 1) ls st) : V X cc own nL d w pc ls (.null :: .int i :: .ref a :: st) := by
  intro C H locs LS cells slots hW h
  refine va_WaastN (C := "java/lang/Object") C.1 C.2.1 ((hW.1.2.2.2.2.1 a).arr hk (by decide) (by decide)) (VW.arrOf (k := 5) C (by decide) (by decide) _ _) (fun z => by cases z) (by rw [arrV_size]; exact hin) rfl rfl hd fun H' e1 e2 e3 => ?_
  exact kk C H' _ LS cells slots (hW.putA hk (by decide) (by decide) (Upd.R (x := none) rfl rfl) e1 e2 e3) h
/-! constants -/
theorem V_ldcS {key : Nat} {tx : String} (hm : (key, own, index, tx) ∈ strT) (ha : hst w key = some a) (hd : decode cc pc = .ok (.ldc index, 2)) (kk : V X cc own nL d w (pc + 2) ls (.ref a :: st)) : V X cc own nL d w pc ls st := by
  intro C H locs LS cells slots hW h
  obtain ⟨a', e1, e2⟩ := C.2.2.2.2.2.1.2.2.2.2.1 _ hm
  rw [hW.1.2.2.2.2.2.1] at ha
  cases ha.symm.trans e1
  exact va_ldcS C.1 C.2.1 C.2.2.2.1 e2 hd (kk C H locs LS cells slots hW h)
theorem V_stat {Cn nm ds : String} {f_ : DD → Value} (hs : ∀ D U, KN D U → stF D U Cn nm ds (f_ D)) (hl : Cond.fieldLink own index Cn nm ds ∈ lw_all) (hd : decode cc pc = .ok (.getstatic index, 3)) (kk : hst w = (xD X).2.2.2.1 → V X cc own nL d w (pc + 3) ls (f_ (xD X) :: st)) : V X cc own nL d w pc ls st := by
  intro C H locs LS cells slots hW h
  obtain ⟨cf, kf, fi, f, q, cell, h1, h2, h3, h4, h5, h6, h7, -⟩ := hs _ _ C.2.2.2.2.2.1
  exact W.gets C.1 C.2.1 C.2.2.2.1 (C.2.2.2.2.1 _ hl) h1 h2 h3 h4 (hW.1.2.2.2.2.2.2.1 q cell h5).1 h6 h7 rfl hd (kk hW.1.2.2.2.2.2.1 C H locs LS cells slots hW h)
end VN
