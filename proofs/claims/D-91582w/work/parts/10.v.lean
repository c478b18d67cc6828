set_option maxRecDepth 100000
/-! the classes by their numbers -/
def clsL : List vw_C := [(RX0, TX0, 39), (RX1, TX1, 27), (RJ2, TJ2, 3), (RX2, TX2, 5), (RX3, TX3, 3), (RX4, TX4, 6), (RX5, TX5, 7), (RX6, TX6, 10), (RX7, TX7, 62), (RX8, TX8, 5), (RX9, TX9, 5), (RX10, TX10, 5), (RX11, TX11, 5), (RJ10, TJ10, 6), (RX12, TX12, 5), (RX13, TX13, 7), (RX14, TX14, 7), (RX15, TX15, 5), (RX17, TX17, 1), (RX18, TX18, 1), (RX19, TX19, 3), (RX21, TX21, 1), (RX22, TX22, 3), (RX23, TX23, 1), (RX24, TX24, 2), (RX25, TX25, 3), (RJ11, TJ11, 2)]
def tyL (c : Nat) : Nat → FieldType := match c with
  | 0 => tyX0
  | 1 => tyX1
  | 2 => tyJ2
  | 3 => tyX2
  | 4 => tyX3
  | 5 => tyX4
  | 6 => tyX5
  | 7 => tyX6
  | 8 => tyX7
  | 9 => tyX8
  | 10 => tyX9
  | 11 => tyX10
  | 12 => tyX11
  | 13 => tyJ10
  | 14 => tyX12
  | 15 => tyX13
  | 16 => tyX14
  | 17 => tyX15
  | 18 => tyX17
  | 19 => tyX18
  | 20 => tyX19
  | 21 => tyX21
  | 22 => tyX22
  | 23 => tyX23
  | 24 => tyX24
  | 25 => tyX25
  | _ => tyJ11
/-- string constants: key, class, entry, text -/
def strT : List (Nat × String × Nat × String) := [(68, "FirstPolls$Reader", 68, "strike"), (74, "FirstPolls$Reader", 74, "clause"), (102, "FirstPolls$Reader", 102, "on"), (104, "FirstPolls$Reader", 104, "off"), (106, "FirstPolls$Reader", 106, "again"), (108, "FirstPolls$Reader", 108, "void"), (110, "FirstPolls$Reader", 110, "most"), (112, "FirstPolls$Reader", 112, "far"), (114, "FirstPolls$Reader", 114, "few"), (233, "FirstPolls$Reader", 233, "["), (235, "FirstPolls$Reader", 235, "]"), (211, "FirstPolls$Reader", 211, "age"), (213, "FirstPolls$Reader", 213, "house"), (215, "FirstPolls$Reader", 215, "place"), (217, "FirstPolls$Reader", 217, "seat"), (219, "FirstPolls$Reader", 219, "day"), (221, "FirstPolls$Reader", 221, "names"), (223, "FirstPolls$Reader", 223, "papers"), (225, "FirstPolls$Reader", 225, "given"), (227, "FirstPolls$Reader", 227, "put"), (229, "FirstPolls$Reader", 229, "spoilt"), (231, "FirstPolls$Reader", 231, "lost"), (204, "FirstPolls$Reader", 204, "*"), (206, "FirstPolls$Reader", 206, "/"), (194, "FirstPolls$Reader", 194, "+"), (196, "FirstPolls$Reader", 196, "-"), (92, "FirstPolls$Reader", 92, "if"), (144, "FirstPolls$Reader", 144, "not"), (164, "FirstPolls$Reader", 164, "("), (169, "FirstPolls$Reader", 169, ")"), (154, "FirstPolls$Reader", 154, "wife"), (156, "FirstPolls$Reader", 156, "late"), (158, "FirstPolls$Reader", 158, "walker"), (160, "FirstPolls$Reader", 160, "moved"), (162, "FirstPolls$Reader", 162, "broken"), (180, "FirstPolls$Reader", 180, "<"), (182, "FirstPolls$Reader", 182, ">"), (184, "FirstPolls$Reader", 184, "="), (139, "FirstPolls$Reader", 139, "and"), (126, "FirstPolls$Reader", 126, "or"), (64, "FirstPolls$Reader", 64, ";")]
/-! ===== the abstract heap: sizes and limits; kind and length of each cell; its int, long and reference slots ===== -/
abbrev ZZ : Type := Nat × Nat × Nat × Nat × (Nat → Option Nat)
abbrev AH : Type := ZZ × (Nat → Nat × Nat) × (Nat → Nat → Int32) × (Nat → Nat → Int64) × (Nat → Nat → Option Nat)
def hsz (w : AH) : Nat := w.1.1
def hns (w : AH) : Nat := w.1.2.1
def hlc (w : AH) : Nat := w.1.2.2.1
def hls (w : AH) : Nat := w.1.2.2.2.1
/-- constants' addresses: string constants, static references -/
def hst (w : AH) : Nat → Option Nat := w.1.2.2.2.2
def hkd (w : AH) (a : Nat) : Nat × Nat := w.2.1 a
def hvi (w : AH) (a i : Nat) : Int32 := w.2.2.1 a i
def hvl (w : AH) (a i : Nat) : Int64 := w.2.2.2.1 a i
def hvr (w : AH) (a i : Nat) : Option Nat := w.2.2.2.2 a i
def up1 {α : Type} (f : Nat → α) (a : Nat) (x : α) : Nat → α := fun b => if b = a then x else f b
def up2 {α : Type} (f : Nat → Nat → α) (a i : Nat) (x : α) : Nat → Nat → α := fun b j => if b = a ∧ j = i then x else f b j
def siI (w : AH) (a i : Nat) (x : Int32) : AH := (w.1, w.2.1, up2 w.2.2.1 a i x, w.2.2.2)
def siL (w : AH) (a i : Nat) (x : Int64) : AH := (w.1, w.2.1, w.2.2.1, up2 w.2.2.2.1 a i x, w.2.2.2.2)
def siR (w : AH) (a i : Nat) (x : Option Nat) : AH := (w.1, w.2.1, w.2.2.1, w.2.2.2.1, up2 w.2.2.2.2 a i x)
/-- a new cell of kind k with n slots, all zero -/
def hnew (w : AH) (k n : Nat) : AH := ((hsz w + 1, hns w + n, hlc w, hls w, hst w), up1 w.2.1 (hsz w) (k, n), up1 w.2.2.1 (hsz w) (fun _ => 0), up1 w.2.2.2.1 (hsz w) (fun _ => 0), up1 w.2.2.2.2 (hsz w) (fun _ => none))
/-- room for a new cell of n slots -/
def hroom (w : AH) (n : Nat) : Prop := hsz w + 1 ≤ hlc w ∧ hns w + n ≤ hls w
/-- the arrays' component types by their kinds -/
def aty (k : Nat) : FieldType := match k with
  | 1 => .int
  | 2 => .long
  | 3 => .boolean
  | 4 => .byte
  | 5 => .object "java/lang/Object"
  | _ => .object "FirstPolls$Told"
def svl (w : AH) (ty : FieldType) (a j : Nat) : Value := match ty with
  | .long => .long (hvl w a j)
  | .int | .boolean | .byte | .char | .short => .int (hvi w a j)
  | _ => va_rf (hvr w a j)
/-- class numbers and slots; array classes by kind; classes of the constants' byte arrays; constants' addresses; constant cells -/
abbrev DD : Type := va_G × (Nat → ClassId) × (Nat → ClassId) × (Nat → Option Nat) × (Nat → Option Cell)
/-- a cell that may be written -/
def wr (k : Nat) : Prop := k ≠ 0 ∧ k < 90
def cOk (D : DD) (w : AH) (a : Nat) (H : Heap) (k : Nat × Nat) : Prop :=
  (k.1 ≠ 0 → k.1 < 10 → H[a]? = some (arrV (D.2.1 k.1) k.2 (fun j => svl w (aty k.1) a j))) ∧
  (10 ≤ k.1 → k.1 < 90 → ∃ r : vw_C, clsL[k.1 - 10]? = some r ∧ t_OB a (D.1.1 (k.1 - 10)) r.2.2 (D.1.2 (k.1 - 10)) H (fun j => svl w (tyL (k.1 - 10) j) a j)) ∧
  (90 ≤ k.1 → k.1 < 100 → ∃ cell : Cell, H[a]? = some cell ∧ cell.vm.isStatics = false ∧ cell.vm ≠ .unknown ∧ cell.cls = D.1.1 26 ∧ ∀ j, j < 2 → cell.slots[D.1.2 26 j]? = some (svl w (tyL 26 j) a j)) ∧
  (100 ≤ k.1 → ∃ cell : Cell, H[a]? = some cell ∧ cell.vm.isStatics = false ∧ cell.vm ≠ .unknown ∧ cell.cls = D.2.2.1 (k.1 - 100) ∧ cell.slots.size = k.2 ∧ ∀ j, j < k.2 → cell.slots[j]? = some (.int (hvi w a j)))
def cellOk (D : DD) (w : AH) (a : Nat) (H : Heap) : Prop := cOk D w a H (hkd w a)
def Hold (D : DD) (w : AH) (H : Heap) : Prop := H.size = hsz w ∧ slotSum H = hns w ∧ hsz w ≤ hlc w ∧ hns w ≤ hls w ∧ (∀ a, cellOk D w a H) ∧ hst w = D.2.2.2.1 ∧ (∀ a c, D.2.2.2.2 a = some c → H[a]? = some c ∧ (hkd w a).1 = 0) ∧ ∀ a, 90 ≤ (hkd w a).1 → a < hsz w
def lw_nest : List Cond := lw_tbl.filter (fun w => match w with
  | .fieldLinkNest .. => true
  | .methodLinkNest .. => true
  | .declares .. => true
  | .castable .. => true
  | _ => false)
/-- a static field's value, in a constant cell -/
def stF (D : DD) (U : State) (C n d : String) (v : Value) : Prop := ∃ (cf : ClassId) (kf : Class) (fi : Nat) (f : Field) (a : Nat) (cell : Cell), U.fieldFound? C n d = some (cf, kf, fi, f) ∧ f.isStatic = true ∧ kf.init = .initialized ∧ kf.statics = some a ∧ D.2.2.2.2 a = some cell ∧ cell.vm ≠ .unknown ∧ cell.slots[f.slot]? = some v ∧ U.vm.findClass C = some cf ∧ cell.vm.isStatics = true ∧ cell.cls = cf ∧ kf.staticTypes[f.slot]? = some f.type
/-- a byte array's class -/
def bcF (U : State) (c : ClassId) : Prop := ∃ (k : Class) (comp : ClassId), U.vm.classes[c]? = some k ∧ k.kind = .array comp .byte
def KN (D : DD) (U : State) : Prop := (∀ (c : Nat) (q : vw_C), clsL[c]? = some q → u_Kn U q.1 q.2.1 q.2.2 (D.1.1 c) (D.1.2 c)) ∧ (∀ k, k ≠ 0 → k < 7 → ArrOfT U (D.2.1 k) (aty k) ∧ va_RA U (D.2.1 k) (aty k)) ∧ (∀ w ∈ lw_nest, va_Nw w U) ∧
  (va_AO "java/lang/Object" U ∧ va_AO "FirstPolls$Told" U) ∧ (∀ q ∈ strT, ∃ a, D.2.2.2.1 q.1 = some a ∧ vk_R q.2.1 q.2.2.1 q.2.2.2 a U) ∧ (∀ i, i < 41 → bcF U (D.2.2.1 i)) ∧
  (stF D U "java/lang/String" "COMPACT_STRINGS" "Z" (.int 1) ∧ stF D U "java/lang/Throwable" "UNASSIGNED_STACK" "[Ljava/lang/StackTraceElement;" (va_rf (D.2.2.2.1 1000)) ∧ stF D U "java/lang/Throwable" "SUPPRESSED_SENTINEL" "Ljava/util/List;" (va_rf (D.2.2.2.1 1001)) ∧ stF D U "jdk/internal/util/Preconditions" "SIOOBE_FORMATTER" "Ljava/util/function/BiFunction;" (va_rf (D.2.2.2.1 1002))) ∧
  (∃ mi, D.2.2.2.1 1003 = some mi ∧ va_Mi "[Ljava/lang/Object;" mi U) ∧ va_Fw "java/util/ArrayList" ⟨"java/util/Collection", "toArray", "()[Ljava/lang/Object;"⟩ ⟨"java/util/ArrayList", "toArray", "()[Ljava/lang/Object;"⟩ U
/-- what a method over w may write -/
def fA (w : AH) (q : Nat) : Prop := wr (hkd w q).1 ∨ hsz w ≤ q
/-! ===== the context of a walk ===== -/
abbrev CX : Type := (Program × Launch × Env × Room × State) × (MethodId × Array Value × List Frame × Method × Code) × ((State → Prop) × DD × (Nat → Prop))
abbrev xp (X : CX) : Program := X.1.1
abbrev xl (X : CX) : Launch := X.1.2.1
abbrev xe (X : CX) : Env := X.1.2.2.1
abbrev xR (X : CX) : Room := X.1.2.2.2.1
abbrev xs (X : CX) : State := X.1.2.2.2.2
abbrev xm (X : CX) : MethodId := X.2.1.1
abbrev xa (X : CX) : Array Value := X.2.1.2.1
abbrev xb (X : CX) : List Frame := X.2.1.2.2.1
abbrev xme (X : CX) : Method := X.2.1.2.2.2.1
abbrev xc (X : CX) : Code := X.2.1.2.2.2.2
abbrev xQ (X : CX) : State → Prop := X.2.2.1
abbrev xD (X : CX) : DD := X.2.2.2.1
abbrev xA (X : CX) : Nat → Prop := X.2.2.2.2
abbrev WX (X : CX) (H : Heap) (locs : List Loc) (cells slots : Nat) (g : JFrame) : Prop := W (xp X) (xl X) (xe X) (xR X) (xs X) (xm X) (xa X) (xb X) (xme X) (xc X) H locs cells slots (xQ X) g
def CXok (X : CX) (cc : ByteArray) (own : String) (nL d : Nat) : Prop :=
  (xp X).tables.exec = Jvm.exec ∧ (xc X).code = cc ∧ (xc X).maxLocals = nL ∧ (xs X).vm.findClass own = some (xm X).cls ∧ (∀ w ∈ lw_all, w.before (xa X) (xs X) = true) ∧
  KN (xD X) (xs X) ∧ (∀ q, (xs X).heap.size ≤ q → xA X q) ∧ d ≤ (xR X).frames ∧ 64 * d ≤ (xR X).locals
def VW (X : CX) (w : AH) (H : Heap) (locs : List Loc) : Prop :=
  Hold (xD X) w H ∧ va_S (xA X) (xs X).heap H locs ∧ slotSum (xs X).heap ≤ slotSum H ∧ (∀ q, wr (hkd w q).1 → xA X q) ∧ (xR X).cells = hlc w - (xs X).heap.size ∧ (xR X).slots = hls w - slotSum (xs X).heap
/-! locals -/
def lpr : Nat → List (Option Value) → List (Nat × Value)
  | _, [] => []
  | i, none :: t => lpr (i + 1) t
  | i, some v :: t => (i, v) :: lpr (i + 1) t
def V (X : CX) (cc : ByteArray) (own : String) (nL d : Nat) (w : AH) (pc : Nat) (ls : List (Option Value)) (st : List Value) : Prop :=
  CXok X cc own nL d → ∀ (H : Heap) (locs : List Loc) (LS : Array Slot) (cells slots : Nat), VW X w H locs → lv_has LS nL (lpr 0 ls) → WX X H locs cells slots (F0 (xm X) pc LS st)
theorem lpr_mem : ∀ (ls : List (Option Value)) (o i : Nat) (v : Value), ls[i]? = some (some v) → (o + i, v) ∈ lpr o ls
  | [], _, _, _, h => by simp at h
  | none :: t, o, 0, v, h => by simp at h
  | some u :: t, o, 0, v, h => by
    simp at h
    subst h
    exact List.mem_cons_self
  | none :: t, o, i + 1, v, h => by
    have := lpr_mem t (o + 1) i v (by simpa using h)
    rw [show o + 1 + i = o + (i + 1) by omega] at this
    exact this
  | some u :: t, o, i + 1, v, h => by
    have := lpr_mem t (o + 1) i v (by simpa using h)
    rw [show o + 1 + i = o + (i + 1) by omega] at this
    exact List.mem_cons_of_mem _ this
theorem lpr_of : ∀ (ls : List (Option Value)) (o : Nat) (q : Nat × Value), q ∈ lpr o ls → ∃ i, q.1 = o + i ∧ ls[i]? = some (some q.2)
  | [], _, _, h => by simp [lpr] at h
  | none :: t, o, q, h => by
    obtain ⟨i, h1, h2⟩ := lpr_of t (o + 1) q h
    exact ⟨i + 1, by omega, by simpa using h2⟩
  | some u :: t, o, q, h => by
    rcases List.mem_cons.mp h with h | h
    · subst h
      exact ⟨0, rfl, rfl⟩
    · obtain ⟨i, h1, h2⟩ := lpr_of t (o + 1) q h
      exact ⟨i + 1, by omega, by simpa using h2⟩
theorem ls_at {LS : Array Slot} {nL : Nat} {ls : List (Option Value)} (h : lv_has LS nL (lpr 0 ls)) {i : Nat} {v : Value} (hi : ls[i]? = some (some v)) : LS[i]? = some (.val v) := by
  have := h.2.2 _ (lpr_mem ls 0 i v hi)
  simpa using this
/-- storing a value of one slot, of two slots -/
def lkeep (x : Option Value) : Option Value := match x with
  | some (.long _) => none
  | some (.double _) => none
  | y => y
def lset1 : List (Option Value) → Nat → Value → List (Option Value)
  | [], _, _ => []
  | _ :: t, 0, v => some v :: t
  | x :: t, 1, v => lkeep x :: lset1 t 0 v
  | x :: t, i + 2, v => x :: lset1 t (i + 1) v
def lclr : List (Option Value) → List (Option Value)
  | [] => []
  | _ :: t => none :: t
def lset2 : List (Option Value) → Nat → Value → List (Option Value)
  | [], _, _ => []
  | _ :: t, 0, v => some v :: lclr t
  | x :: t, 1, v => lkeep x :: lset2 t 0 v
  | x :: t, i + 2, v => x :: lset2 t (i + 1) v
theorem lkeep_some {x : Option Value} {u : Value} (h : lkeep x = some u) : x = some u ∧ u.category = 1 := by
  cases x with
  | none => simp [lkeep] at h
  | some y => cases y <;> simp_all [lkeep] <;> (subst h; rfl)
theorem lset1_at : ∀ (ls : List (Option Value)) (i : Nat) (v : Value) (j : Nat) (u : Value), (lset1 ls i v)[j]? = some (some u) → (j = i ∧ u = v) ∨ (j ≠ i ∧ ls[j]? = some (some u) ∧ ¬ (j + 1 = i ∧ u.category = 2))
  | [], _, _, _, _, h => by simp [lset1] at h
  | x :: t, 0, v, 0, u, h => by
    simp [lset1] at h
    exact Or.inl ⟨rfl, h.symm⟩
  | x :: t, 0, v, j + 1, u, h => by
    simp [lset1] at h
    exact Or.inr ⟨by omega, by simpa using h, by omega⟩
  | x :: t, 1, v, 0, u, h => by
    simp [lset1] at h
    obtain ⟨h1, h2⟩ := lkeep_some h
    exact Or.inr ⟨by omega, by simpa using h1, fun q => by omega⟩
  | x :: t, 1, v, j + 1, u, h => by
    simp [lset1] at h
    rcases lset1_at t 0 v j u h with ⟨h1, h2⟩ | ⟨h1, h2, h3⟩
    · exact Or.inl ⟨by omega, h2⟩
    · exact Or.inr ⟨by omega, by simpa using h2, fun q => by omega⟩
  | x :: t, i + 2, v, 0, u, h => by
    simp [lset1] at h
    exact Or.inr ⟨by omega, by simpa using h, by omega⟩
  | x :: t, i + 2, v, j + 1, u, h => by
    simp [lset1] at h
    rcases lset1_at t (i + 1) v j u h with ⟨h1, h2⟩ | ⟨h1, h2, h3⟩
    · exact Or.inl ⟨by omega, h2⟩
    · exact Or.inr ⟨by omega, by simpa using h2, fun q => h3 ⟨by omega, q.2⟩⟩
theorem lset2_at : ∀ (ls : List (Option Value)) (i : Nat) (v : Value) (j : Nat) (u : Value), (lset2 ls i v)[j]? = some (some u) → (j = i ∧ u = v) ∨ (j ≠ i ∧ j ≠ i + 1 ∧ ls[j]? = some (some u) ∧ ¬ (j + 1 = i ∧ u.category = 2))
  | [], _, _, _, _, h => by simp [lset2] at h
  | x :: t, 0, v, 0, u, h => by
    simp [lset2] at h
    exact Or.inl ⟨rfl, h.symm⟩
  | x :: [], 0, v, j + 1, u, h => by simp [lset2, lclr] at h
  | x :: y :: t, 0, v, 1, u, h => by simp [lset2, lclr] at h
  | x :: y :: t, 0, v, j + 2, u, h => by
    simp [lset2, lclr] at h
    exact Or.inr ⟨by omega, by omega, by simpa using h, by omega⟩
  | x :: t, 1, v, 0, u, h => by
    simp [lset2] at h
    obtain ⟨h1, h2⟩ := lkeep_some h
    exact Or.inr ⟨by omega, by omega, by simpa using h1, fun q => by omega⟩
  | x :: t, 1, v, j + 1, u, h => by
    simp [lset2] at h
    rcases lset2_at t 0 v j u h with ⟨h1, h2⟩ | ⟨h1, h1', h2, h3⟩
    · exact Or.inl ⟨by omega, h2⟩
    · exact Or.inr ⟨by omega, by omega, by simpa using h2, fun q => by omega⟩
  | x :: t, i + 2, v, 0, u, h => by
    simp [lset2] at h
    exact Or.inr ⟨by omega, by omega, by simpa using h, by omega⟩
  | x :: t, i + 2, v, j + 1, u, h => by
    simp [lset2] at h
    rcases lset2_at t (i + 1) v j u h with ⟨h1, h2⟩ | ⟨h1, h1', h2, h3⟩
    · exact Or.inl ⟨by omega, h2⟩
    · exact Or.inr ⟨by omega, by omega, by simpa using h2, fun q => h3 ⟨by omega, q.2⟩⟩
theorem ls_set1 {LS : Array Slot} {nL i : Nat} {v : Value} {ls : List (Option Value)} (h : lv_has LS nL ((i, v) :: (lpr 0 ls).filter (fun q => !(q.1 == i) && !(q.1 + 1 == i && q.2.category == 2)))) : lv_has LS nL (lpr 0 (lset1 ls i v)) := by
  refine ⟨h.1, h.2.1, fun q hq => h.2.2 q ?_⟩
  obtain ⟨j, h1, h2⟩ := lpr_of _ _ _ hq
  rw [Nat.zero_add] at h1
  rcases lset1_at ls i v j q.2 h2 with ⟨e1, e2⟩ | ⟨e1, e2, e3⟩
  · have : q = (i, v) := Prod.ext (h1.trans e1) e2
    rw [this]
    exact List.mem_cons_self
  · refine List.mem_cons_of_mem _ (List.mem_filter.mpr ⟨?_, ?_⟩)
    · have := lpr_mem ls 0 j q.2 e2
      rw [Nat.zero_add, ← h1] at this
      exact this
    · rw [h1]
      simp only [Bool.and_eq_true, Bool.not_eq_true', beq_eq_false_iff_ne, ne_eq, Bool.and_eq_false_imp, beq_iff_eq]
      exact ⟨e1, fun q => fun q2 => e3 ⟨q, q2⟩⟩
theorem ls_set2 {LS : Array Slot} {nL i : Nat} {v : Value} {ls : List (Option Value)} (h : lv_has LS nL ((i, v) :: (lpr 0 ls).filter (fun q => !(q.1 == i) && (!(q.1 == i + 1) && !(q.1 + 1 == i && q.2.category == 2))))) : lv_has LS nL (lpr 0 (lset2 ls i v)) := by
  refine ⟨h.1, h.2.1, fun q hq => h.2.2 q ?_⟩
  obtain ⟨j, h1, h2⟩ := lpr_of _ _ _ hq
  rw [Nat.zero_add] at h1
  rcases lset2_at ls i v j q.2 h2 with ⟨e1, e2⟩ | ⟨e1, e1', e2, e3⟩
  · have : q = (i, v) := Prod.ext (h1.trans e1) e2
    rw [this]
    exact List.mem_cons_self
  · refine List.mem_cons_of_mem _ (List.mem_filter.mpr ⟨?_, ?_⟩)
    · have := lpr_mem ls 0 j q.2 e2
      rw [Nat.zero_add, ← h1] at this
      exact this
    · rw [h1]
      simp only [Bool.and_eq_true, Bool.not_eq_true', beq_eq_false_iff_ne, ne_eq, Bool.and_eq_false_imp, beq_iff_eq]
      exact ⟨e1, e1', fun q => fun q2 => e3 ⟨q, q2⟩⟩
/-- locals that are forgotten -/
def lmask : List Bool → List (Option Value) → List (Option Value)
  | true :: m, x :: t => x :: lmask m t
  | false :: m, _ :: t => none :: lmask m t
  | _, t => t.map (fun _ => none)
theorem lmask_at : ∀ (m : List Bool) (ls : List (Option Value)) (j : Nat) (u : Value), (lmask m ls)[j]? = some (some u) → ls[j]? = some (some u)
  | [], ls, j, u, h => by simp [lmask] at h
  | true :: m, [], j, u, h => by simp [lmask] at h
  | false :: m, [], j, u, h => by simp [lmask] at h
  | true :: m, x :: t, 0, u, h => by simpa [lmask] using h
  | true :: m, x :: t, j + 1, u, h => by
    simp [lmask] at h
    simpa using lmask_at m t j u h
  | false :: m, x :: t, 0, u, h => by simp [lmask] at h
  | false :: m, x :: t, j + 1, u, h => by
    simp [lmask] at h
    simpa using lmask_at m t j u h
theorem ls_mask {LS : Array Slot} {nL : Nat} {ls : List (Option Value)} (m : List Bool) (h : lv_has LS nL (lpr 0 ls)) : lv_has LS nL (lpr 0 (lmask m ls)) := by
  refine ⟨h.1, h.2.1, fun q hq => h.2.2 q ?_⟩
  obtain ⟨j, h1, h2⟩ := lpr_of _ _ _ hq
  have := lpr_mem ls 0 j q.2 (lmask_at m ls j q.2 h2)
  rw [← h1] at this
  exact this
/-- the locals with which a method begins -/
def lent : List Value → List (Option Value)
  | [] => []
  | v :: t => if v.category = 2 then some v :: none :: lent t else some v :: lent t
theorem lent_args : ∀ (vs : List Value) (o : Nat) (q : Nat × Value), q ∈ lpr o (lent vs) → q ∈ lv_args o vs
  | [], _, _, h => by simp [lent, lpr] at h
  | v :: t, o, q, h => by
    unfold lent at h
    unfold lv_args
    split at h
    · rename_i hc
      rcases List.mem_cons.mp h with h | h
      · subst h; exact List.mem_cons_self
      · refine List.mem_cons_of_mem _ ?_
        have := lent_args t (o + 1 + 1) q h
        simpa [hc] using this
    · rename_i hc
      have hc1 : v.category = 1 := by rcases lv_cat v with h | h <;> omega
      rcases List.mem_cons.mp h with h | h
      · subst h; exact List.mem_cons_self
      · refine List.mem_cons_of_mem _ ?_
        have := lent_args t (o + 1) q h
        simpa [hc1] using this
section VL
variable {X : CX} {cc : ByteArray} {own : String} {nL d : Nat} {w : AH} {pc : Nat} {ls ls' : List (Option Value)} {st : List Value}
theorem V_step {pc' : Nat} {st' : List Value} (h : CXok X cc own nL d → ∀ (H : Heap) (locs : List Loc) (cells slots : Nat) (LS : Array Slot), lv_has LS nL (lpr 0 ls) → WX X H locs cells slots (F0 (xm X) pc' LS st') → WX X H locs cells slots (F0 (xm X) pc LS st)) (k : V X cc own nL d w pc' ls st') : V X cc own nL d w pc ls st :=
  fun C H locs LS cells slots hW hl => h C H locs cells slots LS hl (k C H locs LS cells slots hW hl)
theorem V_keep (m : List Bool) (hl : lmask m ls = ls') (k : V X cc own nL d w pc ls' st) : V X cc own nL d w pc ls st :=
  fun C H locs LS cells slots hW h => k C H locs LS cells slots hW (hl ▸ ls_mask m h)
theorem V_iconst {n : Int} {v : Int32} (hd : decode cc pc = .ok (.iconst n, 1)) (hv : Int32.ofInt n = v) (k : V X cc own nL d w (pc + 1) ls (.int v :: st)) : V X cc own nL d w pc ls st := V_step (fun C _ _ _ _ _ _ kk => lv_iconst C.1 C.2.1 hd hv kk) k
theorem V_bipush {n : Int} {v : Int32} (hd : decode cc pc = .ok (.bipush n, 2)) (hv : (Int8.ofInt n).toInt32 = v) (k : V X cc own nL d w (pc + 2) ls (.int v :: st)) : V X cc own nL d w pc ls st := V_step (fun C _ _ _ _ _ _ kk => lv_bipush C.1 C.2.1 hd hv kk) k
theorem V_sipush {n : Int} {v : Int32} (hd : decode cc pc = .ok (.sipush n, 3)) (hv : (Int16.ofInt n).toInt32 = v) (k : V X cc own nL d w (pc + 3) ls (.int v :: st)) : V X cc own nL d w pc ls st := V_step (fun C _ _ _ _ _ _ kk => lv_sipush C.1 C.2.1 hd hv kk) k
theorem V_lconst {n : Fin 2} {v : Int64} (hd : decode cc pc = .ok (.lconst n, 1)) (hv : Int64.ofNat (n : Nat) = v) (k : V X cc own nL d w (pc + 1) ls (.long v :: st)) : V X cc own nL d w pc ls st := V_step (fun C _ _ _ _ _ _ kk => lv_lconst C.1 C.2.1 hd hv kk) k
theorem V_null (hd : decode cc pc = .ok (.aconst_null, 1)) (k : V X cc own nL d w (pc + 1) ls (.null :: st)) : V X cc own nL d w pc ls st := V_step (fun C _ _ _ _ _ _ kk => lv_null C.1 C.2.1 hd kk) k
theorem V_iload_n {k : Fin 4} {x : Int32} (hd : decode cc pc = .ok (.iload_n k, 1)) (hl : ls[(k : Nat)]? = some (some (.int x))) (kk : V X cc own nL d w (pc + 1) ls (.int x :: st)) : V X cc own nL d w pc ls st := V_step (fun C _ _ _ _ _ h kk => lv_iload_n C.1 C.2.1 hd rfl (ls_at h hl) kk) kk
theorem V_iload {i : Nat} {x : Int32} (hd : decode cc pc = .ok (.iload i, 2)) (hl : ls[i]? = some (some (.int x))) (kk : V X cc own nL d w (pc + 2) ls (.int x :: st)) : V X cc own nL d w pc ls st := V_step (fun C _ _ _ _ _ h kk => lv_iload C.1 C.2.1 hd (ls_at h hl) kk) kk
theorem V_lload_n {k : Fin 4} {x : Int64} (hd : decode cc pc = .ok (.lload_n k, 1)) (hl : ls[(k : Nat)]? = some (some (.long x))) (kk : V X cc own nL d w (pc + 1) ls (.long x :: st)) : V X cc own nL d w pc ls st := V_step (fun C _ _ _ _ _ h kk => lv_lload_n C.1 C.2.1 hd rfl (ls_at h hl) kk) kk
theorem V_lload {i : Nat} {x : Int64} (hd : decode cc pc = .ok (.lload i, 2)) (hl : ls[i]? = some (some (.long x))) (kk : V X cc own nL d w (pc + 2) ls (.long x :: st)) : V X cc own nL d w pc ls st := V_step (fun C _ _ _ _ _ h kk => lv_lload C.1 C.2.1 hd (ls_at h hl) kk) kk
theorem V_aload_n {k : Fin 4} {x : Nat} (hd : decode cc pc = .ok (.aload_n k, 1)) (hl : ls[(k : Nat)]? = some (some (.ref x))) (kk : V X cc own nL d w (pc + 1) ls (.ref x :: st)) : V X cc own nL d w pc ls st := V_step (fun C _ _ _ _ _ h kk => lv_aload_n C.1 C.2.1 hd rfl (ls_at h hl) kk) kk
theorem V_aload {i : Nat} {x : Nat} (hd : decode cc pc = .ok (.aload i, 2)) (hl : ls[i]? = some (some (.ref x))) (kk : V X cc own nL d w (pc + 2) ls (.ref x :: st)) : V X cc own nL d w pc ls st := V_step (fun C _ _ _ _ _ h kk => lv_aload C.1 C.2.1 hd (ls_at h hl) kk) kk
theorem V_aload_nq {k : Fin 4} {r : Option Nat} (hd : decode cc pc = .ok (.aload_n k, 1)) (hl : ls[(k : Nat)]? = some (some (va_rf r))) (kk : V X cc own nL d w (pc + 1) ls (va_rf r :: st)) : V X cc own nL d w pc ls st := by
  cases r with
  | none => exact V_step (fun C _ _ _ _ _ h kk => lv_aload_nN C.1 C.2.1 hd rfl (ls_at h hl) kk) kk
  | some x => exact V_aload_n hd hl kk
theorem V_aloadq {i : Nat} {r : Option Nat} (hd : decode cc pc = .ok (.aload i, 2)) (hl : ls[i]? = some (some (va_rf r))) (kk : V X cc own nL d w (pc + 2) ls (va_rf r :: st)) : V X cc own nL d w pc ls st := by
  cases r with
  | none => exact V_step (fun C _ _ _ _ _ h kk => lv_aloadN C.1 C.2.1 hd (ls_at h hl) kk) kk
  | some x => exact V_aload hd hl kk
theorem V_istore_n {k : Fin 4} {x : Int32} (hd : decode cc pc = .ok (.istore_n k, 1)) (hn : (k : Nat) < nL) (hl : lset1 ls k (.int x) = ls') (kk : V X cc own nL d w (pc + 1) ls' st) : V X cc own nL d w pc ls (.int x :: st) :=
  fun C H locs LS cells slots hW h => lv_istore_n C.1 C.2.1 hd rfl h hn rfl (fun LS' h' => kk C H locs LS' cells slots hW (hl ▸ ls_set1 h'))
theorem V_istore {i : Nat} {x : Int32} (hd : decode cc pc = .ok (.istore i, 2)) (hn : i < nL) (hl : lset1 ls i (.int x) = ls') (kk : V X cc own nL d w (pc + 2) ls' st) : V X cc own nL d w pc ls (.int x :: st) :=
  fun C H locs LS cells slots hW h => lv_istore C.1 C.2.1 hd h hn rfl (fun LS' h' => kk C H locs LS' cells slots hW (hl ▸ ls_set1 h'))
theorem V_lstore_n {k : Fin 4} {x : Int64} (hd : decode cc pc = .ok (.lstore_n k, 1)) (hn : (k : Nat) + 1 < nL) (hl : lset2 ls k (.long x) = ls') (kk : V X cc own nL d w (pc + 1) ls' st) : V X cc own nL d w pc ls (.long x :: st) :=
  fun C H locs LS cells slots hW h => lv_lstore_n C.1 C.2.1 hd rfl h hn rfl (fun LS' h' => kk C H locs LS' cells slots hW (hl ▸ ls_set2 h'))
theorem V_lstore {i : Nat} {x : Int64} (hd : decode cc pc = .ok (.lstore i, 2)) (hn : i + 1 < nL) (hl : lset2 ls i (.long x) = ls') (kk : V X cc own nL d w (pc + 2) ls' st) : V X cc own nL d w pc ls (.long x :: st) :=
  fun C H locs LS cells slots hW h => lv_lstore C.1 C.2.1 hd h hn rfl (fun LS' h' => kk C H locs LS' cells slots hW (hl ▸ ls_set2 h'))
theorem V_astore_n {k : Fin 4} {x : Nat} (hd : decode cc pc = .ok (.astore_n k, 1)) (hn : (k : Nat) < nL) (hl : lset1 ls k (.ref x) = ls') (kk : V X cc own nL d w (pc + 1) ls' st) : V X cc own nL d w pc ls (.ref x :: st) :=
  fun C H locs LS cells slots hW h => lv_astore_n C.1 C.2.1 hd rfl h hn rfl (fun LS' h' => kk C H locs LS' cells slots hW (hl ▸ ls_set1 h'))
theorem V_astore {i : Nat} {x : Nat} (hd : decode cc pc = .ok (.astore i, 2)) (hn : i < nL) (hl : lset1 ls i (.ref x) = ls') (kk : V X cc own nL d w (pc + 2) ls' st) : V X cc own nL d w pc ls (.ref x :: st) :=
  fun C H locs LS cells slots hW h => lv_astore C.1 C.2.1 hd h hn rfl (fun LS' h' => kk C H locs LS' cells slots hW (hl ▸ ls_set1 h'))
theorem V_astore_nq {k : Fin 4} {r : Option Nat} (hd : decode cc pc = .ok (.astore_n k, 1)) (hn : (k : Nat) < nL) (hl : lset1 ls k (va_rf r) = ls') (kk : V X cc own nL d w (pc + 1) ls' st) : V X cc own nL d w pc ls (va_rf r :: st) := by
  cases r with
  | none => exact fun C H locs LS cells slots hW h => lv_astore_nN C.1 C.2.1 hd rfl h hn rfl (fun LS' h' => kk C H locs LS' cells slots hW (hl ▸ ls_set1 h'))
  | some x => exact V_astore_n hd hn hl kk
theorem V_astoreq {i : Nat} {r : Option Nat} (hd : decode cc pc = .ok (.astore i, 2)) (hn : i < nL) (hl : lset1 ls i (va_rf r) = ls') (kk : V X cc own nL d w (pc + 2) ls' st) : V X cc own nL d w pc ls (va_rf r :: st) := by
  cases r with
  | none => exact fun C H locs LS cells slots hW h => lv_astoreN C.1 C.2.1 hd h hn rfl (fun LS' h' => kk C H locs LS' cells slots hW (hl ▸ ls_set1 h'))
  | some x => exact V_astore hd hn hl kk
theorem V_iinc {i : Nat} {n : Int} {x v : Int32} (hd : decode cc pc = .ok (.iinc i n, 3)) (hx : ls[i]? = some (some (.int x))) (hv : x + Int32.ofInt n = v) (hn : i < nL) (hl : lset1 ls i (.int v) = ls') (kk : V X cc own nL d w (pc + 3) ls' st) : V X cc own nL d w pc ls st := by
  intro C H locs LS cells slots hW h
  have hm := lpr_mem ls 0 i _ hx
  rw [Nat.zero_add] at hm
  obtain ⟨k, hk⟩ := List.getElem?_of_mem hm
  exact lv_iinc C.1 C.2.1 hd h hk hv hn rfl (fun LS' h' => kk C H locs LS' cells slots hW (hl ▸ ls_set1 h'))
theorem V_iadd {x y : Int32} (hd : decode cc pc = .ok (.iadd, 1)) (k : V X cc own nL d w (pc + 1) ls (.int (x + y) :: st)) : V X cc own nL d w pc ls (.int y :: .int x :: st) := V_step (fun C _ _ _ _ _ _ kk => lv_iadd C.1 C.2.1 hd kk) k
theorem V_isub {x y : Int32} (hd : decode cc pc = .ok (.isub, 1)) (k : V X cc own nL d w (pc + 1) ls (.int (x - y) :: st)) : V X cc own nL d w pc ls (.int y :: .int x :: st) := V_step (fun C _ _ _ _ _ _ kk => lv_isub C.1 C.2.1 hd kk) k
theorem V_imul {x y : Int32} (hd : decode cc pc = .ok (.imul, 1)) (k : V X cc own nL d w (pc + 1) ls (.int (x * y) :: st)) : V X cc own nL d w pc ls (.int y :: .int x :: st) := V_step (fun C _ _ _ _ _ _ kk => lv_imul C.1 C.2.1 hd kk) k
theorem V_iand {x y : Int32} (hd : decode cc pc = .ok (.iand, 1)) (k : V X cc own nL d w (pc + 1) ls (.int (x &&& y) :: st)) : V X cc own nL d w pc ls (.int y :: .int x :: st) := V_step (fun C _ _ _ _ _ _ kk => lv_iand C.1 C.2.1 hd kk) k
theorem V_ior {x y : Int32} (hd : decode cc pc = .ok (.ior, 1)) (k : V X cc own nL d w (pc + 1) ls (.int (x ||| y) :: st)) : V X cc own nL d w pc ls (.int y :: .int x :: st) := V_step (fun C _ _ _ _ _ _ kk => lv_ior C.1 C.2.1 hd kk) k
theorem V_ixor {x y : Int32} (hd : decode cc pc = .ok (.ixor, 1)) (k : V X cc own nL d w (pc + 1) ls (.int (x ^^^ y) :: st)) : V X cc own nL d w pc ls (.int y :: .int x :: st) := V_step (fun C _ _ _ _ _ _ kk => lv_ixor C.1 C.2.1 hd kk) k
theorem V_ladd {x y : Int64} (hd : decode cc pc = .ok (.ladd, 1)) (k : V X cc own nL d w (pc + 1) ls (.long (x + y) :: st)) : V X cc own nL d w pc ls (.long y :: .long x :: st) := V_step (fun C _ _ _ _ _ _ kk => lv_ladd C.1 C.2.1 hd kk) k
theorem V_lsub {x y : Int64} (hd : decode cc pc = .ok (.lsub, 1)) (k : V X cc own nL d w (pc + 1) ls (.long (x - y) :: st)) : V X cc own nL d w pc ls (.long y :: .long x :: st) := V_step (fun C _ _ _ _ _ _ kk => lv_lsub C.1 C.2.1 hd kk) k
theorem V_lmul {x y : Int64} (hd : decode cc pc = .ok (.lmul, 1)) (k : V X cc own nL d w (pc + 1) ls (.long (x * y) :: st)) : V X cc own nL d w pc ls (.long y :: .long x :: st) := V_step (fun C _ _ _ _ _ _ kk => lv_lmul C.1 C.2.1 hd kk) k
theorem V_land {x y : Int64} (hd : decode cc pc = .ok (.land, 1)) (k : V X cc own nL d w (pc + 1) ls (.long (x &&& y) :: st)) : V X cc own nL d w pc ls (.long y :: .long x :: st) := V_step (fun C _ _ _ _ _ _ kk => lv_land C.1 C.2.1 hd kk) k
theorem V_lor {x y : Int64} (hd : decode cc pc = .ok (.lor, 1)) (k : V X cc own nL d w (pc + 1) ls (.long (x ||| y) :: st)) : V X cc own nL d w pc ls (.long y :: .long x :: st) := V_step (fun C _ _ _ _ _ _ kk => lv_lor C.1 C.2.1 hd kk) k
theorem V_lxor {x y : Int64} (hd : decode cc pc = .ok (.lxor, 1)) (k : V X cc own nL d w (pc + 1) ls (.long (x ^^^ y) :: st)) : V X cc own nL d w pc ls (.long y :: .long x :: st) := V_step (fun C _ _ _ _ _ _ kk => lv_lxor C.1 C.2.1 hd kk) k
theorem V_ishl {x y : Int32} (hd : decode cc pc = .ok (.ishl, 1)) (k : V X cc own nL d w (pc + 1) ls (.int (x <<< (y &&& 31)) :: st)) : V X cc own nL d w pc ls (.int y :: .int x :: st) := V_step (fun C _ _ _ _ _ _ kk => lv_ishl C.1 C.2.1 hd kk) k
theorem V_ishr {x y : Int32} (hd : decode cc pc = .ok (.ishr, 1)) (k : V X cc own nL d w (pc + 1) ls (.int (x >>> (y &&& 31)) :: st)) : V X cc own nL d w pc ls (.int y :: .int x :: st) := V_step (fun C _ _ _ _ _ _ kk => lv_ishr C.1 C.2.1 hd kk) k
theorem V_idiv {x y : Int32} (hd : decode cc pc = .ok (.idiv, 1)) (hne : ¬ y = 0) (k : V X cc own nL d w (pc + 1) ls (.int (x / y) :: st)) : V X cc own nL d w pc ls (.int y :: .int x :: st) := V_step (fun C _ _ _ _ _ _ kk => lv_idiv C.1 C.2.1 hd hne kk) k
theorem V_irem {x y : Int32} (hd : decode cc pc = .ok (.irem, 1)) (hne : ¬ y = 0) (k : V X cc own nL d w (pc + 1) ls (.int (x - x / y * y) :: st)) : V X cc own nL d w pc ls (.int y :: .int x :: st) := V_step (fun C _ _ _ _ _ _ kk => lv_irem C.1 C.2.1 hd hne kk) k
theorem V_ldiv {x y : Int64} (hd : decode cc pc = .ok (.ldiv, 1)) (hne : ¬ y = 0) (k : V X cc own nL d w (pc + 1) ls (.long (x / y) :: st)) : V X cc own nL d w pc ls (.long y :: .long x :: st) := V_step (fun C _ _ _ _ _ _ kk => lv_ldiv C.1 C.2.1 hd hne kk) k
theorem V_lrem {x y : Int64} (hd : decode cc pc = .ok (.lrem, 1)) (hne : ¬ y = 0) (k : V X cc own nL d w (pc + 1) ls (.long (x - x / y * y) :: st)) : V X cc own nL d w pc ls (.long y :: .long x :: st) := V_step (fun C _ _ _ _ _ _ kk => lv_lrem C.1 C.2.1 hd hne kk) k
theorem V_ineg {x : Int32} (hd : decode cc pc = .ok (.ineg, 1)) (k : V X cc own nL d w (pc + 1) ls (.int (-x) :: st)) : V X cc own nL d w pc ls (.int x :: st) := V_step (fun C _ _ _ _ _ _ kk => lv_ineg C.1 C.2.1 hd kk) k
theorem V_lneg {x : Int64} (hd : decode cc pc = .ok (.lneg, 1)) (k : V X cc own nL d w (pc + 1) ls (.long (-x) :: st)) : V X cc own nL d w pc ls (.long x :: st) := V_step (fun C _ _ _ _ _ _ kk => lv_lneg C.1 C.2.1 hd kk) k
theorem V_i2l {x : Int32} (hd : decode cc pc = .ok (.i2l, 1)) (k : V X cc own nL d w (pc + 1) ls (.long (x.toInt64) :: st)) : V X cc own nL d w pc ls (.int x :: st) := V_step (fun C _ _ _ _ _ _ kk => lv_i2l C.1 C.2.1 hd rfl kk) k
theorem V_l2i {x : Int64} (hd : decode cc pc = .ok (.l2i, 1)) (k : V X cc own nL d w (pc + 1) ls (.int (x.toInt32) :: st)) : V X cc own nL d w pc ls (.long x :: st) := V_step (fun C _ _ _ _ _ _ kk => lv_l2i C.1 C.2.1 hd rfl kk) k
theorem V_i2b {x : Int32} (hd : decode cc pc = .ok (.i2b, 1)) (k : V X cc own nL d w (pc + 1) ls (.int (x.toInt8.toInt32) :: st)) : V X cc own nL d w pc ls (.int x :: st) := V_step (fun C _ _ _ _ _ _ kk => lv_i2b C.1 C.2.1 hd rfl kk) k
theorem V_i2c {x : Int32} (hd : decode cc pc = .ok (.i2c, 1)) (k : V X cc own nL d w (pc + 1) ls (.int ((x.toUInt32 % 65536).toInt32) :: st)) : V X cc own nL d w pc ls (.int x :: st) := V_step (fun C _ _ _ _ _ _ kk => lv_i2c C.1 C.2.1 hd rfl kk) k
theorem V_iushr {x y : Int32} (hd : decode cc pc = .ok (.iushr, 1)) (k : V X cc own nL d w (pc + 1) ls (.int ((x.toUInt32 >>> (y.toUInt32 &&& Int32.toUInt32 31)).toInt32) :: st)) : V X cc own nL d w pc ls (.int y :: .int x :: st) := V_step (fun C _ _ _ _ _ _ kk => lv_iushr C.1 C.2.1 hd rfl kk) k
theorem V_lshl {x : Int64} {y : Int32} (hd : decode cc pc = .ok (.lshl, 1)) (k : V X cc own nL d w (pc + 1) ls (.long (x <<< (y.toInt64 &&& 63)) :: st)) : V X cc own nL d w pc ls (.int y :: .long x :: st) := V_step (fun C _ _ _ _ _ _ kk => lv_lshl C.1 C.2.1 hd rfl kk) k
theorem V_lcmp {x y : Int64} (hd : decode cc pc = .ok (.lcmp, 1)) (k : V X cc own nL d w (pc + 1) ls (.int (lg_cmp x y) :: st)) : V X cc own nL d w pc ls (.long y :: .long x :: st) := V_step (fun C _ _ _ _ _ _ kk => W.lcmp C.1 C.2.1 hd kk) k
theorem V_dup {a : Value} (hd : decode cc pc = .ok (.dup, 1)) (ha : a.category = 1) (k : V X cc own nL d w (pc + 1) ls (a :: a :: st)) : V X cc own nL d w pc ls (a :: st) := V_step (fun C _ _ _ _ _ _ kk => lv_dup C.1 C.2.1 hd ha kk) k
theorem V_pop {a : Value} (hd : decode cc pc = .ok (.pop, 1)) (ha : a.category = 1) (k : V X cc own nL d w (pc + 1) ls st) : V X cc own nL d w pc ls (a :: st) := V_step (fun C _ _ _ _ _ _ kk => lv_pop C.1 C.2.1 hd ha kk) k
theorem V_dup_x1 {a b : Value} (hd : decode cc pc = .ok (.dup_x1, 1)) (ha : a.category = 1) (hb : b.category = 1) (k : V X cc own nL d w (pc + 1) ls (a :: b :: a :: st)) : V X cc own nL d w pc ls (a :: b :: st) := V_step (fun C _ _ _ _ _ _ kk => lv_dup_x1 C.1 C.2.1 hd ha hb kk) k
theorem V_dup_x2 {a b c : Value} (hd : decode cc pc = .ok (.dup_x2, 1)) (ha : a.category = 1) (hb : b.category = 1) (hc : c.category = 1) (k : V X cc own nL d w (pc + 1) ls (a :: b :: c :: a :: st)) : V X cc own nL d w pc ls (a :: b :: c :: st) := V_step (fun C _ _ _ _ _ _ kk => lv_dup_x2 C.1 C.2.1 hd ha hb hc kk) k
theorem V_dup2 {a b : Value} (hd : decode cc pc = .ok (.dup2, 1)) (ha : a.category = 1) (hb : b.category = 1) (k : V X cc own nL d w (pc + 1) ls (a :: b :: a :: b :: st)) : V X cc own nL d w pc ls (a :: b :: st) := V_step (fun C _ _ _ _ _ _ kk => lv_dup2_11 C.1 C.2.1 hd ha hb kk) k
theorem V_dup2_2 {a : Value} (hd : decode cc pc = .ok (.dup2, 1)) (ha : a.category = 2) (k : V X cc own nL d w (pc + 1) ls (a :: a :: st)) : V X cc own nL d w pc ls (a :: st) := V_step (fun C _ _ _ _ _ _ kk => lv_dup2_2 C.1 C.2.1 hd ha kk) k
theorem V_pop2_2 {a : Value} (hd : decode cc pc = .ok (.pop2, 1)) (ha : a.category = 2) (k : V X cc own nL d w (pc + 1) ls st) : V X cc own nL d w pc ls (a :: st) := V_step (fun C _ _ _ _ _ _ kk => lv_pop2_2 C.1 C.2.1 hd ha kk) k
theorem V_if_eq {x : Int32} {off : Int} {tgt : Nat} (hd : decode cc pc = .ok (.ifCond .eq off, 3)) (ht : (pc : Int) + off = (tgt : Int)) (kt : x = 0 → V X cc own nL d w tgt ls st) (kf : ¬ x = 0 → V X cc own nL d w (pc + 3) ls st) : V X cc own nL d w pc ls (.int x :: st) :=
  fun C H locs LS cells slots hW h => lv_if_eq C.1 C.2.1 hd ht (fun q => kt q C H locs LS cells slots hW h) (fun q => kf q C H locs LS cells slots hW h)
theorem V_icmp_eq {x y : Int32} {off : Int} {tgt : Nat} (hd : decode cc pc = .ok (.if_icmp .eq off, 3)) (ht : (pc : Int) + off = (tgt : Int)) (kt : x = y → V X cc own nL d w tgt ls st) (kf : ¬ x = y → V X cc own nL d w (pc + 3) ls st) : V X cc own nL d w pc ls (.int y :: .int x :: st) :=
  fun C H locs LS cells slots hW h => lv_icmp_eq C.1 C.2.1 hd ht (fun q => kt q C H locs LS cells slots hW h) (fun q => kf q C H locs LS cells slots hW h)
theorem V_if_ne {x : Int32} {off : Int} {tgt : Nat} (hd : decode cc pc = .ok (.ifCond .ne off, 3)) (ht : (pc : Int) + off = (tgt : Int)) (kt : ¬ x = 0 → V X cc own nL d w tgt ls st) (kf : x = 0 → V X cc own nL d w (pc + 3) ls st) : V X cc own nL d w pc ls (.int x :: st) :=
  fun C H locs LS cells slots hW h => lv_if_ne C.1 C.2.1 hd ht (fun q => kt q C H locs LS cells slots hW h) (fun q => kf q C H locs LS cells slots hW h)
theorem V_icmp_ne {x y : Int32} {off : Int} {tgt : Nat} (hd : decode cc pc = .ok (.if_icmp .ne off, 3)) (ht : (pc : Int) + off = (tgt : Int)) (kt : ¬ x = y → V X cc own nL d w tgt ls st) (kf : x = y → V X cc own nL d w (pc + 3) ls st) : V X cc own nL d w pc ls (.int y :: .int x :: st) :=
  fun C H locs LS cells slots hW h => lv_icmp_ne C.1 C.2.1 hd ht (fun q => kt q C H locs LS cells slots hW h) (fun q => kf q C H locs LS cells slots hW h)
theorem V_if_lt {x : Int32} {off : Int} {tgt : Nat} (hd : decode cc pc = .ok (.ifCond .lt off, 3)) (ht : (pc : Int) + off = (tgt : Int)) (kt : x < 0 → V X cc own nL d w tgt ls st) (kf : ¬ x < 0 → V X cc own nL d w (pc + 3) ls st) : V X cc own nL d w pc ls (.int x :: st) :=
  fun C H locs LS cells slots hW h => lv_if_lt C.1 C.2.1 hd ht (fun q => kt q C H locs LS cells slots hW h) (fun q => kf q C H locs LS cells slots hW h)
theorem V_icmp_lt {x y : Int32} {off : Int} {tgt : Nat} (hd : decode cc pc = .ok (.if_icmp .lt off, 3)) (ht : (pc : Int) + off = (tgt : Int)) (kt : x < y → V X cc own nL d w tgt ls st) (kf : ¬ x < y → V X cc own nL d w (pc + 3) ls st) : V X cc own nL d w pc ls (.int y :: .int x :: st) :=
  fun C H locs LS cells slots hW h => lv_icmp_lt C.1 C.2.1 hd ht (fun q => kt q C H locs LS cells slots hW h) (fun q => kf q C H locs LS cells slots hW h)
theorem V_if_ge {x : Int32} {off : Int} {tgt : Nat} (hd : decode cc pc = .ok (.ifCond .ge off, 3)) (ht : (pc : Int) + off = (tgt : Int)) (kt : 0 ≤ x → V X cc own nL d w tgt ls st) (kf : ¬ 0 ≤ x → V X cc own nL d w (pc + 3) ls st) : V X cc own nL d w pc ls (.int x :: st) :=
  fun C H locs LS cells slots hW h => lv_if_ge C.1 C.2.1 hd ht (fun q => kt q C H locs LS cells slots hW h) (fun q => kf q C H locs LS cells slots hW h)
theorem V_icmp_ge {x y : Int32} {off : Int} {tgt : Nat} (hd : decode cc pc = .ok (.if_icmp .ge off, 3)) (ht : (pc : Int) + off = (tgt : Int)) (kt : y ≤ x → V X cc own nL d w tgt ls st) (kf : ¬ y ≤ x → V X cc own nL d w (pc + 3) ls st) : V X cc own nL d w pc ls (.int y :: .int x :: st) :=
  fun C H locs LS cells slots hW h => lv_icmp_ge C.1 C.2.1 hd ht (fun q => kt q C H locs LS cells slots hW h) (fun q => kf q C H locs LS cells slots hW h)
theorem V_if_gt {x : Int32} {off : Int} {tgt : Nat} (hd : decode cc pc = .ok (.ifCond .gt off, 3)) (ht : (pc : Int) + off = (tgt : Int)) (kt : 0 < x → V X cc own nL d w tgt ls st) (kf : ¬ 0 < x → V X cc own nL d w (pc + 3) ls st) : V X cc own nL d w pc ls (.int x :: st) :=
  fun C H locs LS cells slots hW h => lv_if_gt C.1 C.2.1 hd ht (fun q => kt q C H locs LS cells slots hW h) (fun q => kf q C H locs LS cells slots hW h)
theorem V_icmp_gt {x y : Int32} {off : Int} {tgt : Nat} (hd : decode cc pc = .ok (.if_icmp .gt off, 3)) (ht : (pc : Int) + off = (tgt : Int)) (kt : y < x → V X cc own nL d w tgt ls st) (kf : ¬ y < x → V X cc own nL d w (pc + 3) ls st) : V X cc own nL d w pc ls (.int y :: .int x :: st) :=
  fun C H locs LS cells slots hW h => lv_icmp_gt C.1 C.2.1 hd ht (fun q => kt q C H locs LS cells slots hW h) (fun q => kf q C H locs LS cells slots hW h)
theorem V_if_le {x : Int32} {off : Int} {tgt : Nat} (hd : decode cc pc = .ok (.ifCond .le off, 3)) (ht : (pc : Int) + off = (tgt : Int)) (kt : x ≤ 0 → V X cc own nL d w tgt ls st) (kf : ¬ x ≤ 0 → V X cc own nL d w (pc + 3) ls st) : V X cc own nL d w pc ls (.int x :: st) :=
  fun C H locs LS cells slots hW h => lv_if_le C.1 C.2.1 hd ht (fun q => kt q C H locs LS cells slots hW h) (fun q => kf q C H locs LS cells slots hW h)
theorem V_icmp_le {x y : Int32} {off : Int} {tgt : Nat} (hd : decode cc pc = .ok (.if_icmp .le off, 3)) (ht : (pc : Int) + off = (tgt : Int)) (kt : x ≤ y → V X cc own nL d w tgt ls st) (kf : ¬ x ≤ y → V X cc own nL d w (pc + 3) ls st) : V X cc own nL d w pc ls (.int y :: .int x :: st) :=
  fun C H locs LS cells slots hW h => lv_icmp_le C.1 C.2.1 hd ht (fun q => kt q C H locs LS cells slots hW h) (fun q => kf q C H locs LS cells slots hW h)
theorem V_goto {off : Int} {tgt : Nat} (hd : decode cc pc = .ok (.goto off, 3)) (ht : (pc : Int) + off = (tgt : Int)) (k : V X cc own nL d w tgt ls st) : V X cc own nL d w pc ls st := V_step (fun C _ _ _ _ _ _ kk => lv_goto C.1 C.2.1 hd ht kk) k
theorem V_ifnull {r : Option Nat} {off : Int} {tgt : Nat} (hd : decode cc pc = .ok (.ifnull off, 3)) (ht : (pc : Int) + off = (tgt : Int)) (kt : r = none → V X cc own nL d w tgt ls st) (kf : ¬ r = none → V X cc own nL d w (pc + 3) ls st) : V X cc own nL d w pc ls (va_rf r :: st) := by
  cases r with
  | none => exact V_step (fun C _ _ _ _ _ _ kk => lv_ifnullN C.1 C.2.1 hd ht kk) (kt rfl)
  | some x => exact V_step (fun C _ _ _ _ _ _ kk => lv_ifnull C.1 C.2.1 hd kk) (kf (by simp))
theorem V_ifnonnull {r : Option Nat} {off : Int} {tgt : Nat} (hd : decode cc pc = .ok (.ifnonnull off, 3)) (ht : (pc : Int) + off = (tgt : Int)) (kt : ¬ r = none → V X cc own nL d w tgt ls st) (kf : r = none → V X cc own nL d w (pc + 3) ls st) : V X cc own nL d w pc ls (va_rf r :: st) := by
  cases r with
  | none => exact V_step (fun C _ _ _ _ _ _ kk => lv_ifnonnullN C.1 C.2.1 hd kk) (kf rfl)
  | some x => exact V_step (fun C _ _ _ _ _ _ kk => lv_ifnonnull C.1 C.2.1 hd ht kk) (kt (by simp))
theorem V_acmp_eq {rx ry : Option Nat} {off : Int} {tgt : Nat} (hd : decode cc pc = .ok (.if_acmp .eq off, 3)) (ht : (pc : Int) + off = (tgt : Int)) (kt : rx = ry → V X cc own nL d w tgt ls st) (kf : ¬ rx = ry → V X cc own nL d w (pc + 3) ls st) : V X cc own nL d w pc ls (va_rf ry :: va_rf rx :: st) :=
  fun C H locs LS cells slots hW h => lv_acmp_eq C.1 C.2.1 hd ht (fun q => kt q C H locs LS cells slots hW h) (fun q => kf q C H locs LS cells slots hW h)
theorem V_acmp_ne {rx ry : Option Nat} {off : Int} {tgt : Nat} (hd : decode cc pc = .ok (.if_acmp .ne off, 3)) (ht : (pc : Int) + off = (tgt : Int)) (kt : ¬ rx = ry → V X cc own nL d w tgt ls st) (kf : rx = ry → V X cc own nL d w (pc + 3) ls st) : V X cc own nL d w pc ls (va_rf ry :: va_rf rx :: st) :=
  fun C H locs LS cells slots hW h => lv_acmp_ne C.1 C.2.1 hd ht (fun q => kt q C H locs LS cells slots hW h) (fun q => kf q C H locs LS cells slots hW h)
theorem V_lookup {dflt : Int} {ps : Array (Int × Int)} {len : Nat} {x : Int32} {off : Int} {tgt : Nat} (hd : decode cc pc = .ok (.lookupswitch dflt ps, len)) (hp : (ps.toList.zip (ps.toList.drop 1)).all (fun (a, next) => a.1 < next.1) = true) (ho : Op.lookupswitch.offset ps.toList dflt x.toInt = off) (ht : (pc : Int) + off = (tgt : Int)) (k : V X cc own nL d w tgt ls st) : V X cc own nL d w pc ls (.int x :: st) := V_step (fun C _ _ _ _ _ _ kk => lv_lookup C.1 C.2.1 hd hp ho ht kk) k
theorem V_tableOut {dflt lo hi : Int} {offs : Array Int} {len : Nat} {x : Int32} {tgt : Nat} (hd : decode cc pc = .ok (.tableswitch dflt lo hi offs, len)) (h : x.toInt < lo ∨ hi < x.toInt) (ht : (pc : Int) + dflt = (tgt : Int)) (k : V X cc own nL d w tgt ls st) : V X cc own nL d w pc ls (.int x :: st) := V_step (fun C _ _ _ _ _ _ kk => lv_tableOut C.1 C.2.1 hd h ht kk) k
theorem V_tableIn {dflt lo hi : Int} {offs : Array Int} {len : Nat} {x : Int32} {off : Int} {tgt : Nat} (hd : decode cc pc = .ok (.tableswitch dflt lo hi offs, len)) (h1 : ¬ x.toInt < lo) (h2 : ¬ hi < x.toInt) (ho : offs[(x.toInt - lo).toNat]? = some off) (ht : (pc : Int) + off = (tgt : Int)) (k : V X cc own nL d w tgt ls st) : V X cc own nL d w pc ls (.int x :: st) := V_step (fun C _ _ _ _ _ _ kk => lv_tableIn C.1 C.2.1 hd h1 h2 ho ht kk) k
theorem V_ldc {index : Nat} {v : Int32} (hc : Cond.constant own index v ∈ lw_all) (hd : decode cc pc = .ok (.ldc index, 2)) (k : V X cc own nL d w (pc + 2) ls (.int v :: st)) : V X cc own nL d w pc ls st := V_step (fun C _ _ _ _ _ _ kk => lv_ldc C.1 C.2.1 C.2.2.2.1 (C.2.2.2.2.1 _ hc) hd kk) k
theorem V_ldc2 {index : Nat} {v : Int64} (hc : Cond.constantLong own index v ∈ lw_all) (hd : decode cc pc = .ok (.ldc2_w index, 3)) (k : V X cc own nL d w (pc + 3) ls (.long v :: st)) : V X cc own nL d w pc ls st := V_step (fun C _ _ _ _ _ _ kk => lv_ldc2 C.1 C.2.1 C.2.2.2.1 (C.2.2.2.2.1 _ hc) hd kk) k
end VL
/-! ===== heaps that change ===== -/
theorem slotSum_same {H H' : Heap} (hz : H'.size = H.size) (h : ∀ (q : Nat) (c : Cell), H[q]? = some c → ∃ c', H'[q]? = some c' ∧ c'.slots.size = c.slots.size) : slotSum H' = slotSum H := by
  rw [slotSum_sum, slotSum_sum]
  congr 1
  apply List.ext_getElem?
  intro i
  rw [List.getElem?_map, List.getElem?_map, Array.getElem?_toList, Array.getElem?_toList]
  by_cases hi : i < H.size
  · obtain ⟨c', h1, h2⟩ := h i H[i] (by simp [hi])
    rw [h1]
    simp [hi, h2]
  · rw [Array.getElem?_eq_none (by omega), Array.getElem?_eq_none (by omega)]
theorem slotSum_grow {H H' : Heap} {n : Nat} {c : Cell} (hz : H'.size = H.size + 1) (hk : ∀ q, q < H.size → H'[q]? = H[q]?) (hc : H'[H.size]? = some c) (hn : c.slots.size = n) : slotSum H' = slotSum H + n := by
  have e : H' = H.push c := by
    apply Array.ext_getElem?
    intro i
    rw [Array.getElem?_push]
    by_cases hi : i < H.size
    · rw [if_neg (by omega), hk i hi]
    · by_cases h2 : i = H.size
      · rw [if_pos h2, h2, hc]
      · rw [if_neg h2, Array.getElem?_eq_none (by omega), Array.getElem?_eq_none (by omega)]
  rw [e, slotSum_push, hn]
theorem WX_exact {X : CX} {H : Heap} {locs : List Loc} {cells slots : Nat} {g : JFrame} (k : WX X H locs (H.size - (xs X).heap.size) (slotSum H - slotSum (xs X).heap) g) : WX X H locs cells slots g := by
  intro T hT Y
  have b0 : (xs X).slotsUsed = slotSum (xs X).heap := by
    have h := Y.room
    simp only [State.hasRoom, Bool.and_eq_true] at h
    exact (State.slotsTrue_iff _).mp h.2
  have b1 : T.slotsUsed = slotSum T.heap := (State.slotsTrue_iff T).mp Y.book
  refine k T hT { Y with same := ?_ }
  obtain ⟨a1, a2, a3, a4, a5, a6⟩ := Y.same
  refine ⟨a1, a2, ?_, a4, ?_, a6⟩
  · have a2' : (xs X).heap.size ≤ T.heap.size := a2
    show T.heap.size ≤ _
    rw [← hT]
    omega
  · have a4' : T.slotsUsed = _ := a4
    rw [← hT]
    omega
def isI : FieldType → Bool
  | .int | .boolean | .byte | .char | .short => true
  | _ => false
def isL : FieldType → Bool
  | .long => true
  | _ => false
theorem svl_siI (w : AH) (a i : Nat) (x : Int32) (ty : FieldType) (q j : Nat) : svl (siI w a i x) ty q j = if isI ty = true ∧ q = a ∧ j = i then .int x else svl w ty q j := by
  by_cases h : q = a ∧ j = i
  · cases ty <;> simp [svl, siI, hvi, hvl, hvr, up2, isI, h]
  · cases ty <;> simp [svl, siI, hvi, hvl, hvr, up2, isI, h]
theorem svl_siL (w : AH) (a i : Nat) (x : Int64) (ty : FieldType) (q j : Nat) : svl (siL w a i x) ty q j = if isL ty = true ∧ q = a ∧ j = i then .long x else svl w ty q j := by
  by_cases h : q = a ∧ j = i
  · cases ty <;> simp [svl, siL, hvi, hvl, hvr, up2, isL, h]
  · cases ty <;> simp [svl, siL, hvi, hvl, hvr, up2, isL, h]
theorem svl_siR (w : AH) (a i : Nat) (x : Option Nat) (ty : FieldType) (q j : Nat) : svl (siR w a i x) ty q j = if (isI ty = false ∧ isL ty = false) ∧ q = a ∧ j = i then va_rf x else svl w ty q j := by
  by_cases h : q = a ∧ j = i
  · cases ty <;> simp [svl, siR, hvi, hvl, hvr, up2, isI, isL, h]
  · cases ty <;> simp [svl, siR, hvi, hvl, hvr, up2, isI, isL, h]
/-- w' is w but for the slot (a, i), which holds v where its type is ty -/
def Upd (w w' : AH) (a i : Nat) (ty : FieldType) (v : Value) : Prop := w'.1 = w.1 ∧ w'.2.1 = w.2.1 ∧ (∀ t q j, ¬ (q = a ∧ j = i) → svl w' t q j = svl w t q j) ∧ svl w' ty a i = v
theorem Upd.I {w : AH} {a i : Nat} {x : Int32} {ty : FieldType} (h : isI ty = true) : Upd w (siI w a i x) a i ty (.int x) := ⟨rfl, rfl, fun t q j hn => by rw [svl_siI, if_neg (fun z => hn z.2)], by rw [svl_siI, if_pos ⟨h, rfl, rfl⟩]⟩
theorem Upd.L {w : AH} {a i : Nat} {x : Int64} {ty : FieldType} (h : isL ty = true) : Upd w (siL w a i x) a i ty (.long x) := ⟨rfl, rfl, fun t q j hn => by rw [svl_siL, if_neg (fun z => hn z.2)], by rw [svl_siL, if_pos ⟨h, rfl, rfl⟩]⟩
theorem Upd.R {w : AH} {a i : Nat} {x : Option Nat} {ty : FieldType} (h1 : isI ty = false) (h2 : isL ty = false) : Upd w (siR w a i x) a i ty (va_rf x) := ⟨rfl, rfl, fun t q j hn => by rw [svl_siR, if_neg (fun z => hn z.2)], by rw [svl_siR, if_pos ⟨⟨h1, h2⟩, rfl, rfl⟩]⟩
theorem cellOk.kept {D : DD} {w w' : AH} {q : Nat} {H H' : Heap} (h : cellOk D w q H) (hk : hkd w' q = hkd w q) (hs : ∀ t j, svl w' t q j = svl w t q j) (hq : H'[q]? = H[q]?) : cellOk D w' q H' := by
  unfold cellOk at h ⊢
  rw [hk]
  obtain ⟨h1, h2, h3, h4⟩ := h
  refine ⟨fun g1 g2 => ?_, fun g1 g2 => ?_, fun g1 g2 => ?_, fun g1 => ?_⟩
  · rw [hq, h1 g1 g2]
    congr 2
    funext j
    exact (hs _ j).symm
  · obtain ⟨r, e1, e2⟩ := h2 g1 g2
    exact ⟨r, e1, (e2.kept hq).to (fun k _ => (hs _ k).symm)⟩
  · obtain ⟨cell, e1, e2, e3, e4, e5⟩ := h3 g1 g2
    exact ⟨cell, by rw [hq]; exact e1, e2, e3, e4, fun j hj => by rw [hs]; exact e5 j hj⟩
  · obtain ⟨cell, e1, e2, e3, e4, e5, e6⟩ := h4 g1
    refine ⟨cell, by rw [hq]; exact e1, e2, e3, e4, e5, fun j hj => ?_⟩
    have := hs .int j
    simp only [svl, Value.int.injEq] at this
    rw [this]
    exact e6 j hj
theorem cellOk.arr {D : DD} {w : AH} {a k n : Nat} {H : Heap} (h : cellOk D w a H) (hk : hkd w a = (k, n)) (h0 : k ≠ 0) (h1 : k < 10) : H[a]? = some (arrV (D.2.1 k) n (fun j => svl w (aty k) a j)) := by
  unfold cellOk at h
  rw [hk] at h
  exact h.1 h0 h1
theorem cellOk.obj {D : DD} {w : AH} {a ci : Nat} {H : Heap} {C : String} {T : u_T} {N : Nat} (h : cellOk D w a H) (hk : (hkd w a).1 = 10 + ci) (hc : clsL[ci]? = some (C, T, N)) : t_OB a (D.1.1 ci) N (D.1.2 ci) H (fun j => svl w (tyL ci j) a j) := by
  unfold cellOk cOk at h
  rw [hk] at h
  have hci : ci < 27 := (List.getElem?_eq_some_iff.mp hc).1
  obtain ⟨r, h2, h3⟩ := h.2.1 (by omega) (by omega)
  rw [Nat.add_sub_cancel_left] at h2 h3
  cases h2.symm.trans hc
  exact h3
theorem cOk.of_arr {D : DD} {w : AH} {a : Nat} {H : Heap} {k n : Nat} (h1 : k < 10) (h : H[a]? = some (arrV (D.2.1 k) n (fun j => svl w (aty k) a j))) : cOk D w a H (k, n) :=
  ⟨fun _ _ => h, fun g => absurd g (by show ¬ 10 ≤ k; omega), fun g => absurd g (by show ¬ 90 ≤ k; omega), fun g => absurd g (by show ¬ 100 ≤ k; omega)⟩
theorem cOk.of_obj {D : DD} {w : AH} {a : Nat} {H : Heap} {ci N n : Nat} {C : String} {T : u_T} (hc : clsL[ci]? = some (C, T, N)) (h : t_OB a (D.1.1 ci) N (D.1.2 ci) H (fun j => svl w (tyL ci j) a j)) : cOk D w a H (10 + ci, n) := by
  have hci : ci < 27 := (List.getElem?_eq_some_iff.mp hc).1
  refine ⟨fun _ g => absurd g (by show ¬ 10 + ci < 10; omega), fun _ _ => ⟨_, by show clsL[10 + ci - 10]? = _; rw [Nat.add_sub_cancel_left]; exact hc, ?_⟩, fun g => absurd g (by show ¬ 90 ≤ 10 + ci; omega), fun g => absurd g (by show ¬ 100 ≤ 10 + ci; omega)⟩
  show t_OB _ _ _ _ _ _
  rw [Nat.add_sub_cancel_left]
  exact h
theorem cOk.lt {D : DD} {w : AH} {q : Nat} {H : Heap} (h : cellOk D w q H) (hk : (hkd w q).1 ≠ 0) : q < H.size := by
  unfold cellOk at h
  obtain ⟨h1, h2, h3, h4⟩ := h
  rcases Nat.lt_or_ge (hkd w q).1 10 with g | g
  · exact (Array.getElem?_eq_some_iff.mp (h1 hk g)).1
  · rcases Nat.lt_or_ge (hkd w q).1 90 with g2 | g2
    · obtain ⟨r, _, cell, e, _⟩ := h2 g g2
      exact (Array.getElem?_eq_some_iff.mp e).1
    · rcases Nat.lt_or_ge (hkd w q).1 100 with g3 | g3
      · obtain ⟨cell, e, _⟩ := h3 g2 g3
        exact (Array.getElem?_eq_some_iff.mp e).1
      · obtain ⟨cell, e, _⟩ := h4 g3
        exact (Array.getElem?_eq_some_iff.mp e).1
/-- a store into a cell of the world -/
theorem VW.put {X : CX} {w w' : AH} {H H' : Heap} {locs : List Loc} {a i z : Nat} {ty : FieldType} {v : Value} (h : VW X w H locs) (hu : Upd w w' a i ty v) (hk : wr (hkd w a).1) (hz : H'.size = H.size) (ho : ∀ q, q ≠ a → H'[q]? = H[q]?)
    (hsl : ∀ c, H[a]? = some c → ∃ c', H'[a]? = some c' ∧ c'.slots.size = c.slots.size) (hc : cellOk (xD X) w' a H') : VW X w' H' (locs ++ [⟨a, z⟩]) := by
  obtain ⟨⟨h1, h2, h3, h4, h5, h6, h7, h8⟩, hS, hss, hA, hr1, hr2⟩ := h
  obtain ⟨u1, u2, u3, u4⟩ := hu
  have ess : slotSum H' = slotSum H := slotSum_same hz (fun q c hq => by
    by_cases e : q = a
    · subst e; exact hsl c hq
    · exact ⟨c, by rw [ho q e]; exact hq, rfl⟩)
  have ek : ∀ q, hkd w' q = hkd w q := fun q => by unfold hkd; rw [u2]
  refine ⟨⟨?_, ?_, ?_, ?_, fun q => ?_, ?_, fun q c hq => ?_, fun q hq => ?_⟩, hS.put hz ho (hA a hk), by rw [ess]; exact hss, fun q hq => hA q (by rw [← ek q]; exact hq), ?_, ?_⟩
  · unfold hsz; rw [u1, hz]; exact h1
  · unfold hns; rw [u1, ess]; exact h2
  · unfold hsz hlc; rw [u1]; exact h3
  · unfold hns hls; rw [u1]; exact h4
  · by_cases e : q = a
    · subst e; exact hc
    · exact (h5 q).kept (ek q) (fun t j => u3 t q j (fun z => e z.1)) (ho q e)
  · unfold hst; rw [u1]; exact h6
  · obtain ⟨g1, g2⟩ := h7 q c hq
    have e : q ≠ a := fun e => hk.1 (by rw [← e]; exact g2)
    exact ⟨by rw [ho q e]; exact g1, by rw [ek]; exact g2⟩
  · rw [ek] at hq
    unfold hsz; rw [u1]; exact h8 q hq
  · unfold hlc; rw [u1]; exact hr1
  · unfold hls; rw [u1]; exact hr2
/-- a new cell -/
theorem VW.push {X : CX} {w : AH} {H H' : Heap} {locs : List Loc} {k n : Nat} {c : Cell} (h : VW X w H locs) (hA : ∀ q, (xs X).heap.size ≤ q → xA X q) (hkw : k < 90) (hr : hroom w n) (hz : H'.size = H.size + 1) (ho : ∀ q, q < H.size → H'[q]? = H[q]?) (hc : H'[H.size]? = some c) (hn : c.slots.size = n)
    (hok : cellOk (xD X) (hnew w k n) (hsz w) H') : VW X (hnew w k n) H' locs := by
  obtain ⟨⟨h1, h2, h3, h4, h5, h6, h7, h8⟩, hS, hss, hA0, hr1, hr2⟩ := h
  have ess : slotSum H' = slotSum H + n := slotSum_grow hz ho hc hn
  have ekd : ∀ q, q ≠ hsz w → hkd (hnew w k n) q = hkd w q := fun q e => by simp [hkd, hnew, up1, e]
  refine ⟨⟨?_, ?_, ?_, ?_, fun q => ?_, h6, fun q c hq => ?_, fun q hq => ?_⟩, ⟨Nat.le_trans hS.1 (by omega), fun q g1 g2 => (ho q (Nat.lt_of_lt_of_le g1 hS.1)).trans (hS.2.1 q g1 g2), hS.2.2⟩, by omega, fun q hq => ?_, hr1, hr2⟩
  · show H'.size = hsz w + 1
    omega
  · show slotSum H' = hns w + n
    omega
  · exact hr.1
  · exact hr.2
  · by_cases e : q = hsz w
    · subst e; exact hok
    · by_cases hlt : q < H.size
      · refine (h5 q).kept (ekd q e) (fun t j => ?_) (ho q hlt)
        cases t <;> simp [svl, hvi, hvl, hvr, hnew, up1, e]
      · have hk0 : (hkd w q).1 = 0 := Classical.byContradiction fun g => hlt (cOk.lt (h5 q) g)
        unfold cellOk
        rw [ekd q e]
        refine ⟨fun g => absurd hk0 g, fun g => absurd g (by omega), fun g => absurd g (by omega), fun g => absurd g (by omega)⟩
  · obtain ⟨g1, g2⟩ := h7 q c hq
    have hlt := (Array.getElem?_eq_some_iff.mp g1).1
    exact ⟨by rw [ho q hlt]; exact g1, by rw [ekd q (by omega)]; exact g2⟩
  · by_cases e : q = hsz w
    · subst e
      have : (hkd (hnew w k n) (hsz w)).1 = k := by simp [hkd, hnew, up1]
      omega
    · rw [ekd q e] at hq
      have := h8 q hq
      show q < hsz w + 1
      omega
  · by_cases e : q = hsz w
    · subst e
      exact hA _ (by rw [← h1]; exact hS.1)
    · exact hA0 q (by rw [ekd q e] at hq; exact hq)
/-! ===== fields ===== -/
/-- a class of the list, with its words -/
def CL (ci : Nat) (C : String) (T : u_T) (N : Nat) : Prop := clsL[ci]? = some (C, T, N) ∧ (∀ w ∈ u_ws C T N, w ∈ lw_all) ∧ (∀ j, j < N → parseFieldDescriptor (T j).2.2.1 = some (tyL ci j)) ∧ ∀ a, a < N → ∀ b, b < N → a ≠ b → (T a).2.1 ≠ (T b).2.1
/-- the pool's entry 'index' of the class 'own' is the field k of the class ci -/
def FL (own : String) (index ci k : Nat) (ty : FieldType) : Prop := ∃ (ref C : String) (T : u_T) (N : Nat), CL ci C T N ∧ k < N ∧ tyL ci k = ty ∧ Cond.fieldLink own index ref (T k).2.1 (T k).2.2.1 ∈ lw_all ∧ (ref = (T k).1 ∨ Cond.sameField ref (T k).1 (T k).2.1 (T k).2.2.1 ∈ lw_all)
def FLw (own : String) (index ci k : Nat) (ty : FieldType) : Prop := FL own index ci k ty ∧ ∃ (C : String) (T : u_T) (N : Nat), clsL[ci]? = some (C, T, N) ∧ (T k).2.2.2 = false
def FLf (own : String) (index ci k : Nat) (ty : FieldType) : Prop := FL own index ci k ty ∧ ∃ (C : String) (T : u_T) (N : Nat), clsL[ci]? = some (C, T, N) ∧ (T k).2.2.2 = true ∧ (T k).1 = own
theorem FL.mk {own ref C : String} {index ci k N : Nat} {T : u_T} {ty : FieldType} (hc : CL ci C T N) (hk : k < N) (ht : tyL ci k = ty) (hl : Cond.fieldLink own index ref (T k).2.1 (T k).2.2.1 ∈ lw_all) (he : ref = (T k).1) : FL own index ci k ty := ⟨ref, C, T, N, hc, hk, ht, hl, Or.inl he⟩
theorem FL.mkS {own ref C : String} {index ci k N : Nat} {T : u_T} {ty : FieldType} (hc : CL ci C T N) (hk : k < N) (ht : tyL ci k = ty) (hl : Cond.fieldLink own index ref (T k).2.1 (T k).2.2.1 ∈ lw_all) (he : Cond.sameField ref (T k).1 (T k).2.1 (T k).2.2.1 ∈ lw_all) : FL own index ci k ty := ⟨ref, C, T, N, hc, hk, ht, hl, Or.inr he⟩
section VF
variable {X : CX} {cc : ByteArray} {own : String} {nL d : Nat} {w w' : AH} {pc : Nat} {ls ls' : List (Option Value)} {st : List Value} {index ci k a : Nat} {ty : FieldType} {v : Value}
theorem V_get (hF : FL own index ci k ty) (hk : (hkd w a).1 = 10 + ci) (hv : svl w ty a k = v) (hd : decode cc pc = .ok (.getfield index, 3)) (kk : V X cc own nL d w (pc + 3) ls (v :: st)) : V X cc own nL d w pc ls (.ref a :: st) := by
  intro C H locs LS cells slots hW h
  have hkk := kk C H locs LS cells slots hW h
  obtain ⟨ref, Cn, T, N, ⟨hc, hin, hty, hnm⟩, hkN, htk, hlink, hsame⟩ := hF
  obtain ⟨hx, hb, hml, hown, hts, hK, hA, hfr, hlo⟩ := C
  obtain ⟨cell, q1, q2, q3, q4⟩ := (hW.1.2.2.2.2.1 a).obj hk hc
  obtain ⟨hS, hfc, kC, hkC, hkind⟩ := hK.1 ci _ hc
  obtain ⟨cf, kf, fi, f, hi, hsl⟩ := hS k hkN
  have hi' : (xs X).fieldFound? ref (T k).2.1 (T k).2.2.1 = some (cf, kf, fi, f) := by
    rcases hsame with e | e
    · rw [e]; exact hi
    · exact u_same (hts _ e) _ hi
  refine W.getf hx hb hown (hts _ hlink) hi' (u_facts hfc hkC (u_lays hts hin hkN) hi).1 q1 (by rw [q3]; exact fun h => by cases h) (v := v) ?_ rfl rfl hd hkk
  rw [hsl, q4 k hkN]
  show some (svl w (tyL ci k) a k) = some v
  rw [htk, hv]
theorem V_put (hF : FLw own index ci k ty) (hk : (hkd w a).1 = 10 + ci) (hu : Upd w w' a k ty v) (hn : narrow ty v = v) (hfit : fits ty v = true) (hd : decode cc pc = .ok (.putfield index, 3)) (kk : V X cc own nL d w' (pc + 3) ls st) : V X cc own nL d w pc ls (v :: .ref a :: st) := by
  intro C H locs LS cells slots hW h
  have C0 := C
  obtain ⟨⟨ref, Cn, T, N, ⟨hc, hin, hty, hnm⟩, hkN, htk, hlink, hsame⟩, Cn', T', N', hc', hfin⟩ := hF
  cases hc.symm.trans hc'
  obtain ⟨hx, hb, hml, hown, hts, hK, hA, hfr, hlo⟩ := C
  obtain ⟨cell, q1, q2, q3, q4⟩ := (hW.1.2.2.2.2.1 a).obj hk hc
  have hKn := hK.1 ci _ hc
  have hap : ∀ x y, x < N → y < N → x ≠ y → ((xD X).1.2 ci) x ≠ ((xD X).1.2 ci) y := by
    intro x y hx hy hne
    obtain ⟨_, _, _, fa, hia, ea⟩ := hKn.1 x hx
    obtain ⟨_, _, _, fb, hib, eb⟩ := hKn.1 y hy
    rw [← ea, ← eb]
    refine u_apart (u_lays hts hin hx) (u_lays hts hin hy) hia hib ?_
    rw [(State.fieldFound?_type hia (hty x hx)).1, (State.fieldFound?_type hib (hty y hy)).1]
    exact hnm x hx y hy hne
  obtain ⟨hS, hfc, kC, hkC, hkind⟩ := hKn
  obtain ⟨cf, kf, fi, f, hi, hsl⟩ := hS k hkN
  have hi' : (xs X).fieldFound? ref (T k).2.1 (T k).2.2.1 = some (cf, kf, fi, f) := by
    rcases hsame with e | e
    · rw [e]; exact hi
    · exact u_same (hts _ e) _ hi
  have hlay := hts _ (hin _ (u_in_lay hkN))
  unfold u_lay at hlay
  rw [if_neg (by rw [hfin]; decide)] at hlay
  have hst := (u_facts hfc hkC (u_lays hts hin hkN) hi).1
  have h6 := u_store hfc hkC hkind hlay hi (by rw [hty k hkN, htk]) hn hfit
  refine W.putK hx hb (f := f) ⟨hown, hts _ hlink, ⟨_, _, _, hi'⟩, hst⟩ (by rw [q2]; exact h6) q1 q3 (by rw [hsl]; exact k2_hasslot (q4 k hkN)) rfl rfl hd fun H' e1 e2 e3 => ?_
  rw [hsl] at e1 ⊢
  refine kk C0 H' _ LS cells slots (hW.put hu (by rw [hk]; have hci : ci < 27 := (List.getElem?_eq_some_iff.mp hc).1; exact ⟨by omega, by omega⟩) e2 e3 (fun c hc1 => ⟨_, e1, ?_⟩) ?_) h
  · cases q1.symm.trans hc1
    simp [Cell.setSlot]
  · have ek : hkd w' a = (10 + ci, (hkd w a).2) := by unfold hkd; rw [hu.2.1]; exact Prod.ext hk rfl
    unfold cellOk
    rw [ek]
    refine cOk.of_obj hc ?_
    refine t_OB.to (V := updV (fun j => svl w (tyL ci j) a j) k v) ⟨_, e1, q2, q3, t_set q4 hap hkN v⟩ (fun j _ => ?_)
    unfold updV
    by_cases e : j = k
    · subst e
      rw [if_pos rfl, htk, hu.2.2.2]
    · rw [if_neg e]
      exact (hu.2.2.1 _ a j (fun z => e z.2)).symm
theorem V_putF (hF : FLf own index ci k ty) (hk : (hkd w a).1 = 10 + ci) (hin2 : (xme X).name = "<init>") (hu : Upd w w' a k ty v) (hn : narrow ty v = v) (hfit : fits ty v = true) (hd : decode cc pc = .ok (.putfield index, 3)) (kk : V X cc own nL d w' (pc + 3) ls st) : V X cc own nL d w pc ls (v :: .ref a :: st) := by
  intro C H locs LS cells slots hW h
  have C0 := C
  obtain ⟨⟨ref, Cn, T, N, ⟨hc, hin, hty, hnm⟩, hkN, htk, hlink, hsame⟩, Cn', T', N', hc', hfin, hdecl⟩ := hF
  cases hc.symm.trans hc'
  obtain ⟨hx, hb, hml, hown, hts, hK, hA, hfr, hlo⟩ := C
  obtain ⟨cell, q1, q2, q3, q4⟩ := (hW.1.2.2.2.2.1 a).obj hk hc
  have hKn := hK.1 ci _ hc
  have hap : ∀ x y, x < N → y < N → x ≠ y → ((xD X).1.2 ci) x ≠ ((xD X).1.2 ci) y := by
    intro x y hx hy hne
    obtain ⟨_, _, _, fa, hia, ea⟩ := hKn.1 x hx
    obtain ⟨_, _, _, fb, hib, eb⟩ := hKn.1 y hy
    rw [← ea, ← eb]
    refine u_apart (u_lays hts hin hx) (u_lays hts hin hy) hia hib ?_
    rw [(State.fieldFound?_type hia (hty x hx)).1, (State.fieldFound?_type hib (hty y hy)).1]
    exact hnm x hx y hy hne
  obtain ⟨hS, hfc, kC, hkC, hkind⟩ := hKn
  obtain ⟨cf, kf, fi, f, hi, hsl⟩ := hS k hkN
  have hi' : (xs X).fieldFound? ref (T k).2.1 (T k).2.2.1 = some (cf, kf, fi, f) := by
    rcases hsame with e | e
    · rw [e]; exact hi
    · exact u_same (hts _ e) _ hi
  have hlay := hts _ (hin _ (u_in_lay hkN))
  unfold u_lay at hlay
  rw [if_pos hfin] at hlay
  have hst := (u_facts hfc hkC (u_lays hts hin hkN) hi).1
  have hcf : (xm X).cls = cf := by
    obtain ⟨_, _, c', _, _, _, -, -, hf', -, -, -, hown2, -⟩ := Cond.laysFinal_spec hlay
    have e1 : c' = cf := by have := hi.symm.trans hf'; simp at this; exact this.1.symm
    rw [hdecl] at hown2
    rw [← e1]; exact Option.some.inj (hown.symm.trans hown2)
  have h6 := u_fits hfc hkC hkind (Or.inr hlay) hi (by rw [hty k hkN, htk]) hn hfit
  refine W.putFinK hx hb hown (hts _ hlink) hi' hst hcf hin2 (by rw [q2]; exact h6) q1 q3 (by rw [hsl]; exact k2_hasslot (q4 k hkN)) rfl rfl hd fun H' e1 e2 e3 => ?_
  rw [hsl] at e1 ⊢
  refine kk C0 H' _ LS cells slots (hW.put hu (by rw [hk]; have hci : ci < 27 := (List.getElem?_eq_some_iff.mp hc).1; exact ⟨by omega, by omega⟩) e2 e3 (fun c hc1 => ⟨_, e1, ?_⟩) ?_) h
  · cases q1.symm.trans hc1
    simp [Cell.setSlot]
  · have ek : hkd w' a = (10 + ci, (hkd w a).2) := by unfold hkd; rw [hu.2.1]; exact Prod.ext hk rfl
    unfold cellOk
    rw [ek]
    refine cOk.of_obj hc ?_
    refine t_OB.to (V := updV (fun j => svl w (tyL ci j) a j) k v) ⟨_, e1, q2, q3, t_set q4 hap hkN v⟩ (fun j _ => ?_)
    unfold updV
    by_cases e : j = k
    · subst e
      rw [if_pos rfl, htk, hu.2.2.2]
    · rw [if_neg e]
      exact (hu.2.2.1 _ a j (fun z => e z.2)).symm
end VF
/-! ===== arrays ===== -/
section VA
variable {X : CX} {cc : ByteArray} {own : String} {nL d : Nat} {w w' : AH} {pc : Nat} {ls ls' : List (Option Value)} {st : List Value} {a n : Nat} {i : Int32}
theorem VW.arrOf {X : CX} {cc : ByteArray} {own : String} {nL d k : Nat} (C : CXok X cc own nL d) (h0 : k ≠ 0) (h1 : k < 7) (n : Nat) (z : Nat → Value) : (xs X).isArrayOf (arrV ((xD X).2.1 k) n z) (aty k) := (C.2.2.2.2.2.1.2.1 k h0 h1).1 n z
theorem V_alen {k : Nat} (hk : hkd w a = (k, n)) (h0 : k ≠ 0) (h1 : k < 7) (hd : decode cc pc = .ok (.arraylength, 1)) (kk : V X cc own nL d w (pc + 1) ls (.int (Int32.ofNat n) :: st)) : V X cc own nL d w pc ls (.ref a :: st) := by
  intro C H locs LS cells slots hW h
  exact W.alen C.1 C.2.1 ((hW.1.2.2.2.2.1 a).arr hk h0 (by omega)) (VW.arrOf C h0 h1 _ _) (by rw [arrV_size]) rfl rfl hd (kk C H locs LS cells slots hW h)
theorem V_iald (hk : hkd w a = (1, n)) (hin : vp_in i n) (hd : decode cc pc = .ok (.iaload, 1)) (kk : V X cc own nL d w (pc + 1) ls (.int (hvi w a i.toNatClampNeg) :: st)) : V X cc own nL d w pc ls (.int i :: .ref a :: st) := by
  intro C H locs LS cells slots hW h
  have hlt : i.toNatClampNeg < n := Nat.not_le.mp fun q => hin (Or.inr q)
  exact W.iald (v := .int (hvi w a i.toNatClampNeg)) C.1 C.2.1 ((hW.1.2.2.2.2.1 a).arr hk (by decide) (by decide)) (VW.arrOf (k := 1) C (by decide) (by decide) _ _) (fun q => by cases q) (by rw [arrV_size]; exact hin) (by rw [arrV_read _ _ hlt]; rfl) rfl rfl hd (kk C H locs LS cells slots hW h)
theorem V_lald (hk : hkd w a = (2, n)) (hin : vp_in i n) (hd : decode cc pc = .ok (.laload, 1)) (kk : V X cc own nL d w (pc + 1) ls (.long (hvl w a i.toNatClampNeg) :: st)) : V X cc own nL d w pc ls (.int i :: .ref a :: st) := by
  intro C H locs LS cells slots hW h
  have hlt : i.toNatClampNeg < n := Nat.not_le.mp fun q => hin (Or.inr q)
  exact W.lald (v := .long (hvl w a i.toNatClampNeg)) C.1 C.2.1 ((hW.1.2.2.2.2.1 a).arr hk (by decide) (by decide)) (VW.arrOf (k := 2) C (by decide) (by decide) _ _) (fun q => by cases q) (by rw [arrV_size]; exact hin) (by rw [arrV_read _ _ hlt]; rfl) rfl rfl hd (kk C H locs LS cells slots hW h)
theorem V_zald (hk : hkd w a = (3, n)) (hin : vp_in i n) (hd : decode cc pc = .ok (.baload, 1)) (kk : V X cc own nL d w (pc + 1) ls (.int (hvi w a i.toNatClampNeg) :: st)) : V X cc own nL d w pc ls (.int i :: .ref a :: st) := by
  intro C H locs LS cells slots hW h
  have hlt : i.toNatClampNeg < n := Nat.not_le.mp fun q => hin (Or.inr q)
  exact W.zald (v := .int (hvi w a i.toNatClampNeg)) C.1 C.2.1 ((hW.1.2.2.2.2.1 a).arr hk (by decide) (by decide)) (VW.arrOf (k := 3) C (by decide) (by decide) _ _) (fun q => by cases q) (by rw [arrV_size]; exact hin) (by rw [arrV_read _ _ hlt]; rfl) rfl rfl hd (kk C H locs LS cells slots hW h)
theorem V_bald (hk : hkd w a = (4, n)) (hin : vp_in i n) (hd : decode cc pc = .ok (.baload, 1)) (kk : V X cc own nL d w (pc + 1) ls (.int (hvi w a i.toNatClampNeg) :: st)) : V X cc own nL d w pc ls (.int i :: .ref a :: st) := by
  intro C H locs LS cells slots hW h
  have hlt : i.toNatClampNeg < n := Nat.not_le.mp fun q => hin (Or.inr q)
  exact W.bald (v := .int (hvi w a i.toNatClampNeg)) C.1 C.2.1 ((hW.1.2.2.2.2.1 a).arr hk (by decide) (by decide)) (VW.arrOf (k := 4) C (by decide) (by decide) _ _) (fun q => by cases q) (by rw [arrV_size]; exact hin) (by rw [arrV_read _ _ hlt]; rfl) rfl rfl hd (kk C H locs LS cells slots hW h)
theorem V_aald {k : Nat} (hk : hkd w a = (k, n)) (h0 : 4 < k) (h1 : k < 7) (hin : vp_in i n) (hd : decode cc pc = .ok (.aaload, 1)) (kk : V X cc own nL d w (pc + 1) ls (va_rf (hvr w a i.toNatClampNeg) :: st)) : V X cc own nL d w pc ls (.int i :: .ref a :: st) := by
  intro C H locs LS cells slots hW h
  have hlt : i.toNatClampNeg < n := Nat.not_le.mp fun q => hin (Or.inr q)
  have hty : (aty k).isReference = true ∧ svl w (aty k) a i.toNatClampNeg = va_rf (hvr w a i.toNatClampNeg) := by
    have : k = 5 ∨ k = 6 := by omega
    rcases this with rfl | rfl <;> exact ⟨rfl, rfl⟩
  exact W.aald (v := va_rf (hvr w a i.toNatClampNeg)) C.1 C.2.1 ((hW.1.2.2.2.2.1 a).arr hk (by omega) (by omega)) (VW.arrOf (k := k) C (by omega) h1 _ _) hty.1 (fun q => by cases q) (by rw [arrV_size]; exact hin) (by rw [arrV_read _ _ hlt, hty.2]) rfl rfl hd (kk C H locs LS cells slots hW h)
theorem VW.putA {X : CX} {w w' : AH} {H H' : Heap} {locs : List Loc} {a n k j : Nat} {v : Value} (hW : VW X w H locs) (hk : hkd w a = (k, n)) (h0 : k ≠ 0) (h1 : k < 10) (hu : Upd w w' a j (aty k) v) (e1 : H'[a]? = some ((arrV ((xD X).2.1 k) n (fun j => svl w (aty k) a j)).setSlot j v)) (e2 : H'.size = H.size) (e3 : ∀ q, q ≠ a → H'[q]? = H[q]?) : VW X w' H' (locs ++ [⟨a, j⟩]) := by
  have q1 := (hW.1.2.2.2.2.1 a).arr hk h0 h1
  refine hW.put hu (by rw [hk]; exact ⟨h0, by show k < 90; omega⟩) e2 e3 (fun c hc1 => ⟨_, e1, ?_⟩) ?_
  · cases q1.symm.trans hc1
    simp [Cell.setSlot]
  · have ek : hkd w' a = (k, n) := by unfold hkd; rw [hu.2.1]; exact hk
    unfold cellOk
    rw [ek]
    refine cOk.of_arr h1 ?_
    rw [e1, arrV_store]
    congr 2
    funext z
    unfold updV
    by_cases e : z = j
    · subst e
      rw [if_pos rfl]
      exact hu.2.2.2.symm
    · rw [if_neg e]
      exact (hu.2.2.1 _ a z (fun q => e q.2)).symm
theorem V_iast {x : Int32} (hk : hkd w a = (1, n)) (hin : vp_in i n) (hd : decode cc pc = .ok (.iastore, 1)) (kk : V X cc own nL d (siI w a i.toNatClampNeg x) (pc + 1) ls st) : V X cc own nL d w pc ls (.int x :: .int i :: .ref a :: st) := by
  intro C H locs LS cells slots hW h
  refine W.iast C.1 C.2.1 ((hW.1.2.2.2.2.1 a).arr hk (by decide) (by decide)) (VW.arrOf (k := 1) C (by decide) (by decide) _ _) (fun q => by cases q) (by rw [arrV_size]; exact hin) rfl rfl hd fun H' e1 e2 e3 => ?_
  exact kk C H' _ LS cells slots (hW.putA hk (by decide) (by decide) (Upd.I rfl) e1 e2 e3) h
theorem V_last {x : Int64} (hk : hkd w a = (2, n)) (hin : vp_in i n) (hd : decode cc pc = .ok (.lastore, 1)) (kk : V X cc own nL d (siL w a i.toNatClampNeg x) (pc + 1) ls st) : V X cc own nL d w pc ls (.long x :: .int i :: .ref a :: st) := by
  intro C H locs LS cells slots hW h
  refine W.last C.1 C.2.1 ((hW.1.2.2.2.2.1 a).arr hk (by decide) (by decide)) (VW.arrOf (k := 2) C (by decide) (by decide) _ _) (fun q => by cases q) (by rw [arrV_size]; exact hin) rfl rfl hd fun H' e1 e2 e3 => ?_
  exact kk C H' _ LS cells slots (hW.putA hk (by decide) (by decide) (Upd.L rfl) e1 e2 e3) h
theorem V_zast {x : Int32} {z : Int32} (hz : narrow .boolean (.int x) = .int z) (hk : hkd w a = (3, n)) (hin : vp_in i n) (hd : decode cc pc = .ok (.bastore, 1)) (kk : V X cc own nL d (siI w a i.toNatClampNeg z) (pc + 1) ls st) : V X cc own nL d w pc ls (.int x :: .int i :: .ref a :: st) := by
  intro C H locs LS cells slots hW h
  refine W.zast C.1 C.2.1 ((hW.1.2.2.2.2.1 a).arr hk (by decide) (by decide)) (VW.arrOf (k := 3) C (by decide) (by decide) _ _) (fun q => by cases q) (by rw [arrV_size]; exact hin) rfl rfl hd fun H' e1 e2 e3 => ?_
  rw [hz] at e1
  exact kk C H' _ LS cells slots (hW.putA hk (by decide) (by decide) (Upd.I rfl) e1 e2 e3) h
theorem V_bast {x : Int32} {z : Int32} (hz : narrow .byte (.int x) = .int z) (hk : hkd w a = (4, n)) (hin : vp_in i n) (hd : decode cc pc = .ok (.bastore, 1)) (kk : V X cc own nL d (siI w a i.toNatClampNeg z) (pc + 1) ls st) : V X cc own nL d w pc ls (.int x :: .int i :: .ref a :: st) := by
  intro C H locs LS cells slots hW h
  refine W.bast C.1 C.2.1 ((hW.1.2.2.2.2.1 a).arr hk (by decide) (by decide)) (VW.arrOf (k := 4) C (by decide) (by decide) _ _) (fun q => by cases q) (by rw [arrV_size]; exact hin) rfl rfl hd fun H' e1 e2 e3 => ?_
  rw [hz] at e1
  exact kk C H' _ LS cells slots (hW.putA hk (by decide) (by decide) (Upd.I rfl) e1 e2 e3) h
theorem V_newa {atype : ArrayType} {k : Nat} (ht : newarray.typeOf atype = aty k) (h0 : k ≠ 0) (h1 : k < 5) (hq : Cond.arrayClass (aty k) ∈ lw_all) (hn : ¬ i < 0) (hN : i.toNatClampNeg = n) (hb : n * componentBytes (aty k) ≤ 536870912) (hr : hroom w n) (hd : decode cc pc = .ok (.newarray atype, 2))
    (kk : V X cc own nL d (hnew w k n) (pc + 2) ls (.ref (hsz w) :: st)) : V X cc own nL d w pc ls (.int i :: st) := by
  intro C H locs LS cells slots hW h
  have C0 := C
  obtain ⟨hx, hbc, hml, hown, hts, hK, hA, hfr, hlo⟩ := C
  obtain ⟨⟨z1, z2, z3, z4, z5⟩, hS, hss, hA0, hr1, hr2⟩ := id hW
  have s1 := hS.1
  refine WX_exact ?_
  refine va_newaK (N := n) hx hbc (by rw [ht]; exact hts _ hq) rfl hd rfl hn hN (by rw [ht]; exact hb) (by rw [hr1]; have := hr.1; omega) (by rw [hr2]; have := hr.2; omega) z1 fun H' cA e1 e2 e3 e4 e5 => ?_
  rw [ht] at e1 e4 e5
  have eA : cA = (xD X).2.1 k := by
    have g := (hK.2.1 k h0 (by omega)).2
    have g' : (xs X).vm.findClass ("[" ++ (aty k).toString) = some ((xD X).2.1 k) := by
      have : k = 1 ∨ k = 2 ∨ k = 3 ∨ k = 4 := by omega
      rcases this with rfl | rfl | rfl | rfl <;> exact g
    exact Option.some.inj (e5.symm.trans g')
  subst eA
  have e3' : ∀ q, q < H.size → H'[q]? = H[q]? := fun q hq => e3 q (by omega)
  have e1' := e1
  rw [← z1] at e1'
  refine kk C0 H' locs LS _ _ (VW.push (k := k) (n := n) hW hA (by omega) hr (by omega) e3' e1' (arrV_size _ _ _) ?_) h
  have ek : hkd (hnew w k n) (hsz w) = (k, n) := by simp [hkd, hnew, up1]
  unfold cellOk
  rw [ek]
  refine cOk.of_arr (by omega) ?_
  rw [e1]
  congr 2
  funext j
  have : k = 1 ∨ k = 2 ∨ k = 3 ∨ k = 4 := by omega
  rcases this with rfl | rfl | rfl | rfl <;> simp [aty, svl, hvi, hvl, hnew, up1, defaultValue]
theorem V_new {C : String} {T : u_T} {N ci index : Nat} (hc : CL ci C T N) (hl : Cond.classLink own index C ∈ lw_all) (hi : Cond.instantiable C N ∈ lw_all) (hini : Cond.initialized C ∈ lw_all) (hr : hroom w N) (hty : ∀ j, j < N → defaultValue (tyL ci j) = svl (hnew w (10 + ci) N) (tyL ci j) (hsz w) j) (hd : decode cc pc = .ok (.new index, 3))
    (kk : V X cc own nL d (hnew w (10 + ci) N) (pc + 3) ls (.ref (hsz w) :: st)) : V X cc own nL d w pc ls st := by
  intro C0 H locs LS cells slots hW h
  obtain ⟨hx, hbc, hml, hown, hts, hK, hA, hfr, hlo⟩ := C0
  obtain ⟨⟨z1, z2, z3, z4, z5⟩, hS, hss, hA0, hr1, hr2⟩ := id hW
  obtain ⟨hcl, hin, htyp, hnm⟩ := hc
  have s1 := hS.1
  have hKn := hK.1 ci _ hcl
  refine WX_exact ?_
  refine W.newcK hx hbc hown (hts _ hl) (hts _ hi) (hts _ hini) rfl hd (by rw [hr1]; have := hr.1; omega) (by rw [hr2]; have := hr.2; omega) hKn.2.1 z1 fun H' kC hkC e1 e2 e3 => ?_
  have e3' : ∀ q, q < H.size → H'[q]? = H[q]? := fun q hq => e3 q (by omega)
  have e1' := e1
  rw [← z1] at e1'
  have hsz0 : (blank ((xD X).1.1 ci) kC).slots.size = N := by
    obtain ⟨c1, k1, g1, g2, -, -, -, g3⟩ := Cond.instantiable_spec (hts _ hi)
    have hcc : c1 = (xD X).1.1 ci := Option.some.inj (g1.symm.trans hKn.2.1)
    subst hcc
    cases hkC.symm.trans g2
    simp [blank]
    first | exact g3 | exact g3.symm | omega
  refine kk ⟨hx, hbc, hml, hown, hts, hK, hA, hfr, hlo⟩ H' locs LS _ _ (VW.push (k := 10 + ci) (n := N) hW hA (by have := (List.getElem?_eq_some_iff.mp hcl).1; have : ci < 27 := this; omega) hr (by omega) e3' e1' hsz0 ?_) h
  have ek : hkd (hnew w (10 + ci) N) (hsz w) = (10 + ci, N) := by simp [hkd, hnew, up1]
  unfold cellOk
  rw [ek]
  refine cOk.of_obj hcl ?_
  exact (u_born (tyL ci) hts hin hKn hkC e1 htyp).to hty
end VA
/-! ===== contracts ===== -/
theorem stF.moved {D : DD} {u U : State} {C n d : String} {v : Value} (hvm : u.vm.Alike U.vm) (h : stF D u C n d v) : stF D U C n d v := by
  obtain ⟨cf, kf, fi, f, a, cell, h1, h2, h3, h4, h5, h6, h7, h8, h9, h10, h11⟩ := h
  obtain ⟨k', hi', he⟩ := State.fieldFound?_setVm hvm h1
  exact ⟨cf, k', fi, f, a, cell, hi', h2, by rw [he]; exact h3, by rw [he]; exact h4, h5, h6, h7, by rw [hvm.findClass]; exact h8, h9, h10, by rw [he]; exact h11⟩
theorem bcF.moved {u U : State} {c : ClassId} (hvm : u.vm.Alike U.vm) (h : bcF u c) : bcF U c := by
  obtain ⟨k, comp, h1, h2⟩ := h
  obtain ⟨k', hk', he⟩ := hvm.2.2 _ _ h1
  exact ⟨k', comp, hk', by rw [he]; exact h2⟩
theorem KN.warm {D : DD} {s U : State} (hW : s.WarmedH U.vm) (h : KN D s) : KN D U := by
  obtain ⟨h1, h2, h3, ⟨h4, h5⟩, h6, h7, ⟨h8, h9, h10, h11⟩, ⟨mi, h12, h13⟩, h14⟩ := h
  refine ⟨fun c q hq => u_Kn_moved hW.alike (h1 c q hq), fun k h0 hk => ⟨arrOfT_moved hW.alike (h2 k h0 hk).1, (h2 k h0 hk).2.moved hW.alike⟩, fun w hw => ?_, ⟨h4.moved hW.alike, h5.moved hW.alike⟩, fun q hq => ?_, fun i hi => (h7 i hi).moved hW.alike, ⟨h8.moved hW.alike, h9.moved hW.alike, h10.moved hW.alike, h11.moved hW.alike⟩, ⟨mi, h12, h13.moved hW.alike⟩, h14.moved (by decide) hW.alike⟩
  · have hz := h3 w hw
    have hf := (List.mem_filter.mp hw).2
    cases w <;> first
      | exact va_Nw.warmF hW hz
      | exact va_Nw.warmM hW hz
      | exact va_Nw.warmC hW hz
      | exact va_Nw.warmD hW hz
      | (simp at hf; done)
  · obtain ⟨a, g1, g2⟩ := h6 q hq
    exact ⟨a, g1, g2.warm hW⟩
def rmA (d : Nat) (w : AH) : Room := { frames := d, cells := hlc w - hsz w, slots := hls w - hns w, locals := 64 * d }
def QA (D : DD) (w : AH) (o : Outcome) (w' : AH) : Array Value → State → Outcome → State → Prop := fun _ st oc t =>
  oc = o ∧ Hold D w' t.heap ∧ va_F (fA w) st t ∧ hns w ≤ hns w' ∧ (∀ q, wr (hkd w' q).1 → fA w q) ∧ hlc w' = hlc w ∧ hls w' = hls w
def PA (D : DD) (w : AH) (U : State) : Prop := Hold D w U.heap ∧ KN D U
/-- a method's end, however it ends: what it wrote and made -/
def QX (below : List Frame) (Qc : Array Value → State → Outcome → State → Prop) (a : Array Value) (s : State) (mc ms : Nat) (free : Addr → Prop) : State → Prop := fun t =>
  ∃ o, t.status = .running ∧ Ended t below o ∧ Qc a s o t ∧ ∃ L, (s.WarmedH t.vm ∧ s.sameButNew ({ t with vm := s.vm } : State) L mc ms) ∧ ∀ q ∈ L, free q.base
def MX (l : Launch) (y : MethodName) (ws : List Cond) (rm : Room) (Pc : Array Value → State → Prop) (Qc : Array Value → State → Outcome → State → Prop) (mc ms : Nat) (free : Addr → Prop) : Prop :=
  MetFree l y (headSpec ws rm) Pc (fun _ _ _ _ _ => True) (fun a st o t => Qc a st o t ∧ ∃ L, (st.WarmedH t.vm ∧ st.sameButNew ({ t with vm := st.vm } : State) L mc ms) ∧ ∀ q ∈ L, free q.base)
theorem MX.met {l : Launch} {y : MethodName} {ws : List Cond} {rm : Room} {Pc : Array Value → State → Prop} {Qc : Array Value → State → Outcome → State → Prop} {mc ms : Nat} {free : Addr → Prop} (h : MX l y ws rm Pc Qc mc ms free) (hr : ∀ a st o t, Qc a st o t → ∃ v, o = .returned v) : Met l y ws rm Pc Qc mc ms free := by
  intro p e ha hc hk s m args below hf hap hP hK
  obtain ⟨n, o, h1, h2, h3, hq, L, ⟨h4, h5⟩, h6⟩ := h p e ha hc hk s m args below hf hap hP hK
  exact ⟨n, o, h1, h2, h3, hq, L, ⟨hr _ _ _ _ hq, h4, h5⟩, h6⟩
theorem W.mono {p : Program} {l : Launch} {e : Env} {R : Room} {s : State} {m : MethodId} {args : Array Value} {below : List Frame} {meth : Method} {c : Code} {H : Heap} {locs : List Loc} {cells slots : Nat} {Q Q' : State → Prop} {g : JFrame} (h : ∀ t, Q t → Q' t) (k : W p l e R s m args below meth c H locs cells slots Q g) : W p l e R s m args below meth c H locs cells slots Q' g := fun T hT Y => by
  obtain ⟨t, a1, b1⟩ := k T hT Y
  exact ⟨t, a1, h t b1⟩
theorem MQ.toX {below : List Frame} {Qc : Array Value → State → Outcome → State → Prop} {a : Array Value} {s : State} {mc ms : Nat} {free : Addr → Prop} {t : State} (h : MQ below Qc a s mc ms free t) : QX below Qc a s mc ms free t := by
  obtain ⟨o, h1, h2, h3, L, h4, h5⟩ := h
  exact ⟨o, h1, h2, h3, L, h4.2, h5⟩
/-- THE CONTRACT: from the heap w with the arguments av the method y ends with o and the heap w' -/
def MA (l : Launch) (D : DD) (y : MethodName) (code : ByteArray) (maxL : Nat) (ret : Option FieldType) (d : Nat) (av : List Value) (w : AH) (o : Outcome) (w' : AH) : Prop :=
  MX l y (ws_ y code maxL ret) (rmA d w) (va_Pc av (PA D w)) (QA D w o w') (hlc w - hsz w) (hls w - hns w) (fA w)
/-- .. of a method with handlers -/
def MAW (l : Launch) (D : DD) (y : MethodName) (code : ByteArray) (maxL : Nat) (ret : Option FieldType) (hh : List (Nat × Nat × Nat × Nat)) (d : Nat) (av : List Value) (w : AH) (o : Outcome) (w' : AH) : Prop :=
  MX l y (wsW_ y code maxL ret hh) (rmA d w) (va_Pc av (PA D w)) (QA D w o w') (hlc w - hsz w) (hls w - hns w) (fA w)
theorem MA.met {l : Launch} {D : DD} {y : MethodName} {code : ByteArray} {maxL : Nat} {ret : Option FieldType} {d : Nat} {av : List Value} {w w' : AH} {v : Option Value} (h : MA l D y code maxL ret d av w (.returned v) w') : Met l y (ws_ y code maxL ret) (rmA d w) (va_Pc av (PA D w)) (QA D w (.returned v) w') (hlc w - hsz w) (hls w - hns w) (fA w) := MX.met h (fun _ _ _ _ q => ⟨v, q.1⟩)
theorem PA.blind {D : DD} {w : AH} {av : List Value} : FrameBlind (va_Pc av (PA D w)) := fun a U g mk q => ⟨q.1, q.2.1, KN.warm (s := U) (U := U.calling g mk a) (State.WarmedH.refl U) q.2.2⟩
/-- the walk's end is the contract's -/
def XE (X : CX) (w0 : AH) (d : Nat) (ret : Option FieldType) (nm : String) (o : Outcome) (w1 : AH) : Prop :=
  xQ X = QX (xb X) (QA (xD X) w0 o w1) (xa X) (xs X) (hlc w0 - hsz w0) (hls w0 - hns w0) (fA w0) ∧ xA X = fA w0 ∧ (xs X).heap.size = hsz w0 ∧ slotSum (xs X).heap = hns w0 ∧ hsz w0 ≤ hlc w0 ∧ hns w0 ≤ hls w0 ∧ xR X = rmA d w0 ∧ (xme X).sig.returnType = ret ∧ (xme X).locks = false ∧ (xme X).name = nm ∧ ∀ a c, (xD X).2.2.2.2 a = some c → (xs X).heap[a]? = some c
theorem lpr_none : ∀ (l : List (Option Value)) (o k : Nat), lpr o (l ++ List.replicate k none) = lpr o l
  | [], o, 0 => rfl
  | [], o, k + 1 => by
    show lpr o (none :: ([] ++ List.replicate k none)) = []
    exact lpr_none [] (o + 1) k
  | none :: t, o, k => lpr_none t (o + 1) k
  | some v :: t, o, k => by
    show (o, v) :: lpr (o + 1) (t ++ List.replicate k none) = (o, v) :: lpr (o + 1) t
    rw [lpr_none t (o + 1) k]
/-- the handlers of the code that is walked -/
def XH (X : CX) (hh : List (Nat × Nat × Nat × Nat)) : Prop := (xc X).exceptionTable.toList.map (fun h => (h.startPc, h.endPc, h.handlerPc, h.catchType)) = hh
theorem MX.ofW {l : Launch} {y : MethodName} {ws : List Cond} {rm : Room} {Pc : Array Value → State → Prop} {Qc : Array Value → State → Outcome → State → Prop} {mc ms : Nat} {free : Addr → Prop} {cc : ByteArray} {maxL : Nat} {ret : Option FieldType} (hh : List (Nat × Nat × Nat × Nat))
    (hy : plainName y.cls = true) (hcd : ∀ (args : Array Value) (s : State) (m : MethodId), (∀ w ∈ ws, w.before args s = true) → s.methodNamed? y = some m → ∃ meth c, s.vm.method? m = some meth ∧ meth.code = some c ∧ c.code = cc ∧ c.maxLocals = maxL ∧ meth.sig.returnType = ret ∧ meth.locks = false ∧ c.exceptionTable.toList.map (fun h => (h.startPc, h.endPc, h.handlerPc, h.catchType)) = hh)
    (body : ∀ p e s m args below meth c s₁, BodyLoose p l y (headSpec ws rm) cc maxL ret e s m args below meth c s₁ → c.maxLocals = maxL → c.exceptionTable.toList.map (fun h => (h.startPc, h.endPc, h.handlerPc, h.catchType)) = hh → Pc args s →
      W p l e (headSpec ws rm).room s m args below meth c s.heap [] 0 0 (QX below Qc args s mc ms free) (entryFrame m args maxL)) : MX l y ws rm Pc Qc mc ms free := by
  refine MetFree.of_bodyS (code := cc) (maxLocals := maxL) (ret := ret) hy ?_ ?_
  · intro args s m h hn
    obtain ⟨meth, c, h1, h2, h3, h4, h5, h6, -⟩ := hcd args s m (atoms_spec (ws := ws) h) hn
    exact ⟨meth, c, h1, h2, h3, h4, h5, h6⟩
  · intro p e s m args below meth c s₁ B hml hP _
    have hh0 : s₁.heap = s.heap := by rw [B.state]; rfl
    obtain ⟨meth', c', h1, h2, -, -, -, -, h7⟩ := hcd args s m (atoms_spec (ws := ws) B.pre) B.named
    have hY := Stand.of_body B
    cases hY.method.symm.trans h1
    cases hY.code.symm.trans h2
    obtain ⟨t, a1, o, b1, b2, b3, b4⟩ := body p e s m args below meth c s₁ B hml h7 hP s₁ hh0 hY
    exact ⟨t, o, a1, b1, b2, ⟨b3, b4⟩⟩
theorem MX.intro {l : Launch} {D : DD} {y : MethodName} {ws : List Cond} {code : ByteArray} {maxL : Nat} {ret : Option FieldType} {d : Nat} {av : List Value} {w w1 : AH} {o : Outcome} {own nm : String} {ls : List (Option Value)} (hh : List (Nat × Nat × Nat × Nat)) (hwa : ∀ w ∈ lw_all, w ∈ ws)
    (hcd : ∀ (args : Array Value) (s : State) (m : MethodId), (∀ w ∈ ws, w.before args s = true) → s.methodNamed? y = some m → ∃ meth c, s.vm.method? m = some meth ∧ meth.code = some c ∧ c.code = code ∧ c.maxLocals = maxL ∧ meth.sig.returnType = ret ∧ meth.locks = false ∧ c.exceptionTable.toList.map (fun h => (h.startPc, h.endPc, h.handlerPc, h.catchType)) = hh)
    (hy : plainName y.cls = true) (hown : y.cls = own) (hnm : y.name = nm) (hlen : (lg_sl av).length ≤ maxL) (hlv : lent av ++ List.replicate (maxL - (lent av).length) none = ls)
    (body : ∀ X : CX, xl X = l → xD X = D → XE X w d ret nm o w1 → XH X hh → V X code own maxL d w 0 ls []) : MX l y ws (rmA d w) (va_Pc av (PA D w)) (QA D w o w1) (hlc w - hsz w) (hls w - hns w) (fA w) := by
  subst hown hnm
  refine MX.ofW (cc := code) (maxL := maxL) (ret := ret) hh hy hcd ?_
  intro p e s m args below meth c s₁ B hml hex hv
  obtain ⟨rfl, hH, hK⟩ := hv
  have hts := atoms_spec (ws := ws) B.pre
  have hts : ∀ w ∈ lw_all, w.before _ s = true := fun w h => hts w (hwa w h)
  have hown : s.vm.findClass y.cls = some m.cls := findClass_of_methodNamed B.named
  rw [lg_entry_eq]
  have hl := lv_entry av (n := maxL) hlen
  have hl' : lv_has _ maxL (lpr 0 ls) := ⟨hl.1, hl.2.1, fun q hq => hl.2.2 q (lent_args av 0 q (by rw [← hlv, lpr_none] at hq; exact hq))⟩
  refine body ((p, l, e, (headSpec ws (rmA d w)).room, s), (m, av.toArray, below, meth, c), (QX below (QA D w o w1) av.toArray s (hlc w - hsz w) (hls w - hns w) (fA w), D, fA w)) rfl rfl ⟨rfl, rfl, hH.1, hH.2.1, hH.2.2.1, hH.2.2.2.1, rfl, B.returns, B.notSynchronized, (name_of_methodNamed B.named B.method).1, fun a c hc => (hH.2.2.2.2.2.2.1 a c hc).1⟩ hex ⟨B.exec, B.bytes, hml, hown, hts, hK, fun q hq => Or.inr (by rw [← hH.1]; exact hq), Nat.le_refl _, Nat.le_refl _⟩ s.heap [] _ 0 0 ⟨hH, va_S.rf, Nat.le_refl _, fun q hq => Or.inl hq, ?_, ?_⟩ hl'
  · show hlc w - hsz w = hlc w - s.heap.size
    rw [hH.1]
  · show hls w - hns w = hls w - slotSum s.heap
    rw [hH.2.1]
theorem MA.introH {l : Launch} {D : DD} {y : MethodName} {code : ByteArray} {maxL : Nat} {ret : Option FieldType} {d : Nat} {av : List Value} {w w1 : AH} {o : Outcome} {own nm : String} {ls : List (Option Value)} (hy : plainName y.cls = true) (hown : y.cls = own) (hnm : y.name = nm) (hlen : (lg_sl av).length ≤ maxL) (hlv : lent av ++ List.replicate (maxL - (lent av).length) none = ls)
    (body : ∀ X : CX, xl X = l → xD X = D → XE X w d ret nm o w1 → XH X [] → V X code own maxL d w 0 ls []) : MA l D y code maxL ret d av w o w1 := by
  refine MX.intro [] (fun w h => List.mem_cons_of_mem _ h) (fun args s m h hn => ?_) hy hown hnm hlen hlv body
  obtain ⟨meth, c, h1, h2, h3, h4, h5, h6, h7, -⟩ := Cond.code_spec hn (h _ List.mem_cons_self)
  refine ⟨meth, c, h1, h2, h3, h4, h5, h6, ?_⟩
  have : c.exceptionTable = #[] := by simpa using h7
  rw [this]
  rfl
theorem MA.intro {l : Launch} {D : DD} {y : MethodName} {code : ByteArray} {maxL : Nat} {ret : Option FieldType} {d : Nat} {av : List Value} {w w1 : AH} {o : Outcome} {own nm : String} {ls : List (Option Value)} (hy : plainName y.cls = true) (hown : y.cls = own) (hnm : y.name = nm) (hlen : (lg_sl av).length ≤ maxL) (hlv : lent av ++ List.replicate (maxL - (lent av).length) none = ls)
    (body : ∀ X : CX, xl X = l → xD X = D → XE X w d ret nm o w1 → V X code own maxL d w 0 ls []) : MA l D y code maxL ret d av w o w1 := MA.introH hy hown hnm hlen hlv (fun X h1 h2 h3 _ => body X h1 h2 h3)
theorem MAW.intro {l : Launch} {D : DD} {y : MethodName} {code : ByteArray} {maxL : Nat} {ret : Option FieldType} {hh : List (Nat × Nat × Nat × Nat)} {d : Nat} {av : List Value} {w w1 : AH} {o : Outcome} {own nm : String} {ls : List (Option Value)} (hy : plainName y.cls = true) (hown : y.cls = own) (hnm : y.name = nm) (hlen : (lg_sl av).length ≤ maxL) (hlv : lent av ++ List.replicate (maxL - (lent av).length) none = ls)
    (body : ∀ X : CX, xl X = l → xD X = D → XE X w d ret nm o w1 → XH X hh → V X code own maxL d w 0 ls []) : MAW l D y code maxL ret hh d av w o w1 := by
  refine MX.intro hh (fun w h => List.mem_cons_of_mem _ h) (fun args s m h hn => ?_) hy hown hnm hlen hlv body
  obtain ⟨m9, meth, c, hn9, h1, h2, h3, h4, h5, h6, h7, -⟩ := Cond.codeWith_spec (h _ List.mem_cons_self)
  cases hn.symm.trans hn9
  exact ⟨meth, c, h1, h2, h3, h4, h6, h7, h5⟩
theorem V_end {X : CX} {w0 w : AH} {d : Nat} {ret : Option FieldType} {nm : String} {o : Outcome} {H : Heap} {locs : List Loc} (hE : XE X w0 d ret nm o w) (hW : VW X w H locs) {t : State} (ht : t.heap = H) : QA (xD X) w0 o w (xa X) (xs X) o t := by
  obtain ⟨hQ, hA, hz, hs, z1, z2, hR, -⟩ := hE
  obtain ⟨hH, hS, hss, hsup, hr1, hr2⟩ := hW
  have e1 : (xR X).cells = hlc w0 - hsz w0 := by rw [hR]; rfl
  have e2 : (xR X).slots = hls w0 - hns w0 := by rw [hR]; rfl
  have b1 := hH.1
  have b2 := hH.2.1
  have b3 := hH.2.2.1
  have b4 := hH.2.2.2.1
  have b5 := hS.1
  refine ⟨rfl, by rw [ht]; exact hH, ?_, by omega, fun q hq => by rw [← hA]; exact hsup q hq, by omega, by omega⟩
  rw [← hA]
  exact hS.F ht
theorem V_locs {X : CX} {w0 w : AH} {d : Nat} {ret : Option FieldType} {nm : String} {o : Outcome} {H : Heap} {locs : List Loc} (hE : XE X w0 d ret nm o w) (hW : VW X w H locs) : (∀ q ∈ locs, fA w0 q.base) ∧ H.size - (xs X).heap.size ≤ hlc w0 - hsz w0 ∧ slotSum H - slotSum (xs X).heap ≤ hls w0 - hns w0 := by
  obtain ⟨hQ, hA, hz, hs, z1, z2, hR, -⟩ := hE
  obtain ⟨hH, hS, hss, hsup, hr1, hr2⟩ := hW
  have e1 : (xR X).cells = hlc w0 - hsz w0 := by rw [hR]; rfl
  have e2 : (xR X).slots = hls w0 - hns w0 := by rw [hR]; rfl
  have b1 := hH.1
  have b2 := hH.2.1
  have b3 := hH.2.2.1
  have b4 := hH.2.2.2.1
  refine ⟨fun q hq => by rw [← hA]; exact hS.2.2 q hq, by omega, by omega⟩
section VR
variable {X : CX} {cc : ByteArray} {own : String} {nL d d0 : Nat} {w w0 w1 : AH} {pc : Nat} {ls ls' : List (Option Value)} {st rest : List Value} {nm : String}
theorem V_iret {v : Int32} (hE : XE X w0 d0 (some .int) nm (.returned (some (.int v))) w) (hd : decode cc pc = .ok (.ireturn, 1)) : V X cc own nL d w pc ls [.int v] := by
  intro C H locs LS cells slots hW h
  obtain ⟨h1, h2, h3⟩ := V_locs hE hW
  refine WX_exact (W.widen h2 h3 ?_)
  rw [hE.1]
  refine W.mono (fun _ q => MQ.toX q) ?_
  exact W.iret C.1 C.2.1 hE.2.2.2.2.2.2.2.1 (fun t ht _ => V_end hE hW ht) h1 hd (hlocks := hE.2.2.2.2.2.2.2.2.1)
theorem V_zret {v : Int32} {ty : FieldType} (hE : XE X w0 d0 (some ty) nm (.returned (some (.int v))) w) (hn : narrow ty (.int v) = .int v) (hd : decode cc pc = .ok (.ireturn, 1)) : V X cc own nL d w pc ls [.int v] := by
  intro C H locs LS cells slots hW h
  obtain ⟨h1, h2, h3⟩ := V_locs hE hW
  refine WX_exact (W.widen h2 h3 ?_)
  rw [hE.1]
  refine W.mono (fun _ q => MQ.toX q) ?_
  exact W.zret C.1 C.2.1 hE.2.2.2.2.2.2.2.1 hn (fun t ht _ => V_end hE hW ht) h1 hd (hlocks := hE.2.2.2.2.2.2.2.2.1)
theorem V_lret {v : Int64} (hE : XE X w0 d0 (some .long) nm (.returned (some (.long v))) w) (hd : decode cc pc = .ok (.lreturn, 1)) : V X cc own nL d w pc ls [.long v] := by
  intro C H locs LS cells slots hW h
  obtain ⟨h1, h2, h3⟩ := V_locs hE hW
  refine WX_exact (W.widen h2 h3 ?_)
  rw [hE.1]
  refine W.mono (fun _ q => MQ.toX q) ?_
  exact W.lret C.1 C.2.1 hE.2.2.2.2.2.2.2.1 (fun t ht _ => V_end hE hW ht) h1 hd (hlocks := hE.2.2.2.2.2.2.2.2.1)
theorem V_vret (hE : XE X w0 d0 none nm (.returned none) w) (hd : decode cc pc = .ok (.return_, 1)) : V X cc own nL d w pc ls [] := by
  intro C H locs LS cells slots hW h
  obtain ⟨h1, h2, h3⟩ := V_locs hE hW
  refine WX_exact (W.widen h2 h3 ?_)
  rw [hE.1]
  refine W.mono (fun _ q => MQ.toX q) ?_
  exact W.vret C.1 C.2.1 hE.2.2.2.2.2.2.2.1 (fun t ht _ => V_end hE hW ht) h1 hd (hlocks := hE.2.2.2.2.2.2.2.2.1)
theorem V_aret {r : Option Nat} {rt : FieldType} (hE : XE X w0 d0 (some rt) nm (.returned (some (va_rf r))) w) (hrt : (∃ n, rt = .object n) ∨ ∃ t, rt = .array t) (hd : decode cc pc = .ok (.areturn, 1)) : V X cc own nL d w pc ls [va_rf r] := by
  intro C H locs LS cells slots hW h
  obtain ⟨h1, h2, h3⟩ := V_locs hE hW
  refine WX_exact (W.widen h2 h3 ?_)
  rw [hE.1]
  refine W.mono (fun _ q => MQ.toX q) ?_
  exact W.aret C.1 C.2.1 hE.2.2.2.2.2.2.2.1 hrt (va_rf_or r) (fun t ht _ => V_end hE hW ht) h1 hd (hlocks := hE.2.2.2.2.2.2.2.2.1)
/-! calls -/
theorem V_run {H : Heap} {locs : List Loc} {LS : Array Slot} {cells slots mc ms : Nat} {a : Array Value} {v : Option Value} (hr : va_Run (xp X) (xl X) (xe X) (xR X) (xs X) (xm X) (xa X) (xb X) (xme X) (xc X) H locs cells slots mc ms (F0 (xm X) pc LS st) rest (QA (xD X) w (.returned v) w1 a) (fA w)) (C : CXok X cc own nL d) (hW : VW X w H locs) (h : lv_has LS nL (lpr 0 ls))
    (kk : V X cc own nL d w1 (pc + 3) ls (v.toList ++ rest)) : WX X H locs cells slots (F0 (xm X) pc LS st) := by
  intro T hT Y
  obtain ⟨v', st₀, t, T', L, h0, X', hL, e1, e2, ⟨hv, hH, hF, hns, hsup, hc1, hc2⟩, hgo⟩ := hr T hT Y
  cases hv
  obtain ⟨z1, z2, z3, z4, z5⟩ := hW.1
  obtain ⟨-, hS, hss, hA0, hr1, hr2⟩ := hW
  have hA := C.2.2.2.2.2.2.1
  have hsub : ∀ q, fA w q → xA X q := fun q hq => by
    rcases hq with g | g
    · exact hA0 q g
    · exact hA q (Nat.le_trans (by rw [← z1]; exact hS.1) g)
  obtain ⟨f1, f2⟩ := hF
  rw [h0] at f1 f2
  have hW1 : VW X w1 T'.heap (locs ++ L) := by
    refine ⟨by rw [e1]; exact hH, ⟨by rw [e1]; exact Nat.le_trans hS.1 f1, fun q g1 g2 => ?_, fun q hq => ?_⟩, ?_, fun q hq => hsub q (hsup q hq), by rw [hc1]; exact hr1, by rw [hc2]; exact hr2⟩
    · rw [e1, f2 q (Nat.lt_of_lt_of_le g1 hS.1) (fun z => g2 (hsub q z))]
      exact hS.2.1 q g1 g2
    · rcases List.mem_append.mp hq with g | g
      · exact hS.2.2 q g
      · exact hsub _ (hL q g)
    · rw [e1, hH.2.1]
      omega
  obtain ⟨t2, a1, b1⟩ := kk C T'.heap (locs ++ L) LS _ _ hW1 h T' rfl X'
  exact ⟨t2, hgo t2 a1, b1⟩
theorem V_fits {H : Heap} {locs : List Loc} (hW : VW X w H locs) : H.size - (xs X).heap.size + (hlc w - hsz w) ≤ (xR X).cells ∧ slotSum H - slotSum (xs X).heap + (hls w - hns w) ≤ (xR X).slots := by
  obtain ⟨⟨z1, z2, z3, z4, z5⟩, hS, hss, hA0, hr1, hr2⟩ := hW
  have s1 := hS.1
  omega
/-- a static method at an entry of the pool -/
def SC (own : String) (index : Nat) (y : MethodName) (code : ByteArray) (maxL : Nat) (ret : Option FieldType) (n : Nat) : Prop :=
  Cond.methodLink own index y ∈ lw_all ∧ Cond.static y ∈ lw_all ∧ Cond.initialized y.cls ∈ lw_all ∧ Cond.code y code maxL ret ∈ lw_all ∧ maxL ≤ 45 ∧ y.cls ≠ "java/lang/invoke/MethodHandle" ∧ y.cls ≠ "java/lang/invoke/VarHandle" ∧ (parseMethodDescriptor y.desc).map (fun d => d.parameters.length) = some n
theorem V_callS {index : Nat} {y : MethodName} {code : ByteArray} {maxL n d' : Nat} {ret : Option FieldType} {av : List Value} {v : Option Value} (hM : MA (xl X) (xD X) y code maxL ret d' av w (.returned v) w1) (hc : SC own index y code maxL ret n) (hdd : d' + 1 ≤ d) (hn : av.length = n) (hst : st = av.reverse ++ rest) (hcat : (rest.map fun v => v.category).sum ≤ 8) (hd : decode cc pc = .ok (.invokestatic index, 3))
    (kk : V X cc own nL d w1 (pc + 3) ls (v.toList ++ rest)) : V X cc own nL d w pc ls st := by
  intro C H locs LS cells slots hW h
  have C0 := C
  obtain ⟨hx, hb, hml, hown, hts, hK, hA, hfr, hlo⟩ := C
  obtain ⟨q1, q2, q3, q4, q5, q6⟩ := hc
  refine WX_exact ?_
  refine V_run (va_runS (n := n) ⟨hx, hb, hml, hown, hts⟩ hM.met ⟨callB_of n hts (lw_meth q4) rfl rfl rfl (hts _ q3) (hts _ q1) q6 ⟨by show d' + 1 ≤ _; omega, by show 8 + (maxL + 11) + 64 * d' ≤ _; omega⟩, hts _ q2⟩ ⟨PA.blind, fun U hU hWm => ⟨rfl, by rw [hU]; exact hW.1, KN.warm hWm hK⟩⟩ rfl hn h.1 hst (lv_room hcat) hd (V_fits hW)) C0 hW h kk
/-- an instance method of the receiver's own class -/
def VCm (own : String) (index ci : Nat) (y : MethodName) (code : ByteArray) (maxL : Nat) (ret : Option FieldType) (n : Nat) : Prop :=
  (∃ (T : u_T) (N : Nat), clsL[ci]? = some (y.cls, T, N)) ∧ Cond.methodLink own index y ∈ lw_all ∧ Cond.instanceMethod y ∈ lw_all ∧ Cond.selects y.cls y y ∈ lw_all ∧ Cond.initialized y.cls ∈ lw_all ∧ Cond.code y code maxL ret ∈ lw_all ∧ maxL ≤ 45 ∧ y.cls ≠ "java/lang/invoke/MethodHandle" ∧ y.cls ≠ "java/lang/invoke/VarHandle" ∧ (parseMethodDescriptor y.desc).map (fun d => d.parameters.length) = some n
theorem V_callV {index ci b : Nat} {y : MethodName} {code : ByteArray} {maxL n d' : Nat} {ret : Option FieldType} {av : List Value} {v : Option Value} (hM : MA (xl X) (xD X) y code maxL ret d' (.ref b :: av) w (.returned v) w1) (hc : VCm own index ci y code maxL ret n) (hk : (hkd w b).1 = 10 + ci) (hdd : d' + 1 ≤ d) (hn : av.length = n) (hst : st = av.reverse ++ .ref b :: rest) (hcat : (rest.map fun v => v.category).sum ≤ 8) (hd : decode cc pc = .ok (.invokevirtual index, 3))
    (kk : V X cc own nL d w1 (pc + 3) ls (v.toList ++ rest)) : V X cc own nL d w pc ls st := by
  intro C H locs LS cells slots hW h
  have C0 := C
  obtain ⟨hx, hb, hml, hown, hts, hK, hA, hfr, hlo⟩ := C
  obtain ⟨⟨T, N, hcl⟩, q1, q2, q3, q3', q4, q5, q6⟩ := hc
  obtain ⟨cell, g1, g2, g3, -⟩ := (hW.1.2.2.2.2.1 b).obj hk hcl
  refine WX_exact ?_
  refine V_run (va_runV (C := y.cls) (n := n) ⟨hx, hb, hml, hown, hts⟩ hM.met ⟨callB_of n hts (lw_meth q4) rfl rfl rfl (hts _ q3') (hts _ q1) q6 ⟨by show d' + 1 ≤ _; omega, by show 8 + (maxL + 11) + 64 * d' ≤ _; omega⟩, hts _ q2, hts _ q3⟩ ⟨PA.blind, ⟨cell, g1, by rw [g3]; rfl, by rw [g2]; exact (hK.1 ci _ hcl).2.1⟩, fun U hU hWm => ⟨rfl, by rw [hU]; exact hW.1, KN.warm hWm hK⟩⟩ rfl hn h.1 hst (lv_room hcat) hd (V_fits hW)) C0 hW h kk
/-- a constructor -/
def IC (own : String) (index : Nat) (y : MethodName) (code : ByteArray) (maxL : Nat) (n : Nat) : Prop :=
  y.name = "<init>" ∧ Cond.methodLink own index y ∈ lw_all ∧ Cond.instanceMethod y ∈ lw_all ∧ Cond.initialized y.cls ∈ lw_all ∧ Cond.code y code maxL none ∈ lw_all ∧ maxL ≤ 45 ∧ y.cls ≠ "java/lang/invoke/MethodHandle" ∧ y.cls ≠ "java/lang/invoke/VarHandle" ∧ (parseMethodDescriptor y.desc).map (fun d => d.parameters.length) = some n
theorem V_callI {index b : Nat} {y : MethodName} {code : ByteArray} {maxL n d' : Nat} {av : List Value} {v : Option Value} (hM : MA (xl X) (xD X) y code maxL none d' (.ref b :: av) w (.returned v) w1) (hc : IC own index y code maxL n) (hdd : d' + 1 ≤ d) (hn : av.length = n) (hst : st = av.reverse ++ .ref b :: rest) (hcat : (rest.map fun v => v.category).sum ≤ 8) (hd : decode cc pc = .ok (.invokespecial index, 3))
    (kk : V X cc own nL d w1 (pc + 3) ls (v.toList ++ rest)) : V X cc own nL d w pc ls st := by
  intro C H locs LS cells slots hW h
  have C0 := C
  obtain ⟨hx, hb, hml, hown, hts, hK, hA, hfr, hlo⟩ := C
  obtain ⟨q0, q1, q2, q3, q4, q5, q6⟩ := hc
  refine WX_exact ?_
  refine V_run (va_runI (n := n) ⟨hx, hb, hml, hown, hts⟩ hM.met ⟨callB_of n hts (lw_meth q4) rfl rfl rfl (hts _ q3) (hts _ q1) q6 ⟨by show d' + 1 ≤ _; omega, by show 8 + (maxL + 11) + 64 * d' ≤ _; omega⟩, q0, hts _ q2⟩ ⟨PA.blind, fun U hU hWm => ⟨rfl, by rw [hU]; exact hW.1, KN.warm hWm hK⟩⟩ rfl hn h.1 hst (lv_room hcat) hd (V_fits hW)) C0 hW h kk
/-- Object's own constructor -/
theorem V_objInit {index a : Nat} (h1 : Cond.methodLink own index objectInit ∈ lw_all) (h2 : Cond.instanceMethod objectInit ∈ lw_all) (h3 : Cond.code objectInit ⟨#[0xb1]⟩ 1 none ∈ lw_all) (hdd : 1 ≤ d) (hcat : (rest.map fun v => v.category).sum ≤ 8) (hd : decode cc pc = .ok (.invokespecial index, 3)) (kk : V X cc own nL d w (pc + 3) ls rest) : V X cc own nL d w pc ls (.ref a :: rest) := by
  intro C H locs LS cells slots hW h
  have hkk := kk C H locs LS cells slots hW h
  obtain ⟨hx, hb, hml, hown, hts, hK, hA, hfr, hlo⟩ := C
  refine W.objInit hx hb hown (hts _ h1) (hts _ h2) (hts _ h3) rfl (by rw [hml]; exact h.1) rfl hd (by omega) ?_ hkk
  have := lv_room (m := xm X) (pc := pc) (ls := LS) (rest := rest) hcat
  have e : (F0 (xm X) pc LS (Value.ref a :: rest)).monitorRoom = (F0 (xm X) pc LS rest).monitorRoom := rfl
  rw [e]
  omega
end VR
