/-! ===== rows as the program prints them: over checks that the mirrors make ===== -/
section VE
variable {X : CX} {cc : ByteArray} {own : String} {nL d : Nat} {w w' w1 : AH} {pc : Nat} {ls ls' : List (Option Value)} {st st' rest : List Value} {index ci k a b n j : Nat} {ty : FieldType} {i u : Int32} {u8 : Int64} {x : Option Nat} {cs : List Nat}
theorem Upd.Ie (hs : siI w a k u = w') (h : isI ty = true) : Upd w w' a k ty (.int u) := hs ▸ Upd.I h
theorem Upd.Le (hs : siL w a k u8 = w') (h : isL ty = true) : Upd w w' a k ty (.long u8) := hs ▸ Upd.L h
theorem Upd.Re (hs : siR w a k x = w') (h1 : isI ty = false) (h2 : isL ty = false) : Upd w w' a k ty (va_rf x) := hs ▸ Upd.R h1 h2
def isC (x : Int32) : Bool := fits .char (.int x) && (narrow .char (.int x) == .int x)
theorem isC_fit (h : isC u = true) : fits .char (.int u) = true := by simp only [isC, Bool.and_eq_true] at h; exact h.1
theorem isC_nar (h : isC u = true) : narrow .char (.int u) = .int u := by simp only [isC, Bool.and_eq_true, beq_iff_eq] at h; exact h.2
theorem VE_putI (hF : ∀ c ∈ cs, FW own index c k ty) (hk : kIn (hkd w a).1 cs = true) (ht : isI ty = true) (hn : narrow ty (.int u) = .int u) (hfit : fits ty (.int u) = true) (hs : siI w a k u = w') (hd : decode cc pc = .ok (.putfield index, 3)) (kk : V X cc own nL d w' (pc + 3) ls st) : V X cc own nL d w pc ls (.int u :: .ref a :: st) := VP_put hF hk (Upd.Ie hs ht) hn hfit hd kk
theorem VE_putL (hF : ∀ c ∈ cs, FW own index c k .long) (hk : kIn (hkd w a).1 cs = true) (hs : siL w a k u8 = w') (hd : decode cc pc = .ok (.putfield index, 3)) (kk : V X cc own nL d w' (pc + 3) ls st) : V X cc own nL d w pc ls (.long u8 :: .ref a :: st) := VP_put hF hk (Upd.Le hs rfl) rfl rfl hd kk
def isRt (ty : FieldType) : Bool := match ty with
  | .object _ => true
  | .array _ => true
  | _ => false
theorem isRt_f (h : isRt ty = true) : isI ty = false ∧ isL ty = false ∧ narrow ty (va_rf x) = va_rf x ∧ fits ty (va_rf x) = true := by
  cases ty <;> first | (cases h; done) | (cases x <;> exact ⟨rfl, rfl, rfl, rfl⟩)
theorem VE_putR (hF : ∀ c ∈ cs, FW own index c k ty) (hk : kIn (hkd w a).1 cs = true) (ht : isRt ty = true) (hs : siR w a k x = w') (hd : decode cc pc = .ok (.putfield index, 3)) (kk : V X cc own nL d w' (pc + 3) ls st) : V X cc own nL d w pc ls (va_rf x :: .ref a :: st) := VP_put hF hk (Upd.Re hs (isRt_f (x := x) ht).1 (isRt_f (x := x) ht).2.1) (isRt_f ht).2.2.1 (isRt_f ht).2.2.2 hd kk
theorem XE.ini {w0 w1 : AH} {d0 : Nat} {ret : Option FieldType} {nm : String} {o : Outcome} (h : XE X w0 d0 ret nm o w1) : (xme X).name = nm := h.2.2.2.2.2.2.2.2.2.1
theorem XE.cst {w0 w1 : AH} {d0 : Nat} {ret : Option FieldType} {nm : String} {o : Outcome} (h : XE X w0 d0 ret nm o w1) : ∀ a c, (xD X).2.2.2.2 a = some c → (xs X).heap[a]? = some c := h.2.2.2.2.2.2.2.2.2.2
theorem VE_putIF (hF : ∀ c ∈ cs, FLf own index c k ty) (hk : kIn (hkd w a).1 cs = true) (hin : (xme X).name = "<init>") (ht : isI ty = true) (hn : narrow ty (.int u) = .int u) (hfit : fits ty (.int u) = true) (hs : siI w a k u = w') (hd : decode cc pc = .ok (.putfield index, 3)) (kk : V X cc own nL d w' (pc + 3) ls st) : V X cc own nL d w pc ls (.int u :: .ref a :: st) := VP_putF hF hk hin (Upd.Ie hs ht) hn hfit hd kk
theorem VE_putLF (hF : ∀ c ∈ cs, FLf own index c k .long) (hk : kIn (hkd w a).1 cs = true) (hin : (xme X).name = "<init>") (hs : siL w a k u8 = w') (hd : decode cc pc = .ok (.putfield index, 3)) (kk : V X cc own nL d w' (pc + 3) ls st) : V X cc own nL d w pc ls (.long u8 :: .ref a :: st) := VP_putF hF hk hin (Upd.Le hs rfl) rfl rfl hd kk
theorem VE_putRF (hF : ∀ c ∈ cs, FLf own index c k ty) (hk : kIn (hkd w a).1 cs = true) (hin : (xme X).name = "<init>") (ht : isRt ty = true) (hs : siR w a k x = w') (hd : decode cc pc = .ok (.putfield index, 3)) (kk : V X cc own nL d w' (pc + 3) ls st) : V X cc own nL d w pc ls (va_rf x :: .ref a :: st) := VP_putF hF hk hin (Upd.Re hs (isRt_f (x := x) ht).1 (isRt_f (x := x) ht).2.1) (isRt_f ht).2.2.1 (isRt_f ht).2.2.2 hd kk
/-! casts -/
def CC2 (own : String) (index c : Nat) : Prop := CC own index c ∨ ∃ (nm : String) (T : u_T) (N : Nat), clsL[c]? = some (nm, T, N) ∧ Cond.classLink own index nm ∈ lw_all
theorem VE_cast (hc : ∀ c ∈ cs, CC2 own index c) (hk : kIn (hkd w a).1 cs = true) (hd : decode cc pc = .ok (.checkcast index, 3)) (kk : V X cc own nL d w (pc + 3) ls (.ref a :: st)) : V X cc own nL d w pc ls (.ref a :: st) := by
  obtain ⟨c, h1, h2⟩ := kIn_ex hk
  rcases hc c h1 with h | ⟨nm, T, N, h3, h4⟩
  · exact V_cast h h2 hd kk
  · intro C H locs LS cells slots hW h
    exact va_castS C.1 C.2.1 C.2.2.2.1 (C.2.2.2.2.1 _ h4) (C.2.2.2.2.2.1.1 c _ h3).2 (VW.cell C hW h3 h2) hd (kk C H locs LS cells slots hW h)
theorem kIn1 {k c : Nat} (h : kIn k [c] = true) : k = 10 + c := by
  obtain ⟨c', h1, h2⟩ := kIn_ex h
  rw [List.mem_singleton.mp h1] at h2
  exact h2
/-! arrays -/
def arB (w : AH) (a k : Nat) (i : Int32) : Bool := (hkd w a).1 == k && bnd i (hkd w a).2
theorem arB_k (h : arB w a k i = true) : hkd w a = (k, (hkd w a).2) := by
  simp only [arB, Bool.and_eq_true, beq_iff_eq] at h
  exact Prod.ext h.1 rfl
theorem arB_i (h : arB w a k i = true) : vp_in i (hkd w a).2 := by
  simp only [arB, Bool.and_eq_true] at h
  exact bnd_in h.2
theorem VE_iald (h : arB w a 1 i = true) (hj : i.toNatClampNeg = j) (hd : decode cc pc = .ok (.iaload, 1)) (kk : V X cc own nL d w (pc + 1) ls (.int (hvi w a j) :: st)) : V X cc own nL d w pc ls (.int i :: .ref a :: st) := V_iald (arB_k h) (arB_i h) hd (hj ▸ kk)
theorem VE_lald (h : arB w a 2 i = true) (hj : i.toNatClampNeg = j) (hd : decode cc pc = .ok (.laload, 1)) (kk : V X cc own nL d w (pc + 1) ls (.long (hvl w a j) :: st)) : V X cc own nL d w pc ls (.int i :: .ref a :: st) := V_lald (arB_k h) (arB_i h) hd (hj ▸ kk)
theorem VE_zald (h : arB w a 3 i = true) (hj : i.toNatClampNeg = j) (hd : decode cc pc = .ok (.baload, 1)) (kk : V X cc own nL d w (pc + 1) ls (.int (hvi w a j) :: st)) : V X cc own nL d w pc ls (.int i :: .ref a :: st) := V_zald (arB_k h) (arB_i h) hd (hj ▸ kk)
theorem VE_bald (h : arB w a 4 i = true) (hj : i.toNatClampNeg = j) (hd : decode cc pc = .ok (.baload, 1)) (kk : V X cc own nL d w (pc + 1) ls (.int (hvi w a j) :: st)) : V X cc own nL d w pc ls (.int i :: .ref a :: st) := V_bald (arB_k h) (arB_i h) hd (hj ▸ kk)
theorem VE_aald (h : arB w a k i = true) (h0 : 4 < k) (h1 : k < 7) (hj : i.toNatClampNeg = j) (hx : hvr w a j = x) (hd : decode cc pc = .ok (.aaload, 1)) (kk : V X cc own nL d w (pc + 1) ls (va_rf x :: st)) : V X cc own nL d w pc ls (.int i :: .ref a :: st) := V_aald (arB_k h) h0 h1 (arB_i h) hd (by rw [hj, hx]; exact kk)
theorem VE_iast (h : arB w a 1 i = true) (hj : i.toNatClampNeg = j) (hs : siI w a j u = w') (hd : decode cc pc = .ok (.iastore, 1)) (kk : V X cc own nL d w' (pc + 1) ls st) : V X cc own nL d w pc ls (.int u :: .int i :: .ref a :: st) := V_iast (arB_k h) (arB_i h) hd (by rw [hj, hs]; exact kk)
theorem VE_last (h : arB w a 2 i = true) (hj : i.toNatClampNeg = j) (hs : siL w a j u8 = w') (hd : decode cc pc = .ok (.lastore, 1)) (kk : V X cc own nL d w' (pc + 1) ls st) : V X cc own nL d w pc ls (.long u8 :: .int i :: .ref a :: st) := V_last (arB_k h) (arB_i h) hd (by rw [hj, hs]; exact kk)
theorem VE_zast (hz : isZ u = true) (h : arB w a 3 i = true) (hj : i.toNatClampNeg = j) (hs : siI w a j u = w') (hd : decode cc pc = .ok (.bastore, 1)) (kk : V X cc own nL d w' (pc + 1) ls st) : V X cc own nL d w pc ls (.int u :: .int i :: .ref a :: st) := V_zast (isZ_nar hz) (arB_k h) (arB_i h) hd (by rw [hj, hs]; exact kk)
theorem VE_bast (h : arB w a 4 i = true) (hj : i.toNatClampNeg = j) (hs : siI w a j u.toInt8.toInt32 = w') (hd : decode cc pc = .ok (.bastore, 1)) (kk : V X cc own nL d w' (pc + 1) ls st) : V X cc own nL d w pc ls (.int u :: .int i :: .ref a :: st) := V_bast (z := u.toInt8.toInt32) rfl (arB_k h) (arB_i h) hd (by rw [hj, hs]; exact kk)
theorem VE_aast (cast : ∀ q ∈ clsL, Cond.castable q.1 "java/lang/Object" ∈ lw_nest) (h : arB w a 5 i = true) (ho : isO w (some b) = true) (hj : i.toNatClampNeg = j) (hs : siR w a j (some b) = w') (hd : decode cc pc = .ok (.aastore, 1)) (kk : V X cc own nL d w' (pc + 1) ls st) : V X cc own nL d w pc ls (.ref b :: .int i :: .ref a :: st) := by
  have g : 10 ≤ (hkd w b).1 ∧ (hkd w b).1 < 37 := by simpa [isO] using ho
  have hlt : (hkd w b).1 - 10 < clsL.length := by show _ < 27; omega
  obtain ⟨Cn, T0, N, hq⟩ : ∃ (C : String) (T : u_T) (N : Nat), clsL[(hkd w b).1 - 10]? = some (C, T, N) := ⟨_, _, _, List.getElem?_eq_getElem hlt⟩
  exact V_aast (ci := (hkd w b).1 - 10) (arB_k h) ⟨Cn, T0, N, hq, cast _ (List.mem_of_getElem? hq)⟩ (by omega) (arB_i h) hd (by rw [hj, hs]; exact kk)
theorem VE_aastT (h : arB w a 6 i = true) (ho : kIn (hkd w b).1 [1] = true) (hj : i.toNatClampNeg = j) (hs : siR w a j (some b) = w') (hd : decode cc pc = .ok (.aastore, 1)) (kk : V X cc own nL d w' (pc + 1) ls st) : V X cc own nL d w pc ls (.ref b :: .int i :: .ref a :: st) := V_aastT (arB_k h) (kIn1 ho) (arB_i h) hd (by rw [hj, hs]; exact kk)
theorem VE_aastN (h : arB w a 5 i = true) (hj : i.toNatClampNeg = j) (hs : siR w a j none = w') (hd : decode cc pc = .ok (.aastore, 1)) (kk : V X cc own nL d w' (pc + 1) ls st) : V X cc own nL d w pc ls (.null :: .int i :: .ref a :: st) := V_aastN (arB_k h) (arB_i h) hd (by rw [hj, hs]; exact kk)
def arK (k : Nat) : Bool := decide (k ≠ 0) && decide (k < 7)
theorem VE_alen (h : arK (hkd w a).1 = true) (hd : decode cc pc = .ok (.arraylength, 1)) (kk : V X cc own nL d w (pc + 1) ls (.int (Int32.ofNat (hkd w a).2) :: st)) : V X cc own nL d w pc ls (.ref a :: st) := by
  have g : (hkd w a).1 ≠ 0 ∧ (hkd w a).1 < 7 := by simpa [arK] using h
  exact V_alen (k := (hkd w a).1) (n := (hkd w a).2) rfl g.1 g.2 hd kk
def arC (k : Nat) : Bool := decide (100 ≤ k) && decide (k < 141)
theorem VE_alenC (h : arC (hkd w a).1 = true) (hd : decode cc pc = .ok (.arraylength, 1)) (kk : V X cc own nL d w (pc + 1) ls (.int (Int32.ofNat (hkd w a).2) :: st)) : V X cc own nL d w pc ls (.ref a :: st) := by
  have g : 100 ≤ (hkd w a).1 ∧ (hkd w a).1 < 141 := by simpa [arC] using h
  exact V_alenC (k := (hkd w a).1) (n := (hkd w a).2) rfl g.1 g.2 hd kk
theorem VE_baldC (h : arC (hkd w a).1 = true) (hb : bnd i (hkd w a).2 = true) (hj : i.toNatClampNeg = j) (hd : decode cc pc = .ok (.baload, 1)) (kk : V X cc own nL d w (pc + 1) ls (.int (hvi w a j) :: st)) : V X cc own nL d w pc ls (.int i :: .ref a :: st) := by
  have g : 100 ≤ (hkd w a).1 ∧ (hkd w a).1 < 141 := by simpa [arC] using h
  exact V_baldC (k := (hkd w a).1) (n := (hkd w a).2) rfl g.1 g.2 (bnd_in hb) hd (hj ▸ kk)
/-! new cells -/
def rmB (w : AH) (n : Nat) : Bool := decide (hsz w + 1 ≤ hlc w) && decide (hns w + n ≤ hls w)
theorem rmB_ex (h : rmB w n = true) : hroom w n := by
  simp only [rmB, Bool.and_eq_true, decide_eq_true_eq] at h
  exact h
def okT (ty : FieldType) : Bool := isI ty || isL ty || isRt ty
theorem svl_new (h : okT ty = true) : defaultValue ty = svl (hnew w k n) ty (hsz w) j := by
  cases ty <;> first | (simp [okT, isI, isL, isRt] at h; done) | (simp [svl, defaultValue, hvi, hvl, hvr, hnew, up1, va_rf])
theorem VE_new {C : String} {T : u_T} {N : Nat} (hc : CL ci C T N) (hl : Cond.classLink own index C ∈ lw_all) (hi : Cond.instantiable C N ∈ lw_all) (hini : Cond.initialized C ∈ lw_all) (hty : ∀ j, j < N → okT (tyL ci j) = true) (hr : rmB w N = true) (ha : hsz w = a) (hs : hnew w (10 + ci) N = w') (hd : decode cc pc = .ok (.new index, 3))
    (kk : V X cc own nL d w' (pc + 3) ls (.ref a :: st)) : V X cc own nL d w pc ls st := V_new hc hl hi hini (rmB_ex hr) (fun j hj => svl_new (hty j hj)) hd (by rw [ha, hs]; exact kk)
def naB (w : AH) (i : Int32) (b : Nat) : Bool := decide (¬ i < 0) && decide (i.toNatClampNeg * b ≤ 536870912) && rmB w i.toNatClampNeg
theorem VE_newa {atype : ArrayType} {k by_ : Nat} (ht : newarray.typeOf atype = aty k) (h0 : k ≠ 0) (h1 : k < 5) (hq : Cond.arrayClass (aty k) ∈ lw_all) (hby : componentBytes (aty k) = by_) (hok : naB w i by_ = true) (hj : i.toNatClampNeg = n) (ha : hsz w = a) (hs : hnew w k n = w') (hd : decode cc pc = .ok (.newarray atype, 2))
    (kk : V X cc own nL d w' (pc + 2) ls (.ref a :: st)) : V X cc own nL d w pc ls (.int i :: st) := by
  simp only [naB, Bool.and_eq_true, decide_eq_true_eq] at hok
  obtain ⟨⟨g1, g2⟩, g3⟩ := hok
  rw [hj] at g2 g3
  exact V_newa ht h0 h1 hq g1 hj (by rw [hby]; exact g2) (rmB_ex g3) hd (by rw [ha, hs]; exact kk)
theorem VE_anew {k : Nat} (h0 : k = 5 ∨ k = 6) (hl : Cond.classLink own index (aCl k) ∈ lw_all) (hok : naB w i 4 = true) (hj : i.toNatClampNeg = n) (ha : hsz w = a) (hs : hnew w k n = w') (hd : decode cc pc = .ok (.anewarray index, 3)) (kk : V X cc own nL d w' (pc + 3) ls (.ref a :: st)) : V X cc own nL d w pc ls (.int i :: st) := by
  simp only [naB, Bool.and_eq_true, decide_eq_true_eq] at hok
  obtain ⟨⟨g1, g2⟩, g3⟩ := hok
  rw [hj] at g2 g3
  exact V_anew h0 hl g1 hj g2 (rmB_ex g3) hd (by rw [ha, hs]; exact kk)
theorem VE_statR {key : Nat} {Cn nm ds : String} (hs : ∀ D U, KN D U → stF D U Cn nm ds (va_rf (D.2.2.2.1 key))) (hl : Cond.fieldLink own index Cn nm ds ∈ lw_all) (hx : hst w key = x) (hd : decode cc pc = .ok (.getstatic index, 3)) (kk : V X cc own nL d w (pc + 3) ls (va_rf x :: st)) : V X cc own nL d w pc ls st := V_stat (f_ := fun D => va_rf (D.2.2.2.1 key)) hs hl hd (fun e => by
  show V X cc own nL d w (pc + 3) ls (va_rf ((xD X).2.2.2.1 key) :: st)
  rw [← e, hx]
  exact kk)
end VE
/-! results of calls that may throw -/
def oV (r : Unit ⊕ Nat) : Outcome := match r with
  | .inl _ => .returned none
  | .inr x => .threw x
def oI (r : Int32 ⊕ Nat) : Outcome := match r with
  | .inl v => .returned (some (.int v))
  | .inr x => .threw x
def oL (r : Int64 ⊕ Nat) : Outcome := match r with
  | .inl v => .returned (some (.long v))
  | .inr x => .threw x
def oN (r : Nat ⊕ Nat) : Outcome := match r with
  | .inl v => .returned (some (.ref v))
  | .inr x => .threw x
def bdT {α β : Type} (q : Option ((α ⊕ Nat) × AH)) (t : Nat → AH → Option β) (f : α → AH → Option β) : Option β := match q with
  | none => none
  | some (.inl r, w) => f r w
  | some (.inr x, w) => t x w
theorem bdT_ex {α β : Type} {q : Option ((α ⊕ Nat) × AH)} {t : Nat → AH → Option β} {f : α → AH → Option β} {o : β} (h : bdT q t f = some o) : (∃ r w, q = some (.inl r, w) ∧ f r w = some o) ∨ ∃ x w, q = some (.inr x, w) ∧ t x w = some o := by
  rcases q with _ | ⟨r | x, w⟩
  · cases h
  · exact Or.inl ⟨r, w, rfl, h⟩
  · exact Or.inr ⟨x, w, rfl, h⟩
def bdU {α β : Type} (q : Option (α ⊕ Nat)) (t : Nat → Option β) (f : α → Option β) : Option β := match q with
  | none => none
  | some (.inl r) => f r
  | some (.inr x) => t x
theorem bdU_ex {α β : Type} {q : Option (α ⊕ Nat)} {t : Nat → Option β} {f : α → Option β} {o : β} (h : bdU q t f = some o) : (∃ r, q = some (.inl r) ∧ f r = some o) ∨ ∃ x, q = some (.inr x) ∧ t x = some o := by
  rcases q with _ | r | x
  · cases h
  · exact Or.inl ⟨r, rfl, h⟩
  · exact Or.inr ⟨x, rfl, h⟩
section VG
variable {X : CX} {cc : ByteArray} {own : String} {nL d : Nat} {w w' w1 : AH} {pc len : Nat} {ls ls' : List (Option Value)} {st st' rest : List Value} {index ci k a a0 n0 n1 x : Nat} {i sp dp n : Int32} {v : Option Value}
theorem va_rf_cat (x : Option Nat) : (va_rf x).category = 1 := by cases x <;> rfl
theorem arB_mk (h1 : (hkd w a).1 = k) (h2 : bnd i (hkd w a).2 = true) : arB w a k i = true := by simp [arB, h1, h2]
theorem hk_mk (h : ((hkd w a).1 == k) = true) : hkd w a = (k, (hkd w a).2) := Prod.ext (beq_iff_eq.mp h) rfl
theorem VO_r (hs : v.toList ++ rest = st') (h : V X cc own nL d w1 (pc + len) ls st') : VO X cc own nL d w1 pc len ls rest (.returned v) := by subst hs; exact h
theorem VO_t (h : VT X cc own nL d w1 pc ls rest x) : VO X cc own nL d w1 pc len ls rest (.threw x) := h
theorem VE_cpyI (hl : Cond.methodLink own index arraycopyName ∈ lw_all) (hn1 : Cond.native arraycopyName ∈ lw_all) (hn2 : Cond.static arraycopyName ∈ lw_all) (hn3 : Cond.initialized "java/lang/System" ∈ lw_all) (hk0 : hkd w a0 = (1, n0)) (hk1 : hkd w a = (1, n1)) (hok : cpOk sp n n0 dp n1 = true) (hs : hcpI w a0 sp.toNatClampNeg a dp.toNatClampNeg n.toNatClampNeg = w') (hdd : 1 ≤ d) (hcat : (rest.map fun v => v.category).sum ≤ 8) (hd : decode cc pc = .ok (.invokestatic index, 3)) (kk : V X cc own nL d w' (pc + 3) ls rest) : V X cc own nL d w pc ls (.int n :: .int dp :: .ref a :: .int sp :: .ref a0 :: rest) := by
  subst hs
  exact V_cpyI hl hn1 hn2 hn3 hk0 hk1 hok hdd hcat hd kk
theorem VE_cpyL (hl : Cond.methodLink own index arraycopyName ∈ lw_all) (hn1 : Cond.native arraycopyName ∈ lw_all) (hn2 : Cond.static arraycopyName ∈ lw_all) (hn3 : Cond.initialized "java/lang/System" ∈ lw_all) (hk0 : hkd w a0 = (2, n0)) (hk1 : hkd w a = (2, n1)) (hok : cpOk sp n n0 dp n1 = true) (hs : hcpL w a0 sp.toNatClampNeg a dp.toNatClampNeg n.toNatClampNeg = w') (hdd : 1 ≤ d) (hcat : (rest.map fun v => v.category).sum ≤ 8) (hd : decode cc pc = .ok (.invokestatic index, 3)) (kk : V X cc own nL d w' (pc + 3) ls rest) : V X cc own nL d w pc ls (.int n :: .int dp :: .ref a :: .int sp :: .ref a0 :: rest) := by
  subst hs
  exact V_cpyL hl hn1 hn2 hn3 hk0 hk1 hok hdd hcat hd kk
theorem VE_cpyZ (hl : Cond.methodLink own index arraycopyName ∈ lw_all) (hn1 : Cond.native arraycopyName ∈ lw_all) (hn2 : Cond.static arraycopyName ∈ lw_all) (hn3 : Cond.initialized "java/lang/System" ∈ lw_all) (hk0 : hkd w a0 = (3, n0)) (hk1 : hkd w a = (3, n1)) (hok : cpOk sp n n0 dp n1 = true) (hf : allF isZ (hvi w a0) sp.toNatClampNeg n.toNatClampNeg = true) (hs : hcpI w a0 sp.toNatClampNeg a dp.toNatClampNeg n.toNatClampNeg = w') (hdd : 1 ≤ d) (hcat : (rest.map fun v => v.category).sum ≤ 8) (hd : decode cc pc = .ok (.invokestatic index, 3)) (kk : V X cc own nL d w' (pc + 3) ls rest) : V X cc own nL d w pc ls (.int n :: .int dp :: .ref a :: .int sp :: .ref a0 :: rest) := by
  subst hs
  exact V_cpyZ hl hn1 hn2 hn3 hk0 hk1 hok hf hdd hcat hd kk
theorem VE_cpyB (hl : Cond.methodLink own index arraycopyName ∈ lw_all) (hn1 : Cond.native arraycopyName ∈ lw_all) (hn2 : Cond.static arraycopyName ∈ lw_all) (hn3 : Cond.initialized "java/lang/System" ∈ lw_all) (hk0 : hkd w a0 = (4, n0)) (hk1 : hkd w a = (4, n1)) (hok : cpOk sp n n0 dp n1 = true) (hf : allF isB (hvi w a0) sp.toNatClampNeg n.toNatClampNeg = true) (hs : hcpI w a0 sp.toNatClampNeg a dp.toNatClampNeg n.toNatClampNeg = w') (hdd : 1 ≤ d) (hcat : (rest.map fun v => v.category).sum ≤ 8) (hd : decode cc pc = .ok (.invokestatic index, 3)) (kk : V X cc own nL d w' (pc + 3) ls rest) : V X cc own nL d w pc ls (.int n :: .int dp :: .ref a :: .int sp :: .ref a0 :: rest) := by
  subst hs
  exact V_cpyB hl hn1 hn2 hn3 hk0 hk1 hok hf hdd hcat hd kk
theorem VE_cpyR (cast : ∀ q ∈ clsL, Cond.castable q.1 "java/lang/Object" ∈ lw_nest) (hl : Cond.methodLink own index arraycopyName ∈ lw_all) (hn1 : Cond.native arraycopyName ∈ lw_all) (hn2 : Cond.static arraycopyName ∈ lw_all) (hn3 : Cond.initialized "java/lang/System" ∈ lw_all) (hk0 : hkd w a0 = (5, n0)) (hk1 : hkd w a = (5, n1)) (hok : cpOk sp n n0 dp n1 = true) (hf : allO w (hvr w a0) sp.toNatClampNeg n.toNatClampNeg = true) (hs : hcpR w a0 sp.toNatClampNeg a dp.toNatClampNeg n.toNatClampNeg = w') (hdd : 1 ≤ d) (hcat : (rest.map fun v => v.category).sum ≤ 8) (hd : decode cc pc = .ok (.invokestatic index, 3)) (kk : V X cc own nL d w' (pc + 3) ls rest) : V X cc own nL d w pc ls (.int n :: .int dp :: .ref a :: .int sp :: .ref a0 :: rest) := by
  subst hs
  exact V_cpyR cast hl hn1 hn2 hn3 hk0 hk1 hok hf hdd hcat hd kk
/-- an index out of bounds: the message's bytes, its string, the exception -/
def msz (i : Int32) (n : Nat) : Nat := (stringBytes (stringToUtf16 (toString "Index " ++ toString i ++ toString " out of bounds for length " ++ toString n))).size
def oobR (w : AH) (i : Int32) (n : Nat) : Bool := decide (hsz w + 3 ≤ hlc w) && decide (hns w + (msz i n + 10) ≤ hls w)
def hoob (w : AH) (i : Int32) (n : Nat) : AH := ((hsz w + 3, hns w + (msz i n + 10), hlc w, hls w, hst w), w.2)
theorem V_mmin {x y : Int32} (h1 : Cond.methodLink own index Lib.Math.min.name ∈ lw_all) (h2 : Cond.static Lib.Math.min.name ∈ lw_all) (h3 : Cond.initialized "java/lang/Math" ∈ lw_all) (h4 : Cond.code Lib.Math.min.name Lib.Math.min.code 2 (some .int) ∈ lw_all) (hdd : 1 ≤ d) (hcat : (rest.map fun v => v.category).sum ≤ 8) (hd : decode cc pc = .ok (.invokestatic index, 3)) (kk : V X cc own nL d w (pc + 3) ls (.int (if y < x then y else x) :: rest)) : V X cc own nL d w pc ls (.int y :: .int x :: rest) := by
  intro C H locs LS cells slots hW h
  refine WX_exact ?_
  have hf := V_fits hW
  have hkk := fun cs ss => kk C H locs LS cs ss hW h
  obtain ⟨hx, hb, hml, hown, hts, hK, hA, hfr, hlo⟩ := C
  exact va_mmin hx hb (by rw [hml]; exact h.1.symm) hown (hts _ h1) (hts _ h2) (hts _ h3) (hts _ h4) (by omega) (by omega) (by omega) (by omega) hd (hkk _ _)
theorem V_mmax {x y : Int32} (h1 : Cond.methodLink own index Lib.Math.max.name ∈ lw_all) (h2 : Cond.static Lib.Math.max.name ∈ lw_all) (h3 : Cond.initialized "java/lang/Math" ∈ lw_all) (h4 : Cond.code Lib.Math.max.name Lib.Math.max.code 2 (some .int) ∈ lw_all) (hdd : 1 ≤ d) (hcat : (rest.map fun v => v.category).sum ≤ 8) (hd : decode cc pc = .ok (.invokestatic index, 3)) (kk : V X cc own nL d w (pc + 3) ls (.int (if x < y then y else x) :: rest)) : V X cc own nL d w pc ls (.int y :: .int x :: rest) := by
  intro C H locs LS cells slots hW h
  refine WX_exact ?_
  have hf := V_fits hW
  have hkk := fun cs ss => kk C H locs LS cs ss hW h
  obtain ⟨hx, hb, hml, hown, hts, hK, hA, hfr, hlo⟩ := C
  exact va_mmax hx hb (by rw [hml]; exact h.1.symm) hown (hts _ h1) (hts _ h2) (hts _ h3) (hts _ h4) (by omega) (by omega) (by omega) (by omega) hd (hkk _ _)
theorem V_mabs {x : Int32} (h1 : Cond.methodLink own index Lib.Math.abs.name ∈ lw_all) (h2 : Cond.static Lib.Math.abs.name ∈ lw_all) (h3 : Cond.initialized "java/lang/Math" ∈ lw_all) (h4 : Cond.code Lib.Math.abs.name Lib.Math.abs.code 1 (some .int) ∈ lw_all) (hdd : 1 ≤ d) (hcat : (rest.map fun v => v.category).sum ≤ 8) (hd : decode cc pc = .ok (.invokestatic index, 3)) (kk : V X cc own nL d w (pc + 3) ls (.int (if 0 ≤ x then x else 0 - x) :: rest)) : V X cc own nL d w pc ls (.int x :: rest) := by
  intro C H locs LS cells slots hW h
  refine WX_exact ?_
  have hf := V_fits hW
  have hkk := fun cs ss => kk C H locs LS cs ss hW h
  obtain ⟨hx, hb, hml, hown, hts, hK, hA, hfr, hlo⟩ := C
  exact va_mabs hx hb (by rw [hml]; exact h.1.symm) hown (hts _ h1) (hts _ h2) (hts _ h3) (hts _ h4) (by omega) (by omega) (by omega) (by omega) hd (hkk _ _)
theorem V_mmaxl {x y : Int64} (h1 : Cond.methodLink own index Lib.MathLoose.max_long.x ∈ lw_all) (h2 : Cond.static Lib.MathLoose.max_long.x ∈ lw_all) (h3 : Cond.initialized "java/lang/Math" ∈ lw_all) (h4 : Cond.code Lib.MathLoose.max_long.x Lib.MathLoose.max_long.code 4 (some .long) ∈ lw_all) (hdd : 1 ≤ d) (hcat : (rest.map fun v => v.category).sum ≤ 8) (hd : decode cc pc = .ok (.invokestatic index, 3)) (kk : V X cc own nL d w (pc + 3) ls (.long (if y < x then x else y) :: rest)) : V X cc own nL d w pc ls (.long y :: .long x :: rest) := by
  intro C H locs LS cells slots hW h
  refine WX_exact ?_
  have hf := V_fits hW
  have hkk := fun cs ss => kk C H locs LS cs ss hW h
  obtain ⟨hx, hb, hml, hown, hts, hK, hA, hfr, hlo⟩ := C
  exact va_mmax_long hx hb (by rw [hml]; exact h.1.symm) hown (hts _ h1) (hts _ h2) (hts _ h3) (hts _ h4) (by omega) (by omega) (by omega) (by omega) hd (hkk _ _)
end VG
