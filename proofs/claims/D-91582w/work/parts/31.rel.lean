set_option maxRecDepth 100000
/-! ===== the relation of FirstPolls (heap w, at x) and FirstPollsModel (state σ) ===== -/
/-- a count of the row, as a number -/
def cn (T : Nat → Int32) (k : Nat) : Nat := (T k).toNatClampNeg
/-- the list at a has n elements, and the i-th of them, q, meets E i q; e is its array, c its length -/
def LsE (w : AH) (a n e c : Nat) (E : Nat → Nat → Prop) : Prop :=
  hkd w a = (12, 3) ∧ hvi w a 2 = Int32.ofNat n ∧ hvr w a 1 = some e ∧ hkd w e = (5, c) ∧ n ≤ c ∧ 0 < c ∧ c < 2000 ∧ e < hsz w ∧ ∀ i, i < n → ∃ q, hvr w e i = some q ∧ E i q
/-- a list of a Told: its array is its own -/
def LsT (ow : Nat → Nat) (w : AH) (a n : Nat) (E : Nat → Nat → Prop) : Prop := ∃ e c, LsE w a n e c E ∧ ow e = a
/-- a frozen list -/
def LsF (ow : Nat → Nat) (w : AH) (a n : Nat) (E : Nat → Nat → Prop) : Prop := ow a = 1 ∧ ∃ e c, LsE w a n e c E ∧ ow e = 1
abbrev DS : Type := (Nat → Int64) → Option Int64
abbrev DT : Type := (Nat → Int64) → Option Bool
def big (v : Int64) : Bool := decide ((1000000000 : Int64) < v) || decide (v < (-1000000000 : Int64))
def twoD (c : Int32) (a b : Int64) : Option Int64 :=
  if c = 47 ∧ b = 0 then none else
  (fun v => if big v = true then none else some v) (if c = 43 then a + b else if c = 45 then a - b else if c = 42 then a * b else a / b)
def cmpD (c : Int32) (a b : Int64) : Bool := if c = 60 then decide (a < b) else if c = 62 then decide (b < a) else decide (a = b)
/-- the sum at q comes to f -/
def SumO (ow : Nat → Nat) (w : AH) : Nat → Nat → DS → Prop
  | 0, _, _ => False
  | n + 1, q, f => ow q = 1 ∧ ((hkd w q = (28, 1) ∧ ∀ s, f s = some (hvi w q 0).toInt64) ∨
      (hkd w q = (29, 1) ∧ ∃ v, v < 11 ∧ hvi w q 0 = Int32.ofNat v ∧ ∀ s, f s = some (s (v + 1))) ∨
      (hkd w q = (30, 3) ∧ ∃ l r g h, hvr w q 1 = some l ∧ hvr w q 2 = some r ∧ SumO ow w n l g ∧ SumO ow w n r h ∧ (hvi w q 0 = 43 ∨ hvi w q 0 = 45 ∨ hvi w q 0 = 42 ∨ hvi w q 0 = 47) ∧
        ∀ s, f s = match g s, h s with
          | some a, some b => twoD (hvi w q 0) a b
          | _, _ => none))
def allD (al : Bool) : List DT → DT
  | [], _ => some al
  | f :: t, s => match f s with
    | none => none
    | some b => if b = al then allD al t s else some (!al)
/-- the test at q comes to f -/
def TestO (ow : Nat → Nat) (w : AH) : Nat → Nat → DT → Prop
  | 0, _, _ => False
  | n + 1, q, f => ow q = 1 ∧ ((hkd w q = (31, 1) ∧ ∃ v, v < 5 ∧ hvi w q 0 = Int32.ofNat v ∧ ∀ s, f s = some (decide (s (v + 12) ≠ 0))) ∨
      (hkd w q = (32, 3) ∧ ∃ l r g h, hvr w q 1 = some l ∧ hvr w q 2 = some r ∧ SumO ow w n l g ∧ SumO ow w n r h ∧ (hvi w q 0 = 60 ∨ hvi w q 0 = 62 ∨ hvi w q 0 = 61) ∧
        ∀ s, f s = match g s, h s with
          | some a, some b => some (cmpD (hvi w q 0) a b)
          | _, _ => none) ∨
      (hkd w q = (33, 1) ∧ ∃ l g, hvr w q 0 = some l ∧ TestO ow w n l g ∧ ∀ s, f s = (g s).map (fun b => !b)) ∨
      (hkd w q = (34, 2) ∧ ∃ al l fs, hvi w q 0 = (if al = true then 1 else 0) ∧ hvr w q 1 = some l ∧ LsF ow w l fs.length (fun i p => ∃ g, fs[i]? = some g ∧ TestO ow w n p g) ∧ ∀ s, f s = allD al fs s))
/-! ==== the plain meaning of an order's code ==== -/
def opC (T : Nat → Int32) (t k : Nat) : Int32 := T (5154 + 898 * t + 2 * k)
def arC2 (T : Nat → Int32) (t k : Nat) : Int32 := T (5155 + 898 * t + 2 * k)
/-- a clause's word i -/
def clW (T : Nat → Int32) (t c i : Nat) : Int32 := T (5058 + 898 * t + 8 * c + i)
def rckD (op : Int32) (a b : Int64) : Option Int64 :=
  if op = 20 then some (a + b) else if op = 21 then some (a - b) else if op = 22 then some (a * b) else if op = 23 then (if b = 0 then none else some (a / b)) else
  if op = 24 then some (if a < b then 1 else 0) else if op = 25 then some (if b < a then 1 else 0) else some (if a = b then 1 else 0)
/-- the code from k to e over a stack (its top first); none: it does not run; some none: broken -/
def runD (T : Nat → Int32) (t : Nat) (s : Nat → Int64) (e : Nat) : Nat → Nat → List Int64 → Option (Option (List Int64))
  | 0, _, _ => none
  | n + 1, k, st => if e ≤ k then some (some st) else
    if opC T t k < 20 then (if 0 ≤ opC T t k ∧ opC T t k < 17 ∧ st.length < 400 then runD T t s e n (k + 1) ((if opC T t k = 0 then (arC2 T t k).toInt64 else s (opC T t k).toNatClampNeg) :: st) else none) else
    if opC T t k < 27 then (match st with
      | b :: a :: r => (match rckD (opC T t k) a b with
        | none => some none
        | some v => if big v = true then some none else runD T t s e n (k + 1) (v :: r))
      | _ => none) else
    (match st with
      | a :: r => if opC T t k = 27 then runD T t s e n (k + 1) ((1 - a) :: r) else
        if a = (if opC T t k = 28 then 0 else 1) then runD T t s e n (arC2 T t k).toNatClampNeg (a :: r) else runD T t s e n (k + 1) r
      | _ => none)
/-- what the code from k to e comes to -/
def valD (T : Nat → Int32) (t : Nat) (s : Nat → Int64) (k e : Nat) : Option (Option Int64) := (runD T t s e 401 k []).map (fun o => o.map (fun st => match st with
  | [] => 0
  | a :: r => (a :: r).getLast (by simp)))
/-- a clause's sum, if it holds -/
def soD (T : Nat → Int32) (t c : Nat) (s : Nat → Int64) : Option (Option Int64) :=
  if clW T t c 5 < clW T t c 6 then (match valD T t s (clW T t c 5).toNatClampNeg (clW T t c 6).toNatClampNeg with
    | none => none
    | some none => some none
    | some (some v) => if v = 0 then some none else valD T t s (clW T t c 3).toNatClampNeg (clW T t c 4).toNatClampNeg)
  else valD T t s (clW T t c 3).toNatClampNeg (clW T t c 4).toNatClampNeg
/-- a setting's flags are 0 or 1 -/
def flg (s : Nat → Int64) : Prop := ∀ i, 12 ≤ i → i < 17 → s i = 0 ∨ s i = 1
def ClauseAt (ow : Nat → Nat) (w : AH) (T : Nat → Int32) (t c q : Nat) : Prop :=
  ow q = 1 ∧ hkd w q = (27, 5) ∧ hvi w q 0 = clW T t c 0 ∧ hvi w q 1 = clW T t c 1 ∧ hvi w q 2 = clW T t c 2 ∧
  ∃ g h, ((hvr w q 3 = none ∧ ∀ s, g s = some 0) ∨ ∃ p, hvr w q 3 = some p ∧ SumO ow w 60 p g) ∧ ((hvr w q 4 = none ∧ ∀ s, h s = some true) ∨ ∃ p, hvr w q 4 = some p ∧ TestO ow w 60 p h) ∧
    ∀ s, flg s → soD T t c s = some (match h s with
      | some true => g s
      | _ => none)
def OrderAt (ow : Nat → Nat) (w : AH) (T : Nat → Int32) (t q : Nat) : Prop :=
  ow q = 1 ∧ hkd w q = (35, 3) ∧ hvi w q 0 = Int32.ofNat t ∧ hvi w q 1 = T (5056 + 898 * t) ∧ ∃ l, hvr w q 2 = some l ∧ LsF ow w l (cn T (5057 + 898 * t)) (ClauseAt ow w T t)
def NameAt (ow : Nat → Nat) (w : AH) (T : Nat → Int32) (n q : Nat) : Prop :=
  ow q = 1 ∧ (∃ k, k < 4 ∧ hkd w q = (19 + k, 5) ∧ T (71 + 11 * n) = Int32.ofNat k) ∧ hvi w q 0 = T (68 + 11 * n) ∧ hvi w q 1 = T (69 + 11 * n) ∧ hvi w q 2 = T (70 + 11 * n) ∧ hvi w q 3 = T (72 + 11 * n) ∧ hvi w q 4 = T (73 + 11 * n)
def NoteAt (ow : Nat → Nat) (w : AH) (q : Nat) (a b c d e : Int32) : Prop :=
  ow q = 1 ∧ hkd w q = (24, 5) ∧ hvi w q 0 = a ∧ hvi w q 1 = b ∧ hvi w q 2 = c ∧ hvi w q 3 = d ∧ hvi w q 4 = e
def BarAt (ow : Nat → Nat) (w : AH) (T : Nat → Int32) (k q : Nat) : Prop := ∃ a b c d e, NoteAt ow w q a b c d e ∧ ((a < b ∧ T (2268 + 2 * k) = a ∧ T (2269 + 2 * k) = b) ∨ (b < a ∧ T (2268 + 2 * k) = b ∧ T (2269 + 2 * k) = a))
def HandAt (ow : Nat → Nat) (w : AH) (T : Nat → Int32) (k q : Nat) : Prop := NoteAt ow w q (T (2528 + 5 * k)) (T (2529 + 5 * k)) (T (2530 + 5 * k)) (T (2531 + 5 * k)) (T (2532 + 5 * k))
def PaperAt (ow : Nat → Nat) (w : AH) (T : Nat → Int32) (k q : Nat) : Prop := NoteAt ow w q (T (3528 + 4 * k)) (T (3529 + 4 * k)) (T (3530 + 4 * k)) (T (3531 + 4 * k)) 0
def CountAt (ow : Nat → Nat) (w : AH) (T : Nat → Int32) (k q : Nat) : Prop := NoteAt ow w q (T (4008 + 5 * k)) (T (4009 + 5 * k)) (T (4010 + 5 * k)) (T (4012 + 5 * k)) 0
/-! ==== a Told at t and its row T ==== -/
def TPl (w : AH) (t : Nat) (T : Nat → Int32) : Prop := hvi w t 22 = T 0 ∧ ∀ p, p < cn T 0 → hvi w (t + 13) p = T (20 + 3 * p) ∧ hvi w (t + 14) p = T (21 + 3 * p) ∧ hvi w (t + 15) p = T (22 + 3 * p)
def TNm (w : AH) (t : Nat) (T : Nat → Int32) : Prop := ∀ n, n < cn T 1 → hvi w (t + 16) n = T (74 + 11 * n) ∧ (T (74 + 11 * n) ≠ -1 → hvi w (t + 17) n = T (75 + 11 * n)) ∧ hvi w (t + 18) n = T (76 + 11 * n) ∧ (T (76 + 11 * n) ≠ -1 → hvi w (t + 19) n = T (77 + 11 * n) ∧ hvi w (t + 20) n = T (78 + 11 * n))
def TBo (w : AH) (t : Nat) (T : Nat → Int32) : Prop := hvi w t 23 = T 3 ∧ ∀ b, b < cn T 3 → hvi w (t + 21) b = T (2348 + b) ∧ ((T (2368 + 4 * b) = 0 ∧ hvi w (t + 25) b = -1) ∨ (T (2368 + 4 * b) = 1 ∧ 0 ≤ T (2369 + 4 * b) ∧ hvi w (t + 25) b = T (2369 + 4 * b) ∧ hvl w (t + 26) b = (T (2370 + 4 * b)).toInt64 ∧ hvl w (t + 27) b = (T (2371 + 4 * b)).toInt64))
def TBx (w : AH) (t : Nat) (T : Nat → Int32) : Prop := hvi w t 24 = T 4 ∧ ∀ b, b < cn T 4 → hvi w (t + 22) b = T (2448 + 2 * b) ∧ hvi w (t + 23) b = T (2449 + 2 * b)
def TNu (w : AH) (t : Nat) (T : Nat → Int32) : Prop := ∀ c, c < cn T 6 → hvi w (t + 24) c = T (4011 + 5 * c)
def TKp (w : AH) (t : Nat) (T : Nat → Int32) : Prop := ∀ k, k < 48 → hvi w (t + 28) k = T (5008 + k)
def TPc (w : AH) (t : Nat) (T : Nat → Int32) : Prop := hvi w t 25 = T 9 ∧ hvi w t 26 = T 10
def TLs (ow : Nat → Nat) (w : AH) (t : Nat) (T : Nat → Int32) : Prop :=
  LsT ow w (t + 1) (cn T 2) (OrderAt ow w T) ∧ LsT ow w (t + 3) (cn T 1) (NameAt ow w T) ∧ LsT ow w (t + 5) (cn T 8) (BarAt ow w T) ∧ LsT ow w (t + 7) (cn T 5) (HandAt ow w T) ∧ LsT ow w (t + 9) (cn T 7) (PaperAt ow w T) ∧ LsT ow w (t + 11) (cn T 6) (CountAt ow w T)
def TRep (ow : Nat → Nat) (w : AH) (t : Nat) (T : Nat → Int32) : Prop :=
  TLay t w ∧ TPl w t T ∧ TNm w t T ∧ TBo w t T ∧ TBx w t T ∧ TNu w t T ∧ TKp w t T ∧ TPc w t T ∧ TLs ow w t T
/-! ==== a row that may be ==== -/
def rg (v lo hi : Int32) : Prop := lo ≤ v ∧ v ≤ hi
def WF (T : Nat → Int32) : Prop :=
  (rg (T 0) 0 16 ∧ rg (T 1) 0 200 ∧ rg (T 2) 0 20 ∧ rg (T 3) 0 20 ∧ rg (T 4) 0 40 ∧ rg (T 5) 0 200 ∧ rg (T 6) 0 200 ∧ rg (T 7) 0 120 ∧ rg (T 8) 0 40 ∧ rg (T 9) 1 50 ∧ rg (T 10) 0 9) ∧
  (∀ p, p < cn T 0 → rg (T (20 + 3 * p)) 0 5 ∧ rg (T (21 + 3 * p)) 0 99 ∧ rg (T (22 + 3 * p)) 0 99) ∧
  (∀ n, n < cn T 1 → (0 ≤ T (68 + 11 * n) ∧ T (68 + 11 * n) < T 0) ∧ rg (T (69 + 11 * n)) 0 99 ∧ rg (T (70 + 11 * n)) 0 120 ∧ rg (T (71 + 11 * n)) 0 3 ∧ rg (T (73 + 11 * n)) 0 399 ∧ rg (T (74 + 11 * n)) (-1) 399 ∧ (T (76 + 11 * n) = -1 ∨ (0 ≤ T (76 + 11 * n) ∧ T (76 + 11 * n) < T 0))) ∧
  (∀ b, b < cn T 3 → 0 ≤ T (2348 + b) ∧ T (2348 + b) < T 0) ∧
  (∀ b, b < cn T 4 → (0 ≤ T (2448 + 2 * b) ∧ T (2448 + 2 * b) < T 3)) ∧
  (∀ k, k < cn T 5 → (0 ≤ T (2528 + 5 * k) ∧ T (2528 + 5 * k) < T 4) ∧ rg (T (2529 + 5 * k)) 0 19 ∧ rg (T (2530 + 5 * k)) 0 399 ∧ rg (T (2532 + 5 * k)) 0 399) ∧
  (∀ k, k < cn T 7 → (0 ≤ T (3528 + 4 * k) ∧ T (3528 + 4 * k) < T 3) ∧ rg (T (3529 + 4 * k)) 0 3 ∧ rg (T (3530 + 4 * k)) 0 100000 ∧ rg (T (3531 + 4 * k)) 0 399) ∧
  (∀ c, c < cn T 6 → (0 ≤ T (4008 + 5 * c) ∧ T (4008 + 5 * c) < T 4) ∧ rg (T (4009 + 5 * c)) 0 7 ∧ rg (T (4010 + 5 * c)) 0 9 ∧ rg (T (4011 + 5 * c)) 0 16383 ∧ rg (T (4012 + 5 * c)) 0 399) ∧
  (∀ k, k < 48 → T (5008 + k) = 0 ∨ T (5008 + k) = 1) ∧
  (∀ t, t < cn T 2 → rg (T (5056 + 898 * t)) 0 399 ∧ rg (T (5057 + 898 * t)) 1 12 ∧ ∀ c, c < cn T (5057 + 898 * t) → rg (clW T t c 0) 0 7 ∧ rg (clW T t c 1) 0 19 ∧ rg (clW T t c 2) 0 11 ∧ rg (clW T t c 3) 0 400 ∧ rg (clW T t c 4) 0 400 ∧ rg (clW T t c 5) 0 400 ∧ rg (clW T t c 6) 0 400)
