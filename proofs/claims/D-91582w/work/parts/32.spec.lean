set_option maxRecDepth 100000
/-! ===== what is asked, out of the row T ===== -/
def b2i (b : Bool) : Int32 := if b = true then 1 else 0
def b2l (b : Bool) : Int64 := if b = true then 1 else 0
def hasMv (T : Nat → Int32) (n : Nat) (d k : Int32) : Bool := decide (T (76 + 11 * n) ≠ -1) && decide (T (77 + 11 * n) ≤ d) && decide (T (78 + 11 * n) ≤ k)
def whrS (T : Nat → Int32) (n : Nat) (d k : Int32) : Int32 := if hasMv T n d k = true then T (76 + 11 * n) else T (68 + 11 * n)
/-- what is struck: a text's clauses one by one, the texts from the last on -/
def stk1 (T : Nat → Int32) (t : Nat) (S : Nat → Bool) (c : Nat) : Nat → Bool :=
  if clW T t c 0 = 0 ∧ S (12 * t + c) = false ∧ clW T t c 1 < Int32.ofNat t then up1 S (12 * (clW T t c 1).toNatClampNeg + (clW T t c 2).toNatClampNeg) true else S
def stkC (T : Nat → Int32) (t : Nat) (S : Nat → Bool) : Nat → (Nat → Bool)
  | 0 => S
  | c + 1 => stk1 T t (stkC T t S c) c
def stkU (T : Nat → Int32) (d : Int32) (n : Nat) : Nat → (Nat → Bool)
  | 0 => fun _ => false
  | m + 1 => if T (5056 + 898 * (n - 1 - m)) ≤ d then stkC T (n - 1 - m) (stkU T d n m) (cn T (5057 + 898 * (n - 1 - m))) else stkU T d n m
def inF (T : Nat → Int32) (d : Int32) (t c : Nat) : Bool := decide (T (5056 + 898 * t) ≤ d) && !(stkU T d (cn T 2) (cn T 2) (12 * t + c))
/-- the last clause of a kind, for a mark, that holds in a setting: its sum -/
def fnd1 (T : Nat → Int32) (d kd mk : Int32) (s : Nat → Int64) (t : Nat) (o : Option Int64) (c : Nat) : Option Int64 :=
  if inF T d t c = true ∧ clW T t c 0 = kd ∧ clW T t c 1 = mk then (match soD T t c s with
    | some (some v) => some v
    | _ => o) else o
def fndC (T : Nat → Int32) (d kd mk : Int32) (s : Nat → Int64) (t : Nat) (o : Option Int64) : Nat → Option Int64
  | 0 => o
  | c + 1 => fnd1 T d kd mk s t (fndC T d kd mk s t o c) c
def fndU (T : Nat → Int32) (d kd mk : Int32) (s : Nat → Int64) : Nat → Option Int64
  | 0 => none
  | t + 1 => fndC T d kd mk s t (fndU T d kd mk s t) (cn T (5057 + 898 * t))
def fndS (T : Nat → Int32) (d kd mk : Int32) (s : Nat → Int64) : Option Int64 := fndU T d kd mk s (cn T 2)
/-! settings -/
def sNm (T : Nat → Int32) (n : Nat) (d k : Int32) (i : Nat) : Int64 := match i with
  | 1 => (T (70 + 11 * n)).toInt64
  | 2 => (T (69 + 11 * n)).toInt64
  | 3 => (whrS T n d k).toInt64
  | 4 => (T (20 + 3 * (whrS T n d k).toNatClampNeg)).toInt64
  | 5 => d.toInt64
  | 12 => b2l (decide (T (71 + 11 * n) = 1))
  | 13 => b2l (decide (T (71 + 11 * n) = 2))
  | 14 => b2l (decide (T (71 + 11 * n) = 3))
  | 15 => b2l (hasMv T n d k)
  | _ => 0
def isOnS (T : Nat → Int32) (n : Nat) (d k : Int32) : Bool :=
  decide (T (73 + 11 * n) ≤ k) && !(decide (T (74 + 11 * n) ≠ -1) && decide (T (74 + 11 * n) ≤ d) && decide (T (75 + 11 * n) ≤ k)) && (fndS T d 1 0 (sNm T n d k)).isSome && (fndS T d 2 0 (sNm T n d k)).isNone
def rolU (T : Nat → Int32) (d k : Int32) (p : Nat) : Nat → Int32
  | 0 => 0
  | n + 1 => if isOnS T n d k = true ∧ whrS T n d k = Int32.ofNat p then rolU T d k p n + 1 else rolU T d k p n
def rolS (T : Nat → Int32) (d k : Int32) (p : Nat) : Int32 := rolU T d k p (cn T 1)
def sNo (d : Int32) (i : Nat) : Int64 := if i = 5 then d.toInt64 else 0
def sPl (T : Nat → Int32) (d k : Int32) (p : Nat) (i : Nat) : Int64 := match i with
  | 3 => (Int32.ofNat p).toInt64
  | 4 => (T (20 + 3 * p)).toInt64
  | 5 => d.toInt64
  | 6 => (rolS T d k p).toInt64
  | _ => 0
def ruleS (T : Nat → Int32) (d kd : Int32) (s : Nat → Int64) (without : Int32) : Int32 := match fndS T d kd 0 s with
  | none => without
  | some v => if v < 0 then 0 else v.toInt32
/-! papers, counts -/
def papU (T : Nat → Int32) (b : Nat) (what : Int32) (k : Int32) : Nat → Int32
  | 0 => 0
  | p + 1 => if T (3528 + 4 * p) = Int32.ofNat b ∧ T (3529 + 4 * p) = what ∧ T (3531 + 4 * p) ≤ k then T (3530 + 4 * p) else papU T b what k p
def papS (T : Nat → Int32) (b : Nat) (what k : Int32) : Int32 := papU T b what k (cn T 7)
/-- a later telling of the same -/
def cntL (T : Nat → Int32) (c : Nat) (k : Int32) (u : Nat) : Bool := decide (T (4012 + 5 * u) ≤ k) && decide (T (4008 + 5 * u) = T (4008 + 5 * c)) && decide (T (4009 + 5 * u) = T (4009 + 5 * c)) && decide (T (4010 + 5 * u) = T (4010 + 5 * c))
def cntN (T : Nat → Int32) (c : Nat) (k : Int32) : Nat → Nat → Bool
  | 0, _ => true
  | m + 1, u => !cntL T c k u && cntN T c k m (u + 1)
def cntOK (T : Nat → Int32) (c : Nat) (k : Int32) : Bool := decide (T (4012 + 5 * c) ≤ k) && cntN T c k (cn T 6 - (c + 1)) (c + 1)
def booOf (T : Nat → Int32) (c : Nat) : Int32 := T (2448 + 2 * (T (4008 + 5 * c)).toNatClampNeg)
def putU (T : Nat → Int32) (b : Nat) (k : Int32) : Nat → Int32
  | 0 => 0
  | c + 1 => if booOf T c = Int32.ofNat b ∧ cntOK T c k = true then putU T b k c + T (4011 + 5 * c) else putU T b k c
def putS (T : Nat → Int32) (b : Nat) (k : Int32) : Int32 := putU T b k (cn T 6)
/-- the first telling of a box, by days, with another seal -/
def brkU (T : Nat → Int32) (b : Nat) (k : Int32) : Nat → Option Nat
  | 0 => none
  | h + 1 => if T (2528 + 5 * h) = Int32.ofNat b ∧ T (2532 + 5 * h) ≤ k ∧ T (2531 + 5 * h) ≠ T (2449 + 2 * b) then (match brkU T b k h with
    | none => some h
    | some g => if T (2530 + 5 * h) < T (2530 + 5 * g) then some h else some g) else brkU T b k h
def brkS (T : Nat → Int32) (b : Nat) (k : Int32) : Option Nat := brkU T b k (cn T 5)
def isBkU (T : Nat → Int32) (b : Nat) (k : Int32) : Nat → Bool
  | 0 => false
  | x + 1 => isBkU T b k x || (decide (T (2448 + 2 * x) = Int32.ofNat b) && (brkS T x k).isSome)
def isBrk (T : Nat → Int32) (b : Nat) (k : Int32) : Bool := isBkU T b k (cn T 4)
def sBo (T : Nat → Int32) (d k : Int32) (b : Nat) (i : Nat) : Int64 := match i with
  | 3 => (T (2348 + b)).toInt64
  | 4 => (T (20 + 3 * (T (2348 + b)).toNatClampNeg)).toInt64
  | 5 => d.toInt64
  | 6 => (rolS T d k (T (2348 + b)).toNatClampNeg).toInt64
  | 7 => (papS T b 0 k).toInt64
  | 8 => (papS T b 1 k).toInt64
  | 9 => (putS T b k).toInt64
  | 10 => (papS T b 2 k).toInt64
  | 11 => (papS T b 1 k).toInt64 - (putS T b k).toInt64 - (papS T b 2 k).toInt64
  | 16 => b2l (isBrk T b k)
  | _ => 0
def vodS (T : Nat → Int32) (d k : Int32) (b : Nat) (m : Int32) : Bool := (fndS T d 3 m (sBo T d k b)).isSome
def agnS (T : Nat → Int32) (d k : Int32) (b : Nat) : Bool := (fndS T d 4 0 (sBo T d k b)).isSome
def valU (T : Nat → Int32) (d k : Int32) (b : Nat) (sy : Int32) : Nat → Int32
  | 0 => 0
  | c + 1 => if booOf T c = Int32.ofNat b ∧ cntOK T c k = true ∧ vodS T d k b (T (4010 + 5 * c)) = false ∧ T (4009 + 5 * c) = sy then valU T d k b sy c + T (4011 + 5 * c) else valU T d k b sy c
def valS (T : Nat → Int32) (d k : Int32) (b : Nat) (sy : Int32) : Int32 := valU T d k b sy (cn T 6)
/-! ===== the whole relation ===== -/
/-- whose a cell is: 0 nobody's (or new), 1 frozen, a: the array of the list a of a Told -/
def Ow (x : Nat) (ow : Nat → Nat) (w : AH) : Prop := (∀ j, (fK j).1 ≠ 0 → ow (x + j) = 0) ∧ (∀ j, j < 67 → ow (x + j) = 0 ∨ (x + 2 ≤ ow (x + j) ∧ ow (x + j) ≤ x + 12)) ∧ (∀ q, hsz w ≤ q → ow q = 0)
/-- the constants: the class of arrays of objects, the strings -/
def Con (ow : Nat → Nat) (w : AH) : Prop := (∃ b, hst w 1003 = some b) ∧ ∀ q ∈ strT, ∃ a e n, hst w q.1 = some a ∧ ow a = 1 ∧ ow e = 1 ∧ (hkd w a).1 = 90 ∧ hvr w a 0 = some e ∧ hvi w a 1 = 0 ∧ hkd w e = (n, q.2.2.2.length) ∧ 100 ≤ n ∧ n < 141 ∧ ∀ j c, q.2.2.2.toList[j]? = some c → hvi w e j = Int32.ofNat c.toNat
def img (σ : SM) (k : Nat) : Nat → Int32 := fun i => gI σ 2 (23016 * k + i)
def Img (ow : Nat → Nat) (x : Nat) (w : AH) (σ : SM) : Prop :=
  (∀ k, k < 2 → (gI σ 3 k = 0 ∧ hvr w (x + 30) k = none) ∨ (gI σ 3 k = 1 ∧ ∃ t, hvr w (x + 30) k = some t ∧ x + 100 ≤ t ∧ (∀ j, (tK j).1 ≠ 0 → ow (t + j) = 0) ∧ TRep ow w t (img σ k) ∧ WF (img σ k))) ∧
  ∀ t u, hvr w (x + 30) 0 = some t → hvr w (x + 30) 1 = some u → t + 29 ≤ u ∨ u + 29 ≤ t
/-- the sign of a byte -/
def sxb (v : Int32) : Int32 := if v < 128 then v else v - 256
def Tap (x : Nat) (w : AH) (σ : SM) : Prop := hvi w x 5 = gI σ 0 10 ∧ rg (gI σ 0 10) 0 400 ∧ hvi w x 6 = gI σ 0 15 ∧ ∀ i, i < (gI σ 0 10).toNatClampNeg → rg (gI σ 6 i) 0 255 ∧ hvi w (x + 31) i = sxb (gI σ 6 i)
def Wsh (x : Nat) (w : AH) (σ : SM) : Prop := hvi w x 19 = gI σ 0 34 ∧ rg (gI σ 0 34) 0 7 ∧ ∀ i, i < (gI σ 0 34).toNatClampNeg → (hvi w (x + 43) i = gI σ 16 i ∧ rg (gI σ 16 i) 0 15) ∧ (hvi w (x + 44) i = gI σ 17 i ∧ rg (gI σ 17 i) 0 399) ∧ (hvi w (x + 45) i = gI σ 18 i ∧ rg (gI σ 18 i) 0 399)
def Led (x : Nat) (w : AH) (σ : SM) : Prop := (gI σ 0 43 = 0 ∧ hvi w x 20 = -1) ∨ (gI σ 0 43 = 1 ∧ hvi w x 20 = gI σ 0 44 ∧ rg (gI σ 0 44) 0 7 ∧ hvi w x 21 = gI σ 0 45 ∧ ∀ i, i < (gI σ 0 44).toNatClampNeg → hvi w (x + 51) i = gI σ 24 i)
def Way (x : Nat) (w : AH) (σ : SM) : Prop := (gI σ 0 53 = 0 ∧ hvi w x 34 = -1) ∨ (gI σ 0 53 = 1 ∧ hvi w x 34 = gI σ 0 54 ∧ rg (gI σ 0 54) 0 7 ∧ ∀ i, i < (gI σ 0 54).toNatClampNeg → hvi w (x + 65) i = gI σ 29 i ∧ hvi w (x + 66) i = gI σ 30 i)
/-- what is laid out is kept under a day (at a, field i) and a version (field j) that is not ahead of the last -/
def Ver (x : Nat) (w : AH) : Prop := ∃ v, v < 100000 ∧ hvi w x 1 = Int32.ofNat v ∧ hvi w (x + 32) 3 ≤ hvi w x 1 ∧ hvi w (x + 39) 5 ≤ hvi w x 1 ∧ hvi w (x + 52) 8 ≤ hvi w x 1
def CFo (x : Nat) (w : AH) (T : Nat → Int32) : Prop := hvi w (x + 32) 3 = hvi w x 1 → hvi w (x + 32) 2 ≠ -1 → ∀ t c, t < cn T 2 → c < cn T (5057 + 898 * t) → hvi w (x + 33) (12 * t + c) = b2i (inF T (hvi w (x + 32) 2) t c)
def CRo (x : Nat) (w : AH) (T : Nat → Int32) : Prop := hvi w (x + 39) 5 = hvi w x 1 → hvi w (x + 39) 3 ≠ -1 → (∀ n, n < cn T 1 → hvi w (x + 40) n = b2i (isOnS T n (hvi w (x + 39) 3) (hvi w (x + 39) 4)) ∧ hvi w (x + 41) n = whrS T n (hvi w (x + 39) 3) (hvi w (x + 39) 4)) ∧ ∀ p, p < 16 → hvi w (x + 42) p = rolS T (hvi w (x + 39) 3) (hvi w (x + 39) 4) p
def DeskAt (x : Nat) (w : AH) (T : Nat → Int32) (d k : Int32) : Prop := ∀ b, b < cn T 3 → (∀ j, j < 4 → hvi w (x + 53) (4 * b + j) = papS T b (Int32.ofNat j) k) ∧ hvi w (x + 54) b = putS T b k ∧ (∀ j, j < 8 → hvi w (x + 55) (8 * b + j) = valS T d k b (Int32.ofNat j)) ∧ hvi w (x + 56) b = b2i (agnS T d k b)
def CDk (x : Nat) (w : AH) (T : Nat → Int32) : Prop := hvi w (x + 52) 8 = hvi w x 1 → hvi w (x + 52) 6 ≠ -1 → DeskAt x w T (hvi w (x + 52) 6) (hvi w (x + 52) 7)
def Cch (x : Nat) (w : AH) (T : Nat → Int32) : Prop := Ver x w ∧ CFo x w T ∧ CRo x w T ∧ CDk x w T
def Rel (ow : Nat → Nat) (x : Nat) (w : AH) (σ : SM) : Prop :=
  Lay x w ∧ Ow x ow w ∧ Con ow w ∧ TRep ow w (x + 1) (gI σ 1) ∧ WF (gI σ 1) ∧ Img ow x w σ ∧ Tap x w σ ∧ Wsh x w σ ∧ Led x w σ ∧ Way x w σ ∧ hvi w x 0 = gI σ 0 1 ∧ Cch x w (gI σ 1)
