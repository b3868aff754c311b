/-! what both classes answer -/
set_option maxRecDepth 100000
def dec (n : Nat) (x : Int32) : Option Nat := if 0 ≤ x.toInt ∧ x.toInt < n then some x.toInt.toNat else none
theorem dec_some {n s : Nat} {x : Int32} (h : dec n x = some s) : s < n ∧ x = Int32.ofNat s ∧ s < 2147483648 := by
  unfold dec at h
  have hx := Int32.toInt_lt x
  split at h
  · rename_i c
    cases h
    refine ⟨by omega, Int32.toInt_inj.mp ?_, by omega⟩
    rw [i32_toInt (by omega)]
    omega
  · cases h
theorem dec_of {n s : Nat} (h : s < n) (hs : s < 2147483648) : dec n (Int32.ofNat s) = some s := by
  unfold dec
  rw [i32_toInt hs, if_pos (by omega)]
  congr 1
theorem dec_none {n s : Nat} {x : Int32} (h : dec n x = none) (hs : s < n) (h2 : s < 2147483648) : x ≠ Int32.ofNat s := by
  intro e
  rw [e, dec_of hs h2] at h
  cases h
theorem dec_no {n : Nat} {x : Int32} (h : ∀ s, s < n → x ≠ Int32.ofNat s) : dec n x = none := by
  cases e : dec n x with
  | none => rfl
  | some s => exact absurd (dec_some e).2.1 (h s (dec_some e).1)
abbrev Sh : Type := Option ((Nat × Nat × (Nat → Int64)) ⊕ (Ru × Nat))
abbrev Wk : Type := ((Nat → Nat) × Ru) × (Nat × Nat) × (Int32 × Int32 × Int32 × Int32)
abbrev Kp : Type := (Nat × (Nat → Nat → Nat)) × Int32 × Option Wk
/-- shelves, tape, its size, refused; now; image -/
abbrev Ab : Type := ((Nat → Sh) × ((Nat → Nat) × Nat) × (Nat → Int32)) × Kp × Option Kp
def aSh (A : Ab) : Nat → Sh := A.1.1
def aTp (A : Ab) : Nat → Nat := A.1.2.1.1
def aTz (A : Ab) : Nat := A.1.2.1.2
def aRf (A : Ab) : Nat → Int32 := A.1.2.2
def aNow (A : Ab) : Kp := A.2.1
def aIm (A : Ab) : Option Kp := A.2.2
def kH (K : Kp) : Nat := K.1.1
def kP (K : Kp) : Nat → Nat → Nat := K.1.2
def kSd (K : Kp) : Int32 := K.2.1
def kWk (K : Kp) : Option Wk := K.2.2
def aH (A : Ab) : Nat := kH (aNow A)
def aP (A : Ab) (h : Nat) : Nat → Nat := kP (aNow A) h
def sSh (A : Ab) (s : Nat) (v : Sh) : Ab := ((fun t => if t = s then v else aSh A t, A.1.2), A.2)
def sTp (A : Ab) (T : Nat → Nat) (z : Nat) : Ab := ((A.1.1, (T, z), A.1.2.2), A.2)
def aNo (A : Ab) (n : Nat) : Ab := ((A.1.1, A.1.2.1, fun i => if i = n then A.1.2.2 i + 1 else A.1.2.2 i), A.2)
def sNow (A : Ab) (K : Kp) : Ab := (A.1, K, A.2.2)
def sIm (A : Ab) (K : Kp) : Ab := (A.1, A.2.1, some K)
/-- a refusal -/
def rj (A : Ab) (n : Nat) : Int32 × Ab := (-(Int32.ofNat n), aNo A n)
def rjJ (A : Ab) (n : Nat) : Int64 × Ab := ((-(Int32.ofNat n)).toInt64, aNo A n)
/-! shelves -/
def fitF (so : Nat) (v : Int64) : Int64 := match so with
  | 0 => v.toInt32.toInt8.toInt32.toInt64
  | 1 => v.toInt32.toInt16.toInt32.toInt64
  | 2 => v.toInt32.toInt64
  | 3 => v
  | _ => if v = 0 then 0 else 1
def spRow (A : Ab) (x1 x2 x3 : Int32) : Int32 × Ab := match dec 8 x1, dec 5 x2, dec 126 x3 with
  | some s, some so, some n => (1, sSh A s (some (.inl (so, n, fun _ => 0))))
  | _, _, _ => rj A 2
def spSet (A : Ab) (x1 x2 : Int32) (v : Int64) : Int32 × Ab := match dec 8 x1 with
  | none => rj A 2
  | some s => match aSh A s with
    | some (.inr _) => rj A 3
    | none => rj A 4
    | some (.inl (so, n, f)) => match dec n x2 with
      | none => rj A 2
      | some i => (1, sSh A s (some (.inl (so, n, fun j => if j = i then fitF so v else f j))))
/-- whether n elements from i on are in a row -/
def inRow (n : Nat) (x3 x5 : Int32) : Option (Nat × Nat) := match dec (n + 1) x5 with
  | none => none
  | some c => match dec (n - c + 1) x3 with
    | none => none
    | some i => some (i, c)
def spCopy (A : Ab) (x1 x2 x3 x4 x5 : Int32) : Int32 × Ab := match dec 8 x1, dec 8 x2 with
  | some p, some q => match aSh A p, aSh A q with
    | some (.inr _), _ => rj A 3
    | _, some (.inr _) => rj A 3
    | none, _ => rj A 4
    | _, none => rj A 4
    | some (.inl (so, n, f)), some (.inl (so', n', f')) => if so ≠ so' then rj A 3 else match inRow n x3 x5, inRow n' x4 x5 with
      | some (i, c), some (j, _) => (Int32.ofNat c, sSh A q (some (.inl (so', n', fun k => if j ≤ k ∧ k < j + c then f (i + (k - j)) else f' k))))
      | _, _ => rj A 2
  | _, _ => rj A 2
def spElement (A : Ab) (x1 x2 : Int32) : Int64 × Ab := match dec 8 x1 with
  | none => (0, A)
  | some s => match aSh A s with
    | some (.inl (_, n, f)) => match dec n x2 with
      | none => (0, A)
      | some i => (f i, A)
    | _ => (0, A)
def spHolds (A : Ab) (x1 : Int32) : Int32 × Ab := match dec 8 x1 with
  | none => (-1, A)
  | some s => match aSh A s with
    | none => (-1, A)
    | some (.inl (so, _, _)) => (Int32.ofNat so, A)
    | some (.inr (u, _)) => (Int32.ofNat (10 + u.1), A)
/-- the number of a rule of a kind, if it may be so -/
def byOf (k : Nat) (x3 : Int32) : Option Nat := match k with
  | 1 => dec 100 x3
  | 2 => match dec 7 x3 with
    | some a => if 1 ≤ a then some a else none
    | none => none
  | 3 => match dec 1000 x3 with
    | some a => if 1 ≤ a % 10 ∧ a % 10 ≤ 6 then some a else none
    | none => none
  | 4 => some 0
  | _ => dec 8 x3
def spRule (A : Ab) (x1 x2 x3 : Int32) : Int32 × Ab := match dec 8 x1, dec 6 x2 with
  | some s, some k => if k = 0 then rj A 2 else match byOf k x3 with
    | none => rj A 2
    | some c => if k = 5 then (match aSh A c with
        | some (.inr _) => rj A 3
        | none => rj A 4
        | some (.inl (_, n, f)) => (1, sSh A s (some (.inr ((5, 0, fun i => decide (i < n ∧ f i ≠ 0)), n)))))
      else (1, sSh A s (some (.inr ((k, c, fun _ => false), 0))))
  | _, _ => rj A 2
def saysV (u : Ru) (n k : Nat) : Int32 := match k with
  | 0 => 0
  | 1 => Int32.ofNat (if u.1 = 3 then u.2.1 / 10 else u.2.1)
  | 2 => Int32.ofNat u.2.1
  | 3 => Int32.ofNat (u.2.1 % 10)
  | 4 => 1
  | _ => Int32.ofNat n
def spSays (A : Ab) (x1 x2 : Int32) : Int32 × Ab := match dec 8 x1, dec 6 x2 with
  | some s, some k => match aSh A s with
    | some (.inl _) => rj A 3
    | none => rj A 4
    | some (.inr (u, n)) => if k = 0 ∨ u.1 = k ∨ (k = 1 ∧ u.1 = 3) then (saysV u n k, A) else rj A 3
  | _, _ => rj A 2
/-! texts -/
def byF (v : Int32) (k : Nat) : Nat := ((v >>> (((8 : Int32) * Int32.ofNat k) &&& 31)) &&& (255 : Int32)).toNatClampNeg
def spFeed (A : Ab) (x1 x2 : Int32) : Int32 × Ab := match dec 5 x2 with
  | none => rj A 2
  | some n => if n = 0 then rj A 2 else if 160 < aTz A + n then rj A 6 else (Int32.ofNat (aTz A + n), sTp A (fun i => if aTz A ≤ i ∧ i < aTz A + n then byF x1 (n - 1 - (i - aTz A)) else aTp A i) (aTz A + n))
def spWipe (A : Ab) : Int32 × Ab := (Int32.ofNat (aTz A), sTp A (aTp A) 0)
def addH (K : Kp) (P : Nat → Nat) : Kp := ((kH K + 1, fun h => if h = kH K then P else kP K h), K.2)
def setH (K : Kp) (h : Nat) (P : Nat → Nat) : Kp := ((kH K, fun g => if g = h then P else kP K g), K.2)
noncomputable def spHouse (A : Ab) : Int32 × Ab := if aH A = 6 then rj A 6 else match rdF (aTp A) (aTz A) with
  | .inl f => ((-20 : Int32) - Int32.ofNat f, aNo (sTp A (aTp A) 0) 2)
  | .inr P => (Int32.ofNat (aH A), sNow (sTp A (aTp A) 0) (addH (aNow A) P))
def spHouseOf (A : Ab) (x1 x2 : Int32) : Int32 × Ab := match dec (aH A) x1, dec 5 x2 with
  | some h, some w => (Int32.ofNat (aP A h w), A)
  | _, _ => rj A 2
def spSortOf (A : Ab) (x1 x2 x3 : Int32) : Int32 × Ab := match dec (aH A) x1 with
  | none => rj A 2
  | some h => match dec (aP A h 4) x2, dec 5 x3 with
    | some i, some w => (Int32.ofNat (aP A h (5 + 5 * i + w)), A)
    | _, _ => rj A 2
/-- a new number of a house that may be so -/
def alOf (w : Nat) (x3 : Int32) : Option Nat := match w with
  | 0 => dec 100 x3
  | 1 => match dec 41 x3 with
    | some a => if 1 ≤ a then some a else none
    | none => none
  | _ => dec 4 x3
def spAlter (A : Ab) (x1 x2 x3 : Int32) : Int32 × Ab := match dec (aH A) x1, dec 3 x2 with
  | some h, some w => match alOf w x3 with
    | some v => (Int32.ofNat (aP A h (1 + w)), sNow A (setH (aNow A) h (upP (aP A h) (1 + w) v)))
    | none => rj A 2
  | _, _ => rj A 2
def spChange (A : Ab) (x1 x2 x3 x4 : Int32) : Int32 × Ab := match dec (aH A) x1 with
  | none => rj A 2
  | some h => match dec (aP A h 4) x2, dec 4 x3 with
    | some i, some w => match dec (if w = 0 then 5 else if w = 1 then 10 else 100) x4 with
      | some v => (Int32.ofNat (aP A h (6 + 5 * i + w)), sNow A (setH (aNow A) h (upP (aP A h) (6 + 5 * i + w) v)))
      | none => rj A 2
    | _, _ => rj A 2
/-! states and costs -/
def spOf (A : Ab) (x1 x2 : Int32) : Int32 × Ab := match dec 125 x1, dec 3 x2 with
  | some s, some i => (Int32.ofNat (dg s i), A)
  | _, _ => rj A 2
/-- a house and a state; a house and days; all three -/
def gS (A : Ab) (x1 x2 : Int32) : Option (Nat × Nat) := match dec (aH A) x1 with
  | none => none
  | some h => match dec (5 ^ aP A h 4) x2 with
    | none => none
    | some s => some (h, s)
def gL (A : Ab) (l : Nat) (x1 x2 : Int32) : Option (Nat × Nat) := match dec (aH A) x1 with
  | none => none
  | some h => match dec (aP A h 0 + 1) x2 with
    | none => none
    | some d => if l ≤ d then some (h, d) else none
def gLS (A : Ab) (l : Nat) (x1 x2 x3 : Int32) : Option (Nat × Nat × Nat) := match gL A l x1 x2, gS A x1 x3 with
  | some (h, d), some (_, s) => some (h, d, s)
  | _, _ => none
def nm : Nat → Bool := fun _ => false
def spSpace (A : Ab) (x1 x2 : Int32) : Int32 × Ab := match gS A x1 x2 with
  | some (h, s) => (Int32.ofNat (sm (aP A h) 0 s), A)
  | none => rj A 2
def spScale (A : Ab) (x1 x2 : Int32) : Int64 × Ab := match gL A 0 x1 x2 with
  | some (h, d) => (Int64.ofNat (scl (aP A h) d), A)
  | none => rjJ A 2
def spCost (A : Ab) (x1 x2 x3 : Int32) : Int64 × Ab := match gLS A 0 x1 x2 x3 with
  | some (h, d, s) => (CT (aP A h) nm d s, A)
  | none => rjJ A 2
def spBest (A : Ab) (x1 x2 x3 : Int32) : Int32 × Ab := match gLS A 1 x1 x2 x3 with
  | some (h, d, s) => (Int32.ofNat (LT (aP A h) nm d s), A)
  | none => rj A 2
def spFill (A : Ab) (x1 x2 : Int32) : Int32 × Ab := match gS A x1 x2 with
  | some (h, s) => (Int32.ofNat (fl (aP A h) s), A)
  | none => rj A 2
/-- the rule in a shelf -/
def gR_ (A : Ab) (x : Int32) : Nat ⊕ Ru := match dec 8 x with
  | none => .inl 2
  | some s => match aSh A s with
    | some (.inl _) => .inl 3
    | none => .inl 4
    | some (.inr (u, _)) => .inr u
noncomputable def spLoad (A : Ab) (x1 x2 x3 x4 : Int32) : Int32 × Ab := match gLS A 1 x1 x2 x3 with
  | none => rj A 2
  | some (h, d, s) => match gR_ A x4 with
    | .inl e => rj A e
    | .inr u => (Int32.ofNat (ldF (aP A h) u d s), A)
noncomputable def spMean (A : Ab) (x1 x2 x3 x4 : Int32) : Int64 × Ab := match gLS A 0 x1 x2 x3 with
  | none => rjJ A 2
  | some (h, d, s) => match gR_ A x4 with
    | .inl e => rjJ A e
    | .inr u => (MT (aP A h) u d s, A)
noncomputable def spLose (A : Ab) (x1 x2 x3 x4 : Int32) : Int64 × Ab := match gLS A 0 x1 x2 x3 with
  | none => rjJ A 2
  | some (h, d, s) => match gR_ A x4 with
    | .inl e => rjJ A e
    | .inr u => (MT (aP A h) u d s - CT (aP A h) nm d s, A)
noncomputable def boyN (A : Ab) (P : Nat → Nat) : Nat → Option (Nat × Int64)
  | 0 => none
  | s + 1 => match aSh A s with
    | some (.inr (u, _)) => match boyN A P s with
      | none => some (s, MT P u (P 0) 0)
      | some (b, m) => if MT P u (P 0) 0 < m then some (s, MT P u (P 0) 0) else some (b, m)
    | _ => boyN A P s
noncomputable def spBoy (A : Ab) (x1 : Int32) : Int32 × Ab := match dec (aH A) x1 with
  | none => rj A 2
  | some h => match boyN A (aP A h) 8 with
    | none => rj A 5
    | some (s, _) => (Int32.ofNat s, A)
def spWaits (A : Ab) (x1 x2 x3 : Int32) : Int64 × Ab := match gLS A 1 x1 x2 x3 with
  | some (h, d, s) => (4 * bh (aP A h) d s (CT (aP A h) nm (d - 1)) - CT (aP A h) nm d s, A)
  | none => rjJ A 2
def spOnce (A : Ab) (x1 x2 x3 : Int32) : Int64 × Ab := match gLS A 1 x1 x2 x3 with
  | some (h, d, s) => (wlF (aP A h) d s (fl (aP A h) s) (CT (aP A h) nm (d - 1)) - CT (aP A h) nm d s, A)
  | none => rjJ A 2
def spDear (A : Ab) (x1 x2 x3 x4 : Int32) : Int64 × Ab := match gLS A 0 x1 x2 x3 with
  | none => rjJ A 2
  | some (h, d, s) => match dec (aP A h 4) x4 with
    | none => rjJ A 2
    | some i => if dg s i = 4 then rjJ A 2 else (CT (aP A h) nm d (s + 5 ^ i) - CT (aP A h) nm d s, A)
noncomputable def spChance (A : Ab) (x1 x2 x3 x4 : Int32) : Int64 × Ab := match gLS A 0 x1 x2 x3 with
  | none => rjJ A 2
  | some (h, d, s) => match gR_ A x4 with
    | .inl e => rjJ A e
    | .inr u => (Int64.ofNat (chN (aP A h) u (aP A h 0 - d) s), A)
noncomputable def rcN (P : Nat → Nat) (u : Ru) (d : Nat) : Nat → Nat
  | 0 => 0
  | s + 1 => rcN P u d s + (if 0 < chN P u (P 0 - d) s then 1 else 0)
noncomputable def spReach (A : Ab) (x1 x2 x3 : Int32) : Int32 × Ab := match gL A 0 x1 x2 with
  | none => rj A 2
  | some (h, d) => match gR_ A x3 with
    | .inl e => rj A e
    | .inr u => (Int32.ofNat (rcN (aP A h) u d (5 ^ aP A h 4)), A)
noncomputable def spHeld (A : Ab) (x1 x2 x3 : Int32) : Int64 × Ab := match dec (aH A) x1 with
  | none => rjJ A 2
  | some h => match dec (aP A h 4) x2 with
    | none => rjJ A 2
    | some i => match gR_ A x3 with
      | .inl e => rjJ A e
      | .inr u => (mvT (aP A h) u (some i) (aP A h 0), A)
noncomputable def spBoxes (A : Ab) (x1 x2 : Int32) : Int64 × Ab := match dec (aH A) x1 with
  | none => rjJ A 2
  | some h => match gR_ A x2 with
    | .inl e => rjJ A e
    | .inr u => (mvT (aP A h) u none (aP A h 0), A)
noncomputable def spPlain (A : Ab) (x1 : Int32) : Int32 × Ab := match dec (aH A) x1 with
  | none => rj A 2
  | some h => (Int32.ofNat (lsN (aP A h) 1 0 99).1, A)
noncomputable def spEvery (A : Ab) (x1 : Int32) : Int32 × Ab := match dec (aH A) x1 with
  | none => rj A 2
  | some h => (Int32.ofNat (lsN (aP A h) 2 1 5).1, A)
def spPromise (A : Ab) (x1 x2 : Int32) : Int64 × Ab := match gL A 1 x1 x2 with
  | some (h, d) => (CT (aP A h) (fun e => e == d) (aP A h 0) 0 - CT (aP A h) nm (aP A h 0) 0, A)
  | none => rjJ A 2
def shpV (P : Nat → Nat) (d : Nat) : Int32 := match rmL P d (5 ^ P 4) with
  | none => -1
  | some m => if rmM P d (5 ^ P 4) < m then Int32.ofNat (rmM P d (5 ^ P 4) + 1) else -1
def spShape (A : Ab) (x1 x2 : Int32) : Int32 × Ab := match gL A 1 x1 x2 with
  | some (h, d) => (shpV (aP A h) d, A)
  | none => rj A 2
def oddV (P : Nat → Nat) (d : Nat) : Int32 := match rmL P d (5 ^ P 4) with
  | none => -1
  | some m => oI (odN P d m (5 ^ P 4))
def spOdd (A : Ab) (x1 x2 : Int32) : Int32 × Ab := match gL A 1 x1 x2 with
  | some (h, d) => (oddV (aP A h) d, A)
  | none => rj A 2
def jdN (P : Nat → Nat) (s : Nat) (f : Nat → Int64) : Nat → Option Nat
  | 0 => some 0
  | k + 1 => match jdN P s f k with
    | none => none
    | some r => if 0 ≤ (f k).toInt ∧ (f k).toInt ≤ dg s k then some (r + (f k).toInt.toNat * P (5 + 5 * k)) else none
def spJudge (A : Ab) (x1 x2 x3 : Int32) : Int32 × Ab := match gS A x1 x2, dec 8 x3 with
  | some (h, s), some t => match aSh A t with
    | some (.inr _) => rj A 3
    | none => rj A 4
    | some (.inl (_, n, f)) => if n < aP A h 4 then rj A 2 else match jdN (aP A h) s f (aP A h 4) with
      | none => (1, A)
      | some r => (if aP A h 2 < r then 2 else 0, A)
  | _, _ => rj A 2
/-! houses together, weeks, images -/
def gJ2 (A : Ab) (x1 x2 : Int32) : Nat ⊕ (Nat × Nat) := match dec (aH A) x1, dec (aH A) x2 with
  | some h, some g => if h = g then .inl 2 else if aP A h 0 = aP A g 0 ∧ aP A h 4 + aP A g 4 ≤ 3 then .inr (h, g) else .inl 5
  | _, _ => .inl 2
def spJoin (A : Ab) (x1 x2 : Int32) : Int32 × Ab := match gJ2 A x1 x2 with
  | .inl e => rj A e
  | .inr (h, g) => if aH A = 6 then rj A 6 else (Int32.ofNat (aH A), sNow A (addH (aNow A) (jn (aP A h) (aP A g))))
/-- what two houses together save -/
def svF (P P' : Nat → Nat) : Int64 := CT P nm (P 0) 0 * Int64.ofNat (4 ^ (P 0 * P' 4)) + CT P' nm (P' 0) 0 * Int64.ofNat (4 ^ (P 0 * P 4)) - CT (jn P P') nm (P 0) 0
def spSaved (A : Ab) (x1 x2 : Int32) : Int64 × Ab := match gJ2 A x1 x2 with
  | .inl e => rjJ A e
  | .inr (h, g) => (if 0 ≤ svF (aP A h) (aP A g) then svF (aP A h) (aP A g) else 0, A)
def sSd (K : Kp) (v : Int32) : Kp := (K.1, v, K.2.2)
def sWk (K : Kp) (w : Wk) : Kp := (K.1, K.2.1, some w)
def spSeed (A : Ab) (x1 : Int32) : Int32 × Ab := (kSd (aNow A), sNow A (sSd (aNow A) x1))
def spBegin (A : Ab) (x1 x2 : Int32) : Int32 × Ab := match dec (aH A) x1 with
  | none => rj A 2
  | some h => match gR_ A x2 with
    | .inl e => rj A e
    | .inr u => (Int32.ofNat (aP A h 0), sNow A (sWk (aNow A) ((aP A h, u), (aP A h 0, 0), (0, 0, 0, 0))))
/-- some days of a week: its coins, the week, the seed -/
noncomputable def stpN : Nat → Wk → Int32 → Int32 × Wk × Int32
  | 0, w, sd => (0, w, sd)
  | k + 1, w, sd => if w.2.1.1 = 0 then (0, w, sd) else
    let c := dayC w.1.1 w.1.2 w.2.1.1 w.2.1.2 sd
    let z := stpN k (w.1, (w.2.1.1 - 1, (dyR w.1.1 w.1.2 w.2.1.1 w.2.1.2 sd).2.2.1), (w.2.2.1 + c, w.2.2.2.1 + dayB w.1.1 w.1.2 w.2.1.1 w.2.1.2 sd, w.2.2.2.2.1 + Int32.ofNat (pcs (dyL w.1.1 w.1.2 w.2.1.1 w.2.1.2 sd)), w.2.2.2.2.2 + (dyR w.1.1 w.1.2 w.2.1.1 w.2.1.2 sd).2.2.2)) (dyR w.1.1 w.1.2 w.2.1.1 w.2.1.2 sd).1
    (c + z.1, z.2)
noncomputable def spStep (A : Ab) (x1 : Int32) : Int32 × Ab := match dec 7 x1 with
  | none => rj A 2
  | some n => if n = 0 then rj A 2 else match kWk (aNow A) with
    | none => rj A 5
    | some w => if w.2.1.1 = 0 then rj A 5 else ((stpN n w (kSd (aNow A))).1, sNow A (sSd (sWk (aNow A) (stpN n w (kSd (aNow A))).2.1) (stpN n w (kSd (aNow A))).2.2))
def weekV (w : Wk) (k : Nat) : Int32 := match k with
  | 0 => Int32.ofNat w.2.1.1
  | 1 => Int32.ofNat w.2.1.2
  | 2 => w.2.2.1
  | 3 => w.2.2.2.1
  | 4 => w.2.2.2.2.1
  | _ => w.2.2.2.2.2
def spWeek (A : Ab) (x1 : Int32) : Int32 × Ab := match dec 6 x1 with
  | none => rj A 2
  | some k => match kWk (aNow A) with
    | none => rj A 5
    | some w => (weekV w k, A)
/-- one whole week: its coins, the seed -/
noncomputable def wkN (P : Nat → Nat) (u : Ru) : Nat → Nat → Int32 → Int32 × Int32
  | 0, _, sd => (0, sd)
  | d + 1, s, sd => (dayC P u (d + 1) s sd + (wkN P u d (dyR P u (d + 1) s sd).2.2.1 (dyR P u (d + 1) s sd).1).1, (wkN P u d (dyR P u (d + 1) s sd).2.2.1 (dyR P u (d + 1) s sd).1).2)
noncomputable def wksN (P : Nat → Nat) (u : Ru) (sd : Int32) : Nat → Int32 × Int32
  | 0 => (0, sd)
  | k + 1 => ((wksN P u sd k).1 + (wkN P u (P 0) 0 (wksN P u sd k).2).1, (wkN P u (P 0) 0 (wksN P u sd k).2).2)
noncomputable def spWeeks (A : Ab) (x1 x2 x3 : Int32) : Int32 × Ab := match dec (aH A) x1, dec 51 x3 with
  | some h, some n => if n = 0 then rj A 2 else match gR_ A x2 with
    | .inl e => rj A e
    | .inr u => ((wksN (aP A h) u (kSd (aNow A)) n).1, sNow A (sSd (aNow A) (wksN (aP A h) u (kSd (aNow A)) n).2))
  | _, _ => rj A 2
def spImage (A : Ab) : Int32 × Ab := (1, sIm A (aNow A))
def spBack (A : Ab) : Int32 × Ab := match aIm A with
  | none => rj A 5
  | some K => (1, sNow A K)
def cntN (A : Ab) : Nat → Nat
  | 0 => 0
  | s + 1 => cntN A s + (match aSh A s with | none => 0 | some _ => 1)
def statV (A : Ab) (k : Nat) : Int32 := match k with
  | 0 => Int32.ofNat (aH A)
  | 1 => Int32.ofNat (aTz A)
  | 2 => kSd (aNow A)
  | 3 => Int32.ofNat (cntN A 8)
  | _ => if 12 ≤ k then aRf A (k - 10) else -1
def spStatus (A : Ab) (x1 : Int32) : Int32 × Ab := match dec 17 x1 with
  | none => (-1, A)
  | some k => (statV A k, A)
