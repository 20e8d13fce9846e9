/-! WHAT IS MEANT: rows of what is moved, texts and what they tell, in plain numbers -/
set_option maxRecDepth 100000
/-! purses, debts -/
def owed (K : Rw) (p q : Int) : Int := sm (K 71).toNat (fun k => if K (7 + 4 * (k : Int)) = p ∧ K (7 + 4 * (k : Int) + 1) = q then K (7 + 4 * (k : Int) + 2) else 0)
def balanceS (K : Rw) (p : Int) : Int := sm (K 71).toNat (fun k => if K (7 + 4 * (k : Int) + 1) = p then K (7 + 4 * (k : Int) + 2) else if K (7 + 4 * (k : Int)) = p then - K (7 + 4 * (k : Int) + 2) else 0)
def addsS (K : Rw) (d c a : Int) : Rw := u1 (u1 (u1 (u1 (u1 K (7 + 4 * K 71) d) (7 + 4 * K 71 + 1) c) (7 + 4 * K 71 + 2) a) (7 + 4 * K 71 + 3) (K 72)) 71 (K 71 + 1)
def removesS (K : Rw) (d : Int) : Rw := cpR (u1 K 71 (K 71 - 1)) (7 + 4 * d) (fun i => K (7 + 4 * d + i + 4)) (4 * (K 71 - 1 - d))
def lowF (p q : Int) : Nat → Int → Int → Rw → Rw
  | 0, _, _, K => K
  | n + 1, r, d, K => if d < K 71 then
      (if K (7 + 4 * d) = p ∧ K (7 + 4 * d + 1) = q then
        (if K (7 + 4 * d + 2) - min r (K (7 + 4 * d + 2)) = 0 then lowF p q n (r - min r (K (7 + 4 * d + 2))) d (removesS (u1 K (7 + 4 * d + 2) (K (7 + 4 * d + 2) - min r (K (7 + 4 * d + 2)))) d)
        else lowF p q n (r - min r (K (7 + 4 * d + 2))) (d + 1) (u1 K (7 + 4 * d + 2) (K (7 + 4 * d + 2) - min r (K (7 + 4 * d + 2)))))
      else lowF p q n r (d + 1) K)
    else K
def lowersS (K : Rw) (p q a : Int) : Rw := lowF p q 17 a 0 K
def payS (K : Rw) (g t a : Int) : Rw := u1 (u1 K g (K g - a)) t (u1 K g (K g - a) t + a)
def canRepayS (K : Rw) (p q a : Int) : Int := if p = q then 0 else min (min a (owed K p q)) (min (K p) (9999 - K q))
def repaysS (K : Rw) (p q a : Int) : Rw := lowersS (payS K p q a) p q a
def lendsS (K : Rw) (g t a : Int) : Rw := addsS (payS K g t a) t g a
/-! what laws and orders ask of: numbers, purses, what one owes -/
abbrev Ev : Type := Rw × Rw × (Int → Int → Int)
abbrev Dn : Type := Ev → Option Int
abbrev Dt : Type := Ev → Option Bool
def bnd (v : Int) : Option Int := if 1000000000 < v ∨ v < -1000000000 then none else some v
def opS (o p q : Int) : Option Int := if o = 47 then (if q = 0 then none else some (p.tdiv q)) else if o = 37 then (if q = 0 then none else some (p.tmod q)) else if o = 43 then bnd (p + q) else if o = 45 then bnd (p - q) else bnd (p * q)
def dJ (o : Int) (F G : Dn) : Dn := fun e => (F e).bind fun p => (G e).bind fun q => opS o p q
def cmpS (o p q : Int) : Bool := if o = 60 then decide (p < q) else if o = 62 then decide (q < p) else decide (p = q)
def dC (o : Int) (F G : Dn) : Dt := fun e => (F e).bind fun p => (G e).bind fun q => some (cmpS o p q)
def dN (F : Dt) : Dt := fun e => (F e).map fun b => !b
def dA (F G : Dt) : Dt := fun e => (F e).bind fun b => if b then G e else some false
def dO (F G : Dt) : Dt := fun e => (F e).bind fun b => if b then some true else G e
/-! texts: c the codes, w the values, o whether orders are read; the left: the token at which it is wrong -/
abbrev PR (α : Type) : Type := Int ⊕ (Int × Int × α)
def isVal (o c : Int) : Bool := if o = 0 then decide (9 ≤ c ∧ c ≤ 18) else decide (c = 17 ∨ (19 ≤ c ∧ c ≤ 23))
def dW (o c : Int) : Dn := fun e => some (if o = 0 then e.1 (c - 9) else if c = 17 then e.1 0 else e.1 (c - 18))
def pPart (o : Int) (c w : Rw) (ps : Option (Int → Int → PR Dn)) (i lv : Int) : PR Dn :=
  if c i = 191 then
    match ps with
    | none => .inl i
    | some f => match f (i + 1) lv with
      | .inl t => .inl t
      | .inr (j, lv', F) => if c j = 193 then .inr (j + 1, lv', F) else .inl j
  else if c i = 50 ∧ w i ≤ 1000 ∨ isVal o (c i) = true then
    if lv = 50 then .inl i
    else if c i = 50 then .inr (i + 1, lv + 1, fun _ => some (w i))
    else if o ≠ 0 ∧ c i = 22 then
      (if c (i + 1) = 50 ∧ 0 ≤ w (i + 1) ∧ w (i + 1) ≤ 6 then .inr (i + 2, lv + 1, fun e => some (e.2.1 (w (i + 1)))) else .inl (i + 1))
    else if o ≠ 0 ∧ c i = 23 then
      (if c (i + 1) = 50 ∧ 0 ≤ w (i + 1) ∧ w (i + 1) ≤ 6 then
        (if c (i + 2) = 50 ∧ 0 ≤ w (i + 2) ∧ w (i + 2) ≤ 6 then .inr (i + 3, lv + 1, fun e => some (e.2.2 (w (i + 1)) (w (i + 2)))) else .inl (i + 2))
      else .inl (i + 1))
    else .inr (i + 1, lv + 1, dW o (c i))
  else .inl i
/-- further parts, behind signs of which T tells -/
def pTl {α : Type} (c : Rw) (T : Int → Bool) (J : Int → α → α → α) (part : Int → Int → PR α) : Nat → Int → Int → α → PR α
  | 0, i, lv, F => .inr (i, lv, F)
  | n + 1, i, lv, F => if T (c i) = true then
      match part (i + 1) lv with
      | .inl t => .inl t
      | .inr (j, lv', G) => pTl c T J part n j lv' (J (c i) F G)
    else .inr (i, lv, F)
def pRow {α : Type} (c : Rw) (T : Int → Bool) (J : Int → α → α → α) (part : Int → Int → PR α) (i lv : Int) : PR α :=
  match part i lv with
  | .inl t => .inl t
  | .inr (j, lv', F) => pTl c T J part 51 j lv' F
def isMul (k : Int) : Bool := decide (k = 142 ∨ k = 147 ∨ k = 137)
def isAdd (k : Int) : Bool := decide (k = 143 ∨ k = 145)
def jS (k : Int) (F G : Dn) : Dn := dJ (k - 100) F G
def pTerm (o : Int) (c w : Rw) (ps : Option (Int → Int → PR Dn)) : Int → Int → PR Dn := pRow c isMul jS (pPart o c w ps)
def pSumN (o : Int) (c w : Rw) (ps : Option (Int → Int → PR Dn)) : Int → Int → PR Dn := pRow c isAdd jS (pTerm o c w ps)
/-- sums, with so many brackets left -/
def pS (o : Int) (c w : Rw) : Nat → Int → Int → PR Dn
  | 0 => pSumN o c w none
  | r + 1 => pSumN o c w (some (pS o c w r))
def pBr (o : Int) (c w : Rw) : Nat → Option (Int → Int → PR Dn)
  | 0 => none
  | r + 1 => some (pS o c w r)
theorem pS_eq (o : Int) (c w : Rw) (r : Nat) : pS o c w r = pSumN o c w (pBr o c w r) := by
  cases r <;> rfl
def pNots (c : Rw) : Nat → Int → Bool → Int × Bool
  | 0, i, b => (i, b)
  | n + 1, i, b => if c i = 8 then pNots c n (i + 1) (!b) else (i, b)
def dNot (b : Bool) (F : Dt) : Dt := if b then dN F else F
def isCmp (k : Int) : Bool := decide (k = 160 ∨ k = 162 ∨ k = 161)
/-- a test ahead of which no 'not' stands -/
def pPos (o : Int) (c w : Rw) (r : Nat) (pt : Option (Int → Int → PR Dt)) (i lv : Int) : PR Dt :=
  if c i = 140 then
    match pt with
    | none => .inl i
    | some f => match f (i + 1) lv with
      | .inl t => .inl t
      | .inr (j, lv', F) => if c j = 141 then .inr (j + 1, lv', F) else .inl j
  else match pS o c w r i lv with
    | .inl t => .inl t
    | .inr (j, lv', F) => if isCmp (c j) = true then
        match pS o c w r (j + 1) lv' with
        | .inl t => .inl t
        | .inr (k, lv2, G) => .inr (k, lv2, dC (c j - 100) F G)
      else .inl j
def pPlain (o : Int) (c w : Rw) (r : Nat) (pt : Option (Int → Int → PR Dt)) (i lv : Int) : PR Dt :=
  match pPos o c w r pt (pNots c 401 i false).1 lv with
  | .inl t => .inl t
  | .inr (j, lv', F) => .inr (j, lv', dNot (pNots c 401 i false).2 F)
def isAnd (k : Int) : Bool := decide (k = 7)
def isOr (k : Int) : Bool := decide (k = 6)
def pBoth (o : Int) (c w : Rw) (r : Nat) (pt : Option (Int → Int → PR Dt)) : Int → Int → PR Dt := pRow c isAnd (fun _ => dA) (pPlain o c w r pt)
def pTestN (o : Int) (c w : Rw) (r : Nat) (pt : Option (Int → Int → PR Dt)) : Int → Int → PR Dt := pRow c isOr (fun _ => dO) (pBoth o c w r pt)
def pT (o : Int) (c w : Rw) : Nat → Int → Int → PR Dt
  | 0 => pTestN o c w 0 none
  | r + 1 => pTestN o c w (r + 1) (some (pT o c w r))
def pTr (o : Int) (c w : Rw) : Nat → Option (Int → Int → PR Dt)
  | 0 => none
  | r + 1 => some (pT o c w r)
theorem pT_eq (o : Int) (c w : Rw) (r : Nat) : pT o c w r = pTestN o c w r (pTr o c w r) := by
  cases r <;> rfl
/-- the test of a clause, if there is one -/
def pIf (o : Int) (c w : Rw) (i lv : Int) : PR Dt := if c i = 5 then pT o c w 8 (i + 1) lv else .inr (i, lv, fun _ => some true)
/-- a clause: its head, its sum, its test -/
abbrev Cl : Type := Int × Dn × Dt
def pClause (c w : Rw) (i lv : Int) : PR Cl :=
  if c i = 1 ∨ c i = 2 ∨ c i = 3 then
    match pS 0 c w 8 (i + 1) lv with
    | .inl t => .inl t
    | .inr (j, lv', F) => match pIf 0 c w j lv' with
      | .inl t => .inl t
      | .inr (k, lv2, G) => .inr (k, lv2, (c i, F, G))
  else if c i = 4 then
    match pIf 0 c w (i + 1) lv with
    | .inl t => .inl t
    | .inr (k, lv2, G) => .inr (k, lv2, (4, (fun _ => some 1), G))
  else .inl i
/-- an order: its head, its three sums, how often, its test -/
abbrev Od : Type := Int × (Dn × Dn × Dn) × Int × Dt
def pTimes (c w : Rw) (i : Int) : Int ⊕ (Int × Int) := if c i = 29 then (if c (i + 1) = 50 ∧ 1 ≤ w (i + 1) ∧ w (i + 1) ≤ 20 then .inr (i + 2, w (i + 1)) else .inl (i + 1)) else .inr (i, 1)
def pEnd (c w : Rw) (i lv : Int) : PR (Int × Dt) := match pTimes c w i with
  | .inl t => .inl t
  | .inr (j, n) => match pIf 1 c w j lv with
    | .inl t => .inl t
    | .inr (k, lv2, G) => .inr (k, lv2, (n, G))
def pOrder (c w : Rw) (i lv : Int) : PR Od :=
  if c i = 24 ∨ c i = 25 then
    match pS 1 c w 8 (i + 1) lv with
    | .inl t => .inl t
    | .inr (j, lv1, F1) => if c j = 27 then
        match pS 1 c w 8 (j + 1) lv1 with
        | .inl t => .inl t
        | .inr (k, lv2, F2) => if c k = 28 then
            match pS 1 c w 8 (k + 1) lv2 with
            | .inl t => .inl t
            | .inr (l, lv3, F3) => match pEnd c w l lv3 with
              | .inl t => .inl t
              | .inr (e, lv4, n, G) => .inr (e, lv4, (c i, (F1, F2, F3), n, G))
          else .inl k
      else .inl j
  else if c i = 26 then
    match pEnd c w (i + 1) lv with
    | .inl t => .inl t
    | .inr (e, lv4, n, G) => .inr (e, lv4, (26, ((fun _ => some 0), (fun _ => some 0), (fun _ => some 0)), n, G))
  else .inl i
/-- all clauses: at most so many, up to the token N -/
def pAll {α : Type} (c : Rw) (N : Int) (cl : Int → Int → PR α) : Nat → Int → Int → Int ⊕ List α
  | 0, i, _ => .inl i
  | n + 1, i, lv => match cl i lv with
    | .inl t => .inl t
    | .inr (j, lv', x) => if c j = 159 then
        match pAll c N cl n (j + 1) lv' with
        | .inl t => .inl t
        | .inr L => .inr (x :: L)
      else if j < N then .inl j else .inr [x]
def cut (n : Int) (f : Rw) : Rw := fun k => if 0 ≤ k ∧ k < n then f k else 0
def pLaw (c w : Rw) (N : Int) : Int ⊕ List Cl := pAll c N (pClause c w) 12 0 0
def pOrds (c w : Rw) (N : Int) : Int ⊕ List Od := pAll c N (pOrder c w) 12 0 0
def okL {α : Type} (x : Int ⊕ List α) : List α := match x with
  | .inl _ => []
  | .inr L => L
/-! what laws tell -/
def codesS (K : Rw) (t : Int) : Rw := cut (K (157 + t)) (fun k => K (164 + 400 * t + k))
def valuesS (K : Rw) (t : Int) : Rw := cut (K (157 + t)) (fun k => K (2964 + 400 * t + k))
def lawAt (K : Rw) (t : Int) : Int ⊕ List Cl := pLaw (codesS K t) (valuesS K t) (K (157 + t))
def lawNow (K : Rw) : List Cl := if K 156 = -1 then [] else okL (lawAt K (K 156))
def numL (ow vi oe ba ro wa am ag da mo : Int) : Rw := fun k => if k = 0 then ow else if k = 1 then vi else if k = 2 then oe else if k = 3 then ba else if k = 4 then ro else if k = 5 then wa else if k = 6 then am else if k = 7 then ag else if k = 8 then da else if k = 9 then mo else 0
def purseS (K : Rw) : Rw := fun p => if 0 ≤ p ∧ p ≤ K 152 - 1 then K p else -1
def owedS (K : Rw) (p q : Int) : Int := if (0 ≤ p ∧ p ≤ K 152 - 1) ∧ (0 ≤ q ∧ q ≤ K 152 - 1) ∧ p ≠ q then owed K p q else 0
def envL (K : Rw) (ow vi oe ba am ag : Int) : Ev := (numL ow vi oe ba (K (73 + 2 * ow)) (K (73 + 2 * ow + 1)) am ag (K 72) (K 151), purseS K, owedS K)
def clampS (v hi : Int) : Int := if v < 0 then 0 else if hi < v then hi else v
def tellF (e : Ev) (hd hi told : Int) (x : Cl) : Int := if x.1 = hd then (match x.2.2 e with
    | some true => (match x.2.1 e with
      | some v => clampS v hi
      | none => told)
    | _ => told) else told
def tellsS (L : List Cl) (e : Ev) (hd hi wo : Int) : Int := L.foldl (tellF e hd hi) wo
def deepByS (K : Rw) (ow vi oe ba : Int) : Int :=
  if tellsS (lawNow K) (envL K ow vi oe ba (-1) (-1)) 4 1 0 = 1 then 0
  else tellsS (lawNow K) (envL K ow vi oe ba (-1) (-1)) 1 (K (73 + 2 * ow)) (if oe = 0 then 0 else min (K (73 + 2 * ow)) (1 + oe.tdiv 100))
def deepS (K : Rw) (ow vi : Int) : Int := deepByS K ow vi (owed K ow vi) (owed K vi ow)
def envD (K : Rw) (d : Int) : Ev := envL K (K (7 + 4 * d)) (K (7 + 4 * d + 1)) (owed K (K (7 + 4 * d)) (K (7 + 4 * d + 1))) (owed K (K (7 + 4 * d + 1)) (K (7 + 4 * d))) (K (7 + 4 * d + 2)) (K 72 - K (7 + 4 * d + 3))
def growsS (K : Rw) (d : Int) : Int := tellsS (lawNow K) (envD K d) 2 99 0
def soldS (K : Rw) (d : Int) : Int := tellsS (lawNow K) (envD K d) 3 9999 (K (7 + 4 * d + 2))
def waitT (K : Rw) : Nat → Int × Rw
  | 0 => (0, u1 K 72 (K 72 + 1))
  | n + 1 => ((waitT K n).1 + (min 9999 ((waitT K n).2 (7 + 4 * (n : Int) + 2) + ((waitT K n).2 (7 + 4 * (n : Int) + 2) * growsS (waitT K n).2 n).tdiv 100) - (waitT K n).2 (7 + 4 * (n : Int) + 2)), u1 (waitT K n).2 (7 + 4 * (n : Int) + 2) (min 9999 ((waitT K n).2 (7 + 4 * (n : Int) + 2) + ((waitT K n).2 (7 + 4 * (n : Int) + 2) * growsS (waitT K n).2 n).tdiv 100)))
def waitsS (K : Rw) : Int × Rw := waitT K (K 71).toNat
def doorsS (K : Rw) (v : Int) : Int := sm (K 152).toNat (fun o => if (o : Int) ≠ v ∧ 0 < deepS K o v then 2 ^ o else 0)
