/-! THE PURE PICTURE, 1: the exchange as a vector S, in the model's numbering (0 38 switches, 39 lines, 40 middles, 41 cut set, 42 mode, 43 hunt, 44 tick, 45 latest, 46 begun, 47 calls, 55 waiters, 60 groups; rows 48 number, 49 caller, 50 callee, 51 middle, 52 began, 53 lasts, 54 moved; 56 waiter, 57 waitsFor, 58 waitLasts, 59 waitsSince; 61 nameLength, 62 nameBytes, 63 memberCount, 64 members, 65 accounts) -/
def fnd (p : Nat → Bool) : Nat → Nat → Int
  | 0, _ => -1
  | k + 1, c => if p c = true then (c : Int) else fnd p k (c + 1)
def sumI (f : Nat → Int) : Nat → Nat → Int
  | 0, _ => 0
  | k + 1, c => f c + sumI f k (c + 1)
def b2i (b : Bool) : Int := if b = true then 1 else 0
def fromS (S : St) (c : Nat) : Int := (S 49 c).tdiv (S 0 39)
def toS (S : St) (c : Nat) : Int := (S 50 c).tdiv (S 0 39)
def endS (S : St) (c : Nat) (b : Bool) : Int := if b = true then toS S c else fromS S c
def callWith (S : St) (s : Int) : Int := fnd (fun c => decide (S 49 c = s ∨ S 50 c = s)) (S 0 47).toNat 0
def waitAt (S : St) (s : Int) : Int := fnd (fun w => decide (S 56 w = s)) (S 0 55).toNat 0
def idleB (S : St) (s : Int) : Bool := decide (callWith S s = -1 ∧ waitAt S s = -1)
def carriedAt (S : St) (m s : Int) (b : Bool) : Int := fnd (fun c => decide (S 51 c = m ∧ endS S c b = s)) (S 0 47).toNat 0
def loadOf (S : St) (m : Int) : Int := sumI (fun c => b2i (decide (S 51 c = m))) (S 0 47).toNat 0
def callsAtS (S : St) (s : Int) (b : Bool) : Int := sumI (fun c => b2i (decide (endS S c b = s))) (S 0 47).toNat 0
def isCutB (S : St) (m : Int) : Bool := decide (iand (ishr (S 0 41) m) 1 = 1)
def inOrd (S : St) : Int := sumI (fun k => b2i (!isCutB S k)) (S 0 40).toNat 0
def isThereB (S : St) (m low : Int) : Bool := !isCutB S m && decide (sumI (fun k => b2i (!isCutB S k)) m.toNat 0 < low)
def isOpenB (S : St) (m i j low : Int) : Bool := isThereB S m low && (decide (carriedAt S m i false = -1) && decide (carriedAt S m j true = -1))
def huntM (S : St) (rule : Int) (k : Nat) : Int := if rule = 2 then (S 0 45 + 1 + (k : Int)).tmod (S 0 40) else (k : Int)
def huntL (S : St) (i j rule low : Int) : Nat → Nat → Int → Int
  | 0, _, best => best
  | r + 1, k, best => huntL S i j rule low r (k + 1) (if (isOpenB S (huntM S rule k) i j low && (decide (best = -1) || (decide (rule = 1) && decide (loadOf S best < loadOf S (huntM S rule k))))) = true then huntM S rule k else best)
def hunted (S : St) (i j rule low : Int) : Int := huntL S i j rule low (S 0 40).toNat 0 (-1)
def walkL (S : St) (p q : Int) : Nat → Int → Bool → List Nat
  | 0, _, _ => []
  | r + 1, c, b => if c = -1 then [] else c.toNat :: walkL S p q r (carriedAt S (if S 51 c.toNat = p then q else p) (endS S c.toNat b) b) (!b)
def walkS (S : St) (p q i j : Int) (first : Bool) : List Nat := walkL S p q 21 (if first = true then carriedAt S p j true else carriedAt S q i false) (!first)
/-- a chain: its calls by their places, p, q, and which side -/
abbrev Ch : Type := List Nat × Int × Int × Bool
def chStep (S : St) (i j p q : Int) (first : Bool) (best : Option Ch) : Option Ch := match best with
  | none => some (walkS S p q i j first, p, q, first)
  | some b => if (walkS S p q i j first).length < b.1.length then some (walkS S p q i j first, p, q, first) else some b
def chQ (S : St) (i j low p : Int) : Nat → Nat → Option Ch → Option Ch
  | 0, _, b => b
  | r + 1, q, b => chQ S i j low p r (q + 1) (if (isThereB S q low && decide (carriedAt S q j true = -1)) = true then chStep S i j p q false (chStep S i j p q true b) else b)
def chP (S : St) (i j low : Int) : Nat → Nat → Option Ch → Option Ch
  | 0, _, b => b
  | r + 1, p, b => chP S i j low r (p + 1) (if (isThereB S p low && decide (carriedAt S p i false = -1)) = true then chQ S i j low p (S 0 40).toNat 0 b else b)
def chain (S : St) (i j low : Int) : Option Ch := chP S i j low (S 0 40).toNat 0 none
def flipL (p q : Int) (counts : Bool) : List Nat → St → St
  | [], S => S
  | c :: l, S => flipL p q counts l (up2 (up2 S 51 c (if S 51 c = p then q else p)) 54 c (S 54 c + b2i counts))
def chMid (c : Ch) : Int := if c.2.2.2 = true then c.2.1 else c.2.2.1
def tookS (S : St) (c : Ch) (counts : Bool) : St := up2 (up2 (flipL c.2.1 c.2.2.1 counts c.1 S) 65 8 (S 65 8 + b2i counts)) 65 9 (S 65 9 + (if counts = true then (c.1.length : Int) else 0))
/-- the middle that a call gets, and what the chain changed -/
def route (S : St) (i j rule : Int) (chains : Bool) (low : Int) (counts : Bool) : Int × St :=
  if hunted S i j rule low = -1 ∧ chains = true then (match chain S i j low with
    | none => (-1, S)
    | some c => (chMid c, tookS S c counts))
  else (hunted S i j rule low, S)
def blockedB (S : St) (i j : Int) : Bool := decide (hunted S i j 0 (S 0 40) = -1) && (decide (S 0 42 = 0) || (chain S i j (S 0 40)).isNone)
/-- a new row behind the last -/
def addRow (S : St) (fr to last m : Int) : St :=
  up2 (up2 (up2 (up2 (up2 (up2 (up2 (up2 (up2 (up2 S 0 45 m) 48 (S 0 47).toNat (S 0 46)) 49 (S 0 47).toNat fr) 50 (S 0 47).toNat to) 51 (S 0 47).toNat m) 52 (S 0 47).toNat (S 0 44)) 53 (S 0 47).toNat last) 54 (S 0 47).toNat 0) 0 47 (S 0 47 + 1)) 0 46 (S 0 46 + 1)
def begins (S : St) (fr to last : Int) : St :=
  addRow (route S (fr.tdiv (S 0 39)) (to.tdiv (S 0 39)) (S 0 43) (decide (S 0 42 = 1)) (S 0 40) true).2 fr to last (route S (fr.tdiv (S 0 39)) (to.tdiv (S 0 39)) (S 0 43) (decide (S 0 42 = 1)) (S 0 40) true).1
/-- the row at a place goes: those behind it move up -/
def delRow (S : St) (place : Nat) : St := up2 (fun f c => if 48 ≤ f ∧ f ≤ 54 ∧ place ≤ c ∧ c + 1 < (S 0 47).toNat then S f (c + 1) else S f c) 0 47 (S 0 47 - 1)
def delWait (S : St) (place : Nat) : St := up2 (fun f c => if 56 ≤ f ∧ f ≤ 59 ∧ place ≤ c ∧ c + 1 < (S 0 55).toNat then S f (c + 1) else S f c) 0 55 (S 0 55 - 1)
def addAcc (S : St) (k : Nat) (v : Int) : St := up2 S 65 k (S 65 k + v)
def reasonNot (S : St) (fr to : Int) : Int :=
  if idleB S fr = false then 1 else if idleB S to = false then 2 else if S 0 46 = 200 then 3 else if blockedB S (fr.tdiv (S 0 39)) (to.tdiv (S 0 39)) = true then 4 else 0
def memOK (S : St) (fr s : Int) (chk : Bool) : Bool := decide (s ≠ fr) && (idleB S s && (!chk || !blockedB S (fr.tdiv (S 0 39)) (s.tdiv (S 0 39))))
def memL (S : St) (fr g : Int) (chk : Bool) : Nat → Nat → Int
  | 0, _ => -1
  | r + 1, k => if memOK S fr (S 64 (g * 8 + (k : Int)).toNat) chk = true then S 64 (g * 8 + (k : Int)).toNat else memL S fr g chk r (k + 1)
def memberFor (S : St) (fr g : Int) : Int := memL S fr g true (S 63 g.toNat).toNat 0
def hasIdle (S : St) (fr g : Int) : Bool := decide (memL S fr g false (S 63 g.toNat).toNat 0 ≠ -1)
def addWait (S : St) (fr g last : Int) : St := up2 (up2 (up2 (up2 (up2 S 56 (S 0 55).toNat fr) 57 (S 0 55).toNat g) 58 (S 0 55).toNat last) 59 (S 0 55).toNat (S 0 44)) 0 55 (S 0 55 + 1)
def dials (S : St) (fr g last : Int) : Int × St :=
  if idleB S fr = false then (-11, addAcc S 1 1) else if S 0 46 = 200 then (-13, addAcc S 3 1)
  else if memberFor S fr g ≠ -1 then (S 0 46, begins S fr (memberFor S fr g) last)
  else if hasIdle S fr g = true then (-14, addAcc S 4 1) else if S 0 55 = 8 then (-15, addAcc S 5 1) else (-2, addWait S fr g last)
def callsUp (S : St) (fr to last : Int) : Int × St :=
  if reasonNot S fr to = 0 then (S 0 46, begins S fr to last) else (-10 - reasonNot S fr to, addAcc S (reasonNot S fr to).toNat 1)
def served (S : St) (w : Nat) (s : Int) : St :=
  begins (delWait (addAcc (addAcc S 11 1) 12 (S 0 44 - S 59 w)) w) (S 56 w) s (S 58 w)
def forWait (S : St) (w : Nat) : Int := if S 0 46 = 200 then -1 else memberFor S (S 56 w) (S 57 w)
def servesL : Nat → Nat → St → St
  | 0, _, S => S
  | r + 1, w, S => if forWait S w = -1 then servesL r (w + 1) S else servesL r w (served S w (forWait S w))
def serves (S : St) : St := servesL (S 0 55).toNat 0 S
def hangs (S : St) (s : Int) : Int × St :=
  if callWith S s = -1 then (-1, serves (delWait S (waitAt S s).toNat)) else (S 48 (callWith S s).toNat, serves (addAcc (delRow S (callWith S s).toNat) 6 1))
def dueB (S : St) (c : Nat) : Bool := decide (0 < S 53 c ∧ S 52 c + S 53 c = S 0 44)
def endsL : Nat → Nat → Int → St → Int × St
  | 0, _, e, S => (e, S)
  | r + 1, c, e, S => if dueB S c = true then endsL r c (e + 1) (addAcc (delRow S c) 0 1) else endsL r (c + 1) e S
def passes (S : St) : Int × St := ((endsL (S 0 47).toNat 0 0 (up2 S 0 44 (S 0 44 + 1))).1, serves (endsL (S 0 47).toNat 0 0 (up2 S 0 44 (S 0 44 + 1))).2)
/-- many ticks: how many calls ended -/
def ticksL : Nat → Int → St → Int × St
  | 0, e, S => (e, S)
  | r + 1, e, S => ticksL r (e + (passes S).1) (passes S).2
/-- one call of a middle that was cut finds another one, or is dropped -/
def reroute (S : St) (c : Nat) : Int × St := route S (fromS S c) (toS S c) (S 0 43) (decide (S 0 42 = 1)) (S 0 40) true
def rerouted (S : St) (c : Nat) : St := addAcc (up2 (up2 (up2 (reroute S c).2 51 c (reroute S c).1) 54 c ((reroute S c).2 54 c + 1)) 0 45 (reroute S c).1) 10 1
def cutL (fl : Nat → Bool) : Nat → Nat → Nat → Int → St → Int × St
  | 0, _, _, e, S => (e, S)
  | r + 1, k, c, e, S => if fl k = false then cutL fl r (k + 1) (c + 1) e S
    else if (reroute S c).1 = -1 then cutL fl r (k + 1) c (e + 1) (addAcc (delRow (reroute S c).2 c) 7 1)
    else cutL fl r (k + 1) (c + 1) e (rerouted S c)
def lifted (S : St) (fl : Nat → Bool) : St := fun f c => if f = 51 ∧ c < (S 0 47).toNat ∧ fl c = true then -1 else S f c
def cuts (S : St) (m : Int) : Int × St := cutL (fun c => decide (S 51 c = m)) (S 0 47).toNat 0 0 0 (lifted (up2 S 0 41 (ior (S 0 41) (ishl 1 m))) (fun c => decide (S 51 c = m)))
def maxI (a b : Int) : Int := if b < a then a else b
def fewL (S : St) : Nat → Nat → Int → Int
  | 0, _, e => e
  | r + 1, k, e => fewL S r (k + 1) (maxI (callsAtS S k true) (maxI (callsAtS S k false) e))
def fewest (S : St) : Int := fewL S (S 0 38).toNat 0 0
def packL (low : Int) : Nat → Nat → St → St
  | 0, _, S => S
  | r + 1, c, S => packL low r (c + 1) (up2 (route S (fromS S c) (toS S c) 0 true low false).2 51 c (route S (fromS S c) (toS S c) 0 true low false).1)
def movedL (old : Nat → Int) : Nat → Nat → Int → St → Int × St
  | 0, _, e, S => (e, S)
  | r + 1, c, e, S => if S 51 c = old c then movedL old r (c + 1) e S else movedL old r (c + 1) (e + 1) (up2 S 54 c (S 54 c + 1))
def packs (S : St) : Int × St := movedL (S 51) (S 0 47).toNat 0 0 (packL (fewest S) (S 0 47).toNat 0 (lifted S (fun _ => true)))
def mends (S : St) (m : Int) : St := serves (up2 S 0 41 (iand (S 0 41) (ixor (ishl 1 m) (-1))))
def idleAtS (S : St) (s : Int) : Int := sumI (fun k => b2i (idleB S (s * S 0 39 + (k : Int)))) (S 0 39).toNat 0
def pairsS (S : St) (i j : Int) : Int := if i = j then idleAtS S i * (idleAtS S i - 1) else idleAtS S i * idleAtS S j
def blockedPairs (S : St) : Int := sumI (fun i => sumI (fun j => if 0 < pairsS S i j ∧ blockedB S i j = true then pairsS S i j else 0) (S 0 38).toNat 0) (S 0 38).toNat 0
