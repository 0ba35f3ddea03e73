/-! THE PURE PICTURE, 7: what the public operations answer: (how it is refused, 0 if it is not; the answer) -/
abbrev subOK (S : St) (s : Int) : Prop := 0 ≤ s ∧ s < S 0 38 * S 0 39
abbrev swOK (S : St) (s : Int) : Prop := 0 ≤ s ∧ s < S 0 38
abbrev midOK (S : St) (k : Int) : Prop := 0 ≤ k ∧ k < S 0 40
abbrev grpOK (S : St) (g : Int) : Prop := 0 ≤ g ∧ g < S 0 60
def numAt (S : St) (c : Int) : Int := if c = -1 then -1 else S 48 c.toNat
def idleAll (S : St) : Int := sumI (fun s => idleAtS S (s : Int)) (S 0 38).toNat 0
def belongsB (S : St) (s g : Int) : Bool := decide (fnd (fun k => decide (S 64 (g * 8 + (k : Int)).toNat = s)) (S 63 g.toNat).toNat 0 ≠ -1)
def freeAtS (S : St) (s : Int) (b : Bool) : Int := sumI (fun k => b2i (!isCutB S (k : Int) && decide (carriedAt S (k : Int) s b = -1))) (S 0 40).toNat 0
def callNum (S : St) (s : Int) : Int := numAt S (callWith S s)
/-- u: how many changes can be undone; n: how many bytes wait -/
def countA (S : St) (u n w : Int) : Int × Int :=
  if w = 0 then (0, S 0 38) else if w = 1 then (0, S 0 39) else if w = 2 then (0, S 0 40) else if w = 3 then (0, inOrd S) else if w = 4 then (0, S 0 47) else if w = 5 then (0, S 0 55) else if w = 6 then (0, idleAll S) else if w = 7 then (0, S 0 44) else if w = 8 then (0, S 0 42) else if w = 9 then (0, S 0 43) else if w = 10 then (0, S 0 45) else if w = 11 then (0, S 0 60) else if w = 12 then (0, u) else if w = 13 then (0, n) else if w = 14 then (0, S 0 46) else (1, 0)
def accountA (S : St) (w : Int) : Int × Int := if 0 ≤ w ∧ w < 13 then (0, S 65 w.toNat) else (1, 0)
def subscriberA (S : St) (s w : Int) : Int × Int :=
  if subOK S s then (if w = 0 then (0, if callWith S s = -1 then (if waitAt S s = -1 then 0 else 2) else 1) else if w = 1 then (0, s.tdiv (S 0 39)) else if w = 2 then (0, callNum S s)
    else if w = 3 then (0, if callWith S s = -1 then -1 else if S 49 (callWith S s).toNat = s then S 50 (callWith S s).toNat else S 49 (callWith S s).toNat)
    else if w = 4 then (0, if callWith S s = -1 then 0 else if S 49 (callWith S s).toNat = s then 1 else 0)
    else if w = 5 then (0, if waitAt S s = -1 then -1 else S 57 (waitAt S s).toNat)
    else if w = 6 then (0, sumI (fun g => b2i (belongsB S s (g : Int))) (S 0 60).toNat 0) else (2, 0)) else (1, 0)
def stageA (S : St) (s w : Int) : Int × Int :=
  if swOK S s then (if w = 0 then (0, callsAtS S s false) else if w = 1 then (0, callsAtS S s true) else if w = 2 then (0, idleAtS S s) else if w = 3 then (0, sumI (fun c => b2i (decide (fromS S c = s) && decide (toS S c = s))) (S 0 47).toNat 0)
    else if w = 4 then (0, freeAtS S s false) else if w = 5 then (0, freeAtS S s true) else (2, 0)) else (1, 0)
def middleA (S : St) (k w : Int) : Int × Int :=
  if midOK S k then (if w = 0 then (0, b2i (!isCutB S k)) else if w = 1 then (0, loadOf S k) else if w = 2 then (0, numAt S (fnd (fun c => decide (S 51 c = k)) (S 0 47).toNat 0)) else (2, 0)) else (1, 0)
def carriedA (S : St) (k s : Int) (b : Bool) : Int × Int := if midOK S k ∧ swOK S s then (0, numAt S (carriedAt S k s b)) else (1, 0)
def numFnd (S : St) (n : Int) : Int := fnd (fun c => decide (S 48 c = n)) (S 0 47).toNat 0
def callOfA (S : St) (n w : Int) : Int × Int :=
  if numFnd S n = -1 then (1, 0) else if w = 0 then (0, S 49 (numFnd S n).toNat) else if w = 1 then (0, S 50 (numFnd S n).toNat) else if w = 2 then (0, S 51 (numFnd S n).toNat) else if w = 3 then (0, S 52 (numFnd S n).toNat) else if w = 4 then (0, S 53 (numFnd S n).toNat) else if w = 5 then (0, S 54 (numFnd S n).toNat)
  else if w = 6 then (0, if S 53 (numFnd S n).toNat = 0 then -1 else S 52 (numFnd S n).toNat + S 53 (numFnd S n).toNat - S 0 44) else (2, 0)
def callAtA (S : St) (p : Int) : Int := if 0 ≤ p ∧ p < S 0 47 then S 48 p.toNat else -1
def groupA (S : St) (g w : Int) : Int × Int :=
  if grpOK S g then (if w = 0 then (0, S 63 g.toNat) else if w = 1 then (0, sumI (fun k => b2i (idleB S (S 64 (g * 8 + (k : Int)).toNat))) (S 63 g.toNat).toNat 0) else if w = 2 then (0, sumI (fun x => b2i (decide (S 57 x = g))) (S 0 55).toNat 0) else if w = 3 then (0, S 61 g.toNat) else (2, 0)) else (1, 0)
def memberA (S : St) (g i : Int) : Int × Int := if grpOK S g then (0, if 0 ≤ i ∧ i < S 63 g.toNat then S 64 (g * 8 + i).toNat else -1) else (1, 0)
def waitingA (S : St) (p w : Int) : Int × Int :=
  if 0 ≤ p ∧ p < S 0 55 then (if w = 0 then (0, S 56 p.toNat) else if w = 1 then (0, S 57 p.toNat) else if w = 2 then (0, S 58 p.toNat) else if w = 3 then (0, S 59 p.toNat) else (2, 0)) else (1, 0)
def openA (S : St) (i j : Int) : Int × Int := if swOK S i ∧ swOK S j then (0, sumI (fun k => b2i (isOpenB S (k : Int) i j (S 0 40))) (S 0 40).toNat 0) else (1, 0)
def chainOr (S : St) (i j : Int) : Option Ch := if hunted S i j 0 (S 0 40) = -1 then chain S i j (S 0 40) else none
def chainA (S : St) (i j w : Int) : Int × Int :=
  if swOK S i ∧ swOK S j then (if 0 ≤ w ∧ w ≤ 4 then (0, match chainOr S i j with
      | none => -1
      | some c => if w = 0 then (c.1.length : Int) else if w = 1 then c.2.1 else if w = 2 then c.2.2.1 else if w = 3 then chMid c else S 48 (c.1.getD 0 0)) else (2, 0)) else (1, 0)
def byChain (S : St) (a b : Int) : Option Ch := if reasonNot S a b = 0 then (if hunted S (a.tdiv (S 0 39)) (b.tdiv (S 0 39)) (S 0 43) (S 0 40) = -1 then chain S (a.tdiv (S 0 39)) (b.tdiv (S 0 39)) (S 0 40) else none) else none
def whyD (S : St) (a b d : Int) : Int :=
  if d = 0 then (if (byChain S a b).isSome = true then 6 else reasonNot S a b) else if d = 2 then (match byChain S a b with | none => -1 | some c => (c.1.length : Int))
  else if reasonNot S a b = 0 then (match byChain S a b with | none => hunted S (a.tdiv (S 0 39)) (b.tdiv (S 0 39)) (S 0 43) (S 0 40) | some c => chMid c)
  else if reasonNot S a b = 1 then callNum S a else if reasonNot S a b = 2 then callNum S b
  else if reasonNot S a b = 4 then (if callsAtS S (a.tdiv (S 0 39)) false = inOrd S then 1 else if callsAtS S (b.tdiv (S 0 39)) true = inOrd S then 2 else 0) else -1
def whyA (S : St) (a b d : Int) : Int × Int := if subOK S a ∧ subOK S b then (if a ≠ b ∧ 0 ≤ d ∧ d ≤ 2 then (0, whyD S a b d) else (2, 0)) else (1, 0)
def isFreeA (S : St) (b : Bool) : Int := b2i (decide ((if b = true then S 0 39 else 2 * S 0 39 - 1) ≤ inOrd S))
def ifCutA (S : St) (k w : Int) : Int × Int :=
  if midOK S k then (if 0 ≤ w ∧ w ≤ 2 then (0, if isCutB S k = true then (if w = 2 then blockedPairs S else 0) else if w = 0 then (cuts S k).1 else if w = 1 then loadOf S k - (cuts S k).1 else blockedPairs (cuts S k).2) else (2, 0)) else (1, 0)
def leastL (S : St) : Nat → Nat → Int → Int → Int
  | 0, _, best, _ => best
  | r + 1, k, best, least => if isCutB S (k : Int) = true then leastL S r (k + 1) best least else if best = -1 ∨ (cuts S (k : Int)).1 < least then leastL S r (k + 1) (k : Int) (cuts S (k : Int)).1 else leastL S r (k + 1) best least
def leastA (S : St) : Int := leastL S (S 0 40).toNat 0 (-1) 0
def greatL (S : St) : Nat → Nat → Int → Int
  | 0, _, e => e
  | r + 1, c, e => greatL S r (c + 1) (if e < S 51 c then S 51 c else e)
def ifPackedA (S : St) (w : Int) : Int × Int := if 0 ≤ w ∧ w ≤ 1 then (0, if w = 0 then (packs S).1 else greatL (packs S).2 ((packs S).2 0 47).toNat 0 (-1)) else (1, 0)
def callsInA (S : St) (t : Int) : Int × Int := if 0 ≤ t ∧ t ≤ 200 then (0, (ticksL t.toNat 0 S).2 0 47) else (1, 0)
/-- behind how many ticks it is so, among the next r -/
def untilL (p : St → Bool) : Nat → Int → St → Int
  | 0, n, S => if p S = true then n else -1
  | r + 1, n, S => if p S = true then n else untilL p r (n + 1) (passes S).2
def idleInA (S : St) (s : Int) : Int × Int := if subOK S s then (0, untilL (fun T => idleB T s) 200 0 S) else (1, 0)
def servedInA (S : St) (p : Int) : Int × Int := if 0 ≤ p ∧ p < S 0 55 then (0, untilL (fun T => decide (waitAt T (S 56 p.toNat) = -1)) 200 0 S) else (1, 0)
def cntB (S : St) (k s : Int) (b : Bool) : Int := sumI (fun c => b2i (decide (S 51 c = k) && decide (endS S c b = s))) (S 0 47).toNat 0
