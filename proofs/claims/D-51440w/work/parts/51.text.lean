/-! THE PURE PICTURE, 8: texts; B are the bytes, n of them; k is where a token is looked for -/
def isLow (b : Int) : Bool := decide (97 ≤ b ∧ b ≤ 122)
def isDig (b : Int) : Bool := decide (48 ≤ b ∧ b ≤ 57)
def isBlk (b : Int) : Bool := decide (b = 32 ∨ b = 10)
def scan (p : Int → Bool) (B : Nat → Int) : Nat → Nat → Nat
  | 0, k => k
  | r + 1, k => if p (B k) = true then scan p B r (k + 1) else k
theorem scan_rng {p : Int → Bool} {B : Nat → Int} : ∀ r k : Nat, k ≤ scan p B r k ∧ scan p B r k ≤ k + r := by
  intro r
  induction r with
  | zero => intro k; simp only [scan]; omega
  | succ r ih =>
    intro k
    have := ih (k + 1)
    simp only [scan]
    split <;> omega
theorem scan_all {p : Int → Bool} {B : Nat → Int} : ∀ r k x : Nat, k ≤ x → x < scan p B r k → p (B x) = true := by
  intro r
  induction r with
  | zero => intro k x h1 h2; simp only [scan] at h2; omega
  | succ r ih =>
    intro k x h1 h2
    simp only [scan] at h2
    split at h2
    · rename_i hp
      by_cases e : x = k
      · rw [e]; exact hp
      · exact ih (k + 1) x (by omega) h2
    · omega
/-- the token's start, kind, end, length, value, letters -/
def tS (B : Nat → Int) (n k : Nat) : Nat := scan isBlk B (n - k) k
def tK (B : Nat → Int) (n k : Nat) : Int := if n ≤ tS B n k then 0 else if isLow (B (tS B n k)) = true then 1 else if isDig (B (tS B n k)) = true then 2 else if B (tS B n k) = 59 then 3 else 4
def tE (B : Nat → Int) (n k : Nat) : Nat := if n ≤ tS B n k then tS B n k else if isLow (B (tS B n k)) = true then scan isLow B (n - tS B n k) (tS B n k) else if isDig (B (tS B n k)) = true then scan isDig B (n - tS B n k) (tS B n k) else tS B n k + 1
def tkL (B : Nat → Int) (n k : Nat) : Int := if tK B n k = 1 then ((tE B n k - tS B n k : Nat) : Int) else 0
def valL (B : Nat → Int) (cap : Int) : Nat → Nat → Int → Int
  | 0, _, v => v
  | r + 1, k, v => if isDig (B k) = true then valL B cap r (k + 1) (if v * 10 + B k - 48 ≤ cap then v * 10 + B k - 48 else cap) else v
def tV (B : Nat → Int) (n k : Nat) : Int := if tK B n k = 2 then valL B 99999 (n - tS B n k) (tS B n k) 0 else 0
def tW (B : Nat → Int) (n k : Nat) : List Int := (List.range (tE B n k - tS B n k)).map (fun i => B (tS B n k + i))
def isW (B : Nat → Int) (n k : Nat) (w : List Int) : Bool := decide (tK B n k = 1) && decide (tW B n k = w)
abbrev Rd (α : Type) : Type := Sum (Int × Int) α
def numR (B : Nat → Int) (n k : Nat) (lo hi : Int) : Rd (Int × Nat) := if tK B n k = 2 then (if lo ≤ tV B n k ∧ tV B n k ≤ hi then .inr (tV B n k, tE B n k) else .inl (2, (tS B n k : Int))) else .inl (1, (tS B n k : Int))
def semR (B : Nat → Int) (n k : Nat) : Rd Nat := if tK B n k = 3 then .inr (tE B n k) else .inl (1, (tS B n k : Int))
def wFor : List Int := [102, 111, 114]
def wCall : List Int := [99, 97, 108, 108]
def wDial : List Int := [100, 105, 97, 108]
def wHang : List Int := [104, 97, 110, 103]
def wTick : List Int := [116, 105, 99, 107]
def wCut : List Int := [99, 117, 116]
def wMend : List Int := [109, 101, 110, 100]
def wMode : List Int := [109, 111, 100, 101]
def wHunt : List Int := [104, 117, 110, 116]
def wPack : List Int := [112, 97, 99, 107]
def wPlain : List Int := [112, 108, 97, 105, 110]
def wChains : List Int := [99, 104, 97, 105, 110, 115]
def wLow : List Int := [108, 111, 119]
def wPacked : List Int := [112, 97, 99, 107, 101, 100]
def wRound : List Int := [114, 111, 117, 110, 100]
def wExch : List Int := [101, 120, 99, 104, 97, 110, 103, 101]
def wGroup : List Int := [103, 114, 111, 117, 112]
def lastsR (B : Nat → Int) (n k : Nat) : Rd (Int × Nat) :=
  if isW B n k wFor = true then (match numR B n (tE B n k) 1 99 with
    | .inl e => .inl e
    | .inr v => match semR B n v.2 with
      | .inl e => .inl e
      | .inr p => .inr (v.1, p))
  else (match semR B n k with
    | .inl e => .inl e
    | .inr p => .inr (0, p))
def subN (S : St) : Int := S 0 38 * S 0 39 - 1
def callR (B : Nat → Int) (n : Nat) (S : St) (p : Nat) : Rd (St × Nat) := match numR B n p 0 (subN S) with
  | .inl e => .inl e
  | .inr a => match numR B n a.2 0 (subN S) with
    | .inl e => .inl e
    | .inr b => if a.1 = b.1 then .inl (4, (tS B n a.2 : Int)) else match lastsR B n b.2 with
      | .inl e => .inl e
      | .inr l => .inr ((callsUp S a.1 b.1 l.1).2, l.2)
def allF (p : Nat → Bool) : Nat → Nat → Bool
  | 0, _ => true
  | r + 1, i => if p i = true then allF p r (i + 1) else false
def grpEq (B : Nat → Int) (n : Nat) (S : St) (k : Nat) (g : Nat) : Bool := decide (S 61 g = tkL B n k) && allF (fun i => decide (S 62 (g * 6 + i) = B (tS B n k + i))) (tkL B n k).toNat 0
def grpOf (B : Nat → Int) (n : Nat) (S : St) (k : Nat) : Int := fnd (grpEq B n S k) (S 0 60).toNat 0
def dialR (B : Nat → Int) (n : Nat) (S : St) (p : Nat) : Rd (St × Nat) := match numR B n p 0 (subN S) with
  | .inl e => .inl e
  | .inr a => if ¬ tK B n a.2 = 1 ∨ ¬ tkL B n a.2 ≤ 6 then .inl (1, (tS B n a.2 : Int)) else if grpOf B n S a.2 = -1 then .inl (3, (tS B n a.2 : Int)) else match lastsR B n (tE B n a.2) with
    | .inl e => .inl e
    | .inr l => .inr ((dials S a.1 (grpOf B n S a.2) l.1).2, l.2)
def hangR (B : Nat → Int) (n : Nat) (S : St) (p : Nat) : Rd (St × Nat) := match numR B n p 0 (subN S) with
  | .inl e => .inl e
  | .inr a => if idleB S a.1 = true then .inl (6, (tS B n p : Int)) else match semR B n a.2 with
    | .inl e => .inl e
    | .inr p2 => .inr ((hangs S a.1).2, p2)
def tickR (B : Nat → Int) (n : Nat) (S : St) (p : Nat) : Rd (St × Nat) := match numR B n p 1 (if 9999 - S 0 44 < 100 then 9999 - S 0 44 else 100) with
  | .inl e => .inl e
  | .inr a => match semR B n a.2 with
    | .inl e => .inl e
    | .inr p2 => .inr ((ticksL a.1.toNat 0 S).2, p2)
def midR (B : Nat → Int) (n : Nat) (S : St) (p : Nat) (cutting : Bool) : Rd (St × Nat) := match numR B n p 0 (S 0 40 - 1) with
  | .inl e => .inl e
  | .inr a => if isCutB S a.1 = cutting then .inl (6, (tS B n p : Int)) else match semR B n a.2 with
    | .inl e => .inl e
    | .inr p2 => .inr (if cutting = true then (cuts S a.1).2 else mends S a.1, p2)
def ruleN (B : Nat → Int) (n p : Nat) (isMode : Bool) : Int :=
  if isMode = true then (if isW B n p wPlain = true then 0 else if isW B n p wChains = true then 1 else -1) else (if isW B n p wLow = true then 0 else if isW B n p wPacked = true then 1 else if isW B n p wRound = true then 2 else -1)
def ruleR (B : Nat → Int) (n : Nat) (S : St) (p : Nat) (isMode : Bool) : Rd (St × Nat) := if ruleN B n p isMode = -1 then .inl (1, (tS B n p : Int)) else match semR B n (tE B n p) with
  | .inl e => .inl e
  | .inr p2 => .inr (if isMode = true then serves (up2 S 0 42 (ruleN B n p isMode)) else up2 S 0 43 (ruleN B n p isMode), p2)
def packR (B : Nat → Int) (n : Nat) (S : St) (p : Nat) : Rd (St × Nat) := match semR B n p with
  | .inl e => .inl e
  | .inr p2 => .inr (serves (packs S).2, p2)
def cmdR (B : Nat → Int) (n : Nat) (S : St) (k : Nat) : Rd (St × Nat) :=
  if isW B n k wCall = true then callR B n S (tE B n k) else if isW B n k wDial = true then dialR B n S (tE B n k) else if isW B n k wHang = true then hangR B n S (tE B n k) else if isW B n k wTick = true then tickR B n S (tE B n k)
  else if isW B n k wCut = true then midR B n S (tE B n k) true else if isW B n k wMend = true then midR B n S (tE B n k) false else if isW B n k wMode = true then ruleR B n S (tE B n k) true else if isW B n k wHunt = true then ruleR B n S (tE B n k) false
  else if isW B n k wPack = true then packR B n S (tE B n k) else .inl (1, (tS B n k : Int))
def cmdsR (B : Nat → Int) (n : Nat) : Nat → St → Nat → Int → Rd (Int × St)
  | 0, S, _, e => .inr (e, S)
  | r + 1, S, k, e => if tK B n k = 0 then .inr (e, S) else match cmdR B n S k with
    | .inl x => .inl x
    | .inr a => cmdsR B n r a.1 a.2 (e + 1)
/-- a new exchange; a new group -/
def clearS (S : St) (s l mm : Int) : St := fun f c => if f = 65 ∧ c < 13 then 0 else if f = 0 then (if c = 38 then s else if c = 39 then l else if c = 40 then mm else if c = 42 then 1 else if c = 45 then mm - 1 else if c = 41 ∨ c = 43 ∨ c = 44 ∨ c = 46 ∨ c = 47 ∨ c = 55 ∨ c = 60 then 0 else S 0 c) else S f c
def addGrp (S : St) (w : List Int) (l : List Int) : St := fun f c =>
  if f = 0 ∧ c = 60 then S 0 60 + 1 else if f = 61 ∧ c = (S 0 60).toNat then (w.length : Int) else if f = 63 ∧ c = (S 0 60).toNat then (l.length : Int)
  else if f = 62 ∧ (S 0 60).toNat * 6 ≤ c ∧ c < (S 0 60).toNat * 6 + w.length then w.getD (c - (S 0 60).toNat * 6) 0 else if f = 64 ∧ (S 0 60).toNat * 8 ≤ c ∧ c < (S 0 60).toNat * 8 + l.length then l.getD (c - (S 0 60).toNat * 8) 0 else S f c
def membR (B : Nat → Int) (n : Nat) (hi : Int) : Nat → Nat → List Int → Rd (List Int × Nat)
  | 0, p, l => .inr (l, p)
  | r + 1, p, l => if tK B n p = 2 then (match numR B n p 0 hi with
      | .inl e => .inl e
      | .inr a => if a.1 ∈ l then .inl (4, (tS B n p : Int)) else if l.length = 8 then .inl (5, (tS B n p : Int)) else membR B n hi r a.2 (l ++ [a.1]))
    else .inr (l, p)
def groupR (B : Nat → Int) (n : Nat) (S : St) (p : Nat) : Rd (St × Nat) :=
  if ¬ tK B n p = 1 ∨ ¬ tkL B n p ≤ 6 then .inl (1, (tS B n p : Int)) else if grpOf B n S p ≠ -1 then .inl (4, (tS B n p : Int)) else if ¬ tK B n (tE B n p) = 2 then .inl (1, (tS B n (tE B n p) : Int)) else match membR B n (subN S) 9 (tE B n p) [] with
    | .inl e => .inl e
    | .inr a => match semR B n a.2 with
      | .inl e => .inl e
      | .inr p2 => .inr (addGrp S (tW B n p) a.1, p2)
def grpsR (B : Nat → Int) (n : Nat) : Nat → St → Nat → Rd (St × Nat)
  | 0, S, k => .inr (S, k)
  | r + 1, S, k => if isW B n k wGroup = true then (if S 0 60 = 4 then .inl (5, (tS B n k : Int)) else match groupR B n S (tE B n k) with
      | .inl e => .inl e
      | .inr a => grpsR B n r a.1 a.2)
    else .inr (S, k)
def headR (B : Nat → Int) (n : Nat) (S : St) : Rd (St × Nat) := if isW B n 0 wExch = true then (match numR B n (tE B n 0) 1 6 with
  | .inl e => .inl e
  | .inr s => match numR B n s.2 1 6 with
    | .inl e => .inl e
    | .inr l => match numR B n l.2 1 9 with
      | .inl e => .inl e
      | .inr mm => match semR B n mm.2 with
        | .inl e => .inl e
        | .inr p => grpsR B n 5 (clearS S s.1 l.1 mm.1) p)
  else .inl (1, (tS B n 0 : Int))
/-- a whole text: the exchange it tells -/
def wholeR (B : Nat → Int) (n : Nat) (S : St) : Rd St := match headR B n S with
  | .inl e => .inl e
  | .inr a => match cmdsR B n 601 a.1 a.2 0 with
    | .inl e => .inl e
    | .inr b => .inr b.2
def onR (B : Nat → Int) (n : Nat) (S : St) : Rd (Int × St) := cmdsR B n 601 S 0 0
theorem tS_rng {B : Nat → Int} {n k : Nat} (h : k ≤ n) : k ≤ tS B n k ∧ tS B n k ≤ n := by have := scan_rng (p := isBlk) (B := B) (n - k) k; unfold tS; omega
theorem tE_rng {B : Nat → Int} {n k : Nat} (h : k ≤ n) : tS B n k ≤ tE B n k ∧ tE B n k ≤ n := by
  have h1 := tS_rng (B := B) h
  have h2 := scan_rng (p := isLow) (B := B) (n - tS B n k) (tS B n k)
  have h3 := scan_rng (p := isDig) (B := B) (n - tS B n k) (tS B n k)
  unfold tE
  split
  · omega
  · split
    · omega
    · split <;> omega
theorem scan_pos {p : Int → Bool} {B : Nat → Int} {r k : Nat} (h : p (B k) = true) (hr : 0 < r) : k < scan p B r k := by
  obtain ⟨r, rfl⟩ : ∃ r', r = r' + 1 := ⟨r - 1, by omega⟩
  simp only [scan]
  rw [if_pos h]
  have := scan_rng (p := p) (B := B) r (k + 1)
  omega
/-- a token other than the end has a byte at least -/
theorem tE_lt {B : Nat → Int} {n k : Nat} (h : k ≤ n) (hk : tK B n k ≠ 0) : tS B n k < n ∧ tS B n k < tE B n k := by
  have h1 := tS_rng (B := B) h
  have h0 : ¬ n ≤ tS B n k := fun e => hk (if_pos e)
  refine ⟨by omega, ?_⟩
  unfold tE
  rw [if_neg h0]
  split
  · rename_i hl; exact scan_pos hl (by omega)
  · split
    · rename_i hl; exact scan_pos hl (by omega)
    · omega
theorem tK_rng {B : Nat → Int} {n k : Nat} : 0 ≤ tK B n k ∧ tK B n k ≤ 4 := by unfold tK; split <;> (try split) <;> (try split) <;> (try split) <;> omega
theorem valL_rng {B : Nat → Int} : ∀ (r k : Nat) (v : Int), 0 ≤ v ∧ v ≤ 99999 → 0 ≤ valL B 99999 r k v ∧ valL B 99999 r k v ≤ 99999 := by
  intro r
  induction r with
  | zero => intro k v h; exact h
  | succ r ih =>
    intro k v h
    simp only [valL]
    split
    · rename_i hd
      unfold isDig at hd
      simp only [decide_eq_true_eq] at hd
      refine ih _ _ ?_
      split <;> omega
    · exact h
theorem tV_rng {B : Nat → Int} {n k : Nat} : 0 ≤ tV B n k ∧ tV B n k ≤ 99999 := by
  unfold tV
  split
  · exact valL_rng _ _ _ (by decide)
  · decide
theorem tkL_rng {B : Nat → Int} {n k : Nat} (h : k ≤ n) : 0 ≤ tkL B n k ∧ tkL B n k ≤ n := by
  have := tS_rng (B := B) h
  have := tE_rng (B := B) h
  unfold tkL
  split <;> omega
/-- words as numbers -/
def spellF : Nat → List Int → Int
  | _, [] => 0
  | 0, _ => 0
  | r + 1, l => spellF r l.dropLast * 32 + (l.getLast?.getD 0) - 96
def spell (l : List Int) : Int := l.foldl (fun x b => x * 32 + b - 96) 0
theorem spell_snoc (l : List Int) (b : Int) : spell (l ++ [b]) = spell l * 32 + b - 96 := by unfold spell; rw [List.foldl_append]; rfl
theorem spell_nn : ∀ (m : Nat) (l : List Int), l.length = m → (∀ b ∈ l, 97 ≤ b ∧ b ≤ 122) → 0 ≤ spell l ∧ (l ≠ [] → 0 < spell l) ∧ spell l < 32 ^ m := by
  intro m
  induction m with
  | zero => intro l h _; have : l = [] := List.length_eq_zero_iff.mp h; subst this; exact ⟨by decide, fun h => absurd rfl h, by decide⟩
  | succ m ih =>
    intro l h hb
    have hne : l ≠ [] := by intro e; subst e; simp at h
    have e := List.dropLast_concat_getLast hne
    have hl : l.dropLast.length = m := by rw [List.length_dropLast]; omega
    obtain ⟨a1, a2, a3⟩ := ih l.dropLast hl (fun b hb' => hb b (List.dropLast_subset l hb'))
    have g := hb (l.getLast hne) (List.getLast_mem hne)
    rw [← e, spell_snoc]
    have e3 : (32 : Int) ^ (m + 1) = 32 ^ m * 32 := Int.pow_succ 32 m
    refine ⟨by omega, fun _ => by omega, ?_⟩
    rw [e3]
    omega
theorem spell_inj : ∀ (m : Nat) (l w : List Int), l.length = m → (∀ b ∈ l, 97 ≤ b ∧ b ≤ 122) → (∀ b ∈ w, 97 ≤ b ∧ b ≤ 122) → spell l = spell w → l = w := by
  intro m
  induction m with
  | zero =>
    intro l w h hl hw e
    have h0 : l = [] := List.length_eq_zero_iff.mp h
    subst h0
    by_cases hne : w = []
    · exact hne.symm
    · have := (spell_nn w.length w rfl hw).2.1 hne
      have e0 : spell [] = 0 := rfl
      omega
  | succ m ih =>
    intro l w h hl hw e
    have hne : l ≠ [] := by intro e; subst e; simp at h
    have hp := (spell_nn l.length l rfl hl).2.1 hne
    have hwne : w ≠ [] := by intro e'; subst e'; have e0 : spell [] = 0 := rfl; omega
    have e1 := List.dropLast_concat_getLast hne
    have e2 := List.dropLast_concat_getLast hwne
    have g1 := hl (l.getLast hne) (List.getLast_mem hne)
    have g2 := hw (w.getLast hwne) (List.getLast_mem hwne)
    rw [← e1, ← e2, spell_snoc, spell_snoc] at e
    have hb : l.getLast hne = w.getLast hwne := by omega
    have hs : spell l.dropLast = spell w.dropLast := by omega
    have := ih l.dropLast w.dropLast (by rw [List.length_dropLast]; omega) (fun b hb' => hl b (List.dropLast_subset l hb')) (fun b hb' => hw b (List.dropLast_subset w hb')) hs
    rw [← e1, ← e2, this, hb]
theorem tW_len {B : Nat → Int} {n k : Nat} : (tW B n k).length = tE B n k - tS B n k := by unfold tW; rw [List.length_map, List.length_range]
theorem tW_low {B : Nat → Int} {n k : Nat} (h : tK B n k = 1) : ∀ b ∈ tW B n k, 97 ≤ b ∧ b ≤ 122 := by
  intro b hb
  unfold tW at hb
  obtain ⟨i, hi, rfl⟩ := List.mem_map.mp hb
  rw [List.mem_range] at hi
  unfold tK at h
  split at h
  · omega
  · rename_i h0
    split at h
    · rename_i hl
      have e : tE B n k = scan isLow B (n - tS B n k) (tS B n k) := by unfold tE; rw [if_neg h0, if_pos hl]
      rw [e] at hi
      have := scan_all (p := isLow) (B := B) (n - tS B n k) (tS B n k) (tS B n k + i) (by omega) (by omega)
      unfold isLow at this
      simpa using this
    · split at h
      · omega
      · split at h <;> omega
/-- what the model makes of a word -/
def spellK (B : Nat → Int) (n k : Nat) : Int := if tK B n k = 1 ∧ tkL B n k ≤ 12 then spell (tW B n k) else 0
theorem spellK_rng {B : Nat → Int} {n k : Nat} : 0 ≤ spellK B n k ∧ spellK B n k < 32 ^ 12 := by
  unfold spellK
  split
  · rename_i h
    obtain ⟨a, b, c⟩ := spell_nn _ (tW B n k) rfl (tW_low h.1)
    refine ⟨a, Int.lt_of_lt_of_le c ?_⟩
    have hl : (tW B n k).length ≤ 12 := by
      have := h.2
      unfold tkL at this
      rw [if_pos h.1] at this
      rw [tW_len]
      omega
    exact_mod_cast Nat.pow_le_pow_right (show 0 < 32 by decide) hl
  · decide
theorem spellK_iff {B : Nat → Int} {n k : Nat} {w : List Int} (hw : ∀ b ∈ w, 97 ≤ b ∧ b ≤ 122) (h0 : w ≠ []) (h12 : w.length ≤ 12) : spellK B n k = spell w ↔ isW B n k w = true := by
  have hp := (spell_nn w.length w rfl hw).2.1 h0
  unfold isW
  simp only [Bool.and_eq_true, decide_eq_true_eq]
  unfold spellK
  constructor
  · intro h
    split at h
    · rename_i hc
      exact ⟨hc.1, spell_inj _ _ _ rfl (tW_low hc.1) hw h⟩
    · omega
  · rintro ⟨h1, h2⟩
    have hl : tkL B n k ≤ 12 := by
      unfold tkL
      rw [if_pos h1, ← tW_len, h2]
      omega
    rw [if_pos ⟨h1, hl⟩, h2]
