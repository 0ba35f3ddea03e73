/-! THE TOY CALCULUS, 2: what a heap of the machine has to do with a toy heap; TW, TC -/
def fval (f : Nat) (G : GH) (a : Nat) : Value := match fy f with
  | 0 => tI (fI G f a)
  | 1 => tR (fR G f a)
  | _ => .float (UInt32.ofNat (fI G f a).toNat)
def aval (t : Nat) (G : GH) (a i : Nat) : Value := match ay t with
  | 0 => tI (aI G a i)
  | 1 => tR (aR G a i)
  | _ => tL (aI G a i)
/-- our own objects' monitors are free -/
def MonF (k : Nat) (o : Option Cell) : Prop := k ≠ 0 → k < 21 → ∀ cell : Cell, o = some cell → cell.monitor.owner = none ∧ cell.monitor.count = 0
theorem MonF.big {k : Nat} {o : Option Cell} (h : 21 ≤ k) : MonF k o := fun _ h2 => absurd h2 (by omega)
theorem MonF.slot {k : Nat} {o : Option Cell} {cell : Cell} {i : Nat} {v : Value} (h : MonF k o) (ho : o = some cell) : MonF k (some (cell.setSlot i v)) := by
  intro h1 h2 c hc
  cases hc
  exact h h1 h2 cell ho
def CellOK (Z : ZT) (G : GH) (a : Nat) (H : Heap) : Prop :=
  (∀ (c : Nat) (r : vw_C), CL[c]? = some r → (gK G a = c + 1 ∨ gK G a = c + 501) → ∃ cell : Cell, H[a]? = some cell ∧ cell.cls = zC Z c ∧ cell.vm = .none ∧ ∀ (j f : Nat), (FL c)[j]? = some f → cell.slots[zF Z c j]? = some (fval f G a)) ∧
  (∀ (t : Nat) (ty : FieldType), AT[t]? = some ty → (gK G a = 100 + t ∨ gK G a = 600 + t) → H[a]? = some (arrV (zA Z t) (gL G a) (aval t G a)) ∧ gL G a < 2 ^ 31) ∧
  (∀ (c : Nat) (nm : String), XL[c]? = some nm → gK G a = 301 + c → ∃ cell : Cell, H[a]? = some cell ∧ cell.vm = .none ∧ (zS Z).vm.findClass nm = some cell.cls) ∧
  (gK G a ≠ 0 → gK G a < 500 → zz Z ≤ a) ∧ MonF (gK G a) H[a]?
def RelH (Z : ZT) (G : GH) (H : Heap) : Prop :=
  H.size = gn G ∧ zz Z ≤ gn G ∧ (∀ q : Nat, q < zz Z → H[q]? = (zS Z).heap[q]?) ∧
  (∀ a : Nat, gn G ≤ a → gK G a = 0 ∧ (∀ f : Nat, fI G f a = 0 ∧ fR G f a = none) ∧ ∀ i : Nat, aI G a i = 0 ∧ aR G a i = none) ∧ ∀ a : Nat, CellOK Z G a H
def zVal (Z : ZT) (v : Int ⊕ Nat) : Value := match v with
  | .inl x => tI x
  | .inr k => .ref (zE Z k)
/-- the start's own facts -/
def Zok (Z : ZT) : Prop :=
  (∀ w ∈ lw_tbl, w.before #[Value.ref (zB Z)] (zS Z) = true) ∧
  (∀ (c : Nat) (r : vw_C), CL[c]? = some r → u_Kn (zS Z) r.1 r.2.1 r.2.2 (zC Z c) (zF Z c)) ∧
  (∀ (t : Nat) (ty : FieldType), AT[t]? = some ty → ArrOfT (zS Z) (zA Z t) ty ∧ va_RA (zS Z) (zA Z t) ty) ∧
  (∀ q ∈ NCL, va_Nc q.1 q.2 (zS Z)) ∧ (∀ q ∈ STL, vk_R q.1 q.2.1 q.2.2.1 (zE Z q.2.2.2) (zS Z)) ∧ (∀ q ∈ SVL, va_Z q.1 q.2.1 q.2.2.1 (zVal Z q.2.2.2) (fun a => zz Z ≤ a) (zS Z) (zS Z).heap)
/-- where a body stands -/
def TCx (Z : ZT) (mi : MI) (p : Program) (l : Launch) (s : State) (m : MethodId) (meth : Method) (c : Code) : Prop :=
  p.tables.exec = Jvm.exec ∧ c.code = mC mi ∧ meth.sig.returnType = mR mi ∧ meth.locks = false ∧ c.maxLocals = mL mi ∧ s.vm.findClass (mN mi).cls = some m.cls ∧ meth.name = (mN mi).name ∧ c.exceptionTable.toList = tableOf (mH mi) ∧ (zS Z).WarmedH s.vm ∧ l.stackTraces = false ∧ Zok Z
/-- the answer's outcome -/
def OutOf (r : TR) (o : Outcome) : Prop := match r with
  | .inl v => o = .returned v
  | .inr q => o = .threw q
def tQ (Z : ZT) (r : TR) (G' : GH) (mc ms : Nat) : Array Value → State → Outcome → State → Prop := fun _ s o t =>
  OutOf r o ∧ ∃ L : List Loc, s.WarmedH t.vm ∧ s.sameButNew ({ t with vm := s.vm } : State) L mc ms ∧ (∀ z ∈ L, zz Z ≤ z.base) ∧ RelH Z G' t.heap
def EQ (Z : ZT) (r : TR) (G' : GH) (below : List Frame) (args : Array Value) (s : State) (mc ms : Nat) : State → Prop := fun t =>
  ∃ o, t.status = .running ∧ Ended t below o ∧ tQ Z r G' mc ms args s o t
/-- what a walk has at hand, between G (now) and G' (at the end) -/
def TB (Z : ZT) (mi : MI) (d : Nat) (G G' : GH) (p : Program) (l : Launch) (R : Room) (s : State) (m : MethodId) (meth : Method) (c : Code) (H : Heap) (locs : List Loc) (cells slots mc ms : Nat) : Prop :=
  TCx Z mi p l s m meth c ∧ RelH Z G H ∧ (∀ z ∈ locs, zz Z ≤ z.base) ∧ (d ≤ R.frames ∧ 96 * d ≤ R.locals) ∧ cells + (gn G' - gn G) ≤ mc ∧ slots + (gs G' - gs G) ≤ ms ∧ mc ≤ R.cells ∧ ms ≤ R.slots
def TW (Z : ZT) (mi : MI) (d pc : Nat) (lv : List (Option Value)) (st : List Value) (G : GH) (Q : TR → GH → Prop) : Prop :=
  ∃ (r : TR) (G' : GH), Q r G' ∧ (gn G ≤ gn G' ∧ gs G ≤ gs G') ∧
    ∀ p l e R s m args below meth c H locs cells slots mc ms, TB Z mi d G G' p l R s m meth c H locs cells slots mc ms →
      ∀ ls, lvh ls (mL mi) lv → W p l e R s m args below meth c H locs cells slots (EQ Z r G' below args s mc ms) (F0 m pc ls st)
/-- the room of a call at depth d that makes k cells of n slots -/
abbrev tRoom (d k n : Nat) : Room := { frames := d, cells := k, slots := n, locals := 96 * d }
/-- a call at depth d -/
def TC (Z : ZT) (d : Nat) (mi : MI) (args : List Value) (G : GH) (Q : TR → GH → Prop) : Prop :=
  ∃ (r : TR) (G' : GH), Q r G' ∧ (gn G ≤ gn G' ∧ gs G ≤ gs G') ∧
    ∀ l : Launch, l.stackTraces = false → MetFree l (mN mi) (headSpec [mW mi] (tRoom d (gn G' - gn G) (gs G' - gs G)))
      (fun v U => v = args.toArray ∧ RelH Z G U.heap ∧ (zS Z).WarmedH U.vm ∧ Zok Z) (fun _ _ _ _ _ => True) (tQ Z r G' (gn G' - gn G) (gs G' - gs G))
theorem TW.mono {Z : ZT} {mi : MI} {d pc : Nat} {lv : List (Option Value)} {st : List Value} {G : GH} {Q Q' : TR → GH → Prop} (h : TW Z mi d pc lv st G Q) (hq : ∀ r G', Q r G' → Q' r G') : TW Z mi d pc lv st G Q' := by
  obtain ⟨r, G', h1, h2⟩ := h
  exact ⟨r, G', hq _ _ h1, h2⟩
theorem TC.mono {Z : ZT} {mi : MI} {d : Nat} {args : List Value} {G : GH} {Q Q' : TR → GH → Prop} (h : TC Z d mi args G Q) (hq : ∀ r G', Q r G' → Q' r G') : TC Z d mi args G Q' := by
  obtain ⟨r, G', h1, h2⟩ := h
  exact ⟨r, G', hq _ _ h1, h2⟩
/-- fewer locals known -/
theorem TW.sub {Z : ZT} {mi : MI} {d pc : Nat} {lv lv' : List (Option Value)} {st : List Value} {G : GH} {Q : TR → GH → Prop} (h : TW Z mi d pc lv' st G Q) (hs : ∀ (i : Nat) (v : Value), lv'[i]? = some (some v) → lv[i]? = some (some v)) : TW Z mi d pc lv st G Q := by
  obtain ⟨r, G', h1, h2, h3⟩ := h
  exact ⟨r, G', h1, h2, fun p l e R s m args below meth c H locs cells slots mc ms B ls hl => h3 p l e R s m args below meth c H locs cells slots mc ms B ls (lvh_sub hl hs)⟩
/-- an instruction that leaves the heap alone -/
theorem TW.step {Z : ZT} {mi : MI} {d pc pc' : Nat} {lv lv' : List (Option Value)} {st st' : List Value} {G : GH} {Q : TR → GH → Prop}
    (h : ∀ p l e R s m args below meth c H locs cells slots Qf, TCx Z mi p l s m meth c → ∀ ls, lvh ls (mL mi) lv → (∀ ls', lvh ls' (mL mi) lv' → W p l e R s m args below meth c H locs cells slots Qf (F0 m pc' ls' st')) → W p l e R s m args below meth c H locs cells slots Qf (F0 m pc ls st))
    (k : TW Z mi d pc' lv' st' G Q) : TW Z mi d pc lv st G Q := by
  obtain ⟨r, G', h1, h2, h3⟩ := k
  exact ⟨r, G', h1, h2, fun p l e R s m args below meth c H locs cells slots mc ms B ls hl => h p l e R s m args below meth c H locs cells slots _ B.1 ls hl (fun ls' hl' => h3 p l e R s m args below meth c H locs cells slots mc ms B ls' hl')⟩
/-- .. and the locals, too -/
theorem TW.step0 {Z : ZT} {mi : MI} {d pc pc' : Nat} {lv : List (Option Value)} {st st' : List Value} {G : GH} {Q : TR → GH → Prop}
    (h : ∀ p l e R s m args below meth c H locs cells slots Qf, TCx Z mi p l s m meth c → ∀ ls, lvh ls (mL mi) lv → W p l e R s m args below meth c H locs cells slots Qf (F0 m pc' ls st') → W p l e R s m args below meth c H locs cells slots Qf (F0 m pc ls st))
    (k : TW Z mi d pc' lv st' G Q) : TW Z mi d pc lv st G Q :=
  TW.step (fun p l e R s m args below meth c H locs cells slots Qf C ls hl kk => h p l e R s m args below meth c H locs cells slots Qf C ls hl (kk ls hl)) k
/-- .. but reads it -/
theorem TW.stepR {Z : ZT} {mi : MI} {d pc pc' : Nat} {lv : List (Option Value)} {st st' : List Value} {G : GH} {Q : TR → GH → Prop}
    (h : ∀ p l e R s m args below meth c H locs cells slots Qf, TCx Z mi p l s m meth c → RelH Z G H → ∀ ls, lvh ls (mL mi) lv → W p l e R s m args below meth c H locs cells slots Qf (F0 m pc' ls st') → W p l e R s m args below meth c H locs cells slots Qf (F0 m pc ls st))
    (k : TW Z mi d pc' lv st' G Q) : TW Z mi d pc lv st G Q := by
  obtain ⟨r, G', h1, h2, h3⟩ := k
  exact ⟨r, G', h1, h2, fun p l e R s m args below meth c H locs cells slots mc ms B ls hl => h p l e R s m args below meth c H locs cells slots _ B.1 B.2.1 ls hl (h3 p l e R s m args below meth c H locs cells slots mc ms B ls hl)⟩
/-- a write into a cell of ours: the heap's size stays, the slots written lie in our own part -/
theorem TW.stepH {Z : ZT} {mi : MI} {d pc pc' : Nat} {lv : List (Option Value)} {st st' : List Value} {G G1 : GH} {Q : TR → GH → Prop} (hn : gn G1 = gn G) (hs : gs G1 = gs G)
    (h : ∀ p l e R s m args below meth c H locs cells slots Qf, TCx Z mi p l s m meth c → RelH Z G H → ∀ ls, lvh ls (mL mi) lv →
      (∀ H1 loc, RelH Z G1 H1 → zz Z ≤ loc.base → W p l e R s m args below meth c H1 (locs ++ [loc]) cells slots Qf (F0 m pc' ls st')) → W p l e R s m args below meth c H locs cells slots Qf (F0 m pc ls st))
    (k : TW Z mi d pc' lv st' G1 Q) : TW Z mi d pc lv st G Q := by
  obtain ⟨r, G', h1, h2, h3⟩ := k
  rw [hn, hs] at h2
  refine ⟨r, G', h1, h2, fun p l e R s m args below meth c H locs cells slots mc ms B ls hl => h p l e R s m args below meth c H locs cells slots _ B.1 B.2.1 ls hl (fun H1 loc r1 l1 => ?_)⟩
  obtain ⟨b1, b2, b3, b4, b5, b6, b7, b8⟩ := B
  refine h3 p l e R s m args below meth c H1 (locs ++ [loc]) cells slots mc ms ⟨b1, r1, fun z hz => ?_, b4, by rw [hn]; exact b5, by rw [hs]; exact b6, b7, b8⟩ ls hl
  rcases List.mem_append.mp hz with h | h
  · exact b3 z h
  · rw [List.mem_singleton.mp h]; exact l1
/-- a new cell of N slots -/
theorem TW.stepN {Z : ZT} {mi : MI} {d pc pc' : Nat} {lv : List (Option Value)} {st st' : List Value} {G G1 : GH} {Q : TR → GH → Prop} {N : Nat} (hn : gn G1 = gn G + 1) (hs : gs G1 = gs G + N)
    (h : ∀ p l e R s m args below meth c H locs cells slots Qf, TCx Z mi p l s m meth c → RelH Z G H → cells + 1 ≤ R.cells → slots + N ≤ R.slots → ∀ ls, lvh ls (mL mi) lv →
      (∀ H1, RelH Z G1 H1 → W p l e R s m args below meth c H1 locs (cells + 1) (slots + N) Qf (F0 m pc' ls st')) → W p l e R s m args below meth c H locs cells slots Qf (F0 m pc ls st))
    (k : TW Z mi d pc' lv st' G1 Q) : TW Z mi d pc lv st G Q := by
  obtain ⟨r, G', h1, h2, h3⟩ := k
  rw [hn, hs] at h2
  refine ⟨r, G', h1, ⟨by omega, by omega⟩, fun p l e R s m args below meth c H locs cells slots mc ms B ls hl => ?_⟩
  obtain ⟨b1, b2, b3, b4, b5, b6, b7, b8⟩ := B
  refine h p l e R s m args below meth c H locs cells slots _ b1 b2 (by omega) (by omega) ls hl (fun H1 r1 => ?_)
  exact h3 p l e R s m args below meth c H1 locs (cells + 1) (slots + N) mc ms ⟨b1, r1, b3, b4, by omega, by omega, b7, b8⟩ ls hl
