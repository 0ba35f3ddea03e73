/-! THE EXCHANGE, 1: an exchange object and what it stands for -/
/-- a string of Latin letters l -/
def StrO (G : GH) (s : Nat) (l : List Nat) : Prop :=
  (gK G s = 17 ∨ gK G s = 517) ∧ gP G s = s ∧ s < gn G ∧ fI G 136 s = 0 ∧ ∃ v, fR G 135 s = some v ∧ KA (gK G v) 1 ∧ gL G v = l.length ∧ Frz G v ∧ ∀ i, i < l.length → aI G v i = ((l.getD i 0 : Nat) : Int)
/-- a word of the texts' -/
def Wd (l : List Nat) : Prop := 1 ≤ l.length ∧ l.length ≤ 6 ∧ ∀ c ∈ l, 97 ≤ c ∧ c ≤ 122
def hashN (l : List Nat) : Nat := l.foldl (fun h c => 31 * h + c) 0
def hashI (l : List Nat) : Int := (Int32.ofInt (hashN l : Int)).toInt
def spreadI (h : Int) : Int := ixor h (iushr h 16)
/-- a word as a key: its hash is kept -/
def KyW (G : GH) (k : Nat) (c : Int) : Prop := ∃ l, Wd l ∧ StrO G k l ∧ fI G 137 k = hashI l ∧ c = spreadI (hashI l)
theorem StrO.md {P : Nat → Prop} {G G' : GH} {s : Nat} {l : List Nat} (h : StrO G s l) (m : Md P G G') (hp : FP G P) : StrO G' s l := by
  obtain ⟨h1, h2, h3, h4, v, h5, h6, h7, h8, h10⟩ := h
  have t := m.sm h3 (hp.root h3 h2)
  have u := m.sm h8.1 (hp v h8)
  exact ⟨by rw [t.1]; exact h1, t.2.2.1.trans h2, Nat.lt_of_lt_of_le h3 m.1, (t.2.2.2.1 136).1.trans h4, v, (t.2.2.2.1 135).2.trans h5, by rw [u.1]; exact h6, u.2.1.trans h7, h8.md m, fun i hi => (u.2.2.2.2 i).1.trans (h10 i hi)⟩
theorem KyW.md {P : Nat → Prop} {G G' : GH} {k : Nat} {c : Int} (h : KyW G k c) (m : Md P G G') (hp : FP G P) : KyW G' k c := by
  obtain ⟨l, h1, h2, h3, h4⟩ := h
  exact ⟨l, h1, h2.md m hp, ((m.sm h2.2.2.1 (hp.root h2.2.2.1 h2.2.1)).2.2.2.1 137).1.trans h3, h4⟩
/-- the parts of the exchange e: calls b+1, carried b+2, cut b+3 (its map b+4), names b+5, groups b+6, waiting b+7, accounts b+8, probe b+9, talks b+10 -/
def RegE (G : GH) (e b c : Nat) : Prop := c = e ∨ gP G c = e ∨ gP G c = b + 2 ∨ gP G c = b + 4 ∨ gP G c = b + 5 ∨ gP G c = b + 6 ∨ gP G c = b + 7
def CallO (G : GH) (e a : Nat) (S : St) (c : Nat) : Prop := gK G a = 9 ∧ gP G a = e ∧ a < gn G ∧ fI G 105 a = S 48 c ∧ fI G 106 a = S 49 c ∧ fI G 107 a = S 50 c ∧ fI G 108 a = S 52 c ∧ fI G 109 a = S 53 c ∧ fI G 110 a = S 51 c ∧ fI G 111 a = S 54 c
def callA (G : GH) (b : Nat) (S : St) (c : Nat) : Nat := (aR G (b + 1) (S 48 c).toNat).getD 0
/-- its shape -/
def ShE (G : GH) (e b : Nat) : Prop :=
  gK G e = 2 ∧ e < gn G ∧ e ≤ b ∧ b + 10 < gn G ∧ (gP G e < gn G ∧ gK G (gP G e) = 1 ∧ gP G (gP G e) ≠ gP G e) ∧
    (fR G 12 e = some (b + 1) ∧ fR G 13 e = some (b + 10) ∧ fR G 14 e = some (b + 2) ∧ fR G 15 e = some (b + 3) ∧ fR G 16 e = some (b + 5) ∧ fR G 17 e = some (b + 6) ∧ fR G 18 e = some (b + 7) ∧ fR G 19 e = some (b + 8) ∧ fR G 20 e = some (b + 9)) ∧
    (∀ k, 1 ≤ k → k ≤ 10 → gP G (b + k) = e) ∧ (gK G (b + 1) = 105 ∧ gL G (b + 1) = 200 ∧ gK G (b + 2) = 12 ∧ gK G (b + 3) = 13 ∧ gK G (b + 4) = 12 ∧ gK G (b + 5) = 14 ∧ gK G (b + 6) = 15 ∧ gK G (b + 7) = 15 ∧ gK G (b + 8) = 100 ∧ gL G (b + 8) = 13 ∧ gK G (b + 9) = 3 ∧ gK G (b + 10) = 105)
def ScE (G : GH) (e b : Nat) (S : St) : Prop :=
  fI G 9 e = S 0 38 ∧ fI G 10 e = S 0 39 ∧ fI G 11 e = S 0 40 ∧ fI G 21 e = S 0 46 ∧ fI G 22 e = S 0 44 ∧ fI G 23 e = S 0 42 ∧ fI G 24 e = S 0 43 ∧ fI G 25 e = S 0 45 ∧ gL G (b + 10) = (S 0 38 * S 0 39).toNat ∧ ∀ k, k < 13 → aI G (b + 8) k = S 65 k
def CallsE (G : GH) (e b : Nat) (S : St) : Prop :=
  (∀ c : Nat, c < (S 0 47).toNat → aR G (b + 1) (S 48 c).toNat = some (callA G b S c) ∧ CallO G e (callA G b S c) S c) ∧
    (∀ k : Nat, k < 200 → (∀ c : Nat, c < (S 0 47).toNat → S 48 c ≠ (k : Int)) → aR G (b + 1) k = none) ∧
    ∀ s : Nat, s < (S 0 38 * S 0 39).toNat → aR G (b + 10) s = if callWith S (s : Int) = -1 then none else some (callA G b S (callWith S (s : Int)).toNat)
def CarrE (G : GH) (b : Nat) (S T : St) : Prop := ∃ n f, MapV KS G (b + 2) n f ∧ (n : Int) = 2 * sumI (fun c => b2i (decide (T 51 c ≠ -1))) (S 0 47).toNat 0 ∧
  ∀ (m i : Nat) (t : Bool), m ≤ 8 → i ≤ 5 → f (spc m i t.toNat) = if carriedAt T (m : Int) (i : Int) t = -1 then none else some (callA G b S (carriedAt T (m : Int) (i : Int) t).toNat)
def CutE (Z : ZT) (G : GH) (b : Nat) (S : St) : Prop := ∃ n f, SetV Z G (b + 3) (b + 4) n f ∧ (n : Int) = S 0 40 - inOrd S ∧ ∀ k : Nat, (k : Int) < S 0 40 → (f (k : Int) = none ↔ isCutB S (k : Int) = false)
def gword (S : St) (g : Nat) : List Nat := (List.range (S 61 g).toNat).map (fun i => (S 62 (6 * g + i)).toNat)
def NamesE (G : GH) (b : Nat) (S : St) : Prop := ∃ n f, MapV KyW G (b + 5) n f ∧ n = (S 0 60).toNat ∧
  (∀ g : Nat, g < (S 0 60).toNat → ∃ a, f (spreadI (hashI (gword S g))) = some a ∧ IntO G a (g : Int)) ∧ ∀ c, f c ≠ none → ∃ g : Nat, g < (S 0 60).toNat ∧ c = spreadI (hashI (gword S g))
def GroupO (Z : ZT) (G : GH) (a : Nat) (S : St) (g : Nat) : Prop :=
  gK G a = 4 ∧ gP G a = a ∧ a < gn G ∧ ∃ s l ml, fR G 29 a = some s ∧ StrO G s (gword S g) ∧ fI G 137 s = hashI (gword S g) ∧ Wd (gword S g) ∧ fR G 30 a = some l ∧ AL Z G l ml ∧ gP G l = l ∧ ml.length = (S 63 g).toNat ∧ ∀ k, k < ml.length → IntO G (ml.getD k 0) (S 64 (8 * g + k))
def GroupsE (Z : ZT) (G : GH) (b : Nat) (S : St) : Prop := ∃ gl, AL Z G (b + 6) gl ∧ gl.length = (S 0 60).toNat ∧ ∀ g, g < gl.length → GroupO Z G (gl.getD g 0) S g
def WaiterO (G : GH) (a : Nat) (S : St) (w : Nat) : Prop := gK G a = 10 ∧ gP G a = a ∧ a < gn G ∧ fI G 112 a = S 56 w ∧ fI G 113 a = S 57 w ∧ fI G 114 a = S 58 w ∧ fI G 115 a = S 59 w
/-- the waiters' addresses, read from the heap -/
def WL (G : GH) (b : Nat) : List Nat := (List.range (fI G 133 (b + 7)).toNat).map (fun i => (aR G ((fR G 132 (b + 7)).getD 0) i).getD 0)
def WaitE (Z : ZT) (G : GH) (b : Nat) (S : St) : Prop := AL Z G (b + 7) (WL G b) ∧ (WL G b).length = (S 0 55).toNat ∧ ∀ w, w < (WL G b).length → WaiterO G ((WL G b).getD w 0) S w
/-- the exchange e stands for S; what its map carries is T's -/
def Rep (Z : ZT) (G : GH) (e b : Nat) (S T : St) : Prop :=
  ShE G e b ∧ ScE G e b S ∧ CallsE G e b S ∧ CarrE G b S T ∧ CutE Z G b S ∧ NamesE G b S ∧ GroupsE Z G b S ∧ WaitE Z G b S
theorem AL.wl {Z : ZT} {G : GH} {b : Nat} {l : List Nat} (h : AL Z G (b + 7) l) : l = WL G b := by
  obtain ⟨h1, h2, h3, h4, r, h5, h6, h7⟩ := h
  unfold WL
  rw [h3, h5, Int.toNat_natCast]
  apply List.ext_getElem
  · simp
  · intro i i1 i2
    rcases h7 with ⟨e, -⟩ | ⟨-, -, -, -, e⟩
    · subst e; exact absurd i1 (Nat.not_lt_zero _)
    · have := e i i1
      simp only [List.getElem_map, List.getElem_range, Option.getD_some, this, List.getD_eq_getElem?_getD, List.getElem?_eq_getElem i1, Option.getD_some]
section MDE
variable {Z : ZT} {G G' : GH} {P : Nat → Prop} {e b : Nat} {S T : St}
/-- all of e but the probe is kept -/
def KpE (G : GH) (P : Nat → Prop) (e b : Nat) : Prop := ∀ c, c < gn G → RegE G e b c → c ≠ b + 9 → ¬ P c
theorem ShE.md (h : ShE G e b) (m : Md P G G') (k : KpE G P e b) : ShE G' e b := by
  obtain ⟨h1, h2, h3, h4, ⟨h5, h6, h7⟩, h8, h9, h10⟩ := h
  have s := m.sm h2 (k e h2 (Or.inl rfl) (by omega))
  have pe : gP G' e = gP G e := m.p h2
  have K : ∀ j, j ≤ 10 → gK G' (b + j) = gK G (b + j) := fun j hj => m.k (by omega)
  have L : ∀ j, j ≤ 10 → gL G' (b + j) = gL G (b + j) := fun j hj => m.l (by omega)
  refine ⟨s.1.trans h1, by have := m.le; omega, h3, by have := m.le; omega, ⟨by rw [pe]; have := m.le; omega, by rw [pe, m.k h5]; exact h6, by rw [pe, m.p h5]; exact h7⟩, ?_, fun j j1 j2 => (m.p (by omega)).trans (h9 j j1 j2), ?_⟩
  · simp only [fun f => (s.2.2.2.1 f).2]; exact h8
  · rw [K 1 (by decide), L 1 (by decide), K 2 (by decide), K 3 (by decide), K 4 (by decide), K 5 (by decide), K 6 (by decide), K 7 (by decide), K 8 (by decide), L 8 (by decide), K 9 (by decide), K 10 (by decide)]
    exact h10
theorem ShE.part (h : ShE G e b) (j : Nat) (j1 : 1 ≤ j) (j2 : j ≤ 10) : RegE G e b (b + j) ∧ b + j < gn G := ⟨Or.inr (Or.inl (h.2.2.2.2.2.2.1 j j1 j2)), by have := h.2.2.2.1; omega⟩
theorem ShE.psm (h : ShE G e b) (m : Md P G G') (k : KpE G P e b) (j : Nat) (j1 : 1 ≤ j) (j2 : j ≤ 10) (j3 : j ≠ 9) : SmA G G' (b + j) := m.sm (h.part j j1 j2).2 (k _ (h.part j j1 j2).2 (h.part j j1 j2).1 (by omega))
theorem callA_md (h : ShE G e b) (m : Md P G G') (k : KpE G P e b) (c : Nat) : callA G' b S c = callA G b S c := by
  have s := h.psm m k 1 (by decide) (by decide) (by decide)
  unfold callA
  rw [(s.2.2.2.2 _).2]
theorem CallO.md {a c : Nat} (h : CallO G e a S c) (m : Md P G G') (hp : ¬ P a) : CallO G' e a S c := by
  obtain ⟨h1, h2, h3, h4, h5, h6, h7, h8, h9, h10⟩ := h
  have s := m.sm h3 hp
  have f := fun i => (s.2.2.2.1 i).1
  exact ⟨s.1.trans h1, s.2.2.1.trans h2, Nat.lt_of_lt_of_le h3 m.1, (f 105).trans h4, (f 106).trans h5, (f 107).trans h6, (f 108).trans h7, (f 109).trans h8, (f 110).trans h9, (f 111).trans h10⟩
theorem GroupO.md {a g : Nat} (h : GroupO Z G a S g) (m : Md P G G') (hp : FP G P) : GroupO Z G' a S g := by
  obtain ⟨h1, h2, h3, s, l, ml, h4, h5, h6, h7, h8, h9, h10, h11, h12⟩ := h
  have t := m.sm h3 (hp.root h3 h2)
  have u := m.sm h5.2.2.1 (hp.root h5.2.2.1 h5.2.1)
  have hl := h9.2.1
  refine ⟨t.1.trans h1, t.2.2.1.trans h2, Nat.lt_of_lt_of_le h3 m.1, s, l, ml, (t.2.2.2.1 29).2.trans h4, h5.md m hp, (u.2.2.2.1 137).1.trans h6, h7, (t.2.2.2.1 30).2.trans h8, h9.md m (fun c hc hh => ?_), (m.p hl).trans h10, h11, fun k hk => (h12 k hk).md m hp⟩
  rcases hh with hh | ⟨hh, -⟩
  · rw [hh]; exact hp.root hl h10
  · exact hp c ⟨hc, by rw [hh]; exact hl, by rw [hh]; exact h10⟩
theorem WaiterO.md {a w : Nat} (h : WaiterO G a S w) (m : Md P G G') (hp : FP G P) : WaiterO G' a S w := by
  obtain ⟨h1, h2, h3, h4, h5, h6, h7⟩ := h
  have s := m.sm h3 (hp.root h3 h2)
  have f := fun i => (s.2.2.2.1 i).1
  exact ⟨s.1.trans h1, s.2.2.1.trans h2, Nat.lt_of_lt_of_le h3 m.1, (f 112).trans h4, (f 113).trans h5, (f 114).trans h6, (f 115).trans h7⟩
theorem Rep.md (h : Rep Z G e b S T) (m : Md P G G') (k : KpE G P e b) (hp : FP G P) : Rep Z G' e b S T ∧ WL G' b = WL G b ∧ ∀ c, callA G' b S c = callA G b S c := by
  obtain ⟨h1, h2, h3, h4, h5, h6, h7, h8⟩ := h
  have sh := h1.md m k
  have cA := fun c => callA_md (S := S) h1 m k c
  have s := m.sm h1.2.1 (k e h1.2.1 (Or.inl rfl) (by have := h1.2.2.1; omega))
  have p := fun j j1 j2 j3 => h1.psm m k j j1 j2 j3
  have e1 := h1.2.1
  have pP := h1.2.2.2.2.2.2.1
  -- what is owned by a part
  have own : ∀ j, j = 2 ∨ j = 4 ∨ j = 5 ∨ j = 6 ∨ j = 7 → ∀ c, c < gn G → Ow G (b + j) c → ¬ P c := fun j hj c hc ho => by
    have pj := pP j (by omega) (by omega)
    rcases ho with ho | ho
    · rw [ho]; exact k _ (by have := h1.2.2.2.1; omega) (Or.inr (Or.inl pj)) (by omega)
    · refine k c hc ?_ ?_
      · unfold RegE; rcases hj with rfl | rfl | rfl | rfl | rfl <;> omega
      · intro e9
        rw [e9, pP 9 (by decide) (by decide)] at ho
        have := h1.2.2.1
        omega
  have WLe : WL G' b = WL G b := by
    have w7 := p 7 (by decide) (by decide) (by decide)
    obtain ⟨a1, a2, a3, a4, r, a5, a6, a7⟩ := h8.1
    unfold WL
    rw [(w7.2.2.2.1 133).1, (w7.2.2.2.1 132).2, a5, a3]
    rcases a7 with ⟨e, -⟩ | ⟨q1, q2, q3, q4, q5⟩
    · rw [e]; rfl
    · have sr := m.sm a6 (own 7 (by decide) r a6 (Or.inr q3))
      simp only [Option.getD_some, fun i => (sr.2.2.2.2 i).2]
  refine ⟨⟨sh, ?_, ⟨fun c hc => ?_, fun j hj hn => ?_, fun j hj => ?_⟩, ?_, ?_, ?_, ?_, ?_⟩, WLe, cA⟩
  · obtain ⟨c1, c2, c3, c4, c5, c6, c7, c8, c9, c10⟩ := h2
    have f := fun i => (s.2.2.2.1 i).1
    have p10 := p 10 (by decide) (by decide) (by decide)
    have p8 := p 8 (by decide) (by decide) (by decide)
    exact ⟨(f 9).trans c1, (f 10).trans c2, (f 11).trans c3, (f 21).trans c4, (f 22).trans c5, (f 23).trans c6, (f 24).trans c7, (f 25).trans c8, p10.2.1.trans c9, fun i hi => (p8.2.2.2.2 i).1.trans (c10 i hi)⟩
  · obtain ⟨c1, c2⟩ := h3.1 c hc
    have p1 := p 1 (by decide) (by decide) (by decide)
    rw [(p1.2.2.2.2 _).2, cA]
    refine ⟨c1, c2.md m (k _ c2.2.2.1 (Or.inr (Or.inl c2.2.1)) (fun e9 => ?_))⟩
    have := c2.1
    rw [e9, h1.2.2.2.2.2.2.2.2.2.2.2.2.2.2.2.2.2.1] at this
    omega
  · have p1 := p 1 (by decide) (by decide) (by decide)
    rw [(p1.2.2.2.2 _).2]; exact h3.2.1 j hj hn
  · have p10 := p 10 (by decide) (by decide) (by decide)
    rw [(p10.2.2.2.2 _).2, cA]; exact h3.2.2 j hj
  · obtain ⟨n, f, M, hn, hf⟩ := h4
    refine ⟨n, f, M.md m (own 2 (by decide)) (fun k' c hk => hk.md m hp), hn, fun mm i t q1 q2 => ?_⟩
    rw [cA]; exact hf mm i t q1 q2
  · obtain ⟨n, f, M, hn, hf⟩ := h5
    exact ⟨n, f, M.md m (k _ (h1.part 3 (by decide) (by decide)).2 (h1.part 3 (by decide) (by decide)).1 (by omega)) (own 4 (by decide)) hp, hn, hf⟩
  · obtain ⟨n, f, M, hn, hf, hg⟩ := h6
    refine ⟨n, f, M.md m (own 5 (by decide)) (fun k' c hk => hk.md m hp), hn, fun g hg' => ?_, hg⟩
    obtain ⟨a, a1, a2⟩ := hf g hg'
    exact ⟨a, a1, a2.md m hp⟩
  · obtain ⟨gl, g1, g2, g3⟩ := h7
    exact ⟨gl, g1.md m (fun c hc hh => own 6 (by decide) c hc (hh.elim Or.inl (fun z => Or.inr z.1))), g2, fun g hg => (g3 g hg).md m hp⟩
  · obtain ⟨w1, w2, w3⟩ := h8
    unfold WaitE
    rw [WLe]
    exact ⟨w1.md m (fun c hc hh => own 7 (by decide) c hc (hh.elim Or.inl (fun z => Or.inr z.1))), w2, fun w hw => (w3 w hw).md m hp⟩
/-- what belongs to an exchange isn't frozen -/
theorem ShE.fp (h : ShE G e b) : FP G (RegE G e b) := by
  obtain ⟨h1, h2, h3, h4, ⟨h5, h6, h7⟩, h8, h9, h10⟩ := h
  intro c ⟨c1, c2, c3⟩ hr
  have ne : gP G e ≠ e := fun z => by rw [z] at h7; exact h7 z
  have q := fun j j1 j2 => h9 j j1 j2
  rcases hr with hr | hr | hr | hr | hr | hr | hr
  · rw [hr] at c3; exact h7 c3
  · rw [hr] at c3; exact ne c3
  all_goals
    rw [hr, h9 _ (by decide) (by decide)] at c3
    omega
end MDE
